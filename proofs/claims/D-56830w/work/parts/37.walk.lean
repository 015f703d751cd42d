-- QuorumAlmanacModel.failsLeader(IZI)Z
def m_X6_failsLeader (a0 : Nat) (x1 : Int32) (x2 : Int32) (x3 : Int32) : Ms Int32 :=
  bn (ko [15] a0 (m_X6_failsNode a0 x1)) fun r34 =>
  if r34 = 0 then
    gR [15] 128 a0 fun x35 =>
    aR 34 x35 x1 fun x36 =>
    jn (fun (v37 : Int32 × Nat) =>
        bn (ko [15] v37.2 (m_X6_fails v37.2 v37.1)) fun r39 =>
        ck (r39 = 0 ∨ r39 = 1) <|
        rt r39)
      fun j38 =>
      if ¬ x2 = 0 then
        gI [16] 59 x36 fun x40 =>
        jn (fun (v41 : Nat) =>
            j38 (3, v41))
          fun j42 =>
          if x40 = 0 then
            j42 a0
          else
            gI [16] 58 x36 fun x43 =>
            if ¬ x43 = 108 then
              j42 a0
            else
              bn (ko [16] x36 (m_X7_last x36)) fun r44 =>
              if r44 < x3 then
                j38 (0, a0)
              else
                j42 a0
      else
        j38 (2, a0)
  else
    rt 1
theorem hm_X6_failsLeader : (yX6_failsLeader.cls ≠ "java/lang/invoke/MethodHandle" ∧ yX6_failsLeader.cls ≠ "java/lang/invoke/VarHandle" ∧ (parseMethodDescriptor yX6_failsLeader.desc).map (fun d => d.parameters.length) = some 3) := by decide +kernel
set_option maxHeartbeats 4000000 in
set_option maxRecDepth 100000 in
theorem L_X6_failsLeader {G : GT} (hG : GOK G) (a0 : Nat) (x1 : Int32) (x2 : Int32) (x3 : Int32) : Cal G yX6_failsLeader (ws_ yX6_failsLeader cX6_failsLeader 5 (Option.some Jvm.ClassFile.FieldType.boolean)) 4 103 [.ref a0, .int x1, .int x2, .int x3] rI (m_X6_failsLeader a0 x1 x2 x3) := by
  refine Cal_of hG (by decide +kernel) (Nat.le_of_ble_eq_true rfl) (lv0 := [(0, .ref a0), (1, .int x1), (2, .int x2), (3, .int x3)]) rfl (fun X σ0 => ?_)
  delta m_X6_failsLeader
  refine Ex_aload_n dX6_failsLeader_0 rfl 0 rfl ?_
  refine Ex_iload_n dX6_failsLeader_1 rfl 1 rfl ?_
  refine Ex_bnI (Inv_V (L_X6_failsNode hG a0 x1) (lw_V q2109 q2111 qs33 q54 q2112) oe_15 ⟨rfl, hm_X6_failsNode⟩ (by decide) (by decide) dX6_failsLeader_2 rfl (Nat.le_of_ble_eq_true rfl)) (fun r34 => ?_)
  refine Ex_if_eq (tgt := 10) dX6_failsLeader_5 (by decide) ?_ ?_
  · refine Ex_aload_n dX6_failsLeader_10 rfl 0 rfl ?_
    refine Ex_gR dX6_failsLeader_11 lk_X6_15 rfl (fun x35 => ?_)
    refine Ex_iload_n dX6_failsLeader_14 rfl 1 rfl ?_
    refine Ex_aR (j := 4) rfl rfl dX6_failsLeader_15 (fun x36 => ?_)
    refine Ex_astore (lv' := [(0, .ref a0), (1, .int x1), (2, .int x2), (3, .int x3), (4, .ref x36)]) dX6_failsLeader_16 (by decide) [1, 2, 3, 4, 0] rfl ?_
    refine Ex_aload_n dX6_failsLeader_18 rfl 0 rfl ?_
    refine Ex_iload_n dX6_failsLeader_19 rfl 2 rfl ?_
    refine Ex_jn (γ := Int32 × Nat) (pj := 59) (fun v37 => []) (fun v37 => [.int v37.1, .ref v37.2]) (fun v37 => ?_) (fun j38 hj38 => ?_)
    · refine Ex_bnI (Inv_V (L_X6_fails hG v37.2 v37.1) (lw_V q2116 q2118 qs34 q54 q2119) oe_15 ⟨rfl, hm_X6_fails⟩ (by decide) (by decide) dX6_failsLeader_59 rfl (Nat.le_of_ble_eq_true rfl)) (fun r39 => ?_)
      refine Ex_ck (fun hz => ?_)
      exact Ex_zreturn dX6_failsLeader_62 rfl (zok_n hz)
    · refine Ex_if_ne (tgt := 27) dX6_failsLeader_20 (by decide) ?_ ?_
      · refine Ex_aload dX6_failsLeader_27 4 rfl ?_
        refine Ex_gI dX6_failsLeader_29 lk_X6_77 rfl (fun x40 => ?_)
        refine Ex_jn (γ := Nat) (pj := 54) (fun v41 => []) (fun v41 => [.ref v41]) (fun v41 => ?_) (fun j42 hj42 => ?_)
        · refine Ex_iconst (v := 3) dX6_failsLeader_54 (by decide) ?_
          refine Ex_goto (tgt := 59) dX6_failsLeader_55 (by decide) ?_
          exact hj38 (3, v41)
        · refine Ex_if_eq (tgt := 54) dX6_failsLeader_32 (by decide) ?_ ?_
          · refine Ex_lv [] (lv' := []) rfl ?_
            exact hj42 a0
          · refine Ex_aload dX6_failsLeader_35 4 rfl ?_
            refine Ex_gI dX6_failsLeader_37 lk_X6_123 rfl (fun x43 => ?_)
            refine Ex_bipush (v := 108) dX6_failsLeader_40 (by decide) ?_
            refine Ex_icmp_ne (tgt := 54) dX6_failsLeader_42 (by decide) ?_ ?_
            · refine Ex_lv [] (lv' := []) rfl ?_
              exact hj42 a0
            · refine Ex_aload dX6_failsLeader_45 4 rfl ?_
              refine Ex_bnI (Inv_V (L_X7_last hG x36) (lw_V q2390 q2139 q2140 q55 q2141) oe_16 ⟨rfl, hm_X7_last⟩ (by decide) (by decide) dX6_failsLeader_47 rfl (Nat.le_of_ble_eq_true rfl)) (fun r44 => ?_)
              refine Ex_iload_n dX6_failsLeader_50 rfl 3 rfl ?_
              refine Ex_icmp_lt (tgt := 58) dX6_failsLeader_51 (by decide) ?_ ?_
              · refine Ex_iconst (v := 0) dX6_failsLeader_58 (by decide) ?_
                refine Ex_lv [] (lv' := []) rfl ?_
                exact hj38 (0, a0)
              · refine Ex_lv [] (lv' := []) rfl ?_
                exact hj42 a0
      · refine Ex_iconst (v := 2) dX6_failsLeader_23 (by decide) ?_
        refine Ex_goto (tgt := 59) dX6_failsLeader_24 (by decide) ?_
        refine Ex_lv [] (lv' := []) rfl ?_
        exact hj38 (2, a0)
  · refine Ex_iconst (v := 1) dX6_failsLeader_8 (by decide) ?_
    exact Ex_zreturn dX6_failsLeader_9 rfl rfl
-- QuorumAlmanacModel.proposes(ICII)I
def m_X6_proposes (a0 : Nat) (x1 : Int32) (x2 : Int32) (x3 : Int32) (x4 : Int32) : Ms Int32 :=
  gR [15] 128 a0 fun x34 =>
  aR 34 x34 x1 fun x35 =>
  gR [16] 133 x35 fun x36 =>
  nO 20 4 dfl fun a37 =>
  gI [16] 56 x35 fun x38 =>
  bn (m_X17_init a37 x38 x2 x3 x4) fun _ =>
  bn (ko [22] x36 (m_J2_add x36 a37)) fun r39 =>
  bn (ko [16] x35 (m_X7_last x35)) fun r40 =>
  bn (ko [16] x35 (m_X7_beginsRound x35)) fun _ =>
  rt r40
theorem hm_X6_proposes : (yX6_proposes.cls ≠ "java/lang/invoke/MethodHandle" ∧ yX6_proposes.cls ≠ "java/lang/invoke/VarHandle" ∧ (parseMethodDescriptor yX6_proposes.desc).map (fun d => d.parameters.length) = some 4) := by decide +kernel
set_option maxHeartbeats 4000000 in
set_option maxRecDepth 100000 in
theorem L_X6_proposes {G : GT} (hG : GOK G) (a0 : Nat) (x1 : Int32) (x2 : Int32) (x3 : Int32) (x4 : Int32) : Cal G yX6_proposes (ws_ yX6_proposes cX6_proposes 8 (Option.some Jvm.ClassFile.FieldType.int)) 12 285 [.ref a0, .int x1, .int x2, .int x3, .int x4] rI (m_X6_proposes a0 x1 x2 x3 x4) := by
  refine Cal_of hG (by decide +kernel) (Nat.le_of_ble_eq_true rfl) (lv0 := [(0, .ref a0), (1, .int x1), (2, .int x2), (3, .int x3), (4, .int x4)]) rfl (fun X σ0 => ?_)
  delta m_X6_proposes
  refine Ex_aload_n dX6_proposes_0 rfl 0 rfl ?_
  refine Ex_gR dX6_proposes_1 lk_X6_15 rfl (fun x34 => ?_)
  refine Ex_iload_n dX6_proposes_4 rfl 1 rfl ?_
  refine Ex_aR (j := 4) rfl rfl dX6_proposes_5 (fun x35 => ?_)
  refine Ex_astore (lv' := [(0, .ref a0), (1, .int x1), (2, .int x2), (3, .int x3), (4, .int x4), (5, .ref x35)]) dX6_proposes_6 (by decide) [1, 2, 3, 4, 5, 0] rfl ?_
  refine Ex_aload dX6_proposes_8 5 rfl ?_
  refine Ex_gR dX6_proposes_10 lk_X6_205 rfl (fun x36 => ?_)
  refine Ex_nO (ci := 19) (q := qcl 19) dX6_proposes_13 rfl q2516 q2253 q82 (fun a37 => ?_)
  refine Ex_dup rfl dX6_proposes_16 ?_
  refine Ex_aload dX6_proposes_17 5 rfl ?_
  refine Ex_gI dX6_proposes_19 lk_X6_127 rfl (fun x38 => ?_)
  refine Ex_iload_n dX6_proposes_22 rfl 2 rfl ?_
  refine Ex_iload_n dX6_proposes_23 rfl 3 rfl ?_
  refine Ex_iload dX6_proposes_24 4 rfl ?_
  refine Ex_bnU (Inv_I (L_X17_init hG a37 x38 x2 x3 x4) q82 q2517 q2255 q2256 rfl hm_X17_init (by decide) (by decide) dX6_proposes_26 rfl (Nat.le_of_ble_eq_true rfl)) (fun _ => ?_)
  refine Ex_bnI (Inv_V (L_J2_add hG x36 a37) (lw_V q2228 q935 q936 q48 q937) oe_22 ⟨rfl, hm_J2_add⟩ (by decide) (by decide) dX6_proposes_29 rfl (Nat.le_of_ble_eq_true rfl)) (fun r39 => ?_)
  refine Ex_istore (lv' := [(0, .ref a0), (1, .int x1), (2, .int x2), (3, .int x3), (4, .int x4), (5, .ref x35), (6, .int r39)]) dX6_proposes_32 (by decide) [1, 2, 3, 4, 5, 6, 0] rfl ?_
  refine Ex_aload dX6_proposes_34 5 rfl ?_
  refine Ex_bnI (Inv_V (L_X7_last hG x35) (lw_V q2390 q2139 q2140 q55 q2141) oe_16 ⟨rfl, hm_X7_last⟩ (by decide) (by decide) dX6_proposes_36 rfl (Nat.le_of_ble_eq_true rfl)) (fun r40 => ?_)
  refine Ex_istore (lv' := [(0, .ref a0), (1, .int x1), (2, .int x2), (3, .int x3), (4, .int x4), (5, .ref x35), (6, .int r39), (7, .int r40)]) dX6_proposes_39 (by decide) [1, 2, 3, 4, 5, 6, 7, 0] rfl ?_
  refine Ex_aload dX6_proposes_41 5 rfl ?_
  refine Ex_bnU (Inv_V (L_X7_beginsRound hG x35) (lw_V q2518 q2129 q2130 q55 q2131) oe_16 ⟨rfl, hm_X7_beginsRound⟩ (by decide) (by decide) dX6_proposes_43 rfl (Nat.le_of_ble_eq_true rfl)) (fun _ => ?_)
  refine Ex_iload dX6_proposes_46 7 rfl ?_
  exact Ex_ireturn dX6_proposes_48 rfl
-- QuorumAlmanacModel.write(III)I
def m_X6_write (a0 : Nat) (x1 : Int32) (x2 : Int32) (x3 : Int32) : Ms Int32 :=
  bn (m_X6_in x2 0 19) fun r28 =>
  jn (fun (v29 : Int32 × Int32 × Nat) =>
      bn (ko [15] v29.2.2 (m_X6_failsLeader v29.2.2 v29.2.1 v29.1 80)) fun r31 =>
      jn (fun (v32 : Int32) =>
          rt v32)
        fun j33 =>
        if r31 = 0 then
          bn (ko [15] a0 (m_X6_proposes a0 x1 119 x2 x3)) fun r34 =>
          j33 r34
        else
          j33 0)
    fun j30 =>
    jn (fun (v35 : Int32 × Nat) =>
        j30 (0, v35.1, v35.2))
      fun j36 =>
      if r28 = 0 then
        j36 (x1, a0)
      else
        bn (m_X6_in x3 (-999) 999) fun r37 =>
        if r37 = 0 then
          j36 (x1, a0)
        else
          j30 (1, x1, a0)
theorem hm_X6_write : (yX6_write.cls ≠ "java/lang/invoke/MethodHandle" ∧ yX6_write.cls ≠ "java/lang/invoke/VarHandle" ∧ (parseMethodDescriptor yX6_write.desc).map (fun d => d.parameters.length) = some 3) := by decide +kernel
set_option maxHeartbeats 4000000 in
set_option maxRecDepth 100000 in
theorem L_X6_write {G : GT} (hG : GOK G) (a0 : Nat) (x1 : Int32) (x2 : Int32) (x3 : Int32) : Cal G yX6_write (ws_ yX6_write cX6_write 4 (Option.some Jvm.ClassFile.FieldType.int)) 13 312 [.ref a0, .int x1, .int x2, .int x3] rI (m_X6_write a0 x1 x2 x3) := by
  refine Cal_of hG (by decide +kernel) (Nat.le_of_ble_eq_true rfl) (lv0 := [(0, .ref a0), (1, .int x1), (2, .int x2), (3, .int x3)]) rfl (fun X σ0 => ?_)
  delta m_X6_write
  refine Ex_aload_n dX6_write_0 rfl 0 rfl ?_
  refine Ex_iload_n dX6_write_1 rfl 1 rfl ?_
  refine Ex_iload_n dX6_write_2 rfl 2 rfl ?_
  refine Ex_iconst (v := 0) dX6_write_3 (by decide) ?_
  refine Ex_bipush (v := 19) dX6_write_4 (by decide) ?_
  refine Ex_bnI (Inv_S (L_X6_in hG x2 0 19) (lw_S q2113 q2114 q54 q2115) hm_X6_in (by decide) (by decide) dX6_write_6 rfl (Nat.le_of_ble_eq_true rfl)) (fun r28 => ?_)
  refine Ex_jn (γ := Int32 × Int32 × Nat) (pj := 30) (fun v29 => [(0, .ref a0), (1, .int x1), (2, .int x2), (3, .int x3)]) (fun v29 => [.int v29.1, .int v29.2.1, .ref v29.2.2]) (fun v29 => ?_) (fun j30 hj30 => ?_)
  · refine Ex_bipush (v := 80) dX6_write_30 (by decide) ?_
    refine Ex_bnI (Inv_V (L_X6_failsLeader hG v29.2.2 v29.2.1 v29.1 80) (lw_V q2508 q2510 qs41 q54 q2511) oe_15 ⟨rfl, hm_X6_failsLeader⟩ (by decide) (by decide) dX6_write_32 rfl (Nat.le_of_ble_eq_true rfl)) (fun r31 => ?_)
    refine Ex_jn (γ := Int32) (pj := 51) (fun v32 => []) (fun v32 => [.int v32]) (fun v32 => ?_) (fun j33 hj33 => ?_)
    · exact Ex_ireturn dX6_write_51 rfl
    · refine Ex_if_eq (tgt := 42) dX6_write_35 (by decide) ?_ ?_
      · refine Ex_aload_n dX6_write_42 rfl 0 rfl ?_
        refine Ex_iload_n dX6_write_43 rfl 1 rfl ?_
        refine Ex_bipush (v := 119) dX6_write_44 (by decide) ?_
        refine Ex_iload_n dX6_write_46 rfl 2 rfl ?_
        refine Ex_iload_n dX6_write_47 rfl 3 rfl ?_
        refine Ex_bnI (Inv_V (L_X6_proposes hG a0 x1 119 x2 x3) (lw_V q2512 q2514 qs42 q54 q2515) oe_15 ⟨rfl, hm_X6_proposes⟩ (by decide) (by decide) dX6_write_48 rfl (Nat.le_of_ble_eq_true rfl)) (fun r34 => ?_)
        refine Ex_lv [] (lv' := []) rfl ?_
        exact hj33 r34
      · refine Ex_iconst (v := 0) dX6_write_38 (by decide) ?_
        refine Ex_goto (tgt := 51) dX6_write_39 (by decide) ?_
        refine Ex_lv [] (lv' := []) rfl ?_
        exact hj33 0
  · refine Ex_jn (γ := Int32 × Nat) (pj := 29) (fun v35 => [(0, .ref a0), (1, .int x1), (2, .int x2), (3, .int x3)]) (fun v35 => [.int v35.1, .ref v35.2]) (fun v35 => ?_) (fun j36 hj36 => ?_)
    · refine Ex_iconst (v := 0) dX6_write_29 (by decide) ?_
      exact hj30 (0, v35.1, v35.2)
    · refine Ex_if_eq (tgt := 29) dX6_write_9 (by decide) ?_ ?_
      · exact hj36 (x1, a0)
      · refine Ex_iload_n dX6_write_12 rfl 3 rfl ?_
        refine Ex_sipush (v := (-999)) dX6_write_13 (by decide) ?_
        refine Ex_sipush (v := 999) dX6_write_16 (by decide) ?_
        refine Ex_bnI (Inv_S (L_X6_in hG x3 (-999) 999) (lw_S q2113 q2114 q54 q2115) hm_X6_in (by decide) (by decide) dX6_write_19 rfl (Nat.le_of_ble_eq_true rfl)) (fun r37 => ?_)
        refine Ex_if_eq (tgt := 29) dX6_write_22 (by decide) ?_ ?_
        · exact hj36 (x1, a0)
        · refine Ex_iconst (v := 1) dX6_write_25 (by decide) ?_
          refine Ex_goto (tgt := 30) dX6_write_26 (by decide) ?_
          exact hj30 (1, x1, a0)
-- QuorumAlmanacModel.reshape(IIZ)I
def m_X6_reshape (a0 : Nat) (x1 : Int32) (x2 : Int32) (x3 : Int32) : Ms Int32 :=
  bn (m_X6_in x2 1 19) fun r26 =>
  bn (ko [15] a0 (m_X6_failsLeader a0 x1 r26 80)) fun r27 =>
  jn (fun (v28 : Int32) =>
      rt v28)
    fun j29 =>
    if r27 = 0 then
      jn (fun (v30 : Int32 × Int32 × Nat) =>
          bn (ko [15] v30.2.2 (m_X6_proposes v30.2.2 v30.2.1 v30.1 x2 0)) fun r32 =>
          j29 r32)
        fun j31 =>
        if x3 = 0 then
          j31 (109, x1, a0)
        else
          j31 (115, x1, a0)
    else
      j29 0
theorem hm_X6_reshape : (yX6_reshape.cls ≠ "java/lang/invoke/MethodHandle" ∧ yX6_reshape.cls ≠ "java/lang/invoke/VarHandle" ∧ (parseMethodDescriptor yX6_reshape.desc).map (fun d => d.parameters.length) = some 3) := by decide +kernel
set_option maxHeartbeats 4000000 in
set_option maxRecDepth 100000 in
theorem L_X6_reshape {G : GT} (hG : GOK G) (a0 : Nat) (x1 : Int32) (x2 : Int32) (x3 : Int32) : Cal G yX6_reshape (ws_ yX6_reshape cX6_reshape 4 (Option.some Jvm.ClassFile.FieldType.int)) 13 312 [.ref a0, .int x1, .int x2, .int x3] rI (m_X6_reshape a0 x1 x2 x3) := by
  refine Cal_of hG (by decide +kernel) (Nat.le_of_ble_eq_true rfl) (lv0 := [(0, .ref a0), (1, .int x1), (2, .int x2), (3, .int x3)]) rfl (fun X σ0 => ?_)
  delta m_X6_reshape
  refine Ex_aload_n dX6_reshape_0 rfl 0 rfl ?_
  refine Ex_iload_n dX6_reshape_1 rfl 1 rfl ?_
  refine Ex_iload_n dX6_reshape_2 rfl 2 rfl ?_
  refine Ex_iconst (v := 1) dX6_reshape_3 (by decide) ?_
  refine Ex_bipush (v := 19) dX6_reshape_4 (by decide) ?_
  refine Ex_bnI (Inv_S (L_X6_in hG x2 1 19) (lw_S q2113 q2114 q54 q2115) hm_X6_in (by decide) (by decide) dX6_reshape_6 rfl (Nat.le_of_ble_eq_true rfl)) (fun r26 => ?_)
  refine Ex_bipush (v := 80) dX6_reshape_9 (by decide) ?_
  refine Ex_bnI (Inv_V (L_X6_failsLeader hG a0 x1 r26 80) (lw_V q2508 q2510 qs41 q54 q2511) oe_15 ⟨rfl, hm_X6_failsLeader⟩ (by decide) (by decide) dX6_reshape_11 rfl (Nat.le_of_ble_eq_true rfl)) (fun r27 => ?_)
  refine Ex_jn (γ := Int32) (pj := 39) (fun v28 => []) (fun v28 => [.int v28]) (fun v28 => ?_) (fun j29 hj29 => ?_)
  · exact Ex_ireturn dX6_reshape_39 rfl
  · refine Ex_if_eq (tgt := 21) dX6_reshape_14 (by decide) ?_ ?_
    · refine Ex_aload_n dX6_reshape_21 rfl 0 rfl ?_
      refine Ex_iload_n dX6_reshape_22 rfl 1 rfl ?_
      refine Ex_iload_n dX6_reshape_23 rfl 3 rfl ?_
      refine Ex_jn (γ := Int32 × Int32 × Nat) (pj := 34) (fun v30 => [(2, .int x2)]) (fun v30 => [.int v30.1, .int v30.2.1, .ref v30.2.2]) (fun v30 => ?_) (fun j31 hj31 => ?_)
      · refine Ex_iload_n dX6_reshape_34 rfl 0 rfl ?_
        refine Ex_iconst (v := 0) dX6_reshape_35 (by decide) ?_
        refine Ex_bnI (Inv_V (L_X6_proposes hG v30.2.2 v30.2.1 v30.1 x2 0) (lw_V q2512 q2514 qs42 q54 q2515) oe_15 ⟨rfl, hm_X6_proposes⟩ (by decide) (by decide) dX6_reshape_36 rfl (Nat.le_of_ble_eq_true rfl)) (fun r32 => ?_)
        refine Ex_lv [] (lv' := []) rfl ?_
        exact hj29 r32
      · refine Ex_if_eq (tgt := 32) dX6_reshape_24 (by decide) ?_ ?_
        · refine Ex_bipush (v := 109) dX6_reshape_32 (by decide) ?_
          refine Ex_lv [2] (lv' := [(2, .int x2)]) rfl ?_
          exact hj31 (109, x1, a0)
        · refine Ex_bipush (v := 115) dX6_reshape_27 (by decide) ?_
          refine Ex_goto (tgt := 34) dX6_reshape_29 (by decide) ?_
          refine Ex_lv [2] (lv' := [(2, .int x2)]) rfl ?_
          exact hj31 (115, x1, a0)
    · refine Ex_iconst (v := 0) dX6_reshape_17 (by decide) ?_
      refine Ex_goto (tgt := 39) dX6_reshape_18 (by decide) ?_
      refine Ex_lv [] (lv' := []) rfl ?_
      exact hj29 0
-- QuorumAlmanacModel.change(II)I
def m_X6_change (a0 : Nat) (x1 : Int32) (x2 : Int32) : Ms Int32 :=
  bn (m_X6_in x2 1 31) fun r48 =>
  bn (ko [15] a0 (m_X6_failsLeader a0 x1 r48 79)) fun r49 =>
  if r49 = 0 then
    gR [15] 128 a0 fun x50 =>
    aR 34 x50 x1 fun x51 =>
    bn (ko [16] x51 (m_X7_last x51)) fun r52 =>
    bn (ko [16] x51 (m_X7_latestChange x51 r52)) fun r53 =>
    bn (ko [16] x51 (m_X7_last x51)) fun r54 =>
    bn (ko [16] x51 (m_X7_fresh x51 r54)) fun r55 =>
    jn (fun (v56 : Int32) =>
        jn (fun (v58 : Int32 × Nat) =>
            bn (ko [15] v58.2 (m_X6_fails v58.2 v58.1)) fun r60 =>
            jn (fun (v61 : Int32) =>
                rt v61)
              fun j62 =>
              if r60 = 0 then
                bn (ko [16] x51 (m_X7_last x51)) fun r63 =>
                bn (ko [16] x51 (m_X7_old x51 r63)) fun r64 =>
                bn (ko [15] a0 (m_X6_proposes a0 x1 106 r64 x2)) fun r65 =>
                j62 r65
              else
                j62 0)
          fun j59 =>
          if v56 = 0 then
            j59 (4, a0)
          else
            j59 (0, a0))
      fun j57 =>
      jn (fun (v66 : Unit) =>
          j57 0)
        fun j67 =>
        if ¬ r55 = 0 then
          j67 ()
        else
          gI [16] 61 x51 fun x68 =>
          if x68 < r53 then
            j67 ()
          else
            bn (ko [16] x51 (m_X7_hasOwnCommitted x51)) fun r69 =>
            if r69 = 0 then
              j67 ()
            else
              j57 1
  else
    rt 0
theorem hm_X6_change : (yX6_change.cls ≠ "java/lang/invoke/MethodHandle" ∧ yX6_change.cls ≠ "java/lang/invoke/VarHandle" ∧ (parseMethodDescriptor yX6_change.desc).map (fun d => d.parameters.length) = some 2) := by decide +kernel
set_option maxHeartbeats 4000000 in
set_option maxRecDepth 100000 in
theorem L_X6_change {G : GT} (hG : GOK G) (a0 : Nat) (x1 : Int32) (x2 : Int32) : Cal G yX6_change (ws_ yX6_change cX6_change 6 (Option.some Jvm.ClassFile.FieldType.int)) 13 312 [.ref a0, .int x1, .int x2] rI (m_X6_change a0 x1 x2) := by
  refine Cal_of hG (by decide +kernel) (Nat.le_of_ble_eq_true rfl) (lv0 := [(0, .ref a0), (1, .int x1), (2, .int x2)]) rfl (fun X σ0 => ?_)
  delta m_X6_change
  refine Ex_aload_n dX6_change_0 rfl 0 rfl ?_
  refine Ex_iload_n dX6_change_1 rfl 1 rfl ?_
  refine Ex_iload_n dX6_change_2 rfl 2 rfl ?_
  refine Ex_iconst (v := 1) dX6_change_3 (by decide) ?_
  refine Ex_bipush (v := 31) dX6_change_4 (by decide) ?_
  refine Ex_bnI (Inv_S (L_X6_in hG x2 1 31) (lw_S q2113 q2114 q54 q2115) hm_X6_in (by decide) (by decide) dX6_change_6 rfl (Nat.le_of_ble_eq_true rfl)) (fun r48 => ?_)
  refine Ex_bipush (v := 79) dX6_change_9 (by decide) ?_
  refine Ex_bnI (Inv_V (L_X6_failsLeader hG a0 x1 r48 79) (lw_V q2508 q2510 qs41 q54 q2511) oe_15 ⟨rfl, hm_X6_failsLeader⟩ (by decide) (by decide) dX6_change_11 rfl (Nat.le_of_ble_eq_true rfl)) (fun r49 => ?_)
  refine Ex_if_eq (tgt := 19) dX6_change_14 (by decide) ?_ ?_
  · refine Ex_aload_n dX6_change_19 rfl 0 rfl ?_
    refine Ex_gR dX6_change_20 lk_X6_15 rfl (fun x50 => ?_)
    refine Ex_iload_n dX6_change_23 rfl 1 rfl ?_
    refine Ex_aR (j := 4) rfl rfl dX6_change_24 (fun x51 => ?_)
    refine Ex_astore_n (lv' := [(0, .ref a0), (1, .int x1), (2, .int x2), (3, .ref x51)]) dX6_change_25 rfl (by decide) [1, 2, 3, 0] rfl ?_
    refine Ex_aload_n dX6_change_26 rfl 3 rfl ?_
    refine Ex_aload_n dX6_change_27 rfl 3 rfl ?_
    refine Ex_bnI (Inv_V (L_X7_last hG x51) (lw_V q2390 q2139 q2140 q55 q2141) oe_16 ⟨rfl, hm_X7_last⟩ (by decide) (by decide) dX6_change_28 rfl (Nat.le_of_ble_eq_true rfl)) (fun r52 => ?_)
    refine Ex_bnI (Inv_V (L_X7_latestChange hG x51 r52) (lw_V q2527 q2147 q2148 q55 q2149) oe_16 ⟨rfl, hm_X7_latestChange⟩ (by decide) (by decide) dX6_change_31 rfl (Nat.le_of_ble_eq_true rfl)) (fun r53 => ?_)
    refine Ex_istore (lv' := [(0, .ref a0), (1, .int x1), (2, .int x2), (3, .ref x51), (4, .int r53)]) dX6_change_34 (by decide) [1, 2, 3, 4, 0] rfl ?_
    refine Ex_aload_n dX6_change_36 rfl 3 rfl ?_
    refine Ex_aload_n dX6_change_37 rfl 3 rfl ?_
    refine Ex_bnI (Inv_V (L_X7_last hG x51) (lw_V q2390 q2139 q2140 q55 q2141) oe_16 ⟨rfl, hm_X7_last⟩ (by decide) (by decide) dX6_change_38 rfl (Nat.le_of_ble_eq_true rfl)) (fun r54 => ?_)
    refine Ex_bnI (Inv_V (L_X7_fresh hG x51 r54) (lw_V q2528 q2156 q2157 q55 q2158) oe_16 ⟨rfl, hm_X7_fresh⟩ (by decide) (by decide) dX6_change_41 rfl (Nat.le_of_ble_eq_true rfl)) (fun r55 => ?_)
    refine Ex_jn (γ := Int32) (pj := 68) (fun v56 => [(0, .ref a0), (1, .int x1), (2, .int x2), (3, .ref x51)]) (fun v56 => [.int v56]) (fun v56 => ?_) (fun j57 hj57 => ?_)
    · refine Ex_istore (lv' := [(0, .ref a0), (1, .int x1), (2, .int x2), (3, .ref x51), (5, .int v56)]) dX6_change_68 (by decide) [1, 2, 3, 4, 0] rfl ?_
      refine Ex_aload_n dX6_change_70 rfl 0 rfl ?_
      refine Ex_iload dX6_change_71 4 rfl ?_
      refine Ex_jn (γ := Int32 × Nat) (pj := 81) (fun v58 => [(0, .ref a0), (1, .int x1), (2, .int x2), (3, .ref x51)]) (fun v58 => [.int v58.1, .ref v58.2]) (fun v58 => ?_) (fun j59 hj59 => ?_)
      · refine Ex_bnI (Inv_V (L_X6_fails hG v58.2 v58.1) (lw_V q2116 q2118 qs34 q54 q2119) oe_15 ⟨rfl, hm_X6_fails⟩ (by decide) (by decide) dX6_change_81 rfl (Nat.le_of_ble_eq_true rfl)) (fun r60 => ?_)
        refine Ex_jn (γ := Int32) (pj := 107) (fun v61 => []) (fun v61 => [.int v61]) (fun v61 => ?_) (fun j62 hj62 => ?_)
        · exact Ex_ireturn dX6_change_107 rfl
        · refine Ex_if_eq (tgt := 91) dX6_change_84 (by decide) ?_ ?_
          · refine Ex_aload_n dX6_change_91 rfl 0 rfl ?_
            refine Ex_iload_n dX6_change_92 rfl 1 rfl ?_
            refine Ex_bipush (v := 106) dX6_change_93 (by decide) ?_
            refine Ex_aload_n dX6_change_95 rfl 3 rfl ?_
            refine Ex_aload_n dX6_change_96 rfl 3 rfl ?_
            refine Ex_bnI (Inv_V (L_X7_last hG x51) (lw_V q2390 q2139 q2140 q55 q2141) oe_16 ⟨rfl, hm_X7_last⟩ (by decide) (by decide) dX6_change_97 rfl (Nat.le_of_ble_eq_true rfl)) (fun r63 => ?_)
            refine Ex_bnI (Inv_V (L_X7_old hG x51 r63) (lw_V q2530 q2143 q2144 q55 q2145) oe_16 ⟨rfl, hm_X7_old⟩ (by decide) (by decide) dX6_change_100 rfl (Nat.le_of_ble_eq_true rfl)) (fun r64 => ?_)
            refine Ex_iload_n dX6_change_103 rfl 2 rfl ?_
            refine Ex_bnI (Inv_V (L_X6_proposes hG a0 x1 106 r64 x2) (lw_V q2512 q2514 qs42 q54 q2515) oe_15 ⟨rfl, hm_X6_proposes⟩ (by decide) (by decide) dX6_change_104 rfl (Nat.le_of_ble_eq_true rfl)) (fun r65 => ?_)
            refine Ex_lv [] (lv' := []) rfl ?_
            exact hj62 r65
          · refine Ex_iconst (v := 0) dX6_change_87 (by decide) ?_
            refine Ex_goto (tgt := 107) dX6_change_88 (by decide) ?_
            refine Ex_lv [] (lv' := []) rfl ?_
            exact hj62 0
      · refine Ex_if_eq (tgt := 80) dX6_change_73 (by decide) ?_ ?_
        · refine Ex_iconst (v := 4) dX6_change_80 (by decide) ?_
          refine Ex_lv [0, 1, 2, 3] (lv' := [(0, .ref a0), (1, .int x1), (2, .int x2), (3, .ref x51)]) rfl ?_
          exact hj59 (4, a0)
        · refine Ex_iconst (v := 0) dX6_change_76 (by decide) ?_
          refine Ex_goto (tgt := 81) dX6_change_77 (by decide) ?_
          refine Ex_lv [0, 1, 2, 3] (lv' := [(0, .ref a0), (1, .int x1), (2, .int x2), (3, .ref x51)]) rfl ?_
          exact hj59 (0, a0)
    · refine Ex_jn (γ := Unit) (pj := 67) (fun v66 => [(0, .ref a0), (1, .int x1), (2, .int x2), (3, .ref x51)]) (fun v66 => []) (fun v66 => ?_) (fun j67 hj67 => ?_)
      · refine Ex_iconst (v := 0) dX6_change_67 (by decide) ?_
        exact hj57 0
      · refine Ex_if_ne (tgt := 67) dX6_change_44 (by decide) ?_ ?_
        · refine Ex_lv [0, 1, 2, 3] (lv' := [(0, .ref a0), (1, .int x1), (2, .int x2), (3, .ref x51)]) rfl ?_
          exact hj67 ()
        · refine Ex_iload dX6_change_47 4 rfl ?_
          refine Ex_aload_n dX6_change_49 rfl 3 rfl ?_
          refine Ex_gI dX6_change_50 lk_X6_108 rfl (fun x68 => ?_)
          refine Ex_icmp_gt (tgt := 67) dX6_change_53 (by decide) ?_ ?_
          · refine Ex_lv [0, 1, 2, 3] (lv' := [(0, .ref a0), (1, .int x1), (2, .int x2), (3, .ref x51)]) rfl ?_
            exact hj67 ()
          · refine Ex_aload_n dX6_change_56 rfl 3 rfl ?_
            refine Ex_bnI (Inv_V (L_X7_hasOwnCommitted hG x51) (lw_V q2529 q2470 q2471 q55 q2472) oe_16 ⟨rfl, hm_X7_hasOwnCommitted⟩ (by decide) (by decide) dX6_change_57 rfl (Nat.le_of_ble_eq_true rfl)) (fun r69 => ?_)
            refine Ex_if_eq (tgt := 67) dX6_change_60 (by decide) ?_ ?_
            · refine Ex_lv [0, 1, 2, 3] (lv' := [(0, .ref a0), (1, .int x1), (2, .int x2), (3, .ref x51)]) rfl ?_
              exact hj67 ()
            · refine Ex_iconst (v := 1) dX6_change_63 (by decide) ?_
              refine Ex_goto (tgt := 68) dX6_change_64 (by decide) ?_
              refine Ex_lv [0, 1, 2, 3] (lv' := [(0, .ref a0), (1, .int x1), (2, .int x2), (3, .ref x51)]) rfl ?_
              exact hj57 1
  · refine Ex_iconst (v := 0) dX6_change_17 (by decide) ?_
    exact Ex_ireturn dX6_change_18 rfl
-- QuorumAlmanacModel.hasLease(I)Z
def m_X6_hasLease (a0 : Nat) (x1 : Int32) : Ms Int32 :=
  bn (ko [15] a0 (m_X6_failsNode a0 x1)) fun r34 =>
  jn (fun (v35 : Int32) =>
      ck (v35 = 0 ∨ v35 = 1) <|
      rt v35)
    fun j36 =>
    jn (fun (v37 : Unit) =>
        j36 0)
      fun j38 =>
      if ¬ r34 = 0 then
        j38 ()
      else
        gR [15] 128 a0 fun x39 =>
        aR 34 x39 x1 fun x40 =>
        gI [16] 59 x40 fun x41 =>
        if x41 = 0 then
          j38 ()
        else
          gR [15] 128 a0 fun x42 =>
          aR 34 x42 x1 fun x43 =>
          bn (ko [16] x43 (m_X7_hasLease x43)) fun r44 =>
          if r44 = 0 then
            j38 ()
          else
            j36 1
theorem hm_X6_hasLease : (yX6_hasLease.cls ≠ "java/lang/invoke/MethodHandle" ∧ yX6_hasLease.cls ≠ "java/lang/invoke/VarHandle" ∧ (parseMethodDescriptor yX6_hasLease.desc).map (fun d => d.parameters.length) = some 1) := by decide +kernel
set_option maxHeartbeats 4000000 in
set_option maxRecDepth 100000 in
theorem L_X6_hasLease {G : GT} (hG : GOK G) (a0 : Nat) (x1 : Int32) : Cal G yX6_hasLease (ws_ yX6_hasLease cX6_hasLease 2 (Option.some Jvm.ClassFile.FieldType.boolean)) 11 257 [.ref a0, .int x1] rI (m_X6_hasLease a0 x1) := by
  refine Cal_of hG (by decide +kernel) (Nat.le_of_ble_eq_true rfl) (lv0 := [(0, .ref a0), (1, .int x1)]) rfl (fun X σ0 => ?_)
  delta m_X6_hasLease
  refine Ex_aload_n dX6_hasLease_0 rfl 0 rfl ?_
  refine Ex_iload_n dX6_hasLease_1 rfl 1 rfl ?_
  refine Ex_bnI (Inv_V (L_X6_failsNode hG a0 x1) (lw_V q2109 q2111 qs33 q54 q2112) oe_15 ⟨rfl, hm_X6_failsNode⟩ (by decide) (by decide) dX6_hasLease_2 rfl (Nat.le_of_ble_eq_true rfl)) (fun r34 => ?_)
  refine Ex_jn (γ := Int32) (pj := 37) (fun v35 => []) (fun v35 => [.int v35]) (fun v35 => ?_) (fun j36 hj36 => ?_)
  · refine Ex_ck (fun hz => ?_)
    exact Ex_zreturn dX6_hasLease_37 rfl (zok_n hz)
  · refine Ex_jn (γ := Unit) (pj := 36) (fun v37 => []) (fun v37 => []) (fun v37 => ?_) (fun j38 hj38 => ?_)
    · refine Ex_iconst (v := 0) dX6_hasLease_36 (by decide) ?_
      exact hj36 0
    · refine Ex_if_ne (tgt := 36) dX6_hasLease_5 (by decide) ?_ ?_
      · refine Ex_lv [] (lv' := []) rfl ?_
        exact hj38 ()
      · refine Ex_aload_n dX6_hasLease_8 rfl 0 rfl ?_
        refine Ex_gR dX6_hasLease_9 lk_X6_15 rfl (fun x39 => ?_)
        refine Ex_iload_n dX6_hasLease_12 rfl 1 rfl ?_
        refine Ex_aR (j := 4) rfl rfl dX6_hasLease_13 (fun x40 => ?_)
        refine Ex_gI dX6_hasLease_14 lk_X6_77 rfl (fun x41 => ?_)
        refine Ex_if_eq (tgt := 36) dX6_hasLease_17 (by decide) ?_ ?_
        · refine Ex_lv [] (lv' := []) rfl ?_
          exact hj38 ()
        · refine Ex_aload_n dX6_hasLease_20 rfl 0 rfl ?_
          refine Ex_gR dX6_hasLease_21 lk_X6_15 rfl (fun x42 => ?_)
          refine Ex_iload_n dX6_hasLease_24 rfl 1 rfl ?_
          refine Ex_aR (j := 4) rfl rfl dX6_hasLease_25 (fun x43 => ?_)
          refine Ex_bnI (Inv_V (L_X7_hasLease hG x43) (lw_V q2535 q2466 q2467 q55 q2468) oe_16 ⟨rfl, hm_X7_hasLease⟩ (by decide) (by decide) dX6_hasLease_26 rfl (Nat.le_of_ble_eq_true rfl)) (fun r44 => ?_)
          refine Ex_if_eq (tgt := 36) dX6_hasLease_29 (by decide) ?_ ?_
          · refine Ex_lv [] (lv' := []) rfl ?_
            exact hj38 ()
          · refine Ex_iconst (v := 1) dX6_hasLease_32 (by decide) ?_
            refine Ex_goto (tgt := 37) dX6_hasLease_33 (by decide) ?_
            refine Ex_lv [] (lv' := []) rfl ?_
            exact hj36 1
-- QuorumAlmanacModel.readByLease(II)I
def m_X6_readByLease (a0 : Nat) (x1 : Int32) (x2 : Int32) : Ms Int32 :=
  bn (ko [15] a0 (m_X6_failsNode a0 x1)) fun r48 =>
  if r48 = 0 then
    bn (m_X6_in x2 0 19) fun r49 =>
    jn (fun (v50 : Int32 × Nat) =>
        bn (ko [15] v50.2 (m_X6_fails v50.2 v50.1)) fun r52 =>
        jn (fun (v53 : Int32) =>
            rt v53)
          fun j54 =>
          if r52 = 0 then
            gR [15] 128 a0 fun x55 =>
            aR 34 x55 x1 fun x56 =>
            gR [16] 134 x56 fun x57 =>
            gR [18] 141 x57 fun x58 =>
            aI 30 x58 x2 fun x59 =>
            j54 x59
          else
            j54 0)
      fun j51 =>
      if ¬ r49 = 0 then
        gR [15] 128 a0 fun x60 =>
        aR 34 x60 x1 fun x61 =>
        gI [16] 59 x61 fun x62 =>
        jn (fun (v63 : Nat) =>
            j51 (3, v63))
          fun j64 =>
          if x62 = 0 then
            j64 a0
          else
            gR [15] 128 a0 fun x65 =>
            aR 34 x65 x1 fun x66 =>
            bn (ko [16] x66 (m_X7_hasLease x66)) fun r67 =>
            if ¬ r67 = 0 then
              j51 (0, a0)
            else
              j64 a0
      else
        j51 (2, a0)
  else
    rt 0
theorem hm_X6_readByLease : (yX6_readByLease.cls ≠ "java/lang/invoke/MethodHandle" ∧ yX6_readByLease.cls ≠ "java/lang/invoke/VarHandle" ∧ (parseMethodDescriptor yX6_readByLease.desc).map (fun d => d.parameters.length) = some 2) := by decide +kernel
set_option maxHeartbeats 4000000 in
set_option maxRecDepth 100000 in
theorem L_X6_readByLease {G : GT} (hG : GOK G) (a0 : Nat) (x1 : Int32) (x2 : Int32) : Cal G yX6_readByLease (ws_ yX6_readByLease cX6_readByLease 3 (Option.some Jvm.ClassFile.FieldType.int)) 11 257 [.ref a0, .int x1, .int x2] rI (m_X6_readByLease a0 x1 x2) := by
  refine Cal_of hG (by decide +kernel) (Nat.le_of_ble_eq_true rfl) (lv0 := [(0, .ref a0), (1, .int x1), (2, .int x2)]) rfl (fun X σ0 => ?_)
  delta m_X6_readByLease
  refine Ex_aload_n dX6_readByLease_0 rfl 0 rfl ?_
  refine Ex_iload_n dX6_readByLease_1 rfl 1 rfl ?_
  refine Ex_bnI (Inv_V (L_X6_failsNode hG a0 x1) (lw_V q2109 q2111 qs33 q54 q2112) oe_15 ⟨rfl, hm_X6_failsNode⟩ (by decide) (by decide) dX6_readByLease_2 rfl (Nat.le_of_ble_eq_true rfl)) (fun r48 => ?_)
  refine Ex_if_eq (tgt := 10) dX6_readByLease_5 (by decide) ?_ ?_
  · refine Ex_aload_n dX6_readByLease_10 rfl 0 rfl ?_
    refine Ex_iload_n dX6_readByLease_11 rfl 2 rfl ?_
    refine Ex_iconst (v := 0) dX6_readByLease_12 (by decide) ?_
    refine Ex_bipush (v := 19) dX6_readByLease_13 (by decide) ?_
    refine Ex_bnI (Inv_S (L_X6_in hG x2 0 19) (lw_S q2113 q2114 q54 q2115) hm_X6_in (by decide) (by decide) dX6_readByLease_15 rfl (Nat.le_of_ble_eq_true rfl)) (fun r49 => ?_)
    refine Ex_jn (γ := Int32 × Nat) (pj := 54) (fun v50 => [(0, .ref a0), (1, .int x1), (2, .int x2)]) (fun v50 => [.int v50.1, .ref v50.2]) (fun v50 => ?_) (fun j51 hj51 => ?_)
    · refine Ex_bnI (Inv_V (L_X6_fails hG v50.2 v50.1) (lw_V q2116 q2118 qs34 q54 q2119) oe_15 ⟨rfl, hm_X6_fails⟩ (by decide) (by decide) dX6_readByLease_54 rfl (Nat.le_of_ble_eq_true rfl)) (fun r52 => ?_)
      refine Ex_jn (γ := Int32) (pj := 78) (fun v53 => []) (fun v53 => [.int v53]) (fun v53 => ?_) (fun j54 hj54 => ?_)
      · exact Ex_ireturn dX6_readByLease_78 rfl
      · refine Ex_if_eq (tgt := 64) dX6_readByLease_57 (by decide) ?_ ?_
        · refine Ex_aload_n dX6_readByLease_64 rfl 0 rfl ?_
          refine Ex_gR dX6_readByLease_65 lk_X6_15 rfl (fun x55 => ?_)
          refine Ex_iload_n dX6_readByLease_68 rfl 1 rfl ?_
          refine Ex_aR (j := 4) rfl rfl dX6_readByLease_69 (fun x56 => ?_)
          refine Ex_gR dX6_readByLease_70 lk_X6_235 rfl (fun x57 => ?_)
          refine Ex_gR dX6_readByLease_73 lk_X6_239 rfl (fun x58 => ?_)
          refine Ex_iload_n dX6_readByLease_76 rfl 2 rfl ?_
          refine Ex_aI_i dX6_readByLease_77 (fun x59 => ?_)
          refine Ex_lv [] (lv' := []) rfl ?_
          exact hj54 x59
        · refine Ex_iconst (v := 0) dX6_readByLease_60 (by decide) ?_
          refine Ex_goto (tgt := 78) dX6_readByLease_61 (by decide) ?_
          refine Ex_lv [] (lv' := []) rfl ?_
          exact hj54 0
    · refine Ex_if_ne (tgt := 25) dX6_readByLease_18 (by decide) ?_ ?_
      · refine Ex_aload_n dX6_readByLease_25 rfl 0 rfl ?_
        refine Ex_gR dX6_readByLease_26 lk_X6_15 rfl (fun x60 => ?_)
        refine Ex_iload_n dX6_readByLease_29 rfl 1 rfl ?_
        refine Ex_aR (j := 4) rfl rfl dX6_readByLease_30 (fun x61 => ?_)
        refine Ex_gI dX6_readByLease_31 lk_X6_77 rfl (fun x62 => ?_)
        refine Ex_jn (γ := Nat) (pj := 49) (fun v63 => [(0, .ref a0), (1, .int x1), (2, .int x2)]) (fun v63 => [.ref v63]) (fun v63 => ?_) (fun j64 hj64 => ?_)
        · refine Ex_iconst (v := 3) dX6_readByLease_49 (by decide) ?_
          refine Ex_goto (tgt := 54) dX6_readByLease_50 (by decide) ?_
          exact hj51 (3, v63)
        · refine Ex_if_eq (tgt := 49) dX6_readByLease_34 (by decide) ?_ ?_
          · exact hj64 a0
          · refine Ex_aload_n dX6_readByLease_37 rfl 0 rfl ?_
            refine Ex_gR dX6_readByLease_38 lk_X6_15 rfl (fun x65 => ?_)
            refine Ex_iload_n dX6_readByLease_41 rfl 1 rfl ?_
            refine Ex_aR (j := 4) rfl rfl dX6_readByLease_42 (fun x66 => ?_)
            refine Ex_bnI (Inv_V (L_X7_hasLease hG x66) (lw_V q2535 q2466 q2467 q55 q2468) oe_16 ⟨rfl, hm_X7_hasLease⟩ (by decide) (by decide) dX6_readByLease_43 rfl (Nat.le_of_ble_eq_true rfl)) (fun r67 => ?_)
            refine Ex_if_ne (tgt := 53) dX6_readByLease_46 (by decide) ?_ ?_
            · refine Ex_iconst (v := 0) dX6_readByLease_53 (by decide) ?_
              exact hj51 (0, a0)
            · exact hj64 a0
      · refine Ex_iconst (v := 2) dX6_readByLease_21 (by decide) ?_
        refine Ex_goto (tgt := 54) dX6_readByLease_22 (by decide) ?_
        exact hj51 (2, a0)
  · refine Ex_iconst (v := 0) dX6_readByLease_8 (by decide) ?_
    exact Ex_ireturn dX6_readByLease_9 rfl
-- QuorumAlmanacModel.askRead(II)I
def m_X6_askRead (a0 : Nat) (x1 : Int32) (x2 : Int32) : Ms Int32 :=
  bn (ko [15] a0 (m_X6_failsNode a0 x1)) fun r62 =>
  if r62 = 0 then
    gR [15] 128 a0 fun x63 =>
    aR 34 x63 x1 fun x64 =>
    gR [15] 130 a0 fun x65 =>
    bn (ko [22] x65 (m_J2_iterator x65)) fun r66 =>
    lp (fun j68 (v67 : Int32) =>
        bn (ko [23] r66 (m_J17_hasNext r66)) fun r69 =>
        if r69 = 0 then
          gI [16] 59 x64 fun x70 =>
          jn (fun (v71 : Int32) =>
              bn (m_X6_in x2 0 19) fun r73 =>
              jn (fun (v74 : Int32 × Nat) =>
                  bn (ko [15] v74.2 (m_X6_fails v74.2 v74.1)) fun r76 =>
                  if r76 = 0 then
                    bn (ko [16] x64 (m_X7_beginsRound x64)) fun _ =>
                    gR [15] 130 a0 fun x77 =>
                    nO 21 6 dfl fun a78 =>
                    gI [16] 56 x64 fun x79 =>
                    gR [16] 138 x64 fun x80 =>
                    bn (ko [22] x80 (m_J2_size x80)) fun r81 =>
                    bn (m_X22_init a78 x1 x79 x2 r81) fun _ =>
                    bn (ko [22] x77 (m_J2_add x77 a78)) fun r82 =>
                    bn (ko [16] x64 (m_X7_looksAtReads x64)) fun _ =>
                    gR [15] 130 a0 fun x83 =>
                    bn (ko [22] x83 (m_J2_size x83)) fun r84 =>
                    rt (r84 - 1)
                  else
                    rt 0)
                fun j75 =>
                if ¬ r73 = 0 then
                  if v71 = 0 then
                    j75 (3, a0)
                  else
                    j75 (0, a0)
                else
                  j75 (2, a0))
            fun j72 =>
            jn (fun (v85 : Unit) =>
                j72 0)
              fun j86 =>
              if x70 = 0 then
                j86 ()
              else
                gI [16] 58 x64 fun x87 =>
                if ¬ x87 = 108 then
                  j86 ()
                else
                  bn (ko [16] x64 (m_X7_hasOwnCommitted x64)) fun r88 =>
                  if r88 = 0 then
                    j86 ()
                  else
                    if 12 ≤ v67 then
                      j86 ()
                    else
                      j72 1
        else
          bn (ko [23] r66 (m_J17_next r66)) fun r89 =>
          ko [21] r89 <|
          gI [21] 90 r89 fun x90 =>
          jn (fun (v91 : Int32 × Int32) =>
              j68 (v91.2 + v91.1))
            fun j92 =>
            if ¬ x90 = 119 then
              j92 (0, v67)
            else
              j92 (1, v67))
      0
  else
    rt 0
theorem hm_X6_askRead : (yX6_askRead.cls ≠ "java/lang/invoke/MethodHandle" ∧ yX6_askRead.cls ≠ "java/lang/invoke/VarHandle" ∧ (parseMethodDescriptor yX6_askRead.desc).map (fun d => d.parameters.length) = some 2) := by decide +kernel
set_option maxHeartbeats 4000000 in
set_option maxRecDepth 100000 in
theorem L_X6_askRead {G : GT} (hG : GOK G) (a0 : Nat) (x1 : Int32) (x2 : Int32) : Cal G yX6_askRead (ws_ yX6_askRead cX6_askRead 7 (Option.some Jvm.ClassFile.FieldType.int)) 12 285 [.ref a0, .int x1, .int x2] rI (m_X6_askRead a0 x1 x2) := by
  refine Cal_of hG (by decide +kernel) (Nat.le_of_ble_eq_true rfl) (lv0 := [(0, .ref a0), (1, .int x1), (2, .int x2)]) rfl (fun X σ0 => ?_)
  delta m_X6_askRead
  refine Ex_aload_n dX6_askRead_0 rfl 0 rfl ?_
  refine Ex_iload_n dX6_askRead_1 rfl 1 rfl ?_
  refine Ex_bnI (Inv_V (L_X6_failsNode hG a0 x1) (lw_V q2109 q2111 qs33 q54 q2112) oe_15 ⟨rfl, hm_X6_failsNode⟩ (by decide) (by decide) dX6_askRead_2 rfl (Nat.le_of_ble_eq_true rfl)) (fun r62 => ?_)
  refine Ex_if_eq (tgt := 10) dX6_askRead_5 (by decide) ?_ ?_
  · refine Ex_aload_n dX6_askRead_10 rfl 0 rfl ?_
    refine Ex_gR dX6_askRead_11 lk_X6_15 rfl (fun x63 => ?_)
    refine Ex_iload_n dX6_askRead_14 rfl 1 rfl ?_
    refine Ex_aR (j := 4) rfl rfl dX6_askRead_15 (fun x64 => ?_)
    refine Ex_astore_n (lv' := [(0, .ref a0), (1, .int x1), (2, .int x2), (3, .ref x64)]) dX6_askRead_16 rfl (by decide) [1, 2, 3, 0] rfl ?_
    refine Ex_iconst (v := 0) dX6_askRead_17 (by decide) ?_
    refine Ex_istore (lv' := [(0, .ref a0), (1, .int x1), (2, .int x2), (3, .ref x64), (4, .int 0)]) dX6_askRead_18 (by decide) [1, 2, 3, 4, 0] rfl ?_
    refine Ex_aload_n dX6_askRead_20 rfl 0 rfl ?_
    refine Ex_gR dX6_askRead_21 lk_X6_26 rfl (fun x65 => ?_)
    refine Ex_bnR (Inv_V (L_J2_iterator hG x65) (lw_V q2443 q1149 q1150 q48 q1151) oe_22 ⟨rfl, hm_J2_iterator⟩ (by decide) (by decide) dX6_askRead_24 rfl (Nat.le_of_ble_eq_true rfl)) (fun r66 => ?_)
    refine Ex_astore (lv' := [(0, .ref a0), (1, .int x1), (2, .int x2), (3, .ref x64), (4, .int 0), (5, .ref r66)]) dX6_askRead_27 (by decide) [1, 2, 3, 4, 5, 0] rfl ?_
    refine Ex_lp (γ := Int32) (pj := 29) (fun v67 => [(0, .ref a0), (1, .int x1), (2, .int x2), (3, .ref x64), (4, .int v67), (5, .ref r66)]) (fun v67 => []) (fun j68 hj68 v67 => ?_) 0 rfl rfl
    refine Ex_aload dX6_askRead_29 5 rfl ?_
    refine Ex_bnI (Inv_F (L_J17_hasNext hG r66) (lw_F q2445 q1176 q1178 q77 q1180) q1174 q1173 q1179 q1177 q1175 oe_23 hx_Iterator_hasNext (by decide) (by decide) dX6_askRead_31 rfl (Nat.le_of_ble_eq_true rfl)) (fun r69 => ?_)
    refine Ex_if_eq (tgt := 74) dX6_askRead_36 (by decide) ?_ ?_
    · refine Ex_aload_n dX6_askRead_74 rfl 3 rfl ?_
      refine Ex_gI dX6_askRead_75 lk_X6_77 rfl (fun x70 => ?_)
      refine Ex_jn (γ := Int32) (pj := 109) (fun v71 => [(0, .ref a0), (1, .int x1), (2, .int x2), (3, .ref x64)]) (fun v71 => [.int v71]) (fun v71 => ?_) (fun j72 hj72 => ?_)
      · refine Ex_istore (lv' := [(0, .ref a0), (1, .int x1), (2, .int x2), (3, .ref x64), (5, .int v71)]) dX6_askRead_109 (by decide) [1, 2, 3, 4, 0] rfl ?_
        refine Ex_aload_n dX6_askRead_111 rfl 0 rfl ?_
        refine Ex_iload_n dX6_askRead_112 rfl 2 rfl ?_
        refine Ex_iconst (v := 0) dX6_askRead_113 (by decide) ?_
        refine Ex_bipush (v := 19) dX6_askRead_114 (by decide) ?_
        refine Ex_bnI (Inv_S (L_X6_in hG x2 0 19) (lw_S q2113 q2114 q54 q2115) hm_X6_in (by decide) (by decide) dX6_askRead_116 rfl (Nat.le_of_ble_eq_true rfl)) (fun r73 => ?_)
        refine Ex_jn (γ := Int32 × Nat) (pj := 136) (fun v74 => [(0, .ref a0), (1, .int x1), (2, .int x2), (3, .ref x64)]) (fun v74 => [.int v74.1, .ref v74.2]) (fun v74 => ?_) (fun j75 hj75 => ?_)
        · refine Ex_bnI (Inv_V (L_X6_fails hG v74.2 v74.1) (lw_V q2116 q2118 qs34 q54 q2119) oe_15 ⟨rfl, hm_X6_fails⟩ (by decide) (by decide) dX6_askRead_136 rfl (Nat.le_of_ble_eq_true rfl)) (fun r76 => ?_)
          refine Ex_if_eq (tgt := 144) dX6_askRead_139 (by decide) ?_ ?_
          · refine Ex_aload_n dX6_askRead_144 rfl 3 rfl ?_
            refine Ex_bnU (Inv_V (L_X7_beginsRound hG x64) (lw_V q2518 q2129 q2130 q55 q2131) oe_16 ⟨rfl, hm_X7_beginsRound⟩ (by decide) (by decide) dX6_askRead_145 rfl (Nat.le_of_ble_eq_true rfl)) (fun _ => ?_)
            refine Ex_aload_n dX6_askRead_148 rfl 0 rfl ?_
            refine Ex_gR dX6_askRead_149 lk_X6_26 rfl (fun x77 => ?_)
            refine Ex_nO (ci := 20) (q := qcl 20) dX6_askRead_152 rfl q2544 q2545 q89 (fun a78 => ?_)
            refine Ex_dup rfl dX6_askRead_155 ?_
            refine Ex_iload_n dX6_askRead_156 rfl 1 rfl ?_
            refine Ex_aload_n dX6_askRead_157 rfl 3 rfl ?_
            refine Ex_gI dX6_askRead_158 lk_X6_127 rfl (fun x79 => ?_)
            refine Ex_iload_n dX6_askRead_161 rfl 2 rfl ?_
            refine Ex_aload_n dX6_askRead_162 rfl 3 rfl ?_
            refine Ex_gR dX6_askRead_163 lk_X6_250 rfl (fun x80 => ?_)
            refine Ex_bnI (Inv_V (L_J2_size hG x80) (lw_V q2229 q112 q113 q48 q114) oe_22 ⟨rfl, hm_J2_size⟩ (by decide) (by decide) dX6_askRead_166 rfl (Nat.le_of_ble_eq_true rfl)) (fun r81 => ?_)
            refine Ex_bnU (Inv_I (L_X22_init hG a78 x1 x79 x2 r81) q89 q2546 q2547 q2548 rfl hm_X22_init (by decide) (by decide) dX6_askRead_169 rfl (Nat.le_of_ble_eq_true rfl)) (fun _ => ?_)
            refine Ex_bnI (Inv_V (L_J2_add hG x77 a78) (lw_V q2228 q935 q936 q48 q937) oe_22 ⟨rfl, hm_J2_add⟩ (by decide) (by decide) dX6_askRead_172 rfl (Nat.le_of_ble_eq_true rfl)) (fun r82 => ?_)
            refine Ex_istore (lv' := [(0, .ref a0), (1, .int x1), (2, .int x2), (3, .ref x64), (6, .int r82)]) dX6_askRead_175 (by decide) [1, 2, 3, 4, 0] rfl ?_
            refine Ex_aload_n dX6_askRead_177 rfl 3 rfl ?_
            refine Ex_bnU (Inv_V (L_X7_looksAtReads hG x64) (lw_V q2575 q2326 q2327 q55 q2328) oe_16 ⟨rfl, hm_X7_looksAtReads⟩ (by decide) (by decide) dX6_askRead_178 rfl (Nat.le_of_ble_eq_true rfl)) (fun _ => ?_)
            refine Ex_aload_n dX6_askRead_181 rfl 0 rfl ?_
            refine Ex_gR dX6_askRead_182 lk_X6_26 rfl (fun x83 => ?_)
            refine Ex_bnI (Inv_V (L_J2_size hG x83) (lw_V q2229 q112 q113 q48 q114) oe_22 ⟨rfl, hm_J2_size⟩ (by decide) (by decide) dX6_askRead_185 rfl (Nat.le_of_ble_eq_true rfl)) (fun r84 => ?_)
            refine Ex_iconst (v := 1) dX6_askRead_188 (by decide) ?_
            refine Ex_isub dX6_askRead_189 ?_
            exact Ex_ireturn dX6_askRead_190 rfl
          · refine Ex_iconst (v := 0) dX6_askRead_142 (by decide) ?_
            exact Ex_ireturn dX6_askRead_143 rfl
        · refine Ex_if_ne (tgt := 126) dX6_askRead_119 (by decide) ?_ ?_
          · refine Ex_iload dX6_askRead_126 4 rfl ?_
            refine Ex_if_eq (tgt := 135) dX6_askRead_128 (by decide) ?_ ?_
            · refine Ex_iconst (v := 3) dX6_askRead_135 (by decide) ?_
              refine Ex_lv [0, 1, 2, 3] (lv' := [(0, .ref a0), (1, .int x1), (2, .int x2), (3, .ref x64)]) rfl ?_
              exact hj75 (3, a0)
            · refine Ex_iconst (v := 0) dX6_askRead_131 (by decide) ?_
              refine Ex_goto (tgt := 136) dX6_askRead_132 (by decide) ?_
              refine Ex_lv [0, 1, 2, 3] (lv' := [(0, .ref a0), (1, .int x1), (2, .int x2), (3, .ref x64)]) rfl ?_
              exact hj75 (0, a0)
          · refine Ex_iconst (v := 2) dX6_askRead_122 (by decide) ?_
            refine Ex_goto (tgt := 136) dX6_askRead_123 (by decide) ?_
            refine Ex_lv [0, 1, 2, 3] (lv' := [(0, .ref a0), (1, .int x1), (2, .int x2), (3, .ref x64)]) rfl ?_
            exact hj75 (2, a0)
      · refine Ex_jn (γ := Unit) (pj := 108) (fun v85 => [(0, .ref a0), (1, .int x1), (2, .int x2), (3, .ref x64)]) (fun v85 => []) (fun v85 => ?_) (fun j86 hj86 => ?_)
        · refine Ex_iconst (v := 0) dX6_askRead_108 (by decide) ?_
          exact hj72 0
        · refine Ex_if_eq (tgt := 108) dX6_askRead_78 (by decide) ?_ ?_
          · refine Ex_lv [0, 1, 2, 3] (lv' := [(0, .ref a0), (1, .int x1), (2, .int x2), (3, .ref x64)]) rfl ?_
            exact hj86 ()
          · refine Ex_aload_n dX6_askRead_81 rfl 3 rfl ?_
            refine Ex_gI dX6_askRead_82 lk_X6_123 rfl (fun x87 => ?_)
            refine Ex_bipush (v := 108) dX6_askRead_85 (by decide) ?_
            refine Ex_icmp_ne (tgt := 108) dX6_askRead_87 (by decide) ?_ ?_
            · refine Ex_lv [0, 1, 2, 3] (lv' := [(0, .ref a0), (1, .int x1), (2, .int x2), (3, .ref x64)]) rfl ?_
              exact hj86 ()
            · refine Ex_aload_n dX6_askRead_90 rfl 3 rfl ?_
              refine Ex_bnI (Inv_V (L_X7_hasOwnCommitted hG x64) (lw_V q2529 q2470 q2471 q55 q2472) oe_16 ⟨rfl, hm_X7_hasOwnCommitted⟩ (by decide) (by decide) dX6_askRead_91 rfl (Nat.le_of_ble_eq_true rfl)) (fun r88 => ?_)
              refine Ex_if_eq (tgt := 108) dX6_askRead_94 (by decide) ?_ ?_
              · refine Ex_lv [0, 1, 2, 3] (lv' := [(0, .ref a0), (1, .int x1), (2, .int x2), (3, .ref x64)]) rfl ?_
                exact hj86 ()
              · refine Ex_iload dX6_askRead_97 4 rfl ?_
                refine Ex_bipush (v := 12) dX6_askRead_99 (by decide) ?_
                refine Ex_icmp_ge (tgt := 108) dX6_askRead_101 (by decide) ?_ ?_
                · refine Ex_lv [0, 1, 2, 3] (lv' := [(0, .ref a0), (1, .int x1), (2, .int x2), (3, .ref x64)]) rfl ?_
                  exact hj86 ()
                · refine Ex_iconst (v := 1) dX6_askRead_104 (by decide) ?_
                  refine Ex_goto (tgt := 109) dX6_askRead_105 (by decide) ?_
                  refine Ex_lv [0, 1, 2, 3] (lv' := [(0, .ref a0), (1, .int x1), (2, .int x2), (3, .ref x64)]) rfl ?_
                  exact hj72 1
    · refine Ex_aload dX6_askRead_39 5 rfl ?_
      refine Ex_bnR (Inv_F (L_J17_next hG r66) (lw_F q2447 q1185 q1187 q77 q1189) q1184 q1183 q1188 q1186 q1175 oe_23 hx_Iterator_next (by decide) (by decide) dX6_askRead_41 rfl (Nat.le_of_ble_eq_true rfl)) (fun r89 => ?_)
      refine Ex_ko dX6_askRead_46 q2544 oc_QuorumAlmanacModel_Read_21 ?_
      refine Ex_astore (lv' := [(0, .ref a0), (1, .int x1), (2, .int x2), (3, .ref x64), (4, .int v67), (5, .ref r66), (6, .ref r89)]) dX6_askRead_49 (by decide) [1, 2, 3, 4, 5, 6, 0] rfl ?_
      refine Ex_iload dX6_askRead_51 4 rfl ?_
      refine Ex_aload dX6_askRead_53 6 rfl ?_
      refine Ex_gI dX6_askRead_55 lk_X6_247 rfl (fun x90 => ?_)
      refine Ex_bipush (v := 119) dX6_askRead_58 (by decide) ?_
      refine Ex_jn (γ := Int32 × Int32) (pj := 68) (fun v91 => [(0, .ref a0), (1, .int x1), (2, .int x2), (3, .ref x64), (5, .ref r66)]) (fun v91 => [.int v91.1, .int v91.2]) (fun v91 => ?_) (fun j92 hj92 => ?_)
      · refine Ex_iadd dX6_askRead_68 ?_
        refine Ex_istore (lv' := [(0, .ref a0), (1, .int x1), (2, .int x2), (3, .ref x64), (4, .int (v91.2 + v91.1)), (5, .ref r66)]) dX6_askRead_69 (by decide) [1, 2, 3, 4, 0, 5] rfl ?_
        refine Ex_goto (tgt := 29) dX6_askRead_71 (by decide) ?_
        exact hj68 (v91.2 + v91.1)
      · refine Ex_icmp_ne (tgt := 67) dX6_askRead_60 (by decide) ?_ ?_
        · refine Ex_iconst (v := 0) dX6_askRead_67 (by decide) ?_
          refine Ex_lv [0, 1, 2, 3, 5] (lv' := [(0, .ref a0), (1, .int x1), (2, .int x2), (3, .ref x64), (5, .ref r66)]) rfl ?_
          exact hj92 (0, v67)
        · refine Ex_iconst (v := 1) dX6_askRead_63 (by decide) ?_
          refine Ex_goto (tgt := 68) dX6_askRead_64 (by decide) ?_
          refine Ex_lv [0, 1, 2, 3, 5] (lv' := [(0, .ref a0), (1, .int x1), (2, .int x2), (3, .ref x64), (5, .ref r66)]) rfl ?_
          exact hj92 (1, v67)
  · refine Ex_iconst (v := 0) dX6_askRead_8 (by decide) ?_
    exact Ex_ireturn dX6_askRead_9 rfl
-- QuorumAlmanacModel.readState(I)C
def m_X6_readState (a0 : Nat) (x1 : Int32) : Ms Int32 :=
  gR [15] 130 a0 fun x34 =>
  bn (ko [22] x34 (m_J2_size x34)) fun r35 =>
  bn (m_X6_in x1 0 (r35 - 1)) fun r36 =>
  jn (fun (v37 : Int32 × Nat) =>
      bn (ko [15] v37.2 (m_X6_fails v37.2 v37.1)) fun r39 =>
      jn (fun (v40 : Int32) =>
          ck (0 ≤ Int32.toInt v40 ∧ Int32.toInt v40 < 65536) <|
          rt v40)
        fun j41 =>
        if r39 = 0 then
          gR [15] 130 a0 fun x42 =>
          bn (ko [22] x42 (m_J2_get x42 x1)) fun r43 =>
          ko [21] r43 <|
          gI [21] 90 r43 fun x44 =>
          j41 x44
        else
          j41 0)
    fun j38 =>
    if r36 = 0 then
      j38 (1, a0)
    else
      j38 (0, a0)
theorem hm_X6_readState : (yX6_readState.cls ≠ "java/lang/invoke/MethodHandle" ∧ yX6_readState.cls ≠ "java/lang/invoke/VarHandle" ∧ (parseMethodDescriptor yX6_readState.desc).map (fun d => d.parameters.length) = some 1) := by decide +kernel
set_option maxHeartbeats 4000000 in
set_option maxRecDepth 100000 in
theorem L_X6_readState {G : GT} (hG : GOK G) (a0 : Nat) (x1 : Int32) : Cal G yX6_readState (ws_ yX6_readState cX6_readState 2 (Option.some Jvm.ClassFile.FieldType.char)) 5 124 [.ref a0, .int x1] rI (m_X6_readState a0 x1) := by
  refine Cal_of hG (by decide +kernel) (Nat.le_of_ble_eq_true rfl) (lv0 := [(0, .ref a0), (1, .int x1)]) rfl (fun X σ0 => ?_)
  delta m_X6_readState
  refine Ex_aload_n dX6_readState_0 rfl 0 rfl ?_
  refine Ex_iload_n dX6_readState_1 rfl 1 rfl ?_
  refine Ex_iconst (v := 0) dX6_readState_2 (by decide) ?_
  refine Ex_aload_n dX6_readState_3 rfl 0 rfl ?_
  refine Ex_gR dX6_readState_4 lk_X6_26 rfl (fun x34 => ?_)
  refine Ex_bnI (Inv_V (L_J2_size hG x34) (lw_V q2229 q112 q113 q48 q114) oe_22 ⟨rfl, hm_J2_size⟩ (by decide) (by decide) dX6_readState_7 rfl (Nat.le_of_ble_eq_true rfl)) (fun r35 => ?_)
  refine Ex_iconst (v := 1) dX6_readState_10 (by decide) ?_
  refine Ex_isub dX6_readState_11 ?_
  refine Ex_bnI (Inv_S (L_X6_in hG x1 0 (r35 - 1)) (lw_S q2113 q2114 q54 q2115) hm_X6_in (by decide) (by decide) dX6_readState_12 rfl (Nat.le_of_ble_eq_true rfl)) (fun r36 => ?_)
  refine Ex_jn (γ := Int32 × Nat) (pj := 23) (fun v37 => [(0, .ref a0), (1, .int x1)]) (fun v37 => [.int v37.1, .ref v37.2]) (fun v37 => ?_) (fun j38 hj38 => ?_)
  · refine Ex_bnI (Inv_V (L_X6_fails hG v37.2 v37.1) (lw_V q2116 q2118 qs34 q54 q2119) oe_15 ⟨rfl, hm_X6_fails⟩ (by decide) (by decide) dX6_readState_23 rfl (Nat.le_of_ble_eq_true rfl)) (fun r39 => ?_)
    refine Ex_jn (γ := Int32) (pj := 47) (fun v40 => []) (fun v40 => [.int v40]) (fun v40 => ?_) (fun j41 hj41 => ?_)
    · refine Ex_ck (fun hz => ?_)
      exact Ex_zreturn dX6_readState_47 rfl (cok_n hz)
    · refine Ex_if_eq (tgt := 33) dX6_readState_26 (by decide) ?_ ?_
      · refine Ex_aload_n dX6_readState_33 rfl 0 rfl ?_
        refine Ex_gR dX6_readState_34 lk_X6_26 rfl (fun x42 => ?_)
        refine Ex_iload_n dX6_readState_37 rfl 1 rfl ?_
        refine Ex_bnR (Inv_V (L_J2_get hG x42 x1) (lw_V q2434 q415 q416 q48 q417) oe_22 ⟨rfl, hm_J2_get⟩ (by decide) (by decide) dX6_readState_38 rfl (Nat.le_of_ble_eq_true rfl)) (fun r43 => ?_)
        refine Ex_ko dX6_readState_41 q2544 oc_QuorumAlmanacModel_Read_21 ?_
        refine Ex_gI dX6_readState_44 lk_X6_247 rfl (fun x44 => ?_)
        refine Ex_lv [] (lv' := []) rfl ?_
        exact hj41 x44
      · refine Ex_iconst (v := 0) dX6_readState_29 (by decide) ?_
        refine Ex_goto (tgt := 47) dX6_readState_30 (by decide) ?_
        refine Ex_lv [] (lv' := []) rfl ?_
        exact hj41 0
  · refine Ex_if_eq (tgt := 22) dX6_readState_15 (by decide) ?_ ?_
    · refine Ex_iconst (v := 1) dX6_readState_22 (by decide) ?_
      exact hj38 (1, a0)
    · refine Ex_iconst (v := 0) dX6_readState_18 (by decide) ?_
      refine Ex_goto (tgt := 23) dX6_readState_19 (by decide) ?_
      exact hj38 (0, a0)
-- QuorumAlmanacModel.readValue(I)I
def m_X6_readValue (a0 : Nat) (x1 : Int32) : Ms Int32 :=
  gR [15] 130 a0 fun x40 =>
  bn (ko [22] x40 (m_J2_size x40)) fun r41 =>
  bn (m_X6_in x1 0 (r41 - 1)) fun r42 =>
  jn (fun (v43 : Int32) =>
      jn (fun (v45 : Int32 × Nat) =>
          bn (ko [15] v45.2 (m_X6_fails v45.2 v45.1)) fun r47 =>
          jn (fun (v48 : Int32) =>
              rt v48)
            fun j49 =>
            if r47 = 0 then
              gR [15] 130 a0 fun x50 =>
              bn (ko [22] x50 (m_J2_get x50 x1)) fun r51 =>
              ko [21] r51 <|
              gI [21] 91 r51 fun x52 =>
              j49 x52
            else
              j49 0)
        fun j46 =>
        if v43 = 0 then
          j46 (1, a0)
        else
          j46 (0, a0))
    fun j44 =>
    jn (fun (v53 : Unit) =>
        j44 0)
      fun j54 =>
      if r42 = 0 then
        j54 ()
      else
        gR [15] 130 a0 fun x55 =>
        bn (ko [22] x55 (m_J2_get x55 x1)) fun r56 =>
        ko [21] r56 <|
        gI [21] 90 r56 fun x57 =>
        if ¬ x57 = 114 then
          j54 ()
        else
          j44 1
theorem hm_X6_readValue : (yX6_readValue.cls ≠ "java/lang/invoke/MethodHandle" ∧ yX6_readValue.cls ≠ "java/lang/invoke/VarHandle" ∧ (parseMethodDescriptor yX6_readValue.desc).map (fun d => d.parameters.length) = some 1) := by decide +kernel
set_option maxHeartbeats 4000000 in
set_option maxRecDepth 100000 in
theorem L_X6_readValue {G : GT} (hG : GOK G) (a0 : Nat) (x1 : Int32) : Cal G yX6_readValue (ws_ yX6_readValue cX6_readValue 3 (Option.some Jvm.ClassFile.FieldType.int)) 5 124 [.ref a0, .int x1] rI (m_X6_readValue a0 x1) := by
  refine Cal_of hG (by decide +kernel) (Nat.le_of_ble_eq_true rfl) (lv0 := [(0, .ref a0), (1, .int x1)]) rfl (fun X σ0 => ?_)
  delta m_X6_readValue
  refine Ex_iload_n dX6_readValue_0 rfl 1 rfl ?_
  refine Ex_iconst (v := 0) dX6_readValue_1 (by decide) ?_
  refine Ex_aload_n dX6_readValue_2 rfl 0 rfl ?_
  refine Ex_gR dX6_readValue_3 lk_X6_26 rfl (fun x40 => ?_)
  refine Ex_bnI (Inv_V (L_J2_size hG x40) (lw_V q2229 q112 q113 q48 q114) oe_22 ⟨rfl, hm_J2_size⟩ (by decide) (by decide) dX6_readValue_6 rfl (Nat.le_of_ble_eq_true rfl)) (fun r41 => ?_)
  refine Ex_iconst (v := 1) dX6_readValue_9 (by decide) ?_
  refine Ex_isub dX6_readValue_10 ?_
  refine Ex_bnI (Inv_S (L_X6_in hG x1 0 (r41 - 1)) (lw_S q2113 q2114 q54 q2115) hm_X6_in (by decide) (by decide) dX6_readValue_11 rfl (Nat.le_of_ble_eq_true rfl)) (fun r42 => ?_)
  refine Ex_jn (γ := Int32) (pj := 41) (fun v43 => [(0, .ref a0), (1, .int x1)]) (fun v43 => [.int v43]) (fun v43 => ?_) (fun j44 hj44 => ?_)
  · refine Ex_istore_n (lv' := [(0, .ref a0), (1, .int x1), (2, .int v43)]) dX6_readValue_41 rfl (by decide) [1, 2, 0] rfl ?_
    refine Ex_aload_n dX6_readValue_42 rfl 0 rfl ?_
    refine Ex_iload_n dX6_readValue_43 rfl 2 rfl ?_
    refine Ex_jn (γ := Int32 × Nat) (pj := 52) (fun v45 => [(0, .ref a0), (1, .int x1)]) (fun v45 => [.int v45.1, .ref v45.2]) (fun v45 => ?_) (fun j46 hj46 => ?_)
    · refine Ex_bnI (Inv_V (L_X6_fails hG v45.2 v45.1) (lw_V q2116 q2118 qs34 q54 q2119) oe_15 ⟨rfl, hm_X6_fails⟩ (by decide) (by decide) dX6_readValue_52 rfl (Nat.le_of_ble_eq_true rfl)) (fun r47 => ?_)
      refine Ex_jn (γ := Int32) (pj := 76) (fun v48 => []) (fun v48 => [.int v48]) (fun v48 => ?_) (fun j49 hj49 => ?_)
      · exact Ex_ireturn dX6_readValue_76 rfl
      · refine Ex_if_eq (tgt := 62) dX6_readValue_55 (by decide) ?_ ?_
        · refine Ex_aload_n dX6_readValue_62 rfl 0 rfl ?_
          refine Ex_gR dX6_readValue_63 lk_X6_26 rfl (fun x50 => ?_)
          refine Ex_iload_n dX6_readValue_66 rfl 1 rfl ?_
          refine Ex_bnR (Inv_V (L_J2_get hG x50 x1) (lw_V q2434 q415 q416 q48 q417) oe_22 ⟨rfl, hm_J2_get⟩ (by decide) (by decide) dX6_readValue_67 rfl (Nat.le_of_ble_eq_true rfl)) (fun r51 => ?_)
          refine Ex_ko dX6_readValue_70 q2544 oc_QuorumAlmanacModel_Read_21 ?_
          refine Ex_gI dX6_readValue_73 lk_X6_259 rfl (fun x52 => ?_)
          refine Ex_lv [] (lv' := []) rfl ?_
          exact hj49 x52
        · refine Ex_iconst (v := 0) dX6_readValue_58 (by decide) ?_
          refine Ex_goto (tgt := 76) dX6_readValue_59 (by decide) ?_
          refine Ex_lv [] (lv' := []) rfl ?_
          exact hj49 0
    · refine Ex_if_eq (tgt := 51) dX6_readValue_44 (by decide) ?_ ?_
      · refine Ex_iconst (v := 1) dX6_readValue_51 (by decide) ?_
        refine Ex_lv [0, 1] (lv' := [(0, .ref a0), (1, .int x1)]) rfl ?_
        exact hj46 (1, a0)
      · refine Ex_iconst (v := 0) dX6_readValue_47 (by decide) ?_
        refine Ex_goto (tgt := 52) dX6_readValue_48 (by decide) ?_
        refine Ex_lv [0, 1] (lv' := [(0, .ref a0), (1, .int x1)]) rfl ?_
        exact hj46 (0, a0)
  · refine Ex_jn (γ := Unit) (pj := 40) (fun v53 => [(0, .ref a0), (1, .int x1)]) (fun v53 => []) (fun v53 => ?_) (fun j54 hj54 => ?_)
    · refine Ex_iconst (v := 0) dX6_readValue_40 (by decide) ?_
      exact hj44 0
    · refine Ex_if_eq (tgt := 40) dX6_readValue_14 (by decide) ?_ ?_
      · exact hj54 ()
      · refine Ex_aload_n dX6_readValue_17 rfl 0 rfl ?_
        refine Ex_gR dX6_readValue_18 lk_X6_26 rfl (fun x55 => ?_)
        refine Ex_iload_n dX6_readValue_21 rfl 1 rfl ?_
        refine Ex_bnR (Inv_V (L_J2_get hG x55 x1) (lw_V q2434 q415 q416 q48 q417) oe_22 ⟨rfl, hm_J2_get⟩ (by decide) (by decide) dX6_readValue_22 rfl (Nat.le_of_ble_eq_true rfl)) (fun r56 => ?_)
        refine Ex_ko dX6_readValue_25 q2544 oc_QuorumAlmanacModel_Read_21 ?_
        refine Ex_gI dX6_readValue_28 lk_X6_247 rfl (fun x57 => ?_)
        refine Ex_bipush (v := 114) dX6_readValue_31 (by decide) ?_
        refine Ex_icmp_ne (tgt := 40) dX6_readValue_33 (by decide) ?_ ?_
        · exact hj54 ()
        · refine Ex_iconst (v := 1) dX6_readValue_36 (by decide) ?_
          refine Ex_goto (tgt := 41) dX6_readValue_37 (by decide) ?_
          exact hj44 1
-- QuorumAlmanacModel.failsKey(II)Z
def m_X6_failsKey (a0 : Nat) (x1 : Int32) (x2 : Int32) : Ms Int32 :=
  bn (ko [15] a0 (m_X6_failsNode a0 x1)) fun r32 =>
  jn (fun (v33 : Int32) =>
      ck (v33 = 0 ∨ v33 = 1) <|
      rt v33)
    fun j34 =>
    jn (fun (v35 : Unit) =>
        j34 1)
      fun j36 =>
      if ¬ r32 = 0 then
        j36 ()
      else
        bn (m_X6_in x2 0 19) fun r37 =>
        jn (fun (v38 : Int32 × Nat) =>
            bn (ko [15] v38.2 (m_X6_fails v38.2 v38.1)) fun r40 =>
            if r40 = 0 then
              j34 0
            else
              j36 ())
          fun j39 =>
          if ¬ r37 = 0 then
            gR [15] 128 a0 fun x41 =>
            aR 34 x41 x1 fun x42 =>
            gI [16] 59 x42 fun x43 =>
            if x43 = 0 then
              j39 (3, a0)
            else
              j39 (0, a0)
          else
            j39 (2, a0)
theorem hm_X6_failsKey : (yX6_failsKey.cls ≠ "java/lang/invoke/MethodHandle" ∧ yX6_failsKey.cls ≠ "java/lang/invoke/VarHandle" ∧ (parseMethodDescriptor yX6_failsKey.desc).map (fun d => d.parameters.length) = some 2) := by decide +kernel
set_option maxHeartbeats 4000000 in
set_option maxRecDepth 100000 in
theorem L_X6_failsKey {G : GT} (hG : GOK G) (a0 : Nat) (x1 : Int32) (x2 : Int32) : Cal G yX6_failsKey (ws_ yX6_failsKey cX6_failsKey 3 (Option.some Jvm.ClassFile.FieldType.boolean)) 4 103 [.ref a0, .int x1, .int x2] rI (m_X6_failsKey a0 x1 x2) := by
  refine Cal_of hG (by decide +kernel) (Nat.le_of_ble_eq_true rfl) (lv0 := [(0, .ref a0), (1, .int x1), (2, .int x2)]) rfl (fun X σ0 => ?_)
  delta m_X6_failsKey
  refine Ex_aload_n dX6_failsKey_0 rfl 0 rfl ?_
  refine Ex_iload_n dX6_failsKey_1 rfl 1 rfl ?_
  refine Ex_bnI (Inv_V (L_X6_failsNode hG a0 x1) (lw_V q2109 q2111 qs33 q54 q2112) oe_15 ⟨rfl, hm_X6_failsNode⟩ (by decide) (by decide) dX6_failsKey_2 rfl (Nat.le_of_ble_eq_true rfl)) (fun r32 => ?_)
  refine Ex_jn (γ := Int32) (pj := 51) (fun v33 => []) (fun v33 => [.int v33]) (fun v33 => ?_) (fun j34 hj34 => ?_)
  · refine Ex_ck (fun hz => ?_)
    exact Ex_zreturn dX6_failsKey_51 rfl (zok_n hz)
  · refine Ex_jn (γ := Unit) (pj := 46) (fun v35 => []) (fun v35 => []) (fun v35 => ?_) (fun j36 hj36 => ?_)
    · refine Ex_iconst (v := 1) dX6_failsKey_46 (by decide) ?_
      refine Ex_goto (tgt := 51) dX6_failsKey_47 (by decide) ?_
      exact hj34 1
    · refine Ex_if_ne (tgt := 46) dX6_failsKey_5 (by decide) ?_ ?_
      · refine Ex_lv [] (lv' := []) rfl ?_
        exact hj36 ()
      · refine Ex_aload_n dX6_failsKey_8 rfl 0 rfl ?_
        refine Ex_iload_n dX6_failsKey_9 rfl 2 rfl ?_
        refine Ex_iconst (v := 0) dX6_failsKey_10 (by decide) ?_
        refine Ex_bipush (v := 19) dX6_failsKey_11 (by decide) ?_
        refine Ex_bnI (Inv_S (L_X6_in hG x2 0 19) (lw_S q2113 q2114 q54 q2115) hm_X6_in (by decide) (by decide) dX6_failsKey_13 rfl (Nat.le_of_ble_eq_true rfl)) (fun r37 => ?_)
        refine Ex_jn (γ := Int32 × Nat) (pj := 40) (fun v38 => []) (fun v38 => [.int v38.1, .ref v38.2]) (fun v38 => ?_) (fun j39 hj39 => ?_)
        · refine Ex_bnI (Inv_V (L_X6_fails hG v38.2 v38.1) (lw_V q2116 q2118 qs34 q54 q2119) oe_15 ⟨rfl, hm_X6_fails⟩ (by decide) (by decide) dX6_failsKey_40 rfl (Nat.le_of_ble_eq_true rfl)) (fun r40 => ?_)
          refine Ex_if_eq (tgt := 50) dX6_failsKey_43 (by decide) ?_ ?_
          · refine Ex_iconst (v := 0) dX6_failsKey_50 (by decide) ?_
            exact hj34 0
          · exact hj36 ()
        · refine Ex_if_ne (tgt := 23) dX6_failsKey_16 (by decide) ?_ ?_
          · refine Ex_aload_n dX6_failsKey_23 rfl 0 rfl ?_
            refine Ex_gR dX6_failsKey_24 lk_X6_15 rfl (fun x41 => ?_)
            refine Ex_iload_n dX6_failsKey_27 rfl 1 rfl ?_
            refine Ex_aR (j := 4) rfl rfl dX6_failsKey_28 (fun x42 => ?_)
            refine Ex_gI dX6_failsKey_29 lk_X6_77 rfl (fun x43 => ?_)
            refine Ex_if_eq (tgt := 39) dX6_failsKey_32 (by decide) ?_ ?_
            · refine Ex_iconst (v := 3) dX6_failsKey_39 (by decide) ?_
              refine Ex_lv [] (lv' := []) rfl ?_
              exact hj39 (3, a0)
            · refine Ex_iconst (v := 0) dX6_failsKey_35 (by decide) ?_
              refine Ex_goto (tgt := 40) dX6_failsKey_36 (by decide) ?_
              refine Ex_lv [] (lv' := []) rfl ?_
              exact hj39 (0, a0)
          · refine Ex_iconst (v := 2) dX6_failsKey_19 (by decide) ?_
            refine Ex_goto (tgt := 40) dX6_failsKey_20 (by decide) ?_
            refine Ex_lv [] (lv' := []) rfl ?_
            exact hj39 (2, a0)
