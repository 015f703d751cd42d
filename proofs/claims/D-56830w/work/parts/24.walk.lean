-- QuorumAlmanac$Node.commitUpTo(I)V
def m_X2_commitUpTo (a0 : Nat) (x1 : Int32) : Ms Unit :=
  lp (fun j45 (v44 : Unit) =>
      gI [2] 13 a0 fun x46 =>
      if x1 ≤ x46 then
        rt ()
      else
        gI [2] 13 a0 fun x47 =>
        pV [2] 13 a0 (.int (x47 + 1)) <|
        gI [2] 13 a0 fun x48 =>
        bn (ko [2] a0 (m_X2_entry a0 x48)) fun r49 =>
        gR [2] 115 a0 fun x50 =>
        gI [2] 13 a0 fun x51 =>
        bn (ko [1] x50 (m_X1_note x50 x51 r49)) fun _ =>
        gR [2] 110 a0 fun x52 =>
        bn (ko [4] x52 (m_X4_apply x52 r49)) fun _ =>
        gI [2] 6 a0 fun x53 =>
        jn (fun (v54 : Unit) =>
            j45 ())
          fun j55 =>
          if ¬ x53 = 108 then
            j55 ()
          else
            gI [9] 33 r49 fun x56 =>
            if ¬ x56 = 110 then
              j55 ()
            else
              gI [9] 34 r49 fun x57 =>
              gI [2] 4 a0 fun x58 =>
              bn (m_X1_isIn x57 x58) fun r59 =>
              if ¬ r59 = 0 then
                j55 ()
              else
                bn (ko [2] a0 (m_X2_stepDown a0)) fun _ =>
                j55 ())
    ()
theorem hm_X2_commitUpTo : (yX2_commitUpTo.cls ≠ "java/lang/invoke/MethodHandle" ∧ yX2_commitUpTo.cls ≠ "java/lang/invoke/VarHandle" ∧ (parseMethodDescriptor yX2_commitUpTo.desc).map (fun d => d.parameters.length) = some 1) := by decide +kernel
set_option maxHeartbeats 4000000 in
set_option maxRecDepth 100000 in
theorem L_X2_commitUpTo {G : GT} (hG : GOK G) (a0 : Nat) (x1 : Int32) : Cal G yX2_commitUpTo (ws_ yX2_commitUpTo cX2_commitUpTo 3 (Option.none : Option Jvm.ClassFile.FieldType)) 9 213 [.ref a0, .int x1] rU (m_X2_commitUpTo a0 x1) := by
  refine Cal_of hG (by decide +kernel) (Nat.le_of_ble_eq_true rfl) (lv0 := [(0, .ref a0), (1, .int x1)]) rfl (fun X σ0 => ?_)
  delta m_X2_commitUpTo
  refine Ex_lp (γ := Unit) (pj := 0) (fun v44 => [(0, .ref a0), (1, .int x1)]) (fun v44 => []) (fun j45 hj45 v44 => ?_) () rfl rfl
  refine Ex_aload_n dX2_commitUpTo_0 rfl 0 rfl ?_
  refine Ex_gI dX2_commitUpTo_1 lk_X2_114 rfl (fun x46 => ?_)
  refine Ex_iload_n dX2_commitUpTo_4 rfl 1 rfl ?_
  refine Ex_icmp_ge (tgt := 86) dX2_commitUpTo_5 (by decide) ?_ ?_
  · exact Ex_vreturn dX2_commitUpTo_86 rfl
  · refine Ex_aload_n dX2_commitUpTo_8 rfl 0 rfl ?_
    refine Ex_dup rfl dX2_commitUpTo_9 ?_
    refine Ex_gI dX2_commitUpTo_10 lk_X2_114 rfl (fun x47 => ?_)
    refine Ex_iconst (v := 1) dX2_commitUpTo_13 (by decide) ?_
    refine Ex_iadd dX2_commitUpTo_14 ?_
    refine Ex_pV dX2_commitUpTo_15 lk_X2_114 rfl rfl rfl rfl ?_
    refine Ex_aload_n dX2_commitUpTo_18 rfl 0 rfl ?_
    refine Ex_aload_n dX2_commitUpTo_19 rfl 0 rfl ?_
    refine Ex_gI dX2_commitUpTo_20 lk_X2_114 rfl (fun x48 => ?_)
    refine Ex_bnR (Inv_V (L_X2_entry hG a0 x48) (lw_V q747 q411 q412 q50 q413) oe_2 ⟨rfl, hm_X2_entry⟩ (by decide) (by decide) dX2_commitUpTo_23 rfl (Nat.le_of_ble_eq_true rfl)) (fun r49 => ?_)
    refine Ex_astore_n (lv' := [(0, .ref a0), (1, .int x1), (2, .ref r49)]) dX2_commitUpTo_26 rfl (by decide) [1, 2, 0] rfl ?_
    refine Ex_aload_n dX2_commitUpTo_27 rfl 0 rfl ?_
    refine Ex_gR dX2_commitUpTo_28 lk_X2_3 rfl (fun x50 => ?_)
    refine Ex_aload_n dX2_commitUpTo_31 rfl 0 rfl ?_
    refine Ex_gI dX2_commitUpTo_32 lk_X2_114 rfl (fun x51 => ?_)
    refine Ex_aload_n dX2_commitUpTo_35 rfl 2 rfl ?_
    refine Ex_bnU (Inv_VN (L_X1_note hG x50 x51 r49) q45 q1299 q1301 q1302 qs21 oe_1 hm_X1_note (by decide) (by decide) dX2_commitUpTo_36 rfl (Nat.le_of_ble_eq_true rfl)) (fun _ => ?_)
    refine Ex_aload_n dX2_commitUpTo_39 rfl 0 rfl ?_
    refine Ex_gR dX2_commitUpTo_40 lk_X2_40 rfl (fun x52 => ?_)
    refine Ex_aload_n dX2_commitUpTo_43 rfl 2 rfl ?_
    refine Ex_bnU (Inv_V (L_X4_apply hG x52 r49) (lw_V q1303 q1304 q1305 q52 q1306) oe_4 ⟨rfl, hm_X4_apply⟩ (by decide) (by decide) dX2_commitUpTo_44 rfl (Nat.le_of_ble_eq_true rfl)) (fun _ => ?_)
    refine Ex_aload_n dX2_commitUpTo_47 rfl 0 rfl ?_
    refine Ex_gI dX2_commitUpTo_48 lk_X2_19 rfl (fun x53 => ?_)
    refine Ex_bipush (v := 108) dX2_commitUpTo_51 (by decide) ?_
    refine Ex_jn (γ := Unit) (pj := 83) (fun v54 => [(0, .ref a0), (1, .int x1)]) (fun v54 => []) (fun v54 => ?_) (fun j55 hj55 => ?_)
    · refine Ex_goto (tgt := 0) dX2_commitUpTo_83 (by decide) ?_
      exact hj45 ()
    · refine Ex_icmp_ne (tgt := 83) dX2_commitUpTo_53 (by decide) ?_ ?_
      · refine Ex_lv [0, 1] (lv' := [(0, .ref a0), (1, .int x1)]) rfl ?_
        exact hj55 ()
      · refine Ex_aload_n dX2_commitUpTo_56 rfl 2 rfl ?_
        refine Ex_gI dX2_commitUpTo_57 lk_X2_96 rfl (fun x56 => ?_)
        refine Ex_bipush (v := 110) dX2_commitUpTo_60 (by decide) ?_
        refine Ex_icmp_ne (tgt := 83) dX2_commitUpTo_62 (by decide) ?_ ?_
        · refine Ex_lv [0, 1] (lv' := [(0, .ref a0), (1, .int x1)]) rfl ?_
          exact hj55 ()
        · refine Ex_aload_n dX2_commitUpTo_65 rfl 2 rfl ?_
          refine Ex_gI dX2_commitUpTo_66 lk_X2_104 rfl (fun x57 => ?_)
          refine Ex_aload_n dX2_commitUpTo_69 rfl 0 rfl ?_
          refine Ex_gI dX2_commitUpTo_70 lk_X2_60 rfl (fun x58 => ?_)
          refine Ex_bnI (Inv_SN (L_X1_isIn hG x57 x58) q45 q985 q986 q987 hm_X1_isIn (by decide) (by decide) dX2_commitUpTo_73 rfl (Nat.le_of_ble_eq_true rfl)) (fun r59 => ?_)
          refine Ex_if_ne (tgt := 83) dX2_commitUpTo_76 (by decide) ?_ ?_
          · refine Ex_lv [0, 1] (lv' := [(0, .ref a0), (1, .int x1)]) rfl ?_
            exact hj55 ()
          · refine Ex_aload_n dX2_commitUpTo_79 rfl 0 rfl ?_
            refine Ex_bnU (Inv_V (L_X2_stepDown hG a0) (lw_V q1218 q1220 qs17 q50 q1221) oe_2 ⟨rfl, hm_X2_stepDown⟩ (by decide) (by decide) dX2_commitUpTo_80 rfl (Nat.le_of_ble_eq_true rfl)) (fun _ => ?_)
            refine Ex_lv [0, 1] (lv' := [(0, .ref a0), (1, .int x1)]) rfl ?_
            exact hj55 ()
-- QuorumAlmanac$Node.has(I)Z
def m_X2_has (a0 : Nat) (x1 : Int32) : Ms Int32 :=
  gR [2] 108 a0 fun x26 =>
  gI [5] 20 x26 fun x27 =>
  jn (fun (v28 : Int32) =>
      ck (v28 = 0 ∨ v28 = 1) <|
      rt v28)
    fun j29 =>
    jn (fun (v30 : Unit) =>
        j29 0)
      fun j31 =>
      if x1 ≤ x27 then
        j31 ()
      else
        bn (ko [2] a0 (m_X2_last a0)) fun r32 =>
        if r32 < x1 then
          j31 ()
        else
          j29 1
theorem hm_X2_has : (yX2_has.cls ≠ "java/lang/invoke/MethodHandle" ∧ yX2_has.cls ≠ "java/lang/invoke/VarHandle" ∧ (parseMethodDescriptor yX2_has.desc).map (fun d => d.parameters.length) = some 1) := by decide +kernel
set_option maxHeartbeats 4000000 in
set_option maxRecDepth 100000 in
theorem L_X2_has {G : GT} (hG : GOK G) (a0 : Nat) (x1 : Int32) : Cal G yX2_has (ws_ yX2_has cX2_has 2 (Option.some Jvm.ClassFile.FieldType.boolean)) 4 100 [.ref a0, .int x1] rI (m_X2_has a0 x1) := by
  refine Cal_of hG (by decide +kernel) (Nat.le_of_ble_eq_true rfl) (lv0 := [(0, .ref a0), (1, .int x1)]) rfl (fun X σ0 => ?_)
  delta m_X2_has
  refine Ex_iload_n dX2_has_0 rfl 1 rfl ?_
  refine Ex_aload_n dX2_has_1 rfl 0 rfl ?_
  refine Ex_gR dX2_has_2 lk_X2_68 rfl (fun x26 => ?_)
  refine Ex_gI dX2_has_5 lk_X2_72 rfl (fun x27 => ?_)
  refine Ex_jn (γ := Int32) (pj := 24) (fun v28 => []) (fun v28 => [.int v28]) (fun v28 => ?_) (fun j29 hj29 => ?_)
  · refine Ex_ck (fun hz => ?_)
    exact Ex_zreturn dX2_has_24 rfl (zok_n hz)
  · refine Ex_jn (γ := Unit) (pj := 23) (fun v30 => []) (fun v30 => []) (fun v30 => ?_) (fun j31 hj31 => ?_)
    · refine Ex_iconst (v := 0) dX2_has_23 (by decide) ?_
      exact hj29 0
    · refine Ex_icmp_le (tgt := 23) dX2_has_8 (by decide) ?_ ?_
      · refine Ex_lv [] (lv' := []) rfl ?_
        exact hj31 ()
      · refine Ex_iload_n dX2_has_11 rfl 1 rfl ?_
        refine Ex_aload_n dX2_has_12 rfl 0 rfl ?_
        refine Ex_bnI (Inv_V (L_X2_last hG a0) (lw_V q978 q108 q109 q50 q110) oe_2 ⟨rfl, hm_X2_last⟩ (by decide) (by decide) dX2_has_13 rfl (Nat.le_of_ble_eq_true rfl)) (fun r32 => ?_)
        refine Ex_icmp_gt (tgt := 23) dX2_has_16 (by decide) ?_ ?_
        · refine Ex_lv [] (lv' := []) rfl ?_
          exact hj31 ()
        · refine Ex_iconst (v := 1) dX2_has_19 (by decide) ?_
          refine Ex_goto (tgt := 24) dX2_has_20 (by decide) ?_
          refine Ex_lv [] (lv' := []) rfl ?_
          exact hj29 1
-- QuorumAlmanac$Members.areTwo()Z
def m_X3_areTwo (a0 : Nat) : Ms Int32 :=
  gI [3] 18 a0 fun x22 =>
  jn (fun (v23 : Int32) =>
      ck (v23 = 0 ∨ v23 = 1) <|
      rt v23)
    fun j24 =>
    if x22 = 0 then
      j24 0
    else
      j24 1
theorem hm_X3_areTwo : (yX3_areTwo.cls ≠ "java/lang/invoke/MethodHandle" ∧ yX3_areTwo.cls ≠ "java/lang/invoke/VarHandle" ∧ (parseMethodDescriptor yX3_areTwo.desc).map (fun d => d.parameters.length) = some 0) := by decide +kernel
set_option maxHeartbeats 4000000 in
set_option maxRecDepth 100000 in
theorem L_X3_areTwo {G : GT} (hG : GOK G) (a0 : Nat) : Cal G yX3_areTwo (ws_ yX3_areTwo cX3_areTwo 1 (Option.some Jvm.ClassFile.FieldType.boolean)) 2 60 [.ref a0] rI (m_X3_areTwo a0) := by
  refine Cal_of hG (by decide +kernel) (Nat.le_of_ble_eq_true rfl) (lv0 := [(0, .ref a0)]) rfl (fun X σ0 => ?_)
  delta m_X3_areTwo
  refine Ex_aload_n dX3_areTwo_0 rfl 0 rfl ?_
  refine Ex_gI dX3_areTwo_1 lk_X3_7 rfl (fun x22 => ?_)
  refine Ex_jn (γ := Int32) (pj := 12) (fun v23 => []) (fun v23 => [.int v23]) (fun v23 => ?_) (fun j24 hj24 => ?_)
  · refine Ex_ck (fun hz => ?_)
    exact Ex_zreturn dX3_areTwo_12 rfl (zok_n hz)
  · refine Ex_if_eq (tgt := 11) dX3_areTwo_4 (by decide) ?_ ?_
    · refine Ex_iconst (v := 0) dX3_areTwo_11 (by decide) ?_
      refine Ex_lv [] (lv' := []) rfl ?_
      exact hj24 0
    · refine Ex_iconst (v := 1) dX3_areTwo_7 (by decide) ?_
      refine Ex_goto (tgt := 12) dX3_areTwo_8 (by decide) ?_
      refine Ex_lv [] (lv' := []) rfl ?_
      exact hj24 1
-- QuorumAlmanac$Node.finishChange()V
def m_X2_finishChange (a0 : Nat) : Ms Unit :=
  bn (ko [2] a0 (m_X2_last a0)) fun r52 =>
  lp (fun j54 (v53 : Int32) =>
      bn (ko [2] a0 (m_X2_has a0 v53)) fun r55 =>
      jn (fun (v56 : Unit) =>
          gI [2] 6 a0 fun x58 =>
          jn (fun (v59 : Unit) =>
              rt ())
            fun j60 =>
            if ¬ x58 = 108 then
              j60 ()
            else
              bn (ko [2] a0 (m_X2_members a0)) fun r61 =>
              bn (ko [3] r61 (m_X3_areTwo r61)) fun r62 =>
              if r62 = 0 then
                j60 ()
              else
                gI [2] 13 a0 fun x63 =>
                if x63 < v53 then
                  j60 ()
                else
                  gR [2] 109 a0 fun x64 =>
                  nO 9 4 dfl fun a65 =>
                  gI [2] 8 a0 fun x66 =>
                  bn (ko [2] a0 (m_X2_members a0)) fun r67 =>
                  gI [3] 19 r67 fun x68 =>
                  bn (m_X15_init a65 x66 110 x68 0) fun _ =>
                  bn (ko [22] x64 (m_J2_add x64 a65)) fun r69 =>
                  j60 ())
        fun j57 =>
        if r55 = 0 then
          j57 ()
        else
          bn (ko [2] a0 (m_X2_entry a0 v53)) fun r70 =>
          gI [9] 33 r70 fun x71 =>
          if x71 = 106 then
            j57 ()
          else
            bn (ko [2] a0 (m_X2_entry a0 v53)) fun r72 =>
            gI [9] 33 r72 fun x73 =>
            if x73 = 110 then
              j57 ()
            else
              j54 (v53 + (-1)))
    r52
theorem hm_X2_finishChange : (yX2_finishChange.cls ≠ "java/lang/invoke/MethodHandle" ∧ yX2_finishChange.cls ≠ "java/lang/invoke/VarHandle" ∧ (parseMethodDescriptor yX2_finishChange.desc).map (fun d => d.parameters.length) = some 0) := by decide +kernel
set_option maxHeartbeats 4000000 in
set_option maxRecDepth 100000 in
theorem L_X2_finishChange {G : GT} (hG : GOK G) (a0 : Nat) : Cal G yX2_finishChange (ws_ yX2_finishChange cX2_finishChange 2 (Option.none : Option Jvm.ClassFile.FieldType)) 8 191 [.ref a0] rU (m_X2_finishChange a0) := by
  refine Cal_of hG (by decide +kernel) (Nat.le_of_ble_eq_true rfl) (lv0 := [(0, .ref a0)]) rfl (fun X σ0 => ?_)
  delta m_X2_finishChange
  refine Ex_aload_n dX2_finishChange_0 rfl 0 rfl ?_
  refine Ex_bnI (Inv_V (L_X2_last hG a0) (lw_V q978 q108 q109 q50 q110) oe_2 ⟨rfl, hm_X2_last⟩ (by decide) (by decide) dX2_finishChange_1 rfl (Nat.le_of_ble_eq_true rfl)) (fun r52 => ?_)
  refine Ex_istore_n (lv' := [(0, .ref a0), (1, .int r52)]) dX2_finishChange_4 rfl (by decide) [1, 0] rfl ?_
  refine Ex_lp (γ := Int32) (pj := 5) (fun v53 => [(0, .ref a0), (1, .int v53)]) (fun v53 => []) (fun j54 hj54 v53 => ?_) r52 rfl rfl
  refine Ex_aload_n dX2_finishChange_5 rfl 0 rfl ?_
  refine Ex_iload_n dX2_finishChange_6 rfl 1 rfl ?_
  refine Ex_bnI (Inv_V (L_X2_has hG a0 v53) (lw_V q1315 q1316 q1317 q50 q1318) oe_2 ⟨rfl, hm_X2_has⟩ (by decide) (by decide) dX2_finishChange_7 rfl (Nat.le_of_ble_eq_true rfl)) (fun r55 => ?_)
  refine Ex_jn (γ := Unit) (pj := 45) (fun v56 => [(0, .ref a0), (1, .int v53)]) (fun v56 => []) (fun v56 => ?_) (fun j57 hj57 => ?_)
  · refine Ex_aload_n dX2_finishChange_45 rfl 0 rfl ?_
    refine Ex_gI dX2_finishChange_46 lk_X2_19 rfl (fun x58 => ?_)
    refine Ex_bipush (v := 108) dX2_finishChange_49 (by decide) ?_
    refine Ex_jn (γ := Unit) (pj := 101) (fun v59 => []) (fun v59 => []) (fun v59 => ?_) (fun j60 hj60 => ?_)
    · exact Ex_vreturn dX2_finishChange_101 rfl
    · refine Ex_icmp_ne (tgt := 101) dX2_finishChange_51 (by decide) ?_ ?_
      · refine Ex_lv [] (lv' := []) rfl ?_
        exact hj60 ()
      · refine Ex_aload_n dX2_finishChange_54 rfl 0 rfl ?_
        refine Ex_bnR (Inv_V (L_X2_members hG a0) (lw_V q974 q975 q976 q50 q977) oe_2 ⟨rfl, hm_X2_members⟩ (by decide) (by decide) dX2_finishChange_55 rfl (Nat.le_of_ble_eq_true rfl)) (fun r61 => ?_)
        refine Ex_bnI (Inv_V (L_X3_areTwo hG r61) (lw_V q1319 q1320 q1321 q51 q1322) oe_3 ⟨rfl, hm_X3_areTwo⟩ (by decide) (by decide) dX2_finishChange_58 rfl (Nat.le_of_ble_eq_true rfl)) (fun r62 => ?_)
        refine Ex_if_eq (tgt := 101) dX2_finishChange_61 (by decide) ?_ ?_
        · refine Ex_lv [] (lv' := []) rfl ?_
          exact hj60 ()
        · refine Ex_iload_n dX2_finishChange_64 rfl 1 rfl ?_
          refine Ex_aload_n dX2_finishChange_65 rfl 0 rfl ?_
          refine Ex_gI dX2_finishChange_66 lk_X2_114 rfl (fun x63 => ?_)
          refine Ex_icmp_gt (tgt := 101) dX2_finishChange_69 (by decide) ?_ ?_
          · refine Ex_lv [] (lv' := []) rfl ?_
            exact hj60 ()
          · refine Ex_aload_n dX2_finishChange_72 rfl 0 rfl ?_
            refine Ex_gR dX2_finishChange_73 lk_X2_33 rfl (fun x64 => ?_)
            refine Ex_nO (ci := 8) (q := qcl 8) dX2_finishChange_76 rfl q428 q1253 q80 (fun a65 => ?_)
            refine Ex_dup rfl dX2_finishChange_79 ?_
            refine Ex_aload_n dX2_finishChange_80 rfl 0 rfl ?_
            refine Ex_gI dX2_finishChange_81 lk_X2_143 rfl (fun x66 => ?_)
            refine Ex_bipush (v := 110) dX2_finishChange_84 (by decide) ?_
            refine Ex_aload_n dX2_finishChange_86 rfl 0 rfl ?_
            refine Ex_bnR (Inv_V (L_X2_members hG a0) (lw_V q974 q975 q976 q50 q977) oe_2 ⟨rfl, hm_X2_members⟩ (by decide) (by decide) dX2_finishChange_87 rfl (Nat.le_of_ble_eq_true rfl)) (fun r67 => ?_)
            refine Ex_gI dX2_finishChange_90 lk_X2_144 rfl (fun x68 => ?_)
            refine Ex_iconst (v := 0) dX2_finishChange_93 (by decide) ?_
            refine Ex_bnU (Inv_I (L_X15_init hG a65 x66 110 x68 0) q80 q1254 q1255 q1256 rfl hm_X15_init (by decide) (by decide) dX2_finishChange_94 rfl (Nat.le_of_ble_eq_true rfl)) (fun _ => ?_)
            refine Ex_bnI (Inv_V (L_J2_add hG x64 a65) (lw_V q934 q935 q936 q48 q937) oe_22 ⟨rfl, hm_J2_add⟩ (by decide) (by decide) dX2_finishChange_97 rfl (Nat.le_of_ble_eq_true rfl)) (fun r69 => ?_)
            refine Ex_pop rfl dX2_finishChange_100 ?_
            refine Ex_lv [] (lv' := []) rfl ?_
            exact hj60 ()
  · refine Ex_if_eq (tgt := 45) dX2_finishChange_10 (by decide) ?_ ?_
    · exact hj57 ()
    · refine Ex_aload_n dX2_finishChange_13 rfl 0 rfl ?_
      refine Ex_iload_n dX2_finishChange_14 rfl 1 rfl ?_
      refine Ex_bnR (Inv_V (L_X2_entry hG a0 v53) (lw_V q747 q411 q412 q50 q413) oe_2 ⟨rfl, hm_X2_entry⟩ (by decide) (by decide) dX2_finishChange_15 rfl (Nat.le_of_ble_eq_true rfl)) (fun r70 => ?_)
      refine Ex_gI dX2_finishChange_18 lk_X2_96 rfl (fun x71 => ?_)
      refine Ex_bipush (v := 106) dX2_finishChange_21 (by decide) ?_
      refine Ex_icmp_eq (tgt := 45) dX2_finishChange_23 (by decide) ?_ ?_
      · exact hj57 ()
      · refine Ex_aload_n dX2_finishChange_26 rfl 0 rfl ?_
        refine Ex_iload_n dX2_finishChange_27 rfl 1 rfl ?_
        refine Ex_bnR (Inv_V (L_X2_entry hG a0 v53) (lw_V q747 q411 q412 q50 q413) oe_2 ⟨rfl, hm_X2_entry⟩ (by decide) (by decide) dX2_finishChange_28 rfl (Nat.le_of_ble_eq_true rfl)) (fun r72 => ?_)
        refine Ex_gI dX2_finishChange_31 lk_X2_96 rfl (fun x73 => ?_)
        refine Ex_bipush (v := 110) dX2_finishChange_34 (by decide) ?_
        refine Ex_icmp_eq (tgt := 45) dX2_finishChange_36 (by decide) ?_ ?_
        · exact hj57 ()
        · refine Ex_iinc (j := 1) (lv' := [(0, .ref a0), (1, .int (v53 + (-1)))]) dX2_finishChange_39 rfl rfl (by decide) [1, 0] rfl ?_
          refine Ex_goto (tgt := 5) dX2_finishChange_42 (by decide) ?_
          exact hj54 (v53 + (-1))
-- QuorumAlmanac$Node.commitWhatAgrees()V
def m_X2_commitWhatAgrees (a0 : Nat) : Ms Unit :=
  bn (ko [2] a0 (m_X2_last a0)) fun r42 =>
  lp (fun j44 (v43 : Int32) =>
      gI [2] 13 a0 fun x45 =>
      jn (fun (v46 : Unit) =>
          rt ())
        fun j47 =>
        if v43 ≤ x45 then
          j47 ()
        else
          bn (ko [2] a0 (m_X2_termAt a0 v43)) fun r48 =>
          gI [2] 8 a0 fun x49 =>
          if r48 = x49 then
            gI [2] 12 a0 fun x50 =>
            jn (fun (v51 : Int32) =>
                lp (fun j54 (v53 : Int32 × Int32) =>
                    if 5 ≤ v53.2 then
                      bn (ko [2] a0 (m_X2_members a0)) fun r55 =>
                      bn (ko [3] r55 (m_X3_isMajority r55 v53.1)) fun r56 =>
                      if r56 = 0 then
                        j44 (v43 + (-1))
                      else
                        bn (ko [2] a0 (m_X2_commitUpTo a0 v43)) fun _ =>
                        bn (ko [2] a0 (m_X2_finishChange a0)) fun _ =>
                        j47 ()
                    else
                      gI [2] 4 a0 fun x57 =>
                      jn (fun (v58 : Int32 × Int32) =>
                          j54 ((v58.2 ||| v58.1), (v53.2 + 1)))
                        fun j59 =>
                        jn (fun (v60 : Int32) =>
                            j59 (0, v60))
                          fun j61 =>
                          if v53.2 = x57 then
                            j61 v53.1
                          else
                            gR [2] 112 a0 fun x62 =>
                            aI 30 x62 v53.2 fun x63 =>
                            if x63 < v43 then
                              j61 v53.1
                            else
                              j59 ((1 <<< (v53.2 &&& 31)), v53.1))
                  (v51, 0))
              fun j52 =>
              if x50 < v43 then
                j52 0
              else
                gI [2] 4 a0 fun x64 =>
                j52 (1 <<< (x64 &&& 31))
          else
            j47 ())
    r42
theorem hm_X2_commitWhatAgrees : (yX2_commitWhatAgrees.cls ≠ "java/lang/invoke/MethodHandle" ∧ yX2_commitWhatAgrees.cls ≠ "java/lang/invoke/VarHandle" ∧ (parseMethodDescriptor yX2_commitWhatAgrees.desc).map (fun d => d.parameters.length) = some 0) := by decide +kernel
set_option maxHeartbeats 4000000 in
set_option maxRecDepth 100000 in
theorem L_X2_commitWhatAgrees {G : GT} (hG : GOK G) (a0 : Nat) : Cal G yX2_commitWhatAgrees (ws_ yX2_commitWhatAgrees cX2_commitWhatAgrees 4 (Option.none : Option Jvm.ClassFile.FieldType)) 10 235 [.ref a0] rU (m_X2_commitWhatAgrees a0) := by
  refine Cal_of hG (by decide +kernel) (Nat.le_of_ble_eq_true rfl) (lv0 := [(0, .ref a0)]) rfl (fun X σ0 => ?_)
  delta m_X2_commitWhatAgrees
  refine Ex_aload_n dX2_commitWhatAgrees_0 rfl 0 rfl ?_
  refine Ex_bnI (Inv_V (L_X2_last hG a0) (lw_V q978 q108 q109 q50 q110) oe_2 ⟨rfl, hm_X2_last⟩ (by decide) (by decide) dX2_commitWhatAgrees_1 rfl (Nat.le_of_ble_eq_true rfl)) (fun r42 => ?_)
  refine Ex_istore_n (lv' := [(0, .ref a0), (1, .int r42)]) dX2_commitWhatAgrees_4 rfl (by decide) [1, 0] rfl ?_
  refine Ex_lp (γ := Int32) (pj := 5) (fun v43 => [(0, .ref a0), (1, .int v43)]) (fun v43 => []) (fun j44 hj44 v43 => ?_) r42 rfl rfl
  refine Ex_iload_n dX2_commitWhatAgrees_5 rfl 1 rfl ?_
  refine Ex_aload_n dX2_commitWhatAgrees_6 rfl 0 rfl ?_
  refine Ex_gI dX2_commitWhatAgrees_7 lk_X2_114 rfl (fun x45 => ?_)
  refine Ex_jn (γ := Unit) (pj := 117) (fun v46 => []) (fun v46 => []) (fun v46 => ?_) (fun j47 hj47 => ?_)
  · exact Ex_vreturn dX2_commitWhatAgrees_117 rfl
  · refine Ex_icmp_le (tgt := 117) dX2_commitWhatAgrees_10 (by decide) ?_ ?_
    · refine Ex_lv [] (lv' := []) rfl ?_
      exact hj47 ()
    · refine Ex_aload_n dX2_commitWhatAgrees_13 rfl 0 rfl ?_
      refine Ex_iload_n dX2_commitWhatAgrees_14 rfl 1 rfl ?_
      refine Ex_bnI (Inv_V (L_X2_termAt hG a0 v43) (lw_V q1096 q744 q745 q50 q746) oe_2 ⟨rfl, hm_X2_termAt⟩ (by decide) (by decide) dX2_commitWhatAgrees_15 rfl (Nat.le_of_ble_eq_true rfl)) (fun r48 => ?_)
      refine Ex_aload_n dX2_commitWhatAgrees_18 rfl 0 rfl ?_
      refine Ex_gI dX2_commitWhatAgrees_19 lk_X2_143 rfl (fun x49 => ?_)
      refine Ex_icmp_eq (tgt := 28) dX2_commitWhatAgrees_22 (by decide) ?_ ?_
      · refine Ex_aload_n dX2_commitWhatAgrees_28 rfl 0 rfl ?_
        refine Ex_gI dX2_commitWhatAgrees_29 lk_X2_315 rfl (fun x50 => ?_)
        refine Ex_iload_n dX2_commitWhatAgrees_32 rfl 1 rfl ?_
        refine Ex_jn (γ := Int32) (pj := 46) (fun v51 => [(0, .ref a0), (1, .int v43)]) (fun v51 => [.int v51]) (fun v51 => ?_) (fun j52 hj52 => ?_)
        · refine Ex_istore_n (lv' := [(0, .ref a0), (1, .int v43), (2, .int v51)]) dX2_commitWhatAgrees_46 rfl (by decide) [1, 2, 0] rfl ?_
          refine Ex_iconst (v := 0) dX2_commitWhatAgrees_47 (by decide) ?_
          refine Ex_istore_n (lv' := [(0, .ref a0), (1, .int v43), (2, .int v51), (3, .int 0)]) dX2_commitWhatAgrees_48 rfl (by decide) [1, 2, 3, 0] rfl ?_
          refine Ex_lp (γ := Int32 × Int32) (pj := 49) (fun v53 => [(0, .ref a0), (1, .int v43), (2, .int v53.1), (3, .int v53.2)]) (fun v53 => []) (fun j54 hj54 v53 => ?_) (v51, 0) rfl rfl
          refine Ex_iload_n dX2_commitWhatAgrees_49 rfl 3 rfl ?_
          refine Ex_iconst (v := 5) dX2_commitWhatAgrees_50 (by decide) ?_
          refine Ex_icmp_ge (tgt := 88) dX2_commitWhatAgrees_51 (by decide) ?_ ?_
          · refine Ex_aload_n dX2_commitWhatAgrees_88 rfl 0 rfl ?_
            refine Ex_bnR (Inv_V (L_X2_members hG a0) (lw_V q974 q975 q976 q50 q977) oe_2 ⟨rfl, hm_X2_members⟩ (by decide) (by decide) dX2_commitWhatAgrees_89 rfl (Nat.le_of_ble_eq_true rfl)) (fun r55 => ?_)
            refine Ex_iload_n dX2_commitWhatAgrees_92 rfl 2 rfl ?_
            refine Ex_bnI (Inv_V (L_X3_isMajority hG r55 v53.1) (lw_V q1135 q1136 q1137 q51 q1138) oe_3 ⟨rfl, hm_X3_isMajority⟩ (by decide) (by decide) dX2_commitWhatAgrees_93 rfl (Nat.le_of_ble_eq_true rfl)) (fun r56 => ?_)
            refine Ex_if_eq (tgt := 111) dX2_commitWhatAgrees_96 (by decide) ?_ ?_
            · refine Ex_iinc (j := 1) (lv' := [(0, .ref a0), (1, .int (v43 + (-1))), (2, .int v53.1), (3, .int v53.2)]) dX2_commitWhatAgrees_111 rfl rfl (by decide) [1, 0, 2, 3] rfl ?_
              refine Ex_goto (tgt := 5) dX2_commitWhatAgrees_114 (by decide) ?_
              refine Ex_lv [0, 1] (lv' := [(0, .ref a0), (1, .int (v43 + (-1)))]) rfl ?_
              exact hj44 (v43 + (-1))
            · refine Ex_aload_n dX2_commitWhatAgrees_99 rfl 0 rfl ?_
              refine Ex_iload_n dX2_commitWhatAgrees_100 rfl 1 rfl ?_
              refine Ex_bnU (Inv_V (L_X2_commitUpTo hG a0 v43) (lw_V q1295 q1297 qs20 q50 q1298) oe_2 ⟨rfl, hm_X2_commitUpTo⟩ (by decide) (by decide) dX2_commitWhatAgrees_101 rfl (Nat.le_of_ble_eq_true rfl)) (fun _ => ?_)
              refine Ex_aload_n dX2_commitWhatAgrees_104 rfl 0 rfl ?_
              refine Ex_bnU (Inv_V (L_X2_finishChange hG a0) (lw_V q1311 q1313 qs22 q50 q1314) oe_2 ⟨rfl, hm_X2_finishChange⟩ (by decide) (by decide) dX2_commitWhatAgrees_105 rfl (Nat.le_of_ble_eq_true rfl)) (fun _ => ?_)
              refine Ex_goto (tgt := 117) dX2_commitWhatAgrees_108 (by decide) ?_
              refine Ex_lv [] (lv' := []) rfl ?_
              exact hj47 ()
          · refine Ex_iload_n dX2_commitWhatAgrees_54 rfl 2 rfl ?_
            refine Ex_iload_n dX2_commitWhatAgrees_55 rfl 3 rfl ?_
            refine Ex_aload_n dX2_commitWhatAgrees_56 rfl 0 rfl ?_
            refine Ex_gI dX2_commitWhatAgrees_57 lk_X2_60 rfl (fun x57 => ?_)
            refine Ex_jn (γ := Int32 × Int32) (pj := 80) (fun v58 => [(0, .ref a0), (1, .int v43), (3, .int v53.2)]) (fun v58 => [.int v58.1, .int v58.2]) (fun v58 => ?_) (fun j59 hj59 => ?_)
            · refine Ex_ior dX2_commitWhatAgrees_80 ?_
              refine Ex_istore_n (lv' := [(0, .ref a0), (1, .int v43), (2, .int (v58.2 ||| v58.1)), (3, .int v53.2)]) dX2_commitWhatAgrees_81 rfl (by decide) [1, 2, 0, 3] rfl ?_
              refine Ex_iinc (j := 3) (lv' := [(0, .ref a0), (1, .int v43), (2, .int (v58.2 ||| v58.1)), (3, .int (v53.2 + 1))]) dX2_commitWhatAgrees_82 rfl rfl (by decide) [1, 2, 3, 0] rfl ?_
              refine Ex_goto (tgt := 49) dX2_commitWhatAgrees_85 (by decide) ?_
              exact hj54 ((v58.2 ||| v58.1), (v53.2 + 1))
            · refine Ex_jn (γ := Int32) (pj := 79) (fun v60 => [(0, .ref a0), (1, .int v43), (3, .int v53.2)]) (fun v60 => [.int v60]) (fun v60 => ?_) (fun j61 hj61 => ?_)
              · refine Ex_iconst (v := 0) dX2_commitWhatAgrees_79 (by decide) ?_
                exact hj59 (0, v60)
              · refine Ex_icmp_eq (tgt := 79) dX2_commitWhatAgrees_60 (by decide) ?_ ?_
                · refine Ex_lv [0, 1, 3] (lv' := [(0, .ref a0), (1, .int v43), (3, .int v53.2)]) rfl ?_
                  exact hj61 v53.1
                · refine Ex_aload_n dX2_commitWhatAgrees_63 rfl 0 rfl ?_
                  refine Ex_gR dX2_commitWhatAgrees_64 lk_X2_51 rfl (fun x62 => ?_)
                  refine Ex_iload_n dX2_commitWhatAgrees_67 rfl 3 rfl ?_
                  refine Ex_aI_i dX2_commitWhatAgrees_68 (fun x63 => ?_)
                  refine Ex_iload_n dX2_commitWhatAgrees_69 rfl 1 rfl ?_
                  refine Ex_icmp_lt (tgt := 79) dX2_commitWhatAgrees_70 (by decide) ?_ ?_
                  · refine Ex_lv [0, 1, 3] (lv' := [(0, .ref a0), (1, .int v43), (3, .int v53.2)]) rfl ?_
                    exact hj61 v53.1
                  · refine Ex_iconst (v := 1) dX2_commitWhatAgrees_73 (by decide) ?_
                    refine Ex_iload_n dX2_commitWhatAgrees_74 rfl 3 rfl ?_
                    refine Ex_ishl dX2_commitWhatAgrees_75 ?_
                    refine Ex_goto (tgt := 80) dX2_commitWhatAgrees_76 (by decide) ?_
                    refine Ex_lv [0, 1, 3] (lv' := [(0, .ref a0), (1, .int v43), (3, .int v53.2)]) rfl ?_
                    exact hj59 ((1 <<< (v53.2 &&& 31)), v53.1)
        · refine Ex_icmp_lt (tgt := 45) dX2_commitWhatAgrees_33 (by decide) ?_ ?_
          · refine Ex_iconst (v := 0) dX2_commitWhatAgrees_45 (by decide) ?_
            exact hj52 0
          · refine Ex_iconst (v := 1) dX2_commitWhatAgrees_36 (by decide) ?_
            refine Ex_aload_n dX2_commitWhatAgrees_37 rfl 0 rfl ?_
            refine Ex_gI dX2_commitWhatAgrees_38 lk_X2_60 rfl (fun x64 => ?_)
            refine Ex_ishl dX2_commitWhatAgrees_41 ?_
            refine Ex_goto (tgt := 46) dX2_commitWhatAgrees_42 (by decide) ?_
            exact hj52 (1 <<< (x64 &&& 31))
      · refine Ex_goto (tgt := 117) dX2_commitWhatAgrees_25 (by decide) ?_
        refine Ex_lv [] (lv' := []) rfl ?_
        exact hj47 ()
-- QuorumAlmanac$Node.sync()I
def m_X2_sync (a0 : Nat) : Ms Int32 :=
  bn (ko [2] a0 (m_X2_last a0)) fun r54 =>
  gI [2] 12 a0 fun x55 =>
  bn (ko [2] a0 (m_X2_last a0)) fun r56 =>
  pV [2] 12 a0 (.int r56) <|
  gI [2] 6 a0 fun x57 =>
  jn (fun (v58 : Unit) =>
      rt (r54 - x55))
    fun j59 =>
    if ¬ x57 = 108 then
      gI [2] 15 a0 fun x60 =>
      if x60 = (-1) then
        j59 ()
      else
        gI [2] 15 a0 fun x61 =>
        gI [2] 4 a0 fun x62 =>
        if x61 = x62 then
          j59 ()
        else
          gR [2] 115 a0 fun x63 =>
          nO 10 7 dfl fun a64 =>
          gR [2] 115 a0 fun x65 =>
          bn (ko [1] x65 (m_X1_nextMessage x65)) fun r66 =>
          gI [2] 4 a0 fun x67 =>
          gI [2] 15 a0 fun x68 =>
          gI [2] 8 a0 fun x69 =>
          gI [2] 16 a0 fun x70 =>
          gI [2] 14 a0 fun x71 =>
          gI [2] 12 a0 fun x72 =>
          bn (m_X18_init a64 r66 x67 x68 x69 x70 97 (iMin x71 x72)) fun _ =>
          bn (ko [1] x63 (m_X1_send x63 a64)) fun _ =>
          j59 ()
    else
      bn (ko [2] a0 (m_X2_commitWhatAgrees a0)) fun _ =>
      bn (ko [2] a0 (m_X2_readyReads a0)) fun _ =>
      j59 ()
theorem hm_X2_sync : (yX2_sync.cls ≠ "java/lang/invoke/MethodHandle" ∧ yX2_sync.cls ≠ "java/lang/invoke/VarHandle" ∧ (parseMethodDescriptor yX2_sync.desc).map (fun d => d.parameters.length) = some 0) := by decide +kernel
set_option maxHeartbeats 4000000 in
set_option maxRecDepth 100000 in
theorem L_X2_sync {G : GT} (hG : GOK G) (a0 : Nat) : Cal G yX2_sync (ws_ yX2_sync cX2_sync 2 (Option.some Jvm.ClassFile.FieldType.int)) 11 258 [.ref a0] rI (m_X2_sync a0) := by
  refine Cal_of hG (by decide +kernel) (Nat.le_of_ble_eq_true rfl) (lv0 := [(0, .ref a0)]) rfl (fun X σ0 => ?_)
  delta m_X2_sync
  refine Ex_aload_n dX2_sync_0 rfl 0 rfl ?_
  refine Ex_bnI (Inv_V (L_X2_last hG a0) (lw_V q978 q108 q109 q50 q110) oe_2 ⟨rfl, hm_X2_last⟩ (by decide) (by decide) dX2_sync_1 rfl (Nat.le_of_ble_eq_true rfl)) (fun r54 => ?_)
  refine Ex_aload_n dX2_sync_4 rfl 0 rfl ?_
  refine Ex_gI dX2_sync_5 lk_X2_315 rfl (fun x55 => ?_)
  refine Ex_isub dX2_sync_8 ?_
  refine Ex_istore_n (lv' := [(0, .ref a0), (1, .int (r54 - x55))]) dX2_sync_9 rfl (by decide) [1, 0] rfl ?_
  refine Ex_aload_n dX2_sync_10 rfl 0 rfl ?_
  refine Ex_aload_n dX2_sync_11 rfl 0 rfl ?_
  refine Ex_bnI (Inv_V (L_X2_last hG a0) (lw_V q978 q108 q109 q50 q110) oe_2 ⟨rfl, hm_X2_last⟩ (by decide) (by decide) dX2_sync_12 rfl (Nat.le_of_ble_eq_true rfl)) (fun r56 => ?_)
  refine Ex_pV dX2_sync_15 lk_X2_315 rfl rfl rfl rfl ?_
  refine Ex_aload_n dX2_sync_18 rfl 0 rfl ?_
  refine Ex_gI dX2_sync_19 lk_X2_19 rfl (fun x57 => ?_)
  refine Ex_bipush (v := 108) dX2_sync_22 (by decide) ?_
  refine Ex_jn (γ := Unit) (pj := 107) (fun v58 => [(1, .int (r54 - x55))]) (fun v58 => []) (fun v58 => ?_) (fun j59 hj59 => ?_)
  · refine Ex_iload_n dX2_sync_107 rfl 0 rfl ?_
    exact Ex_ireturn dX2_sync_108 rfl
  · refine Ex_icmp_ne (tgt := 38) dX2_sync_24 (by decide) ?_ ?_
    · refine Ex_aload_n dX2_sync_38 rfl 0 rfl ?_
      refine Ex_gI dX2_sync_39 lk_X2_44 rfl (fun x60 => ?_)
      refine Ex_iconst (v := (-1)) dX2_sync_42 (by decide) ?_
      refine Ex_icmp_eq (tgt := 107) dX2_sync_43 (by decide) ?_ ?_
      · refine Ex_lv [1] (lv' := [(1, .int (r54 - x55))]) rfl ?_
        exact hj59 ()
      · refine Ex_aload_n dX2_sync_46 rfl 0 rfl ?_
        refine Ex_gI dX2_sync_47 lk_X2_44 rfl (fun x61 => ?_)
        refine Ex_aload_n dX2_sync_50 rfl 0 rfl ?_
        refine Ex_gI dX2_sync_51 lk_X2_60 rfl (fun x62 => ?_)
        refine Ex_icmp_eq (tgt := 107) dX2_sync_54 (by decide) ?_ ?_
        · refine Ex_lv [1] (lv' := [(1, .int (r54 - x55))]) rfl ?_
          exact hj59 ()
        · refine Ex_aload_n dX2_sync_57 rfl 0 rfl ?_
          refine Ex_gR dX2_sync_58 lk_X2_3 rfl (fun x63 => ?_)
          refine Ex_nO (ci := 9) (q := qcl 9) dX2_sync_61 rfl q1323 q1324 q83 (fun a64 => ?_)
          refine Ex_dup rfl dX2_sync_64 ?_
          refine Ex_aload_n dX2_sync_65 rfl 0 rfl ?_
          refine Ex_gR dX2_sync_66 lk_X2_3 rfl (fun x65 => ?_)
          refine Ex_bnI (Inv_VN (L_X1_nextMessage hG x65) q45 q994 q996 q997 qs10 oe_1 hm_X1_nextMessage (by decide) (by decide) dX2_sync_69 rfl (Nat.le_of_ble_eq_true rfl)) (fun r66 => ?_)
          refine Ex_aload_n dX2_sync_72 rfl 0 rfl ?_
          refine Ex_gI dX2_sync_73 lk_X2_60 rfl (fun x67 => ?_)
          refine Ex_aload_n dX2_sync_76 rfl 0 rfl ?_
          refine Ex_gI dX2_sync_77 lk_X2_44 rfl (fun x68 => ?_)
          refine Ex_aload_n dX2_sync_80 rfl 0 rfl ?_
          refine Ex_gI dX2_sync_81 lk_X2_143 rfl (fun x69 => ?_)
          refine Ex_aload_n dX2_sync_84 rfl 0 rfl ?_
          refine Ex_gI dX2_sync_85 lk_X2_183 rfl (fun x70 => ?_)
          refine Ex_bipush (v := 97) dX2_sync_88 (by decide) ?_
          refine Ex_aload_n dX2_sync_90 rfl 0 rfl ?_
          refine Ex_gI dX2_sync_91 lk_X2_180 rfl (fun x71 => ?_)
          refine Ex_aload_n dX2_sync_94 rfl 0 rfl ?_
          refine Ex_gI dX2_sync_95 lk_X2_315 rfl (fun x72 => ?_)
          refine Ex_mmin dX2_sync_98 q1325 q149 q49 q150 (by decide) (Nat.le_of_ble_eq_true rfl) ?_
          refine Ex_bnU (Inv_I (L_X18_init hG a64 r66 x67 x68 x69 x70 97 (iMin x71 x72)) q83 q1326 q1327 q1328 rfl hm_X18_init (by decide) (by decide) dX2_sync_101 rfl (Nat.le_of_ble_eq_true rfl)) (fun _ => ?_)
          refine Ex_bnU (Inv_VN (L_X1_send hG x63 a64) q45 q1080 q1082 q1083 qs11 oe_1 hm_X1_send (by decide) (by decide) dX2_sync_104 rfl (Nat.le_of_ble_eq_true rfl)) (fun _ => ?_)
          refine Ex_lv [1] (lv' := [(1, .int (r54 - x55))]) rfl ?_
          exact hj59 ()
    · refine Ex_aload_n dX2_sync_27 rfl 0 rfl ?_
      refine Ex_bnU (Inv_V (L_X2_commitWhatAgrees hG a0) (lw_V q1291 q1293 qs19 q50 q1294) oe_2 ⟨rfl, hm_X2_commitWhatAgrees⟩ (by decide) (by decide) dX2_sync_28 rfl (Nat.le_of_ble_eq_true rfl)) (fun _ => ?_)
      refine Ex_aload_n dX2_sync_31 rfl 0 rfl ?_
      refine Ex_bnU (Inv_V (L_X2_readyReads hG a0) (lw_V q1123 q1125 qs13 q50 q1126) oe_2 ⟨rfl, hm_X2_readyReads⟩ (by decide) (by decide) dX2_sync_32 rfl (Nat.le_of_ble_eq_true rfl)) (fun _ => ?_)
      refine Ex_goto (tgt := 107) dX2_sync_35 (by decide) ?_
      refine Ex_lv [1] (lv' := [(1, .int (r54 - x55))]) rfl ?_
      exact hj59 ()
-- QuorumAlmanac.sync(I)I
def m_X1_sync (a0 : Nat) (x1 : Int32) : Ms Int32 :=
  bd (ko [1] a0 (m_X1_running a0 x1)) fun r24 =>
  bn (ko [2] r24 (m_X2_sync r24)) fun r25 =>
  rt r25
theorem hm_X1_sync : (yX1_sync.cls ≠ "java/lang/invoke/MethodHandle" ∧ yX1_sync.cls ≠ "java/lang/invoke/VarHandle" ∧ (parseMethodDescriptor yX1_sync.desc).map (fun d => d.parameters.length) = some 1) := by decide +kernel
set_option maxHeartbeats 4000000 in
set_option maxRecDepth 100000 in
theorem L_X1_sync {G : GT} (hG : GOK G) (a0 : Nat) (x1 : Int32) : Cal G yX1_sync (ws_ yX1_sync cX1_sync 2 (Option.some Jvm.ClassFile.FieldType.int)) 12 279 [.ref a0, .int x1] rI (m_X1_sync a0 x1) := by
  refine Cal_of hG (by decide +kernel) (Nat.le_of_ble_eq_true rfl) (lv0 := [(0, .ref a0), (1, .int x1)]) rfl (fun X σ0 => ?_)
  delta m_X1_sync
  refine Ex_aload_n dX1_sync_0 rfl 0 rfl ?_
  refine Ex_iload_n dX1_sync_1 rfl 1 rfl ?_
  refine Ex_bdR (Inv_V (L_X1_running hG a0 x1) (lw_V q870 q872 qs4 q45 q873) oe_1 ⟨rfl, hm_X1_running⟩ (by decide) (by decide) dX1_sync_2 rfl (Nat.le_of_ble_eq_true rfl)) (fun _ hz => nomatch hz) (fun r24 => ?_)
  refine Ex_bnI (Inv_V (L_X2_sync hG r24) (lw_V q1287 q1288 q1289 q50 q1290) oe_2 ⟨rfl, hm_X2_sync⟩ (by decide) (by decide) dX1_sync_5 rfl (Nat.le_of_ble_eq_true rfl)) (fun r25 => ?_)
  exact Ex_ireturn dX1_sync_8 rfl
-- QuorumAlmanacLaw.sync(LQuorumAlmanac;I[J)I
def m_X0_sync (a0 : Nat) (x1 : Int32) (a2 : Nat) : Ms Int32 :=
  tr (ko [1] a0 (m_X1_sync a0 x1)) (fun r22 =>
    sV 35 a2 0 (.long r22.toInt64) <|
    rt 0) fun e q23 =>
    if e = 0 then
      rt 1
    else 
      if e = 1 then
        rt 2
      else fl
theorem hm_X0_sync : (yX0_sync.cls ≠ "java/lang/invoke/MethodHandle" ∧ yX0_sync.cls ≠ "java/lang/invoke/VarHandle" ∧ (parseMethodDescriptor yX0_sync.desc).map (fun d => d.parameters.length) = some 3) := by decide +kernel
set_option maxHeartbeats 4000000 in
set_option maxRecDepth 100000 in
theorem L_X0_sync {G : GT} (hG : GOK G) (a0 : Nat) (x1 : Int32) (a2 : Nat) : Cal G yX0_sync (wsW_ yX0_sync cX0_sync 4 (Option.some Jvm.ClassFile.FieldType.int) [(0, 9, 12, 13), (0, 9, 15, 15)]) 13 300 [.ref a0, .int x1, .ref a2] rI (m_X0_sync a0 x1 a2) := by
  refine Cal_ofH hG (by decide +kernel) (Nat.le_of_ble_eq_true rfl) (tb := [{ startPc := 0, endPc := 9, handlerPc := 12, catchType := 13 }, { startPc := 0, endPc := 9, handlerPc := 15, catchType := 15 }]) rfl (lv0 := [(0, .ref a0), (1, .int x1), (2, .ref a2)]) rfl (fun X σ0 => ?_)
  delta m_X0_sync
  refine Ex_aload_n dX0_sync_0 rfl 2 rfl ?_
  refine Ex_iconst (v := 0) dX0_sync_1 (by decide) ?_
  refine Ex_aload_n dX0_sync_2 rfl 0 rfl ?_
  refine Ex_iload_n dX0_sync_3 rfl 1 rfl ?_
  refine Ex_trI (Inv_V (L_X1_sync hG a0 x1) (lw_V q1283 q1284 q1285 q45 q1286) oe_1 ⟨rfl, hm_X1_sync⟩ (by decide) (by decide) dX0_sync_4 rfl (Nat.le_of_ble_eq_true rfl)) (fun r22 => ?_) (fun e q23 => ?_)
  · refine Ex_i2l dX0_sync_7 ?_
    refine Ex_last dX0_sync_8 ?_
    refine Ex_goto (tgt := 18) dX0_sync_9 (by decide) ?_
    refine Ex_iconst (v := 0) dX0_sync_18 (by decide) ?_
    exact Ex_ireturn dX0_sync_19 rfl
  · refine ExT_if (e0 := 0) ?_ ?_
    · refine ExT_catch (name := "java/lang/IndexOutOfBoundsException") [] { startPc := 0, endPc := 9, handlerPc := 12, catchType := 13 } [{ startPc := 0, endPc := 9, handlerPc := 15, catchType := 15 }] rfl (fun _ hz => nomatch hz) rfl (by decide) q784 q886 ?_
      refine Ex_astore_n (lv' := [(0, .ref a0), (1, .int x1), (2, .ref a2), (3, .ref q23)]) dX0_sync_12 rfl (by decide) [1, 2, 3, 0] rfl ?_
      refine Ex_iconst (v := 1) dX0_sync_13 (by decide) ?_
      exact Ex_ireturn dX0_sync_14 rfl
    · refine ExT_if (e0 := 1) ?_ ?_
      · refine ExT_catch (name := "java/lang/IllegalStateException") [{ startPc := 0, endPc := 9, handlerPc := 12, catchType := 13 }] { startPc := 0, endPc := 9, handlerPc := 15, catchType := 15 } [] rfl (List.forall_mem_cons.mpr ⟨Or.inr ⟨by decide, "java/lang/IndexOutOfBoundsException", q784, nc_1_0⟩, fun _ hz => nomatch hz⟩) rfl (by decide) q865 q910 ?_
        refine Ex_astore_n (lv' := [(0, .ref a0), (1, .int x1), (2, .ref a2), (3, .ref q23)]) dX0_sync_15 rfl (by decide) [1, 2, 3, 0] rfl ?_
        refine Ex_iconst (v := 2) dX0_sync_16 (by decide) ?_
        exact Ex_ireturn dX0_sync_17 rfl
      · exact ExT_fl
-- QuorumAlmanac$Node.cut(I)V
def m_X2_cut (a0 : Nat) (x1 : Int32) : Ms Unit :=
  lp (fun j35 (v34 : Unit) =>
      bn (ko [2] a0 (m_X2_last a0)) fun r36 =>
      if r36 < x1 then
        gI [2] 12 a0 fun x37 =>
        bn (ko [2] a0 (m_X2_last a0)) fun r38 =>
        pV [2] 12 a0 (.int (iMin x37 r38)) <|
        rt ()
      else
        gR [2] 109 a0 fun x39 =>
        gR [2] 109 a0 fun x40 =>
        bn (ko [22] x40 (m_J2_size x40)) fun r41 =>
        bn (ko [22] x39 (m_J2_remove x39 (r41 - 1))) fun r42 =>
        j35 ())
    ()
theorem hm_X2_cut : (yX2_cut.cls ≠ "java/lang/invoke/MethodHandle" ∧ yX2_cut.cls ≠ "java/lang/invoke/VarHandle" ∧ (parseMethodDescriptor yX2_cut.desc).map (fun d => d.parameters.length) = some 1) := by decide +kernel
set_option maxHeartbeats 4000000 in
set_option maxRecDepth 100000 in
theorem L_X2_cut {G : GT} (hG : GOK G) (a0 : Nat) (x1 : Int32) : Cal G yX2_cut (ws_ yX2_cut cX2_cut 2 (Option.none : Option Jvm.ClassFile.FieldType)) 5 126 [.ref a0, .int x1] rU (m_X2_cut a0 x1) := by
  refine Cal_of hG (by decide +kernel) (Nat.le_of_ble_eq_true rfl) (lv0 := [(0, .ref a0), (1, .int x1)]) rfl (fun X σ0 => ?_)
  delta m_X2_cut
  refine Ex_lp (γ := Unit) (pj := 0) (fun v34 => [(0, .ref a0), (1, .int x1)]) (fun v34 => []) (fun j35 hj35 v34 => ?_) () rfl rfl
  refine Ex_aload_n dX2_cut_0 rfl 0 rfl ?_
  refine Ex_bnI (Inv_V (L_X2_last hG a0) (lw_V q978 q108 q109 q50 q110) oe_2 ⟨rfl, hm_X2_last⟩ (by decide) (by decide) dX2_cut_1 rfl (Nat.le_of_ble_eq_true rfl)) (fun r36 => ?_)
  refine Ex_iload_n dX2_cut_4 rfl 1 rfl ?_
  refine Ex_icmp_lt (tgt := 28) dX2_cut_5 (by decide) ?_ ?_
  · refine Ex_aload_n dX2_cut_28 rfl 0 rfl ?_
    refine Ex_aload_n dX2_cut_29 rfl 0 rfl ?_
    refine Ex_gI dX2_cut_30 lk_X2_315 rfl (fun x37 => ?_)
    refine Ex_aload_n dX2_cut_33 rfl 0 rfl ?_
    refine Ex_bnI (Inv_V (L_X2_last hG a0) (lw_V q978 q108 q109 q50 q110) oe_2 ⟨rfl, hm_X2_last⟩ (by decide) (by decide) dX2_cut_34 rfl (Nat.le_of_ble_eq_true rfl)) (fun r38 => ?_)
    refine Ex_mmin dX2_cut_37 q1325 q149 q49 q150 (by decide) (Nat.le_of_ble_eq_true rfl) ?_
    refine Ex_pV dX2_cut_40 lk_X2_315 rfl rfl rfl rfl ?_
    exact Ex_vreturn dX2_cut_43 rfl
  · refine Ex_aload_n dX2_cut_8 rfl 0 rfl ?_
    refine Ex_gR dX2_cut_9 lk_X2_33 rfl (fun x39 => ?_)
    refine Ex_aload_n dX2_cut_12 rfl 0 rfl ?_
    refine Ex_gR dX2_cut_13 lk_X2_33 rfl (fun x40 => ?_)
    refine Ex_bnI (Inv_V (L_J2_size hG x40) (lw_V q111 q112 q113 q48 q114) oe_22 ⟨rfl, hm_J2_size⟩ (by decide) (by decide) dX2_cut_16 rfl (Nat.le_of_ble_eq_true rfl)) (fun r41 => ?_)
    refine Ex_iconst (v := 1) dX2_cut_19 (by decide) ?_
    refine Ex_isub dX2_cut_20 ?_
    refine Ex_bnR (Inv_V (L_J2_remove hG x39 (r41 - 1)) (lw_V q1359 q1086 q1087 q48 q1088) oe_22 ⟨rfl, hm_J2_remove⟩ (by decide) (by decide) dX2_cut_21 rfl (Nat.le_of_ble_eq_true rfl)) (fun r42 => ?_)
    refine Ex_pop rfl dX2_cut_24 ?_
    refine Ex_goto (tgt := 0) dX2_cut_25 (by decide) ?_
    exact hj35 ()
-- QuorumAlmanac$Store.<init>()V
def m_X4_init (a0 : Nat) : Ms Unit :=
  nA 30 20 (.int 0) fun a28 =>
  pV [4] 116 a0 (.ref a28) <|
  nA 31 20 (.int 0) fun a29 =>
  pV [4] 117 a0 (.ref a29) <|
  nA 30 20 (.int 0) fun a30 =>
  pV [4] 118 a0 (.ref a30) <|
  gR [4] 117 a0 fun x31 =>
  sV 31 x31 0 (.int 1) <|
  rt ()
theorem hm_X4_init : (yX4_init.cls ≠ "java/lang/invoke/MethodHandle" ∧ yX4_init.cls ≠ "java/lang/invoke/VarHandle" ∧ (parseMethodDescriptor yX4_init.desc).map (fun d => d.parameters.length) = some 0) := by decide +kernel
set_option maxHeartbeats 4000000 in
set_option maxRecDepth 100000 in
theorem L_X4_init {G : GT} (hG : GOK G) (a0 : Nat) : Cal G yX4_init (ws_ yX4_init cX4_init 1 (Option.none : Option Jvm.ClassFile.FieldType)) 2 60 [.ref a0] rU (m_X4_init a0) := by
  refine Cal_of hG (by decide +kernel) (Nat.le_of_ble_eq_true rfl) (lv0 := [(0, .ref a0)]) rfl (fun X σ0 => ?_)
  delta m_X4_init
  refine Ex_aload_n dX4_init_0 rfl 0 rfl ?_
  refine Ex_objInit dX4_init_1 q181 q103 q104 (by decide) (Nat.le_of_ble_eq_true rfl) ?_
  refine Ex_aload_n dX4_init_4 rfl 0 rfl ?_
  refine Ex_bipush (v := 20) dX4_init_5 (by decide) ?_
  refine Ex_nA_i dX4_init_7 q195 (fun a28 => ?_)
  refine Ex_pVF dX4_init_9 lkf_X4_9 rfl rfl rfl rfl rfl rfl ?_
  refine Ex_aload_n dX4_init_12 rfl 0 rfl ?_
  refine Ex_bipush (v := 20) dX4_init_13 (by decide) ?_
  refine Ex_nA_z dX4_init_15 q196 (fun a29 => ?_)
  refine Ex_pVF dX4_init_17 lkf_X4_15 rfl rfl rfl rfl rfl rfl ?_
  refine Ex_aload_n dX4_init_20 rfl 0 rfl ?_
  refine Ex_bipush (v := 20) dX4_init_21 (by decide) ?_
  refine Ex_nA_i dX4_init_23 q195 (fun a30 => ?_)
  refine Ex_pVF dX4_init_25 lkf_X4_19 rfl rfl rfl rfl rfl rfl ?_
  refine Ex_aload_n dX4_init_28 rfl 0 rfl ?_
  refine Ex_gR dX4_init_29 lk_X4_15 rfl (fun x31 => ?_)
  refine Ex_iconst (v := 0) dX4_init_32 (by decide) ?_
  refine Ex_iconst (v := 1) dX4_init_33 (by decide) ?_
  refine Ex_zast rfl dX4_init_34 ?_
  exact Ex_vreturn dX4_init_35 rfl
-- QuorumAlmanac$Store.copy()LQuorumAlmanac$Store;
def m_X4_copy (a0 : Nat) : Ms Nat :=
  nO 4 3 dfl fun a40 =>
  bn (m_X4_init a40) fun _ =>
  lp (fun j42 (v41 : Int32) =>
      if 20 ≤ v41 then
        rt a40
      else
        gR [4] 116 a40 fun x43 =>
        gR [4] 116 a0 fun x44 =>
        aI 30 x44 v41 fun x45 =>
        sV 30 x43 v41 (.int x45) <|
        gR [4] 117 a40 fun x46 =>
        gR [4] 117 a0 fun x47 =>
        aI 31 x47 v41 fun x48 =>
        ck (x48 = 0 ∨ x48 = 1) <|
        sV 31 x46 v41 (.int x48) <|
        gR [4] 118 a40 fun x49 =>
        gR [4] 118 a0 fun x50 =>
        aI 30 x50 v41 fun x51 =>
        sV 30 x49 v41 (.int x51) <|
        j42 (v41 + 1))
    0
theorem hm_X4_copy : (yX4_copy.cls ≠ "java/lang/invoke/MethodHandle" ∧ yX4_copy.cls ≠ "java/lang/invoke/VarHandle" ∧ (parseMethodDescriptor yX4_copy.desc).map (fun d => d.parameters.length) = some 0) := by decide +kernel
set_option maxHeartbeats 4000000 in
set_option maxRecDepth 100000 in
theorem L_X4_copy {G : GT} (hG : GOK G) (a0 : Nat) : Cal G yX4_copy (ws_ yX4_copy cX4_copy 3 (Option.some (Jvm.ClassFile.FieldType.object "QuorumAlmanac$Store"))) 3 80 [.ref a0] rR (m_X4_copy a0) := by
  refine Cal_of hG (by decide +kernel) (Nat.le_of_ble_eq_true rfl) (lv0 := [(0, .ref a0)]) rfl (fun X σ0 => ?_)
  delta m_X4_copy
  refine Ex_nO (ci := 3) (q := qcl 3) dX4_copy_0 rfl q1364 q177 q52 (fun a40 => ?_)
  refine Ex_dup rfl dX4_copy_3 ?_
  refine Ex_bnU (Inv_I (L_X4_init hG a40) q52 q1365 q179 q180 rfl hm_X4_init (by decide) (by decide) dX4_copy_4 rfl (Nat.le_of_ble_eq_true rfl)) (fun _ => ?_)
  refine Ex_astore_n (lv' := [(0, .ref a0), (1, .ref a40)]) dX4_copy_7 rfl (by decide) [1, 0] rfl ?_
  refine Ex_iconst (v := 0) dX4_copy_8 (by decide) ?_
  refine Ex_istore_n (lv' := [(0, .ref a0), (1, .ref a40), (2, .int 0)]) dX4_copy_9 rfl (by decide) [1, 2, 0] rfl ?_
  refine Ex_lp (γ := Int32) (pj := 10) (fun v41 => [(0, .ref a0), (1, .ref a40), (2, .int v41)]) (fun v41 => []) (fun j42 hj42 v41 => ?_) 0 rfl rfl
  refine Ex_iload_n dX4_copy_10 rfl 2 rfl ?_
  refine Ex_bipush (v := 20) dX4_copy_11 (by decide) ?_
  refine Ex_icmp_ge (tgt := 58) dX4_copy_13 (by decide) ?_ ?_
  · refine Ex_aload_n dX4_copy_58 rfl 1 rfl ?_
    exact Ex_areturn dX4_copy_59 rfl (Or.inl ⟨_, rfl⟩)
  · refine Ex_aload_n dX4_copy_16 rfl 1 rfl ?_
    refine Ex_gR dX4_copy_17 lk_X4_9 rfl (fun x43 => ?_)
    refine Ex_iload_n dX4_copy_20 rfl 2 rfl ?_
    refine Ex_aload_n dX4_copy_21 rfl 0 rfl ?_
    refine Ex_gR dX4_copy_22 lk_X4_9 rfl (fun x44 => ?_)
    refine Ex_iload_n dX4_copy_25 rfl 2 rfl ?_
    refine Ex_aI_i dX4_copy_26 (fun x45 => ?_)
    refine Ex_iast dX4_copy_27 ?_
    refine Ex_aload_n dX4_copy_28 rfl 1 rfl ?_
    refine Ex_gR dX4_copy_29 lk_X4_15 rfl (fun x46 => ?_)
    refine Ex_iload_n dX4_copy_32 rfl 2 rfl ?_
    refine Ex_aload_n dX4_copy_33 rfl 0 rfl ?_
    refine Ex_gR dX4_copy_34 lk_X4_15 rfl (fun x47 => ?_)
    refine Ex_iload_n dX4_copy_37 rfl 2 rfl ?_
    refine Ex_aI_z dX4_copy_38 (fun x48 => ?_)
    refine Ex_ck (fun hz => ?_)
    refine Ex_zast (zok_n hz) dX4_copy_39 ?_
    refine Ex_aload_n dX4_copy_40 rfl 1 rfl ?_
    refine Ex_gR dX4_copy_41 lk_X4_19 rfl (fun x49 => ?_)
    refine Ex_iload_n dX4_copy_44 rfl 2 rfl ?_
    refine Ex_aload_n dX4_copy_45 rfl 0 rfl ?_
    refine Ex_gR dX4_copy_46 lk_X4_19 rfl (fun x50 => ?_)
    refine Ex_iload_n dX4_copy_49 rfl 2 rfl ?_
    refine Ex_aI_i dX4_copy_50 (fun x51 => ?_)
    refine Ex_iast dX4_copy_51 ?_
    refine Ex_iinc (j := 2) (lv' := [(0, .ref a0), (1, .ref a40), (2, .int (v41 + 1))]) dX4_copy_52 rfl rfl (by decide) [1, 2, 0] rfl ?_
    refine Ex_goto (tgt := 10) dX4_copy_55 (by decide) ?_
    exact hj42 (v41 + 1)
-- QuorumAlmanac$Node.crash()I
def m_X2_crash (a0 : Nat) : Ms Int32 :=
  bn (ko [2] a0 (m_X2_last a0)) fun r36 =>
  gI [2] 12 a0 fun x37 =>
  gI [2] 12 a0 fun x38 =>
  bn (ko [2] a0 (m_X2_cut a0 (x38 + 1))) fun _ =>
  bn (ko [2] a0 (m_X2_stepDown a0)) fun _ =>
  pV [2] 5 a0 (.int 0) <|
  gR [2] 108 a0 fun x39 =>
  gI [5] 20 x39 fun x40 =>
  pV [2] 13 a0 (.int x40) <|
  gR [2] 108 a0 fun x41 =>
  gR [5] 120 x41 fun x42 =>
  bn (ko [4] x42 (m_X4_copy x42)) fun r43 =>
  pV [2] 110 a0 (.ref r43) <|
  pV [2] 14 a0 (.int 0) <|
  pV [2] 15 a0 (.int (-1)) <|
  pV [2] 16 a0 (.int 0) <|
  pV [2] 17 a0 (.int 0) <|
  rt (r36 - x37)
theorem hm_X2_crash : (yX2_crash.cls ≠ "java/lang/invoke/MethodHandle" ∧ yX2_crash.cls ≠ "java/lang/invoke/VarHandle" ∧ (parseMethodDescriptor yX2_crash.desc).map (fun d => d.parameters.length) = some 0) := by decide +kernel
set_option maxHeartbeats 4000000 in
set_option maxRecDepth 100000 in
theorem L_X2_crash {G : GT} (hG : GOK G) (a0 : Nat) : Cal G yX2_crash (ws_ yX2_crash cX2_crash 2 (Option.some Jvm.ClassFile.FieldType.int)) 6 147 [.ref a0] rI (m_X2_crash a0) := by
  refine Cal_of hG (by decide +kernel) (Nat.le_of_ble_eq_true rfl) (lv0 := [(0, .ref a0)]) rfl (fun X σ0 => ?_)
  delta m_X2_crash
  refine Ex_aload_n dX2_crash_0 rfl 0 rfl ?_
  refine Ex_bnI (Inv_V (L_X2_last hG a0) (lw_V q978 q108 q109 q50 q110) oe_2 ⟨rfl, hm_X2_last⟩ (by decide) (by decide) dX2_crash_1 rfl (Nat.le_of_ble_eq_true rfl)) (fun r36 => ?_)
  refine Ex_aload_n dX2_crash_4 rfl 0 rfl ?_
  refine Ex_gI dX2_crash_5 lk_X2_315 rfl (fun x37 => ?_)
  refine Ex_isub dX2_crash_8 ?_
  refine Ex_istore_n (lv' := [(0, .ref a0), (1, .int (r36 - x37))]) dX2_crash_9 rfl (by decide) [1, 0] rfl ?_
  refine Ex_aload_n dX2_crash_10 rfl 0 rfl ?_
  refine Ex_aload_n dX2_crash_11 rfl 0 rfl ?_
  refine Ex_gI dX2_crash_12 lk_X2_315 rfl (fun x38 => ?_)
  refine Ex_iconst (v := 1) dX2_crash_15 (by decide) ?_
  refine Ex_iadd dX2_crash_16 ?_
  refine Ex_bnU (Inv_V (L_X2_cut hG a0 (x38 + 1)) (lw_V q1355 q1357 qs23 q50 q1358) oe_2 ⟨rfl, hm_X2_cut⟩ (by decide) (by decide) dX2_crash_17 rfl (Nat.le_of_ble_eq_true rfl)) (fun _ => ?_)
  refine Ex_aload_n dX2_crash_20 rfl 0 rfl ?_
  refine Ex_bnU (Inv_V (L_X2_stepDown hG a0) (lw_V q1218 q1220 qs17 q50 q1221) oe_2 ⟨rfl, hm_X2_stepDown⟩ (by decide) (by decide) dX2_crash_21 rfl (Nat.le_of_ble_eq_true rfl)) (fun _ => ?_)
  refine Ex_aload_n dX2_crash_24 rfl 0 rfl ?_
  refine Ex_iconst (v := 0) dX2_crash_25 (by decide) ?_
  refine Ex_pV dX2_crash_26 lk_X2_15 rfl rfl rfl rfl ?_
  refine Ex_aload_n dX2_crash_29 rfl 0 rfl ?_
  refine Ex_aload_n dX2_crash_30 rfl 0 rfl ?_
  refine Ex_gR dX2_crash_31 lk_X2_68 rfl (fun x39 => ?_)
  refine Ex_gI dX2_crash_34 lk_X2_72 rfl (fun x40 => ?_)
  refine Ex_pV dX2_crash_37 lk_X2_114 rfl rfl rfl rfl ?_
  refine Ex_aload_n dX2_crash_40 rfl 0 rfl ?_
  refine Ex_aload_n dX2_crash_41 rfl 0 rfl ?_
  refine Ex_gR dX2_crash_42 lk_X2_68 rfl (fun x41 => ?_)
  refine Ex_gR dX2_crash_45 lk_X2_350 rfl (fun x42 => ?_)
  refine Ex_bnR (Inv_V (L_X4_copy hG x42) (lw_V q1360 q1361 q1362 q52 q1363) oe_4 ⟨rfl, hm_X4_copy⟩ (by decide) (by decide) dX2_crash_48 rfl (Nat.le_of_ble_eq_true rfl)) (fun r43 => ?_)
  refine Ex_pV dX2_crash_51 lk_X2_40 rfl rfl rfl rfl ?_
  refine Ex_aload_n dX2_crash_54 rfl 0 rfl ?_
  refine Ex_iconst (v := 0) dX2_crash_55 (by decide) ?_
  refine Ex_pV dX2_crash_56 lk_X2_180 rfl rfl rfl rfl ?_
  refine Ex_aload_n dX2_crash_59 rfl 0 rfl ?_
  refine Ex_iconst (v := (-1)) dX2_crash_60 (by decide) ?_
  refine Ex_pV dX2_crash_61 lk_X2_44 rfl rfl rfl rfl ?_
  refine Ex_aload_n dX2_crash_64 rfl 0 rfl ?_
  refine Ex_iconst (v := 0) dX2_crash_65 (by decide) ?_
  refine Ex_pV dX2_crash_66 lk_X2_183 rfl rfl rfl rfl ?_
  refine Ex_aload_n dX2_crash_69 rfl 0 rfl ?_
  refine Ex_iconst (v := 0) dX2_crash_70 (by decide) ?_
  refine Ex_pV dX2_crash_71 lk_X2_196 rfl rfl rfl rfl ?_
  refine Ex_iload_n dX2_crash_74 rfl 1 rfl ?_
  exact Ex_ireturn dX2_crash_75 rfl
-- QuorumAlmanac.crash(I)I
def m_X1_crash (a0 : Nat) (x1 : Int32) : Ms Int32 :=
  bd (ko [1] a0 (m_X1_running a0 x1)) fun r24 =>
  bn (ko [2] r24 (m_X2_crash r24)) fun r25 =>
  rt r25
theorem hm_X1_crash : (yX1_crash.cls ≠ "java/lang/invoke/MethodHandle" ∧ yX1_crash.cls ≠ "java/lang/invoke/VarHandle" ∧ (parseMethodDescriptor yX1_crash.desc).map (fun d => d.parameters.length) = some 1) := by decide +kernel
set_option maxHeartbeats 4000000 in
set_option maxRecDepth 100000 in
theorem L_X1_crash {G : GT} (hG : GOK G) (a0 : Nat) (x1 : Int32) : Cal G yX1_crash (ws_ yX1_crash cX1_crash 2 (Option.some Jvm.ClassFile.FieldType.int)) 9 168 [.ref a0, .int x1] rI (m_X1_crash a0 x1) := by
  refine Cal_of hG (by decide +kernel) (Nat.le_of_ble_eq_true rfl) (lv0 := [(0, .ref a0), (1, .int x1)]) rfl (fun X σ0 => ?_)
  delta m_X1_crash
  refine Ex_aload_n dX1_crash_0 rfl 0 rfl ?_
  refine Ex_iload_n dX1_crash_1 rfl 1 rfl ?_
  refine Ex_bdR (Inv_V (L_X1_running hG a0 x1) (lw_V q870 q872 qs4 q45 q873) oe_1 ⟨rfl, hm_X1_running⟩ (by decide) (by decide) dX1_crash_2 rfl (Nat.le_of_ble_eq_true rfl)) (fun _ hz => nomatch hz) (fun r24 => ?_)
  refine Ex_bnI (Inv_V (L_X2_crash hG r24) (lw_V q1351 q1352 q1353 q50 q1354) oe_2 ⟨rfl, hm_X2_crash⟩ (by decide) (by decide) dX1_crash_5 rfl (Nat.le_of_ble_eq_true rfl)) (fun r25 => ?_)
  exact Ex_ireturn dX1_crash_8 rfl
-- QuorumAlmanacLaw.crash(LQuorumAlmanac;I[J)I
def m_X0_crash (a0 : Nat) (x1 : Int32) (a2 : Nat) : Ms Int32 :=
  tr (ko [1] a0 (m_X1_crash a0 x1)) (fun r22 =>
    sV 35 a2 0 (.long r22.toInt64) <|
    rt 0) fun e q23 =>
    if e = 0 then
      rt 1
    else 
      if e = 1 then
        rt 2
      else fl
theorem hm_X0_crash : (yX0_crash.cls ≠ "java/lang/invoke/MethodHandle" ∧ yX0_crash.cls ≠ "java/lang/invoke/VarHandle" ∧ (parseMethodDescriptor yX0_crash.desc).map (fun d => d.parameters.length) = some 3) := by decide +kernel
set_option maxHeartbeats 4000000 in
set_option maxRecDepth 100000 in
theorem L_X0_crash {G : GT} (hG : GOK G) (a0 : Nat) (x1 : Int32) (a2 : Nat) : Cal G yX0_crash (wsW_ yX0_crash cX0_crash 4 (Option.some Jvm.ClassFile.FieldType.int) [(0, 9, 12, 13), (0, 9, 15, 15)]) 10 189 [.ref a0, .int x1, .ref a2] rI (m_X0_crash a0 x1 a2) := by
  refine Cal_ofH hG (by decide +kernel) (Nat.le_of_ble_eq_true rfl) (tb := [{ startPc := 0, endPc := 9, handlerPc := 12, catchType := 13 }, { startPc := 0, endPc := 9, handlerPc := 15, catchType := 15 }]) rfl (lv0 := [(0, .ref a0), (1, .int x1), (2, .ref a2)]) rfl (fun X σ0 => ?_)
  delta m_X0_crash
  refine Ex_aload_n dX0_crash_0 rfl 2 rfl ?_
  refine Ex_iconst (v := 0) dX0_crash_1 (by decide) ?_
  refine Ex_aload_n dX0_crash_2 rfl 0 rfl ?_
  refine Ex_iload_n dX0_crash_3 rfl 1 rfl ?_
  refine Ex_trI (Inv_V (L_X1_crash hG a0 x1) (lw_V q1347 q1348 q1349 q45 q1350) oe_1 ⟨rfl, hm_X1_crash⟩ (by decide) (by decide) dX0_crash_4 rfl (Nat.le_of_ble_eq_true rfl)) (fun r22 => ?_) (fun e q23 => ?_)
  · refine Ex_i2l dX0_crash_7 ?_
    refine Ex_last dX0_crash_8 ?_
    refine Ex_goto (tgt := 18) dX0_crash_9 (by decide) ?_
    refine Ex_iconst (v := 0) dX0_crash_18 (by decide) ?_
    exact Ex_ireturn dX0_crash_19 rfl
  · refine ExT_if (e0 := 0) ?_ ?_
    · refine ExT_catch (name := "java/lang/IndexOutOfBoundsException") [] { startPc := 0, endPc := 9, handlerPc := 12, catchType := 13 } [{ startPc := 0, endPc := 9, handlerPc := 15, catchType := 15 }] rfl (fun _ hz => nomatch hz) rfl (by decide) q784 q886 ?_
      refine Ex_astore_n (lv' := [(0, .ref a0), (1, .int x1), (2, .ref a2), (3, .ref q23)]) dX0_crash_12 rfl (by decide) [1, 2, 3, 0] rfl ?_
      refine Ex_iconst (v := 1) dX0_crash_13 (by decide) ?_
      exact Ex_ireturn dX0_crash_14 rfl
    · refine ExT_if (e0 := 1) ?_ ?_
      · refine ExT_catch (name := "java/lang/IllegalStateException") [{ startPc := 0, endPc := 9, handlerPc := 12, catchType := 13 }] { startPc := 0, endPc := 9, handlerPc := 15, catchType := 15 } [] rfl (List.forall_mem_cons.mpr ⟨Or.inr ⟨by decide, "java/lang/IndexOutOfBoundsException", q784, nc_1_0⟩, fun _ hz => nomatch hz⟩) rfl (by decide) q865 q910 ?_
        refine Ex_astore_n (lv' := [(0, .ref a0), (1, .int x1), (2, .ref a2), (3, .ref q23)]) dX0_crash_15 rfl (by decide) [1, 2, 3, 0] rfl ?_
        refine Ex_iconst (v := 2) dX0_crash_16 (by decide) ?_
        exact Ex_ireturn dX0_crash_17 rfl
      · exact ExT_fl
-- QuorumAlmanac$Node.start()I
def m_X2_start (a0 : Nat) : Ms Int32 :=
  pV [2] 5 a0 (.int 1) <|
  gR [2] 115 a0 fun x42 =>
  gR [1] 104 x42 fun x43 =>
  aL 33 x43 fun x44 =>
  lp (fun j46 (v45 : Int32) =>
      if x44 ≤ v45 then
        gI [2] 7 a0 fun x47 =>
        pV [2] 10 a0 (.int x47) <|
        gI [2] 7 a0 fun x48 =>
        pV [2] 11 a0 (.int x48) <|
        gI [2] 7 a0 fun x49 =>
        rt x49
      else
        aR 33 x43 v45 fun x50 =>
        gI [2] 5 x50 fun x51 =>
        jn (fun (v52 : Int32 × Nat) =>
            pV [2] 7 v52.2 (.int v52.1) <|
            j46 (v45 + 1))
          fun j53 =>
          if x51 = 0 then
            gI [2] 7 a0 fun x54 =>
            j53 (x54, a0)
          else
            gI [2] 7 a0 fun x55 =>
            gI [2] 7 x50 fun x56 =>
            j53 ((iMax x55 x56), a0))
    0
theorem hm_X2_start : (yX2_start.cls ≠ "java/lang/invoke/MethodHandle" ∧ yX2_start.cls ≠ "java/lang/invoke/VarHandle" ∧ (parseMethodDescriptor yX2_start.desc).map (fun d => d.parameters.length) = some 0) := by decide +kernel
set_option maxHeartbeats 4000000 in
set_option maxRecDepth 100000 in
theorem L_X2_start {G : GT} (hG : GOK G) (a0 : Nat) : Cal G yX2_start (ws_ yX2_start cX2_start 5 (Option.some Jvm.ClassFile.FieldType.int)) 2 60 [.ref a0] rI (m_X2_start a0) := by
  refine Cal_of hG (by decide +kernel) (Nat.le_of_ble_eq_true rfl) (lv0 := [(0, .ref a0)]) rfl (fun X σ0 => ?_)
  delta m_X2_start
  refine Ex_aload_n dX2_start_0 rfl 0 rfl ?_
  refine Ex_iconst (v := 1) dX2_start_1 (by decide) ?_
  refine Ex_pV dX2_start_2 lk_X2_15 rfl rfl rfl rfl ?_
  refine Ex_aload_n dX2_start_5 rfl 0 rfl ?_
  refine Ex_gR dX2_start_6 lk_X2_3 rfl (fun x42 => ?_)
  refine Ex_gR dX2_start_9 lk_X2_394 rfl (fun x43 => ?_)
  refine Ex_astore_n (lv' := [(0, .ref a0), (1, .ref x43)]) dX2_start_12 rfl (by decide) [1, 0] rfl ?_
  refine Ex_aload_n dX2_start_13 rfl 1 rfl ?_
  refine Ex_aL (j := 3) rfl dX2_start_14 (fun x44 => ?_)
  refine Ex_istore_n (lv' := [(0, .ref a0), (1, .ref x43), (2, .int x44)]) dX2_start_15 rfl (by decide) [1, 2, 0] rfl ?_
  refine Ex_iconst (v := 0) dX2_start_16 (by decide) ?_
  refine Ex_istore_n (lv' := [(0, .ref a0), (1, .ref x43), (2, .int x44), (3, .int 0)]) dX2_start_17 rfl (by decide) [1, 2, 3, 0] rfl ?_
  refine Ex_lp (γ := Int32) (pj := 18) (fun v45 => [(0, .ref a0), (1, .ref x43), (2, .int x44), (3, .int v45)]) (fun v45 => []) (fun j46 hj46 v45 => ?_) 0 rfl rfl
  refine Ex_iload_n dX2_start_18 rfl 3 rfl ?_
  refine Ex_iload_n dX2_start_19 rfl 2 rfl ?_
  refine Ex_icmp_ge (tgt := 65) dX2_start_20 (by decide) ?_ ?_
  · refine Ex_aload_n dX2_start_65 rfl 0 rfl ?_
    refine Ex_aload_n dX2_start_66 rfl 0 rfl ?_
    refine Ex_gI dX2_start_67 lk_X2_186 rfl (fun x47 => ?_)
    refine Ex_pV dX2_start_70 lk_X2_199 rfl rfl rfl rfl ?_
    refine Ex_aload_n dX2_start_73 rfl 0 rfl ?_
    refine Ex_aload_n dX2_start_74 rfl 0 rfl ?_
    refine Ex_gI dX2_start_75 lk_X2_186 rfl (fun x48 => ?_)
    refine Ex_pV dX2_start_78 lk_X2_27 rfl rfl rfl rfl ?_
    refine Ex_aload_n dX2_start_81 rfl 0 rfl ?_
    refine Ex_gI dX2_start_82 lk_X2_186 rfl (fun x49 => ?_)
    exact Ex_ireturn dX2_start_85 rfl
  · refine Ex_aload_n dX2_start_23 rfl 1 rfl ?_
    refine Ex_iload_n dX2_start_24 rfl 3 rfl ?_
    refine Ex_aR (j := 3) rfl rfl dX2_start_25 (fun x50 => ?_)
    refine Ex_astore (lv' := [(0, .ref a0), (1, .ref x43), (2, .int x44), (3, .int v45), (4, .ref x50)]) dX2_start_26 (by decide) [1, 2, 3, 4, 0] rfl ?_
    refine Ex_aload_n dX2_start_28 rfl 0 rfl ?_
    refine Ex_aload dX2_start_29 4 rfl ?_
    refine Ex_gI dX2_start_31 lk_X2_15 rfl (fun x51 => ?_)
    refine Ex_jn (γ := Int32 × Nat) (pj := 56) (fun v52 => [(0, .ref a0), (1, .ref x43), (2, .int x44), (3, .int v45)]) (fun v52 => [.int v52.1, .ref v52.2]) (fun v52 => ?_) (fun j53 hj53 => ?_)
    · refine Ex_pV dX2_start_56 lk_X2_186 rfl rfl rfl rfl ?_
      refine Ex_iinc (j := 3) (lv' := [(0, .ref a0), (1, .ref x43), (2, .int x44), (3, .int (v45 + 1))]) dX2_start_59 rfl rfl (by decide) [1, 2, 3, 0] rfl ?_
      refine Ex_goto (tgt := 18) dX2_start_62 (by decide) ?_
      exact hj46 (v45 + 1)
    · refine Ex_if_eq (tgt := 52) dX2_start_34 (by decide) ?_ ?_
      · refine Ex_aload_n dX2_start_52 rfl 0 rfl ?_
        refine Ex_gI dX2_start_53 lk_X2_186 rfl (fun x54 => ?_)
        refine Ex_lv [0, 1, 2, 3] (lv' := [(0, .ref a0), (1, .ref x43), (2, .int x44), (3, .int v45)]) rfl ?_
        exact hj53 (x54, a0)
      · refine Ex_aload_n dX2_start_37 rfl 0 rfl ?_
        refine Ex_gI dX2_start_38 lk_X2_186 rfl (fun x55 => ?_)
        refine Ex_aload dX2_start_41 4 rfl ?_
        refine Ex_gI dX2_start_43 lk_X2_186 rfl (fun x56 => ?_)
        refine Ex_mmax dX2_start_46 q1377 q152 q49 q153 (by decide) (Nat.le_of_ble_eq_true rfl) ?_
        refine Ex_goto (tgt := 56) dX2_start_49 (by decide) ?_
        refine Ex_lv [0, 1, 2, 3] (lv' := [(0, .ref a0), (1, .ref x43), (2, .int x44), (3, .int v45)]) rfl ?_
        exact hj53 ((iMax x55 x56), a0)
