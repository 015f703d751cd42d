-- QuorumAlmanac$Node.add(LQuorumAlmanac$Append;)V
def m_X2_add (a0 : Nat) (a1 : Nat) : Ms Unit :=
  gI [7] 27 a1 fun x53 =>
  gR [7] 122 a1 fun x54 =>
  bn (ko [22] x54 (m_J2_iterator x54)) fun r55 =>
  lp (fun j57 (v56 : Int32) =>
      bn (ko [23] r55 (m_J17_hasNext r55)) fun r58 =>
      if r58 = 0 then
        gI [2] 14 a0 fun x59 =>
        pV [2] 14 a0 (.int (iMax x59 v56)) <|
        gI [7] 29 a1 fun x60 =>
        bn (ko [2] a0 (m_X2_commitUpTo a0 (iMin x60 v56))) fun _ =>
        rt ()
      else
        bn (ko [23] r55 (m_J17_next r55)) fun r61 =>
        ko [9] r61 <|
        bn (ko [2] a0 (m_X2_has a0 (v56 + 1))) fun r62 =>
        jn (fun (v63 : Unit) =>
            bn (ko [2] a0 (m_X2_has a0 (v56 + 1))) fun r65 =>
            jn (fun (v66 : Unit) =>
                j57 (v56 + 1))
              fun j67 =>
              if ¬ r65 = 0 then
                j67 ()
              else
                gR [2] 109 a0 fun x68 =>
                bn (ko [22] x68 (m_J2_add x68 r61)) fun r69 =>
                j67 ())
          fun j64 =>
          if r62 = 0 then
            j64 ()
          else
            bn (ko [2] a0 (m_X2_entry a0 (v56 + 1))) fun r70 =>
            gI [9] 32 r70 fun x71 =>
            gI [9] 32 r61 fun x72 =>
            if x71 = x72 then
              j64 ()
            else
              bn (ko [2] a0 (m_X2_cut a0 (v56 + 1))) fun _ =>
              j64 ())
    x53
theorem hm_X2_add : (yX2_add.cls ≠ "java/lang/invoke/MethodHandle" ∧ yX2_add.cls ≠ "java/lang/invoke/VarHandle" ∧ (parseMethodDescriptor yX2_add.desc).map (fun d => d.parameters.length) = some 1) := by decide +kernel
set_option maxHeartbeats 4000000 in
set_option maxRecDepth 100000 in
theorem L_X2_add {G : GT} (hG : GOK G) (a0 : Nat) (a1 : Nat) : Cal G yX2_add (ws_ yX2_add cX2_add 5 (Option.none : Option Jvm.ClassFile.FieldType)) 10 235 [.ref a0, .ref a1] rU (m_X2_add a0 a1) := by
  refine Cal_of hG (by decide +kernel) (Nat.le_of_ble_eq_true rfl) (lv0 := [(0, .ref a0), (1, .ref a1)]) rfl (fun X σ0 => ?_)
  delta m_X2_add
  refine Ex_aload_n dX2_add_0 rfl 1 rfl ?_
  refine Ex_gI dX2_add_1 lk_X2_290 rfl (fun x53 => ?_)
  refine Ex_istore_n (lv' := [(0, .ref a0), (1, .ref a1), (2, .int x53)]) dX2_add_4 rfl (by decide) [1, 2, 0] rfl ?_
  refine Ex_aload_n dX2_add_5 rfl 1 rfl ?_
  refine Ex_gR dX2_add_6 lk_X2_333 rfl (fun x54 => ?_)
  refine Ex_bnR (Inv_V (L_J2_iterator hG x54) (lw_V q1148 q1149 q1150 q48 q1151) oe_22 ⟨rfl, hm_J2_iterator⟩ (by decide) (by decide) dX2_add_9 rfl (Nat.le_of_ble_eq_true rfl)) (fun r55 => ?_)
  refine Ex_astore_n (lv' := [(0, .ref a0), (1, .ref a1), (2, .int x53), (3, .ref r55)]) dX2_add_12 rfl (by decide) [1, 2, 3, 0] rfl ?_
  refine Ex_lp (γ := Int32) (pj := 13) (fun v56 => [(0, .ref a0), (1, .ref a1), (2, .int v56), (3, .ref r55)]) (fun v56 => []) (fun j57 hj57 v56 => ?_) x53 rfl rfl
  refine Ex_aload_n dX2_add_13 rfl 3 rfl ?_
  refine Ex_bnI (Inv_F (L_J17_hasNext hG r55) (lw_F q1172 q1176 q1178 q77 q1180) q1174 q1173 q1179 q1177 q1175 oe_23 hx_Iterator_hasNext (by decide) (by decide) dX2_add_14 rfl (Nat.le_of_ble_eq_true rfl)) (fun r58 => ?_)
  refine Ex_if_eq (tgt := 86) dX2_add_19 (by decide) ?_ ?_
  · refine Ex_aload_n dX2_add_86 rfl 0 rfl ?_
    refine Ex_aload_n dX2_add_87 rfl 0 rfl ?_
    refine Ex_gI dX2_add_88 lk_X2_180 rfl (fun x59 => ?_)
    refine Ex_iload_n dX2_add_91 rfl 2 rfl ?_
    refine Ex_mmax dX2_add_92 q1377 q152 q49 q153 (by decide) (Nat.le_of_ble_eq_true rfl) ?_
    refine Ex_pV dX2_add_95 lk_X2_180 rfl rfl rfl rfl ?_
    refine Ex_aload_n dX2_add_98 rfl 0 rfl ?_
    refine Ex_aload_n dX2_add_99 rfl 1 rfl ?_
    refine Ex_gI dX2_add_100 lk_X2_342 rfl (fun x60 => ?_)
    refine Ex_iload_n dX2_add_103 rfl 2 rfl ?_
    refine Ex_mmin dX2_add_104 q1325 q149 q49 q150 (by decide) (Nat.le_of_ble_eq_true rfl) ?_
    refine Ex_bnU (Inv_V (L_X2_commitUpTo hG a0 (iMin x60 v56)) (lw_V q1295 q1297 qs20 q50 q1298) oe_2 ⟨rfl, hm_X2_commitUpTo⟩ (by decide) (by decide) dX2_add_107 rfl (Nat.le_of_ble_eq_true rfl)) (fun _ => ?_)
    exact Ex_vreturn dX2_add_110 rfl
  · refine Ex_aload_n dX2_add_22 rfl 3 rfl ?_
    refine Ex_bnR (Inv_F (L_J17_next hG r55) (lw_F q1182 q1185 q1187 q77 q1189) q1184 q1183 q1188 q1186 q1175 oe_23 hx_Iterator_next (by decide) (by decide) dX2_add_23 rfl (Nat.le_of_ble_eq_true rfl)) (fun r61 => ?_)
    refine Ex_ko dX2_add_28 q428 oc_QuorumAlmanac_Entry_9 ?_
    refine Ex_astore (lv' := [(0, .ref a0), (1, .ref a1), (2, .int v56), (3, .ref r55), (4, .ref r61)]) dX2_add_31 (by decide) [1, 2, 3, 4, 0] rfl ?_
    refine Ex_iinc (j := 2) (lv' := [(0, .ref a0), (1, .ref a1), (2, .int (v56 + 1)), (3, .ref r55), (4, .ref r61)]) dX2_add_33 rfl rfl (by decide) [1, 2, 0, 3, 4] rfl ?_
    refine Ex_aload_n dX2_add_36 rfl 0 rfl ?_
    refine Ex_iload_n dX2_add_37 rfl 2 rfl ?_
    refine Ex_bnI (Inv_V (L_X2_has hG a0 (v56 + 1)) (lw_V q1315 q1316 q1317 q50 q1318) oe_2 ⟨rfl, hm_X2_has⟩ (by decide) (by decide) dX2_add_38 rfl (Nat.le_of_ble_eq_true rfl)) (fun r62 => ?_)
    refine Ex_jn (γ := Unit) (pj := 65) (fun v63 => [(0, .ref a0), (1, .ref a1), (2, .int (v56 + 1)), (3, .ref r55), (4, .ref r61)]) (fun v63 => []) (fun v63 => ?_) (fun j64 hj64 => ?_)
    · refine Ex_aload_n dX2_add_65 rfl 0 rfl ?_
      refine Ex_iload_n dX2_add_66 rfl 2 rfl ?_
      refine Ex_bnI (Inv_V (L_X2_has hG a0 (v56 + 1)) (lw_V q1315 q1316 q1317 q50 q1318) oe_2 ⟨rfl, hm_X2_has⟩ (by decide) (by decide) dX2_add_67 rfl (Nat.le_of_ble_eq_true rfl)) (fun r65 => ?_)
      refine Ex_jn (γ := Unit) (pj := 83) (fun v66 => [(0, .ref a0), (1, .ref a1), (2, .int (v56 + 1)), (3, .ref r55)]) (fun v66 => []) (fun v66 => ?_) (fun j67 hj67 => ?_)
      · refine Ex_goto (tgt := 13) dX2_add_83 (by decide) ?_
        exact hj57 (v56 + 1)
      · refine Ex_if_ne (tgt := 83) dX2_add_70 (by decide) ?_ ?_
        · refine Ex_lv [0, 1, 2, 3] (lv' := [(0, .ref a0), (1, .ref a1), (2, .int (v56 + 1)), (3, .ref r55)]) rfl ?_
          exact hj67 ()
        · refine Ex_aload_n dX2_add_73 rfl 0 rfl ?_
          refine Ex_gR dX2_add_74 lk_X2_33 rfl (fun x68 => ?_)
          refine Ex_aload dX2_add_77 4 rfl ?_
          refine Ex_bnI (Inv_V (L_J2_add hG x68 r61) (lw_V q934 q935 q936 q48 q937) oe_22 ⟨rfl, hm_J2_add⟩ (by decide) (by decide) dX2_add_79 rfl (Nat.le_of_ble_eq_true rfl)) (fun r69 => ?_)
          refine Ex_pop rfl dX2_add_82 ?_
          refine Ex_lv [0, 1, 2, 3] (lv' := [(0, .ref a0), (1, .ref a1), (2, .int (v56 + 1)), (3, .ref r55)]) rfl ?_
          exact hj67 ()
    · refine Ex_if_eq (tgt := 65) dX2_add_41 (by decide) ?_ ?_
      · exact hj64 ()
      · refine Ex_aload_n dX2_add_44 rfl 0 rfl ?_
        refine Ex_iload_n dX2_add_45 rfl 2 rfl ?_
        refine Ex_bnR (Inv_V (L_X2_entry hG a0 (v56 + 1)) (lw_V q747 q411 q412 q50 q413) oe_2 ⟨rfl, hm_X2_entry⟩ (by decide) (by decide) dX2_add_46 rfl (Nat.le_of_ble_eq_true rfl)) (fun r70 => ?_)
        refine Ex_gI dX2_add_49 lk_X2_95 rfl (fun x71 => ?_)
        refine Ex_aload dX2_add_52 4 rfl ?_
        refine Ex_gI dX2_add_54 lk_X2_95 rfl (fun x72 => ?_)
        refine Ex_icmp_eq (tgt := 65) dX2_add_57 (by decide) ?_ ?_
        · exact hj64 ()
        · refine Ex_aload_n dX2_add_60 rfl 0 rfl ?_
          refine Ex_iload_n dX2_add_61 rfl 2 rfl ?_
          refine Ex_bnU (Inv_V (L_X2_cut hG a0 (v56 + 1)) (lw_V q1355 q1357 qs23 q50 q1358) oe_2 ⟨rfl, hm_X2_cut⟩ (by decide) (by decide) dX2_add_62 rfl (Nat.le_of_ble_eq_true rfl)) (fun _ => ?_)
          exact hj64 ()
-- QuorumAlmanac$Node.append(LQuorumAlmanac$Append;)V
def m_X2_append (a0 : Nat) (a1 : Nat) : Ms Unit :=
  jn (fun (v108 : Unit) =>
      rt ())
    fun j109 =>
    tr (ko [2] a0 (m_X2_check a0 a1)) (fun _ =>
      bn (ko [2] a0 (m_X2_add a0 a1)) fun _ =>
      gI [2] 14 a0 fun x110 =>
      gI [2] 12 a0 fun x111 =>
      gR [2] 115 a0 fun x112 =>
      nO 10 7 dfl fun a113 =>
      gR [2] 115 a0 fun x114 =>
      bn (ko [1] x114 (m_X1_nextMessage x114)) fun r115 =>
      gI [2] 4 a0 fun x116 =>
      gI [7] 23 a1 fun x117 =>
      gI [2] 8 a0 fun x118 =>
      gI [7] 26 a1 fun x119 =>
      bn (m_X18_init a113 r115 x116 x117 x118 x119 97 (iMin x110 x111)) fun _ =>
      bn (ko [1] x112 (m_X1_send x112 a113)) fun _ =>
      j109 ()) fun e q120 =>
      if e = 6 then
        gR [2] 115 a0 fun x121 =>
        gI [1] 1 x121 fun x122 =>
        gcz q120 fun x123 =>
        pV [1] 1 x121 (.int (x122 + 1)) <|
        gI [11] 39 q120 fun x124 =>
        gR [2] 115 a0 fun x125 =>
        nO 10 7 dfl fun a126 =>
        gR [2] 115 a0 fun x127 =>
        bn (ko [1] x127 (m_X1_nextMessage x127)) fun r128 =>
        gI [2] 4 a0 fun x129 =>
        gI [7] 23 a1 fun x130 =>
        gI [2] 8 a0 fun x131 =>
        gI [7] 26 a1 fun x132 =>
        bn (m_X18_init a126 r128 x129 x130 x131 x132 114 x124) fun _ =>
        bn (ko [1] x125 (m_X1_send x125 a126)) fun _ =>
        j109 ()
      else fl
theorem hm_X2_append : (yX2_append.cls ≠ "java/lang/invoke/MethodHandle" ∧ yX2_append.cls ≠ "java/lang/invoke/VarHandle" ∧ (parseMethodDescriptor yX2_append.desc).map (fun d => d.parameters.length) = some 1) := by decide +kernel
set_option maxHeartbeats 4000000 in
set_option maxRecDepth 100000 in
theorem L_X2_append {G : GT} (hG : GOK G) (a0 : Nat) (a1 : Nat) : Cal G yX2_append (wsW_ yX2_append cX2_append 6 (Option.none : Option Jvm.ClassFile.FieldType) [(5, 30, 72, 293), (5, 30, 147, 0), (72, 105, 147, 0), (147, 149, 147, 0)]) 11 259 [.ref a0, .ref a1] rU (m_X2_append a0 a1) := by
  refine Cal_ofH hG (by decide +kernel) (Nat.le_of_ble_eq_true rfl) (tb := [{ startPc := 5, endPc := 30, handlerPc := 72, catchType := 293 }, { startPc := 5, endPc := 30, handlerPc := 147, catchType := 0 }, { startPc := 72, endPc := 105, handlerPc := 147, catchType := 0 }, { startPc := 147, endPc := 149, handlerPc := 147, catchType := 0 }]) rfl (lv0 := [(0, .ref a0), (1, .ref a1)]) rfl (fun X σ0 => ?_)
  delta m_X2_append
  refine Ex_bipush (v := 114) dX2_append_0 (by decide) ?_
  refine Ex_istore_n (lv' := [(0, .ref a0), (1, .ref a1), (2, .int 114)]) dX2_append_2 rfl (by decide) [1, 2, 0] rfl ?_
  refine Ex_iconst (v := 0) dX2_append_3 (by decide) ?_
  refine Ex_istore_n (lv' := [(0, .ref a0), (1, .ref a1), (2, .int 114), (3, .int 0)]) dX2_append_4 rfl (by decide) [1, 2, 3, 0] rfl ?_
  refine Ex_aload_n dX2_append_5 rfl 0 rfl ?_
  refine Ex_aload_n dX2_append_6 rfl 1 rfl ?_
  refine Ex_jn (γ := Unit) (pj := 191) (fun v108 => []) (fun v108 => []) (fun v108 => ?_) (fun j109 hj109 => ?_)
  · exact Ex_vreturn dX2_append_191 rfl
  · refine Ex_trU (Inv_VW (L_X2_check hG a0 a1) (lw_VW q1587 q1589 qs27 q50 q1590) oe_2 ⟨rfl, hm_X2_check⟩ (by decide) (by decide) dX2_append_7 rfl (Nat.le_of_ble_eq_true rfl)) (fun _ => ?_) (fun e q120 => ?_)
    · refine Ex_aload_n dX2_append_10 rfl 0 rfl ?_
      refine Ex_aload_n dX2_append_11 rfl 1 rfl ?_
      refine Ex_bnU (Inv_V (L_X2_add hG a0 a1) (lw_V q1632 q1634 qs28 q50 q1635) oe_2 ⟨rfl, hm_X2_add⟩ (by decide) (by decide) dX2_append_12 rfl (Nat.le_of_ble_eq_true rfl)) (fun _ => ?_)
      refine Ex_bipush (v := 97) dX2_append_15 (by decide) ?_
      refine Ex_istore_n (lv' := [(0, .ref a0), (1, .ref a1), (2, .int 97), (3, .int 0)]) dX2_append_17 rfl (by decide) [1, 2, 0, 3] rfl ?_
      refine Ex_aload_n dX2_append_18 rfl 0 rfl ?_
      refine Ex_gI dX2_append_19 lk_X2_180 rfl (fun x110 => ?_)
      refine Ex_aload_n dX2_append_22 rfl 0 rfl ?_
      refine Ex_gI dX2_append_23 lk_X2_315 rfl (fun x111 => ?_)
      refine Ex_mmin dX2_append_26 q1325 q149 q49 q150 (by decide) (Nat.le_of_ble_eq_true rfl) ?_
      refine Ex_istore_n (lv' := [(0, .ref a0), (1, .ref a1), (2, .int 97), (3, .int (iMin x110 x111))]) dX2_append_29 rfl (by decide) [1, 2, 3, 0] rfl ?_
      refine Ex_aload_n dX2_append_30 rfl 0 rfl ?_
      refine Ex_gR dX2_append_31 lk_X2_3 rfl (fun x112 => ?_)
      refine Ex_nO (ci := 9) (q := qcl 9) dX2_append_34 rfl q1323 q1324 q83 (fun a113 => ?_)
      refine Ex_dup rfl dX2_append_37 ?_
      refine Ex_aload_n dX2_append_38 rfl 0 rfl ?_
      refine Ex_gR dX2_append_39 lk_X2_3 rfl (fun x114 => ?_)
      refine Ex_bnI (Inv_VN (L_X1_nextMessage hG x114) q45 q994 q996 q997 qs10 oe_1 hm_X1_nextMessage (by decide) (by decide) dX2_append_42 rfl (Nat.le_of_ble_eq_true rfl)) (fun r115 => ?_)
      refine Ex_aload_n dX2_append_45 rfl 0 rfl ?_
      refine Ex_gI dX2_append_46 lk_X2_60 rfl (fun x116 => ?_)
      refine Ex_aload_n dX2_append_49 rfl 1 rfl ?_
      refine Ex_gI dX2_append_50 lk_X2_324 rfl (fun x117 => ?_)
      refine Ex_aload_n dX2_append_53 rfl 0 rfl ?_
      refine Ex_gI dX2_append_54 lk_X2_143 rfl (fun x118 => ?_)
      refine Ex_aload_n dX2_append_57 rfl 1 rfl ?_
      refine Ex_gI dX2_append_58 lk_X2_325 rfl (fun x119 => ?_)
      refine Ex_iload_n dX2_append_61 rfl 2 rfl ?_
      refine Ex_iload_n dX2_append_62 rfl 3 rfl ?_
      refine Ex_bnU (Inv_I (L_X18_init hG a113 r115 x116 x117 x118 x119 97 (iMin x110 x111)) q83 q1326 q1327 q1328 rfl hm_X18_init (by decide) (by decide) dX2_append_63 rfl (Nat.le_of_ble_eq_true rfl)) (fun _ => ?_)
      refine Ex_bnU (Inv_VN (L_X1_send hG x112 a113) q45 q1080 q1082 q1083 qs11 oe_1 hm_X1_send (by decide) (by decide) dX2_append_66 rfl (Nat.le_of_ble_eq_true rfl)) (fun _ => ?_)
      refine Ex_goto (tgt := 191) dX2_append_69 (by decide) ?_
      refine Ex_lv [] (lv' := []) rfl ?_
      exact hj109 ()
    · refine ExT_if (e0 := 6) ?_ ?_
      · refine ExT_catch (name := "QuorumAlmanac$Refused") [] { startPc := 5, endPc := 30, handlerPc := 72, catchType := 293 } [{ startPc := 5, endPc := 30, handlerPc := 147, catchType := 0 }, { startPc := 72, endPc := 105, handlerPc := 147, catchType := 0 }, { startPc := 147, endPc := 149, handlerPc := 147, catchType := 0 }] rfl (fun _ hz => nomatch hz) rfl (by decide) q1586 q1594 ?_
        refine Ex_astore (lv' := [(0, .ref a0), (1, .ref a1), (2, .int 114), (3, .int 0), (4, .ref q120)]) dX2_append_72 (by decide) [1, 2, 3, 4, 0] rfl ?_
        refine Ex_aload_n dX2_append_74 rfl 0 rfl ?_
        refine Ex_gR dX2_append_75 lk_X2_3 rfl (fun x121 => ?_)
        refine Ex_dup rfl dX2_append_78 ?_
        refine Ex_gI dX2_append_79 lk_X2_282 rfl (fun x122 => ?_)
        refine Ex_aload dX2_append_82 4 rfl ?_
        refine Ex_gc gcW_in q1638 dX2_append_84 (by decide) (Nat.le_of_ble_eq_true rfl) (fun x123 => ?_)
        refine lvx_ifnonnull (tgt := 94) dX2_append_87 (by decide) ?_
        refine Ex_iconst (v := 1) dX2_append_94 (by decide) ?_
        refine Ex_iadd dX2_append_95 ?_
        refine Ex_pV dX2_append_96 lk_X2_282 rfl rfl rfl rfl ?_
        refine Ex_aload dX2_append_99 4 rfl ?_
        refine Ex_gI dX2_append_101 lk_X2_330 rfl (fun x124 => ?_)
        refine Ex_istore_n (lv' := [(0, .ref a0), (1, .ref a1), (2, .int 114), (3, .int x124), (4, .ref q120)]) dX2_append_104 rfl (by decide) [1, 2, 3, 0, 4] rfl ?_
        refine Ex_aload_n dX2_append_105 rfl 0 rfl ?_
        refine Ex_gR dX2_append_106 lk_X2_3 rfl (fun x125 => ?_)
        refine Ex_nO (ci := 9) (q := qcl 9) dX2_append_109 rfl q1323 q1324 q83 (fun a126 => ?_)
        refine Ex_dup rfl dX2_append_112 ?_
        refine Ex_aload_n dX2_append_113 rfl 0 rfl ?_
        refine Ex_gR dX2_append_114 lk_X2_3 rfl (fun x127 => ?_)
        refine Ex_bnI (Inv_VN (L_X1_nextMessage hG x127) q45 q994 q996 q997 qs10 oe_1 hm_X1_nextMessage (by decide) (by decide) dX2_append_117 rfl (Nat.le_of_ble_eq_true rfl)) (fun r128 => ?_)
        refine Ex_aload_n dX2_append_120 rfl 0 rfl ?_
        refine Ex_gI dX2_append_121 lk_X2_60 rfl (fun x129 => ?_)
        refine Ex_aload_n dX2_append_124 rfl 1 rfl ?_
        refine Ex_gI dX2_append_125 lk_X2_324 rfl (fun x130 => ?_)
        refine Ex_aload_n dX2_append_128 rfl 0 rfl ?_
        refine Ex_gI dX2_append_129 lk_X2_143 rfl (fun x131 => ?_)
        refine Ex_aload_n dX2_append_132 rfl 1 rfl ?_
        refine Ex_gI dX2_append_133 lk_X2_325 rfl (fun x132 => ?_)
        refine Ex_iload_n dX2_append_136 rfl 2 rfl ?_
        refine Ex_iload_n dX2_append_137 rfl 3 rfl ?_
        refine Ex_bnU (Inv_I (L_X18_init hG a126 r128 x129 x130 x131 x132 114 x124) q83 q1326 q1327 q1328 rfl hm_X18_init (by decide) (by decide) dX2_append_138 rfl (Nat.le_of_ble_eq_true rfl)) (fun _ => ?_)
        refine Ex_bnU (Inv_VN (L_X1_send hG x125 a126) q45 q1080 q1082 q1083 qs11 oe_1 hm_X1_send (by decide) (by decide) dX2_append_141 rfl (Nat.le_of_ble_eq_true rfl)) (fun _ => ?_)
        refine Ex_goto (tgt := 191) dX2_append_144 (by decide) ?_
        refine Ex_lv [] (lv' := []) rfl ?_
        exact hj109 ()
      · exact ExT_fl
-- QuorumAlmanac$Append.come(LQuorumAlmanac$Node;)V
def m_X13_come (a0 : Nat) (a1 : Nat) : Ms Unit :=
  bn (ko [7] a0 (m_X11_leads a0 a1)) fun r22 =>
  jn (fun (v23 : Unit) =>
      rt ())
    fun j24 =>
    if r22 = 0 then
      j24 ()
    else
      bn (ko [2] a1 (m_X2_append a1 a0)) fun _ =>
      j24 ()
theorem hm_X13_come : (yX13_come.cls ≠ "java/lang/invoke/MethodHandle" ∧ yX13_come.cls ≠ "java/lang/invoke/VarHandle" ∧ (parseMethodDescriptor yX13_come.desc).map (fun d => d.parameters.length) = some 1) := by decide +kernel
set_option maxHeartbeats 4000000 in
set_option maxRecDepth 100000 in
theorem L_X13_come {G : GT} (hG : GOK G) (a0 : Nat) (a1 : Nat) : Cal G yX13_come (ws_ yX13_come cX13_come 2 (Option.none : Option Jvm.ClassFile.FieldType)) 12 284 [.ref a0, .ref a1] rU (m_X13_come a0 a1) := by
  refine Cal_of hG (by decide +kernel) (Nat.le_of_ble_eq_true rfl) (lv0 := [(0, .ref a0), (1, .ref a1)]) rfl (fun X σ0 => ?_)
  delta m_X13_come
  refine Ex_aload_n dX13_come_0 rfl 0 rfl ?_
  refine Ex_aload_n dX13_come_1 rfl 1 rfl ?_
  refine Ex_bnI (Inv_U (L_X11_leads hG a0 a1) q74 q1567 q1571 q1572 q1570 q1568 q1569 oe_7 hx_QuorumAlmanac_RoundMessage_leads (by decide) (by decide) dX13_come_2 rfl (Nat.le_of_ble_eq_true rfl)) (fun r22 => ?_)
  refine Ex_jn (γ := Unit) (pj := 13) (fun v23 => []) (fun v23 => []) (fun v23 => ?_) (fun j24 hj24 => ?_)
  · exact Ex_vreturn dX13_come_13 rfl
  · refine Ex_if_eq (tgt := 13) dX13_come_5 (by decide) ?_ ?_
    · refine Ex_lv [] (lv' := []) rfl ?_
      exact hj24 ()
    · refine Ex_aload_n dX13_come_8 rfl 1 rfl ?_
      refine Ex_aload_n dX13_come_9 rfl 0 rfl ?_
      refine Ex_bnU (Inv_VW (L_X2_append hG a1 a0) (lw_VW q1582 q1583 q1584 q50 q1585) oe_2 ⟨rfl, hm_X2_append⟩ (by decide) (by decide) dX13_come_10 rfl (Nat.le_of_ble_eq_true rfl)) (fun _ => ?_)
      refine Ex_lv [] (lv' := []) rfl ?_
      exact hj24 ()
-- QuorumAlmanac$Node.hasCommittedOwn()Z
def m_X2_hasCommittedOwn (a0 : Nat) : Ms Int32 :=
  gI [2] 13 a0 fun x28 =>
  jn (fun (v29 : Int32) =>
      ck (v29 = 0 ∨ v29 = 1) <|
      rt v29)
    fun j30 =>
    jn (fun (v31 : Unit) =>
        j30 0)
      fun j32 =>
      if x28 ≤ 0 then
        j32 ()
      else
        gI [2] 13 a0 fun x33 =>
        bn (ko [2] a0 (m_X2_termAt a0 x33)) fun r34 =>
        gI [2] 8 a0 fun x35 =>
        if ¬ r34 = x35 then
          j32 ()
        else
          j30 1
theorem hm_X2_hasCommittedOwn : (yX2_hasCommittedOwn.cls ≠ "java/lang/invoke/MethodHandle" ∧ yX2_hasCommittedOwn.cls ≠ "java/lang/invoke/VarHandle" ∧ (parseMethodDescriptor yX2_hasCommittedOwn.desc).map (fun d => d.parameters.length) = some 0) := by decide +kernel
set_option maxHeartbeats 4000000 in
set_option maxRecDepth 100000 in
theorem L_X2_hasCommittedOwn {G : GT} (hG : GOK G) (a0 : Nat) : Cal G yX2_hasCommittedOwn (ws_ yX2_hasCommittedOwn cX2_hasCommittedOwn 1 (Option.some Jvm.ClassFile.FieldType.boolean)) 7 166 [.ref a0] rI (m_X2_hasCommittedOwn a0) := by
  refine Cal_of hG (by decide +kernel) (Nat.le_of_ble_eq_true rfl) (lv0 := [(0, .ref a0)]) rfl (fun X σ0 => ?_)
  delta m_X2_hasCommittedOwn
  refine Ex_aload_n dX2_hasCommittedOwn_0 rfl 0 rfl ?_
  refine Ex_gI dX2_hasCommittedOwn_1 lk_X2_114 rfl (fun x28 => ?_)
  refine Ex_jn (γ := Int32) (pj := 27) (fun v29 => []) (fun v29 => [.int v29]) (fun v29 => ?_) (fun j30 hj30 => ?_)
  · refine Ex_ck (fun hz => ?_)
    exact Ex_zreturn dX2_hasCommittedOwn_27 rfl (zok_n hz)
  · refine Ex_jn (γ := Unit) (pj := 26) (fun v31 => []) (fun v31 => []) (fun v31 => ?_) (fun j32 hj32 => ?_)
    · refine Ex_iconst (v := 0) dX2_hasCommittedOwn_26 (by decide) ?_
      exact hj30 0
    · refine Ex_if_le (tgt := 26) dX2_hasCommittedOwn_4 (by decide) ?_ ?_
      · refine Ex_lv [] (lv' := []) rfl ?_
        exact hj32 ()
      · refine Ex_aload_n dX2_hasCommittedOwn_7 rfl 0 rfl ?_
        refine Ex_aload_n dX2_hasCommittedOwn_8 rfl 0 rfl ?_
        refine Ex_gI dX2_hasCommittedOwn_9 lk_X2_114 rfl (fun x33 => ?_)
        refine Ex_bnI (Inv_V (L_X2_termAt hG a0 x33) (lw_V q1096 q744 q745 q50 q746) oe_2 ⟨rfl, hm_X2_termAt⟩ (by decide) (by decide) dX2_hasCommittedOwn_12 rfl (Nat.le_of_ble_eq_true rfl)) (fun r34 => ?_)
        refine Ex_aload_n dX2_hasCommittedOwn_15 rfl 0 rfl ?_
        refine Ex_gI dX2_hasCommittedOwn_16 lk_X2_143 rfl (fun x35 => ?_)
        refine Ex_icmp_ne (tgt := 26) dX2_hasCommittedOwn_19 (by decide) ?_ ?_
        · refine Ex_lv [] (lv' := []) rfl ?_
          exact hj32 ()
        · refine Ex_iconst (v := 1) dX2_hasCommittedOwn_22 (by decide) ?_
          refine Ex_goto (tgt := 27) dX2_hasCommittedOwn_23 (by decide) ?_
          refine Ex_lv [] (lv' := []) rfl ?_
          exact hj30 1
-- QuorumAlmanac$Node.hasLease()Z
def m_X2_hasLease (a0 : Nat) : Ms Int32 :=
  gI [2] 5 a0 fun x36 =>
  jn (fun (v37 : Unit) =>
      rt 0)
    fun j38 =>
    if x36 = 0 then
      j38 ()
    else
      gI [2] 6 a0 fun x39 =>
      if ¬ x39 = 108 then
        j38 ()
      else
        bn (ko [2] a0 (m_X2_hasCommittedOwn a0)) fun r40 =>
        if ¬ r40 = 0 then
          bn (ko [2] a0 (m_X2_latestAnswered a0)) fun r41 =>
          jn (fun (v42 : Int32) =>
              ck (v42 = 0 ∨ v42 = 1) <|
              rt v42)
            fun j43 =>
            jn (fun (v44 : Unit) =>
                j43 0)
              fun j45 =>
              if r41 ≤ 0 then
                j45 ()
              else
                gI [2] 7 a0 fun x46 =>
                gR [2] 114 a0 fun x47 =>
                bn (ko [22] x47 (m_J2_get x47 (r41 - 1))) fun r48 =>
                ko [24] r48 <|
                bn (ko [24] r48 (m_J14_intValue r48)) fun r49 =>
                if 6 ≤ (x46 - r49) then
                  j45 ()
                else
                  j43 1
        else
          j38 ()
theorem hm_X2_hasLease : (yX2_hasLease.cls ≠ "java/lang/invoke/MethodHandle" ∧ yX2_hasLease.cls ≠ "java/lang/invoke/VarHandle" ∧ (parseMethodDescriptor yX2_hasLease.desc).map (fun d => d.parameters.length) = some 0) := by decide +kernel
set_option maxHeartbeats 4000000 in
set_option maxRecDepth 100000 in
theorem L_X2_hasLease {G : GT} (hG : GOK G) (a0 : Nat) : Cal G yX2_hasLease (ws_ yX2_hasLease cX2_hasLease 2 (Option.some Jvm.ClassFile.FieldType.boolean)) 8 189 [.ref a0] rI (m_X2_hasLease a0) := by
  refine Cal_of hG (by decide +kernel) (Nat.le_of_ble_eq_true rfl) (lv0 := [(0, .ref a0)]) rfl (fun X σ0 => ?_)
  delta m_X2_hasLease
  refine Ex_aload_n dX2_hasLease_0 rfl 0 rfl ?_
  refine Ex_gI dX2_hasLease_1 lk_X2_15 rfl (fun x36 => ?_)
  refine Ex_jn (γ := Unit) (pj := 23) (fun v37 => []) (fun v37 => []) (fun v37 => ?_) (fun j38 hj38 => ?_)
  · refine Ex_iconst (v := 0) dX2_hasLease_23 (by decide) ?_
    exact Ex_zreturn dX2_hasLease_24 rfl rfl
  · refine Ex_if_eq (tgt := 23) dX2_hasLease_4 (by decide) ?_ ?_
    · refine Ex_lv [] (lv' := []) rfl ?_
      exact hj38 ()
    · refine Ex_aload_n dX2_hasLease_7 rfl 0 rfl ?_
      refine Ex_gI dX2_hasLease_8 lk_X2_19 rfl (fun x39 => ?_)
      refine Ex_bipush (v := 108) dX2_hasLease_11 (by decide) ?_
      refine Ex_icmp_ne (tgt := 23) dX2_hasLease_13 (by decide) ?_ ?_
      · refine Ex_lv [] (lv' := []) rfl ?_
        exact hj38 ()
      · refine Ex_aload_n dX2_hasLease_16 rfl 0 rfl ?_
        refine Ex_bnI (Inv_V (L_X2_hasCommittedOwn hG a0) (lw_V q1669 q1670 q1671 q50 q1672) oe_2 ⟨rfl, hm_X2_hasCommittedOwn⟩ (by decide) (by decide) dX2_hasLease_17 rfl (Nat.le_of_ble_eq_true rfl)) (fun r40 => ?_)
        refine Ex_if_ne (tgt := 25) dX2_hasLease_20 (by decide) ?_ ?_
        · refine Ex_aload_n dX2_hasLease_25 rfl 0 rfl ?_
          refine Ex_bnI (Inv_V (L_X2_latestAnswered hG a0) (lw_V q1127 q1129 qs14 q50 q1130) oe_2 ⟨rfl, hm_X2_latestAnswered⟩ (by decide) (by decide) dX2_hasLease_26 rfl (Nat.le_of_ble_eq_true rfl)) (fun r41 => ?_)
          refine Ex_istore_n (lv' := [(0, .ref a0), (1, .int r41)]) dX2_hasLease_29 rfl (by decide) [1, 0] rfl ?_
          refine Ex_iload_n dX2_hasLease_30 rfl 1 rfl ?_
          refine Ex_jn (γ := Int32) (pj := 65) (fun v42 => []) (fun v42 => [.int v42]) (fun v42 => ?_) (fun j43 hj43 => ?_)
          · refine Ex_ck (fun hz => ?_)
            exact Ex_zreturn dX2_hasLease_65 rfl (zok_n hz)
          · refine Ex_jn (γ := Unit) (pj := 64) (fun v44 => []) (fun v44 => []) (fun v44 => ?_) (fun j45 hj45 => ?_)
            · refine Ex_iconst (v := 0) dX2_hasLease_64 (by decide) ?_
              exact hj43 0
            · refine Ex_if_le (tgt := 64) dX2_hasLease_31 (by decide) ?_ ?_
              · refine Ex_lv [] (lv' := []) rfl ?_
                exact hj45 ()
              · refine Ex_aload_n dX2_hasLease_34 rfl 0 rfl ?_
                refine Ex_gI dX2_hasLease_35 lk_X2_186 rfl (fun x46 => ?_)
                refine Ex_aload_n dX2_hasLease_38 rfl 0 rfl ?_
                refine Ex_gR dX2_hasLease_39 lk_X2_57 rfl (fun x47 => ?_)
                refine Ex_iload_n dX2_hasLease_42 rfl 1 rfl ?_
                refine Ex_iconst (v := 1) dX2_hasLease_43 (by decide) ?_
                refine Ex_isub dX2_hasLease_44 ?_
                refine Ex_bnR (Inv_V (L_J2_get hG x47 (r41 - 1)) (lw_V q414 q415 q416 q48 q417) oe_22 ⟨rfl, hm_J2_get⟩ (by decide) (by decide) dX2_hasLease_45 rfl (Nat.le_of_ble_eq_true rfl)) (fun r48 => ?_)
                refine Ex_ko dX2_hasLease_48 q927 oc_java_lang_Integer_24 ?_
                refine Ex_bnI (Inv_V (L_J14_intValue hG r48) (lw_V q928 q670 q671 q68 q672) oe_24 ⟨rfl, hm_J14_intValue⟩ (by decide) (by decide) dX2_hasLease_51 rfl (Nat.le_of_ble_eq_true rfl)) (fun r49 => ?_)
                refine Ex_isub dX2_hasLease_54 ?_
                refine Ex_bipush (v := 6) dX2_hasLease_55 (by decide) ?_
                refine Ex_icmp_ge (tgt := 64) dX2_hasLease_57 (by decide) ?_ ?_
                · refine Ex_lv [] (lv' := []) rfl ?_
                  exact hj45 ()
                · refine Ex_iconst (v := 1) dX2_hasLease_60 (by decide) ?_
                  refine Ex_goto (tgt := 65) dX2_hasLease_61 (by decide) ?_
                  refine Ex_lv [] (lv' := []) rfl ?_
                  exact hj43 1
        · refine Ex_lv [] (lv' := []) rfl ?_
          exact hj38 ()
-- QuorumAlmanac$Node.isBound()Z
def m_X2_isBound (a0 : Nat) : Ms Int32 :=
  gI [2] 7 a0 fun x26 =>
  gI [2] 11 a0 fun x27 =>
  jn (fun (v28 : Int32) =>
      ck (v28 = 0 ∨ v28 = 1) <|
      rt v28)
    fun j29 =>
    jn (fun (v30 : Unit) =>
        j29 1)
      fun j31 =>
      if (x26 - x27) < 10 then
        j31 ()
      else
        bn (ko [2] a0 (m_X2_hasLease a0)) fun r32 =>
        if r32 = 0 then
          j29 0
        else
          j31 ()
theorem hm_X2_isBound : (yX2_isBound.cls ≠ "java/lang/invoke/MethodHandle" ∧ yX2_isBound.cls ≠ "java/lang/invoke/VarHandle" ∧ (parseMethodDescriptor yX2_isBound.desc).map (fun d => d.parameters.length) = some 0) := by decide +kernel
set_option maxHeartbeats 4000000 in
set_option maxRecDepth 100000 in
theorem L_X2_isBound {G : GT} (hG : GOK G) (a0 : Nat) : Cal G yX2_isBound (ws_ yX2_isBound cX2_isBound 1 (Option.some Jvm.ClassFile.FieldType.boolean)) 9 210 [.ref a0] rI (m_X2_isBound a0) := by
  refine Cal_of hG (by decide +kernel) (Nat.le_of_ble_eq_true rfl) (lv0 := [(0, .ref a0)]) rfl (fun X σ0 => ?_)
  delta m_X2_isBound
  refine Ex_aload_n dX2_isBound_0 rfl 0 rfl ?_
  refine Ex_gI dX2_isBound_1 lk_X2_186 rfl (fun x26 => ?_)
  refine Ex_aload_n dX2_isBound_4 rfl 0 rfl ?_
  refine Ex_gI dX2_isBound_5 lk_X2_27 rfl (fun x27 => ?_)
  refine Ex_isub dX2_isBound_8 ?_
  refine Ex_bipush (v := 10) dX2_isBound_9 (by decide) ?_
  refine Ex_jn (γ := Int32) (pj := 26) (fun v28 => []) (fun v28 => [.int v28]) (fun v28 => ?_) (fun j29 hj29 => ?_)
  · refine Ex_ck (fun hz => ?_)
    exact Ex_zreturn dX2_isBound_26 rfl (zok_n hz)
  · refine Ex_jn (γ := Unit) (pj := 21) (fun v30 => []) (fun v30 => []) (fun v30 => ?_) (fun j31 hj31 => ?_)
    · refine Ex_iconst (v := 1) dX2_isBound_21 (by decide) ?_
      refine Ex_goto (tgt := 26) dX2_isBound_22 (by decide) ?_
      exact hj29 1
    · refine Ex_icmp_lt (tgt := 21) dX2_isBound_11 (by decide) ?_ ?_
      · refine Ex_lv [] (lv' := []) rfl ?_
        exact hj31 ()
      · refine Ex_aload_n dX2_isBound_14 rfl 0 rfl ?_
        refine Ex_bnI (Inv_V (L_X2_hasLease hG a0) (lw_V q1665 q1666 q1667 q50 q1668) oe_2 ⟨rfl, hm_X2_hasLease⟩ (by decide) (by decide) dX2_isBound_15 rfl (Nat.le_of_ble_eq_true rfl)) (fun r32 => ?_)
        refine Ex_if_eq (tgt := 25) dX2_isBound_18 (by decide) ?_ ?_
        · refine Ex_iconst (v := 0) dX2_isBound_25 (by decide) ?_
          refine Ex_lv [] (lv' := []) rfl ?_
          exact hj29 0
        · refine Ex_lv [] (lv' := []) rfl ?_
          exact hj31 ()
-- QuorumAlmanac$Voice.<init>(IIIIZ)V
def m_X20_init (a0 : Nat) (x1 : Int32) (x2 : Int32) (x3 : Int32) (x4 : Int32) (x5 : Int32) : Ms Unit :=
  bn (m_X10_init a0 x1 x2 x3 x4) fun _ =>
  ck (x5 = 0 ∨ x5 = 1) <|
  pV [12] 40 a0 (.int x5) <|
  rt ()
theorem hm_X20_init : (yX20_init.cls ≠ "java/lang/invoke/MethodHandle" ∧ yX20_init.cls ≠ "java/lang/invoke/VarHandle" ∧ (parseMethodDescriptor yX20_init.desc).map (fun d => d.parameters.length) = some 5) := by decide +kernel
set_option maxHeartbeats 4000000 in
set_option maxRecDepth 100000 in
theorem L_X20_init {G : GT} (hG : GOK G) (a0 : Nat) (x1 : Int32) (x2 : Int32) (x3 : Int32) (x4 : Int32) (x5 : Int32) : Cal G yX20_init (ws_ yX20_init cX20_init 6 (Option.none : Option Jvm.ClassFile.FieldType)) 3 84 [.ref a0, .int x1, .int x2, .int x3, .int x4, .int x5] rU (m_X20_init a0 x1 x2 x3 x4 x5) := by
  refine Cal_of hG (by decide +kernel) (Nat.le_of_ble_eq_true rfl) (lv0 := [(0, .ref a0), (1, .int x1), (2, .int x2), (3, .int x3), (4, .int x4), (5, .int x5)]) rfl (fun X σ0 => ?_)
  delta m_X20_init
  refine Ex_aload_n dX20_init_0 rfl 0 rfl ?_
  refine Ex_iload_n dX20_init_1 rfl 1 rfl ?_
  refine Ex_iload_n dX20_init_2 rfl 2 rfl ?_
  refine Ex_iload_n dX20_init_3 rfl 3 rfl ?_
  refine Ex_iload dX20_init_4 4 rfl ?_
  refine Ex_bnU (Inv_I (L_X10_init hG a0 x1 x2 x3 x4) q73 q1683 q1005 q1006 rfl hm_X10_init (by decide) (by decide) dX20_init_6 rfl (Nat.le_of_ble_eq_true rfl)) (fun _ => ?_)
  refine Ex_aload_n dX20_init_9 rfl 0 rfl ?_
  refine Ex_iload dX20_init_10 5 rfl ?_
  refine Ex_ck (fun hz => ?_)
  refine Ex_pVF dX20_init_12 lkf_X20_7 rfl rfl rfl rfl (zok_n hz) (zok_f hz) ?_
  exact Ex_vreturn dX20_init_15 rfl
-- QuorumAlmanac$Node.answerWish(LQuorumAlmanac$Wish;)V
def m_X2_answerWish (a0 : Nat) (a1 : Nat) : Ms Unit :=
  gI [8] 31 a1 fun x64 =>
  bn (ko [2] a0 (m_X2_last a0)) fun r65 =>
  bn (ko [2] a0 (m_X2_termAt a0 r65)) fun r66 =>
  jn (fun (v67 : Int32) =>
      gI [8] 25 a1 fun x69 =>
      gI [2] 8 a0 fun x70 =>
      jn (fun (v71 : Int32) =>
          jn (fun (v73 : Unit) =>
              gR [2] 115 a0 fun x75 =>
              nO 12 5 dfl fun a76 =>
              gR [2] 115 a0 fun x77 =>
              bn (ko [1] x77 (m_X1_nextMessage x77)) fun r78 =>
              gI [2] 4 a0 fun x79 =>
              gI [8] 23 a1 fun x80 =>
              gI [2] 8 a0 fun x81 =>
              bn (m_X20_init a76 r78 x79 x80 x81 v71) fun _ =>
              bn (ko [1] x75 (m_X1_send x75 a76)) fun _ =>
              rt ())
            fun j74 =>
            if v71 = 0 then
              j74 ()
            else
              gI [8] 23 a1 fun x82 =>
              pV [2] 9 a0 (.int x82) <|
              gI [2] 7 a0 fun x83 =>
              pV [2] 10 a0 (.int x83) <|
              j74 ())
        fun j72 =>
        jn (fun (v84 : Unit) =>
            j72 0)
          fun j85 =>
          if ¬ x69 = x70 then
            j85 ()
          else
            gI [2] 9 a0 fun x86 =>
            jn (fun (v87 : Unit) =>
                if ¬ v67 = 0 then
                  j85 ()
                else
                  j72 1)
              fun j88 =>
              if x86 = (-1) then
                j88 ()
              else
                gI [2] 9 a0 fun x89 =>
                gI [8] 23 a1 fun x90 =>
                if ¬ x89 = x90 then
                  j85 ()
                else
                  j88 ())
    fun j68 =>
    jn (fun (v91 : Unit) =>
        j68 1)
      fun j92 =>
      if x64 < r66 then
        j92 ()
      else
        gI [8] 31 a1 fun x93 =>
        bn (ko [2] a0 (m_X2_last a0)) fun r94 =>
        bn (ko [2] a0 (m_X2_termAt a0 r94)) fun r95 =>
        jn (fun (v96 : Unit) =>
            j68 0)
          fun j97 =>
          if ¬ x93 = r95 then
            j97 ()
          else
            gI [8] 30 a1 fun x98 =>
            bn (ko [2] a0 (m_X2_last a0)) fun r99 =>
            if r99 ≤ x98 then
              j97 ()
            else
              j92 ()
theorem hm_X2_answerWish : (yX2_answerWish.cls ≠ "java/lang/invoke/MethodHandle" ∧ yX2_answerWish.cls ≠ "java/lang/invoke/VarHandle" ∧ (parseMethodDescriptor yX2_answerWish.desc).map (fun d => d.parameters.length) = some 1) := by decide +kernel
set_option maxHeartbeats 4000000 in
set_option maxRecDepth 100000 in
theorem L_X2_answerWish {G : GT} (hG : GOK G) (a0 : Nat) (a1 : Nat) : Cal G yX2_answerWish (ws_ yX2_answerWish cX2_answerWish 4 (Option.none : Option Jvm.ClassFile.FieldType)) 9 212 [.ref a0, .ref a1] rU (m_X2_answerWish a0 a1) := by
  refine Cal_of hG (by decide +kernel) (Nat.le_of_ble_eq_true rfl) (lv0 := [(0, .ref a0), (1, .ref a1)]) rfl (fun X σ0 => ?_)
  delta m_X2_answerWish
  refine Ex_aload_n dX2_answerWish_0 rfl 1 rfl ?_
  refine Ex_gI dX2_answerWish_1 lk_X2_233 rfl (fun x64 => ?_)
  refine Ex_aload_n dX2_answerWish_4 rfl 0 rfl ?_
  refine Ex_aload_n dX2_answerWish_5 rfl 0 rfl ?_
  refine Ex_bnI (Inv_V (L_X2_last hG a0) (lw_V q978 q108 q109 q50 q110) oe_2 ⟨rfl, hm_X2_last⟩ (by decide) (by decide) dX2_answerWish_6 rfl (Nat.le_of_ble_eq_true rfl)) (fun r65 => ?_)
  refine Ex_bnI (Inv_V (L_X2_termAt hG a0 r65) (lw_V q1096 q744 q745 q50 q746) oe_2 ⟨rfl, hm_X2_termAt⟩ (by decide) (by decide) dX2_answerWish_9 rfl (Nat.le_of_ble_eq_true rfl)) (fun r66 => ?_)
  refine Ex_jn (γ := Int32) (pj := 46) (fun v67 => [(0, .ref a0), (1, .ref a1)]) (fun v67 => [.int v67]) (fun v67 => ?_) (fun j68 hj68 => ?_)
  · refine Ex_istore_n (lv' := [(0, .ref a0), (1, .ref a1), (2, .int v67)]) dX2_answerWish_46 rfl (by decide) [1, 2, 0] rfl ?_
    refine Ex_aload_n dX2_answerWish_47 rfl 1 rfl ?_
    refine Ex_gI dX2_answerWish_48 lk_X2_239 rfl (fun x69 => ?_)
    refine Ex_aload_n dX2_answerWish_51 rfl 0 rfl ?_
    refine Ex_gI dX2_answerWish_52 lk_X2_143 rfl (fun x70 => ?_)
    refine Ex_jn (γ := Int32) (pj := 86) (fun v71 => [(0, .ref a0), (1, .ref a1)]) (fun v71 => [.int v71]) (fun v71 => ?_) (fun j72 hj72 => ?_)
    · refine Ex_istore_n (lv' := [(0, .ref a0), (1, .ref a1), (3, .int v71)]) dX2_answerWish_86 rfl (by decide) [1, 2, 0] rfl ?_
      refine Ex_iload_n dX2_answerWish_87 rfl 2 rfl ?_
      refine Ex_jn (γ := Unit) (pj := 107) (fun v73 => [(0, .ref a0), (1, .ref a1), (3, .int v71)]) (fun v73 => []) (fun v73 => ?_) (fun j74 hj74 => ?_)
      · refine Ex_aload_n dX2_answerWish_107 rfl 0 rfl ?_
        refine Ex_gR dX2_answerWish_108 lk_X2_3 rfl (fun x75 => ?_)
        refine Ex_nO (ci := 11) (q := qcl 11) dX2_answerWish_111 rfl q1678 q1679 q86 (fun a76 => ?_)
        refine Ex_dup rfl dX2_answerWish_114 ?_
        refine Ex_aload_n dX2_answerWish_115 rfl 0 rfl ?_
        refine Ex_gR dX2_answerWish_116 lk_X2_3 rfl (fun x77 => ?_)
        refine Ex_bnI (Inv_VN (L_X1_nextMessage hG x77) q45 q994 q996 q997 qs10 oe_1 hm_X1_nextMessage (by decide) (by decide) dX2_answerWish_119 rfl (Nat.le_of_ble_eq_true rfl)) (fun r78 => ?_)
        refine Ex_aload_n dX2_answerWish_122 rfl 0 rfl ?_
        refine Ex_gI dX2_answerWish_123 lk_X2_60 rfl (fun x79 => ?_)
        refine Ex_aload_n dX2_answerWish_126 rfl 1 rfl ?_
        refine Ex_gI dX2_answerWish_127 lk_X2_240 rfl (fun x80 => ?_)
        refine Ex_aload_n dX2_answerWish_130 rfl 0 rfl ?_
        refine Ex_gI dX2_answerWish_131 lk_X2_143 rfl (fun x81 => ?_)
        refine Ex_iload_n dX2_answerWish_134 rfl 2 rfl ?_
        refine Ex_bnU (Inv_I (L_X20_init hG a76 r78 x79 x80 x81 v71) q86 q1680 q1681 q1682 rfl hm_X20_init (by decide) (by decide) dX2_answerWish_135 rfl (Nat.le_of_ble_eq_true rfl)) (fun _ => ?_)
        refine Ex_bnU (Inv_VN (L_X1_send hG x75 a76) q45 q1080 q1082 q1083 qs11 oe_1 hm_X1_send (by decide) (by decide) dX2_answerWish_138 rfl (Nat.le_of_ble_eq_true rfl)) (fun _ => ?_)
        exact Ex_vreturn dX2_answerWish_141 rfl
      · refine Ex_if_eq (tgt := 107) dX2_answerWish_88 (by decide) ?_ ?_
        · exact hj74 ()
        · refine Ex_aload_n dX2_answerWish_91 rfl 0 rfl ?_
          refine Ex_aload_n dX2_answerWish_92 rfl 1 rfl ?_
          refine Ex_gI dX2_answerWish_93 lk_X2_240 rfl (fun x82 => ?_)
          refine Ex_pV dX2_answerWish_96 lk_X2_23 rfl rfl rfl rfl ?_
          refine Ex_aload_n dX2_answerWish_99 rfl 0 rfl ?_
          refine Ex_aload_n dX2_answerWish_100 rfl 0 rfl ?_
          refine Ex_gI dX2_answerWish_101 lk_X2_186 rfl (fun x83 => ?_)
          refine Ex_pV dX2_answerWish_104 lk_X2_199 rfl rfl rfl rfl ?_
          exact hj74 ()
    · refine Ex_jn (γ := Unit) (pj := 85) (fun v84 => [(0, .ref a0), (1, .ref a1)]) (fun v84 => []) (fun v84 => ?_) (fun j85 hj85 => ?_)
      · refine Ex_iconst (v := 0) dX2_answerWish_85 (by decide) ?_
        exact hj72 0
      · refine Ex_icmp_ne (tgt := 85) dX2_answerWish_55 (by decide) ?_ ?_
        · refine Ex_lv [0, 1] (lv' := [(0, .ref a0), (1, .ref a1)]) rfl ?_
          exact hj85 ()
        · refine Ex_aload_n dX2_answerWish_58 rfl 0 rfl ?_
          refine Ex_gI dX2_answerWish_59 lk_X2_23 rfl (fun x86 => ?_)
          refine Ex_iconst (v := (-1)) dX2_answerWish_62 (by decide) ?_
          refine Ex_jn (γ := Unit) (pj := 77) (fun v87 => [(0, .ref a0), (1, .ref a1), (2, .int v67)]) (fun v87 => []) (fun v87 => ?_) (fun j88 hj88 => ?_)
          · refine Ex_iload_n dX2_answerWish_77 rfl 2 rfl ?_
            refine Ex_if_ne (tgt := 85) dX2_answerWish_78 (by decide) ?_ ?_
            · refine Ex_lv [0, 1] (lv' := [(0, .ref a0), (1, .ref a1)]) rfl ?_
              exact hj85 ()
            · refine Ex_iconst (v := 1) dX2_answerWish_81 (by decide) ?_
              refine Ex_goto (tgt := 86) dX2_answerWish_82 (by decide) ?_
              refine Ex_lv [0, 1] (lv' := [(0, .ref a0), (1, .ref a1)]) rfl ?_
              exact hj72 1
          · refine Ex_icmp_eq (tgt := 77) dX2_answerWish_63 (by decide) ?_ ?_
            · exact hj88 ()
            · refine Ex_aload_n dX2_answerWish_66 rfl 0 rfl ?_
              refine Ex_gI dX2_answerWish_67 lk_X2_23 rfl (fun x89 => ?_)
              refine Ex_aload_n dX2_answerWish_70 rfl 1 rfl ?_
              refine Ex_gI dX2_answerWish_71 lk_X2_240 rfl (fun x90 => ?_)
              refine Ex_icmp_ne (tgt := 85) dX2_answerWish_74 (by decide) ?_ ?_
              · refine Ex_lv [0, 1] (lv' := [(0, .ref a0), (1, .ref a1)]) rfl ?_
                exact hj85 ()
              · exact hj88 ()
  · refine Ex_jn (γ := Unit) (pj := 41) (fun v91 => [(0, .ref a0), (1, .ref a1)]) (fun v91 => []) (fun v91 => ?_) (fun j92 hj92 => ?_)
    · refine Ex_iconst (v := 1) dX2_answerWish_41 (by decide) ?_
      refine Ex_goto (tgt := 46) dX2_answerWish_42 (by decide) ?_
      exact hj68 1
    · refine Ex_icmp_lt (tgt := 41) dX2_answerWish_12 (by decide) ?_ ?_
      · exact hj92 ()
      · refine Ex_aload_n dX2_answerWish_15 rfl 1 rfl ?_
        refine Ex_gI dX2_answerWish_16 lk_X2_233 rfl (fun x93 => ?_)
        refine Ex_aload_n dX2_answerWish_19 rfl 0 rfl ?_
        refine Ex_aload_n dX2_answerWish_20 rfl 0 rfl ?_
        refine Ex_bnI (Inv_V (L_X2_last hG a0) (lw_V q978 q108 q109 q50 q110) oe_2 ⟨rfl, hm_X2_last⟩ (by decide) (by decide) dX2_answerWish_21 rfl (Nat.le_of_ble_eq_true rfl)) (fun r94 => ?_)
        refine Ex_bnI (Inv_V (L_X2_termAt hG a0 r94) (lw_V q1096 q744 q745 q50 q746) oe_2 ⟨rfl, hm_X2_termAt⟩ (by decide) (by decide) dX2_answerWish_24 rfl (Nat.le_of_ble_eq_true rfl)) (fun r95 => ?_)
        refine Ex_jn (γ := Unit) (pj := 45) (fun v96 => [(0, .ref a0), (1, .ref a1)]) (fun v96 => []) (fun v96 => ?_) (fun j97 hj97 => ?_)
        · refine Ex_iconst (v := 0) dX2_answerWish_45 (by decide) ?_
          exact hj68 0
        · refine Ex_icmp_ne (tgt := 45) dX2_answerWish_27 (by decide) ?_ ?_
          · exact hj97 ()
          · refine Ex_aload_n dX2_answerWish_30 rfl 1 rfl ?_
            refine Ex_gI dX2_answerWish_31 lk_X2_236 rfl (fun x98 => ?_)
            refine Ex_aload_n dX2_answerWish_34 rfl 0 rfl ?_
            refine Ex_bnI (Inv_V (L_X2_last hG a0) (lw_V q978 q108 q109 q50 q110) oe_2 ⟨rfl, hm_X2_last⟩ (by decide) (by decide) dX2_answerWish_35 rfl (Nat.le_of_ble_eq_true rfl)) (fun r99 => ?_)
            refine Ex_icmp_ge (tgt := 45) dX2_answerWish_38 (by decide) ?_ ?_
            · exact hj97 ()
            · exact hj92 ()
-- QuorumAlmanac$Wish.come(LQuorumAlmanac$Node;)V
def m_X14_come (a0 : Nat) (a1 : Nat) : Ms Unit :=
  bn (ko [2] a1 (m_X2_isBound a1)) fun r22 =>
  jn (fun (v23 : Unit) =>
      rt ())
    fun j24 =>
    if ¬ r22 = 0 then
      j24 ()
    else
      bn (ko [8] a0 (m_X10_come a0 a1)) fun _ =>
      bn (ko [2] a1 (m_X2_answerWish a1 a0)) fun _ =>
      j24 ()
theorem hm_X14_come : (yX14_come.cls ≠ "java/lang/invoke/MethodHandle" ∧ yX14_come.cls ≠ "java/lang/invoke/VarHandle" ∧ (parseMethodDescriptor yX14_come.desc).map (fun d => d.parameters.length) = some 1) := by decide +kernel
set_option maxHeartbeats 4000000 in
set_option maxRecDepth 100000 in
theorem L_X14_come {G : GT} (hG : GOK G) (a0 : Nat) (a1 : Nat) : Cal G yX14_come (ws_ yX14_come cX14_come 2 (Option.none : Option Jvm.ClassFile.FieldType)) 10 235 [.ref a0, .ref a1] rU (m_X14_come a0 a1) := by
  refine Cal_of hG (by decide +kernel) (Nat.le_of_ble_eq_true rfl) (lv0 := [(0, .ref a0), (1, .ref a1)]) rfl (fun X σ0 => ?_)
  delta m_X14_come
  refine Ex_aload_n dX14_come_0 rfl 1 rfl ?_
  refine Ex_bnI (Inv_V (L_X2_isBound hG a1) (lw_V q1661 q1662 q1663 q50 q1664) oe_2 ⟨rfl, hm_X2_isBound⟩ (by decide) (by decide) dX14_come_1 rfl (Nat.le_of_ble_eq_true rfl)) (fun r22 => ?_)
  refine Ex_jn (γ := Unit) (pj := 17) (fun v23 => []) (fun v23 => []) (fun v23 => ?_) (fun j24 hj24 => ?_)
  · exact Ex_vreturn dX14_come_17 rfl
  · refine Ex_if_ne (tgt := 17) dX14_come_4 (by decide) ?_ ?_
    · refine Ex_lv [] (lv' := []) rfl ?_
      exact hj24 ()
    · refine Ex_aload_n dX14_come_7 rfl 0 rfl ?_
      refine Ex_aload_n dX14_come_8 rfl 1 rfl ?_
      refine Ex_bnU (Inv_SU (L_X10_come hG a0 a1) (lw_SU q1673 q1550 q1244 q1549 q73 q1558) ok_8 ⟨by decide, hm_X10_come.2.2⟩ (by decide) (by decide) dX14_come_9 rfl (Nat.le_of_ble_eq_true rfl)) (fun _ => ?_)
      refine Ex_aload_n dX14_come_12 rfl 1 rfl ?_
      refine Ex_aload_n dX14_come_13 rfl 0 rfl ?_
      refine Ex_bnU (Inv_V (L_X2_answerWish hG a1 a0) (lw_V q1674 q1675 q1676 q50 q1677) oe_2 ⟨rfl, hm_X2_answerWish⟩ (by decide) (by decide) dX14_come_14 rfl (Nat.le_of_ble_eq_true rfl)) (fun _ => ?_)
      refine Ex_lv [] (lv' := []) rfl ?_
      exact hj24 ()
-- QuorumAlmanac$Node.take(LQuorumAlmanac$Answer;)V
def m_X2_take (a0 : Nat) (a1 : Nat) : Ms Unit :=
  gI [10] 23 a1 fun x54 =>
  gI [10] 36 a1 fun x55 =>
  jn (fun (v56 : Unit) =>
      gR [2] 113 a0 fun x58 =>
      gR [2] 113 a0 fun x59 =>
      aI 30 x59 x54 fun x60 =>
      gI [10] 26 a1 fun x61 =>
      sV 30 x58 x54 (.int (iMax x60 x61)) <|
      bn (ko [2] a0 (m_X2_commitWhatAgrees a0)) fun _ =>
      bn (ko [2] a0 (m_X2_readyReads a0)) fun _ =>
      rt ())
    fun j57 =>
    if ¬ x55 = 114 then
      gI [10] 37 a1 fun x62 =>
      gR [2] 112 a0 fun x63 =>
      aI 30 x63 x54 fun x64 =>
      if x62 ≤ x64 then
        j57 ()
      else
        gR [2] 112 a0 fun x65 =>
        gI [10] 37 a1 fun x66 =>
        sV 30 x65 x54 (.int x66) <|
        gR [2] 111 a0 fun x67 =>
        gR [2] 111 a0 fun x68 =>
        aI 30 x68 x54 fun x69 =>
        gI [10] 37 a1 fun x70 =>
        sV 30 x67 x54 (.int (iMax x69 (x70 + 1))) <|
        j57 ()
    else
      gR [2] 111 a0 fun x71 =>
      gI [10] 37 a1 fun x72 =>
      sV 30 x71 x54 (.int (x72 + 1)) <|
      j57 ()
theorem hm_X2_take : (yX2_take.cls ≠ "java/lang/invoke/MethodHandle" ∧ yX2_take.cls ≠ "java/lang/invoke/VarHandle" ∧ (parseMethodDescriptor yX2_take.desc).map (fun d => d.parameters.length) = some 1) := by decide +kernel
set_option maxHeartbeats 4000000 in
set_option maxRecDepth 100000 in
theorem L_X2_take {G : GT} (hG : GOK G) (a0 : Nat) (a1 : Nat) : Cal G yX2_take (ws_ yX2_take cX2_take 3 (Option.none : Option Jvm.ClassFile.FieldType)) 11 258 [.ref a0, .ref a1] rU (m_X2_take a0 a1) := by
  refine Cal_of hG (by decide +kernel) (Nat.le_of_ble_eq_true rfl) (lv0 := [(0, .ref a0), (1, .ref a1)]) rfl (fun X σ0 => ?_)
  delta m_X2_take
  refine Ex_aload_n dX2_take_0 rfl 1 rfl ?_
  refine Ex_gI dX2_take_1 lk_X2_357 rfl (fun x54 => ?_)
  refine Ex_istore_n (lv' := [(0, .ref a0), (1, .ref a1), (2, .int x54)]) dX2_take_4 rfl (by decide) [1, 2, 0] rfl ?_
  refine Ex_aload_n dX2_take_5 rfl 1 rfl ?_
  refine Ex_gI dX2_take_6 lk_X2_358 rfl (fun x55 => ?_)
  refine Ex_bipush (v := 114) dX2_take_9 (by decide) ?_
  refine Ex_jn (γ := Unit) (pj := 73) (fun v56 => [(0, .ref a0), (1, .ref a1), (2, .int x54)]) (fun v56 => []) (fun v56 => ?_) (fun j57 hj57 => ?_)
  · refine Ex_aload_n dX2_take_73 rfl 0 rfl ?_
    refine Ex_gR dX2_take_74 lk_X2_54 rfl (fun x58 => ?_)
    refine Ex_iload_n dX2_take_77 rfl 2 rfl ?_
    refine Ex_aload_n dX2_take_78 rfl 0 rfl ?_
    refine Ex_gR dX2_take_79 lk_X2_54 rfl (fun x59 => ?_)
    refine Ex_iload_n dX2_take_82 rfl 2 rfl ?_
    refine Ex_aI_i dX2_take_83 (fun x60 => ?_)
    refine Ex_aload_n dX2_take_84 rfl 1 rfl ?_
    refine Ex_gI dX2_take_85 lk_X2_362 rfl (fun x61 => ?_)
    refine Ex_mmax dX2_take_88 q1377 q152 q49 q153 (by decide) (Nat.le_of_ble_eq_true rfl) ?_
    refine Ex_iast dX2_take_91 ?_
    refine Ex_aload_n dX2_take_92 rfl 0 rfl ?_
    refine Ex_bnU (Inv_V (L_X2_commitWhatAgrees hG a0) (lw_V q1291 q1293 qs19 q50 q1294) oe_2 ⟨rfl, hm_X2_commitWhatAgrees⟩ (by decide) (by decide) dX2_take_93 rfl (Nat.le_of_ble_eq_true rfl)) (fun _ => ?_)
    refine Ex_aload_n dX2_take_96 rfl 0 rfl ?_
    refine Ex_bnU (Inv_V (L_X2_readyReads hG a0) (lw_V q1123 q1125 qs13 q50 q1126) oe_2 ⟨rfl, hm_X2_readyReads⟩ (by decide) (by decide) dX2_take_97 rfl (Nat.le_of_ble_eq_true rfl)) (fun _ => ?_)
    exact Ex_vreturn dX2_take_100 rfl
  · refine Ex_icmp_ne (tgt := 29) dX2_take_11 (by decide) ?_ ?_
    · refine Ex_aload_n dX2_take_29 rfl 1 rfl ?_
      refine Ex_gI dX2_take_30 lk_X2_361 rfl (fun x62 => ?_)
      refine Ex_aload_n dX2_take_33 rfl 0 rfl ?_
      refine Ex_gR dX2_take_34 lk_X2_51 rfl (fun x63 => ?_)
      refine Ex_iload_n dX2_take_37 rfl 2 rfl ?_
      refine Ex_aI_i dX2_take_38 (fun x64 => ?_)
      refine Ex_icmp_le (tgt := 73) dX2_take_39 (by decide) ?_ ?_
      · exact hj57 ()
      · refine Ex_aload_n dX2_take_42 rfl 0 rfl ?_
        refine Ex_gR dX2_take_43 lk_X2_51 rfl (fun x65 => ?_)
        refine Ex_iload_n dX2_take_46 rfl 2 rfl ?_
        refine Ex_aload_n dX2_take_47 rfl 1 rfl ?_
        refine Ex_gI dX2_take_48 lk_X2_361 rfl (fun x66 => ?_)
        refine Ex_iast dX2_take_51 ?_
        refine Ex_aload_n dX2_take_52 rfl 0 rfl ?_
        refine Ex_gR dX2_take_53 lk_X2_47 rfl (fun x67 => ?_)
        refine Ex_iload_n dX2_take_56 rfl 2 rfl ?_
        refine Ex_aload_n dX2_take_57 rfl 0 rfl ?_
        refine Ex_gR dX2_take_58 lk_X2_47 rfl (fun x68 => ?_)
        refine Ex_iload_n dX2_take_61 rfl 2 rfl ?_
        refine Ex_aI_i dX2_take_62 (fun x69 => ?_)
        refine Ex_aload_n dX2_take_63 rfl 1 rfl ?_
        refine Ex_gI dX2_take_64 lk_X2_361 rfl (fun x70 => ?_)
        refine Ex_iconst (v := 1) dX2_take_67 (by decide) ?_
        refine Ex_iadd dX2_take_68 ?_
        refine Ex_mmax dX2_take_69 q1377 q152 q49 q153 (by decide) (Nat.le_of_ble_eq_true rfl) ?_
        refine Ex_iast dX2_take_72 ?_
        exact hj57 ()
    · refine Ex_aload_n dX2_take_14 rfl 0 rfl ?_
      refine Ex_gR dX2_take_15 lk_X2_47 rfl (fun x71 => ?_)
      refine Ex_iload_n dX2_take_18 rfl 2 rfl ?_
      refine Ex_aload_n dX2_take_19 rfl 1 rfl ?_
      refine Ex_gI dX2_take_20 lk_X2_361 rfl (fun x72 => ?_)
      refine Ex_iconst (v := 1) dX2_take_23 (by decide) ?_
      refine Ex_iadd dX2_take_24 ?_
      refine Ex_iast dX2_take_25 ?_
      refine Ex_goto (tgt := 73) dX2_take_26 (by decide) ?_
      exact hj57 ()
-- QuorumAlmanac$Answer.come(LQuorumAlmanac$Node;)V
def m_X18_come (a0 : Nat) (a1 : Nat) : Ms Unit :=
  bn (ko [10] a0 (m_X10_come a0 a1)) fun _ =>
  gI [10] 36 a0 fun x28 =>
  jn (fun (v29 : Unit) =>
      rt ())
    fun j30 =>
    if x28 = 116 then
      j30 ()
    else
      gI [2] 6 a1 fun x31 =>
      if ¬ x31 = 108 then
        j30 ()
      else
        gI [2] 8 a1 fun x32 =>
        gI [10] 25 a0 fun x33 =>
        if ¬ x32 = x33 then
          j30 ()
        else
          bn (ko [2] a1 (m_X2_take a1 a0)) fun _ =>
          j30 ()
theorem hm_X18_come : (yX18_come.cls ≠ "java/lang/invoke/MethodHandle" ∧ yX18_come.cls ≠ "java/lang/invoke/VarHandle" ∧ (parseMethodDescriptor yX18_come.desc).map (fun d => d.parameters.length) = some 1) := by decide +kernel
set_option maxHeartbeats 4000000 in
set_option maxRecDepth 100000 in
theorem L_X18_come {G : GT} (hG : GOK G) (a0 : Nat) (a1 : Nat) : Cal G yX18_come (ws_ yX18_come cX18_come 2 (Option.none : Option Jvm.ClassFile.FieldType)) 12 280 [.ref a0, .ref a1] rU (m_X18_come a0 a1) := by
  refine Cal_of hG (by decide +kernel) (Nat.le_of_ble_eq_true rfl) (lv0 := [(0, .ref a0), (1, .ref a1)]) rfl (fun X σ0 => ?_)
  delta m_X18_come
  refine Ex_aload_n dX18_come_0 rfl 0 rfl ?_
  refine Ex_aload_n dX18_come_1 rfl 1 rfl ?_
  refine Ex_bnU (Inv_SU2 (x := ⟨"QuorumAlmanac$RoundMessage", "come", "(LQuorumAlmanac$Node;)V"⟩) (L_X10_come hG a0 a1) q1554 q1555 q1343 q1557 q1549 q73 q1558 rfl ok_10 ⟨by decide, hm_X10_come.2.2⟩ (by decide) (by decide) dX18_come_2 rfl (Nat.le_of_ble_eq_true rfl)) (fun _ => ?_)
  refine Ex_aload_n dX18_come_5 rfl 0 rfl ?_
  refine Ex_gI dX18_come_6 lk_X18_7 rfl (fun x28 => ?_)
  refine Ex_bipush (v := 116) dX18_come_9 (by decide) ?_
  refine Ex_jn (γ := Unit) (pj := 39) (fun v29 => []) (fun v29 => []) (fun v29 => ?_) (fun j30 hj30 => ?_)
  · exact Ex_vreturn dX18_come_39 rfl
  · refine Ex_icmp_eq (tgt := 39) dX18_come_11 (by decide) ?_ ?_
    · refine Ex_lv [] (lv' := []) rfl ?_
      exact hj30 ()
    · refine Ex_aload_n dX18_come_14 rfl 1 rfl ?_
      refine Ex_gI dX18_come_15 lk_X18_36 rfl (fun x31 => ?_)
      refine Ex_bipush (v := 108) dX18_come_18 (by decide) ?_
      refine Ex_icmp_ne (tgt := 39) dX18_come_20 (by decide) ?_ ?_
      · refine Ex_lv [] (lv' := []) rfl ?_
        exact hj30 ()
      · refine Ex_aload_n dX18_come_23 rfl 1 rfl ?_
        refine Ex_gI dX18_come_24 lk_X18_41 rfl (fun x32 => ?_)
        refine Ex_aload_n dX18_come_27 rfl 0 rfl ?_
        refine Ex_gI dX18_come_28 lk_X18_23 rfl (fun x33 => ?_)
        refine Ex_icmp_ne (tgt := 39) dX18_come_31 (by decide) ?_ ?_
        · refine Ex_lv [] (lv' := []) rfl ?_
          exact hj30 ()
        · refine Ex_aload_n dX18_come_34 rfl 1 rfl ?_
          refine Ex_aload_n dX18_come_35 rfl 0 rfl ?_
          refine Ex_bnU (Inv_V (L_X2_take hG a1 a0) (lw_V q1560 q1561 q1562 q50 q1563) oe_2 ⟨rfl, hm_X2_take⟩ (by decide) (by decide) dX18_come_36 rfl (Nat.le_of_ble_eq_true rfl)) (fun _ => ?_)
          refine Ex_lv [] (lv' := []) rfl ?_
          exact hj30 ()
-- QuorumAlmanac$Voice.come(LQuorumAlmanac$Node;)V
def m_X20_come (a0 : Nat) (a1 : Nat) : Ms Unit :=
  bn (ko [12] a0 (m_X10_come a0 a1)) fun _ =>
  gI [2] 6 a1 fun x32 =>
  jn (fun (v33 : Unit) =>
      rt ())
    fun j34 =>
    if ¬ x32 = 99 then
      j34 ()
    else
      gI [2] 8 a1 fun x35 =>
      gI [12] 25 a0 fun x36 =>
      if ¬ x35 = x36 then
        j34 ()
      else
        gI [12] 40 a0 fun x37 =>
        if x37 = 0 then
          j34 ()
        else
          gI [2] 17 a1 fun x38 =>
          gI [12] 23 a0 fun x39 =>
          pV [2] 17 a1 (.int (x38 ||| (1 <<< (x39 &&& 31)))) <|
          bn (ko [2] a1 (m_X2_winIfElected a1)) fun _ =>
          j34 ()
theorem hm_X20_come : (yX20_come.cls ≠ "java/lang/invoke/MethodHandle" ∧ yX20_come.cls ≠ "java/lang/invoke/VarHandle" ∧ (parseMethodDescriptor yX20_come.desc).map (fun d => d.parameters.length) = some 1) := by decide +kernel
set_option maxHeartbeats 4000000 in
set_option maxRecDepth 100000 in
theorem L_X20_come {G : GT} (hG : GOK G) (a0 : Nat) (a1 : Nat) : Cal G yX20_come (ws_ yX20_come cX20_come 2 (Option.none : Option Jvm.ClassFile.FieldType)) 12 279 [.ref a0, .ref a1] rU (m_X20_come a0 a1) := by
  refine Cal_of hG (by decide +kernel) (Nat.le_of_ble_eq_true rfl) (lv0 := [(0, .ref a0), (1, .ref a1)]) rfl (fun X σ0 => ?_)
  delta m_X20_come
  refine Ex_aload_n dX20_come_0 rfl 0 rfl ?_
  refine Ex_aload_n dX20_come_1 rfl 1 rfl ?_
  refine Ex_bnU (Inv_SU (L_X10_come hG a0 a1) (lw_SU q1655 q1550 q1656 q1549 q73 q1558) ok_12 ⟨by decide, hm_X10_come.2.2⟩ (by decide) (by decide) dX20_come_2 rfl (Nat.le_of_ble_eq_true rfl)) (fun _ => ?_)
  refine Ex_aload_n dX20_come_5 rfl 1 rfl ?_
  refine Ex_gI dX20_come_6 lk_X20_30 rfl (fun x32 => ?_)
  refine Ex_bipush (v := 99) dX20_come_9 (by decide) ?_
  refine Ex_jn (γ := Unit) (pj := 51) (fun v33 => []) (fun v33 => []) (fun v33 => ?_) (fun j34 hj34 => ?_)
  · exact Ex_vreturn dX20_come_51 rfl
  · refine Ex_icmp_ne (tgt := 51) dX20_come_11 (by decide) ?_ ?_
    · refine Ex_lv [] (lv' := []) rfl ?_
      exact hj34 ()
    · refine Ex_aload_n dX20_come_14 rfl 1 rfl ?_
      refine Ex_gI dX20_come_15 lk_X20_36 rfl (fun x35 => ?_)
      refine Ex_aload_n dX20_come_18 rfl 0 rfl ?_
      refine Ex_gI dX20_come_19 lk_X20_20 rfl (fun x36 => ?_)
      refine Ex_icmp_ne (tgt := 51) dX20_come_22 (by decide) ?_ ?_
      · refine Ex_lv [] (lv' := []) rfl ?_
        exact hj34 ()
      · refine Ex_aload_n dX20_come_25 rfl 0 rfl ?_
        refine Ex_gI dX20_come_26 lk_X20_7 rfl (fun x37 => ?_)
        refine Ex_if_eq (tgt := 51) dX20_come_29 (by decide) ?_ ?_
        · refine Ex_lv [] (lv' := []) rfl ?_
          exact hj34 ()
        · refine Ex_aload_n dX20_come_32 rfl 1 rfl ?_
          refine Ex_dup rfl dX20_come_33 ?_
          refine Ex_gI dX20_come_34 lk_X20_37 rfl (fun x38 => ?_)
          refine Ex_iconst (v := 1) dX20_come_37 (by decide) ?_
          refine Ex_aload_n dX20_come_38 rfl 0 rfl ?_
          refine Ex_gI dX20_come_39 lk_X20_13 rfl (fun x39 => ?_)
          refine Ex_ishl dX20_come_42 ?_
          refine Ex_ior dX20_come_43 ?_
          refine Ex_pV dX20_come_44 lk_X20_37 rfl rfl rfl rfl ?_
          refine Ex_aload_n dX20_come_47 rfl 1 rfl ?_
          refine Ex_bnU (Inv_V (L_X2_winIfElected hG a1) (lw_V q1657 q1246 q1247 q50 q1248) oe_2 ⟨rfl, hm_X2_winIfElected⟩ (by decide) (by decide) dX20_come_48 rfl (Nat.le_of_ble_eq_true rfl)) (fun _ => ?_)
          refine Ex_lv [] (lv' := []) rfl ?_
          exact hj34 ()
