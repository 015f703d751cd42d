-- java/util/HashMap.putIfAbsent(Ljava/lang/Object;Ljava/lang/Object;)Ljava/lang/Object;
def m_J23_putIfAbsent (a0 : Nat) (a1 : Nat) (a2 : Nat) : Ms (Option Nat) :=
  bn (m_J23_hash a1) fun r24 =>
  bn (ko [25] a0 (m_J23_putVal a0 r24 a1 a2 1 1)) fun r25 =>
  rt r25
theorem hm_J23_putIfAbsent : (yJ23_putIfAbsent.cls ≠ "java/lang/invoke/MethodHandle" ∧ yJ23_putIfAbsent.cls ≠ "java/lang/invoke/VarHandle" ∧ (parseMethodDescriptor yJ23_putIfAbsent.desc).map (fun d => d.parameters.length) = some 2) := by decide +kernel
set_option maxHeartbeats 4000000 in
set_option maxRecDepth 100000 in
theorem L_J23_putIfAbsent {G : GT} (hG : GOK G) (a0 : Nat) (a1 : Nat) (a2 : Nat) : Cal G yJ23_putIfAbsent (ws_ yJ23_putIfAbsent cJ23_putIfAbsent 3 (Option.some (Jvm.ClassFile.FieldType.object "java/lang/Object"))) 5 140 [.ref a0, .ref a1, .ref a2] rO (m_J23_putIfAbsent a0 a1 a2) := by
  refine Cal_of hG (by decide +kernel) (Nat.le_of_ble_eq_true rfl) (lv0 := [(0, .ref a0), (1, .ref a1), (2, .ref a2)]) rfl (fun X σ0 => ?_)
  delta m_J23_putIfAbsent
  refine Ex_aload_n dJ23_putIfAbsent_0 rfl 0 rfl ?_
  refine Ex_aload_n dJ23_putIfAbsent_1 rfl 1 rfl ?_
  refine Ex_bnI (Inv_S (L_J23_hash hG a1) (lw_S q446 q447 q92 q448) hm_J23_hash (by decide) (by decide) dJ23_putIfAbsent_2 rfl (Nat.le_of_ble_eq_true rfl)) (fun r24 => ?_)
  refine Ex_aload_n dJ23_putIfAbsent_5 rfl 1 rfl ?_
  refine Ex_aload_n dJ23_putIfAbsent_6 rfl 2 rfl ?_
  refine Ex_iconst (v := 1) dJ23_putIfAbsent_7 (by decide) ?_
  refine Ex_iconst (v := 1) dJ23_putIfAbsent_8 (by decide) ?_
  refine Ex_bnO (Inv_V (L_J23_putVal hG a0 r24 a1 a2 1 1) (lw_V q490 q491 q492 q92 q493) oe_25 ⟨rfl, hm_J23_putVal⟩ (by decide) (by decide) dJ23_putIfAbsent_9 rfl (Nat.le_of_ble_eq_true rfl)) (fun r25 => ?_)
  exact Ex_oreturn dJ23_putIfAbsent_12 rfl (Or.inl ⟨_, rfl⟩)
-- QuorumAlmanac.doLogsMatch()Z
def m_X1_doLogsMatch (a0 : Nat) : Ms Int32 :=
  nO 25 8 dfl fun a56 =>
  bn (m_J23_init a56) fun _ =>
  nO 25 8 dfl fun a57 =>
  bn (m_J23_init a57) fun _ =>
  gR [1] 104 a0 fun x58 =>
  aL 33 x58 fun x59 =>
  lp (fun j61 (v60 : Int32 × Int32) =>
      if x59 ≤ v60.2 then
        ck (v60.1 = 0 ∨ v60.1 = 1) <|
        rt v60.1
      else
        aR 33 x58 v60.2 fun x62 =>
        gR [2] 108 x62 fun x63 =>
        gI [5] 20 x63 fun x64 =>
        lp (fun j66 (v65 : Int32 × Int32) =>
            bn (ko [2] x62 (m_X2_last x62)) fun r67 =>
            if r67 < v65.2 then
              j61 (v65.1, (v60.2 + 1))
            else
              bn (ko [2] x62 (m_X2_entry x62 v65.2)) fun r68 =>
              nO 14 2 dfl fun a69 =>
              gI [9] 32 r68 fun x70 =>
              bn (m_X23_init a69 v65.2 x70) fun _ =>
              bn (ko [25] a56 (m_J23_putIfAbsent a56 a69 r68)) fun r71 =>
              koO [9] r71 <|
              bn (ko [2] x62 (m_X2_termAt x62 (v65.2 - 1))) fun r72 =>
              bn (m_J14_valueOf r72) fun r73 =>
              bn (ko [25] a57 (m_J23_putIfAbsent a57 a69 r73)) fun r74 =>
              koO [24] r74 <|
              jn (fun (v75 : Int32) =>
                  j66 (v75, (v65.2 + 1)))
                fun j76 =>
                jn (fun (v77 : Unit) =>
                    j76 0)
                  fun j78 =>
                  if v65.1 = 0 then
                    j78 ()
                  else
                    jn (fun (v79 : Unit) =>
                        jn (fun (v81 : Unit) =>
                            j76 1)
                          fun j82 =>
                          no r74 (
                            j82 ()) fun a83 =>
                            bn (ko [24] a83 (m_J14_intValue a83)) fun r85 =>
                            bn (ko [2] x62 (m_X2_termAt x62 (v65.2 - 1))) fun r86 =>
                            if ¬ r85 = r86 then
                              j78 ()
                            else
                              j82 ())
                      fun j80 =>
                      no r71 (
                        j80 ()) fun a87 =>
                        bn (ko [9] a87 (m_X15_isLike a87 r68)) fun r89 =>
                        if r89 = 0 then
                          j78 ()
                        else
                          j80 ())
          (v60.1, (x64 + 1)))
    (1, 0)
theorem hm_X1_doLogsMatch : (yX1_doLogsMatch.cls ≠ "java/lang/invoke/MethodHandle" ∧ yX1_doLogsMatch.cls ≠ "java/lang/invoke/VarHandle" ∧ (parseMethodDescriptor yX1_doLogsMatch.desc).map (fun d => d.parameters.length) = some 0) := by decide +kernel
set_option maxHeartbeats 4000000 in
set_option maxRecDepth 100000 in
theorem L_X1_doLogsMatch {G : GT} (hG : GOK G) (a0 : Nat) : Cal G yX1_doLogsMatch (ws_ yX1_doLogsMatch cX1_doLogsMatch 13 (Option.some Jvm.ClassFile.FieldType.boolean)) 7 166 [.ref a0] rI (m_X1_doLogsMatch a0) := by
  refine Cal_of hG (by decide +kernel) (Nat.le_of_ble_eq_true rfl) (lv0 := [(0, .ref a0)]) rfl (fun X σ0 => ?_)
  delta m_X1_doLogsMatch
  refine Ex_nO (ci := 24) (q := qcl 24) dX1_doLogsMatch_0 rfl q378 q379 q92 (fun a56 => ?_)
  refine Ex_dup rfl dX1_doLogsMatch_3 ?_
  refine Ex_bnU (Inv_I (L_J23_init hG a56) q92 q380 q381 q382 rfl hm_J23_init (by decide) (by decide) dX1_doLogsMatch_4 rfl (Nat.le_of_ble_eq_true rfl)) (fun _ => ?_)
  refine Ex_astore_n (lv' := [(0, .ref a0), (1, .ref a56)]) dX1_doLogsMatch_7 rfl (by decide) [1, 0] rfl ?_
  refine Ex_nO (ci := 24) (q := qcl 24) dX1_doLogsMatch_8 rfl q378 q379 q92 (fun a57 => ?_)
  refine Ex_dup rfl dX1_doLogsMatch_11 ?_
  refine Ex_bnU (Inv_I (L_J23_init hG a57) q92 q380 q381 q382 rfl hm_J23_init (by decide) (by decide) dX1_doLogsMatch_12 rfl (Nat.le_of_ble_eq_true rfl)) (fun _ => ?_)
  refine Ex_astore_n (lv' := [(0, .ref a0), (1, .ref a56), (2, .ref a57)]) dX1_doLogsMatch_15 rfl (by decide) [1, 2, 0] rfl ?_
  refine Ex_iconst (v := 1) dX1_doLogsMatch_16 (by decide) ?_
  refine Ex_istore_n (lv' := [(0, .ref a0), (1, .ref a56), (2, .ref a57), (3, .int 1)]) dX1_doLogsMatch_17 rfl (by decide) [1, 2, 3, 0] rfl ?_
  refine Ex_aload_n dX1_doLogsMatch_18 rfl 0 rfl ?_
  refine Ex_gR dX1_doLogsMatch_19 lk_X1_35 rfl (fun x58 => ?_)
  refine Ex_astore (lv' := [(0, .ref a0), (1, .ref a56), (2, .ref a57), (3, .int 1), (4, .ref x58)]) dX1_doLogsMatch_22 (by decide) [1, 2, 3, 4, 0] rfl ?_
  refine Ex_aload dX1_doLogsMatch_24 4 rfl ?_
  refine Ex_aL (j := 3) rfl dX1_doLogsMatch_26 (fun x59 => ?_)
  refine Ex_istore (lv' := [(0, .ref a0), (1, .ref a56), (2, .ref a57), (3, .int 1), (4, .ref x58), (5, .int x59)]) dX1_doLogsMatch_27 (by decide) [1, 2, 3, 4, 5, 0] rfl ?_
  refine Ex_iconst (v := 0) dX1_doLogsMatch_29 (by decide) ?_
  refine Ex_istore (lv' := [(0, .ref a0), (1, .ref a56), (2, .ref a57), (3, .int 1), (4, .ref x58), (5, .int x59), (6, .int 0)]) dX1_doLogsMatch_30 (by decide) [1, 2, 3, 4, 5, 6, 0] rfl ?_
  refine Ex_lv [1, 2, 3, 4, 5, 6] (lv' := [(1, .ref a56), (2, .ref a57), (3, .int 1), (4, .ref x58), (5, .int x59), (6, .int 0)]) rfl ?_
  refine Ex_lp (γ := Int32 × Int32) (pj := 32) (fun v60 => [(1, .ref a56), (2, .ref a57), (3, .int v60.1), (4, .ref x58), (5, .int x59), (6, .int v60.2)]) (fun v60 => []) (fun j61 hj61 v60 => ?_) (1, 0) rfl rfl
  refine Ex_iload dX1_doLogsMatch_32 5 rfl ?_
  refine Ex_iload dX1_doLogsMatch_34 4 rfl ?_
  refine Ex_icmp_ge (tgt := 188) dX1_doLogsMatch_36 (by decide) ?_ ?_
  · refine Ex_iload_n dX1_doLogsMatch_188 rfl 2 rfl ?_
    refine Ex_ck (fun hz => ?_)
    exact Ex_zreturn dX1_doLogsMatch_189 rfl (zok_n hz)
  · refine Ex_aload dX1_doLogsMatch_39 3 rfl ?_
    refine Ex_iload dX1_doLogsMatch_41 5 rfl ?_
    refine Ex_aR (j := 3) rfl rfl dX1_doLogsMatch_43 (fun x62 => ?_)
    refine Ex_astore (lv' := [(1, .ref a56), (2, .ref a57), (3, .int v60.1), (4, .ref x58), (5, .int x59), (6, .int v60.2), (7, .ref x62)]) dX1_doLogsMatch_44 (by decide) [1, 2, 3, 4, 5, 6, 0] rfl ?_
    refine Ex_aload dX1_doLogsMatch_46 6 rfl ?_
    refine Ex_gR dX1_doLogsMatch_48 lk_X1_140 rfl (fun x63 => ?_)
    refine Ex_gI dX1_doLogsMatch_51 lk_X1_144 rfl (fun x64 => ?_)
    refine Ex_iconst (v := 1) dX1_doLogsMatch_54 (by decide) ?_
    refine Ex_iadd dX1_doLogsMatch_55 ?_
    refine Ex_istore (lv' := [(1, .ref a56), (2, .ref a57), (3, .int v60.1), (4, .ref x58), (5, .int x59), (6, .int v60.2), (7, .ref x62), (8, .int (x64 + 1))]) dX1_doLogsMatch_56 (by decide) [1, 2, 3, 4, 5, 6, 7, 0] rfl ?_
    refine Ex_lp (γ := Int32 × Int32) (pj := 58) (fun v65 => [(1, .ref a56), (2, .ref a57), (3, .int v65.1), (4, .ref x58), (5, .int x59), (6, .int v60.2), (7, .ref x62), (8, .int v65.2)]) (fun v65 => []) (fun j66 hj66 v65 => ?_) (v60.1, (x64 + 1)) rfl rfl
    refine Ex_iload dX1_doLogsMatch_58 7 rfl ?_
    refine Ex_aload dX1_doLogsMatch_60 6 rfl ?_
    refine Ex_bnI (Inv_V (L_X2_last hG x62) (lw_V q107 q108 q109 q50 q110) oe_2 ⟨rfl, hm_X2_last⟩ (by decide) (by decide) dX1_doLogsMatch_62 rfl (Nat.le_of_ble_eq_true rfl)) (fun r67 => ?_)
    refine Ex_icmp_gt (tgt := 182) dX1_doLogsMatch_65 (by decide) ?_ ?_
    · refine Ex_iinc (j := 5) (lv' := [(1, .ref a56), (2, .ref a57), (3, .int v65.1), (4, .ref x58), (5, .int x59), (6, .int (v60.2 + 1)), (7, .ref x62), (8, .int v65.2)]) dX1_doLogsMatch_182 rfl rfl (by decide) [1, 2, 3, 4, 5, 0, 6, 7] rfl ?_
      refine Ex_goto (tgt := 32) dX1_doLogsMatch_185 (by decide) ?_
      refine Ex_lv [0, 1, 2, 3, 4, 5] (lv' := [(1, .ref a56), (2, .ref a57), (3, .int v65.1), (4, .ref x58), (5, .int x59), (6, .int (v60.2 + 1))]) rfl ?_
      exact hj61 (v65.1, (v60.2 + 1))
    · refine Ex_aload dX1_doLogsMatch_68 6 rfl ?_
      refine Ex_iload dX1_doLogsMatch_70 7 rfl ?_
      refine Ex_bnR (Inv_V (L_X2_entry hG x62 v65.2) (lw_V q410 q411 q412 q50 q413) oe_2 ⟨rfl, hm_X2_entry⟩ (by decide) (by decide) dX1_doLogsMatch_72 rfl (Nat.le_of_ble_eq_true rfl)) (fun r68 => ?_)
      refine Ex_astore (lv' := [(1, .ref a56), (2, .ref a57), (3, .int v65.1), (4, .ref x58), (5, .int x59), (6, .int v60.2), (7, .ref x62), (8, .int v65.2), (9, .ref r68)]) dX1_doLogsMatch_75 (by decide) [1, 2, 3, 4, 5, 6, 7, 8, 0] rfl ?_
      refine Ex_nO (ci := 13) (q := qcl 13) dX1_doLogsMatch_77 rfl q429 q430 q93 (fun a69 => ?_)
      refine Ex_dup rfl dX1_doLogsMatch_80 ?_
      refine Ex_iload dX1_doLogsMatch_81 7 rfl ?_
      refine Ex_aload dX1_doLogsMatch_83 8 rfl ?_
      refine Ex_gI dX1_doLogsMatch_85 lk_X1_189 rfl (fun x70 => ?_)
      refine Ex_bnU (Inv_I (L_X23_init hG a69 v65.2 x70) q93 q431 q432 q433 rfl hm_X23_init (by decide) (by decide) dX1_doLogsMatch_88 rfl (Nat.le_of_ble_eq_true rfl)) (fun _ => ?_)
      refine Ex_astore (lv' := [(1, .ref a56), (2, .ref a57), (3, .int v65.1), (4, .ref x58), (5, .int x59), (6, .int v60.2), (7, .ref x62), (8, .int v65.2), (9, .ref r68), (10, .ref a69)]) dX1_doLogsMatch_91 (by decide) [1, 2, 3, 4, 5, 6, 7, 8, 9, 0] rfl ?_
      refine Ex_aload_n dX1_doLogsMatch_93 rfl 0 rfl ?_
      refine Ex_aload dX1_doLogsMatch_94 9 rfl ?_
      refine Ex_aload dX1_doLogsMatch_96 8 rfl ?_
      refine Ex_bnO (Inv_V (L_J23_putIfAbsent hG a56 a69 r68) (lw_V q442 q443 q444 q92 q445) oe_25 ⟨rfl, hm_J23_putIfAbsent⟩ (by decide) (by decide) dX1_doLogsMatch_98 rfl (Nat.le_of_ble_eq_true rfl)) (fun r71 => ?_)
      refine Ex_koO dX1_doLogsMatch_101 q742 oc_QuorumAlmanac_Entry_9 ?_
      refine Ex_astoreO (lv' := [(1, .ref a56), (2, .ref a57), (3, .int v65.1), (4, .ref x58), (5, .int x59), (6, .int v60.2), (7, .ref x62), (8, .int v65.2), (9, .ref r68), (10, .ref a69), (11, va_rf r71)]) dX1_doLogsMatch_104 (by decide) [1, 2, 3, 4, 5, 6, 7, 8, 9, 10, 0] rfl ?_
      refine Ex_aload_n dX1_doLogsMatch_106 rfl 1 rfl ?_
      refine Ex_aload dX1_doLogsMatch_107 9 rfl ?_
      refine Ex_aload dX1_doLogsMatch_109 6 rfl ?_
      refine Ex_iload dX1_doLogsMatch_111 7 rfl ?_
      refine Ex_iconst (v := 1) dX1_doLogsMatch_113 (by decide) ?_
      refine Ex_isub dX1_doLogsMatch_114 ?_
      refine Ex_bnI (Inv_V (L_X2_termAt hG x62 (v65.2 - 1)) (lw_V q743 q744 q745 q50 q746) oe_2 ⟨rfl, hm_X2_termAt⟩ (by decide) (by decide) dX1_doLogsMatch_115 rfl (Nat.le_of_ble_eq_true rfl)) (fun r72 => ?_)
      refine Ex_bnR (Inv_S (L_J14_valueOf hG r72) (lw_S q748 q749 q68 q750) hm_J14_valueOf (by decide) (by decide) dX1_doLogsMatch_118 rfl (Nat.le_of_ble_eq_true rfl)) (fun r73 => ?_)
      refine Ex_bnO (Inv_V (L_J23_putIfAbsent hG a57 a69 r73) (lw_V q442 q443 q444 q92 q445) oe_25 ⟨rfl, hm_J23_putIfAbsent⟩ (by decide) (by decide) dX1_doLogsMatch_121 rfl (Nat.le_of_ble_eq_true rfl)) (fun r74 => ?_)
      refine Ex_koO dX1_doLogsMatch_124 q767 oc_java_lang_Integer_24 ?_
      refine Ex_astoreO (lv' := [(1, .ref a56), (2, .ref a57), (3, .int v65.1), (4, .ref x58), (5, .int x59), (6, .int v60.2), (7, .ref x62), (8, .int v65.2), (9, .ref r68), (10, .ref a69), (11, va_rf r71), (12, va_rf r74)]) dX1_doLogsMatch_127 (by decide) [1, 2, 3, 4, 5, 6, 7, 8, 9, 10, 11, 0] (by cases hq_ : r71 <;> rfl) ?_
      refine Ex_iload_n dX1_doLogsMatch_129 rfl 2 rfl ?_
      refine Ex_jn (γ := Int32) (pj := 175) (fun v75 => [(1, .ref a56), (2, .ref a57), (4, .ref x58), (5, .int x59), (6, .int v60.2), (7, .ref x62), (8, .int v65.2)]) (fun v75 => [.int v75]) (fun v75 => ?_) (fun j76 hj76 => ?_)
      · refine Ex_istore_n (lv' := [(1, .ref a56), (2, .ref a57), (3, .int v75), (4, .ref x58), (5, .int x59), (6, .int v60.2), (7, .ref x62), (8, .int v65.2)]) dX1_doLogsMatch_175 rfl (by decide) [1, 2, 0, 3, 4, 5, 6, 7] rfl ?_
        refine Ex_iinc (j := 7) (lv' := [(1, .ref a56), (2, .ref a57), (3, .int v75), (4, .ref x58), (5, .int x59), (6, .int v60.2), (7, .ref x62), (8, .int (v65.2 + 1))]) dX1_doLogsMatch_176 rfl rfl (by decide) [1, 2, 3, 4, 5, 6, 7, 0] rfl ?_
        refine Ex_goto (tgt := 58) dX1_doLogsMatch_179 (by decide) ?_
        exact hj66 (v75, (v65.2 + 1))
      · refine Ex_jn (γ := Unit) (pj := 174) (fun v77 => [(1, .ref a56), (2, .ref a57), (4, .ref x58), (5, .int x59), (6, .int v60.2), (7, .ref x62), (8, .int v65.2)]) (fun v77 => []) (fun v77 => ?_) (fun j78 hj78 => ?_)
        · refine Ex_iconst (v := 0) dX1_doLogsMatch_174 (by decide) ?_
          exact hj76 0
        · refine Ex_if_eq (tgt := 174) dX1_doLogsMatch_130 (by decide) ?_ ?_
          · refine Ex_lv [0, 1, 3, 4, 5, 6, 7] (lv' := [(1, .ref a56), (2, .ref a57), (4, .ref x58), (5, .int x59), (6, .int v60.2), (7, .ref x62), (8, .int v65.2)]) rfl ?_
            exact hj78 ()
          · refine Ex_aloadO dX1_doLogsMatch_133 10 rfl ?_
            refine Ex_jn (γ := Unit) (pj := 148) (fun v79 => [(1, .ref a56), (2, .ref a57), (4, .ref x58), (5, .int x59), (6, .int v60.2), (7, .ref x62), (8, .int v65.2), (12, va_rf r74)]) (fun v79 => []) (fun v79 => ?_) (fun j80 hj80 => ?_)
            · refine Ex_aloadO dX1_doLogsMatch_148 7 rfl ?_
              refine Ex_jn (γ := Unit) (pj := 170) (fun v81 => [(1, .ref a56), (2, .ref a57), (4, .ref x58), (5, .int x59), (6, .int v60.2), (7, .ref x62), (8, .int v65.2)]) (fun v81 => []) (fun v81 => ?_) (fun j82 hj82 => ?_)
              · refine Ex_iconst (v := 1) dX1_doLogsMatch_170 (by decide) ?_
                refine Ex_goto (tgt := 175) dX1_doLogsMatch_171 (by decide) ?_
                exact hj76 1
              · rcases r74 with _ | a83
                · refine Ex_no_ifnullN (tgt := 170) dX1_doLogsMatch_150 (by decide) ?_
                  refine Ex_lv [0, 1, 2, 3, 4, 5, 6] (lv' := [(1, .ref a56), (2, .ref a57), (4, .ref x58), (5, .int x59), (6, .int v60.2), (7, .ref x62), (8, .int v65.2)]) rfl ?_
                  exact hj82 ()
                · refine Ex_no_ifnullR dX1_doLogsMatch_150 ?_
                  refine Ex_aload dX1_doLogsMatch_153 7 rfl ?_
                  refine Ex_bnI (Inv_V (L_J14_intValue hG a83) (lw_V q772 q670 q671 q68 q672) oe_24 ⟨rfl, hm_J14_intValue⟩ (by decide) (by decide) dX1_doLogsMatch_155 rfl (Nat.le_of_ble_eq_true rfl)) (fun r85 => ?_)
                  refine Ex_aload dX1_doLogsMatch_158 5 rfl ?_
                  refine Ex_iload dX1_doLogsMatch_160 6 rfl ?_
                  refine Ex_iconst (v := 1) dX1_doLogsMatch_162 (by decide) ?_
                  refine Ex_isub dX1_doLogsMatch_163 ?_
                  refine Ex_bnI (Inv_V (L_X2_termAt hG x62 (v65.2 - 1)) (lw_V q743 q744 q745 q50 q746) oe_2 ⟨rfl, hm_X2_termAt⟩ (by decide) (by decide) dX1_doLogsMatch_164 rfl (Nat.le_of_ble_eq_true rfl)) (fun r86 => ?_)
                  refine Ex_icmp_ne (tgt := 174) dX1_doLogsMatch_167 (by decide) ?_ ?_
                  · refine Ex_lv [0, 1, 2, 3, 4, 5, 6] (lv' := [(1, .ref a56), (2, .ref a57), (4, .ref x58), (5, .int x59), (6, .int v60.2), (7, .ref x62), (8, .int v65.2)]) rfl ?_
                    exact hj78 ()
                  · refine Ex_lv [0, 1, 2, 3, 4, 5, 6] (lv' := [(1, .ref a56), (2, .ref a57), (4, .ref x58), (5, .int x59), (6, .int v60.2), (7, .ref x62), (8, .int v65.2)]) rfl ?_
                    exact hj82 ()
            · rcases r71 with _ | a87
              · refine Ex_no_ifnullN (tgt := 148) dX1_doLogsMatch_135 (by decide) ?_
                refine Ex_lv [0, 1, 3, 4, 5, 6, 7, 11] (lv' := [(1, .ref a56), (2, .ref a57), (4, .ref x58), (5, .int x59), (6, .int v60.2), (7, .ref x62), (8, .int v65.2), (12, va_rf r74)]) rfl ?_
                exact hj80 ()
              · refine Ex_no_ifnullR dX1_doLogsMatch_135 ?_
                refine Ex_aload dX1_doLogsMatch_138 10 rfl ?_
                refine Ex_aload dX1_doLogsMatch_140 8 rfl ?_
                refine Ex_bnI (Inv_V (L_X15_isLike hG a87 r68) (lw_V q768 q769 q770 q80 q771) oe_9 ⟨rfl, hm_X15_isLike⟩ (by decide) (by decide) dX1_doLogsMatch_142 rfl (Nat.le_of_ble_eq_true rfl)) (fun r89 => ?_)
                refine Ex_if_eq (tgt := 174) dX1_doLogsMatch_145 (by decide) ?_ ?_
                · refine Ex_lv [0, 1, 3, 4, 5, 6, 7] (lv' := [(1, .ref a56), (2, .ref a57), (4, .ref x58), (5, .int x59), (6, .int v60.2), (7, .ref x62), (8, .int v65.2)]) rfl ?_
                  exact hj78 ()
                · refine Ex_lv [0, 1, 3, 4, 5, 6, 7, 11] (lv' := [(1, .ref a56), (2, .ref a57), (4, .ref x58), (5, .int x59), (6, .int v60.2), (7, .ref x62), (8, .int v65.2), (12, va_rf r74)]) rfl ?_
                  exact hj80 ()
-- QuorumAlmanac.doAllKnowTheHistory()Z
def m_X1_doAllKnowTheHistory (a0 : Nat) : Ms Int32 :=
  gR [1] 104 a0 fun x44 =>
  aL 33 x44 fun x45 =>
  lp (fun j47 (v46 : Int32 × Int32) =>
      if x45 ≤ v46.2 then
        ck (v46.1 = 0 ∨ v46.1 = 1) <|
        rt v46.1
      else
        aR 33 x44 v46.2 fun x48 =>
        gR [2] 108 x48 fun x49 =>
        gI [5] 20 x49 fun x50 =>
        lp (fun j52 (v51 : Int32 × Int32) =>
            gI [2] 13 x48 fun x53 =>
            jn (fun (v54 : Unit) =>
                j47 (v51.1, (v46.2 + 1)))
              fun j55 =>
              if x53 < v51.2 then
                j55 ()
              else
                if v51.1 = 0 then
                  j55 ()
                else
                  gR [1] 107 a0 fun x56 =>
                  bn (ko [22] x56 (m_J2_size x56)) fun r57 =>
                  jn (fun (v58 : Int32) =>
                      j52 (v58, (v51.2 + 1)))
                    fun j59 =>
                    jn (fun (v60 : Unit) =>
                        j59 0)
                      fun j61 =>
                      if r57 < v51.2 then
                        j61 ()
                      else
                        gR [1] 107 a0 fun x62 =>
                        bn (ko [22] x62 (m_J2_get x62 (v51.2 - 1))) fun r63 =>
                        ko [9] r63 <|
                        bn (ko [2] x48 (m_X2_entry x48 v51.2)) fun r64 =>
                        bn (ko [9] r63 (m_X15_isLike r63 r64)) fun r65 =>
                        if r65 = 0 then
                          j61 ()
                        else
                          j59 1)
          (v46.1, (x50 + 1)))
    (1, 0)
theorem hm_X1_doAllKnowTheHistory : (yX1_doAllKnowTheHistory.cls ≠ "java/lang/invoke/MethodHandle" ∧ yX1_doAllKnowTheHistory.cls ≠ "java/lang/invoke/VarHandle" ∧ (parseMethodDescriptor yX1_doAllKnowTheHistory.desc).map (fun d => d.parameters.length) = some 0) := by decide +kernel
set_option maxHeartbeats 4000000 in
set_option maxRecDepth 100000 in
theorem L_X1_doAllKnowTheHistory {G : GT} (hG : GOK G) (a0 : Nat) : Cal G yX1_doAllKnowTheHistory (ws_ yX1_doAllKnowTheHistory cX1_doAllKnowTheHistory 7 (Option.some Jvm.ClassFile.FieldType.boolean)) 6 145 [.ref a0] rI (m_X1_doAllKnowTheHistory a0) := by
  refine Cal_of hG (by decide +kernel) (Nat.le_of_ble_eq_true rfl) (lv0 := [(0, .ref a0)]) rfl (fun X σ0 => ?_)
  delta m_X1_doAllKnowTheHistory
  refine Ex_iconst (v := 1) dX1_doAllKnowTheHistory_0 (by decide) ?_
  refine Ex_istore_n (lv' := [(0, .ref a0), (1, .int 1)]) dX1_doAllKnowTheHistory_1 rfl (by decide) [1, 0] rfl ?_
  refine Ex_aload_n dX1_doAllKnowTheHistory_2 rfl 0 rfl ?_
  refine Ex_gR dX1_doAllKnowTheHistory_3 lk_X1_35 rfl (fun x44 => ?_)
  refine Ex_astore_n (lv' := [(0, .ref a0), (1, .int 1), (2, .ref x44)]) dX1_doAllKnowTheHistory_6 rfl (by decide) [1, 2, 0] rfl ?_
  refine Ex_aload_n dX1_doAllKnowTheHistory_7 rfl 2 rfl ?_
  refine Ex_aL (j := 3) rfl dX1_doAllKnowTheHistory_8 (fun x45 => ?_)
  refine Ex_istore_n (lv' := [(0, .ref a0), (1, .int 1), (2, .ref x44), (3, .int x45)]) dX1_doAllKnowTheHistory_9 rfl (by decide) [1, 2, 3, 0] rfl ?_
  refine Ex_iconst (v := 0) dX1_doAllKnowTheHistory_10 (by decide) ?_
  refine Ex_istore (lv' := [(0, .ref a0), (1, .int 1), (2, .ref x44), (3, .int x45), (4, .int 0)]) dX1_doAllKnowTheHistory_11 (by decide) [1, 2, 3, 4, 0] rfl ?_
  refine Ex_lp (γ := Int32 × Int32) (pj := 13) (fun v46 => [(0, .ref a0), (1, .int v46.1), (2, .ref x44), (3, .int x45), (4, .int v46.2)]) (fun v46 => []) (fun j47 hj47 v46 => ?_) (1, 0) rfl rfl
  refine Ex_iload dX1_doAllKnowTheHistory_13 4 rfl ?_
  refine Ex_iload_n dX1_doAllKnowTheHistory_15 rfl 3 rfl ?_
  refine Ex_icmp_ge (tgt := 108) dX1_doAllKnowTheHistory_16 (by decide) ?_ ?_
  · refine Ex_iload_n dX1_doAllKnowTheHistory_108 rfl 1 rfl ?_
    refine Ex_ck (fun hz => ?_)
    exact Ex_zreturn dX1_doAllKnowTheHistory_109 rfl (zok_n hz)
  · refine Ex_aload_n dX1_doAllKnowTheHistory_19 rfl 2 rfl ?_
    refine Ex_iload dX1_doAllKnowTheHistory_20 4 rfl ?_
    refine Ex_aR (j := 3) rfl rfl dX1_doAllKnowTheHistory_22 (fun x48 => ?_)
    refine Ex_astore (lv' := [(0, .ref a0), (1, .int v46.1), (2, .ref x44), (3, .int x45), (4, .int v46.2), (5, .ref x48)]) dX1_doAllKnowTheHistory_23 (by decide) [1, 2, 3, 4, 5, 0] rfl ?_
    refine Ex_aload dX1_doAllKnowTheHistory_25 5 rfl ?_
    refine Ex_gR dX1_doAllKnowTheHistory_27 lk_X1_140 rfl (fun x49 => ?_)
    refine Ex_gI dX1_doAllKnowTheHistory_30 lk_X1_144 rfl (fun x50 => ?_)
    refine Ex_iconst (v := 1) dX1_doAllKnowTheHistory_33 (by decide) ?_
    refine Ex_iadd dX1_doAllKnowTheHistory_34 ?_
    refine Ex_istore (lv' := [(0, .ref a0), (1, .int v46.1), (2, .ref x44), (3, .int x45), (4, .int v46.2), (5, .ref x48), (6, .int (x50 + 1))]) dX1_doAllKnowTheHistory_35 (by decide) [1, 2, 3, 4, 5, 6, 0] rfl ?_
    refine Ex_lp (γ := Int32 × Int32) (pj := 37) (fun v51 => [(0, .ref a0), (1, .int v51.1), (2, .ref x44), (3, .int x45), (4, .int v46.2), (5, .ref x48), (6, .int v51.2)]) (fun v51 => []) (fun j52 hj52 v51 => ?_) (v46.1, (x50 + 1)) rfl rfl
    refine Ex_iload dX1_doAllKnowTheHistory_37 6 rfl ?_
    refine Ex_aload dX1_doAllKnowTheHistory_39 5 rfl ?_
    refine Ex_gI dX1_doAllKnowTheHistory_41 lk_X1_137 rfl (fun x53 => ?_)
    refine Ex_jn (γ := Unit) (pj := 102) (fun v54 => [(0, .ref a0), (1, .int v51.1), (2, .ref x44), (3, .int x45), (4, .int v46.2)]) (fun v54 => []) (fun v54 => ?_) (fun j55 hj55 => ?_)
    · refine Ex_iinc (j := 4) (lv' := [(0, .ref a0), (1, .int v51.1), (2, .ref x44), (3, .int x45), (4, .int (v46.2 + 1))]) dX1_doAllKnowTheHistory_102 rfl rfl (by decide) [1, 2, 3, 4, 0] rfl ?_
      refine Ex_goto (tgt := 13) dX1_doAllKnowTheHistory_105 (by decide) ?_
      exact hj47 (v51.1, (v46.2 + 1))
    · refine Ex_icmp_gt (tgt := 102) dX1_doAllKnowTheHistory_44 (by decide) ?_ ?_
      · refine Ex_lv [0, 1, 2, 3, 4] (lv' := [(0, .ref a0), (1, .int v51.1), (2, .ref x44), (3, .int x45), (4, .int v46.2)]) rfl ?_
        exact hj55 ()
      · refine Ex_iload_n dX1_doAllKnowTheHistory_47 rfl 1 rfl ?_
        refine Ex_if_eq (tgt := 102) dX1_doAllKnowTheHistory_48 (by decide) ?_ ?_
        · refine Ex_lv [0, 1, 2, 3, 4] (lv' := [(0, .ref a0), (1, .int v51.1), (2, .ref x44), (3, .int x45), (4, .int v46.2)]) rfl ?_
          exact hj55 ()
        · refine Ex_iload dX1_doAllKnowTheHistory_51 6 rfl ?_
          refine Ex_aload_n dX1_doAllKnowTheHistory_53 rfl 0 rfl ?_
          refine Ex_gR dX1_doAllKnowTheHistory_54 lk_X1_49 rfl (fun x56 => ?_)
          refine Ex_bnI (Inv_V (L_J2_size hG x56) (lw_V q348 q112 q113 q48 q114) oe_22 ⟨rfl, hm_J2_size⟩ (by decide) (by decide) dX1_doAllKnowTheHistory_57 rfl (Nat.le_of_ble_eq_true rfl)) (fun r57 => ?_)
          refine Ex_jn (γ := Int32) (pj := 95) (fun v58 => [(0, .ref a0), (2, .ref x44), (3, .int x45), (4, .int v46.2), (5, .ref x48), (6, .int v51.2)]) (fun v58 => [.int v58]) (fun v58 => ?_) (fun j59 hj59 => ?_)
          · refine Ex_istore_n (lv' := [(0, .ref a0), (1, .int v58), (2, .ref x44), (3, .int x45), (4, .int v46.2), (5, .ref x48), (6, .int v51.2)]) dX1_doAllKnowTheHistory_95 rfl (by decide) [1, 0, 2, 3, 4, 5, 6] rfl ?_
            refine Ex_iinc (j := 6) (lv' := [(0, .ref a0), (1, .int v58), (2, .ref x44), (3, .int x45), (4, .int v46.2), (5, .ref x48), (6, .int (v51.2 + 1))]) dX1_doAllKnowTheHistory_96 rfl rfl (by decide) [1, 2, 3, 4, 5, 6, 0] rfl ?_
            refine Ex_goto (tgt := 37) dX1_doAllKnowTheHistory_99 (by decide) ?_
            exact hj52 (v58, (v51.2 + 1))
          · refine Ex_jn (γ := Unit) (pj := 94) (fun v60 => [(0, .ref a0), (2, .ref x44), (3, .int x45), (4, .int v46.2), (5, .ref x48), (6, .int v51.2)]) (fun v60 => []) (fun v60 => ?_) (fun j61 hj61 => ?_)
            · refine Ex_iconst (v := 0) dX1_doAllKnowTheHistory_94 (by decide) ?_
              exact hj59 0
            · refine Ex_icmp_gt (tgt := 94) dX1_doAllKnowTheHistory_60 (by decide) ?_ ?_
              · refine Ex_lv [0, 2, 3, 4, 5, 6] (lv' := [(0, .ref a0), (2, .ref x44), (3, .int x45), (4, .int v46.2), (5, .ref x48), (6, .int v51.2)]) rfl ?_
                exact hj61 ()
              · refine Ex_aload_n dX1_doAllKnowTheHistory_63 rfl 0 rfl ?_
                refine Ex_gR dX1_doAllKnowTheHistory_64 lk_X1_49 rfl (fun x62 => ?_)
                refine Ex_iload dX1_doAllKnowTheHistory_67 6 rfl ?_
                refine Ex_iconst (v := 1) dX1_doAllKnowTheHistory_69 (by decide) ?_
                refine Ex_isub dX1_doAllKnowTheHistory_70 ?_
                refine Ex_bnR (Inv_V (L_J2_get hG x62 (v51.2 - 1)) (lw_V q777 q415 q416 q48 q417) oe_22 ⟨rfl, hm_J2_get⟩ (by decide) (by decide) dX1_doAllKnowTheHistory_71 rfl (Nat.le_of_ble_eq_true rfl)) (fun r63 => ?_)
                refine Ex_ko dX1_doAllKnowTheHistory_74 q742 oc_QuorumAlmanac_Entry_9 ?_
                refine Ex_aload dX1_doAllKnowTheHistory_77 5 rfl ?_
                refine Ex_iload dX1_doAllKnowTheHistory_79 6 rfl ?_
                refine Ex_bnR (Inv_V (L_X2_entry hG x48 v51.2) (lw_V q410 q411 q412 q50 q413) oe_2 ⟨rfl, hm_X2_entry⟩ (by decide) (by decide) dX1_doAllKnowTheHistory_81 rfl (Nat.le_of_ble_eq_true rfl)) (fun r64 => ?_)
                refine Ex_bnI (Inv_V (L_X15_isLike hG r63 r64) (lw_V q768 q769 q770 q80 q771) oe_9 ⟨rfl, hm_X15_isLike⟩ (by decide) (by decide) dX1_doAllKnowTheHistory_84 rfl (Nat.le_of_ble_eq_true rfl)) (fun r65 => ?_)
                refine Ex_if_eq (tgt := 94) dX1_doAllKnowTheHistory_87 (by decide) ?_ ?_
                · refine Ex_lv [0, 2, 3, 4, 5, 6] (lv' := [(0, .ref a0), (2, .ref x44), (3, .int x45), (4, .int v46.2), (5, .ref x48), (6, .int v51.2)]) rfl ?_
                  exact hj61 ()
                · refine Ex_iconst (v := 1) dX1_doAllKnowTheHistory_90 (by decide) ?_
                  refine Ex_goto (tgt := 95) dX1_doAllKnowTheHistory_91 (by decide) ?_
                  refine Ex_lv [0, 2, 3, 4, 5, 6] (lv' := [(0, .ref a0), (2, .ref x44), (3, .int x45), (4, .int v46.2), (5, .ref x48), (6, .int v51.2)]) rfl ?_
                  exact hj59 1
-- QuorumAlmanac.isSound()Z
def m_X1_isSound (a0 : Nat) : Ms Int32 :=
  gI [1] 2 a0 fun x30 =>
  jn (fun (v31 : Int32) =>
      ck (v31 = 0 ∨ v31 = 1) <|
      rt v31)
    fun j32 =>
    jn (fun (v33 : Unit) =>
        j32 0)
      fun j34 =>
      if x30 = 0 then
        j34 ()
      else
        gI [1] 3 a0 fun x35 =>
        if x35 = 0 then
          j34 ()
        else
          bn (ko [1] a0 (m_X1_hasOneLeaderATerm a0)) fun r36 =>
          if r36 = 0 then
            j34 ()
          else
            bn (ko [1] a0 (m_X1_doLogsMatch a0)) fun r37 =>
            if r37 = 0 then
              j34 ()
            else
              bn (ko [1] a0 (m_X1_doAllKnowTheHistory a0)) fun r38 =>
              if r38 = 0 then
                j34 ()
              else
                j32 1
theorem hm_X1_isSound : (yX1_isSound.cls ≠ "java/lang/invoke/MethodHandle" ∧ yX1_isSound.cls ≠ "java/lang/invoke/VarHandle" ∧ (parseMethodDescriptor yX1_isSound.desc).map (fun d => d.parameters.length) = some 0) := by decide +kernel
set_option maxHeartbeats 4000000 in
set_option maxRecDepth 100000 in
theorem L_X1_isSound {G : GT} (hG : GOK G) (a0 : Nat) : Cal G yX1_isSound (ws_ yX1_isSound cX1_isSound 1 (Option.some Jvm.ClassFile.FieldType.boolean)) 8 198 [.ref a0] rI (m_X1_isSound a0) := by
  refine Cal_of hG (by decide +kernel) (Nat.le_of_ble_eq_true rfl) (lv0 := [(0, .ref a0)]) rfl (fun X σ0 => ?_)
  delta m_X1_isSound
  refine Ex_aload_n dX1_isSound_0 rfl 0 rfl ?_
  refine Ex_gI dX1_isSound_1 lk_X1_52 rfl (fun x30 => ?_)
  refine Ex_jn (γ := Int32) (pj := 40) (fun v31 => []) (fun v31 => [.int v31]) (fun v31 => ?_) (fun j32 hj32 => ?_)
  · refine Ex_ck (fun hz => ?_)
    exact Ex_zreturn dX1_isSound_40 rfl (zok_n hz)
  · refine Ex_jn (γ := Unit) (pj := 39) (fun v33 => []) (fun v33 => []) (fun v33 => ?_) (fun j34 hj34 => ?_)
    · refine Ex_iconst (v := 0) dX1_isSound_39 (by decide) ?_
      exact hj32 0
    · refine Ex_if_eq (tgt := 39) dX1_isSound_4 (by decide) ?_ ?_
      · refine Ex_lv [] (lv' := []) rfl ?_
        exact hj34 ()
      · refine Ex_aload_n dX1_isSound_7 rfl 0 rfl ?_
        refine Ex_gI dX1_isSound_8 lk_X1_56 rfl (fun x35 => ?_)
        refine Ex_if_eq (tgt := 39) dX1_isSound_11 (by decide) ?_ ?_
        · refine Ex_lv [] (lv' := []) rfl ?_
          exact hj34 ()
        · refine Ex_aload_n dX1_isSound_14 rfl 0 rfl ?_
          refine Ex_bnI (Inv_V (L_X1_hasOneLeaderATerm hG a0) (lw_V q370 q372 qs0 q45 q373) oe_1 ⟨rfl, hm_X1_hasOneLeaderATerm⟩ (by decide) (by decide) dX1_isSound_15 rfl (Nat.le_of_ble_eq_true rfl)) (fun r36 => ?_)
          refine Ex_if_eq (tgt := 39) dX1_isSound_18 (by decide) ?_ ?_
          · refine Ex_lv [] (lv' := []) rfl ?_
            exact hj34 ()
          · refine Ex_aload_n dX1_isSound_21 rfl 0 rfl ?_
            refine Ex_bnI (Inv_V (L_X1_doLogsMatch hG a0) (lw_V q374 q376 qs1 q45 q377) oe_1 ⟨rfl, hm_X1_doLogsMatch⟩ (by decide) (by decide) dX1_isSound_22 rfl (Nat.le_of_ble_eq_true rfl)) (fun r37 => ?_)
            refine Ex_if_eq (tgt := 39) dX1_isSound_25 (by decide) ?_ ?_
            · refine Ex_lv [] (lv' := []) rfl ?_
              exact hj34 ()
            · refine Ex_aload_n dX1_isSound_28 rfl 0 rfl ?_
              refine Ex_bnI (Inv_V (L_X1_doAllKnowTheHistory hG a0) (lw_V q773 q775 qs2 q45 q776) oe_1 ⟨rfl, hm_X1_doAllKnowTheHistory⟩ (by decide) (by decide) dX1_isSound_29 rfl (Nat.le_of_ble_eq_true rfl)) (fun r38 => ?_)
              refine Ex_if_eq (tgt := 39) dX1_isSound_32 (by decide) ?_ ?_
              · refine Ex_lv [] (lv' := []) rfl ?_
                exact hj34 ()
              · refine Ex_iconst (v := 1) dX1_isSound_35 (by decide) ?_
                refine Ex_goto (tgt := 40) dX1_isSound_36 (by decide) ?_
                refine Ex_lv [] (lv' := []) rfl ?_
                exact hj32 1
-- QuorumAlmanacModel$Message.<init>(ICII)V
def m_X16_init (a0 : Nat) (x1 : Int32) (x2 : Int32) (x3 : Int32) (x4 : Int32) : Ms Unit :=
  pV [19] 72 a0 (.int x1) <|
  ck (0 ≤ Int32.toInt x2 ∧ Int32.toInt x2 < 65536) <|
  pV [19] 73 a0 (.int x2) <|
  pV [19] 74 a0 (.int x3) <|
  pV [19] 75 a0 (.int x4) <|
  rt ()
theorem hm_X16_init : (yX16_init.cls ≠ "java/lang/invoke/MethodHandle" ∧ yX16_init.cls ≠ "java/lang/invoke/VarHandle" ∧ (parseMethodDescriptor yX16_init.desc).map (fun d => d.parameters.length) = some 4) := by decide +kernel
set_option maxHeartbeats 4000000 in
set_option maxRecDepth 100000 in
theorem L_X16_init {G : GT} (hG : GOK G) (a0 : Nat) (x1 : Int32) (x2 : Int32) (x3 : Int32) (x4 : Int32) : Cal G yX16_init (ws_ yX16_init cX16_init 5 (Option.none : Option Jvm.ClassFile.FieldType)) 2 60 [.ref a0, .int x1, .int x2, .int x3, .int x4] rU (m_X16_init a0 x1 x2 x3 x4) := by
  refine Cal_of hG (by decide +kernel) (Nat.le_of_ble_eq_true rfl) (lv0 := [(0, .ref a0), (1, .int x1), (2, .int x2), (3, .int x3), (4, .int x4)]) rfl (fun X σ0 => ?_)
  delta m_X16_init
  refine Ex_aload_n dX16_init_0 rfl 0 rfl ?_
  refine Ex_objInit dX16_init_1 q2172 q103 q104 (by decide) (Nat.le_of_ble_eq_true rfl) ?_
  refine Ex_aload_n dX16_init_4 rfl 0 rfl ?_
  refine Ex_iload_n dX16_init_5 rfl 1 rfl ?_
  refine Ex_pVF dX16_init_6 lkf_X16_7 rfl rfl rfl rfl rfl rfl ?_
  refine Ex_aload_n dX16_init_9 rfl 0 rfl ?_
  refine Ex_iload_n dX16_init_10 rfl 2 rfl ?_
  refine Ex_ck (fun hz => ?_)
  refine Ex_pVF dX16_init_11 lkf_X16_13 rfl rfl rfl rfl (cok_n hz) (cok_f hz) ?_
  refine Ex_aload_n dX16_init_14 rfl 0 rfl ?_
  refine Ex_iload_n dX16_init_15 rfl 3 rfl ?_
  refine Ex_pVF dX16_init_16 lkf_X16_17 rfl rfl rfl rfl rfl rfl ?_
  refine Ex_aload_n dX16_init_19 rfl 0 rfl ?_
  refine Ex_iload dX16_init_20 4 rfl ?_
  refine Ex_pVF dX16_init_22 lkf_X16_20 rfl rfl rfl rfl rfl rfl ?_
  exact Ex_vreturn dX16_init_25 rfl
-- QuorumAlmanacModel$Message.copy(I)LQuorumAlmanacModel$Message;
def m_X16_copy (a0 : Nat) (x1 : Int32) : Ms Nat :=
  nO 19 12 dfl fun a44 =>
  gI [19] 73 a0 fun x45 =>
  gI [19] 74 a0 fun x46 =>
  gI [19] 75 a0 fun x47 =>
  bn (m_X16_init a44 x1 x45 x46 x47) fun _ =>
  gI [19] 76 a0 fun x48 =>
  pV [19] 76 a44 (.int x48) <|
  gI [19] 77 a0 fun x49 =>
  pV [19] 77 a44 (.int x49) <|
  gI [19] 78 a0 fun x50 =>
  pV [19] 78 a44 (.int x50) <|
  gI [19] 79 a0 fun x51 =>
  pV [19] 79 a44 (.int x51) <|
  gI [19] 80 a0 fun x52 =>
  ck (x52 = 0 ∨ x52 = 1) <|
  pV [19] 80 a44 (.int x52) <|
  gI [19] 81 a0 fun x53 =>
  pV [19] 81 a44 (.int x53) <|
  gO [19] 143 a0 fun x54 =>
  pV [19] 143 a44 (va_rf x54) <|
  gO [19] 144 a0 fun x55 =>
  pV [19] 144 a44 (va_rf x55) <|
  rt a44
theorem hm_X16_copy : (yX16_copy.cls ≠ "java/lang/invoke/MethodHandle" ∧ yX16_copy.cls ≠ "java/lang/invoke/VarHandle" ∧ (parseMethodDescriptor yX16_copy.desc).map (fun d => d.parameters.length) = some 1) := by decide +kernel
set_option maxHeartbeats 4000000 in
set_option maxRecDepth 100000 in
theorem L_X16_copy {G : GT} (hG : GOK G) (a0 : Nat) (x1 : Int32) : Cal G yX16_copy (ws_ yX16_copy cX16_copy 3 (Option.some (Jvm.ClassFile.FieldType.object "QuorumAlmanacModel$Message"))) 3 84 [.ref a0, .int x1] rR (m_X16_copy a0 x1) := by
  refine Cal_of hG (by decide +kernel) (Nat.le_of_ble_eq_true rfl) (lv0 := [(0, .ref a0), (1, .int x1)]) rfl (fun X σ0 => ?_)
  delta m_X16_copy
  refine Ex_nO (ci := 18) (q := qcl 18) dX16_copy_0 rfl q2502 q2168 q81 (fun a44 => ?_)
  refine Ex_dup rfl dX16_copy_3 ?_
  refine Ex_iload_n dX16_copy_4 rfl 1 rfl ?_
  refine Ex_aload_n dX16_copy_5 rfl 0 rfl ?_
  refine Ex_gI dX16_copy_6 lk_X16_13 rfl (fun x45 => ?_)
  refine Ex_aload_n dX16_copy_9 rfl 0 rfl ?_
  refine Ex_gI dX16_copy_10 lk_X16_17 rfl (fun x46 => ?_)
  refine Ex_aload_n dX16_copy_13 rfl 0 rfl ?_
  refine Ex_gI dX16_copy_14 lk_X16_20 rfl (fun x47 => ?_)
  refine Ex_bnU (Inv_I (L_X16_init hG a44 x1 x45 x46 x47) q81 q2503 q2170 q2171 rfl hm_X16_init (by decide) (by decide) dX16_copy_17 rfl (Nat.le_of_ble_eq_true rfl)) (fun _ => ?_)
  refine Ex_astore_n (lv' := [(0, .ref a0), (1, .int x1), (2, .ref a44)]) dX16_copy_20 rfl (by decide) [1, 2, 0] rfl ?_
  refine Ex_aload_n dX16_copy_21 rfl 2 rfl ?_
  refine Ex_aload_n dX16_copy_22 rfl 0 rfl ?_
  refine Ex_gI dX16_copy_23 lk_X16_26 rfl (fun x48 => ?_)
  refine Ex_pV dX16_copy_26 lk_X16_26 rfl rfl rfl rfl ?_
  refine Ex_aload_n dX16_copy_29 rfl 2 rfl ?_
  refine Ex_aload_n dX16_copy_30 rfl 0 rfl ?_
  refine Ex_gI dX16_copy_31 lk_X16_29 rfl (fun x49 => ?_)
  refine Ex_pV dX16_copy_34 lk_X16_29 rfl rfl rfl rfl ?_
  refine Ex_aload_n dX16_copy_37 rfl 2 rfl ?_
  refine Ex_aload_n dX16_copy_38 rfl 0 rfl ?_
  refine Ex_gI dX16_copy_39 lk_X16_32 rfl (fun x50 => ?_)
  refine Ex_pV dX16_copy_42 lk_X16_32 rfl rfl rfl rfl ?_
  refine Ex_aload_n dX16_copy_45 rfl 2 rfl ?_
  refine Ex_aload_n dX16_copy_46 rfl 0 rfl ?_
  refine Ex_gI dX16_copy_47 lk_X16_35 rfl (fun x51 => ?_)
  refine Ex_pV dX16_copy_50 lk_X16_35 rfl rfl rfl rfl ?_
  refine Ex_aload_n dX16_copy_53 rfl 2 rfl ?_
  refine Ex_aload_n dX16_copy_54 rfl 0 rfl ?_
  refine Ex_gI dX16_copy_55 lk_X16_38 rfl (fun x52 => ?_)
  refine Ex_ck (fun hz => ?_)
  refine Ex_pV dX16_copy_58 lk_X16_38 rfl rfl (zok_n hz) (zok_f hz) ?_
  refine Ex_aload_n dX16_copy_61 rfl 2 rfl ?_
  refine Ex_aload_n dX16_copy_62 rfl 0 rfl ?_
  refine Ex_gI dX16_copy_63 lk_X16_42 rfl (fun x53 => ?_)
  refine Ex_pV dX16_copy_66 lk_X16_42 rfl rfl rfl rfl ?_
  refine Ex_aload_n dX16_copy_69 rfl 2 rfl ?_
  refine Ex_aload_n dX16_copy_70 rfl 0 rfl ?_
  refine Ex_gO dX16_copy_71 lk_X16_45 rfl (fun x54 => ?_)
  refine Ex_pV dX16_copy_74 lk_X16_45 rfl rfl rfl (fits_rf _ _) ?_
  refine Ex_aload_n dX16_copy_77 rfl 2 rfl ?_
  refine Ex_aload_n dX16_copy_78 rfl 0 rfl ?_
  refine Ex_gO dX16_copy_79 lk_X16_49 rfl (fun x55 => ?_)
  refine Ex_pV dX16_copy_82 lk_X16_49 rfl rfl rfl (fits_rf _ _) ?_
  refine Ex_aload_n dX16_copy_85 rfl 2 rfl ?_
  exact Ex_areturn dX16_copy_86 rfl (Or.inl ⟨_, rfl⟩)
-- QuorumAlmanacModel$Entry.<init>(ICII)V
def m_X17_init (a0 : Nat) (x1 : Int32) (x2 : Int32) (x3 : Int32) (x4 : Int32) : Ms Unit :=
  pV [20] 82 a0 (.int x1) <|
  ck (0 ≤ Int32.toInt x2 ∧ Int32.toInt x2 < 65536) <|
  pV [20] 83 a0 (.int x2) <|
  pV [20] 84 a0 (.int x3) <|
  pV [20] 85 a0 (.int x4) <|
  rt ()
theorem hm_X17_init : (yX17_init.cls ≠ "java/lang/invoke/MethodHandle" ∧ yX17_init.cls ≠ "java/lang/invoke/VarHandle" ∧ (parseMethodDescriptor yX17_init.desc).map (fun d => d.parameters.length) = some 4) := by decide +kernel
set_option maxHeartbeats 4000000 in
set_option maxRecDepth 100000 in
theorem L_X17_init {G : GT} (hG : GOK G) (a0 : Nat) (x1 : Int32) (x2 : Int32) (x3 : Int32) (x4 : Int32) : Cal G yX17_init (ws_ yX17_init cX17_init 5 (Option.none : Option Jvm.ClassFile.FieldType)) 2 60 [.ref a0, .int x1, .int x2, .int x3, .int x4] rU (m_X17_init a0 x1 x2 x3 x4) := by
  refine Cal_of hG (by decide +kernel) (Nat.le_of_ble_eq_true rfl) (lv0 := [(0, .ref a0), (1, .int x1), (2, .int x2), (3, .int x3), (4, .int x4)]) rfl (fun X σ0 => ?_)
  delta m_X17_init
  refine Ex_aload_n dX17_init_0 rfl 0 rfl ?_
  refine Ex_objInit dX17_init_1 q2257 q103 q104 (by decide) (Nat.le_of_ble_eq_true rfl) ?_
  refine Ex_aload_n dX17_init_4 rfl 0 rfl ?_
  refine Ex_iload_n dX17_init_5 rfl 1 rfl ?_
  refine Ex_pVF dX17_init_6 lkf_X17_7 rfl rfl rfl rfl rfl rfl ?_
  refine Ex_aload_n dX17_init_9 rfl 0 rfl ?_
  refine Ex_iload_n dX17_init_10 rfl 2 rfl ?_
  refine Ex_ck (fun hz => ?_)
  refine Ex_pVF dX17_init_11 lkf_X17_13 rfl rfl rfl rfl (cok_n hz) (cok_f hz) ?_
  refine Ex_aload_n dX17_init_14 rfl 0 rfl ?_
  refine Ex_iload_n dX17_init_15 rfl 3 rfl ?_
  refine Ex_pVF dX17_init_16 lkf_X17_17 rfl rfl rfl rfl rfl rfl ?_
  refine Ex_aload_n dX17_init_19 rfl 0 rfl ?_
  refine Ex_iload dX17_init_20 4 rfl ?_
  refine Ex_pVF dX17_init_22 lkf_X17_20 rfl rfl rfl rfl rfl rfl ?_
  exact Ex_vreturn dX17_init_25 rfl
-- QuorumAlmanacModel$Read.<init>(IIII)V
def m_X22_init (a0 : Nat) (x1 : Int32) (x2 : Int32) (x3 : Int32) (x4 : Int32) : Ms Unit :=
  pV [21] 90 a0 (.int 119) <|
  pV [21] 86 a0 (.int x1) <|
  pV [21] 87 a0 (.int x2) <|
  pV [21] 88 a0 (.int x3) <|
  pV [21] 89 a0 (.int x4) <|
  rt ()
theorem hm_X22_init : (yX22_init.cls ≠ "java/lang/invoke/MethodHandle" ∧ yX22_init.cls ≠ "java/lang/invoke/VarHandle" ∧ (parseMethodDescriptor yX22_init.desc).map (fun d => d.parameters.length) = some 4) := by decide +kernel
set_option maxHeartbeats 4000000 in
set_option maxRecDepth 100000 in
theorem L_X22_init {G : GT} (hG : GOK G) (a0 : Nat) (x1 : Int32) (x2 : Int32) (x3 : Int32) (x4 : Int32) : Cal G yX22_init (ws_ yX22_init cX22_init 5 (Option.none : Option Jvm.ClassFile.FieldType)) 2 60 [.ref a0, .int x1, .int x2, .int x3, .int x4] rU (m_X22_init a0 x1 x2 x3 x4) := by
  refine Cal_of hG (by decide +kernel) (Nat.le_of_ble_eq_true rfl) (lv0 := [(0, .ref a0), (1, .int x1), (2, .int x2), (3, .int x3), (4, .int x4)]) rfl (fun X σ0 => ?_)
  delta m_X22_init
  refine Ex_aload_n dX22_init_0 rfl 0 rfl ?_
  refine Ex_objInit dX22_init_1 q2549 q103 q104 (by decide) (Nat.le_of_ble_eq_true rfl) ?_
  refine Ex_aload_n dX22_init_4 rfl 0 rfl ?_
  refine Ex_bipush (v := 119) dX22_init_5 (by decide) ?_
  refine Ex_pV dX22_init_7 lk_X22_7 rfl rfl rfl rfl ?_
  refine Ex_aload_n dX22_init_10 rfl 0 rfl ?_
  refine Ex_iload_n dX22_init_11 rfl 1 rfl ?_
  refine Ex_pVF dX22_init_12 lkf_X22_13 rfl rfl rfl rfl rfl rfl ?_
  refine Ex_aload_n dX22_init_15 rfl 0 rfl ?_
  refine Ex_iload_n dX22_init_16 rfl 2 rfl ?_
  refine Ex_pVF dX22_init_17 lkf_X22_17 rfl rfl rfl rfl rfl rfl ?_
  refine Ex_aload_n dX22_init_20 rfl 0 rfl ?_
  refine Ex_iload_n dX22_init_21 rfl 3 rfl ?_
  refine Ex_pVF dX22_init_22 lkf_X22_20 rfl rfl rfl rfl rfl rfl ?_
  refine Ex_aload_n dX22_init_25 rfl 0 rfl ?_
  refine Ex_iload dX22_init_26 4 rfl ?_
  refine Ex_pVF dX22_init_28 lkf_X22_23 rfl rfl rfl rfl rfl rfl ?_
  exact Ex_vreturn dX22_init_31 rfl
-- QuorumAlmanacModel$Store.<init>()V
def m_X9_init (a0 : Nat) : Ms Unit :=
  nA 30 20 (.int 0) fun a26 =>
  pV [18] 141 a0 (.ref a26) <|
  nA 30 20 (.int 0) fun a27 =>
  pV [18] 142 a0 (.ref a27) <|
  lp (fun j29 (v28 : Int32) =>
      if 20 ≤ v28 then
        rt ()
      else
        gR [18] 142 a0 fun x30 =>
        sV 30 x30 v28 (.int (-1)) <|
        j29 (v28 + 1))
    1
theorem hm_X9_init : (yX9_init.cls ≠ "java/lang/invoke/MethodHandle" ∧ yX9_init.cls ≠ "java/lang/invoke/VarHandle" ∧ (parseMethodDescriptor yX9_init.desc).map (fun d => d.parameters.length) = some 0) := by decide +kernel
set_option maxHeartbeats 4000000 in
set_option maxRecDepth 100000 in
theorem L_X9_init {G : GT} (hG : GOK G) (a0 : Nat) : Cal G yX9_init (ws_ yX9_init cX9_init 2 (Option.none : Option Jvm.ClassFile.FieldType)) 2 60 [.ref a0] rU (m_X9_init a0) := by
  refine Cal_of hG (by decide +kernel) (Nat.le_of_ble_eq_true rfl) (lv0 := [(0, .ref a0)]) rfl (fun X σ0 => ?_)
  delta m_X9_init
  refine Ex_aload_n dX9_init_0 rfl 0 rfl ?_
  refine Ex_objInit dX9_init_1 q1954 q103 q104 (by decide) (Nat.le_of_ble_eq_true rfl) ?_
  refine Ex_aload_n dX9_init_4 rfl 0 rfl ?_
  refine Ex_bipush (v := 20) dX9_init_5 (by decide) ?_
  refine Ex_nA_i dX9_init_7 q195 (fun a26 => ?_)
  refine Ex_pVF dX9_init_9 lkf_X9_9 rfl rfl rfl rfl rfl rfl ?_
  refine Ex_aload_n dX9_init_12 rfl 0 rfl ?_
  refine Ex_bipush (v := 20) dX9_init_13 (by decide) ?_
  refine Ex_nA_i dX9_init_15 q195 (fun a27 => ?_)
  refine Ex_pVF dX9_init_17 lkf_X9_15 rfl rfl rfl rfl rfl rfl ?_
  refine Ex_iconst (v := 1) dX9_init_20 (by decide) ?_
  refine Ex_istore_n (lv' := [(0, .ref a0), (1, .int 1)]) dX9_init_21 rfl (by decide) [1, 0] rfl ?_
  refine Ex_lp (γ := Int32) (pj := 22) (fun v28 => [(0, .ref a0), (1, .int v28)]) (fun v28 => []) (fun j29 hj29 v28 => ?_) 1 rfl rfl
  refine Ex_iload_n dX9_init_22 rfl 1 rfl ?_
  refine Ex_bipush (v := 20) dX9_init_23 (by decide) ?_
  refine Ex_icmp_ge (tgt := 41) dX9_init_25 (by decide) ?_ ?_
  · exact Ex_vreturn dX9_init_41 rfl
  · refine Ex_aload_n dX9_init_28 rfl 0 rfl ?_
    refine Ex_gR dX9_init_29 lk_X9_15 rfl (fun x30 => ?_)
    refine Ex_iload_n dX9_init_32 rfl 1 rfl ?_
    refine Ex_iconst (v := (-1)) dX9_init_33 (by decide) ?_
    refine Ex_iast dX9_init_34 ?_
    refine Ex_iinc (j := 1) (lv' := [(0, .ref a0), (1, .int (v28 + 1))]) dX9_init_35 rfl rfl (by decide) [1, 0] rfl ?_
    refine Ex_goto (tgt := 22) dX9_init_38 (by decide) ?_
    exact hj29 (v28 + 1)
-- QuorumAlmanacModel$Snapshot.<init>(IIIILQuorumAlmanacModel$Store;)V
def m_X8_init (a0 : Nat) (x1 : Int32) (x2 : Int32) (x3 : Int32) (x4 : Int32) (a5 : Nat) : Ms Unit :=
  pV [17] 68 a0 (.int x1) <|
  pV [17] 69 a0 (.int x2) <|
  pV [17] 70 a0 (.int x3) <|
  pV [17] 71 a0 (.int x4) <|
  pV [17] 140 a0 (.ref a5) <|
  rt ()
theorem hm_X8_init : (yX8_init.cls ≠ "java/lang/invoke/MethodHandle" ∧ yX8_init.cls ≠ "java/lang/invoke/VarHandle" ∧ (parseMethodDescriptor yX8_init.desc).map (fun d => d.parameters.length) = some 5) := by decide +kernel
set_option maxHeartbeats 4000000 in
set_option maxRecDepth 100000 in
theorem L_X8_init {G : GT} (hG : GOK G) (a0 : Nat) (x1 : Int32) (x2 : Int32) (x3 : Int32) (x4 : Int32) (a5 : Nat) : Cal G yX8_init (ws_ yX8_init cX8_init 6 (Option.none : Option Jvm.ClassFile.FieldType)) 2 60 [.ref a0, .int x1, .int x2, .int x3, .int x4, .ref a5] rU (m_X8_init a0 x1 x2 x3 x4 a5) := by
  refine Cal_of hG (by decide +kernel) (Nat.le_of_ble_eq_true rfl) (lv0 := [(0, .ref a0), (1, .int x1), (2, .int x2), (3, .int x3), (4, .int x4), (5, .ref a5)]) rfl (fun X σ0 => ?_)
  delta m_X8_init
  refine Ex_aload_n dX8_init_0 rfl 0 rfl ?_
  refine Ex_objInit dX8_init_1 q1968 q103 q104 (by decide) (Nat.le_of_ble_eq_true rfl) ?_
  refine Ex_aload_n dX8_init_4 rfl 0 rfl ?_
  refine Ex_iload_n dX8_init_5 rfl 1 rfl ?_
  refine Ex_pVF dX8_init_6 lkf_X8_7 rfl rfl rfl rfl rfl rfl ?_
  refine Ex_aload_n dX8_init_9 rfl 0 rfl ?_
  refine Ex_iload_n dX8_init_10 rfl 2 rfl ?_
  refine Ex_pVF dX8_init_11 lkf_X8_13 rfl rfl rfl rfl rfl rfl ?_
  refine Ex_aload_n dX8_init_14 rfl 0 rfl ?_
  refine Ex_iload_n dX8_init_15 rfl 3 rfl ?_
  refine Ex_pVF dX8_init_16 lkf_X8_16 rfl rfl rfl rfl rfl rfl ?_
  refine Ex_aload_n dX8_init_19 rfl 0 rfl ?_
  refine Ex_iload dX8_init_20 4 rfl ?_
  refine Ex_pVF dX8_init_22 lkf_X8_19 rfl rfl rfl rfl rfl rfl ?_
  refine Ex_aload_n dX8_init_25 rfl 0 rfl ?_
  refine Ex_aload dX8_init_26 5 rfl ?_
  refine Ex_pVF dX8_init_28 lkf_X8_22 rfl rfl rfl rfl rfl rfl ?_
  exact Ex_vreturn dX8_init_31 rfl
-- QuorumAlmanacModel$Node.<init>(LQuorumAlmanacModel;II)V
def m_X7_init (a0 : Nat) (a1 : Nat) (x2 : Int32) (x3 : Int32) : Ms Unit :=
  pV [16] 139 a0 (.ref a1) <|
  pV [16] 57 a0 (.int (-1)) <|
  pV [16] 58 a0 (.int 102) <|
  pV [16] 59 a0 (.int 1) <|
  nO 22 3 dfl fun a36 =>
  bn (m_J2_init a36) fun _ =>
  pV [16] 133 a0 (.ref a36) <|
  pV [16] 63 a0 (.int (-1000)) <|
  pV [16] 64 a0 (.int (-1)) <|
  nA 30 5 (.int 0) fun a37 =>
  pV [16] 135 a0 (.ref a37) <|
  nA 30 5 (.int 0) fun a38 =>
  pV [16] 136 a0 (.ref a38) <|
  nA 30 5 (.int 0) fun a39 =>
  pV [16] 137 a0 (.ref a39) <|
  nO 22 3 dfl fun a40 =>
  bn (m_J2_init a40) fun _ =>
  pV [16] 138 a0 (.ref a40) <|
  pV [16] 54 a0 (.int x2) <|
  nO 17 5 dfl fun a41 =>
  nO 18 2 dfl fun a42 =>
  bn (m_X9_init a42) fun _ =>
  bn (m_X8_init a41 0 0 x3 0 a42) fun _ =>
  pV [16] 132 a0 (.ref a41) <|
  nO 18 2 dfl fun a43 =>
  bn (m_X9_init a43) fun _ =>
  pV [16] 134 a0 (.ref a43) <|
  rt ()
theorem hm_X7_init : (yX7_init.cls ≠ "java/lang/invoke/MethodHandle" ∧ yX7_init.cls ≠ "java/lang/invoke/VarHandle" ∧ (parseMethodDescriptor yX7_init.desc).map (fun d => d.parameters.length) = some 3) := by decide +kernel
set_option maxHeartbeats 4000000 in
set_option maxRecDepth 100000 in
theorem L_X7_init {G : GT} (hG : GOK G) (a0 : Nat) (a1 : Nat) (x2 : Int32) (x3 : Int32) : Cal G yX7_init (ws_ yX7_init cX7_init 4 (Option.none : Option Jvm.ClassFile.FieldType)) 5 120 [.ref a0, .ref a1, .int x2, .int x3] rU (m_X7_init a0 a1 x2 x3) := by
  refine Cal_of hG (by decide +kernel) (Nat.le_of_ble_eq_true rfl) (lv0 := [(0, .ref a0), (1, .ref a1), (2, .int x2), (3, .int x3)]) rfl (fun X σ0 => ?_)
  delta m_X7_init
  refine Ex_aload_n dX7_init_0 rfl 0 rfl ?_
  refine Ex_aload_n dX7_init_1 rfl 1 rfl ?_
  refine Ex_pVF dX7_init_2 lkf_X7_3 rfl rfl rfl rfl rfl rfl ?_
  refine Ex_aload_n dX7_init_5 rfl 0 rfl ?_
  refine Ex_objInit dX7_init_6 q1944 q103 q104 (by decide) (Nat.le_of_ble_eq_true rfl) ?_
  refine Ex_aload_n dX7_init_9 rfl 0 rfl ?_
  refine Ex_iconst (v := (-1)) dX7_init_10 (by decide) ?_
  refine Ex_pV dX7_init_11 lk_X7_15 rfl rfl rfl rfl ?_
  refine Ex_aload_n dX7_init_14 rfl 0 rfl ?_
  refine Ex_bipush (v := 102) dX7_init_15 (by decide) ?_
  refine Ex_pV dX7_init_17 lk_X7_19 rfl rfl rfl rfl ?_
  refine Ex_aload_n dX7_init_20 rfl 0 rfl ?_
  refine Ex_iconst (v := 1) dX7_init_21 (by decide) ?_
  refine Ex_pV dX7_init_22 lk_X7_23 rfl rfl rfl rfl ?_
  refine Ex_aload_n dX7_init_25 rfl 0 rfl ?_
  refine Ex_nO (ci := 21) (q := qcl 21) dX7_init_26 rfl q1945 q120 q48 (fun a36 => ?_)
  refine Ex_dup rfl dX7_init_29 ?_
  refine Ex_bnU (Inv_I (L_J2_init hG a36) q48 q1946 q122 q123 rfl hm_J2_init (by decide) (by decide) dX7_init_30 rfl (Nat.le_of_ble_eq_true rfl)) (fun _ => ?_)
  refine Ex_pV dX7_init_33 lk_X7_30 rfl rfl rfl rfl ?_
  refine Ex_aload_n dX7_init_36 rfl 0 rfl ?_
  refine Ex_sipush (v := (-1000)) dX7_init_37 (by decide) ?_
  refine Ex_pV dX7_init_40 lk_X7_34 rfl rfl rfl rfl ?_
  refine Ex_aload_n dX7_init_43 rfl 0 rfl ?_
  refine Ex_iconst (v := (-1)) dX7_init_44 (by decide) ?_
  refine Ex_pV dX7_init_45 lk_X7_37 rfl rfl rfl rfl ?_
  refine Ex_aload_n dX7_init_48 rfl 0 rfl ?_
  refine Ex_iconst (v := 5) dX7_init_49 (by decide) ?_
  refine Ex_nA_i dX7_init_50 q195 (fun a37 => ?_)
  refine Ex_pVF dX7_init_52 lkf_X7_40 rfl rfl rfl rfl rfl rfl ?_
  refine Ex_aload_n dX7_init_55 rfl 0 rfl ?_
  refine Ex_iconst (v := 5) dX7_init_56 (by decide) ?_
  refine Ex_nA_i dX7_init_57 q195 (fun a38 => ?_)
  refine Ex_pVF dX7_init_59 lkf_X7_44 rfl rfl rfl rfl rfl rfl ?_
  refine Ex_aload_n dX7_init_62 rfl 0 rfl ?_
  refine Ex_iconst (v := 5) dX7_init_63 (by decide) ?_
  refine Ex_nA_i dX7_init_64 q195 (fun a39 => ?_)
  refine Ex_pVF dX7_init_66 lkf_X7_47 rfl rfl rfl rfl rfl rfl ?_
  refine Ex_aload_n dX7_init_69 rfl 0 rfl ?_
  refine Ex_nO (ci := 21) (q := qcl 21) dX7_init_70 rfl q1945 q120 q48 (fun a40 => ?_)
  refine Ex_dup rfl dX7_init_73 ?_
  refine Ex_bnU (Inv_I (L_J2_init hG a40) q48 q1946 q122 q123 rfl hm_J2_init (by decide) (by decide) dX7_init_74 rfl (Nat.le_of_ble_eq_true rfl)) (fun _ => ?_)
  refine Ex_pV dX7_init_77 lk_X7_50 rfl rfl rfl rfl ?_
  refine Ex_aload_n dX7_init_80 rfl 0 rfl ?_
  refine Ex_iload_n dX7_init_81 rfl 2 rfl ?_
  refine Ex_pVF dX7_init_82 lkf_X7_53 rfl rfl rfl rfl rfl rfl ?_
  refine Ex_aload_n dX7_init_85 rfl 0 rfl ?_
  refine Ex_nO (ci := 16) (q := qcl 16) dX7_init_86 rfl q1947 q1948 q56 (fun a41 => ?_)
  refine Ex_dup rfl dX7_init_89 ?_
  refine Ex_iconst (v := 0) dX7_init_90 (by decide) ?_
  refine Ex_iconst (v := 0) dX7_init_91 (by decide) ?_
  refine Ex_iload_n dX7_init_92 rfl 3 rfl ?_
  refine Ex_iconst (v := 0) dX7_init_93 (by decide) ?_
  refine Ex_nO (ci := 17) (q := qcl 17) dX7_init_94 rfl q1949 q1950 q57 (fun a42 => ?_)
  refine Ex_dup rfl dX7_init_97 ?_
  refine Ex_bnU (Inv_I (L_X9_init hG a42) q57 q1951 q1952 q1953 rfl hm_X9_init (by decide) (by decide) dX7_init_98 rfl (Nat.le_of_ble_eq_true rfl)) (fun _ => ?_)
  refine Ex_bnU (Inv_I (L_X8_init hG a41 0 0 x3 0 a42) q56 q1965 q1966 q1967 rfl hm_X8_init (by decide) (by decide) dX7_init_101 rfl (Nat.le_of_ble_eq_true rfl)) (fun _ => ?_)
  refine Ex_pV dX7_init_104 lk_X7_64 rfl rfl rfl rfl ?_
  refine Ex_aload_n dX7_init_107 rfl 0 rfl ?_
  refine Ex_nO (ci := 17) (q := qcl 17) dX7_init_108 rfl q1949 q1950 q57 (fun a43 => ?_)
  refine Ex_dup rfl dX7_init_111 ?_
  refine Ex_bnU (Inv_I (L_X9_init hG a43) q57 q1951 q1952 q1953 rfl hm_X9_init (by decide) (by decide) dX7_init_112 rfl (Nat.le_of_ble_eq_true rfl)) (fun _ => ?_)
  refine Ex_pV dX7_init_115 lk_X7_68 rfl rfl rfl rfl ?_
  exact Ex_vreturn dX7_init_118 rfl
-- QuorumAlmanacModel.<init>(I)V
def m_X6_init (a0 : Nat) (x1 : Int32) : Ms Unit :=
  nA 34 5 .null fun a32 =>
  pV [15] 128 a0 (.ref a32) <|
  nO 22 3 dfl fun a33 =>
  bn (m_J2_init a33) fun _ =>
  pV [15] 129 a0 (.ref a33) <|
  nO 22 3 dfl fun a34 =>
  bn (m_J2_init a34) fun _ =>
  pV [15] 130 a0 (.ref a34) <|
  nO 22 3 dfl fun a35 =>
  bn (m_J2_init a35) fun _ =>
  pV [15] 131 a0 (.ref a35) <|
  pV [15] 50 a0 (.int 0) <|
  jn (fun (v36 : Int32) =>
      lp (fun j39 (v38 : Int32) =>
          if 5 ≤ v38 then
            rt ()
          else
            gR [15] 128 a0 fun x40 =>
            nO 16 22 dfl fun a41 =>
            bn (m_X7_init a41 a0 v38 v36) fun _ =>
            sR 34 x40 v38 [16] a41 <|
            j39 (v38 + 1))
        0)
    fun j37 =>
    if 1 ≤ x1 then
      if x1 ≤ 31 then
        j37 x1
      else
        j37 31
    else
      j37 1
theorem hm_X6_init : (yX6_init.cls ≠ "java/lang/invoke/MethodHandle" ∧ yX6_init.cls ≠ "java/lang/invoke/VarHandle" ∧ (parseMethodDescriptor yX6_init.desc).map (fun d => d.parameters.length) = some 1) := by decide +kernel
set_option maxHeartbeats 4000000 in
set_option maxRecDepth 100000 in
theorem L_X6_init {G : GT} (hG : GOK G) (a0 : Nat) (x1 : Int32) : Cal G yX6_init (ws_ yX6_init cX6_init 4 (Option.none : Option Jvm.ClassFile.FieldType)) 6 143 [.ref a0, .int x1] rU (m_X6_init a0 x1) := by
  refine Cal_of hG (by decide +kernel) (Nat.le_of_ble_eq_true rfl) (lv0 := [(0, .ref a0), (1, .int x1)]) rfl (fun X σ0 => ?_)
  delta m_X6_init
  refine Ex_aload_n dX6_init_0 rfl 0 rfl ?_
  refine Ex_objInit dX6_init_1 q1935 q103 q104 (by decide) (Nat.le_of_ble_eq_true rfl) ?_
  refine Ex_aload_n dX6_init_4 rfl 0 rfl ?_
  refine Ex_iconst (v := 5) dX6_init_5 (by decide) ?_
  refine Ex_nA_r (j := 4) dX6_init_6 rfl q1936 q1937 (fun a32 => ?_)
  refine Ex_pVF dX6_init_9 lkf_X6_15 rfl rfl rfl rfl rfl rfl ?_
  refine Ex_aload_n dX6_init_12 rfl 0 rfl ?_
  refine Ex_nO (ci := 21) (q := qcl 21) dX6_init_13 rfl q1938 q120 q48 (fun a33 => ?_)
  refine Ex_dup rfl dX6_init_16 ?_
  refine Ex_bnU (Inv_I (L_J2_init hG a33) q48 q1939 q122 q123 rfl hm_J2_init (by decide) (by decide) dX6_init_17 rfl (Nat.le_of_ble_eq_true rfl)) (fun _ => ?_)
  refine Ex_pVF dX6_init_20 lkf_X6_22 rfl rfl rfl rfl rfl rfl ?_
  refine Ex_aload_n dX6_init_23 rfl 0 rfl ?_
  refine Ex_nO (ci := 21) (q := qcl 21) dX6_init_24 rfl q1938 q120 q48 (fun a34 => ?_)
  refine Ex_dup rfl dX6_init_27 ?_
  refine Ex_bnU (Inv_I (L_J2_init hG a34) q48 q1939 q122 q123 rfl hm_J2_init (by decide) (by decide) dX6_init_28 rfl (Nat.le_of_ble_eq_true rfl)) (fun _ => ?_)
  refine Ex_pVF dX6_init_31 lkf_X6_26 rfl rfl rfl rfl rfl rfl ?_
  refine Ex_aload_n dX6_init_34 rfl 0 rfl ?_
  refine Ex_nO (ci := 21) (q := qcl 21) dX6_init_35 rfl q1938 q120 q48 (fun a35 => ?_)
  refine Ex_dup rfl dX6_init_38 ?_
  refine Ex_bnU (Inv_I (L_J2_init hG a35) q48 q1939 q122 q123 rfl hm_J2_init (by decide) (by decide) dX6_init_39 rfl (Nat.le_of_ble_eq_true rfl)) (fun _ => ?_)
  refine Ex_pVF dX6_init_42 lkf_X6_29 rfl rfl rfl rfl rfl rfl ?_
  refine Ex_aload_n dX6_init_45 rfl 0 rfl ?_
  refine Ex_iconst (v := 0) dX6_init_46 (by decide) ?_
  refine Ex_pV dX6_init_47 lk_X6_32 rfl rfl rfl rfl ?_
  refine Ex_iload_n dX6_init_50 rfl 1 rfl ?_
  refine Ex_iconst (v := 1) dX6_init_51 (by decide) ?_
  refine Ex_jn (γ := Int32) (pj := 71) (fun v36 => [(0, .ref a0)]) (fun v36 => [.int v36]) (fun v36 => ?_) (fun j37 hj37 => ?_)
  · refine Ex_istore_n (lv' := [(0, .ref a0), (2, .int v36)]) dX6_init_71 rfl (by decide) [1, 0] rfl ?_
    refine Ex_iconst (v := 0) dX6_init_72 (by decide) ?_
    refine Ex_istore_n (lv' := [(0, .ref a0), (2, .int v36), (3, .int 0)]) dX6_init_73 rfl (by decide) [1, 2, 0] rfl ?_
    refine Ex_lp (γ := Int32) (pj := 74) (fun v38 => [(0, .ref a0), (2, .int v36), (3, .int v38)]) (fun v38 => []) (fun j39 hj39 v38 => ?_) 0 rfl rfl
    refine Ex_iload_n dX6_init_74 rfl 2 rfl ?_
    refine Ex_iconst (v := 5) dX6_init_75 (by decide) ?_
    refine Ex_icmp_ge (tgt := 101) dX6_init_76 (by decide) ?_ ?_
    · exact Ex_vreturn dX6_init_101 rfl
    · refine Ex_aload_n dX6_init_79 rfl 0 rfl ?_
      refine Ex_gR dX6_init_80 lk_X6_15 rfl (fun x40 => ?_)
      refine Ex_iload_n dX6_init_83 rfl 2 rfl ?_
      refine Ex_nO (ci := 15) (q := qcl 15) dX6_init_84 rfl q1936 q1940 q55 (fun a41 => ?_)
      refine Ex_dup rfl dX6_init_87 ?_
      refine Ex_aload_n dX6_init_88 rfl 0 rfl ?_
      refine Ex_iload_n dX6_init_89 rfl 2 rfl ?_
      refine Ex_iload_n dX6_init_90 rfl 1 rfl ?_
      refine Ex_bnU (Inv_I (L_X7_init hG a41 a0 v38 v36) q55 q1941 q1942 q1943 rfl hm_X7_init (by decide) (by decide) dX6_init_91 rfl (Nat.le_of_ble_eq_true rfl)) (fun _ => ?_)
      refine Ex_sR (j := 4) rfl oc_QuorumAlmanacModel_Node_16 dX6_init_94 ?_
      refine Ex_iinc (j := 2) (lv' := [(0, .ref a0), (2, .int v36), (3, .int (v38 + 1))]) dX6_init_95 rfl rfl (by decide) [1, 2, 0] rfl ?_
      refine Ex_goto (tgt := 74) dX6_init_98 (by decide) ?_
      exact hj39 (v38 + 1)
  · refine Ex_icmp_ge (tgt := 59) dX6_init_52 (by decide) ?_ ?_
    · refine Ex_iload_n dX6_init_59 rfl 1 rfl ?_
      refine Ex_bipush (v := 31) dX6_init_60 (by decide) ?_
      refine Ex_icmp_le (tgt := 70) dX6_init_62 (by decide) ?_ ?_
      · refine Ex_iload_n dX6_init_70 rfl 1 rfl ?_
        refine Ex_lv [0] (lv' := [(0, .ref a0)]) rfl ?_
        exact hj37 x1
      · refine Ex_bipush (v := 31) dX6_init_65 (by decide) ?_
        refine Ex_goto (tgt := 71) dX6_init_67 (by decide) ?_
        refine Ex_lv [0] (lv' := [(0, .ref a0)]) rfl ?_
        exact hj37 31
    · refine Ex_iconst (v := 1) dX6_init_55 (by decide) ?_
      refine Ex_goto (tgt := 71) dX6_init_56 (by decide) ?_
      refine Ex_lv [0] (lv' := [(0, .ref a0)]) rfl ?_
      exact hj37 1
-- QuorumAlmanacModel.thrown()I
def m_X6_thrown (a0 : Nat) : Ms Int32 :=
  gI [15] 50 a0 fun x22 =>
  rt x22
theorem hm_X6_thrown : (yX6_thrown.cls ≠ "java/lang/invoke/MethodHandle" ∧ yX6_thrown.cls ≠ "java/lang/invoke/VarHandle" ∧ (parseMethodDescriptor yX6_thrown.desc).map (fun d => d.parameters.length) = some 0) := by decide +kernel
set_option maxHeartbeats 4000000 in
set_option maxRecDepth 100000 in
theorem L_X6_thrown {G : GT} (hG : GOK G) (a0 : Nat) : Cal G yX6_thrown (ws_ yX6_thrown cX6_thrown 1 (Option.some Jvm.ClassFile.FieldType.int)) 2 60 [.ref a0] rI (m_X6_thrown a0) := by
  refine Cal_of hG (by decide +kernel) (Nat.le_of_ble_eq_true rfl) (lv0 := [(0, .ref a0)]) rfl (fun X σ0 => ?_)
  delta m_X6_thrown
  refine Ex_aload_n dX6_thrown_0 rfl 0 rfl ?_
  refine Ex_gI dX6_thrown_1 lk_X6_32 rfl (fun x22 => ?_)
  exact Ex_ireturn dX6_thrown_4 rfl
-- QuorumAlmanacModel.in(III)Z
def m_X6_in (x0 : Int32) (x1 : Int32) (x2 : Int32) : Ms Int32 :=
  jn (fun (v20 : Int32) =>
      ck (v20 = 0 ∨ v20 = 1) <|
      rt v20)
    fun j21 =>
    jn (fun (v22 : Unit) =>
        j21 0)
      fun j23 =>
      if x0 < x1 then
        j23 ()
      else
        if x2 < x0 then
          j23 ()
        else
          j21 1
theorem hm_X6_in : (yX6_in.cls ≠ "java/lang/invoke/MethodHandle" ∧ yX6_in.cls ≠ "java/lang/invoke/VarHandle" ∧ (parseMethodDescriptor yX6_in.desc).map (fun d => d.parameters.length) = some 3) := by decide +kernel
set_option maxHeartbeats 4000000 in
set_option maxRecDepth 100000 in
theorem L_X6_in {G : GT} (hG : GOK G) (x0 : Int32) (x1 : Int32) (x2 : Int32) : Cal G yX6_in (ws_ yX6_in cX6_in 3 (Option.some Jvm.ClassFile.FieldType.boolean)) 2 60 [.int x0, .int x1, .int x2] rI (m_X6_in x0 x1 x2) := by
  refine Cal_of hG (by decide +kernel) (Nat.le_of_ble_eq_true rfl) (lv0 := [(0, .int x0), (1, .int x1), (2, .int x2)]) rfl (fun X σ0 => ?_)
  delta m_X6_in
  refine Ex_iload_n dX6_in_0 rfl 0 rfl ?_
  refine Ex_iload_n dX6_in_1 rfl 1 rfl ?_
  refine Ex_jn (γ := Int32) (pj := 15) (fun v20 => []) (fun v20 => [.int v20]) (fun v20 => ?_) (fun j21 hj21 => ?_)
  · refine Ex_ck (fun hz => ?_)
    exact Ex_zreturn dX6_in_15 rfl (zok_n hz)
  · refine Ex_jn (γ := Unit) (pj := 14) (fun v22 => []) (fun v22 => []) (fun v22 => ?_) (fun j23 hj23 => ?_)
    · refine Ex_iconst (v := 0) dX6_in_14 (by decide) ?_
      exact hj21 0
    · refine Ex_icmp_lt (tgt := 14) dX6_in_2 (by decide) ?_ ?_
      · refine Ex_lv [] (lv' := []) rfl ?_
        exact hj23 ()
      · refine Ex_iload_n dX6_in_5 rfl 0 rfl ?_
        refine Ex_iload_n dX6_in_6 rfl 2 rfl ?_
        refine Ex_icmp_gt (tgt := 14) dX6_in_7 (by decide) ?_ ?_
        · refine Ex_lv [] (lv' := []) rfl ?_
          exact hj23 ()
        · refine Ex_iconst (v := 1) dX6_in_10 (by decide) ?_
          refine Ex_goto (tgt := 15) dX6_in_11 (by decide) ?_
          refine Ex_lv [] (lv' := []) rfl ?_
          exact hj21 1
-- QuorumAlmanacModel.fails(I)Z
def m_X6_fails (a0 : Nat) (x1 : Int32) : Ms Int32 :=
  pV [15] 50 a0 (.int x1) <|
  jn (fun (v20 : Int32) =>
      ck (v20 = 0 ∨ v20 = 1) <|
      rt v20)
    fun j21 =>
    if x1 ≤ 0 then
      j21 0
    else
      j21 1
theorem hm_X6_fails : (yX6_fails.cls ≠ "java/lang/invoke/MethodHandle" ∧ yX6_fails.cls ≠ "java/lang/invoke/VarHandle" ∧ (parseMethodDescriptor yX6_fails.desc).map (fun d => d.parameters.length) = some 1) := by decide +kernel
set_option maxHeartbeats 4000000 in
set_option maxRecDepth 100000 in
theorem L_X6_fails {G : GT} (hG : GOK G) (a0 : Nat) (x1 : Int32) : Cal G yX6_fails (ws_ yX6_fails cX6_fails 2 (Option.some Jvm.ClassFile.FieldType.boolean)) 2 60 [.ref a0, .int x1] rI (m_X6_fails a0 x1) := by
  refine Cal_of hG (by decide +kernel) (Nat.le_of_ble_eq_true rfl) (lv0 := [(0, .ref a0), (1, .int x1)]) rfl (fun X σ0 => ?_)
  delta m_X6_fails
  refine Ex_aload_n dX6_fails_0 rfl 0 rfl ?_
  refine Ex_iload_n dX6_fails_1 rfl 1 rfl ?_
  refine Ex_pV dX6_fails_2 lk_X6_32 rfl rfl rfl rfl ?_
  refine Ex_iload_n dX6_fails_5 rfl 1 rfl ?_
  refine Ex_jn (γ := Int32) (pj := 14) (fun v20 => []) (fun v20 => [.int v20]) (fun v20 => ?_) (fun j21 hj21 => ?_)
  · refine Ex_ck (fun hz => ?_)
    exact Ex_zreturn dX6_fails_14 rfl (zok_n hz)
  · refine Ex_if_le (tgt := 13) dX6_fails_6 (by decide) ?_ ?_
    · refine Ex_iconst (v := 0) dX6_fails_13 (by decide) ?_
      refine Ex_lv [] (lv' := []) rfl ?_
      exact hj21 0
    · refine Ex_iconst (v := 1) dX6_fails_9 (by decide) ?_
      refine Ex_goto (tgt := 14) dX6_fails_10 (by decide) ?_
      refine Ex_lv [] (lv' := []) rfl ?_
      exact hj21 1
