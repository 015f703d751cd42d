-- QuorumAlmanacModel.readStale(II)I
def m_X6_readStale (a0 : Nat) (x1 : Int32) (x2 : Int32) : Ms Int32 :=
  bn (ko [15] a0 (m_X6_failsKey a0 x1 x2)) fun r32 =>
  jn (fun (v33 : Int32) =>
      rt v33)
    fun j34 =>
    if r32 = 0 then
      gR [15] 128 a0 fun x35 =>
      aR 34 x35 x1 fun x36 =>
      gR [16] 134 x36 fun x37 =>
      gR [18] 141 x37 fun x38 =>
      aI 30 x38 x2 fun x39 =>
      j34 x39
    else
      j34 0
theorem hm_X6_readStale : (yX6_readStale.cls ≠ "java/lang/invoke/MethodHandle" ∧ yX6_readStale.cls ≠ "java/lang/invoke/VarHandle" ∧ (parseMethodDescriptor yX6_readStale.desc).map (fun d => d.parameters.length) = some 2) := by decide +kernel
set_option maxHeartbeats 4000000 in
set_option maxRecDepth 100000 in
theorem L_X6_readStale {G : GT} (hG : GOK G) (a0 : Nat) (x1 : Int32) (x2 : Int32) : Cal G yX6_readStale (ws_ yX6_readStale cX6_readStale 3 (Option.some Jvm.ClassFile.FieldType.int)) 5 125 [.ref a0, .int x1, .int x2] rI (m_X6_readStale a0 x1 x2) := by
  refine Cal_of hG (by decide +kernel) (Nat.le_of_ble_eq_true rfl) (lv0 := [(0, .ref a0), (1, .int x1), (2, .int x2)]) rfl (fun X σ0 => ?_)
  delta m_X6_readStale
  refine Ex_aload_n dX6_readStale_0 rfl 0 rfl ?_
  refine Ex_iload_n dX6_readStale_1 rfl 1 rfl ?_
  refine Ex_iload_n dX6_readStale_2 rfl 2 rfl ?_
  refine Ex_bnI (Inv_V (L_X6_failsKey hG a0 x1 x2) (lw_V q2588 q2590 qs43 q54 q2591) oe_15 ⟨rfl, hm_X6_failsKey⟩ (by decide) (by decide) dX6_readStale_3 rfl (Nat.le_of_ble_eq_true rfl)) (fun r32 => ?_)
  refine Ex_jn (γ := Int32) (pj := 27) (fun v33 => []) (fun v33 => [.int v33]) (fun v33 => ?_) (fun j34 hj34 => ?_)
  · exact Ex_ireturn dX6_readStale_27 rfl
  · refine Ex_if_eq (tgt := 13) dX6_readStale_6 (by decide) ?_ ?_
    · refine Ex_aload_n dX6_readStale_13 rfl 0 rfl ?_
      refine Ex_gR dX6_readStale_14 lk_X6_15 rfl (fun x35 => ?_)
      refine Ex_iload_n dX6_readStale_17 rfl 1 rfl ?_
      refine Ex_aR (j := 4) rfl rfl dX6_readStale_18 (fun x36 => ?_)
      refine Ex_gR dX6_readStale_19 lk_X6_235 rfl (fun x37 => ?_)
      refine Ex_gR dX6_readStale_22 lk_X6_239 rfl (fun x38 => ?_)
      refine Ex_iload_n dX6_readStale_25 rfl 2 rfl ?_
      refine Ex_aI_i dX6_readStale_26 (fun x39 => ?_)
      refine Ex_lv [] (lv' := []) rfl ?_
      exact hj34 x39
    · refine Ex_iconst (v := 0) dX6_readStale_9 (by decide) ?_
      refine Ex_goto (tgt := 27) dX6_readStale_10 (by decide) ?_
      refine Ex_lv [] (lv' := []) rfl ?_
      exact hj34 0
-- QuorumAlmanacModel.rangeOf(II)I
def m_X6_rangeOf (a0 : Nat) (x1 : Int32) (x2 : Int32) : Ms Int32 :=
  bn (ko [15] a0 (m_X6_failsKey a0 x1 x2)) fun r30 =>
  jn (fun (v31 : Int32) =>
      rt v31)
    fun j32 =>
    if r30 = 0 then
      gR [15] 128 a0 fun x33 =>
      aR 34 x33 x1 fun x34 =>
      gR [16] 134 x34 fun x35 =>
      bn (ko [18] x35 (m_X9_first x35 x2)) fun r36 =>
      j32 r36
    else
      j32 0
theorem hm_X6_rangeOf : (yX6_rangeOf.cls ≠ "java/lang/invoke/MethodHandle" ∧ yX6_rangeOf.cls ≠ "java/lang/invoke/VarHandle" ∧ (parseMethodDescriptor yX6_rangeOf.desc).map (fun d => d.parameters.length) = some 2) := by decide +kernel
set_option maxHeartbeats 4000000 in
set_option maxRecDepth 100000 in
theorem L_X6_rangeOf {G : GT} (hG : GOK G) (a0 : Nat) (x1 : Int32) (x2 : Int32) : Cal G yX6_rangeOf (ws_ yX6_rangeOf cX6_rangeOf 3 (Option.some Jvm.ClassFile.FieldType.int)) 5 125 [.ref a0, .int x1, .int x2] rI (m_X6_rangeOf a0 x1 x2) := by
  refine Cal_of hG (by decide +kernel) (Nat.le_of_ble_eq_true rfl) (lv0 := [(0, .ref a0), (1, .int x1), (2, .int x2)]) rfl (fun X σ0 => ?_)
  delta m_X6_rangeOf
  refine Ex_aload_n dX6_rangeOf_0 rfl 0 rfl ?_
  refine Ex_iload_n dX6_rangeOf_1 rfl 1 rfl ?_
  refine Ex_iload_n dX6_rangeOf_2 rfl 2 rfl ?_
  refine Ex_bnI (Inv_V (L_X6_failsKey hG a0 x1 x2) (lw_V q2588 q2590 qs43 q54 q2591) oe_15 ⟨rfl, hm_X6_failsKey⟩ (by decide) (by decide) dX6_rangeOf_3 rfl (Nat.le_of_ble_eq_true rfl)) (fun r30 => ?_)
  refine Ex_jn (γ := Int32) (pj := 26) (fun v31 => []) (fun v31 => [.int v31]) (fun v31 => ?_) (fun j32 hj32 => ?_)
  · exact Ex_ireturn dX6_rangeOf_26 rfl
  · refine Ex_if_eq (tgt := 13) dX6_rangeOf_6 (by decide) ?_ ?_
    · refine Ex_aload_n dX6_rangeOf_13 rfl 0 rfl ?_
      refine Ex_gR dX6_rangeOf_14 lk_X6_15 rfl (fun x33 => ?_)
      refine Ex_iload_n dX6_rangeOf_17 rfl 1 rfl ?_
      refine Ex_aR (j := 4) rfl rfl dX6_rangeOf_18 (fun x34 => ?_)
      refine Ex_gR dX6_rangeOf_19 lk_X6_235 rfl (fun x35 => ?_)
      refine Ex_iload_n dX6_rangeOf_22 rfl 2 rfl ?_
      refine Ex_bnI (Inv_V (L_X9_first hG x35 x2) (lw_V q2596 q2307 q2308 q57 q2309) oe_18 ⟨rfl, hm_X9_first⟩ (by decide) (by decide) dX6_rangeOf_23 rfl (Nat.le_of_ble_eq_true rfl)) (fun r36 => ?_)
      refine Ex_lv [] (lv' := []) rfl ?_
      exact hj32 r36
    · refine Ex_iconst (v := 0) dX6_rangeOf_9 (by decide) ?_
      refine Ex_goto (tgt := 26) dX6_rangeOf_10 (by decide) ?_
      refine Ex_lv [] (lv' := []) rfl ?_
      exact hj32 0
-- QuorumAlmanacModel.load(II)I
def m_X6_load (a0 : Nat) (x1 : Int32) (x2 : Int32) : Ms Int32 :=
  bn (ko [15] a0 (m_X6_failsKey a0 x1 x2)) fun r40 =>
  jn (fun (v41 : Int32) =>
      rt v41)
    fun j42 =>
    if r40 = 0 then
      gR [15] 128 a0 fun x43 =>
      aR 34 x43 x1 fun x44 =>
      gR [16] 134 x44 fun x45 =>
      gR [18] 142 x45 fun x46 =>
      gR [15] 128 a0 fun x47 =>
      aR 34 x47 x1 fun x48 =>
      gR [16] 134 x48 fun x49 =>
      bn (ko [18] x49 (m_X9_first x49 x2)) fun r50 =>
      aI 30 x46 r50 fun x51 =>
      j42 x51
    else
      j42 0
theorem hm_X6_load : (yX6_load.cls ≠ "java/lang/invoke/MethodHandle" ∧ yX6_load.cls ≠ "java/lang/invoke/VarHandle" ∧ (parseMethodDescriptor yX6_load.desc).map (fun d => d.parameters.length) = some 2) := by decide +kernel
set_option maxHeartbeats 4000000 in
set_option maxRecDepth 100000 in
theorem L_X6_load {G : GT} (hG : GOK G) (a0 : Nat) (x1 : Int32) (x2 : Int32) : Cal G yX6_load (ws_ yX6_load cX6_load 3 (Option.some Jvm.ClassFile.FieldType.int)) 5 125 [.ref a0, .int x1, .int x2] rI (m_X6_load a0 x1 x2) := by
  refine Cal_of hG (by decide +kernel) (Nat.le_of_ble_eq_true rfl) (lv0 := [(0, .ref a0), (1, .int x1), (2, .int x2)]) rfl (fun X σ0 => ?_)
  delta m_X6_load
  refine Ex_aload_n dX6_load_0 rfl 0 rfl ?_
  refine Ex_iload_n dX6_load_1 rfl 1 rfl ?_
  refine Ex_iload_n dX6_load_2 rfl 2 rfl ?_
  refine Ex_bnI (Inv_V (L_X6_failsKey hG a0 x1 x2) (lw_V q2588 q2590 qs43 q54 q2591) oe_15 ⟨rfl, hm_X6_failsKey⟩ (by decide) (by decide) dX6_load_3 rfl (Nat.le_of_ble_eq_true rfl)) (fun r40 => ?_)
  refine Ex_jn (γ := Int32) (pj := 39) (fun v41 => []) (fun v41 => [.int v41]) (fun v41 => ?_) (fun j42 hj42 => ?_)
  · exact Ex_ireturn dX6_load_39 rfl
  · refine Ex_if_eq (tgt := 13) dX6_load_6 (by decide) ?_ ?_
    · refine Ex_aload_n dX6_load_13 rfl 0 rfl ?_
      refine Ex_gR dX6_load_14 lk_X6_15 rfl (fun x43 => ?_)
      refine Ex_iload_n dX6_load_17 rfl 1 rfl ?_
      refine Ex_aR (j := 4) rfl rfl dX6_load_18 (fun x44 => ?_)
      refine Ex_gR dX6_load_19 lk_X6_235 rfl (fun x45 => ?_)
      refine Ex_gR dX6_load_22 lk_X6_268 rfl (fun x46 => ?_)
      refine Ex_aload_n dX6_load_25 rfl 0 rfl ?_
      refine Ex_gR dX6_load_26 lk_X6_15 rfl (fun x47 => ?_)
      refine Ex_iload_n dX6_load_29 rfl 1 rfl ?_
      refine Ex_aR (j := 4) rfl rfl dX6_load_30 (fun x48 => ?_)
      refine Ex_gR dX6_load_31 lk_X6_235 rfl (fun x49 => ?_)
      refine Ex_iload_n dX6_load_34 rfl 2 rfl ?_
      refine Ex_bnI (Inv_V (L_X9_first hG x49 x2) (lw_V q2596 q2307 q2308 q57 q2309) oe_18 ⟨rfl, hm_X9_first⟩ (by decide) (by decide) dX6_load_35 rfl (Nat.le_of_ble_eq_true rfl)) (fun r50 => ?_)
      refine Ex_aI_i dX6_load_38 (fun x51 => ?_)
      refine Ex_lv [] (lv' := []) rfl ?_
      exact hj42 x51
    · refine Ex_iconst (v := 0) dX6_load_9 (by decide) ?_
      refine Ex_goto (tgt := 39) dX6_load_10 (by decide) ?_
      refine Ex_lv [] (lv' := []) rfl ?_
      exact hj42 0
-- QuorumAlmanacModel.history()I
def m_X6_history (a0 : Nat) : Ms Int32 :=
  pV [15] 50 a0 (.int 0) <|
  gR [15] 131 a0 fun x24 =>
  bn (ko [22] x24 (m_J2_size x24)) fun r25 =>
  rt r25
theorem hm_X6_history : (yX6_history.cls ≠ "java/lang/invoke/MethodHandle" ∧ yX6_history.cls ≠ "java/lang/invoke/VarHandle" ∧ (parseMethodDescriptor yX6_history.desc).map (fun d => d.parameters.length) = some 0) := by decide +kernel
set_option maxHeartbeats 4000000 in
set_option maxRecDepth 100000 in
theorem L_X6_history {G : GT} (hG : GOK G) (a0 : Nat) : Cal G yX6_history (ws_ yX6_history cX6_history 1 (Option.some Jvm.ClassFile.FieldType.int)) 3 80 [.ref a0] rI (m_X6_history a0) := by
  refine Cal_of hG (by decide +kernel) (Nat.le_of_ble_eq_true rfl) (lv0 := [(0, .ref a0)]) rfl (fun X σ0 => ?_)
  delta m_X6_history
  refine Ex_aload_n dX6_history_0 rfl 0 rfl ?_
  refine Ex_iconst (v := 0) dX6_history_1 (by decide) ?_
  refine Ex_pV dX6_history_2 lk_X6_32 rfl rfl rfl rfl ?_
  refine Ex_aload_n dX6_history_5 rfl 0 rfl ?_
  refine Ex_gR dX6_history_6 lk_X6_29 rfl (fun x24 => ?_)
  refine Ex_bnI (Inv_V (L_J2_size hG x24) (lw_V q2229 q112 q113 q48 q114) oe_22 ⟨rfl, hm_J2_size⟩ (by decide) (by decide) dX6_history_9 rfl (Nat.le_of_ble_eq_true rfl)) (fun r25 => ?_)
  exact Ex_ireturn dX6_history_12 rfl
-- QuorumAlmanacModel.valueByHistory(I)I
def m_X6_valueByHistory (a0 : Nat) (x1 : Int32) : Ms Int32 :=
  bn (m_X6_in x1 0 19) fun r38 =>
  jn (fun (v39 : Int32 × Nat) =>
      bn (ko [15] v39.2 (m_X6_fails v39.2 v39.1)) fun r41 =>
      if r41 = 0 then
        gR [15] 131 a0 fun x42 =>
        bn (ko [22] x42 (m_J2_iterator x42)) fun r43 =>
        lp (fun j45 (v44 : Int32) =>
            bn (ko [23] r43 (m_J17_hasNext r43)) fun r46 =>
            if r46 = 0 then
              rt v44
            else
              bn (ko [23] r43 (m_J17_next r43)) fun r47 =>
              ko [20] r47 <|
              gI [20] 83 r47 fun x48 =>
              jn (fun (v49 : Int32) =>
                  j45 v49)
                fun j50 =>
                jn (fun (v51 : Unit) =>
                    j50 v44)
                  fun j52 =>
                  if ¬ x48 = 119 then
                    j52 ()
                  else
                    gI [20] 84 r47 fun x53 =>
                    if ¬ x53 = x1 then
                      j52 ()
                    else
                      gI [20] 85 r47 fun x54 =>
                      j50 x54)
          0
      else
        rt 0)
    fun j40 =>
    if r38 = 0 then
      j40 (1, a0)
    else
      j40 (0, a0)
theorem hm_X6_valueByHistory : (yX6_valueByHistory.cls ≠ "java/lang/invoke/MethodHandle" ∧ yX6_valueByHistory.cls ≠ "java/lang/invoke/VarHandle" ∧ (parseMethodDescriptor yX6_valueByHistory.desc).map (fun d => d.parameters.length) = some 1) := by decide +kernel
set_option maxHeartbeats 4000000 in
set_option maxRecDepth 100000 in
theorem L_X6_valueByHistory {G : GT} (hG : GOK G) (a0 : Nat) (x1 : Int32) : Cal G yX6_valueByHistory (ws_ yX6_valueByHistory cX6_valueByHistory 5 (Option.some Jvm.ClassFile.FieldType.int)) 4 102 [.ref a0, .int x1] rI (m_X6_valueByHistory a0 x1) := by
  refine Cal_of hG (by decide +kernel) (Nat.le_of_ble_eq_true rfl) (lv0 := [(0, .ref a0), (1, .int x1)]) rfl (fun X σ0 => ?_)
  delta m_X6_valueByHistory
  refine Ex_aload_n dX6_valueByHistory_0 rfl 0 rfl ?_
  refine Ex_iload_n dX6_valueByHistory_1 rfl 1 rfl ?_
  refine Ex_iconst (v := 0) dX6_valueByHistory_2 (by decide) ?_
  refine Ex_bipush (v := 19) dX6_valueByHistory_3 (by decide) ?_
  refine Ex_bnI (Inv_S (L_X6_in hG x1 0 19) (lw_S q2113 q2114 q54 q2115) hm_X6_in (by decide) (by decide) dX6_valueByHistory_5 rfl (Nat.le_of_ble_eq_true rfl)) (fun r38 => ?_)
  refine Ex_jn (γ := Int32 × Nat) (pj := 16) (fun v39 => [(0, .ref a0), (1, .int x1)]) (fun v39 => [.int v39.1, .ref v39.2]) (fun v39 => ?_) (fun j40 hj40 => ?_)
  · refine Ex_bnI (Inv_V (L_X6_fails hG v39.2 v39.1) (lw_V q2116 q2118 qs34 q54 q2119) oe_15 ⟨rfl, hm_X6_fails⟩ (by decide) (by decide) dX6_valueByHistory_16 rfl (Nat.le_of_ble_eq_true rfl)) (fun r41 => ?_)
    refine Ex_if_eq (tgt := 24) dX6_valueByHistory_19 (by decide) ?_ ?_
    · refine Ex_iconst (v := 0) dX6_valueByHistory_24 (by decide) ?_
      refine Ex_istore_n (lv' := [(0, .ref a0), (1, .int x1), (2, .int 0)]) dX6_valueByHistory_25 rfl (by decide) [1, 2, 0] rfl ?_
      refine Ex_aload_n dX6_valueByHistory_26 rfl 0 rfl ?_
      refine Ex_gR dX6_valueByHistory_27 lk_X6_29 rfl (fun x42 => ?_)
      refine Ex_bnR (Inv_V (L_J2_iterator hG x42) (lw_V q2443 q1149 q1150 q48 q1151) oe_22 ⟨rfl, hm_J2_iterator⟩ (by decide) (by decide) dX6_valueByHistory_30 rfl (Nat.le_of_ble_eq_true rfl)) (fun r43 => ?_)
      refine Ex_astore_n (lv' := [(0, .ref a0), (1, .int x1), (2, .int 0), (3, .ref r43)]) dX6_valueByHistory_33 rfl (by decide) [1, 2, 3, 0] rfl ?_
      refine Ex_lv [1, 2, 3] (lv' := [(1, .int x1), (2, .int 0), (3, .ref r43)]) rfl ?_
      refine Ex_lp (γ := Int32) (pj := 34) (fun v44 => [(1, .int x1), (2, .int v44), (3, .ref r43)]) (fun v44 => []) (fun j45 hj45 v44 => ?_) 0 rfl rfl
      refine Ex_aload_n dX6_valueByHistory_34 rfl 2 rfl ?_
      refine Ex_bnI (Inv_F (L_J17_hasNext hG r43) (lw_F q2445 q1176 q1178 q77 q1180) q1174 q1173 q1179 q1177 q1175 oe_23 hx_Iterator_hasNext (by decide) (by decide) dX6_valueByHistory_35 rfl (Nat.le_of_ble_eq_true rfl)) (fun r46 => ?_)
      refine Ex_if_eq (tgt := 86) dX6_valueByHistory_40 (by decide) ?_ ?_
      · refine Ex_iload_n dX6_valueByHistory_86 rfl 1 rfl ?_
        exact Ex_ireturn dX6_valueByHistory_87 rfl
      · refine Ex_aload_n dX6_valueByHistory_43 rfl 2 rfl ?_
        refine Ex_bnR (Inv_F (L_J17_next hG r43) (lw_F q2447 q1185 q1187 q77 q1189) q1184 q1183 q1188 q1186 q1175 oe_23 hx_Iterator_next (by decide) (by decide) dX6_valueByHistory_44 rfl (Nat.le_of_ble_eq_true rfl)) (fun r47 => ?_)
        refine Ex_ko dX6_valueByHistory_49 q2516 oc_QuorumAlmanacModel_Entry_20 ?_
        refine Ex_astore (lv' := [(1, .int x1), (2, .int v44), (3, .ref r43), (4, .ref r47)]) dX6_valueByHistory_52 (by decide) [1, 2, 3, 0] rfl ?_
        refine Ex_aload dX6_valueByHistory_54 3 rfl ?_
        refine Ex_gI dX6_valueByHistory_56 lk_X6_156 rfl (fun x48 => ?_)
        refine Ex_bipush (v := 119) dX6_valueByHistory_59 (by decide) ?_
        refine Ex_jn (γ := Int32) (pj := 82) (fun v49 => [(1, .int x1), (3, .ref r43)]) (fun v49 => [.int v49]) (fun v49 => ?_) (fun j50 hj50 => ?_)
        · refine Ex_istore_n (lv' := [(1, .int x1), (2, .int v49), (3, .ref r43)]) dX6_valueByHistory_82 rfl (by decide) [1, 0, 2] rfl ?_
          refine Ex_goto (tgt := 34) dX6_valueByHistory_83 (by decide) ?_
          exact hj45 v49
        · refine Ex_jn (γ := Unit) (pj := 81) (fun v51 => [(1, .int x1), (2, .int v44), (3, .ref r43)]) (fun v51 => []) (fun v51 => ?_) (fun j52 hj52 => ?_)
          · refine Ex_iload_n dX6_valueByHistory_81 rfl 1 rfl ?_
            refine Ex_lv [0, 2] (lv' := [(1, .int x1), (3, .ref r43)]) rfl ?_
            exact hj50 v44
          · refine Ex_icmp_ne (tgt := 81) dX6_valueByHistory_61 (by decide) ?_ ?_
            · refine Ex_lv [0, 1, 2] (lv' := [(1, .int x1), (2, .int v44), (3, .ref r43)]) rfl ?_
              exact hj52 ()
            · refine Ex_aload dX6_valueByHistory_64 3 rfl ?_
              refine Ex_gI dX6_valueByHistory_66 lk_X6_271 rfl (fun x53 => ?_)
              refine Ex_iload_n dX6_valueByHistory_69 rfl 0 rfl ?_
              refine Ex_icmp_ne (tgt := 81) dX6_valueByHistory_70 (by decide) ?_ ?_
              · refine Ex_lv [0, 1, 2] (lv' := [(1, .int x1), (2, .int v44), (3, .ref r43)]) rfl ?_
                exact hj52 ()
              · refine Ex_aload dX6_valueByHistory_73 3 rfl ?_
                refine Ex_gI dX6_valueByHistory_75 lk_X6_274 rfl (fun x54 => ?_)
                refine Ex_goto (tgt := 82) dX6_valueByHistory_78 (by decide) ?_
                refine Ex_lv [0, 2] (lv' := [(1, .int x1), (3, .ref r43)]) rfl ?_
                exact hj50 x54
    · refine Ex_iconst (v := 0) dX6_valueByHistory_22 (by decide) ?_
      exact Ex_ireturn dX6_valueByHistory_23 rfl
  · refine Ex_if_eq (tgt := 15) dX6_valueByHistory_8 (by decide) ?_ ?_
    · refine Ex_iconst (v := 1) dX6_valueByHistory_15 (by decide) ?_
      exact hj40 (1, a0)
    · refine Ex_iconst (v := 0) dX6_valueByHistory_11 (by decide) ?_
      refine Ex_goto (tgt := 16) dX6_valueByHistory_12 (by decide) ?_
      exact hj40 (0, a0)
-- QuorumAlmanacModel.delivered()J
def m_X6_delivered (a0 : Nat) : Ms Int64 :=
  pV [15] 50 a0 (.int 0) <|
  gJ [15] 155 a0 fun x22 =>
  rt x22
theorem hm_X6_delivered : (yX6_delivered.cls ≠ "java/lang/invoke/MethodHandle" ∧ yX6_delivered.cls ≠ "java/lang/invoke/VarHandle" ∧ (parseMethodDescriptor yX6_delivered.desc).map (fun d => d.parameters.length) = some 0) := by decide +kernel
set_option maxHeartbeats 4000000 in
set_option maxRecDepth 100000 in
theorem L_X6_delivered {G : GT} (hG : GOK G) (a0 : Nat) : Cal G yX6_delivered (ws_ yX6_delivered cX6_delivered 1 (Option.some Jvm.ClassFile.FieldType.long)) 2 60 [.ref a0] rJ (m_X6_delivered a0) := by
  refine Cal_of hG (by decide +kernel) (Nat.le_of_ble_eq_true rfl) (lv0 := [(0, .ref a0)]) rfl (fun X σ0 => ?_)
  delta m_X6_delivered
  refine Ex_aload_n dX6_delivered_0 rfl 0 rfl ?_
  refine Ex_iconst (v := 0) dX6_delivered_1 (by decide) ?_
  refine Ex_pV dX6_delivered_2 lk_X6_32 rfl rfl rfl rfl ?_
  refine Ex_aload_n dX6_delivered_5 rfl 0 rfl ?_
  refine Ex_gJ dX6_delivered_6 lk_X6_195 rfl (fun x22 => ?_)
  exact Ex_lreturn dX6_delivered_9 rfl
-- QuorumAlmanacModel.refusedShare()F
def m_X6_refusedShare (a0 : Nat) : Ms UInt32 :=
  gJ [15] 155 a0 fun x28 =>
  jn (fun (v29 : Int32 × Nat) =>
      bn (ko [15] v29.2 (m_X6_fails v29.2 v29.1)) fun r31 =>
      jn (fun (v32 : UInt32) =>
          rt v32)
        fun j33 =>
        if r31 = 0 then
          gI [15] 53 a0 fun x34 =>
          gJ [15] 155 a0 fun x35 =>
          ck (FP.fdiv (FP.i2f x34) (FP.l2f x35) &&& 0x7fffffff ≤ 0x7f800000) <|
          j33 (FP.fdiv (FP.i2f x34) (FP.l2f x35))
        else
          j33 FP.fconst0)
    fun j30 =>
    if ¬ (lg_cmp x28 0) = 0 then
      j30 (0, a0)
    else
      j30 (1, a0)
theorem hm_X6_refusedShare : (yX6_refusedShare.cls ≠ "java/lang/invoke/MethodHandle" ∧ yX6_refusedShare.cls ≠ "java/lang/invoke/VarHandle" ∧ (parseMethodDescriptor yX6_refusedShare.desc).map (fun d => d.parameters.length) = some 0) := by decide +kernel
set_option maxHeartbeats 4000000 in
set_option maxRecDepth 100000 in
theorem L_X6_refusedShare {G : GT} (hG : GOK G) (a0 : Nat) : Cal G yX6_refusedShare (ws_ yX6_refusedShare cX6_refusedShare 1 (Option.some Jvm.ClassFile.FieldType.float)) 3 81 [.ref a0] rF (m_X6_refusedShare a0) := by
  refine Cal_of hG (by decide +kernel) (Nat.le_of_ble_eq_true rfl) (lv0 := [(0, .ref a0)]) rfl (fun X σ0 => ?_)
  delta m_X6_refusedShare
  refine Ex_aload_n dX6_refusedShare_0 rfl 0 rfl ?_
  refine Ex_aload_n dX6_refusedShare_1 rfl 0 rfl ?_
  refine Ex_gJ dX6_refusedShare_2 lk_X6_195 rfl (fun x28 => ?_)
  refine Ex_lconst (v := 0) dX6_refusedShare_5 (by decide) ?_
  refine Ex_lcmp dX6_refusedShare_6 ?_
  refine Ex_jn (γ := Int32 × Nat) (pj := 15) (fun v29 => [(0, .ref a0)]) (fun v29 => [.int v29.1, .ref v29.2]) (fun v29 => ?_) (fun j30 hj30 => ?_)
  · refine Ex_bnI (Inv_V (L_X6_fails hG v29.2 v29.1) (lw_V q2116 q2118 qs34 q54 q2119) oe_15 ⟨rfl, hm_X6_fails⟩ (by decide) (by decide) dX6_refusedShare_15 rfl (Nat.le_of_ble_eq_true rfl)) (fun r31 => ?_)
    refine Ex_jn (γ := UInt32) (pj := 36) (fun v32 => []) (fun v32 => [.float v32]) (fun v32 => ?_) (fun j33 hj33 => ?_)
    · exact Ex_freturn dX6_refusedShare_36 rfl
    · refine Ex_if_eq (tgt := 25) dX6_refusedShare_18 (by decide) ?_ ?_
      · refine Ex_aload_n dX6_refusedShare_25 rfl 0 rfl ?_
        refine Ex_gI dX6_refusedShare_26 lk_X6_277 rfl (fun x34 => ?_)
        refine Ex_i2f dX6_refusedShare_29 ?_
        refine Ex_aload_n dX6_refusedShare_30 rfl 0 rfl ?_
        refine Ex_gJ dX6_refusedShare_31 lk_X6_195 rfl (fun x35 => ?_)
        refine Ex_l2f dX6_refusedShare_34 ?_
        refine Ex_ck (fun hne => ?_)
        refine Ex_fdiv hne dX6_refusedShare_35 ?_
        refine Ex_lv [] (lv' := []) rfl ?_
        exact hj33 (FP.fdiv (FP.i2f x34) (FP.l2f x35))
      · refine Ex_fconst0 dX6_refusedShare_21 ?_
        refine Ex_goto (tgt := 36) dX6_refusedShare_22 (by decide) ?_
        refine Ex_lv [] (lv' := []) rfl ?_
        exact hj33 FP.fconst0
  · refine Ex_if_ne (tgt := 14) dX6_refusedShare_7 (by decide) ?_ ?_
    · refine Ex_iconst (v := 0) dX6_refusedShare_14 (by decide) ?_
      exact hj30 (0, a0)
    · refine Ex_iconst (v := 1) dX6_refusedShare_10 (by decide) ?_
      refine Ex_goto (tgt := 15) dX6_refusedShare_11 (by decide) ?_
      exact hj30 (1, a0)
-- QuorumAlmanacModel.meanLast()D
def m_X6_meanLast (a0 : Nat) : Ms UInt64 :=
  pV [15] 50 a0 (.int 0) <|
  gR [15] 128 a0 fun x28 =>
  aL 34 x28 fun x29 =>
  lp (fun j31 (v30 : Int32 × Int32) =>
      if x29 ≤ v30.2 then
        ck (FP.ddiv (FP.i2d v30.1) 4617315517961601024 &&& 0x7fffffffffffffff ≤ 0x7ff0000000000000) <|
        rt (FP.ddiv (FP.i2d v30.1) 4617315517961601024)
      else
        aR 34 x28 v30.2 fun x32 =>
        bn (ko [16] x32 (m_X7_last x32)) fun r33 =>
        j31 ((v30.1 + r33), (v30.2 + 1)))
    (0, 0)
theorem hm_X6_meanLast : (yX6_meanLast.cls ≠ "java/lang/invoke/MethodHandle" ∧ yX6_meanLast.cls ≠ "java/lang/invoke/VarHandle" ∧ (parseMethodDescriptor yX6_meanLast.desc).map (fun d => d.parameters.length) = some 0) := by decide +kernel
set_option maxHeartbeats 4000000 in
set_option maxRecDepth 100000 in
theorem L_X6_meanLast {G : GT} (hG : GOK G) (a0 : Nat) : Cal G yX6_meanLast (ws_ yX6_meanLast cX6_meanLast 6 (Option.some Jvm.ClassFile.FieldType.double)) 4 100 [.ref a0] rD (m_X6_meanLast a0) := by
  refine Cal_of hG (by decide +kernel) (Nat.le_of_ble_eq_true rfl) (lv0 := [(0, .ref a0)]) rfl (fun X σ0 => ?_)
  delta m_X6_meanLast
  refine Ex_aload_n dX6_meanLast_0 rfl 0 rfl ?_
  refine Ex_iconst (v := 0) dX6_meanLast_1 (by decide) ?_
  refine Ex_pV dX6_meanLast_2 lk_X6_32 rfl rfl rfl rfl ?_
  refine Ex_iconst (v := 0) dX6_meanLast_5 (by decide) ?_
  refine Ex_istore_n (lv' := [(0, .ref a0), (1, .int 0)]) dX6_meanLast_6 rfl (by decide) [1, 0] rfl ?_
  refine Ex_aload_n dX6_meanLast_7 rfl 0 rfl ?_
  refine Ex_gR dX6_meanLast_8 lk_X6_15 rfl (fun x28 => ?_)
  refine Ex_astore_n (lv' := [(0, .ref a0), (1, .int 0), (2, .ref x28)]) dX6_meanLast_11 rfl (by decide) [1, 2, 0] rfl ?_
  refine Ex_aload_n dX6_meanLast_12 rfl 2 rfl ?_
  refine Ex_aL (j := 4) rfl dX6_meanLast_13 (fun x29 => ?_)
  refine Ex_istore_n (lv' := [(0, .ref a0), (1, .int 0), (2, .ref x28), (3, .int x29)]) dX6_meanLast_14 rfl (by decide) [1, 2, 3, 0] rfl ?_
  refine Ex_iconst (v := 0) dX6_meanLast_15 (by decide) ?_
  refine Ex_istore (lv' := [(0, .ref a0), (1, .int 0), (2, .ref x28), (3, .int x29), (4, .int 0)]) dX6_meanLast_16 (by decide) [1, 2, 3, 4, 0] rfl ?_
  refine Ex_lv [1, 2, 3, 4] (lv' := [(1, .int 0), (2, .ref x28), (3, .int x29), (4, .int 0)]) rfl ?_
  refine Ex_lp (γ := Int32 × Int32) (pj := 18) (fun v30 => [(1, .int v30.1), (2, .ref x28), (3, .int x29), (4, .int v30.2)]) (fun v30 => []) (fun j31 hj31 v30 => ?_) (0, 0) rfl rfl
  refine Ex_iload dX6_meanLast_18 3 rfl ?_
  refine Ex_iload_n dX6_meanLast_20 rfl 2 rfl ?_
  refine Ex_icmp_ge (tgt := 44) dX6_meanLast_21 (by decide) ?_ ?_
  · refine Ex_iload_n dX6_meanLast_44 rfl 0 rfl ?_
    refine Ex_i2d dX6_meanLast_45 ?_
    refine Ex_ldc2d (v := 4617315517961601024) q2621 dX6_meanLast_46 ?_
    refine Ex_ck (fun hne => ?_)
    refine Ex_ddiv hne dX6_meanLast_49 ?_
    exact Ex_dreturn dX6_meanLast_50 rfl
  · refine Ex_aload_n dX6_meanLast_24 rfl 1 rfl ?_
    refine Ex_iload dX6_meanLast_25 3 rfl ?_
    refine Ex_aR (j := 4) rfl rfl dX6_meanLast_27 (fun x32 => ?_)
    refine Ex_astore (lv' := [(1, .int v30.1), (2, .ref x28), (3, .int x29), (4, .int v30.2), (5, .ref x32)]) dX6_meanLast_28 (by decide) [1, 2, 3, 4, 0] rfl ?_
    refine Ex_iload_n dX6_meanLast_30 rfl 0 rfl ?_
    refine Ex_aload dX6_meanLast_31 4 rfl ?_
    refine Ex_bnI (Inv_V (L_X7_last hG x32) (lw_V q2390 q2139 q2140 q55 q2141) oe_16 ⟨rfl, hm_X7_last⟩ (by decide) (by decide) dX6_meanLast_33 rfl (Nat.le_of_ble_eq_true rfl)) (fun r33 => ?_)
    refine Ex_iadd dX6_meanLast_36 ?_
    refine Ex_istore_n (lv' := [(1, .int (v30.1 + r33)), (2, .ref x28), (3, .int x29), (4, .int v30.2), (5, .ref x32)]) dX6_meanLast_37 rfl (by decide) [0, 1, 2, 3, 4] rfl ?_
    refine Ex_iinc (j := 3) (lv' := [(1, .int (v30.1 + r33)), (2, .ref x28), (3, .int x29), (4, .int (v30.2 + 1)), (5, .ref x32)]) dX6_meanLast_38 rfl rfl (by decide) [1, 2, 3, 0, 4] rfl ?_
    refine Ex_goto (tgt := 18) dX6_meanLast_41 (by decide) ?_
    refine Ex_lv [0, 1, 2, 3] (lv' := [(1, .int (v30.1 + r33)), (2, .ref x28), (3, .int x29), (4, .int (v30.2 + 1))]) rfl ?_
    exact hj31 ((v30.1 + r33), (v30.2 + 1))
-- QuorumAlmanacModel.isSound()Z
def m_X6_isSound (a0 : Nat) : Ms Int32 :=
  pV [15] 50 a0 (.int 0) <|
  rt 1
theorem hm_X6_isSound : (yX6_isSound.cls ≠ "java/lang/invoke/MethodHandle" ∧ yX6_isSound.cls ≠ "java/lang/invoke/VarHandle" ∧ (parseMethodDescriptor yX6_isSound.desc).map (fun d => d.parameters.length) = some 0) := by decide +kernel
set_option maxHeartbeats 4000000 in
set_option maxRecDepth 100000 in
theorem L_X6_isSound {G : GT} (hG : GOK G) (a0 : Nat) : Cal G yX6_isSound (ws_ yX6_isSound cX6_isSound 1 (Option.some Jvm.ClassFile.FieldType.boolean)) 2 60 [.ref a0] rI (m_X6_isSound a0) := by
  refine Cal_of hG (by decide +kernel) (Nat.le_of_ble_eq_true rfl) (lv0 := [(0, .ref a0)]) rfl (fun X σ0 => ?_)
  delta m_X6_isSound
  refine Ex_aload_n dX6_isSound_0 rfl 0 rfl ?_
  refine Ex_iconst (v := 0) dX6_isSound_1 (by decide) ?_
  refine Ex_pV dX6_isSound_2 lk_X6_32 rfl rfl rfl rfl ?_
  refine Ex_iconst (v := 1) dX6_isSound_5 (by decide) ?_
  exact Ex_zreturn dX6_isSound_6 rfl rfl
-- QuorumAlmanacLaw.law([I)Z
def m_L_law (a0 : Nat) : Ms Int32 :=
  nO 1 11 dfl fun a520 =>
  bn (m_X0_cell a0 0) fun r521 =>
  bn (m_X1_init a520 r521) fun _ =>
  nO 15 9 dfl fun a522 =>
  bn (m_X0_cell a0 0) fun r523 =>
  bn (m_X6_init a522 r523) fun _ =>
  nA 35 1 (.long 0) fun a524 =>
  nA 36 1 (.double 0) fun a525 =>
  lp (fun j527 (v526 : Int32) =>
      aL 30 a0 fun x528 =>
      if (x528 - 4) < v526 then
        rt 1
      else
        aI 30 a0 v526 fun x529 =>
        jn (fun (v530 : Unit) =>
            j527 (v526 + 4))
          fun j531 =>
          tsw 40 (x529 &&& 63) (fun i => match i with
            | 0 =>
              aI 30 a0 (v526 + 1) fun x532 =>
              bn (m_X0_tick a520 x532 a524) fun r533 =>
              aI 30 a0 (v526 + 1) fun x534 =>
              bn (ko [15] a522 (m_X6_tick a522 x534)) fun r535 =>
              bn (ko [15] a522 (m_X6_thrown a522)) fun r536 =>
              if r536 = r533 then
                jn (fun (v537 : Unit) =>
                    j531 ())
                  fun j538 =>
                  if ¬ r533 = 0 then
                    j538 ()
                  else
                    aJ 35 a524 0 fun x539 =>
                    if (lg_cmp x539 r535.toInt64) = 0 then
                      j538 ()
                    else
                      rt 0
              else
                rt 0
            | 1 =>
              aI 30 a0 (v526 + 1) fun x540 =>
              bn (m_X0_sync a520 x540 a524) fun r541 =>
              aI 30 a0 (v526 + 1) fun x542 =>
              bn (ko [15] a522 (m_X6_sync a522 x542)) fun r543 =>
              bn (ko [15] a522 (m_X6_thrown a522)) fun r544 =>
              if r544 = r541 then
                jn (fun (v545 : Unit) =>
                    j531 ())
                  fun j546 =>
                  if ¬ r541 = 0 then
                    j546 ()
                  else
                    aJ 35 a524 0 fun x547 =>
                    if (lg_cmp x547 r543.toInt64) = 0 then
                      j546 ()
                    else
                      rt 0
              else
                rt 0
            | 2 =>
              aI 30 a0 (v526 + 1) fun x548 =>
              bn (m_X0_crash a520 x548 a524) fun r549 =>
              aI 30 a0 (v526 + 1) fun x550 =>
              bn (ko [15] a522 (m_X6_crash a522 x550)) fun r551 =>
              bn (ko [15] a522 (m_X6_thrown a522)) fun r552 =>
              if r552 = r549 then
                jn (fun (v553 : Unit) =>
                    j531 ())
                  fun j554 =>
                  if ¬ r549 = 0 then
                    j554 ()
                  else
                    aJ 35 a524 0 fun x555 =>
                    if (lg_cmp x555 r551.toInt64) = 0 then
                      j554 ()
                    else
                      rt 0
              else
                rt 0
            | 3 =>
              aI 30 a0 (v526 + 1) fun x556 =>
              bn (m_X0_start a520 x556 a524) fun r557 =>
              aI 30 a0 (v526 + 1) fun x558 =>
              bn (ko [15] a522 (m_X6_start a522 x558)) fun r559 =>
              bn (ko [15] a522 (m_X6_thrown a522)) fun r560 =>
              if r560 = r557 then
                jn (fun (v561 : Unit) =>
                    j531 ())
                  fun j562 =>
                  if ¬ r557 = 0 then
                    j562 ()
                  else
                    aJ 35 a524 0 fun x563 =>
                    if (lg_cmp x563 r559.toInt64) = 0 then
                      j562 ()
                    else
                      rt 0
              else
                rt 0
            | 4 =>
              aI 30 a0 (v526 + 1) fun x564 =>
              bn (m_X0_compact a520 x564 a524) fun r565 =>
              aI 30 a0 (v526 + 1) fun x566 =>
              bn (ko [15] a522 (m_X6_compact a522 x566)) fun r567 =>
              bn (ko [15] a522 (m_X6_thrown a522)) fun r568 =>
              if r568 = r565 then
                jn (fun (v569 : Unit) =>
                    j531 ())
                  fun j570 =>
                  if ¬ r565 = 0 then
                    j570 ()
                  else
                    aJ 35 a524 0 fun x571 =>
                    if (lg_cmp x571 r567.toInt64) = 0 then
                      j570 ()
                    else
                      rt 0
              else
                rt 0
            | 5 =>
              aI 30 a0 (v526 + 1) fun x572 =>
              bn (m_X0_role a520 x572 a524) fun r573 =>
              aI 30 a0 (v526 + 1) fun x574 =>
              bn (ko [15] a522 (m_X6_role a522 x574)) fun r575 =>
              bn (ko [15] a522 (m_X6_thrown a522)) fun r576 =>
              if r576 = r573 then
                jn (fun (v577 : Unit) =>
                    j531 ())
                  fun j578 =>
                  if ¬ r573 = 0 then
                    j578 ()
                  else
                    aJ 35 a524 0 fun x579 =>
                    if (lg_cmp x579 r575.toInt64) = 0 then
                      j578 ()
                    else
                      rt 0
              else
                rt 0
            | 6 =>
              aI 30 a0 (v526 + 1) fun x580 =>
              bn (m_X0_term a520 x580 a524) fun r581 =>
              aI 30 a0 (v526 + 1) fun x582 =>
              bn (ko [15] a522 (m_X6_term a522 x582)) fun r583 =>
              bn (ko [15] a522 (m_X6_thrown a522)) fun r584 =>
              if r584 = r581 then
                jn (fun (v585 : Unit) =>
                    j531 ())
                  fun j586 =>
                  if ¬ r581 = 0 then
                    j586 ()
                  else
                    aJ 35 a524 0 fun x587 =>
                    if (lg_cmp x587 r583.toInt64) = 0 then
                      j586 ()
                    else
                      rt 0
              else
                rt 0
            | 7 =>
              aI 30 a0 (v526 + 1) fun x588 =>
              bn (m_X0_vote a520 x588 a524) fun r589 =>
              aI 30 a0 (v526 + 1) fun x590 =>
              bn (ko [15] a522 (m_X6_vote a522 x590)) fun r591 =>
              bn (ko [15] a522 (m_X6_thrown a522)) fun r592 =>
              if r592 = r589 then
                jn (fun (v593 : Unit) =>
                    j531 ())
                  fun j594 =>
                  if ¬ r589 = 0 then
                    j594 ()
                  else
                    aJ 35 a524 0 fun x595 =>
                    if (lg_cmp x595 r591.toInt64) = 0 then
                      j594 ()
                    else
                      rt 0
              else
                rt 0
            | 8 =>
              aI 30 a0 (v526 + 1) fun x596 =>
              bn (m_X0_clock a520 x596 a524) fun r597 =>
              aI 30 a0 (v526 + 1) fun x598 =>
              bn (ko [15] a522 (m_X6_clock a522 x598)) fun r599 =>
              bn (ko [15] a522 (m_X6_thrown a522)) fun r600 =>
              if r600 = r597 then
                jn (fun (v601 : Unit) =>
                    j531 ())
                  fun j602 =>
                  if ¬ r597 = 0 then
                    j602 ()
                  else
                    aJ 35 a524 0 fun x603 =>
                    if (lg_cmp x603 r599.toInt64) = 0 then
                      j602 ()
                    else
                      rt 0
              else
                rt 0
            | 9 =>
              aI 30 a0 (v526 + 1) fun x604 =>
              bn (m_X0_last a520 x604 a524) fun r605 =>
              aI 30 a0 (v526 + 1) fun x606 =>
              bn (ko [15] a522 (m_X6_last a522 x606)) fun r607 =>
              bn (ko [15] a522 (m_X6_thrown a522)) fun r608 =>
              if r608 = r605 then
                jn (fun (v609 : Unit) =>
                    j531 ())
                  fun j610 =>
                  if ¬ r605 = 0 then
                    j610 ()
                  else
                    aJ 35 a524 0 fun x611 =>
                    if (lg_cmp x611 r607.toInt64) = 0 then
                      j610 ()
                    else
                      rt 0
              else
                rt 0
            | 10 =>
              aI 30 a0 (v526 + 1) fun x612 =>
              bn (m_X0_synced a520 x612 a524) fun r613 =>
              aI 30 a0 (v526 + 1) fun x614 =>
              bn (ko [15] a522 (m_X6_synced a522 x614)) fun r615 =>
              bn (ko [15] a522 (m_X6_thrown a522)) fun r616 =>
              if r616 = r613 then
                jn (fun (v617 : Unit) =>
                    j531 ())
                  fun j618 =>
                  if ¬ r613 = 0 then
                    j618 ()
                  else
                    aJ 35 a524 0 fun x619 =>
                    if (lg_cmp x619 r615.toInt64) = 0 then
                      j618 ()
                    else
                      rt 0
              else
                rt 0
            | 11 =>
              aI 30 a0 (v526 + 1) fun x620 =>
              bn (m_X0_committed a520 x620 a524) fun r621 =>
              aI 30 a0 (v526 + 1) fun x622 =>
              bn (ko [15] a522 (m_X6_committed a522 x622)) fun r623 =>
              bn (ko [15] a522 (m_X6_thrown a522)) fun r624 =>
              if r624 = r621 then
                jn (fun (v625 : Unit) =>
                    j531 ())
                  fun j626 =>
                  if ¬ r621 = 0 then
                    j626 ()
                  else
                    aJ 35 a524 0 fun x627 =>
                    if (lg_cmp x627 r623.toInt64) = 0 then
                      j626 ()
                    else
                      rt 0
              else
                rt 0
            | 12 =>
              aI 30 a0 (v526 + 1) fun x628 =>
              bn (m_X0_snapshot a520 x628 a524) fun r629 =>
              aI 30 a0 (v526 + 1) fun x630 =>
              bn (ko [15] a522 (m_X6_snapshot a522 x630)) fun r631 =>
              bn (ko [15] a522 (m_X6_thrown a522)) fun r632 =>
              if r632 = r629 then
                jn (fun (v633 : Unit) =>
                    j531 ())
                  fun j634 =>
                  if ¬ r629 = 0 then
                    j634 ()
                  else
                    aJ 35 a524 0 fun x635 =>
                    if (lg_cmp x635 r631.toInt64) = 0 then
                      j634 ()
                    else
                      rt 0
              else
                rt 0
            | 13 =>
              aI 30 a0 (v526 + 1) fun x636 =>
              bn (m_X0_members a520 x636 a524) fun r637 =>
              aI 30 a0 (v526 + 1) fun x638 =>
              bn (ko [15] a522 (m_X6_members a522 x638)) fun r639 =>
              bn (ko [15] a522 (m_X6_thrown a522)) fun r640 =>
              if r640 = r637 then
                jn (fun (v641 : Unit) =>
                    j531 ())
                  fun j642 =>
                  if ¬ r637 = 0 then
                    j642 ()
                  else
                    aJ 35 a524 0 fun x643 =>
                    if (lg_cmp x643 r639.toInt64) = 0 then
                      j642 ()
                    else
                      rt 0
              else
                rt 0
            | 14 =>
              aI 30 a0 (v526 + 1) fun x644 =>
              aI 30 a0 (v526 + 2) fun x645 =>
              bn (m_X0_entryTerm a520 x644 x645 a524) fun r646 =>
              aI 30 a0 (v526 + 1) fun x647 =>
              aI 30 a0 (v526 + 2) fun x648 =>
              bn (ko [15] a522 (m_X6_entryTerm a522 x647 x648)) fun r649 =>
              bn (ko [15] a522 (m_X6_thrown a522)) fun r650 =>
              if r650 = r646 then
                jn (fun (v651 : Unit) =>
                    j531 ())
                  fun j652 =>
                  if ¬ r646 = 0 then
                    j652 ()
                  else
                    aJ 35 a524 0 fun x653 =>
                    if (lg_cmp x653 r649.toInt64) = 0 then
                      j652 ()
                    else
                      rt 0
              else
                rt 0
            | 15 =>
              aI 30 a0 (v526 + 1) fun x654 =>
              aI 30 a0 (v526 + 2) fun x655 =>
              bn (m_X0_entryKind a520 x654 x655 a524) fun r656 =>
              aI 30 a0 (v526 + 1) fun x657 =>
              aI 30 a0 (v526 + 2) fun x658 =>
              bn (ko [15] a522 (m_X6_entryKind a522 x657 x658)) fun r659 =>
              bn (ko [15] a522 (m_X6_thrown a522)) fun r660 =>
              if r660 = r656 then
                jn (fun (v661 : Unit) =>
                    j531 ())
                  fun j662 =>
                  if ¬ r656 = 0 then
                    j662 ()
                  else
                    aJ 35 a524 0 fun x663 =>
                    if (lg_cmp x663 r659.toInt64) = 0 then
                      j662 ()
                    else
                      rt 0
              else
                rt 0
            | 16 =>
              bn (ko [1] a520 (m_X1_waiting a520)) fun r664 =>
              bn (ko [15] a522 (m_X6_waiting a522)) fun r665 =>
              if r664 = r665 then
                j531 ()
              else
                rt 0
            | 17 =>
              bn (m_X0_earliest a520 a524) fun r666 =>
              bn (ko [15] a522 (m_X6_earliest a522)) fun r667 =>
              bn (ko [15] a522 (m_X6_thrown a522)) fun r668 =>
              if r668 = r666 then
                jn (fun (v669 : Unit) =>
                    j531 ())
                  fun j670 =>
                  if ¬ r666 = 0 then
                    j670 ()
                  else
                    aJ 35 a524 0 fun x671 =>
                    if (lg_cmp x671 r667.toInt64) = 0 then
                      j670 ()
                    else
                      rt 0
              else
                rt 0
            | 18 =>
              aI 30 a0 (v526 + 1) fun x672 =>
              bn (m_X0_kindOf a520 x672 a524) fun r673 =>
              aI 30 a0 (v526 + 1) fun x674 =>
              bn (ko [15] a522 (m_X6_kindOf a522 x674)) fun r675 =>
              bn (ko [15] a522 (m_X6_thrown a522)) fun r676 =>
              if r676 = r673 then
                jn (fun (v677 : Unit) =>
                    j531 ())
                  fun j678 =>
                  if ¬ r673 = 0 then
                    j678 ()
                  else
                    aJ 35 a524 0 fun x679 =>
                    if (lg_cmp x679 r675.toInt64) = 0 then
                      j678 ()
                    else
                      rt 0
              else
                rt 0
            | 19 =>
              aI 30 a0 (v526 + 1) fun x680 =>
              bn (m_X0_between a520 x680 a524) fun r681 =>
              aI 30 a0 (v526 + 1) fun x682 =>
              bn (ko [15] a522 (m_X6_between a522 x682)) fun r683 =>
              bn (ko [15] a522 (m_X6_thrown a522)) fun r684 =>
              if r684 = r681 then
                jn (fun (v685 : Unit) =>
                    j531 ())
                  fun j686 =>
                  if ¬ r681 = 0 then
                    j686 ()
                  else
                    aJ 35 a524 0 fun x687 =>
                    if (lg_cmp x687 r683.toInt64) = 0 then
                      j686 ()
                    else
                      rt 0
              else
                rt 0
            | 20 =>
              aI 30 a0 (v526 + 1) fun x688 =>
              bn (m_X0_deliver a520 x688 a524) fun r689 =>
              aI 30 a0 (v526 + 1) fun x690 =>
              bn (ko [15] a522 (m_X6_deliver a522 x690)) fun r691 =>
              bn (ko [15] a522 (m_X6_thrown a522)) fun r692 =>
              if r692 = r689 then
                jn (fun (v693 : Unit) =>
                    j531 ())
                  fun j694 =>
                  if ¬ r689 = 0 then
                    j694 ()
                  else
                    aJ 35 a524 0 fun x695 =>
                    if (lg_cmp x695 r691.toInt64) = 0 then
                      j694 ()
                    else
                      rt 0
              else
                rt 0
            | 21 =>
              aI 30 a0 (v526 + 1) fun x696 =>
              bn (m_X0_lose a520 x696 a524) fun r697 =>
              aI 30 a0 (v526 + 1) fun x698 =>
              bn (ko [15] a522 (m_X6_lose a522 x698)) fun r699 =>
              bn (ko [15] a522 (m_X6_thrown a522)) fun r700 =>
              if r700 = r697 then
                jn (fun (v701 : Unit) =>
                    j531 ())
                  fun j702 =>
                  if ¬ r697 = 0 then
                    j702 ()
                  else
                    aJ 35 a524 0 fun x703 =>
                    if (lg_cmp x703 r699.toInt64) = 0 then
                      j702 ()
                    else
                      rt 0
              else
                rt 0
            | 22 =>
              aI 30 a0 (v526 + 1) fun x704 =>
              bn (m_X0_copy a520 x704 a524) fun r705 =>
              aI 30 a0 (v526 + 1) fun x706 =>
              bn (ko [15] a522 (m_X6_copy a522 x706)) fun r707 =>
              bn (ko [15] a522 (m_X6_thrown a522)) fun r708 =>
              if r708 = r705 then
                jn (fun (v709 : Unit) =>
                    j531 ())
                  fun j710 =>
                  if ¬ r705 = 0 then
                    j710 ()
                  else
                    aJ 35 a524 0 fun x711 =>
                    if (lg_cmp x711 r707.toInt64) = 0 then
                      j710 ()
                    else
                      rt 0
              else
                rt 0
            | 23 =>
              aI 30 a0 (v526 + 1) fun x712 =>
              aI 30 a0 (v526 + 2) fun x713 =>
              aI 30 a0 (v526 + 3) fun x714 =>
              bn (m_X0_write a520 x712 x713 x714 a524) fun r715 =>
              aI 30 a0 (v526 + 1) fun x716 =>
              aI 30 a0 (v526 + 2) fun x717 =>
              aI 30 a0 (v526 + 3) fun x718 =>
              bn (ko [15] a522 (m_X6_write a522 x716 x717 x718)) fun r719 =>
              bn (ko [15] a522 (m_X6_thrown a522)) fun r720 =>
              if r720 = r715 then
                jn (fun (v721 : Unit) =>
                    j531 ())
                  fun j722 =>
                  if ¬ r715 = 0 then
                    j722 ()
                  else
                    aJ 35 a524 0 fun x723 =>
                    if (lg_cmp x723 r719.toInt64) = 0 then
                      j722 ()
                    else
                      rt 0
              else
                rt 0
            | 24 =>
              aI 30 a0 (v526 + 1) fun x724 =>
              aI 30 a0 (v526 + 2) fun x725 =>
              aI 30 a0 (v526 + 3) fun x726 =>
              jn (fun (v727 : Int32 × Int32 × Int32 × Nat) =>
                  bn (m_X0_reshape v727.2.2.2 v727.2.2.1 v727.2.1 v727.1 a524) fun r729 =>
                  aI 30 a0 (v526 + 1) fun x730 =>
                  aI 30 a0 (v526 + 2) fun x731 =>
                  aI 30 a0 (v526 + 3) fun x732 =>
                  jn (fun (v733 : Int32 × Int32 × Int32 × Nat) =>
                      bn (ko [15] v733.2.2.2 (m_X6_reshape v733.2.2.2 v733.2.2.1 v733.2.1 v733.1)) fun r735 =>
                      bn (ko [15] a522 (m_X6_thrown a522)) fun r736 =>
                      if r736 = r729 then
                        jn (fun (v737 : Unit) =>
                            j531 ())
                          fun j738 =>
                          if ¬ r729 = 0 then
                            j738 ()
                          else
                            aJ 35 a524 0 fun x739 =>
                            if (lg_cmp x739 r735.toInt64) = 0 then
                              j738 ()
                            else
                              rt 0
                      else
                        rt 0)
                    fun j734 =>
                    if x732 = 0 then
                      j734 (0, x731, x730, a522)
                    else
                      j734 (1, x731, x730, a522))
                fun j728 =>
                if x726 = 0 then
                  j728 (0, x725, x724, a520)
                else
                  j728 (1, x725, x724, a520)
            | 25 =>
              aI 30 a0 (v526 + 1) fun x740 =>
              aI 30 a0 (v526 + 2) fun x741 =>
              bn (m_X0_change a520 x740 x741 a524) fun r742 =>
              aI 30 a0 (v526 + 1) fun x743 =>
              aI 30 a0 (v526 + 2) fun x744 =>
              bn (ko [15] a522 (m_X6_change a522 x743 x744)) fun r745 =>
              bn (ko [15] a522 (m_X6_thrown a522)) fun r746 =>
              if r746 = r742 then
                jn (fun (v747 : Unit) =>
                    j531 ())
                  fun j748 =>
                  if ¬ r742 = 0 then
                    j748 ()
                  else
                    aJ 35 a524 0 fun x749 =>
                    if (lg_cmp x749 r745.toInt64) = 0 then
                      j748 ()
                    else
                      rt 0
              else
                rt 0
            | 26 =>
              aI 30 a0 (v526 + 1) fun x750 =>
              bn (m_X0_hasLease a520 x750 a524) fun r751 =>
              aI 30 a0 (v526 + 1) fun x752 =>
              bn (ko [15] a522 (m_X6_hasLease a522 x752)) fun r753 =>
              bn (ko [15] a522 (m_X6_thrown a522)) fun r754 =>
              if r754 = r751 then
                jn (fun (v755 : Unit) =>
                    j531 ())
                  fun j756 =>
                  if ¬ r751 = 0 then
                    j756 ()
                  else
                    aJ 35 a524 0 fun x757 =>
                    jn (fun (v758 : Int64 × Int64) =>
                        if (lg_cmp v758.2 v758.1) = 0 then
                          j756 ()
                        else
                          rt 0)
                      fun j759 =>
                      if r753 = 0 then
                        j759 (0, x757)
                      else
                        j759 (1, x757)
              else
                rt 0
            | 27 =>
              aI 30 a0 (v526 + 1) fun x760 =>
              aI 30 a0 (v526 + 2) fun x761 =>
              bn (m_X0_readByLease a520 x760 x761 a524) fun r762 =>
              aI 30 a0 (v526 + 1) fun x763 =>
              aI 30 a0 (v526 + 2) fun x764 =>
              bn (ko [15] a522 (m_X6_readByLease a522 x763 x764)) fun r765 =>
              bn (ko [15] a522 (m_X6_thrown a522)) fun r766 =>
              if r766 = r762 then
                jn (fun (v767 : Unit) =>
                    j531 ())
                  fun j768 =>
                  if ¬ r762 = 0 then
                    j768 ()
                  else
                    aJ 35 a524 0 fun x769 =>
                    if (lg_cmp x769 r765.toInt64) = 0 then
                      j768 ()
                    else
                      rt 0
              else
                rt 0
            | 28 =>
              aI 30 a0 (v526 + 1) fun x770 =>
              aI 30 a0 (v526 + 2) fun x771 =>
              bn (m_X0_askRead a520 x770 x771 a524) fun r772 =>
              aI 30 a0 (v526 + 1) fun x773 =>
              aI 30 a0 (v526 + 2) fun x774 =>
              bn (ko [15] a522 (m_X6_askRead a522 x773 x774)) fun r775 =>
              bn (ko [15] a522 (m_X6_thrown a522)) fun r776 =>
              if r776 = r772 then
                jn (fun (v777 : Unit) =>
                    j531 ())
                  fun j778 =>
                  if ¬ r772 = 0 then
                    j778 ()
                  else
                    aJ 35 a524 0 fun x779 =>
                    if (lg_cmp x779 r775.toInt64) = 0 then
                      j778 ()
                    else
                      rt 0
              else
                rt 0
            | 29 =>
              aI 30 a0 (v526 + 1) fun x780 =>
              bn (m_X0_readState a520 x780 a524) fun r781 =>
              aI 30 a0 (v526 + 1) fun x782 =>
              bn (ko [15] a522 (m_X6_readState a522 x782)) fun r783 =>
              bn (ko [15] a522 (m_X6_thrown a522)) fun r784 =>
              if r784 = r781 then
                jn (fun (v785 : Unit) =>
                    j531 ())
                  fun j786 =>
                  if ¬ r781 = 0 then
                    j786 ()
                  else
                    aJ 35 a524 0 fun x787 =>
                    if (lg_cmp x787 r783.toInt64) = 0 then
                      j786 ()
                    else
                      rt 0
              else
                rt 0
            | 30 =>
              aI 30 a0 (v526 + 1) fun x788 =>
              bn (m_X0_readValue a520 x788 a524) fun r789 =>
              aI 30 a0 (v526 + 1) fun x790 =>
              bn (ko [15] a522 (m_X6_readValue a522 x790)) fun r791 =>
              bn (ko [15] a522 (m_X6_thrown a522)) fun r792 =>
              if r792 = r789 then
                jn (fun (v793 : Unit) =>
                    j531 ())
                  fun j794 =>
                  if ¬ r789 = 0 then
                    j794 ()
                  else
                    aJ 35 a524 0 fun x795 =>
                    if (lg_cmp x795 r791.toInt64) = 0 then
                      j794 ()
                    else
                      rt 0
              else
                rt 0
            | 31 =>
              aI 30 a0 (v526 + 1) fun x796 =>
              aI 30 a0 (v526 + 2) fun x797 =>
              bn (m_X0_readStale a520 x796 x797 a524) fun r798 =>
              aI 30 a0 (v526 + 1) fun x799 =>
              aI 30 a0 (v526 + 2) fun x800 =>
              bn (ko [15] a522 (m_X6_readStale a522 x799 x800)) fun r801 =>
              bn (ko [15] a522 (m_X6_thrown a522)) fun r802 =>
              if r802 = r798 then
                jn (fun (v803 : Unit) =>
                    j531 ())
                  fun j804 =>
                  if ¬ r798 = 0 then
                    j804 ()
                  else
                    aJ 35 a524 0 fun x805 =>
                    if (lg_cmp x805 r801.toInt64) = 0 then
                      j804 ()
                    else
                      rt 0
              else
                rt 0
            | 32 =>
              aI 30 a0 (v526 + 1) fun x806 =>
              aI 30 a0 (v526 + 2) fun x807 =>
              bn (m_X0_rangeOf a520 x806 x807 a524) fun r808 =>
              aI 30 a0 (v526 + 1) fun x809 =>
              aI 30 a0 (v526 + 2) fun x810 =>
              bn (ko [15] a522 (m_X6_rangeOf a522 x809 x810)) fun r811 =>
              bn (ko [15] a522 (m_X6_thrown a522)) fun r812 =>
              if r812 = r808 then
                jn (fun (v813 : Unit) =>
                    j531 ())
                  fun j814 =>
                  if ¬ r808 = 0 then
                    j814 ()
                  else
                    aJ 35 a524 0 fun x815 =>
                    if (lg_cmp x815 r811.toInt64) = 0 then
                      j814 ()
                    else
                      rt 0
              else
                rt 0
            | 33 =>
              aI 30 a0 (v526 + 1) fun x816 =>
              aI 30 a0 (v526 + 2) fun x817 =>
              bn (m_X0_load a520 x816 x817 a524) fun r818 =>
              aI 30 a0 (v526 + 1) fun x819 =>
              aI 30 a0 (v526 + 2) fun x820 =>
              bn (ko [15] a522 (m_X6_load a522 x819 x820)) fun r821 =>
              bn (ko [15] a522 (m_X6_thrown a522)) fun r822 =>
              if r822 = r818 then
                jn (fun (v823 : Unit) =>
                    j531 ())
                  fun j824 =>
                  if ¬ r818 = 0 then
                    j824 ()
                  else
                    aJ 35 a524 0 fun x825 =>
                    if (lg_cmp x825 r821.toInt64) = 0 then
                      j824 ()
                    else
                      rt 0
              else
                rt 0
            | 34 =>
              bn (ko [1] a520 (m_X1_history a520)) fun r826 =>
              bn (ko [15] a522 (m_X6_history a522)) fun r827 =>
              if r826 = r827 then
                j531 ()
              else
                rt 0
            | 35 =>
              aI 30 a0 (v526 + 1) fun x828 =>
              bn (m_X0_valueByHistory a520 x828 a524) fun r829 =>
              aI 30 a0 (v526 + 1) fun x830 =>
              bn (ko [15] a522 (m_X6_valueByHistory a522 x830)) fun r831 =>
              bn (ko [15] a522 (m_X6_thrown a522)) fun r832 =>
              if r832 = r829 then
                jn (fun (v833 : Unit) =>
                    j531 ())
                  fun j834 =>
                  if ¬ r829 = 0 then
                    j834 ()
                  else
                    aJ 35 a524 0 fun x835 =>
                    if (lg_cmp x835 r831.toInt64) = 0 then
                      j834 ()
                    else
                      rt 0
              else
                rt 0
            | 36 =>
              bn (ko [1] a520 (m_X1_delivered a520)) fun r836 =>
              bn (ko [15] a522 (m_X6_delivered a522)) fun r837 =>
              if (lg_cmp r836 r837) = 0 then
                j531 ()
              else
                rt 0
            | 37 =>
              bn (m_X0_refusedShare a520 a525) fun r838 =>
              bn (ko [15] a522 (m_X6_refusedShare a522)) fun r839 =>
              bn (ko [15] a522 (m_X6_thrown a522)) fun r840 =>
              if r840 = r838 then
                jn (fun (v841 : Unit) =>
                    j531 ())
                  fun j842 =>
                  if ¬ r838 = 0 then
                    j842 ()
                  else
                    aD 36 a525 0 fun x843 =>
                    ck (FP.f2d r839 &&& 0x7fffffffffffffff ≤ 0x7ff0000000000000) <|
                    if (Op.cmpValue (FP.dcmp x843 (FP.f2d r839)) .l) = 0 then
                      j842 ()
                    else
                      aD 36 a525 0 fun x844 =>
                      aD 36 a525 0 fun x845 =>
                      jn (fun (v846 : Unit) =>
                          rt 0)
                        fun j847 =>
                        if (Op.cmpValue (FP.dcmp x844 x845) .l) = 0 then
                          j847 ()
                        else
                          if ¬ (Op.cmpValue (FP.fcmp r839 r839) .l) = 0 then
                            j842 ()
                          else
                            j847 ()
              else
                rt 0
            | 38 =>
              bn (ko [1] a520 (m_X1_meanLast a520)) fun r848 =>
              bn (ko [15] a522 (m_X6_meanLast a522)) fun r849 =>
              jn (fun (v850 : Unit) =>
                  j531 ())
                fun j851 =>
                if (Op.cmpValue (FP.dcmp r848 r849) .l) = 0 then
                  j851 ()
                else
                  jn (fun (v852 : Unit) =>
                      rt 0)
                    fun j853 =>
                    if (Op.cmpValue (FP.dcmp r848 r848) .l) = 0 then
                      j853 ()
                    else
                      if ¬ (Op.cmpValue (FP.dcmp r849 r849) .l) = 0 then
                        j851 ()
                      else
                        j853 ()
            | 39 =>
              bn (ko [1] a520 (m_X1_isSound a520)) fun r854 =>
              bn (ko [15] a522 (m_X6_isSound a522)) fun r855 =>
              if r854 = r855 then
                j531 ()
              else
                rt 0
            | _ => fl) <|
          j531 ())
    1
set_option maxHeartbeats 40000000 in
set_option maxRecDepth 100000 in
theorem E_law {G : GT} (hG : GOK G) {X : XT} {σ0 : Sg} {tb : List ExceptionTableEntry} (a0 : Nat) : Ex G X σ0 "QuorumAlmanacLaw" cL_law 10 (some .boolean) 16 3103 "law" tb rI 0 [(0, .ref a0)] [] (m_L_law a0) := by
  delta m_L_law
  refine Ex_nO (ci := 0) (q := qcl 0) dL_law_0 rfl q97 q98 q45 (fun a520 => ?_)
  refine Ex_dup rfl dL_law_3 ?_
  refine Ex_aload_n dL_law_4 rfl 0 rfl ?_
  refine Ex_iconst (v := 0) dL_law_5 (by decide) ?_
  refine Ex_bnI (Inv_S (L_X0_cell hG a0 0) (lw_S q778 q779 q44 q780) hm_X0_cell (by decide) (by decide) dL_law_6 rfl (Nat.le_of_ble_eq_true rfl)) (fun r521 => ?_)
  refine Ex_bnU (Inv_I (L_X1_init hG a520 r521) q45 q99 q100 q101 rfl hm_X1_init (by decide) (by decide) dL_law_9 rfl (Nat.le_of_ble_eq_true rfl)) (fun _ => ?_)
  refine Ex_astore_n (lv' := [(0, .ref a0), (1, .ref a520)]) dL_law_12 rfl (by decide) [1, 0] rfl ?_
  refine Ex_nO (ci := 14) (q := qcl 14) dL_law_13 rfl q1930 q1931 q54 (fun a522 => ?_)
  refine Ex_dup rfl dL_law_16 ?_
  refine Ex_aload_n dL_law_17 rfl 0 rfl ?_
  refine Ex_iconst (v := 0) dL_law_18 (by decide) ?_
  refine Ex_bnI (Inv_S (L_X0_cell hG a0 0) (lw_S q778 q779 q44 q780) hm_X0_cell (by decide) (by decide) dL_law_19 rfl (Nat.le_of_ble_eq_true rfl)) (fun r523 => ?_)
  refine Ex_bnU (Inv_I (L_X6_init hG a522 r523) q54 q1932 q1933 q1934 rfl hm_X6_init (by decide) (by decide) dL_law_22 rfl (Nat.le_of_ble_eq_true rfl)) (fun _ => ?_)
  refine Ex_astore_n (lv' := [(0, .ref a0), (1, .ref a520), (2, .ref a522)]) dL_law_25 rfl (by decide) [1, 2, 0] rfl ?_
  refine Ex_iconst (v := 1) dL_law_26 (by decide) ?_
  refine Ex_nA_l dL_law_27 q2626 (fun a524 => ?_)
  refine Ex_astore_n (lv' := [(0, .ref a0), (1, .ref a520), (2, .ref a522), (3, .ref a524)]) dL_law_29 rfl (by decide) [1, 2, 3, 0] rfl ?_
  refine Ex_iconst (v := 1) dL_law_30 (by decide) ?_
  refine Ex_nA_d dL_law_31 q2627 (fun a525 => ?_)
  refine Ex_astore (lv' := [(0, .ref a0), (1, .ref a520), (2, .ref a522), (3, .ref a524), (4, .ref a525)]) dL_law_33 (by decide) [1, 2, 3, 4, 0] rfl ?_
  refine Ex_iconst (v := 1) dL_law_35 (by decide) ?_
  refine Ex_istore (lv' := [(0, .ref a0), (1, .ref a520), (2, .ref a522), (3, .ref a524), (4, .ref a525), (5, .int 1)]) dL_law_36 (by decide) [1, 2, 3, 4, 5, 0] rfl ?_
  refine Ex_lp (γ := Int32) (pj := 38) (fun v526 => [(0, .ref a0), (1, .ref a520), (2, .ref a522), (3, .ref a524), (4, .ref a525), (5, .int v526)]) (fun v526 => []) (fun j527 hj527 v526 => ?_) 1 rfl rfl
  refine Ex_iload dL_law_38 5 rfl ?_
  refine Ex_aload_n dL_law_40 rfl 0 rfl ?_
  refine Ex_aL (j := 0) rfl dL_law_41 (fun x528 => ?_)
  refine Ex_iconst (v := 4) dL_law_42 (by decide) ?_
  refine Ex_isub dL_law_43 ?_
  refine Ex_icmp_gt (tgt := 2453) dL_law_44 (by decide) ?_ ?_
  · refine Ex_iconst (v := 1) dL_law_2453 (by decide) ?_
    exact Ex_zreturn dL_law_2454 rfl rfl
  · refine Ex_aload_n dL_law_47 rfl 0 rfl ?_
    refine Ex_iload dL_law_48 5 rfl ?_
    refine Ex_aI_i dL_law_50 (fun x529 => ?_)
    refine Ex_bipush (v := 63) dL_law_51 (by decide) ?_
    refine Ex_iand dL_law_53 ?_
    refine Ex_jn (γ := Unit) (pj := 2447) (fun v530 => [(0, .ref a0), (1, .ref a520), (2, .ref a522), (3, .ref a524), (4, .ref a525), (5, .int v526)]) (fun v530 => []) (fun v530 => ?_) (fun j531 hj531 => ?_)
    · refine Ex_iinc (j := 5) (lv' := [(0, .ref a0), (1, .ref a520), (2, .ref a522), (3, .ref a524), (4, .ref a525), (5, .int (v526 + 4))]) dL_law_2447 rfl rfl (by decide) [1, 2, 3, 4, 5, 0] rfl ?_
      refine Ex_goto (tgt := 38) dL_law_2450 (by decide) ?_
      exact hj527 (v526 + 4)
    · refine Ex_ts (n := 40) (td := 2447) dL_law_54 (by decide) (by decide) ?_ (fun i hi => ?_)
      · exact hj531 ()
      · match i, hi with
        | 0, _ =>
          refine ⟨174, 228, rfl, by decide, ?_⟩
          refine Ex_aload_n dL_law_228 rfl 1 rfl ?_
          refine Ex_aload_n dL_law_229 rfl 0 rfl ?_
          refine Ex_iload dL_law_230 5 rfl ?_
          refine Ex_iconst (v := 1) dL_law_232 (by decide) ?_
          refine Ex_iadd dL_law_233 ?_
          refine Ex_aI_i dL_law_234 (fun x532 => ?_)
          refine Ex_aload_n dL_law_235 rfl 3 rfl ?_
          refine Ex_bnI (Inv_SW (L_X0_tick hG a520 x532 a524) (lw_SW q781 q782 q44 q783) hm_X0_tick (by decide) (by decide) dL_law_236 rfl (Nat.le_of_ble_eq_true rfl)) (fun r533 => ?_)
          refine Ex_istore (lv' := [(0, .ref a0), (1, .ref a520), (2, .ref a522), (3, .ref a524), (4, .ref a525), (5, .int v526), (6, .int r533)]) dL_law_239 (by decide) [1, 2, 3, 4, 5, 6, 0] rfl ?_
          refine Ex_aload_n dL_law_241 rfl 2 rfl ?_
          refine Ex_aload_n dL_law_242 rfl 0 rfl ?_
          refine Ex_iload dL_law_243 5 rfl ?_
          refine Ex_iconst (v := 1) dL_law_245 (by decide) ?_
          refine Ex_iadd dL_law_246 ?_
          refine Ex_aI_i dL_law_247 (fun x534 => ?_)
          refine Ex_bnI (Inv_V (L_X6_tick hG a522 x534) (lw_V q2105 q2106 q2107 q54 q2108) oe_15 ⟨rfl, hm_X6_tick⟩ (by decide) (by decide) dL_law_248 rfl (Nat.le_of_ble_eq_true rfl)) (fun r535 => ?_)
          refine Ex_istore (lv' := [(0, .ref a0), (1, .ref a520), (2, .ref a522), (3, .ref a524), (4, .ref a525), (5, .int v526), (6, .int r533), (7, .int r535)]) dL_law_251 (by decide) [1, 2, 3, 4, 5, 6, 7, 0] rfl ?_
          refine Ex_aload_n dL_law_253 rfl 2 rfl ?_
          refine Ex_bnI (Inv_V (L_X6_thrown hG a522) (lw_V q2101 q2102 q2103 q54 q2104) oe_15 ⟨rfl, hm_X6_thrown⟩ (by decide) (by decide) dL_law_254 rfl (Nat.le_of_ble_eq_true rfl)) (fun r536 => ?_)
          refine Ex_iload dL_law_257 6 rfl ?_
          refine Ex_icmp_eq (tgt := 264) dL_law_259 (by decide) ?_ ?_
          · refine Ex_iload dL_law_264 6 rfl ?_
            refine Ex_jn (γ := Unit) (pj := 281) (fun v537 => [(0, .ref a0), (1, .ref a520), (2, .ref a522), (3, .ref a524), (4, .ref a525), (5, .int v526)]) (fun v537 => []) (fun v537 => ?_) (fun j538 hj538 => ?_)
            · refine Ex_goto (tgt := 2447) dL_law_281 (by decide) ?_
              exact hj531 ()
            · refine Ex_if_ne (tgt := 281) dL_law_266 (by decide) ?_ ?_
              · refine Ex_lv [0, 1, 2, 3, 4, 5] (lv' := [(0, .ref a0), (1, .ref a520), (2, .ref a522), (3, .ref a524), (4, .ref a525), (5, .int v526)]) rfl ?_
                exact hj538 ()
              · refine Ex_aload_n dL_law_269 rfl 3 rfl ?_
                refine Ex_iconst (v := 0) dL_law_270 (by decide) ?_
                refine Ex_aJ_l dL_law_271 (fun x539 => ?_)
                refine Ex_iload dL_law_272 7 rfl ?_
                refine Ex_i2l dL_law_274 ?_
                refine Ex_lcmp dL_law_275 ?_
                refine Ex_if_eq (tgt := 281) dL_law_276 (by decide) ?_ ?_
                · refine Ex_lv [0, 1, 2, 3, 4, 5] (lv' := [(0, .ref a0), (1, .ref a520), (2, .ref a522), (3, .ref a524), (4, .ref a525), (5, .int v526)]) rfl ?_
                  exact hj538 ()
                · refine Ex_iconst (v := 0) dL_law_279 (by decide) ?_
                  exact Ex_zreturn dL_law_280 rfl rfl
          · refine Ex_iconst (v := 0) dL_law_262 (by decide) ?_
            exact Ex_zreturn dL_law_263 rfl rfl
        | 1, _ =>
          refine ⟨230, 284, rfl, by decide, ?_⟩
          refine Ex_aload_n dL_law_284 rfl 1 rfl ?_
          refine Ex_aload_n dL_law_285 rfl 0 rfl ?_
          refine Ex_iload dL_law_286 5 rfl ?_
          refine Ex_iconst (v := 1) dL_law_288 (by decide) ?_
          refine Ex_iadd dL_law_289 ?_
          refine Ex_aI_i dL_law_290 (fun x540 => ?_)
          refine Ex_aload_n dL_law_291 rfl 3 rfl ?_
          refine Ex_bnI (Inv_SW (L_X0_sync hG a520 x540 a524) (lw_SW q1280 q1281 q44 q1282) hm_X0_sync (by decide) (by decide) dL_law_292 rfl (Nat.le_of_ble_eq_true rfl)) (fun r541 => ?_)
          refine Ex_istore (lv' := [(0, .ref a0), (1, .ref a520), (2, .ref a522), (3, .ref a524), (4, .ref a525), (5, .int v526), (6, .int r541)]) dL_law_295 (by decide) [1, 2, 3, 4, 5, 6, 0] rfl ?_
          refine Ex_aload_n dL_law_297 rfl 2 rfl ?_
          refine Ex_aload_n dL_law_298 rfl 0 rfl ?_
          refine Ex_iload dL_law_299 5 rfl ?_
          refine Ex_iconst (v := 1) dL_law_301 (by decide) ?_
          refine Ex_iadd dL_law_302 ?_
          refine Ex_aI_i dL_law_303 (fun x542 => ?_)
          refine Ex_bnI (Inv_V (L_X6_sync hG a522 x542) (lw_V q2282 q2283 q2284 q54 q2285) oe_15 ⟨rfl, hm_X6_sync⟩ (by decide) (by decide) dL_law_304 rfl (Nat.le_of_ble_eq_true rfl)) (fun r543 => ?_)
          refine Ex_istore (lv' := [(0, .ref a0), (1, .ref a520), (2, .ref a522), (3, .ref a524), (4, .ref a525), (5, .int v526), (6, .int r541), (7, .int r543)]) dL_law_307 (by decide) [1, 2, 3, 4, 5, 6, 7, 0] rfl ?_
          refine Ex_aload_n dL_law_309 rfl 2 rfl ?_
          refine Ex_bnI (Inv_V (L_X6_thrown hG a522) (lw_V q2101 q2102 q2103 q54 q2104) oe_15 ⟨rfl, hm_X6_thrown⟩ (by decide) (by decide) dL_law_310 rfl (Nat.le_of_ble_eq_true rfl)) (fun r544 => ?_)
          refine Ex_iload dL_law_313 6 rfl ?_
          refine Ex_icmp_eq (tgt := 320) dL_law_315 (by decide) ?_ ?_
          · refine Ex_iload dL_law_320 6 rfl ?_
            refine Ex_jn (γ := Unit) (pj := 337) (fun v545 => [(0, .ref a0), (1, .ref a520), (2, .ref a522), (3, .ref a524), (4, .ref a525), (5, .int v526)]) (fun v545 => []) (fun v545 => ?_) (fun j546 hj546 => ?_)
            · refine Ex_goto (tgt := 2447) dL_law_337 (by decide) ?_
              exact hj531 ()
            · refine Ex_if_ne (tgt := 337) dL_law_322 (by decide) ?_ ?_
              · refine Ex_lv [0, 1, 2, 3, 4, 5] (lv' := [(0, .ref a0), (1, .ref a520), (2, .ref a522), (3, .ref a524), (4, .ref a525), (5, .int v526)]) rfl ?_
                exact hj546 ()
              · refine Ex_aload_n dL_law_325 rfl 3 rfl ?_
                refine Ex_iconst (v := 0) dL_law_326 (by decide) ?_
                refine Ex_aJ_l dL_law_327 (fun x547 => ?_)
                refine Ex_iload dL_law_328 7 rfl ?_
                refine Ex_i2l dL_law_330 ?_
                refine Ex_lcmp dL_law_331 ?_
                refine Ex_if_eq (tgt := 337) dL_law_332 (by decide) ?_ ?_
                · refine Ex_lv [0, 1, 2, 3, 4, 5] (lv' := [(0, .ref a0), (1, .ref a520), (2, .ref a522), (3, .ref a524), (4, .ref a525), (5, .int v526)]) rfl ?_
                  exact hj546 ()
                · refine Ex_iconst (v := 0) dL_law_335 (by decide) ?_
                  exact Ex_zreturn dL_law_336 rfl rfl
          · refine Ex_iconst (v := 0) dL_law_318 (by decide) ?_
            exact Ex_zreturn dL_law_319 rfl rfl
        | 2, _ =>
          refine ⟨286, 340, rfl, by decide, ?_⟩
          refine Ex_aload_n dL_law_340 rfl 1 rfl ?_
          refine Ex_aload_n dL_law_341 rfl 0 rfl ?_
          refine Ex_iload dL_law_342 5 rfl ?_
          refine Ex_iconst (v := 1) dL_law_344 (by decide) ?_
          refine Ex_iadd dL_law_345 ?_
          refine Ex_aI_i dL_law_346 (fun x548 => ?_)
          refine Ex_aload_n dL_law_347 rfl 3 rfl ?_
          refine Ex_bnI (Inv_SW (L_X0_crash hG a520 x548 a524) (lw_SW q1344 q1345 q44 q1346) hm_X0_crash (by decide) (by decide) dL_law_348 rfl (Nat.le_of_ble_eq_true rfl)) (fun r549 => ?_)
          refine Ex_istore (lv' := [(0, .ref a0), (1, .ref a520), (2, .ref a522), (3, .ref a524), (4, .ref a525), (5, .int v526), (6, .int r549)]) dL_law_351 (by decide) [1, 2, 3, 4, 5, 6, 0] rfl ?_
          refine Ex_aload_n dL_law_353 rfl 2 rfl ?_
          refine Ex_aload_n dL_law_354 rfl 0 rfl ?_
          refine Ex_iload dL_law_355 5 rfl ?_
          refine Ex_iconst (v := 1) dL_law_357 (by decide) ?_
          refine Ex_iadd dL_law_358 ?_
          refine Ex_aI_i dL_law_359 (fun x550 => ?_)
          refine Ex_bnI (Inv_V (L_X6_crash hG a522 x550) (lw_V q2338 q2339 q2340 q54 q2341) oe_15 ⟨rfl, hm_X6_crash⟩ (by decide) (by decide) dL_law_360 rfl (Nat.le_of_ble_eq_true rfl)) (fun r551 => ?_)
          refine Ex_istore (lv' := [(0, .ref a0), (1, .ref a520), (2, .ref a522), (3, .ref a524), (4, .ref a525), (5, .int v526), (6, .int r549), (7, .int r551)]) dL_law_363 (by decide) [1, 2, 3, 4, 5, 6, 7, 0] rfl ?_
          refine Ex_aload_n dL_law_365 rfl 2 rfl ?_
          refine Ex_bnI (Inv_V (L_X6_thrown hG a522) (lw_V q2101 q2102 q2103 q54 q2104) oe_15 ⟨rfl, hm_X6_thrown⟩ (by decide) (by decide) dL_law_366 rfl (Nat.le_of_ble_eq_true rfl)) (fun r552 => ?_)
          refine Ex_iload dL_law_369 6 rfl ?_
          refine Ex_icmp_eq (tgt := 376) dL_law_371 (by decide) ?_ ?_
          · refine Ex_iload dL_law_376 6 rfl ?_
            refine Ex_jn (γ := Unit) (pj := 393) (fun v553 => [(0, .ref a0), (1, .ref a520), (2, .ref a522), (3, .ref a524), (4, .ref a525), (5, .int v526)]) (fun v553 => []) (fun v553 => ?_) (fun j554 hj554 => ?_)
            · refine Ex_goto (tgt := 2447) dL_law_393 (by decide) ?_
              exact hj531 ()
            · refine Ex_if_ne (tgt := 393) dL_law_378 (by decide) ?_ ?_
              · refine Ex_lv [0, 1, 2, 3, 4, 5] (lv' := [(0, .ref a0), (1, .ref a520), (2, .ref a522), (3, .ref a524), (4, .ref a525), (5, .int v526)]) rfl ?_
                exact hj554 ()
              · refine Ex_aload_n dL_law_381 rfl 3 rfl ?_
                refine Ex_iconst (v := 0) dL_law_382 (by decide) ?_
                refine Ex_aJ_l dL_law_383 (fun x555 => ?_)
                refine Ex_iload dL_law_384 7 rfl ?_
                refine Ex_i2l dL_law_386 ?_
                refine Ex_lcmp dL_law_387 ?_
                refine Ex_if_eq (tgt := 393) dL_law_388 (by decide) ?_ ?_
                · refine Ex_lv [0, 1, 2, 3, 4, 5] (lv' := [(0, .ref a0), (1, .ref a520), (2, .ref a522), (3, .ref a524), (4, .ref a525), (5, .int v526)]) rfl ?_
                  exact hj554 ()
                · refine Ex_iconst (v := 0) dL_law_391 (by decide) ?_
                  exact Ex_zreturn dL_law_392 rfl rfl
          · refine Ex_iconst (v := 0) dL_law_374 (by decide) ?_
            exact Ex_zreturn dL_law_375 rfl rfl
        | 3, _ =>
          refine ⟨342, 396, rfl, by decide, ?_⟩
          refine Ex_aload_n dL_law_396 rfl 1 rfl ?_
          refine Ex_aload_n dL_law_397 rfl 0 rfl ?_
          refine Ex_iload dL_law_398 5 rfl ?_
          refine Ex_iconst (v := 1) dL_law_400 (by decide) ?_
          refine Ex_iadd dL_law_401 ?_
          refine Ex_aI_i dL_law_402 (fun x556 => ?_)
          refine Ex_aload_n dL_law_403 rfl 3 rfl ?_
          refine Ex_bnI (Inv_SW (L_X0_start hG a520 x556 a524) (lw_SW q1366 q1367 q44 q1368) hm_X0_start (by decide) (by decide) dL_law_404 rfl (Nat.le_of_ble_eq_true rfl)) (fun r557 => ?_)
          refine Ex_istore (lv' := [(0, .ref a0), (1, .ref a520), (2, .ref a522), (3, .ref a524), (4, .ref a525), (5, .int v526), (6, .int r557)]) dL_law_407 (by decide) [1, 2, 3, 4, 5, 6, 0] rfl ?_
          refine Ex_aload_n dL_law_409 rfl 2 rfl ?_
          refine Ex_aload_n dL_law_410 rfl 0 rfl ?_
          refine Ex_iload dL_law_411 5 rfl ?_
          refine Ex_iconst (v := 1) dL_law_413 (by decide) ?_
          refine Ex_iadd dL_law_414 ?_
          refine Ex_aI_i dL_law_415 (fun x558 => ?_)
          refine Ex_bnI (Inv_V (L_X6_start hG a522 x558) (lw_V q2357 q2358 q2359 q54 q2360) oe_15 ⟨rfl, hm_X6_start⟩ (by decide) (by decide) dL_law_416 rfl (Nat.le_of_ble_eq_true rfl)) (fun r559 => ?_)
          refine Ex_istore (lv' := [(0, .ref a0), (1, .ref a520), (2, .ref a522), (3, .ref a524), (4, .ref a525), (5, .int v526), (6, .int r557), (7, .int r559)]) dL_law_419 (by decide) [1, 2, 3, 4, 5, 6, 7, 0] rfl ?_
          refine Ex_aload_n dL_law_421 rfl 2 rfl ?_
          refine Ex_bnI (Inv_V (L_X6_thrown hG a522) (lw_V q2101 q2102 q2103 q54 q2104) oe_15 ⟨rfl, hm_X6_thrown⟩ (by decide) (by decide) dL_law_422 rfl (Nat.le_of_ble_eq_true rfl)) (fun r560 => ?_)
          refine Ex_iload dL_law_425 6 rfl ?_
          refine Ex_icmp_eq (tgt := 432) dL_law_427 (by decide) ?_ ?_
          · refine Ex_iload dL_law_432 6 rfl ?_
            refine Ex_jn (γ := Unit) (pj := 449) (fun v561 => [(0, .ref a0), (1, .ref a520), (2, .ref a522), (3, .ref a524), (4, .ref a525), (5, .int v526)]) (fun v561 => []) (fun v561 => ?_) (fun j562 hj562 => ?_)
            · refine Ex_goto (tgt := 2447) dL_law_449 (by decide) ?_
              exact hj531 ()
            · refine Ex_if_ne (tgt := 449) dL_law_434 (by decide) ?_ ?_
              · refine Ex_lv [0, 1, 2, 3, 4, 5] (lv' := [(0, .ref a0), (1, .ref a520), (2, .ref a522), (3, .ref a524), (4, .ref a525), (5, .int v526)]) rfl ?_
                exact hj562 ()
              · refine Ex_aload_n dL_law_437 rfl 3 rfl ?_
                refine Ex_iconst (v := 0) dL_law_438 (by decide) ?_
                refine Ex_aJ_l dL_law_439 (fun x563 => ?_)
                refine Ex_iload dL_law_440 7 rfl ?_
                refine Ex_i2l dL_law_442 ?_
                refine Ex_lcmp dL_law_443 ?_
                refine Ex_if_eq (tgt := 449) dL_law_444 (by decide) ?_ ?_
                · refine Ex_lv [0, 1, 2, 3, 4, 5] (lv' := [(0, .ref a0), (1, .ref a520), (2, .ref a522), (3, .ref a524), (4, .ref a525), (5, .int v526)]) rfl ?_
                  exact hj562 ()
                · refine Ex_iconst (v := 0) dL_law_447 (by decide) ?_
                  exact Ex_zreturn dL_law_448 rfl rfl
          · refine Ex_iconst (v := 0) dL_law_430 (by decide) ?_
            exact Ex_zreturn dL_law_431 rfl rfl
        | 4, _ =>
          refine ⟨398, 452, rfl, by decide, ?_⟩
          refine Ex_aload_n dL_law_452 rfl 1 rfl ?_
          refine Ex_aload_n dL_law_453 rfl 0 rfl ?_
          refine Ex_iload dL_law_454 5 rfl ?_
          refine Ex_iconst (v := 1) dL_law_456 (by decide) ?_
          refine Ex_iadd dL_law_457 ?_
          refine Ex_aI_i dL_law_458 (fun x564 => ?_)
          refine Ex_aload_n dL_law_459 rfl 3 rfl ?_
          refine Ex_bnI (Inv_SW (L_X0_compact hG a520 x564 a524) (lw_SW q1378 q1379 q44 q1380) hm_X0_compact (by decide) (by decide) dL_law_460 rfl (Nat.le_of_ble_eq_true rfl)) (fun r565 => ?_)
          refine Ex_istore (lv' := [(0, .ref a0), (1, .ref a520), (2, .ref a522), (3, .ref a524), (4, .ref a525), (5, .int v526), (6, .int r565)]) dL_law_463 (by decide) [1, 2, 3, 4, 5, 6, 0] rfl ?_
          refine Ex_aload_n dL_law_465 rfl 2 rfl ?_
          refine Ex_aload_n dL_law_466 rfl 0 rfl ?_
          refine Ex_iload dL_law_467 5 rfl ?_
          refine Ex_iconst (v := 1) dL_law_469 (by decide) ?_
          refine Ex_iadd dL_law_470 ?_
          refine Ex_aI_i dL_law_471 (fun x566 => ?_)
          refine Ex_bnI (Inv_V (L_X6_compact hG a522 x566) (lw_V q2362 q2363 q2364 q54 q2365) oe_15 ⟨rfl, hm_X6_compact⟩ (by decide) (by decide) dL_law_472 rfl (Nat.le_of_ble_eq_true rfl)) (fun r567 => ?_)
          refine Ex_istore (lv' := [(0, .ref a0), (1, .ref a520), (2, .ref a522), (3, .ref a524), (4, .ref a525), (5, .int v526), (6, .int r565), (7, .int r567)]) dL_law_475 (by decide) [1, 2, 3, 4, 5, 6, 7, 0] rfl ?_
          refine Ex_aload_n dL_law_477 rfl 2 rfl ?_
          refine Ex_bnI (Inv_V (L_X6_thrown hG a522) (lw_V q2101 q2102 q2103 q54 q2104) oe_15 ⟨rfl, hm_X6_thrown⟩ (by decide) (by decide) dL_law_478 rfl (Nat.le_of_ble_eq_true rfl)) (fun r568 => ?_)
          refine Ex_iload dL_law_481 6 rfl ?_
          refine Ex_icmp_eq (tgt := 488) dL_law_483 (by decide) ?_ ?_
          · refine Ex_iload dL_law_488 6 rfl ?_
            refine Ex_jn (γ := Unit) (pj := 505) (fun v569 => [(0, .ref a0), (1, .ref a520), (2, .ref a522), (3, .ref a524), (4, .ref a525), (5, .int v526)]) (fun v569 => []) (fun v569 => ?_) (fun j570 hj570 => ?_)
            · refine Ex_goto (tgt := 2447) dL_law_505 (by decide) ?_
              exact hj531 ()
            · refine Ex_if_ne (tgt := 505) dL_law_490 (by decide) ?_ ?_
              · refine Ex_lv [0, 1, 2, 3, 4, 5] (lv' := [(0, .ref a0), (1, .ref a520), (2, .ref a522), (3, .ref a524), (4, .ref a525), (5, .int v526)]) rfl ?_
                exact hj570 ()
              · refine Ex_aload_n dL_law_493 rfl 3 rfl ?_
                refine Ex_iconst (v := 0) dL_law_494 (by decide) ?_
                refine Ex_aJ_l dL_law_495 (fun x571 => ?_)
                refine Ex_iload dL_law_496 7 rfl ?_
                refine Ex_i2l dL_law_498 ?_
                refine Ex_lcmp dL_law_499 ?_
                refine Ex_if_eq (tgt := 505) dL_law_500 (by decide) ?_ ?_
                · refine Ex_lv [0, 1, 2, 3, 4, 5] (lv' := [(0, .ref a0), (1, .ref a520), (2, .ref a522), (3, .ref a524), (4, .ref a525), (5, .int v526)]) rfl ?_
                  exact hj570 ()
                · refine Ex_iconst (v := 0) dL_law_503 (by decide) ?_
                  exact Ex_zreturn dL_law_504 rfl rfl
          · refine Ex_iconst (v := 0) dL_law_486 (by decide) ?_
            exact Ex_zreturn dL_law_487 rfl rfl
        | 5, _ =>
          refine ⟨454, 508, rfl, by decide, ?_⟩
          refine Ex_aload_n dL_law_508 rfl 1 rfl ?_
          refine Ex_aload_n dL_law_509 rfl 0 rfl ?_
          refine Ex_iload dL_law_510 5 rfl ?_
          refine Ex_iconst (v := 1) dL_law_512 (by decide) ?_
          refine Ex_iadd dL_law_513 ?_
          refine Ex_aI_i dL_law_514 (fun x572 => ?_)
          refine Ex_aload_n dL_law_515 rfl 3 rfl ?_
          refine Ex_bnI (Inv_SW (L_X0_role hG a520 x572 a524) (lw_SW q1393 q1394 q44 q1395) hm_X0_role (by decide) (by decide) dL_law_516 rfl (Nat.le_of_ble_eq_true rfl)) (fun r573 => ?_)
          refine Ex_istore (lv' := [(0, .ref a0), (1, .ref a520), (2, .ref a522), (3, .ref a524), (4, .ref a525), (5, .int v526), (6, .int r573)]) dL_law_519 (by decide) [1, 2, 3, 4, 5, 6, 0] rfl ?_
          refine Ex_aload_n dL_law_521 rfl 2 rfl ?_
          refine Ex_aload_n dL_law_522 rfl 0 rfl ?_
          refine Ex_iload dL_law_523 5 rfl ?_
          refine Ex_iconst (v := 1) dL_law_525 (by decide) ?_
          refine Ex_iadd dL_law_526 ?_
          refine Ex_aI_i dL_law_527 (fun x574 => ?_)
          refine Ex_bnI (Inv_V (L_X6_role hG a522 x574) (lw_V q2370 q2371 q2372 q54 q2373) oe_15 ⟨rfl, hm_X6_role⟩ (by decide) (by decide) dL_law_528 rfl (Nat.le_of_ble_eq_true rfl)) (fun r575 => ?_)
          refine Ex_istore (lv' := [(0, .ref a0), (1, .ref a520), (2, .ref a522), (3, .ref a524), (4, .ref a525), (5, .int v526), (6, .int r573), (7, .int r575)]) dL_law_531 (by decide) [1, 2, 3, 4, 5, 6, 7, 0] rfl ?_
          refine Ex_aload_n dL_law_533 rfl 2 rfl ?_
          refine Ex_bnI (Inv_V (L_X6_thrown hG a522) (lw_V q2101 q2102 q2103 q54 q2104) oe_15 ⟨rfl, hm_X6_thrown⟩ (by decide) (by decide) dL_law_534 rfl (Nat.le_of_ble_eq_true rfl)) (fun r576 => ?_)
          refine Ex_iload dL_law_537 6 rfl ?_
          refine Ex_icmp_eq (tgt := 544) dL_law_539 (by decide) ?_ ?_
          · refine Ex_iload dL_law_544 6 rfl ?_
            refine Ex_jn (γ := Unit) (pj := 561) (fun v577 => [(0, .ref a0), (1, .ref a520), (2, .ref a522), (3, .ref a524), (4, .ref a525), (5, .int v526)]) (fun v577 => []) (fun v577 => ?_) (fun j578 hj578 => ?_)
            · refine Ex_goto (tgt := 2447) dL_law_561 (by decide) ?_
              exact hj531 ()
            · refine Ex_if_ne (tgt := 561) dL_law_546 (by decide) ?_ ?_
              · refine Ex_lv [0, 1, 2, 3, 4, 5] (lv' := [(0, .ref a0), (1, .ref a520), (2, .ref a522), (3, .ref a524), (4, .ref a525), (5, .int v526)]) rfl ?_
                exact hj578 ()
              · refine Ex_aload_n dL_law_549 rfl 3 rfl ?_
                refine Ex_iconst (v := 0) dL_law_550 (by decide) ?_
                refine Ex_aJ_l dL_law_551 (fun x579 => ?_)
                refine Ex_iload dL_law_552 7 rfl ?_
                refine Ex_i2l dL_law_554 ?_
                refine Ex_lcmp dL_law_555 ?_
                refine Ex_if_eq (tgt := 561) dL_law_556 (by decide) ?_ ?_
                · refine Ex_lv [0, 1, 2, 3, 4, 5] (lv' := [(0, .ref a0), (1, .ref a520), (2, .ref a522), (3, .ref a524), (4, .ref a525), (5, .int v526)]) rfl ?_
                  exact hj578 ()
                · refine Ex_iconst (v := 0) dL_law_559 (by decide) ?_
                  exact Ex_zreturn dL_law_560 rfl rfl
          · refine Ex_iconst (v := 0) dL_law_542 (by decide) ?_
            exact Ex_zreturn dL_law_543 rfl rfl
        | 6, _ =>
          refine ⟨510, 564, rfl, by decide, ?_⟩
          refine Ex_aload_n dL_law_564 rfl 1 rfl ?_
          refine Ex_aload_n dL_law_565 rfl 0 rfl ?_
          refine Ex_iload dL_law_566 5 rfl ?_
          refine Ex_iconst (v := 1) dL_law_568 (by decide) ?_
          refine Ex_iadd dL_law_569 ?_
          refine Ex_aI_i dL_law_570 (fun x580 => ?_)
          refine Ex_aload_n dL_law_571 rfl 3 rfl ?_
          refine Ex_bnI (Inv_SW (L_X0_term hG a520 x580 a524) (lw_SW q1400 q1401 q44 q1402) hm_X0_term (by decide) (by decide) dL_law_572 rfl (Nat.le_of_ble_eq_true rfl)) (fun r581 => ?_)
          refine Ex_istore (lv' := [(0, .ref a0), (1, .ref a520), (2, .ref a522), (3, .ref a524), (4, .ref a525), (5, .int v526), (6, .int r581)]) dL_law_575 (by decide) [1, 2, 3, 4, 5, 6, 0] rfl ?_
          refine Ex_aload_n dL_law_577 rfl 2 rfl ?_
          refine Ex_aload_n dL_law_578 rfl 0 rfl ?_
          refine Ex_iload dL_law_579 5 rfl ?_
          refine Ex_iconst (v := 1) dL_law_581 (by decide) ?_
          refine Ex_iadd dL_law_582 ?_
          refine Ex_aI_i dL_law_583 (fun x582 => ?_)
          refine Ex_bnI (Inv_V (L_X6_term hG a522 x582) (lw_V q2374 q2375 q2376 q54 q2377) oe_15 ⟨rfl, hm_X6_term⟩ (by decide) (by decide) dL_law_584 rfl (Nat.le_of_ble_eq_true rfl)) (fun r583 => ?_)
          refine Ex_istore (lv' := [(0, .ref a0), (1, .ref a520), (2, .ref a522), (3, .ref a524), (4, .ref a525), (5, .int v526), (6, .int r581), (7, .int r583)]) dL_law_587 (by decide) [1, 2, 3, 4, 5, 6, 7, 0] rfl ?_
          refine Ex_aload_n dL_law_589 rfl 2 rfl ?_
          refine Ex_bnI (Inv_V (L_X6_thrown hG a522) (lw_V q2101 q2102 q2103 q54 q2104) oe_15 ⟨rfl, hm_X6_thrown⟩ (by decide) (by decide) dL_law_590 rfl (Nat.le_of_ble_eq_true rfl)) (fun r584 => ?_)
          refine Ex_iload dL_law_593 6 rfl ?_
          refine Ex_icmp_eq (tgt := 600) dL_law_595 (by decide) ?_ ?_
          · refine Ex_iload dL_law_600 6 rfl ?_
            refine Ex_jn (γ := Unit) (pj := 617) (fun v585 => [(0, .ref a0), (1, .ref a520), (2, .ref a522), (3, .ref a524), (4, .ref a525), (5, .int v526)]) (fun v585 => []) (fun v585 => ?_) (fun j586 hj586 => ?_)
            · refine Ex_goto (tgt := 2447) dL_law_617 (by decide) ?_
              exact hj531 ()
            · refine Ex_if_ne (tgt := 617) dL_law_602 (by decide) ?_ ?_
              · refine Ex_lv [0, 1, 2, 3, 4, 5] (lv' := [(0, .ref a0), (1, .ref a520), (2, .ref a522), (3, .ref a524), (4, .ref a525), (5, .int v526)]) rfl ?_
                exact hj586 ()
              · refine Ex_aload_n dL_law_605 rfl 3 rfl ?_
                refine Ex_iconst (v := 0) dL_law_606 (by decide) ?_
                refine Ex_aJ_l dL_law_607 (fun x587 => ?_)
                refine Ex_iload dL_law_608 7 rfl ?_
                refine Ex_i2l dL_law_610 ?_
                refine Ex_lcmp dL_law_611 ?_
                refine Ex_if_eq (tgt := 617) dL_law_612 (by decide) ?_ ?_
                · refine Ex_lv [0, 1, 2, 3, 4, 5] (lv' := [(0, .ref a0), (1, .ref a520), (2, .ref a522), (3, .ref a524), (4, .ref a525), (5, .int v526)]) rfl ?_
                  exact hj586 ()
                · refine Ex_iconst (v := 0) dL_law_615 (by decide) ?_
                  exact Ex_zreturn dL_law_616 rfl rfl
          · refine Ex_iconst (v := 0) dL_law_598 (by decide) ?_
            exact Ex_zreturn dL_law_599 rfl rfl
        | 7, _ =>
          refine ⟨566, 620, rfl, by decide, ?_⟩
          refine Ex_aload_n dL_law_620 rfl 1 rfl ?_
          refine Ex_aload_n dL_law_621 rfl 0 rfl ?_
          refine Ex_iload dL_law_622 5 rfl ?_
          refine Ex_iconst (v := 1) dL_law_624 (by decide) ?_
          refine Ex_iadd dL_law_625 ?_
          refine Ex_aI_i dL_law_626 (fun x588 => ?_)
          refine Ex_aload_n dL_law_627 rfl 3 rfl ?_
          refine Ex_bnI (Inv_SW (L_X0_vote hG a520 x588 a524) (lw_SW q1407 q1408 q44 q1409) hm_X0_vote (by decide) (by decide) dL_law_628 rfl (Nat.le_of_ble_eq_true rfl)) (fun r589 => ?_)
          refine Ex_istore (lv' := [(0, .ref a0), (1, .ref a520), (2, .ref a522), (3, .ref a524), (4, .ref a525), (5, .int v526), (6, .int r589)]) dL_law_631 (by decide) [1, 2, 3, 4, 5, 6, 0] rfl ?_
          refine Ex_aload_n dL_law_633 rfl 2 rfl ?_
          refine Ex_aload_n dL_law_634 rfl 0 rfl ?_
          refine Ex_iload dL_law_635 5 rfl ?_
          refine Ex_iconst (v := 1) dL_law_637 (by decide) ?_
          refine Ex_iadd dL_law_638 ?_
          refine Ex_aI_i dL_law_639 (fun x590 => ?_)
          refine Ex_bnI (Inv_V (L_X6_vote hG a522 x590) (lw_V q2378 q2379 q2380 q54 q2381) oe_15 ⟨rfl, hm_X6_vote⟩ (by decide) (by decide) dL_law_640 rfl (Nat.le_of_ble_eq_true rfl)) (fun r591 => ?_)
          refine Ex_istore (lv' := [(0, .ref a0), (1, .ref a520), (2, .ref a522), (3, .ref a524), (4, .ref a525), (5, .int v526), (6, .int r589), (7, .int r591)]) dL_law_643 (by decide) [1, 2, 3, 4, 5, 6, 7, 0] rfl ?_
          refine Ex_aload_n dL_law_645 rfl 2 rfl ?_
          refine Ex_bnI (Inv_V (L_X6_thrown hG a522) (lw_V q2101 q2102 q2103 q54 q2104) oe_15 ⟨rfl, hm_X6_thrown⟩ (by decide) (by decide) dL_law_646 rfl (Nat.le_of_ble_eq_true rfl)) (fun r592 => ?_)
          refine Ex_iload dL_law_649 6 rfl ?_
          refine Ex_icmp_eq (tgt := 656) dL_law_651 (by decide) ?_ ?_
          · refine Ex_iload dL_law_656 6 rfl ?_
            refine Ex_jn (γ := Unit) (pj := 673) (fun v593 => [(0, .ref a0), (1, .ref a520), (2, .ref a522), (3, .ref a524), (4, .ref a525), (5, .int v526)]) (fun v593 => []) (fun v593 => ?_) (fun j594 hj594 => ?_)
            · refine Ex_goto (tgt := 2447) dL_law_673 (by decide) ?_
              exact hj531 ()
            · refine Ex_if_ne (tgt := 673) dL_law_658 (by decide) ?_ ?_
              · refine Ex_lv [0, 1, 2, 3, 4, 5] (lv' := [(0, .ref a0), (1, .ref a520), (2, .ref a522), (3, .ref a524), (4, .ref a525), (5, .int v526)]) rfl ?_
                exact hj594 ()
              · refine Ex_aload_n dL_law_661 rfl 3 rfl ?_
                refine Ex_iconst (v := 0) dL_law_662 (by decide) ?_
                refine Ex_aJ_l dL_law_663 (fun x595 => ?_)
                refine Ex_iload dL_law_664 7 rfl ?_
                refine Ex_i2l dL_law_666 ?_
                refine Ex_lcmp dL_law_667 ?_
                refine Ex_if_eq (tgt := 673) dL_law_668 (by decide) ?_ ?_
                · refine Ex_lv [0, 1, 2, 3, 4, 5] (lv' := [(0, .ref a0), (1, .ref a520), (2, .ref a522), (3, .ref a524), (4, .ref a525), (5, .int v526)]) rfl ?_
                  exact hj594 ()
                · refine Ex_iconst (v := 0) dL_law_671 (by decide) ?_
                  exact Ex_zreturn dL_law_672 rfl rfl
          · refine Ex_iconst (v := 0) dL_law_654 (by decide) ?_
            exact Ex_zreturn dL_law_655 rfl rfl
        | 8, _ =>
          refine ⟨622, 676, rfl, by decide, ?_⟩
          refine Ex_aload_n dL_law_676 rfl 1 rfl ?_
          refine Ex_aload_n dL_law_677 rfl 0 rfl ?_
          refine Ex_iload dL_law_678 5 rfl ?_
          refine Ex_iconst (v := 1) dL_law_680 (by decide) ?_
          refine Ex_iadd dL_law_681 ?_
          refine Ex_aI_i dL_law_682 (fun x596 => ?_)
          refine Ex_aload_n dL_law_683 rfl 3 rfl ?_
          refine Ex_bnI (Inv_SW (L_X0_clock hG a520 x596 a524) (lw_SW q1420 q1421 q44 q1422) hm_X0_clock (by decide) (by decide) dL_law_684 rfl (Nat.le_of_ble_eq_true rfl)) (fun r597 => ?_)
          refine Ex_istore (lv' := [(0, .ref a0), (1, .ref a520), (2, .ref a522), (3, .ref a524), (4, .ref a525), (5, .int v526), (6, .int r597)]) dL_law_687 (by decide) [1, 2, 3, 4, 5, 6, 0] rfl ?_
          refine Ex_aload_n dL_law_689 rfl 2 rfl ?_
          refine Ex_aload_n dL_law_690 rfl 0 rfl ?_
          refine Ex_iload dL_law_691 5 rfl ?_
          refine Ex_iconst (v := 1) dL_law_693 (by decide) ?_
          refine Ex_iadd dL_law_694 ?_
          refine Ex_aI_i dL_law_695 (fun x598 => ?_)
          refine Ex_bnI (Inv_V (L_X6_clock hG a522 x598) (lw_V q2382 q2383 q2384 q54 q2385) oe_15 ⟨rfl, hm_X6_clock⟩ (by decide) (by decide) dL_law_696 rfl (Nat.le_of_ble_eq_true rfl)) (fun r599 => ?_)
          refine Ex_istore (lv' := [(0, .ref a0), (1, .ref a520), (2, .ref a522), (3, .ref a524), (4, .ref a525), (5, .int v526), (6, .int r597), (7, .int r599)]) dL_law_699 (by decide) [1, 2, 3, 4, 5, 6, 7, 0] rfl ?_
          refine Ex_aload_n dL_law_701 rfl 2 rfl ?_
          refine Ex_bnI (Inv_V (L_X6_thrown hG a522) (lw_V q2101 q2102 q2103 q54 q2104) oe_15 ⟨rfl, hm_X6_thrown⟩ (by decide) (by decide) dL_law_702 rfl (Nat.le_of_ble_eq_true rfl)) (fun r600 => ?_)
          refine Ex_iload dL_law_705 6 rfl ?_
          refine Ex_icmp_eq (tgt := 712) dL_law_707 (by decide) ?_ ?_
          · refine Ex_iload dL_law_712 6 rfl ?_
            refine Ex_jn (γ := Unit) (pj := 729) (fun v601 => [(0, .ref a0), (1, .ref a520), (2, .ref a522), (3, .ref a524), (4, .ref a525), (5, .int v526)]) (fun v601 => []) (fun v601 => ?_) (fun j602 hj602 => ?_)
            · refine Ex_goto (tgt := 2447) dL_law_729 (by decide) ?_
              exact hj531 ()
            · refine Ex_if_ne (tgt := 729) dL_law_714 (by decide) ?_ ?_
              · refine Ex_lv [0, 1, 2, 3, 4, 5] (lv' := [(0, .ref a0), (1, .ref a520), (2, .ref a522), (3, .ref a524), (4, .ref a525), (5, .int v526)]) rfl ?_
                exact hj602 ()
              · refine Ex_aload_n dL_law_717 rfl 3 rfl ?_
                refine Ex_iconst (v := 0) dL_law_718 (by decide) ?_
                refine Ex_aJ_l dL_law_719 (fun x603 => ?_)
                refine Ex_iload dL_law_720 7 rfl ?_
                refine Ex_i2l dL_law_722 ?_
                refine Ex_lcmp dL_law_723 ?_
                refine Ex_if_eq (tgt := 729) dL_law_724 (by decide) ?_ ?_
                · refine Ex_lv [0, 1, 2, 3, 4, 5] (lv' := [(0, .ref a0), (1, .ref a520), (2, .ref a522), (3, .ref a524), (4, .ref a525), (5, .int v526)]) rfl ?_
                  exact hj602 ()
                · refine Ex_iconst (v := 0) dL_law_727 (by decide) ?_
                  exact Ex_zreturn dL_law_728 rfl rfl
          · refine Ex_iconst (v := 0) dL_law_710 (by decide) ?_
            exact Ex_zreturn dL_law_711 rfl rfl
        | 9, _ =>
          refine ⟨678, 732, rfl, by decide, ?_⟩
          refine Ex_aload_n dL_law_732 rfl 1 rfl ?_
          refine Ex_aload_n dL_law_733 rfl 0 rfl ?_
          refine Ex_iload dL_law_734 5 rfl ?_
          refine Ex_iconst (v := 1) dL_law_736 (by decide) ?_
          refine Ex_iadd dL_law_737 ?_
          refine Ex_aI_i dL_law_738 (fun x604 => ?_)
          refine Ex_aload_n dL_law_739 rfl 3 rfl ?_
          refine Ex_bnI (Inv_SW (L_X0_last hG a520 x604 a524) (lw_SW q1427 q1428 q44 q1429) hm_X0_last (by decide) (by decide) dL_law_740 rfl (Nat.le_of_ble_eq_true rfl)) (fun r605 => ?_)
          refine Ex_istore (lv' := [(0, .ref a0), (1, .ref a520), (2, .ref a522), (3, .ref a524), (4, .ref a525), (5, .int v526), (6, .int r605)]) dL_law_743 (by decide) [1, 2, 3, 4, 5, 6, 0] rfl ?_
          refine Ex_aload_n dL_law_745 rfl 2 rfl ?_
          refine Ex_aload_n dL_law_746 rfl 0 rfl ?_
          refine Ex_iload dL_law_747 5 rfl ?_
          refine Ex_iconst (v := 1) dL_law_749 (by decide) ?_
          refine Ex_iadd dL_law_750 ?_
          refine Ex_aI_i dL_law_751 (fun x606 => ?_)
          refine Ex_bnI (Inv_V (L_X6_last hG a522 x606) (lw_V q2386 q2387 q2388 q54 q2389) oe_15 ⟨rfl, hm_X6_last⟩ (by decide) (by decide) dL_law_752 rfl (Nat.le_of_ble_eq_true rfl)) (fun r607 => ?_)
          refine Ex_istore (lv' := [(0, .ref a0), (1, .ref a520), (2, .ref a522), (3, .ref a524), (4, .ref a525), (5, .int v526), (6, .int r605), (7, .int r607)]) dL_law_755 (by decide) [1, 2, 3, 4, 5, 6, 7, 0] rfl ?_
          refine Ex_aload_n dL_law_757 rfl 2 rfl ?_
          refine Ex_bnI (Inv_V (L_X6_thrown hG a522) (lw_V q2101 q2102 q2103 q54 q2104) oe_15 ⟨rfl, hm_X6_thrown⟩ (by decide) (by decide) dL_law_758 rfl (Nat.le_of_ble_eq_true rfl)) (fun r608 => ?_)
          refine Ex_iload dL_law_761 6 rfl ?_
          refine Ex_icmp_eq (tgt := 768) dL_law_763 (by decide) ?_ ?_
          · refine Ex_iload dL_law_768 6 rfl ?_
            refine Ex_jn (γ := Unit) (pj := 785) (fun v609 => [(0, .ref a0), (1, .ref a520), (2, .ref a522), (3, .ref a524), (4, .ref a525), (5, .int v526)]) (fun v609 => []) (fun v609 => ?_) (fun j610 hj610 => ?_)
            · refine Ex_goto (tgt := 2447) dL_law_785 (by decide) ?_
              exact hj531 ()
            · refine Ex_if_ne (tgt := 785) dL_law_770 (by decide) ?_ ?_
              · refine Ex_lv [0, 1, 2, 3, 4, 5] (lv' := [(0, .ref a0), (1, .ref a520), (2, .ref a522), (3, .ref a524), (4, .ref a525), (5, .int v526)]) rfl ?_
                exact hj610 ()
              · refine Ex_aload_n dL_law_773 rfl 3 rfl ?_
                refine Ex_iconst (v := 0) dL_law_774 (by decide) ?_
                refine Ex_aJ_l dL_law_775 (fun x611 => ?_)
                refine Ex_iload dL_law_776 7 rfl ?_
                refine Ex_i2l dL_law_778 ?_
                refine Ex_lcmp dL_law_779 ?_
                refine Ex_if_eq (tgt := 785) dL_law_780 (by decide) ?_ ?_
                · refine Ex_lv [0, 1, 2, 3, 4, 5] (lv' := [(0, .ref a0), (1, .ref a520), (2, .ref a522), (3, .ref a524), (4, .ref a525), (5, .int v526)]) rfl ?_
                  exact hj610 ()
                · refine Ex_iconst (v := 0) dL_law_783 (by decide) ?_
                  exact Ex_zreturn dL_law_784 rfl rfl
          · refine Ex_iconst (v := 0) dL_law_766 (by decide) ?_
            exact Ex_zreturn dL_law_767 rfl rfl
        | 10, _ =>
          refine ⟨734, 788, rfl, by decide, ?_⟩
          refine Ex_aload_n dL_law_788 rfl 1 rfl ?_
          refine Ex_aload_n dL_law_789 rfl 0 rfl ?_
          refine Ex_iload dL_law_790 5 rfl ?_
          refine Ex_iconst (v := 1) dL_law_792 (by decide) ?_
          refine Ex_iadd dL_law_793 ?_
          refine Ex_aI_i dL_law_794 (fun x612 => ?_)
          refine Ex_aload_n dL_law_795 rfl 3 rfl ?_
          refine Ex_bnI (Inv_SW (L_X0_synced hG a520 x612 a524) (lw_SW q1434 q1435 q44 q1436) hm_X0_synced (by decide) (by decide) dL_law_796 rfl (Nat.le_of_ble_eq_true rfl)) (fun r613 => ?_)
          refine Ex_istore (lv' := [(0, .ref a0), (1, .ref a520), (2, .ref a522), (3, .ref a524), (4, .ref a525), (5, .int v526), (6, .int r613)]) dL_law_799 (by decide) [1, 2, 3, 4, 5, 6, 0] rfl ?_
          refine Ex_aload_n dL_law_801 rfl 2 rfl ?_
          refine Ex_aload_n dL_law_802 rfl 0 rfl ?_
          refine Ex_iload dL_law_803 5 rfl ?_
          refine Ex_iconst (v := 1) dL_law_805 (by decide) ?_
          refine Ex_iadd dL_law_806 ?_
          refine Ex_aI_i dL_law_807 (fun x614 => ?_)
          refine Ex_bnI (Inv_V (L_X6_synced hG a522 x614) (lw_V q2391 q2392 q2393 q54 q2394) oe_15 ⟨rfl, hm_X6_synced⟩ (by decide) (by decide) dL_law_808 rfl (Nat.le_of_ble_eq_true rfl)) (fun r615 => ?_)
          refine Ex_istore (lv' := [(0, .ref a0), (1, .ref a520), (2, .ref a522), (3, .ref a524), (4, .ref a525), (5, .int v526), (6, .int r613), (7, .int r615)]) dL_law_811 (by decide) [1, 2, 3, 4, 5, 6, 7, 0] rfl ?_
          refine Ex_aload_n dL_law_813 rfl 2 rfl ?_
          refine Ex_bnI (Inv_V (L_X6_thrown hG a522) (lw_V q2101 q2102 q2103 q54 q2104) oe_15 ⟨rfl, hm_X6_thrown⟩ (by decide) (by decide) dL_law_814 rfl (Nat.le_of_ble_eq_true rfl)) (fun r616 => ?_)
          refine Ex_iload dL_law_817 6 rfl ?_
          refine Ex_icmp_eq (tgt := 824) dL_law_819 (by decide) ?_ ?_
          · refine Ex_iload dL_law_824 6 rfl ?_
            refine Ex_jn (γ := Unit) (pj := 841) (fun v617 => [(0, .ref a0), (1, .ref a520), (2, .ref a522), (3, .ref a524), (4, .ref a525), (5, .int v526)]) (fun v617 => []) (fun v617 => ?_) (fun j618 hj618 => ?_)
            · refine Ex_goto (tgt := 2447) dL_law_841 (by decide) ?_
              exact hj531 ()
            · refine Ex_if_ne (tgt := 841) dL_law_826 (by decide) ?_ ?_
              · refine Ex_lv [0, 1, 2, 3, 4, 5] (lv' := [(0, .ref a0), (1, .ref a520), (2, .ref a522), (3, .ref a524), (4, .ref a525), (5, .int v526)]) rfl ?_
                exact hj618 ()
              · refine Ex_aload_n dL_law_829 rfl 3 rfl ?_
                refine Ex_iconst (v := 0) dL_law_830 (by decide) ?_
                refine Ex_aJ_l dL_law_831 (fun x619 => ?_)
                refine Ex_iload dL_law_832 7 rfl ?_
                refine Ex_i2l dL_law_834 ?_
                refine Ex_lcmp dL_law_835 ?_
                refine Ex_if_eq (tgt := 841) dL_law_836 (by decide) ?_ ?_
                · refine Ex_lv [0, 1, 2, 3, 4, 5] (lv' := [(0, .ref a0), (1, .ref a520), (2, .ref a522), (3, .ref a524), (4, .ref a525), (5, .int v526)]) rfl ?_
                  exact hj618 ()
                · refine Ex_iconst (v := 0) dL_law_839 (by decide) ?_
                  exact Ex_zreturn dL_law_840 rfl rfl
          · refine Ex_iconst (v := 0) dL_law_822 (by decide) ?_
            exact Ex_zreturn dL_law_823 rfl rfl
        | 11, _ =>
          refine ⟨790, 844, rfl, by decide, ?_⟩
          refine Ex_aload_n dL_law_844 rfl 1 rfl ?_
          refine Ex_aload_n dL_law_845 rfl 0 rfl ?_
          refine Ex_iload dL_law_846 5 rfl ?_
          refine Ex_iconst (v := 1) dL_law_848 (by decide) ?_
          refine Ex_iadd dL_law_849 ?_
          refine Ex_aI_i dL_law_850 (fun x620 => ?_)
          refine Ex_aload_n dL_law_851 rfl 3 rfl ?_
          refine Ex_bnI (Inv_SW (L_X0_committed hG a520 x620 a524) (lw_SW q1441 q1442 q44 q1443) hm_X0_committed (by decide) (by decide) dL_law_852 rfl (Nat.le_of_ble_eq_true rfl)) (fun r621 => ?_)
          refine Ex_istore (lv' := [(0, .ref a0), (1, .ref a520), (2, .ref a522), (3, .ref a524), (4, .ref a525), (5, .int v526), (6, .int r621)]) dL_law_855 (by decide) [1, 2, 3, 4, 5, 6, 0] rfl ?_
          refine Ex_aload_n dL_law_857 rfl 2 rfl ?_
          refine Ex_aload_n dL_law_858 rfl 0 rfl ?_
          refine Ex_iload dL_law_859 5 rfl ?_
          refine Ex_iconst (v := 1) dL_law_861 (by decide) ?_
          refine Ex_iadd dL_law_862 ?_
          refine Ex_aI_i dL_law_863 (fun x622 => ?_)
          refine Ex_bnI (Inv_V (L_X6_committed hG a522 x622) (lw_V q2395 q2396 q2397 q54 q2398) oe_15 ⟨rfl, hm_X6_committed⟩ (by decide) (by decide) dL_law_864 rfl (Nat.le_of_ble_eq_true rfl)) (fun r623 => ?_)
          refine Ex_istore (lv' := [(0, .ref a0), (1, .ref a520), (2, .ref a522), (3, .ref a524), (4, .ref a525), (5, .int v526), (6, .int r621), (7, .int r623)]) dL_law_867 (by decide) [1, 2, 3, 4, 5, 6, 7, 0] rfl ?_
          refine Ex_aload_n dL_law_869 rfl 2 rfl ?_
          refine Ex_bnI (Inv_V (L_X6_thrown hG a522) (lw_V q2101 q2102 q2103 q54 q2104) oe_15 ⟨rfl, hm_X6_thrown⟩ (by decide) (by decide) dL_law_870 rfl (Nat.le_of_ble_eq_true rfl)) (fun r624 => ?_)
          refine Ex_iload dL_law_873 6 rfl ?_
          refine Ex_icmp_eq (tgt := 880) dL_law_875 (by decide) ?_ ?_
          · refine Ex_iload dL_law_880 6 rfl ?_
            refine Ex_jn (γ := Unit) (pj := 897) (fun v625 => [(0, .ref a0), (1, .ref a520), (2, .ref a522), (3, .ref a524), (4, .ref a525), (5, .int v526)]) (fun v625 => []) (fun v625 => ?_) (fun j626 hj626 => ?_)
            · refine Ex_goto (tgt := 2447) dL_law_897 (by decide) ?_
              exact hj531 ()
            · refine Ex_if_ne (tgt := 897) dL_law_882 (by decide) ?_ ?_
              · refine Ex_lv [0, 1, 2, 3, 4, 5] (lv' := [(0, .ref a0), (1, .ref a520), (2, .ref a522), (3, .ref a524), (4, .ref a525), (5, .int v526)]) rfl ?_
                exact hj626 ()
              · refine Ex_aload_n dL_law_885 rfl 3 rfl ?_
                refine Ex_iconst (v := 0) dL_law_886 (by decide) ?_
                refine Ex_aJ_l dL_law_887 (fun x627 => ?_)
                refine Ex_iload dL_law_888 7 rfl ?_
                refine Ex_i2l dL_law_890 ?_
                refine Ex_lcmp dL_law_891 ?_
                refine Ex_if_eq (tgt := 897) dL_law_892 (by decide) ?_ ?_
                · refine Ex_lv [0, 1, 2, 3, 4, 5] (lv' := [(0, .ref a0), (1, .ref a520), (2, .ref a522), (3, .ref a524), (4, .ref a525), (5, .int v526)]) rfl ?_
                  exact hj626 ()
                · refine Ex_iconst (v := 0) dL_law_895 (by decide) ?_
                  exact Ex_zreturn dL_law_896 rfl rfl
          · refine Ex_iconst (v := 0) dL_law_878 (by decide) ?_
            exact Ex_zreturn dL_law_879 rfl rfl
        | 12, _ =>
          refine ⟨846, 900, rfl, by decide, ?_⟩
          refine Ex_aload_n dL_law_900 rfl 1 rfl ?_
          refine Ex_aload_n dL_law_901 rfl 0 rfl ?_
          refine Ex_iload dL_law_902 5 rfl ?_
          refine Ex_iconst (v := 1) dL_law_904 (by decide) ?_
          refine Ex_iadd dL_law_905 ?_
          refine Ex_aI_i dL_law_906 (fun x628 => ?_)
          refine Ex_aload_n dL_law_907 rfl 3 rfl ?_
          refine Ex_bnI (Inv_SW (L_X0_snapshot hG a520 x628 a524) (lw_SW q1448 q1449 q44 q1450) hm_X0_snapshot (by decide) (by decide) dL_law_908 rfl (Nat.le_of_ble_eq_true rfl)) (fun r629 => ?_)
          refine Ex_istore (lv' := [(0, .ref a0), (1, .ref a520), (2, .ref a522), (3, .ref a524), (4, .ref a525), (5, .int v526), (6, .int r629)]) dL_law_911 (by decide) [1, 2, 3, 4, 5, 6, 0] rfl ?_
          refine Ex_aload_n dL_law_913 rfl 2 rfl ?_
          refine Ex_aload_n dL_law_914 rfl 0 rfl ?_
          refine Ex_iload dL_law_915 5 rfl ?_
          refine Ex_iconst (v := 1) dL_law_917 (by decide) ?_
          refine Ex_iadd dL_law_918 ?_
          refine Ex_aI_i dL_law_919 (fun x630 => ?_)
          refine Ex_bnI (Inv_V (L_X6_snapshot hG a522 x630) (lw_V q2399 q2400 q2401 q54 q2402) oe_15 ⟨rfl, hm_X6_snapshot⟩ (by decide) (by decide) dL_law_920 rfl (Nat.le_of_ble_eq_true rfl)) (fun r631 => ?_)
          refine Ex_istore (lv' := [(0, .ref a0), (1, .ref a520), (2, .ref a522), (3, .ref a524), (4, .ref a525), (5, .int v526), (6, .int r629), (7, .int r631)]) dL_law_923 (by decide) [1, 2, 3, 4, 5, 6, 7, 0] rfl ?_
          refine Ex_aload_n dL_law_925 rfl 2 rfl ?_
          refine Ex_bnI (Inv_V (L_X6_thrown hG a522) (lw_V q2101 q2102 q2103 q54 q2104) oe_15 ⟨rfl, hm_X6_thrown⟩ (by decide) (by decide) dL_law_926 rfl (Nat.le_of_ble_eq_true rfl)) (fun r632 => ?_)
          refine Ex_iload dL_law_929 6 rfl ?_
          refine Ex_icmp_eq (tgt := 936) dL_law_931 (by decide) ?_ ?_
          · refine Ex_iload dL_law_936 6 rfl ?_
            refine Ex_jn (γ := Unit) (pj := 953) (fun v633 => [(0, .ref a0), (1, .ref a520), (2, .ref a522), (3, .ref a524), (4, .ref a525), (5, .int v526)]) (fun v633 => []) (fun v633 => ?_) (fun j634 hj634 => ?_)
            · refine Ex_goto (tgt := 2447) dL_law_953 (by decide) ?_
              exact hj531 ()
            · refine Ex_if_ne (tgt := 953) dL_law_938 (by decide) ?_ ?_
              · refine Ex_lv [0, 1, 2, 3, 4, 5] (lv' := [(0, .ref a0), (1, .ref a520), (2, .ref a522), (3, .ref a524), (4, .ref a525), (5, .int v526)]) rfl ?_
                exact hj634 ()
              · refine Ex_aload_n dL_law_941 rfl 3 rfl ?_
                refine Ex_iconst (v := 0) dL_law_942 (by decide) ?_
                refine Ex_aJ_l dL_law_943 (fun x635 => ?_)
                refine Ex_iload dL_law_944 7 rfl ?_
                refine Ex_i2l dL_law_946 ?_
                refine Ex_lcmp dL_law_947 ?_
                refine Ex_if_eq (tgt := 953) dL_law_948 (by decide) ?_ ?_
                · refine Ex_lv [0, 1, 2, 3, 4, 5] (lv' := [(0, .ref a0), (1, .ref a520), (2, .ref a522), (3, .ref a524), (4, .ref a525), (5, .int v526)]) rfl ?_
                  exact hj634 ()
                · refine Ex_iconst (v := 0) dL_law_951 (by decide) ?_
                  exact Ex_zreturn dL_law_952 rfl rfl
          · refine Ex_iconst (v := 0) dL_law_934 (by decide) ?_
            exact Ex_zreturn dL_law_935 rfl rfl
        | 13, _ =>
          refine ⟨902, 956, rfl, by decide, ?_⟩
          refine Ex_aload_n dL_law_956 rfl 1 rfl ?_
          refine Ex_aload_n dL_law_957 rfl 0 rfl ?_
          refine Ex_iload dL_law_958 5 rfl ?_
          refine Ex_iconst (v := 1) dL_law_960 (by decide) ?_
          refine Ex_iadd dL_law_961 ?_
          refine Ex_aI_i dL_law_962 (fun x636 => ?_)
          refine Ex_aload_n dL_law_963 rfl 3 rfl ?_
          refine Ex_bnI (Inv_SW (L_X0_members hG a520 x636 a524) (lw_SW q1455 q1456 q44 q1457) hm_X0_members (by decide) (by decide) dL_law_964 rfl (Nat.le_of_ble_eq_true rfl)) (fun r637 => ?_)
          refine Ex_istore (lv' := [(0, .ref a0), (1, .ref a520), (2, .ref a522), (3, .ref a524), (4, .ref a525), (5, .int v526), (6, .int r637)]) dL_law_967 (by decide) [1, 2, 3, 4, 5, 6, 0] rfl ?_
          refine Ex_aload_n dL_law_969 rfl 2 rfl ?_
          refine Ex_aload_n dL_law_970 rfl 0 rfl ?_
          refine Ex_iload dL_law_971 5 rfl ?_
          refine Ex_iconst (v := 1) dL_law_973 (by decide) ?_
          refine Ex_iadd dL_law_974 ?_
          refine Ex_aI_i dL_law_975 (fun x638 => ?_)
          refine Ex_bnI (Inv_V (L_X6_members hG a522 x638) (lw_V q2403 q2404 q2405 q54 q2406) oe_15 ⟨rfl, hm_X6_members⟩ (by decide) (by decide) dL_law_976 rfl (Nat.le_of_ble_eq_true rfl)) (fun r639 => ?_)
          refine Ex_istore (lv' := [(0, .ref a0), (1, .ref a520), (2, .ref a522), (3, .ref a524), (4, .ref a525), (5, .int v526), (6, .int r637), (7, .int r639)]) dL_law_979 (by decide) [1, 2, 3, 4, 5, 6, 7, 0] rfl ?_
          refine Ex_aload_n dL_law_981 rfl 2 rfl ?_
          refine Ex_bnI (Inv_V (L_X6_thrown hG a522) (lw_V q2101 q2102 q2103 q54 q2104) oe_15 ⟨rfl, hm_X6_thrown⟩ (by decide) (by decide) dL_law_982 rfl (Nat.le_of_ble_eq_true rfl)) (fun r640 => ?_)
          refine Ex_iload dL_law_985 6 rfl ?_
          refine Ex_icmp_eq (tgt := 992) dL_law_987 (by decide) ?_ ?_
          · refine Ex_iload dL_law_992 6 rfl ?_
            refine Ex_jn (γ := Unit) (pj := 1009) (fun v641 => [(0, .ref a0), (1, .ref a520), (2, .ref a522), (3, .ref a524), (4, .ref a525), (5, .int v526)]) (fun v641 => []) (fun v641 => ?_) (fun j642 hj642 => ?_)
            · refine Ex_goto (tgt := 2447) dL_law_1009 (by decide) ?_
              exact hj531 ()
            · refine Ex_if_ne (tgt := 1009) dL_law_994 (by decide) ?_ ?_
              · refine Ex_lv [0, 1, 2, 3, 4, 5] (lv' := [(0, .ref a0), (1, .ref a520), (2, .ref a522), (3, .ref a524), (4, .ref a525), (5, .int v526)]) rfl ?_
                exact hj642 ()
              · refine Ex_aload_n dL_law_997 rfl 3 rfl ?_
                refine Ex_iconst (v := 0) dL_law_998 (by decide) ?_
                refine Ex_aJ_l dL_law_999 (fun x643 => ?_)
                refine Ex_iload dL_law_1000 7 rfl ?_
                refine Ex_i2l dL_law_1002 ?_
                refine Ex_lcmp dL_law_1003 ?_
                refine Ex_if_eq (tgt := 1009) dL_law_1004 (by decide) ?_ ?_
                · refine Ex_lv [0, 1, 2, 3, 4, 5] (lv' := [(0, .ref a0), (1, .ref a520), (2, .ref a522), (3, .ref a524), (4, .ref a525), (5, .int v526)]) rfl ?_
                  exact hj642 ()
                · refine Ex_iconst (v := 0) dL_law_1007 (by decide) ?_
                  exact Ex_zreturn dL_law_1008 rfl rfl
          · refine Ex_iconst (v := 0) dL_law_990 (by decide) ?_
            exact Ex_zreturn dL_law_991 rfl rfl
        | 14, _ =>
          refine ⟨958, 1012, rfl, by decide, ?_⟩
          refine Ex_aload_n dL_law_1012 rfl 1 rfl ?_
          refine Ex_aload_n dL_law_1013 rfl 0 rfl ?_
          refine Ex_iload dL_law_1014 5 rfl ?_
          refine Ex_iconst (v := 1) dL_law_1016 (by decide) ?_
          refine Ex_iadd dL_law_1017 ?_
          refine Ex_aI_i dL_law_1018 (fun x644 => ?_)
          refine Ex_aload_n dL_law_1019 rfl 0 rfl ?_
          refine Ex_iload dL_law_1020 5 rfl ?_
          refine Ex_iconst (v := 2) dL_law_1022 (by decide) ?_
          refine Ex_iadd dL_law_1023 ?_
          refine Ex_aI_i dL_law_1024 (fun x645 => ?_)
          refine Ex_aload_n dL_law_1025 rfl 3 rfl ?_
          refine Ex_bnI (Inv_SW (L_X0_entryTerm hG a520 x644 x645 a524) (lw_SW q1464 q1465 q44 q1466) hm_X0_entryTerm (by decide) (by decide) dL_law_1026 rfl (Nat.le_of_ble_eq_true rfl)) (fun r646 => ?_)
          refine Ex_istore (lv' := [(0, .ref a0), (1, .ref a520), (2, .ref a522), (3, .ref a524), (4, .ref a525), (5, .int v526), (6, .int r646)]) dL_law_1029 (by decide) [1, 2, 3, 4, 5, 6, 0] rfl ?_
          refine Ex_aload_n dL_law_1031 rfl 2 rfl ?_
          refine Ex_aload_n dL_law_1032 rfl 0 rfl ?_
          refine Ex_iload dL_law_1033 5 rfl ?_
          refine Ex_iconst (v := 1) dL_law_1035 (by decide) ?_
          refine Ex_iadd dL_law_1036 ?_
          refine Ex_aI_i dL_law_1037 (fun x647 => ?_)
          refine Ex_aload_n dL_law_1038 rfl 0 rfl ?_
          refine Ex_iload dL_law_1039 5 rfl ?_
          refine Ex_iconst (v := 2) dL_law_1041 (by decide) ?_
          refine Ex_iadd dL_law_1042 ?_
          refine Ex_aI_i dL_law_1043 (fun x648 => ?_)
          refine Ex_bnI (Inv_V (L_X6_entryTerm hG a522 x647 x648) (lw_V q2408 q2409 q2410 q54 q2411) oe_15 ⟨rfl, hm_X6_entryTerm⟩ (by decide) (by decide) dL_law_1044 rfl (Nat.le_of_ble_eq_true rfl)) (fun r649 => ?_)
          refine Ex_istore (lv' := [(0, .ref a0), (1, .ref a520), (2, .ref a522), (3, .ref a524), (4, .ref a525), (5, .int v526), (6, .int r646), (7, .int r649)]) dL_law_1047 (by decide) [1, 2, 3, 4, 5, 6, 7, 0] rfl ?_
          refine Ex_aload_n dL_law_1049 rfl 2 rfl ?_
          refine Ex_bnI (Inv_V (L_X6_thrown hG a522) (lw_V q2101 q2102 q2103 q54 q2104) oe_15 ⟨rfl, hm_X6_thrown⟩ (by decide) (by decide) dL_law_1050 rfl (Nat.le_of_ble_eq_true rfl)) (fun r650 => ?_)
          refine Ex_iload dL_law_1053 6 rfl ?_
          refine Ex_icmp_eq (tgt := 1060) dL_law_1055 (by decide) ?_ ?_
          · refine Ex_iload dL_law_1060 6 rfl ?_
            refine Ex_jn (γ := Unit) (pj := 1077) (fun v651 => [(0, .ref a0), (1, .ref a520), (2, .ref a522), (3, .ref a524), (4, .ref a525), (5, .int v526)]) (fun v651 => []) (fun v651 => ?_) (fun j652 hj652 => ?_)
            · refine Ex_goto (tgt := 2447) dL_law_1077 (by decide) ?_
              exact hj531 ()
            · refine Ex_if_ne (tgt := 1077) dL_law_1062 (by decide) ?_ ?_
              · refine Ex_lv [0, 1, 2, 3, 4, 5] (lv' := [(0, .ref a0), (1, .ref a520), (2, .ref a522), (3, .ref a524), (4, .ref a525), (5, .int v526)]) rfl ?_
                exact hj652 ()
              · refine Ex_aload_n dL_law_1065 rfl 3 rfl ?_
                refine Ex_iconst (v := 0) dL_law_1066 (by decide) ?_
                refine Ex_aJ_l dL_law_1067 (fun x653 => ?_)
                refine Ex_iload dL_law_1068 7 rfl ?_
                refine Ex_i2l dL_law_1070 ?_
                refine Ex_lcmp dL_law_1071 ?_
                refine Ex_if_eq (tgt := 1077) dL_law_1072 (by decide) ?_ ?_
                · refine Ex_lv [0, 1, 2, 3, 4, 5] (lv' := [(0, .ref a0), (1, .ref a520), (2, .ref a522), (3, .ref a524), (4, .ref a525), (5, .int v526)]) rfl ?_
                  exact hj652 ()
                · refine Ex_iconst (v := 0) dL_law_1075 (by decide) ?_
                  exact Ex_zreturn dL_law_1076 rfl rfl
          · refine Ex_iconst (v := 0) dL_law_1058 (by decide) ?_
            exact Ex_zreturn dL_law_1059 rfl rfl
        | 15, _ =>
          refine ⟨1026, 1080, rfl, by decide, ?_⟩
          refine Ex_aload_n dL_law_1080 rfl 1 rfl ?_
          refine Ex_aload_n dL_law_1081 rfl 0 rfl ?_
          refine Ex_iload dL_law_1082 5 rfl ?_
          refine Ex_iconst (v := 1) dL_law_1084 (by decide) ?_
          refine Ex_iadd dL_law_1085 ?_
          refine Ex_aI_i dL_law_1086 (fun x654 => ?_)
          refine Ex_aload_n dL_law_1087 rfl 0 rfl ?_
          refine Ex_iload dL_law_1088 5 rfl ?_
          refine Ex_iconst (v := 2) dL_law_1090 (by decide) ?_
          refine Ex_iadd dL_law_1091 ?_
          refine Ex_aI_i dL_law_1092 (fun x655 => ?_)
          refine Ex_aload_n dL_law_1093 rfl 3 rfl ?_
          refine Ex_bnI (Inv_SW (L_X0_entryKind hG a520 x654 x655 a524) (lw_SW q1476 q1477 q44 q1478) hm_X0_entryKind (by decide) (by decide) dL_law_1094 rfl (Nat.le_of_ble_eq_true rfl)) (fun r656 => ?_)
          refine Ex_istore (lv' := [(0, .ref a0), (1, .ref a520), (2, .ref a522), (3, .ref a524), (4, .ref a525), (5, .int v526), (6, .int r656)]) dL_law_1097 (by decide) [1, 2, 3, 4, 5, 6, 0] rfl ?_
          refine Ex_aload_n dL_law_1099 rfl 2 rfl ?_
          refine Ex_aload_n dL_law_1100 rfl 0 rfl ?_
          refine Ex_iload dL_law_1101 5 rfl ?_
          refine Ex_iconst (v := 1) dL_law_1103 (by decide) ?_
          refine Ex_iadd dL_law_1104 ?_
          refine Ex_aI_i dL_law_1105 (fun x657 => ?_)
          refine Ex_aload_n dL_law_1106 rfl 0 rfl ?_
          refine Ex_iload dL_law_1107 5 rfl ?_
          refine Ex_iconst (v := 2) dL_law_1109 (by decide) ?_
          refine Ex_iadd dL_law_1110 ?_
          refine Ex_aI_i dL_law_1111 (fun x658 => ?_)
          refine Ex_bnI (Inv_V (L_X6_entryKind hG a522 x657 x658) (lw_V q2421 q2422 q2423 q54 q2424) oe_15 ⟨rfl, hm_X6_entryKind⟩ (by decide) (by decide) dL_law_1112 rfl (Nat.le_of_ble_eq_true rfl)) (fun r659 => ?_)
          refine Ex_istore (lv' := [(0, .ref a0), (1, .ref a520), (2, .ref a522), (3, .ref a524), (4, .ref a525), (5, .int v526), (6, .int r656), (7, .int r659)]) dL_law_1115 (by decide) [1, 2, 3, 4, 5, 6, 7, 0] rfl ?_
          refine Ex_aload_n dL_law_1117 rfl 2 rfl ?_
          refine Ex_bnI (Inv_V (L_X6_thrown hG a522) (lw_V q2101 q2102 q2103 q54 q2104) oe_15 ⟨rfl, hm_X6_thrown⟩ (by decide) (by decide) dL_law_1118 rfl (Nat.le_of_ble_eq_true rfl)) (fun r660 => ?_)
          refine Ex_iload dL_law_1121 6 rfl ?_
          refine Ex_icmp_eq (tgt := 1128) dL_law_1123 (by decide) ?_ ?_
          · refine Ex_iload dL_law_1128 6 rfl ?_
            refine Ex_jn (γ := Unit) (pj := 1145) (fun v661 => [(0, .ref a0), (1, .ref a520), (2, .ref a522), (3, .ref a524), (4, .ref a525), (5, .int v526)]) (fun v661 => []) (fun v661 => ?_) (fun j662 hj662 => ?_)
            · refine Ex_goto (tgt := 2447) dL_law_1145 (by decide) ?_
              exact hj531 ()
            · refine Ex_if_ne (tgt := 1145) dL_law_1130 (by decide) ?_ ?_
              · refine Ex_lv [0, 1, 2, 3, 4, 5] (lv' := [(0, .ref a0), (1, .ref a520), (2, .ref a522), (3, .ref a524), (4, .ref a525), (5, .int v526)]) rfl ?_
                exact hj662 ()
              · refine Ex_aload_n dL_law_1133 rfl 3 rfl ?_
                refine Ex_iconst (v := 0) dL_law_1134 (by decide) ?_
                refine Ex_aJ_l dL_law_1135 (fun x663 => ?_)
                refine Ex_iload dL_law_1136 7 rfl ?_
                refine Ex_i2l dL_law_1138 ?_
                refine Ex_lcmp dL_law_1139 ?_
                refine Ex_if_eq (tgt := 1145) dL_law_1140 (by decide) ?_ ?_
                · refine Ex_lv [0, 1, 2, 3, 4, 5] (lv' := [(0, .ref a0), (1, .ref a520), (2, .ref a522), (3, .ref a524), (4, .ref a525), (5, .int v526)]) rfl ?_
                  exact hj662 ()
                · refine Ex_iconst (v := 0) dL_law_1143 (by decide) ?_
                  exact Ex_zreturn dL_law_1144 rfl rfl
          · refine Ex_iconst (v := 0) dL_law_1126 (by decide) ?_
            exact Ex_zreturn dL_law_1127 rfl rfl
        | 16, _ =>
          refine ⟨1094, 1148, rfl, by decide, ?_⟩
          refine Ex_aload_n dL_law_1148 rfl 1 rfl ?_
          refine Ex_bnI (Inv_V (L_X1_waiting hG a520) (lw_V q344 q345 q346 q45 q347) oe_1 ⟨rfl, hm_X1_waiting⟩ (by decide) (by decide) dL_law_1149 rfl (Nat.le_of_ble_eq_true rfl)) (fun r664 => ?_)
          refine Ex_aload_n dL_law_1152 rfl 2 rfl ?_
          refine Ex_bnI (Inv_V (L_X6_waiting hG a522) (lw_V q2425 q2426 q2427 q54 q2428) oe_15 ⟨rfl, hm_X6_waiting⟩ (by decide) (by decide) dL_law_1153 rfl (Nat.le_of_ble_eq_true rfl)) (fun r665 => ?_)
          refine Ex_icmp_eq (tgt := 2447) dL_law_1156 (by decide) ?_ ?_
          · exact hj531 ()
          · refine Ex_iconst (v := 0) dL_law_1159 (by decide) ?_
            exact Ex_zreturn dL_law_1160 rfl rfl
        | 17, _ =>
          refine ⟨1107, 1161, rfl, by decide, ?_⟩
          refine Ex_aload_n dL_law_1161 rfl 1 rfl ?_
          refine Ex_aload_n dL_law_1162 rfl 3 rfl ?_
          refine Ex_bnI (Inv_SW (L_X0_earliest hG a520 a524) (lw_SW q1483 q1484 q44 q1485) hm_X0_earliest (by decide) (by decide) dL_law_1163 rfl (Nat.le_of_ble_eq_true rfl)) (fun r666 => ?_)
          refine Ex_istore (lv' := [(0, .ref a0), (1, .ref a520), (2, .ref a522), (3, .ref a524), (4, .ref a525), (5, .int v526), (6, .int r666)]) dL_law_1166 (by decide) [1, 2, 3, 4, 5, 6, 0] rfl ?_
          refine Ex_aload_n dL_law_1168 rfl 2 rfl ?_
          refine Ex_bnI (Inv_V (L_X6_earliest hG a522) (lw_V q2429 q2430 q2431 q54 q2432) oe_15 ⟨rfl, hm_X6_earliest⟩ (by decide) (by decide) dL_law_1169 rfl (Nat.le_of_ble_eq_true rfl)) (fun r667 => ?_)
          refine Ex_istore (lv' := [(0, .ref a0), (1, .ref a520), (2, .ref a522), (3, .ref a524), (4, .ref a525), (5, .int v526), (6, .int r666), (7, .int r667)]) dL_law_1172 (by decide) [1, 2, 3, 4, 5, 6, 7, 0] rfl ?_
          refine Ex_aload_n dL_law_1174 rfl 2 rfl ?_
          refine Ex_bnI (Inv_V (L_X6_thrown hG a522) (lw_V q2101 q2102 q2103 q54 q2104) oe_15 ⟨rfl, hm_X6_thrown⟩ (by decide) (by decide) dL_law_1175 rfl (Nat.le_of_ble_eq_true rfl)) (fun r668 => ?_)
          refine Ex_iload dL_law_1178 6 rfl ?_
          refine Ex_icmp_eq (tgt := 1185) dL_law_1180 (by decide) ?_ ?_
          · refine Ex_iload dL_law_1185 6 rfl ?_
            refine Ex_jn (γ := Unit) (pj := 1202) (fun v669 => [(0, .ref a0), (1, .ref a520), (2, .ref a522), (3, .ref a524), (4, .ref a525), (5, .int v526)]) (fun v669 => []) (fun v669 => ?_) (fun j670 hj670 => ?_)
            · refine Ex_goto (tgt := 2447) dL_law_1202 (by decide) ?_
              exact hj531 ()
            · refine Ex_if_ne (tgt := 1202) dL_law_1187 (by decide) ?_ ?_
              · refine Ex_lv [0, 1, 2, 3, 4, 5] (lv' := [(0, .ref a0), (1, .ref a520), (2, .ref a522), (3, .ref a524), (4, .ref a525), (5, .int v526)]) rfl ?_
                exact hj670 ()
              · refine Ex_aload_n dL_law_1190 rfl 3 rfl ?_
                refine Ex_iconst (v := 0) dL_law_1191 (by decide) ?_
                refine Ex_aJ_l dL_law_1192 (fun x671 => ?_)
                refine Ex_iload dL_law_1193 7 rfl ?_
                refine Ex_i2l dL_law_1195 ?_
                refine Ex_lcmp dL_law_1196 ?_
                refine Ex_if_eq (tgt := 1202) dL_law_1197 (by decide) ?_ ?_
                · refine Ex_lv [0, 1, 2, 3, 4, 5] (lv' := [(0, .ref a0), (1, .ref a520), (2, .ref a522), (3, .ref a524), (4, .ref a525), (5, .int v526)]) rfl ?_
                  exact hj670 ()
                · refine Ex_iconst (v := 0) dL_law_1200 (by decide) ?_
                  exact Ex_zreturn dL_law_1201 rfl rfl
          · refine Ex_iconst (v := 0) dL_law_1183 (by decide) ?_
            exact Ex_zreturn dL_law_1184 rfl rfl
        | 18, _ =>
          refine ⟨1151, 1205, rfl, by decide, ?_⟩
          refine Ex_aload_n dL_law_1205 rfl 1 rfl ?_
          refine Ex_aload_n dL_law_1206 rfl 0 rfl ?_
          refine Ex_iload dL_law_1207 5 rfl ?_
          refine Ex_iconst (v := 1) dL_law_1209 (by decide) ?_
          refine Ex_iadd dL_law_1210 ?_
          refine Ex_aI_i dL_law_1211 (fun x672 => ?_)
          refine Ex_aload_n dL_law_1212 rfl 3 rfl ?_
          refine Ex_bnI (Inv_SW (L_X0_kindOf hG a520 x672 a524) (lw_SW q1495 q1496 q44 q1497) hm_X0_kindOf (by decide) (by decide) dL_law_1213 rfl (Nat.le_of_ble_eq_true rfl)) (fun r673 => ?_)
          refine Ex_istore (lv' := [(0, .ref a0), (1, .ref a520), (2, .ref a522), (3, .ref a524), (4, .ref a525), (5, .int v526), (6, .int r673)]) dL_law_1216 (by decide) [1, 2, 3, 4, 5, 6, 0] rfl ?_
          refine Ex_aload_n dL_law_1218 rfl 2 rfl ?_
          refine Ex_aload_n dL_law_1219 rfl 0 rfl ?_
          refine Ex_iload dL_law_1220 5 rfl ?_
          refine Ex_iconst (v := 1) dL_law_1222 (by decide) ?_
          refine Ex_iadd dL_law_1223 ?_
          refine Ex_aI_i dL_law_1224 (fun x674 => ?_)
          refine Ex_bnI (Inv_V (L_X6_kindOf hG a522 x674) (lw_V q2435 q2436 q2437 q54 q2438) oe_15 ⟨rfl, hm_X6_kindOf⟩ (by decide) (by decide) dL_law_1225 rfl (Nat.le_of_ble_eq_true rfl)) (fun r675 => ?_)
          refine Ex_istore (lv' := [(0, .ref a0), (1, .ref a520), (2, .ref a522), (3, .ref a524), (4, .ref a525), (5, .int v526), (6, .int r673), (7, .int r675)]) dL_law_1228 (by decide) [1, 2, 3, 4, 5, 6, 7, 0] rfl ?_
          refine Ex_aload_n dL_law_1230 rfl 2 rfl ?_
          refine Ex_bnI (Inv_V (L_X6_thrown hG a522) (lw_V q2101 q2102 q2103 q54 q2104) oe_15 ⟨rfl, hm_X6_thrown⟩ (by decide) (by decide) dL_law_1231 rfl (Nat.le_of_ble_eq_true rfl)) (fun r676 => ?_)
          refine Ex_iload dL_law_1234 6 rfl ?_
          refine Ex_icmp_eq (tgt := 1241) dL_law_1236 (by decide) ?_ ?_
          · refine Ex_iload dL_law_1241 6 rfl ?_
            refine Ex_jn (γ := Unit) (pj := 1258) (fun v677 => [(0, .ref a0), (1, .ref a520), (2, .ref a522), (3, .ref a524), (4, .ref a525), (5, .int v526)]) (fun v677 => []) (fun v677 => ?_) (fun j678 hj678 => ?_)
            · refine Ex_goto (tgt := 2447) dL_law_1258 (by decide) ?_
              exact hj531 ()
            · refine Ex_if_ne (tgt := 1258) dL_law_1243 (by decide) ?_ ?_
              · refine Ex_lv [0, 1, 2, 3, 4, 5] (lv' := [(0, .ref a0), (1, .ref a520), (2, .ref a522), (3, .ref a524), (4, .ref a525), (5, .int v526)]) rfl ?_
                exact hj678 ()
              · refine Ex_aload_n dL_law_1246 rfl 3 rfl ?_
                refine Ex_iconst (v := 0) dL_law_1247 (by decide) ?_
                refine Ex_aJ_l dL_law_1248 (fun x679 => ?_)
                refine Ex_iload dL_law_1249 7 rfl ?_
                refine Ex_i2l dL_law_1251 ?_
                refine Ex_lcmp dL_law_1252 ?_
                refine Ex_if_eq (tgt := 1258) dL_law_1253 (by decide) ?_ ?_
                · refine Ex_lv [0, 1, 2, 3, 4, 5] (lv' := [(0, .ref a0), (1, .ref a520), (2, .ref a522), (3, .ref a524), (4, .ref a525), (5, .int v526)]) rfl ?_
                  exact hj678 ()
                · refine Ex_iconst (v := 0) dL_law_1256 (by decide) ?_
                  exact Ex_zreturn dL_law_1257 rfl rfl
          · refine Ex_iconst (v := 0) dL_law_1239 (by decide) ?_
            exact Ex_zreturn dL_law_1240 rfl rfl
        | 19, _ =>
          refine ⟨1207, 1261, rfl, by decide, ?_⟩
          refine Ex_aload_n dL_law_1261 rfl 1 rfl ?_
          refine Ex_aload_n dL_law_1262 rfl 0 rfl ?_
          refine Ex_iload dL_law_1263 5 rfl ?_
          refine Ex_iconst (v := 1) dL_law_1265 (by decide) ?_
          refine Ex_iadd dL_law_1266 ?_
          refine Ex_aI_i dL_law_1267 (fun x680 => ?_)
          refine Ex_aload_n dL_law_1268 rfl 3 rfl ?_
          refine Ex_bnI (Inv_SW (L_X0_between hG a520 x680 a524) (lw_SW q1529 q1530 q44 q1531) hm_X0_between (by decide) (by decide) dL_law_1269 rfl (Nat.le_of_ble_eq_true rfl)) (fun r681 => ?_)
          refine Ex_istore (lv' := [(0, .ref a0), (1, .ref a520), (2, .ref a522), (3, .ref a524), (4, .ref a525), (5, .int v526), (6, .int r681)]) dL_law_1272 (by decide) [1, 2, 3, 4, 5, 6, 0] rfl ?_
          refine Ex_aload_n dL_law_1274 rfl 2 rfl ?_
          refine Ex_aload_n dL_law_1275 rfl 0 rfl ?_
          refine Ex_iload dL_law_1276 5 rfl ?_
          refine Ex_iconst (v := 1) dL_law_1278 (by decide) ?_
          refine Ex_iadd dL_law_1279 ?_
          refine Ex_aI_i dL_law_1280 (fun x682 => ?_)
          refine Ex_bnI (Inv_V (L_X6_between hG a522 x682) (lw_V q2448 q2449 q2450 q54 q2451) oe_15 ⟨rfl, hm_X6_between⟩ (by decide) (by decide) dL_law_1281 rfl (Nat.le_of_ble_eq_true rfl)) (fun r683 => ?_)
          refine Ex_istore (lv' := [(0, .ref a0), (1, .ref a520), (2, .ref a522), (3, .ref a524), (4, .ref a525), (5, .int v526), (6, .int r681), (7, .int r683)]) dL_law_1284 (by decide) [1, 2, 3, 4, 5, 6, 7, 0] rfl ?_
          refine Ex_aload_n dL_law_1286 rfl 2 rfl ?_
          refine Ex_bnI (Inv_V (L_X6_thrown hG a522) (lw_V q2101 q2102 q2103 q54 q2104) oe_15 ⟨rfl, hm_X6_thrown⟩ (by decide) (by decide) dL_law_1287 rfl (Nat.le_of_ble_eq_true rfl)) (fun r684 => ?_)
          refine Ex_iload dL_law_1290 6 rfl ?_
          refine Ex_icmp_eq (tgt := 1297) dL_law_1292 (by decide) ?_ ?_
          · refine Ex_iload dL_law_1297 6 rfl ?_
            refine Ex_jn (γ := Unit) (pj := 1314) (fun v685 => [(0, .ref a0), (1, .ref a520), (2, .ref a522), (3, .ref a524), (4, .ref a525), (5, .int v526)]) (fun v685 => []) (fun v685 => ?_) (fun j686 hj686 => ?_)
            · refine Ex_goto (tgt := 2447) dL_law_1314 (by decide) ?_
              exact hj531 ()
            · refine Ex_if_ne (tgt := 1314) dL_law_1299 (by decide) ?_ ?_
              · refine Ex_lv [0, 1, 2, 3, 4, 5] (lv' := [(0, .ref a0), (1, .ref a520), (2, .ref a522), (3, .ref a524), (4, .ref a525), (5, .int v526)]) rfl ?_
                exact hj686 ()
              · refine Ex_aload_n dL_law_1302 rfl 3 rfl ?_
                refine Ex_iconst (v := 0) dL_law_1303 (by decide) ?_
                refine Ex_aJ_l dL_law_1304 (fun x687 => ?_)
                refine Ex_iload dL_law_1305 7 rfl ?_
                refine Ex_i2l dL_law_1307 ?_
                refine Ex_lcmp dL_law_1308 ?_
                refine Ex_if_eq (tgt := 1314) dL_law_1309 (by decide) ?_ ?_
                · refine Ex_lv [0, 1, 2, 3, 4, 5] (lv' := [(0, .ref a0), (1, .ref a520), (2, .ref a522), (3, .ref a524), (4, .ref a525), (5, .int v526)]) rfl ?_
                  exact hj686 ()
                · refine Ex_iconst (v := 0) dL_law_1312 (by decide) ?_
                  exact Ex_zreturn dL_law_1313 rfl rfl
          · refine Ex_iconst (v := 0) dL_law_1295 (by decide) ?_
            exact Ex_zreturn dL_law_1296 rfl rfl
        | 20, _ =>
          refine ⟨1263, 1317, rfl, by decide, ?_⟩
          refine Ex_aload_n dL_law_1317 rfl 1 rfl ?_
          refine Ex_aload_n dL_law_1318 rfl 0 rfl ?_
          refine Ex_iload dL_law_1319 5 rfl ?_
          refine Ex_iconst (v := 1) dL_law_1321 (by decide) ?_
          refine Ex_iadd dL_law_1322 ?_
          refine Ex_aI_i dL_law_1323 (fun x688 => ?_)
          refine Ex_aload_n dL_law_1324 rfl 3 rfl ?_
          refine Ex_bnI (Inv_SW (L_X0_deliver hG a520 x688 a524) (lw_SW q1536 q1537 q44 q1538) hm_X0_deliver (by decide) (by decide) dL_law_1325 rfl (Nat.le_of_ble_eq_true rfl)) (fun r689 => ?_)
          refine Ex_istore (lv' := [(0, .ref a0), (1, .ref a520), (2, .ref a522), (3, .ref a524), (4, .ref a525), (5, .int v526), (6, .int r689)]) dL_law_1328 (by decide) [1, 2, 3, 4, 5, 6, 0] rfl ?_
          refine Ex_aload_n dL_law_1330 rfl 2 rfl ?_
          refine Ex_aload_n dL_law_1331 rfl 0 rfl ?_
          refine Ex_iload dL_law_1332 5 rfl ?_
          refine Ex_iconst (v := 1) dL_law_1334 (by decide) ?_
          refine Ex_iadd dL_law_1335 ?_
          refine Ex_aI_i dL_law_1336 (fun x690 => ?_)
          refine Ex_bnI (Inv_V (L_X6_deliver hG a522 x690) (lw_V q2452 q2453 q2454 q54 q2455) oe_15 ⟨rfl, hm_X6_deliver⟩ (by decide) (by decide) dL_law_1337 rfl (Nat.le_of_ble_eq_true rfl)) (fun r691 => ?_)
          refine Ex_istore (lv' := [(0, .ref a0), (1, .ref a520), (2, .ref a522), (3, .ref a524), (4, .ref a525), (5, .int v526), (6, .int r689), (7, .int r691)]) dL_law_1340 (by decide) [1, 2, 3, 4, 5, 6, 7, 0] rfl ?_
          refine Ex_aload_n dL_law_1342 rfl 2 rfl ?_
          refine Ex_bnI (Inv_V (L_X6_thrown hG a522) (lw_V q2101 q2102 q2103 q54 q2104) oe_15 ⟨rfl, hm_X6_thrown⟩ (by decide) (by decide) dL_law_1343 rfl (Nat.le_of_ble_eq_true rfl)) (fun r692 => ?_)
          refine Ex_iload dL_law_1346 6 rfl ?_
          refine Ex_icmp_eq (tgt := 1353) dL_law_1348 (by decide) ?_ ?_
          · refine Ex_iload dL_law_1353 6 rfl ?_
            refine Ex_jn (γ := Unit) (pj := 1370) (fun v693 => [(0, .ref a0), (1, .ref a520), (2, .ref a522), (3, .ref a524), (4, .ref a525), (5, .int v526)]) (fun v693 => []) (fun v693 => ?_) (fun j694 hj694 => ?_)
            · refine Ex_goto (tgt := 2447) dL_law_1370 (by decide) ?_
              exact hj531 ()
            · refine Ex_if_ne (tgt := 1370) dL_law_1355 (by decide) ?_ ?_
              · refine Ex_lv [0, 1, 2, 3, 4, 5] (lv' := [(0, .ref a0), (1, .ref a520), (2, .ref a522), (3, .ref a524), (4, .ref a525), (5, .int v526)]) rfl ?_
                exact hj694 ()
              · refine Ex_aload_n dL_law_1358 rfl 3 rfl ?_
                refine Ex_iconst (v := 0) dL_law_1359 (by decide) ?_
                refine Ex_aJ_l dL_law_1360 (fun x695 => ?_)
                refine Ex_iload dL_law_1361 7 rfl ?_
                refine Ex_i2l dL_law_1363 ?_
                refine Ex_lcmp dL_law_1364 ?_
                refine Ex_if_eq (tgt := 1370) dL_law_1365 (by decide) ?_ ?_
                · refine Ex_lv [0, 1, 2, 3, 4, 5] (lv' := [(0, .ref a0), (1, .ref a520), (2, .ref a522), (3, .ref a524), (4, .ref a525), (5, .int v526)]) rfl ?_
                  exact hj694 ()
                · refine Ex_iconst (v := 0) dL_law_1368 (by decide) ?_
                  exact Ex_zreturn dL_law_1369 rfl rfl
          · refine Ex_iconst (v := 0) dL_law_1351 (by decide) ?_
            exact Ex_zreturn dL_law_1352 rfl rfl
        | 21, _ =>
          refine ⟨1319, 1373, rfl, by decide, ?_⟩
          refine Ex_aload_n dL_law_1373 rfl 1 rfl ?_
          refine Ex_aload_n dL_law_1374 rfl 0 rfl ?_
          refine Ex_iload dL_law_1375 5 rfl ?_
          refine Ex_iconst (v := 1) dL_law_1377 (by decide) ?_
          refine Ex_iadd dL_law_1378 ?_
          refine Ex_aI_i dL_law_1379 (fun x696 => ?_)
          refine Ex_aload_n dL_law_1380 rfl 3 rfl ?_
          refine Ex_bnI (Inv_SW (L_X0_lose hG a520 x696 a524) (lw_SW q1691 q1692 q44 q1693) hm_X0_lose (by decide) (by decide) dL_law_1381 rfl (Nat.le_of_ble_eq_true rfl)) (fun r697 => ?_)
          refine Ex_istore (lv' := [(0, .ref a0), (1, .ref a520), (2, .ref a522), (3, .ref a524), (4, .ref a525), (5, .int v526), (6, .int r697)]) dL_law_1384 (by decide) [1, 2, 3, 4, 5, 6, 0] rfl ?_
          refine Ex_aload_n dL_law_1386 rfl 2 rfl ?_
          refine Ex_aload_n dL_law_1387 rfl 0 rfl ?_
          refine Ex_iload dL_law_1388 5 rfl ?_
          refine Ex_iconst (v := 1) dL_law_1390 (by decide) ?_
          refine Ex_iadd dL_law_1391 ?_
          refine Ex_aI_i dL_law_1392 (fun x698 => ?_)
          refine Ex_bnI (Inv_V (L_X6_lose hG a522 x698) (lw_V q2490 q2491 q2492 q54 q2493) oe_15 ⟨rfl, hm_X6_lose⟩ (by decide) (by decide) dL_law_1393 rfl (Nat.le_of_ble_eq_true rfl)) (fun r699 => ?_)
          refine Ex_istore (lv' := [(0, .ref a0), (1, .ref a520), (2, .ref a522), (3, .ref a524), (4, .ref a525), (5, .int v526), (6, .int r697), (7, .int r699)]) dL_law_1396 (by decide) [1, 2, 3, 4, 5, 6, 7, 0] rfl ?_
          refine Ex_aload_n dL_law_1398 rfl 2 rfl ?_
          refine Ex_bnI (Inv_V (L_X6_thrown hG a522) (lw_V q2101 q2102 q2103 q54 q2104) oe_15 ⟨rfl, hm_X6_thrown⟩ (by decide) (by decide) dL_law_1399 rfl (Nat.le_of_ble_eq_true rfl)) (fun r700 => ?_)
          refine Ex_iload dL_law_1402 6 rfl ?_
          refine Ex_icmp_eq (tgt := 1409) dL_law_1404 (by decide) ?_ ?_
          · refine Ex_iload dL_law_1409 6 rfl ?_
            refine Ex_jn (γ := Unit) (pj := 1426) (fun v701 => [(0, .ref a0), (1, .ref a520), (2, .ref a522), (3, .ref a524), (4, .ref a525), (5, .int v526)]) (fun v701 => []) (fun v701 => ?_) (fun j702 hj702 => ?_)
            · refine Ex_goto (tgt := 2447) dL_law_1426 (by decide) ?_
              exact hj531 ()
            · refine Ex_if_ne (tgt := 1426) dL_law_1411 (by decide) ?_ ?_
              · refine Ex_lv [0, 1, 2, 3, 4, 5] (lv' := [(0, .ref a0), (1, .ref a520), (2, .ref a522), (3, .ref a524), (4, .ref a525), (5, .int v526)]) rfl ?_
                exact hj702 ()
              · refine Ex_aload_n dL_law_1414 rfl 3 rfl ?_
                refine Ex_iconst (v := 0) dL_law_1415 (by decide) ?_
                refine Ex_aJ_l dL_law_1416 (fun x703 => ?_)
                refine Ex_iload dL_law_1417 7 rfl ?_
                refine Ex_i2l dL_law_1419 ?_
                refine Ex_lcmp dL_law_1420 ?_
                refine Ex_if_eq (tgt := 1426) dL_law_1421 (by decide) ?_ ?_
                · refine Ex_lv [0, 1, 2, 3, 4, 5] (lv' := [(0, .ref a0), (1, .ref a520), (2, .ref a522), (3, .ref a524), (4, .ref a525), (5, .int v526)]) rfl ?_
                  exact hj702 ()
                · refine Ex_iconst (v := 0) dL_law_1424 (by decide) ?_
                  exact Ex_zreturn dL_law_1425 rfl rfl
          · refine Ex_iconst (v := 0) dL_law_1407 (by decide) ?_
            exact Ex_zreturn dL_law_1408 rfl rfl
        | 22, _ =>
          refine ⟨1375, 1429, rfl, by decide, ?_⟩
          refine Ex_aload_n dL_law_1429 rfl 1 rfl ?_
          refine Ex_aload_n dL_law_1430 rfl 0 rfl ?_
          refine Ex_iload dL_law_1431 5 rfl ?_
          refine Ex_iconst (v := 1) dL_law_1433 (by decide) ?_
          refine Ex_iadd dL_law_1434 ?_
          refine Ex_aI_i dL_law_1435 (fun x704 => ?_)
          refine Ex_aload_n dL_law_1436 rfl 3 rfl ?_
          refine Ex_bnI (Inv_SW (L_X0_copy hG a520 x704 a524) (lw_SW q1698 q1699 q44 q1700) hm_X0_copy (by decide) (by decide) dL_law_1437 rfl (Nat.le_of_ble_eq_true rfl)) (fun r705 => ?_)
          refine Ex_istore (lv' := [(0, .ref a0), (1, .ref a520), (2, .ref a522), (3, .ref a524), (4, .ref a525), (5, .int v526), (6, .int r705)]) dL_law_1440 (by decide) [1, 2, 3, 4, 5, 6, 0] rfl ?_
          refine Ex_aload_n dL_law_1442 rfl 2 rfl ?_
          refine Ex_aload_n dL_law_1443 rfl 0 rfl ?_
          refine Ex_iload dL_law_1444 5 rfl ?_
          refine Ex_iconst (v := 1) dL_law_1446 (by decide) ?_
          refine Ex_iadd dL_law_1447 ?_
          refine Ex_aI_i dL_law_1448 (fun x706 => ?_)
          refine Ex_bnI (Inv_V (L_X6_copy hG a522 x706) (lw_V q2494 q2495 q2496 q54 q2497) oe_15 ⟨rfl, hm_X6_copy⟩ (by decide) (by decide) dL_law_1449 rfl (Nat.le_of_ble_eq_true rfl)) (fun r707 => ?_)
          refine Ex_istore (lv' := [(0, .ref a0), (1, .ref a520), (2, .ref a522), (3, .ref a524), (4, .ref a525), (5, .int v526), (6, .int r705), (7, .int r707)]) dL_law_1452 (by decide) [1, 2, 3, 4, 5, 6, 7, 0] rfl ?_
          refine Ex_aload_n dL_law_1454 rfl 2 rfl ?_
          refine Ex_bnI (Inv_V (L_X6_thrown hG a522) (lw_V q2101 q2102 q2103 q54 q2104) oe_15 ⟨rfl, hm_X6_thrown⟩ (by decide) (by decide) dL_law_1455 rfl (Nat.le_of_ble_eq_true rfl)) (fun r708 => ?_)
          refine Ex_iload dL_law_1458 6 rfl ?_
          refine Ex_icmp_eq (tgt := 1465) dL_law_1460 (by decide) ?_ ?_
          · refine Ex_iload dL_law_1465 6 rfl ?_
            refine Ex_jn (γ := Unit) (pj := 1482) (fun v709 => [(0, .ref a0), (1, .ref a520), (2, .ref a522), (3, .ref a524), (4, .ref a525), (5, .int v526)]) (fun v709 => []) (fun v709 => ?_) (fun j710 hj710 => ?_)
            · refine Ex_goto (tgt := 2447) dL_law_1482 (by decide) ?_
              exact hj531 ()
            · refine Ex_if_ne (tgt := 1482) dL_law_1467 (by decide) ?_ ?_
              · refine Ex_lv [0, 1, 2, 3, 4, 5] (lv' := [(0, .ref a0), (1, .ref a520), (2, .ref a522), (3, .ref a524), (4, .ref a525), (5, .int v526)]) rfl ?_
                exact hj710 ()
              · refine Ex_aload_n dL_law_1470 rfl 3 rfl ?_
                refine Ex_iconst (v := 0) dL_law_1471 (by decide) ?_
                refine Ex_aJ_l dL_law_1472 (fun x711 => ?_)
                refine Ex_iload dL_law_1473 7 rfl ?_
                refine Ex_i2l dL_law_1475 ?_
                refine Ex_lcmp dL_law_1476 ?_
                refine Ex_if_eq (tgt := 1482) dL_law_1477 (by decide) ?_ ?_
                · refine Ex_lv [0, 1, 2, 3, 4, 5] (lv' := [(0, .ref a0), (1, .ref a520), (2, .ref a522), (3, .ref a524), (4, .ref a525), (5, .int v526)]) rfl ?_
                  exact hj710 ()
                · refine Ex_iconst (v := 0) dL_law_1480 (by decide) ?_
                  exact Ex_zreturn dL_law_1481 rfl rfl
          · refine Ex_iconst (v := 0) dL_law_1463 (by decide) ?_
            exact Ex_zreturn dL_law_1464 rfl rfl
        | 23, _ =>
          refine ⟨1431, 1485, rfl, by decide, ?_⟩
          refine Ex_aload_n dL_law_1485 rfl 1 rfl ?_
          refine Ex_aload_n dL_law_1486 rfl 0 rfl ?_
          refine Ex_iload dL_law_1487 5 rfl ?_
          refine Ex_iconst (v := 1) dL_law_1489 (by decide) ?_
          refine Ex_iadd dL_law_1490 ?_
          refine Ex_aI_i dL_law_1491 (fun x712 => ?_)
          refine Ex_aload_n dL_law_1492 rfl 0 rfl ?_
          refine Ex_iload dL_law_1493 5 rfl ?_
          refine Ex_iconst (v := 2) dL_law_1495 (by decide) ?_
          refine Ex_iadd dL_law_1496 ?_
          refine Ex_aI_i dL_law_1497 (fun x713 => ?_)
          refine Ex_aload_n dL_law_1498 rfl 0 rfl ?_
          refine Ex_iload dL_law_1499 5 rfl ?_
          refine Ex_iconst (v := 3) dL_law_1501 (by decide) ?_
          refine Ex_iadd dL_law_1502 ?_
          refine Ex_aI_i dL_law_1503 (fun x714 => ?_)
          refine Ex_aload_n dL_law_1504 rfl 3 rfl ?_
          refine Ex_bnI (Inv_SW (L_X0_write hG a520 x712 x713 x714 a524) (lw_SW q1735 q1736 q44 q1737) hm_X0_write (by decide) (by decide) dL_law_1505 rfl (Nat.le_of_ble_eq_true rfl)) (fun r715 => ?_)
          refine Ex_istore (lv' := [(0, .ref a0), (1, .ref a520), (2, .ref a522), (3, .ref a524), (4, .ref a525), (5, .int v526), (6, .int r715)]) dL_law_1508 (by decide) [1, 2, 3, 4, 5, 6, 0] rfl ?_
          refine Ex_aload_n dL_law_1510 rfl 2 rfl ?_
          refine Ex_aload_n dL_law_1511 rfl 0 rfl ?_
          refine Ex_iload dL_law_1512 5 rfl ?_
          refine Ex_iconst (v := 1) dL_law_1514 (by decide) ?_
          refine Ex_iadd dL_law_1515 ?_
          refine Ex_aI_i dL_law_1516 (fun x716 => ?_)
          refine Ex_aload_n dL_law_1517 rfl 0 rfl ?_
          refine Ex_iload dL_law_1518 5 rfl ?_
          refine Ex_iconst (v := 2) dL_law_1520 (by decide) ?_
          refine Ex_iadd dL_law_1521 ?_
          refine Ex_aI_i dL_law_1522 (fun x717 => ?_)
          refine Ex_aload_n dL_law_1523 rfl 0 rfl ?_
          refine Ex_iload dL_law_1524 5 rfl ?_
          refine Ex_iconst (v := 3) dL_law_1526 (by decide) ?_
          refine Ex_iadd dL_law_1527 ?_
          refine Ex_aI_i dL_law_1528 (fun x718 => ?_)
          refine Ex_bnI (Inv_V (L_X6_write hG a522 x716 x717 x718) (lw_V q2504 q2505 q2506 q54 q2507) oe_15 ⟨rfl, hm_X6_write⟩ (by decide) (by decide) dL_law_1529 rfl (Nat.le_of_ble_eq_true rfl)) (fun r719 => ?_)
          refine Ex_istore (lv' := [(0, .ref a0), (1, .ref a520), (2, .ref a522), (3, .ref a524), (4, .ref a525), (5, .int v526), (6, .int r715), (7, .int r719)]) dL_law_1532 (by decide) [1, 2, 3, 4, 5, 6, 7, 0] rfl ?_
          refine Ex_aload_n dL_law_1534 rfl 2 rfl ?_
          refine Ex_bnI (Inv_V (L_X6_thrown hG a522) (lw_V q2101 q2102 q2103 q54 q2104) oe_15 ⟨rfl, hm_X6_thrown⟩ (by decide) (by decide) dL_law_1535 rfl (Nat.le_of_ble_eq_true rfl)) (fun r720 => ?_)
          refine Ex_iload dL_law_1538 6 rfl ?_
          refine Ex_icmp_eq (tgt := 1545) dL_law_1540 (by decide) ?_ ?_
          · refine Ex_iload dL_law_1545 6 rfl ?_
            refine Ex_jn (γ := Unit) (pj := 1562) (fun v721 => [(0, .ref a0), (1, .ref a520), (2, .ref a522), (3, .ref a524), (4, .ref a525), (5, .int v526)]) (fun v721 => []) (fun v721 => ?_) (fun j722 hj722 => ?_)
            · refine Ex_goto (tgt := 2447) dL_law_1562 (by decide) ?_
              exact hj531 ()
            · refine Ex_if_ne (tgt := 1562) dL_law_1547 (by decide) ?_ ?_
              · refine Ex_lv [0, 1, 2, 3, 4, 5] (lv' := [(0, .ref a0), (1, .ref a520), (2, .ref a522), (3, .ref a524), (4, .ref a525), (5, .int v526)]) rfl ?_
                exact hj722 ()
              · refine Ex_aload_n dL_law_1550 rfl 3 rfl ?_
                refine Ex_iconst (v := 0) dL_law_1551 (by decide) ?_
                refine Ex_aJ_l dL_law_1552 (fun x723 => ?_)
                refine Ex_iload dL_law_1553 7 rfl ?_
                refine Ex_i2l dL_law_1555 ?_
                refine Ex_lcmp dL_law_1556 ?_
                refine Ex_if_eq (tgt := 1562) dL_law_1557 (by decide) ?_ ?_
                · refine Ex_lv [0, 1, 2, 3, 4, 5] (lv' := [(0, .ref a0), (1, .ref a520), (2, .ref a522), (3, .ref a524), (4, .ref a525), (5, .int v526)]) rfl ?_
                  exact hj722 ()
                · refine Ex_iconst (v := 0) dL_law_1560 (by decide) ?_
                  exact Ex_zreturn dL_law_1561 rfl rfl
          · refine Ex_iconst (v := 0) dL_law_1543 (by decide) ?_
            exact Ex_zreturn dL_law_1544 rfl rfl
        | 24, _ =>
          refine ⟨1511, 1565, rfl, by decide, ?_⟩
          refine Ex_aload_n dL_law_1565 rfl 1 rfl ?_
          refine Ex_aload_n dL_law_1566 rfl 0 rfl ?_
          refine Ex_iload dL_law_1567 5 rfl ?_
          refine Ex_iconst (v := 1) dL_law_1569 (by decide) ?_
          refine Ex_iadd dL_law_1570 ?_
          refine Ex_aI_i dL_law_1571 (fun x724 => ?_)
          refine Ex_aload_n dL_law_1572 rfl 0 rfl ?_
          refine Ex_iload dL_law_1573 5 rfl ?_
          refine Ex_iconst (v := 2) dL_law_1575 (by decide) ?_
          refine Ex_iadd dL_law_1576 ?_
          refine Ex_aI_i dL_law_1577 (fun x725 => ?_)
          refine Ex_aload_n dL_law_1578 rfl 0 rfl ?_
          refine Ex_iload dL_law_1579 5 rfl ?_
          refine Ex_iconst (v := 3) dL_law_1581 (by decide) ?_
          refine Ex_iadd dL_law_1582 ?_
          refine Ex_aI_i dL_law_1583 (fun x726 => ?_)
          refine Ex_jn (γ := Int32 × Int32 × Int32 × Nat) (pj := 1592) (fun v727 => [(0, .ref a0), (1, .ref a520), (2, .ref a522), (3, .ref a524), (4, .ref a525), (5, .int v526)]) (fun v727 => [.int v727.1, .int v727.2.1, .int v727.2.2.1, .ref v727.2.2.2]) (fun v727 => ?_) (fun j728 hj728 => ?_)
          · refine Ex_aload_n dL_law_1592 rfl 3 rfl ?_
            refine Ex_bnI (Inv_SW (L_X0_reshape hG v727.2.2.2 v727.2.2.1 v727.2.1 v727.1 a524) (lw_SW q1758 q1759 q44 q1760) hm_X0_reshape (by decide) (by decide) dL_law_1593 rfl (Nat.le_of_ble_eq_true rfl)) (fun r729 => ?_)
            refine Ex_istore (lv' := [(0, .ref a0), (1, .ref a520), (2, .ref a522), (3, .ref a524), (4, .ref a525), (5, .int v526), (6, .int r729)]) dL_law_1596 (by decide) [1, 2, 3, 4, 5, 6, 0] rfl ?_
            refine Ex_aload_n dL_law_1598 rfl 2 rfl ?_
            refine Ex_aload_n dL_law_1599 rfl 0 rfl ?_
            refine Ex_iload dL_law_1600 5 rfl ?_
            refine Ex_iconst (v := 1) dL_law_1602 (by decide) ?_
            refine Ex_iadd dL_law_1603 ?_
            refine Ex_aI_i dL_law_1604 (fun x730 => ?_)
            refine Ex_aload_n dL_law_1605 rfl 0 rfl ?_
            refine Ex_iload dL_law_1606 5 rfl ?_
            refine Ex_iconst (v := 2) dL_law_1608 (by decide) ?_
            refine Ex_iadd dL_law_1609 ?_
            refine Ex_aI_i dL_law_1610 (fun x731 => ?_)
            refine Ex_aload_n dL_law_1611 rfl 0 rfl ?_
            refine Ex_iload dL_law_1612 5 rfl ?_
            refine Ex_iconst (v := 3) dL_law_1614 (by decide) ?_
            refine Ex_iadd dL_law_1615 ?_
            refine Ex_aI_i dL_law_1616 (fun x732 => ?_)
            refine Ex_jn (γ := Int32 × Int32 × Int32 × Nat) (pj := 1625) (fun v733 => [(0, .ref a0), (1, .ref a520), (2, .ref a522), (3, .ref a524), (4, .ref a525), (5, .int v526), (6, .int r729)]) (fun v733 => [.int v733.1, .int v733.2.1, .int v733.2.2.1, .ref v733.2.2.2]) (fun v733 => ?_) (fun j734 hj734 => ?_)
            · refine Ex_bnI (Inv_V (L_X6_reshape hG v733.2.2.2 v733.2.2.1 v733.2.1 v733.1) (lw_V q2519 q2520 q2521 q54 q2522) oe_15 ⟨rfl, hm_X6_reshape⟩ (by decide) (by decide) dL_law_1625 rfl (Nat.le_of_ble_eq_true rfl)) (fun r735 => ?_)
              refine Ex_istore (lv' := [(0, .ref a0), (1, .ref a520), (2, .ref a522), (3, .ref a524), (4, .ref a525), (5, .int v526), (6, .int r729), (7, .int r735)]) dL_law_1628 (by decide) [1, 2, 3, 4, 5, 6, 7, 0] rfl ?_
              refine Ex_aload_n dL_law_1630 rfl 2 rfl ?_
              refine Ex_bnI (Inv_V (L_X6_thrown hG a522) (lw_V q2101 q2102 q2103 q54 q2104) oe_15 ⟨rfl, hm_X6_thrown⟩ (by decide) (by decide) dL_law_1631 rfl (Nat.le_of_ble_eq_true rfl)) (fun r736 => ?_)
              refine Ex_iload dL_law_1634 6 rfl ?_
              refine Ex_icmp_eq (tgt := 1641) dL_law_1636 (by decide) ?_ ?_
              · refine Ex_iload dL_law_1641 6 rfl ?_
                refine Ex_jn (γ := Unit) (pj := 1658) (fun v737 => [(0, .ref a0), (1, .ref a520), (2, .ref a522), (3, .ref a524), (4, .ref a525), (5, .int v526)]) (fun v737 => []) (fun v737 => ?_) (fun j738 hj738 => ?_)
                · refine Ex_goto (tgt := 2447) dL_law_1658 (by decide) ?_
                  exact hj531 ()
                · refine Ex_if_ne (tgt := 1658) dL_law_1643 (by decide) ?_ ?_
                  · refine Ex_lv [0, 1, 2, 3, 4, 5] (lv' := [(0, .ref a0), (1, .ref a520), (2, .ref a522), (3, .ref a524), (4, .ref a525), (5, .int v526)]) rfl ?_
                    exact hj738 ()
                  · refine Ex_aload_n dL_law_1646 rfl 3 rfl ?_
                    refine Ex_iconst (v := 0) dL_law_1647 (by decide) ?_
                    refine Ex_aJ_l dL_law_1648 (fun x739 => ?_)
                    refine Ex_iload dL_law_1649 7 rfl ?_
                    refine Ex_i2l dL_law_1651 ?_
                    refine Ex_lcmp dL_law_1652 ?_
                    refine Ex_if_eq (tgt := 1658) dL_law_1653 (by decide) ?_ ?_
                    · refine Ex_lv [0, 1, 2, 3, 4, 5] (lv' := [(0, .ref a0), (1, .ref a520), (2, .ref a522), (3, .ref a524), (4, .ref a525), (5, .int v526)]) rfl ?_
                      exact hj738 ()
                    · refine Ex_iconst (v := 0) dL_law_1656 (by decide) ?_
                      exact Ex_zreturn dL_law_1657 rfl rfl
              · refine Ex_iconst (v := 0) dL_law_1639 (by decide) ?_
                exact Ex_zreturn dL_law_1640 rfl rfl
            · refine Ex_if_eq (tgt := 1624) dL_law_1617 (by decide) ?_ ?_
              · refine Ex_iconst (v := 0) dL_law_1624 (by decide) ?_
                exact hj734 (0, x731, x730, a522)
              · refine Ex_iconst (v := 1) dL_law_1620 (by decide) ?_
                refine Ex_goto (tgt := 1625) dL_law_1621 (by decide) ?_
                exact hj734 (1, x731, x730, a522)
          · refine Ex_if_eq (tgt := 1591) dL_law_1584 (by decide) ?_ ?_
            · refine Ex_iconst (v := 0) dL_law_1591 (by decide) ?_
              exact hj728 (0, x725, x724, a520)
            · refine Ex_iconst (v := 1) dL_law_1587 (by decide) ?_
              refine Ex_goto (tgt := 1592) dL_law_1588 (by decide) ?_
              exact hj728 (1, x725, x724, a520)
        | 25, _ =>
          refine ⟨1607, 1661, rfl, by decide, ?_⟩
          refine Ex_aload_n dL_law_1661 rfl 1 rfl ?_
          refine Ex_aload_n dL_law_1662 rfl 0 rfl ?_
          refine Ex_iload dL_law_1663 5 rfl ?_
          refine Ex_iconst (v := 1) dL_law_1665 (by decide) ?_
          refine Ex_iadd dL_law_1666 ?_
          refine Ex_aI_i dL_law_1667 (fun x740 => ?_)
          refine Ex_aload_n dL_law_1668 rfl 0 rfl ?_
          refine Ex_iload dL_law_1669 5 rfl ?_
          refine Ex_iconst (v := 2) dL_law_1671 (by decide) ?_
          refine Ex_iadd dL_law_1672 ?_
          refine Ex_aI_i dL_law_1673 (fun x741 => ?_)
          refine Ex_aload_n dL_law_1674 rfl 3 rfl ?_
          refine Ex_bnI (Inv_SW (L_X0_change hG a520 x740 x741 a524) (lw_SW q1765 q1766 q44 q1767) hm_X0_change (by decide) (by decide) dL_law_1675 rfl (Nat.le_of_ble_eq_true rfl)) (fun r742 => ?_)
          refine Ex_istore (lv' := [(0, .ref a0), (1, .ref a520), (2, .ref a522), (3, .ref a524), (4, .ref a525), (5, .int v526), (6, .int r742)]) dL_law_1678 (by decide) [1, 2, 3, 4, 5, 6, 0] rfl ?_
          refine Ex_aload_n dL_law_1680 rfl 2 rfl ?_
          refine Ex_aload_n dL_law_1681 rfl 0 rfl ?_
          refine Ex_iload dL_law_1682 5 rfl ?_
          refine Ex_iconst (v := 1) dL_law_1684 (by decide) ?_
          refine Ex_iadd dL_law_1685 ?_
          refine Ex_aI_i dL_law_1686 (fun x743 => ?_)
          refine Ex_aload_n dL_law_1687 rfl 0 rfl ?_
          refine Ex_iload dL_law_1688 5 rfl ?_
          refine Ex_iconst (v := 2) dL_law_1690 (by decide) ?_
          refine Ex_iadd dL_law_1691 ?_
          refine Ex_aI_i dL_law_1692 (fun x744 => ?_)
          refine Ex_bnI (Inv_V (L_X6_change hG a522 x743 x744) (lw_V q2523 q2524 q2525 q54 q2526) oe_15 ⟨rfl, hm_X6_change⟩ (by decide) (by decide) dL_law_1693 rfl (Nat.le_of_ble_eq_true rfl)) (fun r745 => ?_)
          refine Ex_istore (lv' := [(0, .ref a0), (1, .ref a520), (2, .ref a522), (3, .ref a524), (4, .ref a525), (5, .int v526), (6, .int r742), (7, .int r745)]) dL_law_1696 (by decide) [1, 2, 3, 4, 5, 6, 7, 0] rfl ?_
          refine Ex_aload_n dL_law_1698 rfl 2 rfl ?_
          refine Ex_bnI (Inv_V (L_X6_thrown hG a522) (lw_V q2101 q2102 q2103 q54 q2104) oe_15 ⟨rfl, hm_X6_thrown⟩ (by decide) (by decide) dL_law_1699 rfl (Nat.le_of_ble_eq_true rfl)) (fun r746 => ?_)
          refine Ex_iload dL_law_1702 6 rfl ?_
          refine Ex_icmp_eq (tgt := 1709) dL_law_1704 (by decide) ?_ ?_
          · refine Ex_iload dL_law_1709 6 rfl ?_
            refine Ex_jn (γ := Unit) (pj := 1726) (fun v747 => [(0, .ref a0), (1, .ref a520), (2, .ref a522), (3, .ref a524), (4, .ref a525), (5, .int v526)]) (fun v747 => []) (fun v747 => ?_) (fun j748 hj748 => ?_)
            · refine Ex_goto (tgt := 2447) dL_law_1726 (by decide) ?_
              exact hj531 ()
            · refine Ex_if_ne (tgt := 1726) dL_law_1711 (by decide) ?_ ?_
              · refine Ex_lv [0, 1, 2, 3, 4, 5] (lv' := [(0, .ref a0), (1, .ref a520), (2, .ref a522), (3, .ref a524), (4, .ref a525), (5, .int v526)]) rfl ?_
                exact hj748 ()
              · refine Ex_aload_n dL_law_1714 rfl 3 rfl ?_
                refine Ex_iconst (v := 0) dL_law_1715 (by decide) ?_
                refine Ex_aJ_l dL_law_1716 (fun x749 => ?_)
                refine Ex_iload dL_law_1717 7 rfl ?_
                refine Ex_i2l dL_law_1719 ?_
                refine Ex_lcmp dL_law_1720 ?_
                refine Ex_if_eq (tgt := 1726) dL_law_1721 (by decide) ?_ ?_
                · refine Ex_lv [0, 1, 2, 3, 4, 5] (lv' := [(0, .ref a0), (1, .ref a520), (2, .ref a522), (3, .ref a524), (4, .ref a525), (5, .int v526)]) rfl ?_
                  exact hj748 ()
                · refine Ex_iconst (v := 0) dL_law_1724 (by decide) ?_
                  exact Ex_zreturn dL_law_1725 rfl rfl
          · refine Ex_iconst (v := 0) dL_law_1707 (by decide) ?_
            exact Ex_zreturn dL_law_1708 rfl rfl
        | 26, _ =>
          refine ⟨1675, 1729, rfl, by decide, ?_⟩
          refine Ex_aload_n dL_law_1729 rfl 1 rfl ?_
          refine Ex_aload_n dL_law_1730 rfl 0 rfl ?_
          refine Ex_iload dL_law_1731 5 rfl ?_
          refine Ex_iconst (v := 1) dL_law_1733 (by decide) ?_
          refine Ex_iadd dL_law_1734 ?_
          refine Ex_aI_i dL_law_1735 (fun x750 => ?_)
          refine Ex_aload_n dL_law_1736 rfl 3 rfl ?_
          refine Ex_bnI (Inv_SW (L_X0_hasLease hG a520 x750 a524) (lw_SW q1790 q1791 q44 q1792) hm_X0_hasLease (by decide) (by decide) dL_law_1737 rfl (Nat.le_of_ble_eq_true rfl)) (fun r751 => ?_)
          refine Ex_istore (lv' := [(0, .ref a0), (1, .ref a520), (2, .ref a522), (3, .ref a524), (4, .ref a525), (5, .int v526), (6, .int r751)]) dL_law_1740 (by decide) [1, 2, 3, 4, 5, 6, 0] rfl ?_
          refine Ex_aload_n dL_law_1742 rfl 2 rfl ?_
          refine Ex_aload_n dL_law_1743 rfl 0 rfl ?_
          refine Ex_iload dL_law_1744 5 rfl ?_
          refine Ex_iconst (v := 1) dL_law_1746 (by decide) ?_
          refine Ex_iadd dL_law_1747 ?_
          refine Ex_aI_i dL_law_1748 (fun x752 => ?_)
          refine Ex_bnI (Inv_V (L_X6_hasLease hG a522 x752) (lw_V q2531 q2532 q2533 q54 q2534) oe_15 ⟨rfl, hm_X6_hasLease⟩ (by decide) (by decide) dL_law_1749 rfl (Nat.le_of_ble_eq_true rfl)) (fun r753 => ?_)
          refine Ex_istore (lv' := [(0, .ref a0), (1, .ref a520), (2, .ref a522), (3, .ref a524), (4, .ref a525), (5, .int v526), (6, .int r751), (7, .int r753)]) dL_law_1752 (by decide) [1, 2, 3, 4, 5, 6, 7, 0] rfl ?_
          refine Ex_aload_n dL_law_1754 rfl 2 rfl ?_
          refine Ex_bnI (Inv_V (L_X6_thrown hG a522) (lw_V q2101 q2102 q2103 q54 q2104) oe_15 ⟨rfl, hm_X6_thrown⟩ (by decide) (by decide) dL_law_1755 rfl (Nat.le_of_ble_eq_true rfl)) (fun r754 => ?_)
          refine Ex_iload dL_law_1758 6 rfl ?_
          refine Ex_icmp_eq (tgt := 1765) dL_law_1760 (by decide) ?_ ?_
          · refine Ex_iload dL_law_1765 6 rfl ?_
            refine Ex_jn (γ := Unit) (pj := 1789) (fun v755 => [(0, .ref a0), (1, .ref a520), (2, .ref a522), (3, .ref a524), (4, .ref a525), (5, .int v526)]) (fun v755 => []) (fun v755 => ?_) (fun j756 hj756 => ?_)
            · refine Ex_goto (tgt := 2447) dL_law_1789 (by decide) ?_
              exact hj531 ()
            · refine Ex_if_ne (tgt := 1789) dL_law_1767 (by decide) ?_ ?_
              · refine Ex_lv [0, 1, 2, 3, 4, 5] (lv' := [(0, .ref a0), (1, .ref a520), (2, .ref a522), (3, .ref a524), (4, .ref a525), (5, .int v526)]) rfl ?_
                exact hj756 ()
              · refine Ex_aload_n dL_law_1770 rfl 3 rfl ?_
                refine Ex_iconst (v := 0) dL_law_1771 (by decide) ?_
                refine Ex_aJ_l dL_law_1772 (fun x757 => ?_)
                refine Ex_iload dL_law_1773 7 rfl ?_
                refine Ex_jn (γ := Int64 × Int64) (pj := 1783) (fun v758 => [(0, .ref a0), (1, .ref a520), (2, .ref a522), (3, .ref a524), (4, .ref a525), (5, .int v526)]) (fun v758 => [.long v758.1, .long v758.2]) (fun v758 => ?_) (fun j759 hj759 => ?_)
                · refine Ex_lcmp dL_law_1783 ?_
                  refine Ex_if_eq (tgt := 1789) dL_law_1784 (by decide) ?_ ?_
                  · exact hj756 ()
                  · refine Ex_iconst (v := 0) dL_law_1787 (by decide) ?_
                    exact Ex_zreturn dL_law_1788 rfl rfl
                · refine Ex_if_eq (tgt := 1782) dL_law_1775 (by decide) ?_ ?_
                  · refine Ex_lconst (v := 0) dL_law_1782 (by decide) ?_
                    refine Ex_lv [0, 1, 2, 3, 4, 5] (lv' := [(0, .ref a0), (1, .ref a520), (2, .ref a522), (3, .ref a524), (4, .ref a525), (5, .int v526)]) rfl ?_
                    exact hj759 (0, x757)
                  · refine Ex_lconst (v := 1) dL_law_1778 (by decide) ?_
                    refine Ex_goto (tgt := 1783) dL_law_1779 (by decide) ?_
                    refine Ex_lv [0, 1, 2, 3, 4, 5] (lv' := [(0, .ref a0), (1, .ref a520), (2, .ref a522), (3, .ref a524), (4, .ref a525), (5, .int v526)]) rfl ?_
                    exact hj759 (1, x757)
          · refine Ex_iconst (v := 0) dL_law_1763 (by decide) ?_
            exact Ex_zreturn dL_law_1764 rfl rfl
        | 27, _ =>
          refine ⟨1738, 1792, rfl, by decide, ?_⟩
          refine Ex_aload_n dL_law_1792 rfl 1 rfl ?_
          refine Ex_aload_n dL_law_1793 rfl 0 rfl ?_
          refine Ex_iload dL_law_1794 5 rfl ?_
          refine Ex_iconst (v := 1) dL_law_1796 (by decide) ?_
          refine Ex_iadd dL_law_1797 ?_
          refine Ex_aI_i dL_law_1798 (fun x760 => ?_)
          refine Ex_aload_n dL_law_1799 rfl 0 rfl ?_
          refine Ex_iload dL_law_1800 5 rfl ?_
          refine Ex_iconst (v := 2) dL_law_1802 (by decide) ?_
          refine Ex_iadd dL_law_1803 ?_
          refine Ex_aI_i dL_law_1804 (fun x761 => ?_)
          refine Ex_aload_n dL_law_1805 rfl 3 rfl ?_
          refine Ex_bnI (Inv_SW (L_X0_readByLease hG a520 x760 x761 a524) (lw_SW q1798 q1799 q44 q1800) hm_X0_readByLease (by decide) (by decide) dL_law_1806 rfl (Nat.le_of_ble_eq_true rfl)) (fun r762 => ?_)
          refine Ex_istore (lv' := [(0, .ref a0), (1, .ref a520), (2, .ref a522), (3, .ref a524), (4, .ref a525), (5, .int v526), (6, .int r762)]) dL_law_1809 (by decide) [1, 2, 3, 4, 5, 6, 0] rfl ?_
          refine Ex_aload_n dL_law_1811 rfl 2 rfl ?_
          refine Ex_aload_n dL_law_1812 rfl 0 rfl ?_
          refine Ex_iload dL_law_1813 5 rfl ?_
          refine Ex_iconst (v := 1) dL_law_1815 (by decide) ?_
          refine Ex_iadd dL_law_1816 ?_
          refine Ex_aI_i dL_law_1817 (fun x763 => ?_)
          refine Ex_aload_n dL_law_1818 rfl 0 rfl ?_
          refine Ex_iload dL_law_1819 5 rfl ?_
          refine Ex_iconst (v := 2) dL_law_1821 (by decide) ?_
          refine Ex_iadd dL_law_1822 ?_
          refine Ex_aI_i dL_law_1823 (fun x764 => ?_)
          refine Ex_bnI (Inv_V (L_X6_readByLease hG a522 x763 x764) (lw_V q2536 q2537 q2538 q54 q2539) oe_15 ⟨rfl, hm_X6_readByLease⟩ (by decide) (by decide) dL_law_1824 rfl (Nat.le_of_ble_eq_true rfl)) (fun r765 => ?_)
          refine Ex_istore (lv' := [(0, .ref a0), (1, .ref a520), (2, .ref a522), (3, .ref a524), (4, .ref a525), (5, .int v526), (6, .int r762), (7, .int r765)]) dL_law_1827 (by decide) [1, 2, 3, 4, 5, 6, 7, 0] rfl ?_
          refine Ex_aload_n dL_law_1829 rfl 2 rfl ?_
          refine Ex_bnI (Inv_V (L_X6_thrown hG a522) (lw_V q2101 q2102 q2103 q54 q2104) oe_15 ⟨rfl, hm_X6_thrown⟩ (by decide) (by decide) dL_law_1830 rfl (Nat.le_of_ble_eq_true rfl)) (fun r766 => ?_)
          refine Ex_iload dL_law_1833 6 rfl ?_
          refine Ex_icmp_eq (tgt := 1840) dL_law_1835 (by decide) ?_ ?_
          · refine Ex_iload dL_law_1840 6 rfl ?_
            refine Ex_jn (γ := Unit) (pj := 1857) (fun v767 => [(0, .ref a0), (1, .ref a520), (2, .ref a522), (3, .ref a524), (4, .ref a525), (5, .int v526)]) (fun v767 => []) (fun v767 => ?_) (fun j768 hj768 => ?_)
            · refine Ex_goto (tgt := 2447) dL_law_1857 (by decide) ?_
              exact hj531 ()
            · refine Ex_if_ne (tgt := 1857) dL_law_1842 (by decide) ?_ ?_
              · refine Ex_lv [0, 1, 2, 3, 4, 5] (lv' := [(0, .ref a0), (1, .ref a520), (2, .ref a522), (3, .ref a524), (4, .ref a525), (5, .int v526)]) rfl ?_
                exact hj768 ()
              · refine Ex_aload_n dL_law_1845 rfl 3 rfl ?_
                refine Ex_iconst (v := 0) dL_law_1846 (by decide) ?_
                refine Ex_aJ_l dL_law_1847 (fun x769 => ?_)
                refine Ex_iload dL_law_1848 7 rfl ?_
                refine Ex_i2l dL_law_1850 ?_
                refine Ex_lcmp dL_law_1851 ?_
                refine Ex_if_eq (tgt := 1857) dL_law_1852 (by decide) ?_ ?_
                · refine Ex_lv [0, 1, 2, 3, 4, 5] (lv' := [(0, .ref a0), (1, .ref a520), (2, .ref a522), (3, .ref a524), (4, .ref a525), (5, .int v526)]) rfl ?_
                  exact hj768 ()
                · refine Ex_iconst (v := 0) dL_law_1855 (by decide) ?_
                  exact Ex_zreturn dL_law_1856 rfl rfl
          · refine Ex_iconst (v := 0) dL_law_1838 (by decide) ?_
            exact Ex_zreturn dL_law_1839 rfl rfl
        | 28, _ =>
          refine ⟨1806, 1860, rfl, by decide, ?_⟩
          refine Ex_aload_n dL_law_1860 rfl 1 rfl ?_
          refine Ex_aload_n dL_law_1861 rfl 0 rfl ?_
          refine Ex_iload dL_law_1862 5 rfl ?_
          refine Ex_iconst (v := 1) dL_law_1864 (by decide) ?_
          refine Ex_iadd dL_law_1865 ?_
          refine Ex_aI_i dL_law_1866 (fun x770 => ?_)
          refine Ex_aload_n dL_law_1867 rfl 0 rfl ?_
          refine Ex_iload dL_law_1868 5 rfl ?_
          refine Ex_iconst (v := 2) dL_law_1870 (by decide) ?_
          refine Ex_iadd dL_law_1871 ?_
          refine Ex_aI_i dL_law_1872 (fun x771 => ?_)
          refine Ex_aload_n dL_law_1873 rfl 3 rfl ?_
          refine Ex_bnI (Inv_SW (L_X0_askRead hG a520 x770 x771 a524) (lw_SW q1808 q1809 q44 q1810) hm_X0_askRead (by decide) (by decide) dL_law_1874 rfl (Nat.le_of_ble_eq_true rfl)) (fun r772 => ?_)
          refine Ex_istore (lv' := [(0, .ref a0), (1, .ref a520), (2, .ref a522), (3, .ref a524), (4, .ref a525), (5, .int v526), (6, .int r772)]) dL_law_1877 (by decide) [1, 2, 3, 4, 5, 6, 0] rfl ?_
          refine Ex_aload_n dL_law_1879 rfl 2 rfl ?_
          refine Ex_aload_n dL_law_1880 rfl 0 rfl ?_
          refine Ex_iload dL_law_1881 5 rfl ?_
          refine Ex_iconst (v := 1) dL_law_1883 (by decide) ?_
          refine Ex_iadd dL_law_1884 ?_
          refine Ex_aI_i dL_law_1885 (fun x773 => ?_)
          refine Ex_aload_n dL_law_1886 rfl 0 rfl ?_
          refine Ex_iload dL_law_1887 5 rfl ?_
          refine Ex_iconst (v := 2) dL_law_1889 (by decide) ?_
          refine Ex_iadd dL_law_1890 ?_
          refine Ex_aI_i dL_law_1891 (fun x774 => ?_)
          refine Ex_bnI (Inv_V (L_X6_askRead hG a522 x773 x774) (lw_V q2540 q2541 q2542 q54 q2543) oe_15 ⟨rfl, hm_X6_askRead⟩ (by decide) (by decide) dL_law_1892 rfl (Nat.le_of_ble_eq_true rfl)) (fun r775 => ?_)
          refine Ex_istore (lv' := [(0, .ref a0), (1, .ref a520), (2, .ref a522), (3, .ref a524), (4, .ref a525), (5, .int v526), (6, .int r772), (7, .int r775)]) dL_law_1895 (by decide) [1, 2, 3, 4, 5, 6, 7, 0] rfl ?_
          refine Ex_aload_n dL_law_1897 rfl 2 rfl ?_
          refine Ex_bnI (Inv_V (L_X6_thrown hG a522) (lw_V q2101 q2102 q2103 q54 q2104) oe_15 ⟨rfl, hm_X6_thrown⟩ (by decide) (by decide) dL_law_1898 rfl (Nat.le_of_ble_eq_true rfl)) (fun r776 => ?_)
          refine Ex_iload dL_law_1901 6 rfl ?_
          refine Ex_icmp_eq (tgt := 1908) dL_law_1903 (by decide) ?_ ?_
          · refine Ex_iload dL_law_1908 6 rfl ?_
            refine Ex_jn (γ := Unit) (pj := 1925) (fun v777 => [(0, .ref a0), (1, .ref a520), (2, .ref a522), (3, .ref a524), (4, .ref a525), (5, .int v526)]) (fun v777 => []) (fun v777 => ?_) (fun j778 hj778 => ?_)
            · refine Ex_goto (tgt := 2447) dL_law_1925 (by decide) ?_
              exact hj531 ()
            · refine Ex_if_ne (tgt := 1925) dL_law_1910 (by decide) ?_ ?_
              · refine Ex_lv [0, 1, 2, 3, 4, 5] (lv' := [(0, .ref a0), (1, .ref a520), (2, .ref a522), (3, .ref a524), (4, .ref a525), (5, .int v526)]) rfl ?_
                exact hj778 ()
              · refine Ex_aload_n dL_law_1913 rfl 3 rfl ?_
                refine Ex_iconst (v := 0) dL_law_1914 (by decide) ?_
                refine Ex_aJ_l dL_law_1915 (fun x779 => ?_)
                refine Ex_iload dL_law_1916 7 rfl ?_
                refine Ex_i2l dL_law_1918 ?_
                refine Ex_lcmp dL_law_1919 ?_
                refine Ex_if_eq (tgt := 1925) dL_law_1920 (by decide) ?_ ?_
                · refine Ex_lv [0, 1, 2, 3, 4, 5] (lv' := [(0, .ref a0), (1, .ref a520), (2, .ref a522), (3, .ref a524), (4, .ref a525), (5, .int v526)]) rfl ?_
                  exact hj778 ()
                · refine Ex_iconst (v := 0) dL_law_1923 (by decide) ?_
                  exact Ex_zreturn dL_law_1924 rfl rfl
          · refine Ex_iconst (v := 0) dL_law_1906 (by decide) ?_
            exact Ex_zreturn dL_law_1907 rfl rfl
        | 29, _ =>
          refine ⟨1874, 1928, rfl, by decide, ?_⟩
          refine Ex_aload_n dL_law_1928 rfl 1 rfl ?_
          refine Ex_aload_n dL_law_1929 rfl 0 rfl ?_
          refine Ex_iload dL_law_1930 5 rfl ?_
          refine Ex_iconst (v := 1) dL_law_1932 (by decide) ?_
          refine Ex_iadd dL_law_1933 ?_
          refine Ex_aI_i dL_law_1934 (fun x780 => ?_)
          refine Ex_aload_n dL_law_1935 rfl 3 rfl ?_
          refine Ex_bnI (Inv_SW (L_X0_readState hG a520 x780 a524) (lw_SW q1850 q1851 q44 q1852) hm_X0_readState (by decide) (by decide) dL_law_1936 rfl (Nat.le_of_ble_eq_true rfl)) (fun r781 => ?_)
          refine Ex_istore (lv' := [(0, .ref a0), (1, .ref a520), (2, .ref a522), (3, .ref a524), (4, .ref a525), (5, .int v526), (6, .int r781)]) dL_law_1939 (by decide) [1, 2, 3, 4, 5, 6, 0] rfl ?_
          refine Ex_aload_n dL_law_1941 rfl 2 rfl ?_
          refine Ex_aload_n dL_law_1942 rfl 0 rfl ?_
          refine Ex_iload dL_law_1943 5 rfl ?_
          refine Ex_iconst (v := 1) dL_law_1945 (by decide) ?_
          refine Ex_iadd dL_law_1946 ?_
          refine Ex_aI_i dL_law_1947 (fun x782 => ?_)
          refine Ex_bnI (Inv_V (L_X6_readState hG a522 x782) (lw_V q2576 q2577 q2578 q54 q2579) oe_15 ⟨rfl, hm_X6_readState⟩ (by decide) (by decide) dL_law_1948 rfl (Nat.le_of_ble_eq_true rfl)) (fun r783 => ?_)
          refine Ex_istore (lv' := [(0, .ref a0), (1, .ref a520), (2, .ref a522), (3, .ref a524), (4, .ref a525), (5, .int v526), (6, .int r781), (7, .int r783)]) dL_law_1951 (by decide) [1, 2, 3, 4, 5, 6, 7, 0] rfl ?_
          refine Ex_aload_n dL_law_1953 rfl 2 rfl ?_
          refine Ex_bnI (Inv_V (L_X6_thrown hG a522) (lw_V q2101 q2102 q2103 q54 q2104) oe_15 ⟨rfl, hm_X6_thrown⟩ (by decide) (by decide) dL_law_1954 rfl (Nat.le_of_ble_eq_true rfl)) (fun r784 => ?_)
          refine Ex_iload dL_law_1957 6 rfl ?_
          refine Ex_icmp_eq (tgt := 1964) dL_law_1959 (by decide) ?_ ?_
          · refine Ex_iload dL_law_1964 6 rfl ?_
            refine Ex_jn (γ := Unit) (pj := 1981) (fun v785 => [(0, .ref a0), (1, .ref a520), (2, .ref a522), (3, .ref a524), (4, .ref a525), (5, .int v526)]) (fun v785 => []) (fun v785 => ?_) (fun j786 hj786 => ?_)
            · refine Ex_goto (tgt := 2447) dL_law_1981 (by decide) ?_
              exact hj531 ()
            · refine Ex_if_ne (tgt := 1981) dL_law_1966 (by decide) ?_ ?_
              · refine Ex_lv [0, 1, 2, 3, 4, 5] (lv' := [(0, .ref a0), (1, .ref a520), (2, .ref a522), (3, .ref a524), (4, .ref a525), (5, .int v526)]) rfl ?_
                exact hj786 ()
              · refine Ex_aload_n dL_law_1969 rfl 3 rfl ?_
                refine Ex_iconst (v := 0) dL_law_1970 (by decide) ?_
                refine Ex_aJ_l dL_law_1971 (fun x787 => ?_)
                refine Ex_iload dL_law_1972 7 rfl ?_
                refine Ex_i2l dL_law_1974 ?_
                refine Ex_lcmp dL_law_1975 ?_
                refine Ex_if_eq (tgt := 1981) dL_law_1976 (by decide) ?_ ?_
                · refine Ex_lv [0, 1, 2, 3, 4, 5] (lv' := [(0, .ref a0), (1, .ref a520), (2, .ref a522), (3, .ref a524), (4, .ref a525), (5, .int v526)]) rfl ?_
                  exact hj786 ()
                · refine Ex_iconst (v := 0) dL_law_1979 (by decide) ?_
                  exact Ex_zreturn dL_law_1980 rfl rfl
          · refine Ex_iconst (v := 0) dL_law_1962 (by decide) ?_
            exact Ex_zreturn dL_law_1963 rfl rfl
        | 30, _ =>
          refine ⟨1930, 1984, rfl, by decide, ?_⟩
          refine Ex_aload_n dL_law_1984 rfl 1 rfl ?_
          refine Ex_aload_n dL_law_1985 rfl 0 rfl ?_
          refine Ex_iload dL_law_1986 5 rfl ?_
          refine Ex_iconst (v := 1) dL_law_1988 (by decide) ?_
          refine Ex_iadd dL_law_1989 ?_
          refine Ex_aI_i dL_law_1990 (fun x788 => ?_)
          refine Ex_aload_n dL_law_1991 rfl 3 rfl ?_
          refine Ex_bnI (Inv_SW (L_X0_readValue hG a520 x788 a524) (lw_SW q1861 q1862 q44 q1863) hm_X0_readValue (by decide) (by decide) dL_law_1992 rfl (Nat.le_of_ble_eq_true rfl)) (fun r789 => ?_)
          refine Ex_istore (lv' := [(0, .ref a0), (1, .ref a520), (2, .ref a522), (3, .ref a524), (4, .ref a525), (5, .int v526), (6, .int r789)]) dL_law_1995 (by decide) [1, 2, 3, 4, 5, 6, 0] rfl ?_
          refine Ex_aload_n dL_law_1997 rfl 2 rfl ?_
          refine Ex_aload_n dL_law_1998 rfl 0 rfl ?_
          refine Ex_iload dL_law_1999 5 rfl ?_
          refine Ex_iconst (v := 1) dL_law_2001 (by decide) ?_
          refine Ex_iadd dL_law_2002 ?_
          refine Ex_aI_i dL_law_2003 (fun x790 => ?_)
          refine Ex_bnI (Inv_V (L_X6_readValue hG a522 x790) (lw_V q2580 q2581 q2582 q54 q2583) oe_15 ⟨rfl, hm_X6_readValue⟩ (by decide) (by decide) dL_law_2004 rfl (Nat.le_of_ble_eq_true rfl)) (fun r791 => ?_)
          refine Ex_istore (lv' := [(0, .ref a0), (1, .ref a520), (2, .ref a522), (3, .ref a524), (4, .ref a525), (5, .int v526), (6, .int r789), (7, .int r791)]) dL_law_2007 (by decide) [1, 2, 3, 4, 5, 6, 7, 0] rfl ?_
          refine Ex_aload_n dL_law_2009 rfl 2 rfl ?_
          refine Ex_bnI (Inv_V (L_X6_thrown hG a522) (lw_V q2101 q2102 q2103 q54 q2104) oe_15 ⟨rfl, hm_X6_thrown⟩ (by decide) (by decide) dL_law_2010 rfl (Nat.le_of_ble_eq_true rfl)) (fun r792 => ?_)
          refine Ex_iload dL_law_2013 6 rfl ?_
          refine Ex_icmp_eq (tgt := 2020) dL_law_2015 (by decide) ?_ ?_
          · refine Ex_iload dL_law_2020 6 rfl ?_
            refine Ex_jn (γ := Unit) (pj := 2037) (fun v793 => [(0, .ref a0), (1, .ref a520), (2, .ref a522), (3, .ref a524), (4, .ref a525), (5, .int v526)]) (fun v793 => []) (fun v793 => ?_) (fun j794 hj794 => ?_)
            · refine Ex_goto (tgt := 2447) dL_law_2037 (by decide) ?_
              exact hj531 ()
            · refine Ex_if_ne (tgt := 2037) dL_law_2022 (by decide) ?_ ?_
              · refine Ex_lv [0, 1, 2, 3, 4, 5] (lv' := [(0, .ref a0), (1, .ref a520), (2, .ref a522), (3, .ref a524), (4, .ref a525), (5, .int v526)]) rfl ?_
                exact hj794 ()
              · refine Ex_aload_n dL_law_2025 rfl 3 rfl ?_
                refine Ex_iconst (v := 0) dL_law_2026 (by decide) ?_
                refine Ex_aJ_l dL_law_2027 (fun x795 => ?_)
                refine Ex_iload dL_law_2028 7 rfl ?_
                refine Ex_i2l dL_law_2030 ?_
                refine Ex_lcmp dL_law_2031 ?_
                refine Ex_if_eq (tgt := 2037) dL_law_2032 (by decide) ?_ ?_
                · refine Ex_lv [0, 1, 2, 3, 4, 5] (lv' := [(0, .ref a0), (1, .ref a520), (2, .ref a522), (3, .ref a524), (4, .ref a525), (5, .int v526)]) rfl ?_
                  exact hj794 ()
                · refine Ex_iconst (v := 0) dL_law_2035 (by decide) ?_
                  exact Ex_zreturn dL_law_2036 rfl rfl
          · refine Ex_iconst (v := 0) dL_law_2018 (by decide) ?_
            exact Ex_zreturn dL_law_2019 rfl rfl
        | 31, _ =>
          refine ⟨1986, 2040, rfl, by decide, ?_⟩
          refine Ex_aload_n dL_law_2040 rfl 1 rfl ?_
          refine Ex_aload_n dL_law_2041 rfl 0 rfl ?_
          refine Ex_iload dL_law_2042 5 rfl ?_
          refine Ex_iconst (v := 1) dL_law_2044 (by decide) ?_
          refine Ex_iadd dL_law_2045 ?_
          refine Ex_aI_i dL_law_2046 (fun x796 => ?_)
          refine Ex_aload_n dL_law_2047 rfl 0 rfl ?_
          refine Ex_iload dL_law_2048 5 rfl ?_
          refine Ex_iconst (v := 2) dL_law_2050 (by decide) ?_
          refine Ex_iadd dL_law_2051 ?_
          refine Ex_aI_i dL_law_2052 (fun x797 => ?_)
          refine Ex_aload_n dL_law_2053 rfl 3 rfl ?_
          refine Ex_bnI (Inv_SW (L_X0_readStale hG a520 x796 x797 a524) (lw_SW q1868 q1869 q44 q1870) hm_X0_readStale (by decide) (by decide) dL_law_2054 rfl (Nat.le_of_ble_eq_true rfl)) (fun r798 => ?_)
          refine Ex_istore (lv' := [(0, .ref a0), (1, .ref a520), (2, .ref a522), (3, .ref a524), (4, .ref a525), (5, .int v526), (6, .int r798)]) dL_law_2057 (by decide) [1, 2, 3, 4, 5, 6, 0] rfl ?_
          refine Ex_aload_n dL_law_2059 rfl 2 rfl ?_
          refine Ex_aload_n dL_law_2060 rfl 0 rfl ?_
          refine Ex_iload dL_law_2061 5 rfl ?_
          refine Ex_iconst (v := 1) dL_law_2063 (by decide) ?_
          refine Ex_iadd dL_law_2064 ?_
          refine Ex_aI_i dL_law_2065 (fun x799 => ?_)
          refine Ex_aload_n dL_law_2066 rfl 0 rfl ?_
          refine Ex_iload dL_law_2067 5 rfl ?_
          refine Ex_iconst (v := 2) dL_law_2069 (by decide) ?_
          refine Ex_iadd dL_law_2070 ?_
          refine Ex_aI_i dL_law_2071 (fun x800 => ?_)
          refine Ex_bnI (Inv_V (L_X6_readStale hG a522 x799 x800) (lw_V q2584 q2585 q2586 q54 q2587) oe_15 ⟨rfl, hm_X6_readStale⟩ (by decide) (by decide) dL_law_2072 rfl (Nat.le_of_ble_eq_true rfl)) (fun r801 => ?_)
          refine Ex_istore (lv' := [(0, .ref a0), (1, .ref a520), (2, .ref a522), (3, .ref a524), (4, .ref a525), (5, .int v526), (6, .int r798), (7, .int r801)]) dL_law_2075 (by decide) [1, 2, 3, 4, 5, 6, 7, 0] rfl ?_
          refine Ex_aload_n dL_law_2077 rfl 2 rfl ?_
          refine Ex_bnI (Inv_V (L_X6_thrown hG a522) (lw_V q2101 q2102 q2103 q54 q2104) oe_15 ⟨rfl, hm_X6_thrown⟩ (by decide) (by decide) dL_law_2078 rfl (Nat.le_of_ble_eq_true rfl)) (fun r802 => ?_)
          refine Ex_iload dL_law_2081 6 rfl ?_
          refine Ex_icmp_eq (tgt := 2088) dL_law_2083 (by decide) ?_ ?_
          · refine Ex_iload dL_law_2088 6 rfl ?_
            refine Ex_jn (γ := Unit) (pj := 2105) (fun v803 => [(0, .ref a0), (1, .ref a520), (2, .ref a522), (3, .ref a524), (4, .ref a525), (5, .int v526)]) (fun v803 => []) (fun v803 => ?_) (fun j804 hj804 => ?_)
            · refine Ex_goto (tgt := 2447) dL_law_2105 (by decide) ?_
              exact hj531 ()
            · refine Ex_if_ne (tgt := 2105) dL_law_2090 (by decide) ?_ ?_
              · refine Ex_lv [0, 1, 2, 3, 4, 5] (lv' := [(0, .ref a0), (1, .ref a520), (2, .ref a522), (3, .ref a524), (4, .ref a525), (5, .int v526)]) rfl ?_
                exact hj804 ()
              · refine Ex_aload_n dL_law_2093 rfl 3 rfl ?_
                refine Ex_iconst (v := 0) dL_law_2094 (by decide) ?_
                refine Ex_aJ_l dL_law_2095 (fun x805 => ?_)
                refine Ex_iload dL_law_2096 7 rfl ?_
                refine Ex_i2l dL_law_2098 ?_
                refine Ex_lcmp dL_law_2099 ?_
                refine Ex_if_eq (tgt := 2105) dL_law_2100 (by decide) ?_ ?_
                · refine Ex_lv [0, 1, 2, 3, 4, 5] (lv' := [(0, .ref a0), (1, .ref a520), (2, .ref a522), (3, .ref a524), (4, .ref a525), (5, .int v526)]) rfl ?_
                  exact hj804 ()
                · refine Ex_iconst (v := 0) dL_law_2103 (by decide) ?_
                  exact Ex_zreturn dL_law_2104 rfl rfl
          · refine Ex_iconst (v := 0) dL_law_2086 (by decide) ?_
            exact Ex_zreturn dL_law_2087 rfl rfl
        | 32, _ =>
          refine ⟨2054, 2108, rfl, by decide, ?_⟩
          refine Ex_aload_n dL_law_2108 rfl 1 rfl ?_
          refine Ex_aload_n dL_law_2109 rfl 0 rfl ?_
          refine Ex_iload dL_law_2110 5 rfl ?_
          refine Ex_iconst (v := 1) dL_law_2112 (by decide) ?_
          refine Ex_iadd dL_law_2113 ?_
          refine Ex_aI_i dL_law_2114 (fun x806 => ?_)
          refine Ex_aload_n dL_law_2115 rfl 0 rfl ?_
          refine Ex_iload dL_law_2116 5 rfl ?_
          refine Ex_iconst (v := 2) dL_law_2118 (by decide) ?_
          refine Ex_iadd dL_law_2119 ?_
          refine Ex_aI_i dL_law_2120 (fun x807 => ?_)
          refine Ex_aload_n dL_law_2121 rfl 3 rfl ?_
          refine Ex_bnI (Inv_SW (L_X0_rangeOf hG a520 x806 x807 a524) (lw_SW q1879 q1880 q44 q1881) hm_X0_rangeOf (by decide) (by decide) dL_law_2122 rfl (Nat.le_of_ble_eq_true rfl)) (fun r808 => ?_)
          refine Ex_istore (lv' := [(0, .ref a0), (1, .ref a520), (2, .ref a522), (3, .ref a524), (4, .ref a525), (5, .int v526), (6, .int r808)]) dL_law_2125 (by decide) [1, 2, 3, 4, 5, 6, 0] rfl ?_
          refine Ex_aload_n dL_law_2127 rfl 2 rfl ?_
          refine Ex_aload_n dL_law_2128 rfl 0 rfl ?_
          refine Ex_iload dL_law_2129 5 rfl ?_
          refine Ex_iconst (v := 1) dL_law_2131 (by decide) ?_
          refine Ex_iadd dL_law_2132 ?_
          refine Ex_aI_i dL_law_2133 (fun x809 => ?_)
          refine Ex_aload_n dL_law_2134 rfl 0 rfl ?_
          refine Ex_iload dL_law_2135 5 rfl ?_
          refine Ex_iconst (v := 2) dL_law_2137 (by decide) ?_
          refine Ex_iadd dL_law_2138 ?_
          refine Ex_aI_i dL_law_2139 (fun x810 => ?_)
          refine Ex_bnI (Inv_V (L_X6_rangeOf hG a522 x809 x810) (lw_V q2592 q2593 q2594 q54 q2595) oe_15 ⟨rfl, hm_X6_rangeOf⟩ (by decide) (by decide) dL_law_2140 rfl (Nat.le_of_ble_eq_true rfl)) (fun r811 => ?_)
          refine Ex_istore (lv' := [(0, .ref a0), (1, .ref a520), (2, .ref a522), (3, .ref a524), (4, .ref a525), (5, .int v526), (6, .int r808), (7, .int r811)]) dL_law_2143 (by decide) [1, 2, 3, 4, 5, 6, 7, 0] rfl ?_
          refine Ex_aload_n dL_law_2145 rfl 2 rfl ?_
          refine Ex_bnI (Inv_V (L_X6_thrown hG a522) (lw_V q2101 q2102 q2103 q54 q2104) oe_15 ⟨rfl, hm_X6_thrown⟩ (by decide) (by decide) dL_law_2146 rfl (Nat.le_of_ble_eq_true rfl)) (fun r812 => ?_)
          refine Ex_iload dL_law_2149 6 rfl ?_
          refine Ex_icmp_eq (tgt := 2156) dL_law_2151 (by decide) ?_ ?_
          · refine Ex_iload dL_law_2156 6 rfl ?_
            refine Ex_jn (γ := Unit) (pj := 2173) (fun v813 => [(0, .ref a0), (1, .ref a520), (2, .ref a522), (3, .ref a524), (4, .ref a525), (5, .int v526)]) (fun v813 => []) (fun v813 => ?_) (fun j814 hj814 => ?_)
            · refine Ex_goto (tgt := 2447) dL_law_2173 (by decide) ?_
              exact hj531 ()
            · refine Ex_if_ne (tgt := 2173) dL_law_2158 (by decide) ?_ ?_
              · refine Ex_lv [0, 1, 2, 3, 4, 5] (lv' := [(0, .ref a0), (1, .ref a520), (2, .ref a522), (3, .ref a524), (4, .ref a525), (5, .int v526)]) rfl ?_
                exact hj814 ()
              · refine Ex_aload_n dL_law_2161 rfl 3 rfl ?_
                refine Ex_iconst (v := 0) dL_law_2162 (by decide) ?_
                refine Ex_aJ_l dL_law_2163 (fun x815 => ?_)
                refine Ex_iload dL_law_2164 7 rfl ?_
                refine Ex_i2l dL_law_2166 ?_
                refine Ex_lcmp dL_law_2167 ?_
                refine Ex_if_eq (tgt := 2173) dL_law_2168 (by decide) ?_ ?_
                · refine Ex_lv [0, 1, 2, 3, 4, 5] (lv' := [(0, .ref a0), (1, .ref a520), (2, .ref a522), (3, .ref a524), (4, .ref a525), (5, .int v526)]) rfl ?_
                  exact hj814 ()
                · refine Ex_iconst (v := 0) dL_law_2171 (by decide) ?_
                  exact Ex_zreturn dL_law_2172 rfl rfl
          · refine Ex_iconst (v := 0) dL_law_2154 (by decide) ?_
            exact Ex_zreturn dL_law_2155 rfl rfl
        | 33, _ =>
          refine ⟨2122, 2176, rfl, by decide, ?_⟩
          refine Ex_aload_n dL_law_2176 rfl 1 rfl ?_
          refine Ex_aload_n dL_law_2177 rfl 0 rfl ?_
          refine Ex_iload dL_law_2178 5 rfl ?_
          refine Ex_iconst (v := 1) dL_law_2180 (by decide) ?_
          refine Ex_iadd dL_law_2181 ?_
          refine Ex_aI_i dL_law_2182 (fun x816 => ?_)
          refine Ex_aload_n dL_law_2183 rfl 0 rfl ?_
          refine Ex_iload dL_law_2184 5 rfl ?_
          refine Ex_iconst (v := 2) dL_law_2186 (by decide) ?_
          refine Ex_iadd dL_law_2187 ?_
          refine Ex_aI_i dL_law_2188 (fun x817 => ?_)
          refine Ex_aload_n dL_law_2189 rfl 3 rfl ?_
          refine Ex_bnI (Inv_SW (L_X0_load hG a520 x816 x817 a524) (lw_SW q1887 q1888 q44 q1889) hm_X0_load (by decide) (by decide) dL_law_2190 rfl (Nat.le_of_ble_eq_true rfl)) (fun r818 => ?_)
          refine Ex_istore (lv' := [(0, .ref a0), (1, .ref a520), (2, .ref a522), (3, .ref a524), (4, .ref a525), (5, .int v526), (6, .int r818)]) dL_law_2193 (by decide) [1, 2, 3, 4, 5, 6, 0] rfl ?_
          refine Ex_aload_n dL_law_2195 rfl 2 rfl ?_
          refine Ex_aload_n dL_law_2196 rfl 0 rfl ?_
          refine Ex_iload dL_law_2197 5 rfl ?_
          refine Ex_iconst (v := 1) dL_law_2199 (by decide) ?_
          refine Ex_iadd dL_law_2200 ?_
          refine Ex_aI_i dL_law_2201 (fun x819 => ?_)
          refine Ex_aload_n dL_law_2202 rfl 0 rfl ?_
          refine Ex_iload dL_law_2203 5 rfl ?_
          refine Ex_iconst (v := 2) dL_law_2205 (by decide) ?_
          refine Ex_iadd dL_law_2206 ?_
          refine Ex_aI_i dL_law_2207 (fun x820 => ?_)
          refine Ex_bnI (Inv_V (L_X6_load hG a522 x819 x820) (lw_V q2597 q2598 q2599 q54 q2600) oe_15 ⟨rfl, hm_X6_load⟩ (by decide) (by decide) dL_law_2208 rfl (Nat.le_of_ble_eq_true rfl)) (fun r821 => ?_)
          refine Ex_istore (lv' := [(0, .ref a0), (1, .ref a520), (2, .ref a522), (3, .ref a524), (4, .ref a525), (5, .int v526), (6, .int r818), (7, .int r821)]) dL_law_2211 (by decide) [1, 2, 3, 4, 5, 6, 7, 0] rfl ?_
          refine Ex_aload_n dL_law_2213 rfl 2 rfl ?_
          refine Ex_bnI (Inv_V (L_X6_thrown hG a522) (lw_V q2101 q2102 q2103 q54 q2104) oe_15 ⟨rfl, hm_X6_thrown⟩ (by decide) (by decide) dL_law_2214 rfl (Nat.le_of_ble_eq_true rfl)) (fun r822 => ?_)
          refine Ex_iload dL_law_2217 6 rfl ?_
          refine Ex_icmp_eq (tgt := 2224) dL_law_2219 (by decide) ?_ ?_
          · refine Ex_iload dL_law_2224 6 rfl ?_
            refine Ex_jn (γ := Unit) (pj := 2241) (fun v823 => [(0, .ref a0), (1, .ref a520), (2, .ref a522), (3, .ref a524), (4, .ref a525), (5, .int v526)]) (fun v823 => []) (fun v823 => ?_) (fun j824 hj824 => ?_)
            · refine Ex_goto (tgt := 2447) dL_law_2241 (by decide) ?_
              exact hj531 ()
            · refine Ex_if_ne (tgt := 2241) dL_law_2226 (by decide) ?_ ?_
              · refine Ex_lv [0, 1, 2, 3, 4, 5] (lv' := [(0, .ref a0), (1, .ref a520), (2, .ref a522), (3, .ref a524), (4, .ref a525), (5, .int v526)]) rfl ?_
                exact hj824 ()
              · refine Ex_aload_n dL_law_2229 rfl 3 rfl ?_
                refine Ex_iconst (v := 0) dL_law_2230 (by decide) ?_
                refine Ex_aJ_l dL_law_2231 (fun x825 => ?_)
                refine Ex_iload dL_law_2232 7 rfl ?_
                refine Ex_i2l dL_law_2234 ?_
                refine Ex_lcmp dL_law_2235 ?_
                refine Ex_if_eq (tgt := 2241) dL_law_2236 (by decide) ?_ ?_
                · refine Ex_lv [0, 1, 2, 3, 4, 5] (lv' := [(0, .ref a0), (1, .ref a520), (2, .ref a522), (3, .ref a524), (4, .ref a525), (5, .int v526)]) rfl ?_
                  exact hj824 ()
                · refine Ex_iconst (v := 0) dL_law_2239 (by decide) ?_
                  exact Ex_zreturn dL_law_2240 rfl rfl
          · refine Ex_iconst (v := 0) dL_law_2222 (by decide) ?_
            exact Ex_zreturn dL_law_2223 rfl rfl
        | 34, _ =>
          refine ⟨2190, 2244, rfl, by decide, ?_⟩
          refine Ex_aload_n dL_law_2244 rfl 1 rfl ?_
          refine Ex_bnI (Inv_V (L_X1_history hG a520) (lw_V q349 q350 q351 q45 q352) oe_1 ⟨rfl, hm_X1_history⟩ (by decide) (by decide) dL_law_2245 rfl (Nat.le_of_ble_eq_true rfl)) (fun r826 => ?_)
          refine Ex_aload_n dL_law_2248 rfl 2 rfl ?_
          refine Ex_bnI (Inv_V (L_X6_history hG a522) (lw_V q2601 q2602 q2603 q54 q2604) oe_15 ⟨rfl, hm_X6_history⟩ (by decide) (by decide) dL_law_2249 rfl (Nat.le_of_ble_eq_true rfl)) (fun r827 => ?_)
          refine Ex_icmp_eq (tgt := 2447) dL_law_2252 (by decide) ?_ ?_
          · exact hj531 ()
          · refine Ex_iconst (v := 0) dL_law_2255 (by decide) ?_
            exact Ex_zreturn dL_law_2256 rfl rfl
        | 35, _ =>
          refine ⟨2203, 2257, rfl, by decide, ?_⟩
          refine Ex_aload_n dL_law_2257 rfl 1 rfl ?_
          refine Ex_aload_n dL_law_2258 rfl 0 rfl ?_
          refine Ex_iload dL_law_2259 5 rfl ?_
          refine Ex_iconst (v := 1) dL_law_2261 (by decide) ?_
          refine Ex_iadd dL_law_2262 ?_
          refine Ex_aI_i dL_law_2263 (fun x828 => ?_)
          refine Ex_aload_n dL_law_2264 rfl 3 rfl ?_
          refine Ex_bnI (Inv_SW (L_X0_valueByHistory hG a520 x828 a524) (lw_SW q1894 q1895 q44 q1896) hm_X0_valueByHistory (by decide) (by decide) dL_law_2265 rfl (Nat.le_of_ble_eq_true rfl)) (fun r829 => ?_)
          refine Ex_istore (lv' := [(0, .ref a0), (1, .ref a520), (2, .ref a522), (3, .ref a524), (4, .ref a525), (5, .int v526), (6, .int r829)]) dL_law_2268 (by decide) [1, 2, 3, 4, 5, 6, 0] rfl ?_
          refine Ex_aload_n dL_law_2270 rfl 2 rfl ?_
          refine Ex_aload_n dL_law_2271 rfl 0 rfl ?_
          refine Ex_iload dL_law_2272 5 rfl ?_
          refine Ex_iconst (v := 1) dL_law_2274 (by decide) ?_
          refine Ex_iadd dL_law_2275 ?_
          refine Ex_aI_i dL_law_2276 (fun x830 => ?_)
          refine Ex_bnI (Inv_V (L_X6_valueByHistory hG a522 x830) (lw_V q2605 q2606 q2607 q54 q2608) oe_15 ⟨rfl, hm_X6_valueByHistory⟩ (by decide) (by decide) dL_law_2277 rfl (Nat.le_of_ble_eq_true rfl)) (fun r831 => ?_)
          refine Ex_istore (lv' := [(0, .ref a0), (1, .ref a520), (2, .ref a522), (3, .ref a524), (4, .ref a525), (5, .int v526), (6, .int r829), (7, .int r831)]) dL_law_2280 (by decide) [1, 2, 3, 4, 5, 6, 7, 0] rfl ?_
          refine Ex_aload_n dL_law_2282 rfl 2 rfl ?_
          refine Ex_bnI (Inv_V (L_X6_thrown hG a522) (lw_V q2101 q2102 q2103 q54 q2104) oe_15 ⟨rfl, hm_X6_thrown⟩ (by decide) (by decide) dL_law_2283 rfl (Nat.le_of_ble_eq_true rfl)) (fun r832 => ?_)
          refine Ex_iload dL_law_2286 6 rfl ?_
          refine Ex_icmp_eq (tgt := 2293) dL_law_2288 (by decide) ?_ ?_
          · refine Ex_iload dL_law_2293 6 rfl ?_
            refine Ex_jn (γ := Unit) (pj := 2310) (fun v833 => [(0, .ref a0), (1, .ref a520), (2, .ref a522), (3, .ref a524), (4, .ref a525), (5, .int v526)]) (fun v833 => []) (fun v833 => ?_) (fun j834 hj834 => ?_)
            · refine Ex_goto (tgt := 2447) dL_law_2310 (by decide) ?_
              exact hj531 ()
            · refine Ex_if_ne (tgt := 2310) dL_law_2295 (by decide) ?_ ?_
              · refine Ex_lv [0, 1, 2, 3, 4, 5] (lv' := [(0, .ref a0), (1, .ref a520), (2, .ref a522), (3, .ref a524), (4, .ref a525), (5, .int v526)]) rfl ?_
                exact hj834 ()
              · refine Ex_aload_n dL_law_2298 rfl 3 rfl ?_
                refine Ex_iconst (v := 0) dL_law_2299 (by decide) ?_
                refine Ex_aJ_l dL_law_2300 (fun x835 => ?_)
                refine Ex_iload dL_law_2301 7 rfl ?_
                refine Ex_i2l dL_law_2303 ?_
                refine Ex_lcmp dL_law_2304 ?_
                refine Ex_if_eq (tgt := 2310) dL_law_2305 (by decide) ?_ ?_
                · refine Ex_lv [0, 1, 2, 3, 4, 5] (lv' := [(0, .ref a0), (1, .ref a520), (2, .ref a522), (3, .ref a524), (4, .ref a525), (5, .int v526)]) rfl ?_
                  exact hj834 ()
                · refine Ex_iconst (v := 0) dL_law_2308 (by decide) ?_
                  exact Ex_zreturn dL_law_2309 rfl rfl
          · refine Ex_iconst (v := 0) dL_law_2291 (by decide) ?_
            exact Ex_zreturn dL_law_2292 rfl rfl
        | 36, _ =>
          refine ⟨2259, 2313, rfl, by decide, ?_⟩
          refine Ex_aload_n dL_law_2313 rfl 1 rfl ?_
          refine Ex_bnJ (Inv_V (L_X1_delivered hG a520) (lw_V q353 q354 q355 q45 q356) oe_1 ⟨rfl, hm_X1_delivered⟩ (by decide) (by decide) dL_law_2314 rfl (Nat.le_of_ble_eq_true rfl)) (fun r836 => ?_)
          refine Ex_aload_n dL_law_2317 rfl 2 rfl ?_
          refine Ex_bnJ (Inv_V (L_X6_delivered hG a522) (lw_V q2609 q2610 q2611 q54 q2612) oe_15 ⟨rfl, hm_X6_delivered⟩ (by decide) (by decide) dL_law_2318 rfl (Nat.le_of_ble_eq_true rfl)) (fun r837 => ?_)
          refine Ex_lcmp dL_law_2321 ?_
          refine Ex_if_eq (tgt := 2447) dL_law_2322 (by decide) ?_ ?_
          · exact hj531 ()
          · refine Ex_iconst (v := 0) dL_law_2325 (by decide) ?_
            exact Ex_zreturn dL_law_2326 rfl rfl
        | 37, _ =>
          refine ⟨2273, 2327, rfl, by decide, ?_⟩
          refine Ex_aload_n dL_law_2327 rfl 1 rfl ?_
          refine Ex_aload dL_law_2328 4 rfl ?_
          refine Ex_bnI (Inv_SW (L_X0_refusedShare hG a520 a525) (lw_SW q1904 q1905 q44 q1906) hm_X0_refusedShare (by decide) (by decide) dL_law_2330 rfl (Nat.le_of_ble_eq_true rfl)) (fun r838 => ?_)
          refine Ex_istore (lv' := [(0, .ref a0), (1, .ref a520), (2, .ref a522), (3, .ref a524), (4, .ref a525), (5, .int v526), (6, .int r838)]) dL_law_2333 (by decide) [1, 2, 3, 4, 5, 6, 0] rfl ?_
          refine Ex_aload_n dL_law_2335 rfl 2 rfl ?_
          refine Ex_bnF (Inv_V (L_X6_refusedShare hG a522) (lw_V q2613 q2614 q2615 q54 q2616) oe_15 ⟨rfl, hm_X6_refusedShare⟩ (by decide) (by decide) dL_law_2336 rfl (Nat.le_of_ble_eq_true rfl)) (fun r839 => ?_)
          refine Ex_fstore (lv' := [(0, .ref a0), (1, .ref a520), (2, .ref a522), (3, .ref a524), (4, .ref a525), (5, .int v526), (6, .int r838), (7, .float r839)]) dL_law_2339 (by decide) [1, 2, 3, 4, 5, 6, 7, 0] rfl ?_
          refine Ex_aload_n dL_law_2341 rfl 2 rfl ?_
          refine Ex_bnI (Inv_V (L_X6_thrown hG a522) (lw_V q2101 q2102 q2103 q54 q2104) oe_15 ⟨rfl, hm_X6_thrown⟩ (by decide) (by decide) dL_law_2342 rfl (Nat.le_of_ble_eq_true rfl)) (fun r840 => ?_)
          refine Ex_iload dL_law_2345 6 rfl ?_
          refine Ex_icmp_eq (tgt := 2352) dL_law_2347 (by decide) ?_ ?_
          · refine Ex_iload dL_law_2352 6 rfl ?_
            refine Ex_jn (γ := Unit) (pj := 2390) (fun v841 => [(0, .ref a0), (1, .ref a520), (2, .ref a522), (3, .ref a524), (4, .ref a525), (5, .int v526)]) (fun v841 => []) (fun v841 => ?_) (fun j842 hj842 => ?_)
            · refine Ex_goto (tgt := 2447) dL_law_2390 (by decide) ?_
              exact hj531 ()
            · refine Ex_if_ne (tgt := 2390) dL_law_2354 (by decide) ?_ ?_
              · refine Ex_lv [0, 1, 2, 3, 4, 5] (lv' := [(0, .ref a0), (1, .ref a520), (2, .ref a522), (3, .ref a524), (4, .ref a525), (5, .int v526)]) rfl ?_
                exact hj842 ()
              · refine Ex_aload dL_law_2357 4 rfl ?_
                refine Ex_iconst (v := 0) dL_law_2359 (by decide) ?_
                refine Ex_aD_d dL_law_2360 (fun x843 => ?_)
                refine Ex_fload dL_law_2361 7 rfl ?_
                refine Ex_ck (fun hne => ?_)
                refine Ex_f2d hne dL_law_2363 ?_
                refine Ex_dcmp dL_law_2364 ?_
                refine Ex_if_eq (tgt := 2390) dL_law_2365 (by decide) ?_ ?_
                · refine Ex_lv [0, 1, 2, 3, 4, 5] (lv' := [(0, .ref a0), (1, .ref a520), (2, .ref a522), (3, .ref a524), (4, .ref a525), (5, .int v526)]) rfl ?_
                  exact hj842 ()
                · refine Ex_aload dL_law_2368 4 rfl ?_
                  refine Ex_iconst (v := 0) dL_law_2370 (by decide) ?_
                  refine Ex_aD_d dL_law_2371 (fun x844 => ?_)
                  refine Ex_aload dL_law_2372 4 rfl ?_
                  refine Ex_iconst (v := 0) dL_law_2374 (by decide) ?_
                  refine Ex_aD_d dL_law_2375 (fun x845 => ?_)
                  refine Ex_dcmp dL_law_2376 ?_
                  refine Ex_jn (γ := Unit) (pj := 2388) (fun v846 => []) (fun v846 => []) (fun v846 => ?_) (fun j847 hj847 => ?_)
                  · refine Ex_iconst (v := 0) dL_law_2388 (by decide) ?_
                    exact Ex_zreturn dL_law_2389 rfl rfl
                  · refine Ex_if_eq (tgt := 2388) dL_law_2377 (by decide) ?_ ?_
                    · refine Ex_lv [] (lv' := []) rfl ?_
                      exact hj847 ()
                    · refine Ex_fload dL_law_2380 7 rfl ?_
                      refine Ex_fload dL_law_2382 7 rfl ?_
                      refine Ex_fcmp dL_law_2384 ?_
                      refine Ex_if_ne (tgt := 2390) dL_law_2385 (by decide) ?_ ?_
                      · refine Ex_lv [0, 1, 2, 3, 4, 5] (lv' := [(0, .ref a0), (1, .ref a520), (2, .ref a522), (3, .ref a524), (4, .ref a525), (5, .int v526)]) rfl ?_
                        exact hj842 ()
                      · refine Ex_lv [] (lv' := []) rfl ?_
                        exact hj847 ()
          · refine Ex_iconst (v := 0) dL_law_2350 (by decide) ?_
            exact Ex_zreturn dL_law_2351 rfl rfl
        | 38, _ =>
          refine ⟨2339, 2393, rfl, by decide, ?_⟩
          refine Ex_aload_n dL_law_2393 rfl 1 rfl ?_
          refine Ex_bnD (Inv_V (L_X1_meanLast hG a520) (lw_V q357 q358 q359 q45 q360) oe_1 ⟨rfl, hm_X1_meanLast⟩ (by decide) (by decide) dL_law_2394 rfl (Nat.le_of_ble_eq_true rfl)) (fun r848 => ?_)
          refine Ex_dstore (lv' := [(0, .ref a0), (1, .ref a520), (2, .ref a522), (3, .ref a524), (4, .ref a525), (5, .int v526), (6, .double r848)]) dL_law_2397 (by decide) [1, 2, 3, 4, 5, 6, 0] rfl ?_
          refine Ex_aload_n dL_law_2399 rfl 2 rfl ?_
          refine Ex_bnD (Inv_V (L_X6_meanLast hG a522) (lw_V q2617 q2618 q2619 q54 q2620) oe_15 ⟨rfl, hm_X6_meanLast⟩ (by decide) (by decide) dL_law_2400 rfl (Nat.le_of_ble_eq_true rfl)) (fun r849 => ?_)
          refine Ex_dstore (lv' := [(0, .ref a0), (1, .ref a520), (2, .ref a522), (3, .ref a524), (4, .ref a525), (5, .int v526), (6, .double r848), (8, .double r849)]) dL_law_2403 (by decide) [1, 2, 3, 4, 5, 6, 7, 0] rfl ?_
          refine Ex_dload dL_law_2405 6 rfl ?_
          refine Ex_dload dL_law_2407 7 rfl ?_
          refine Ex_dcmp dL_law_2409 ?_
          refine Ex_jn (γ := Unit) (pj := 2431) (fun v850 => [(0, .ref a0), (1, .ref a520), (2, .ref a522), (3, .ref a524), (4, .ref a525), (5, .int v526)]) (fun v850 => []) (fun v850 => ?_) (fun j851 hj851 => ?_)
          · refine Ex_goto (tgt := 2447) dL_law_2431 (by decide) ?_
            exact hj531 ()
          · refine Ex_if_eq (tgt := 2431) dL_law_2410 (by decide) ?_ ?_
            · refine Ex_lv [0, 1, 2, 3, 4, 5] (lv' := [(0, .ref a0), (1, .ref a520), (2, .ref a522), (3, .ref a524), (4, .ref a525), (5, .int v526)]) rfl ?_
              exact hj851 ()
            · refine Ex_dload dL_law_2413 6 rfl ?_
              refine Ex_dload dL_law_2415 6 rfl ?_
              refine Ex_dcmp dL_law_2417 ?_
              refine Ex_jn (γ := Unit) (pj := 2429) (fun v852 => []) (fun v852 => []) (fun v852 => ?_) (fun j853 hj853 => ?_)
              · refine Ex_iconst (v := 0) dL_law_2429 (by decide) ?_
                exact Ex_zreturn dL_law_2430 rfl rfl
              · refine Ex_if_eq (tgt := 2429) dL_law_2418 (by decide) ?_ ?_
                · refine Ex_lv [] (lv' := []) rfl ?_
                  exact hj853 ()
                · refine Ex_dload dL_law_2421 7 rfl ?_
                  refine Ex_dload dL_law_2423 7 rfl ?_
                  refine Ex_dcmp dL_law_2425 ?_
                  refine Ex_if_ne (tgt := 2431) dL_law_2426 (by decide) ?_ ?_
                  · refine Ex_lv [0, 1, 2, 3, 4, 5] (lv' := [(0, .ref a0), (1, .ref a520), (2, .ref a522), (3, .ref a524), (4, .ref a525), (5, .int v526)]) rfl ?_
                    exact hj851 ()
                  · refine Ex_lv [] (lv' := []) rfl ?_
                    exact hj853 ()
        | 39, _ =>
          refine ⟨2380, 2434, rfl, by decide, ?_⟩
          refine Ex_aload_n dL_law_2434 rfl 1 rfl ?_
          refine Ex_bnI (Inv_V (L_X1_isSound hG a520) (lw_V q366 q367 q368 q45 q369) oe_1 ⟨rfl, hm_X1_isSound⟩ (by decide) (by decide) dL_law_2435 rfl (Nat.le_of_ble_eq_true rfl)) (fun r854 => ?_)
          refine Ex_aload_n dL_law_2438 rfl 2 rfl ?_
          refine Ex_bnI (Inv_V (L_X6_isSound hG a522) (lw_V q2622 q2623 q2624 q54 q2625) oe_15 ⟨rfl, hm_X6_isSound⟩ (by decide) (by decide) dL_law_2439 rfl (Nat.le_of_ble_eq_true rfl)) (fun r855 => ?_)
          refine Ex_icmp_eq (tgt := 2447) dL_law_2442 (by decide) ?_ ?_
          · exact hj531 ()
          · refine Ex_iconst (v := 0) dL_law_2445 (by decide) ?_
            exact Ex_zreturn dL_law_2446 rfl rfl
        | n + 40, h => exact absurd h (by omega)
