-- QuorumAlmanacModel$Node.answeredByMost()I
def m_X7_answeredByMost (a0 : Nat) : Ms Int32 :=
  lp (fun j35 (v34 : Int32 × Int32) =>
      gR [16] 138 a0 fun x36 =>
      bn (ko [22] x36 (m_J2_size x36)) fun r37 =>
      if r37 < v34.2 then
        rt v34.1
      else
        gI [16] 54 a0 fun x38 =>
        lp (fun j40 (v39 : Int32 × Int32) =>
            if 5 ≤ v39.2 then
              bn (ko [16] a0 (m_X7_isMajority a0 v39.1)) fun r41 =>
              jn (fun (v42 : Int32) =>
                  j35 (v42, (v34.2 + 1)))
                fun j43 =>
                if r41 = 0 then
                  j43 v34.1
                else
                  j43 v34.2
            else
              gI [16] 54 a0 fun x44 =>
              jn (fun (v45 : Int32 × Int32) =>
                  j40 ((v45.2 ||| v45.1), (v39.2 + 1)))
                fun j46 =>
                jn (fun (v47 : Int32) =>
                    j46 (0, v47))
                  fun j48 =>
                  if v39.2 = x44 then
                    j48 v39.1
                  else
                    gR [16] 137 a0 fun x49 =>
                    aI 30 x49 v39.2 fun x50 =>
                    if x50 < v34.2 then
                      j48 v39.1
                    else
                      j46 ((1 <<< (v39.2 &&& 31)), v39.1))
          ((1 <<< (x38 &&& 31)), 0))
    (0, 1)
theorem hm_X7_answeredByMost : (yX7_answeredByMost.cls ≠ "java/lang/invoke/MethodHandle" ∧ yX7_answeredByMost.cls ≠ "java/lang/invoke/VarHandle" ∧ (parseMethodDescriptor yX7_answeredByMost.desc).map (fun d => d.parameters.length) = some 0) := by decide +kernel
set_option maxHeartbeats 4000000 in
set_option maxRecDepth 100000 in
theorem L_X7_answeredByMost {G : GT} (hG : GOK G) (a0 : Nat) : Cal G yX7_answeredByMost (ws_ yX7_answeredByMost cX7_answeredByMost 5 (Option.some Jvm.ClassFile.FieldType.int)) 9 212 [.ref a0] rI (m_X7_answeredByMost a0) := by
  refine Cal_of hG (by decide +kernel) (Nat.le_of_ble_eq_true rfl) (lv0 := [(0, .ref a0)]) rfl (fun X σ0 => ?_)
  delta m_X7_answeredByMost
  refine Ex_iconst (v := 0) dX7_answeredByMost_0 (by decide) ?_
  refine Ex_istore_n (lv' := [(0, .ref a0), (1, .int 0)]) dX7_answeredByMost_1 rfl (by decide) [1, 0] rfl ?_
  refine Ex_iconst (v := 1) dX7_answeredByMost_2 (by decide) ?_
  refine Ex_istore_n (lv' := [(0, .ref a0), (1, .int 0), (2, .int 1)]) dX7_answeredByMost_3 rfl (by decide) [1, 2, 0] rfl ?_
  refine Ex_lp (γ := Int32 × Int32) (pj := 4) (fun v34 => [(0, .ref a0), (1, .int v34.1), (2, .int v34.2)]) (fun v34 => []) (fun j35 hj35 v34 => ?_) (0, 1) rfl rfl
  refine Ex_iload_n dX7_answeredByMost_4 rfl 2 rfl ?_
  refine Ex_aload_n dX7_answeredByMost_5 rfl 0 rfl ?_
  refine Ex_gR dX7_answeredByMost_6 lk_X7_50 rfl (fun x36 => ?_)
  refine Ex_bnI (Inv_V (L_J2_size hG x36) (lw_V q2124 q112 q113 q48 q114) oe_22 ⟨rfl, hm_J2_size⟩ (by decide) (by decide) dX7_answeredByMost_9 rfl (Nat.le_of_ble_eq_true rfl)) (fun r37 => ?_)
  refine Ex_icmp_gt (tgt := 88) dX7_answeredByMost_12 (by decide) ?_ ?_
  · refine Ex_iload_n dX7_answeredByMost_88 rfl 1 rfl ?_
    exact Ex_ireturn dX7_answeredByMost_89 rfl
  · refine Ex_iconst (v := 1) dX7_answeredByMost_15 (by decide) ?_
    refine Ex_aload_n dX7_answeredByMost_16 rfl 0 rfl ?_
    refine Ex_gI dX7_answeredByMost_17 lk_X7_53 rfl (fun x38 => ?_)
    refine Ex_ishl dX7_answeredByMost_20 ?_
    refine Ex_istore_n (lv' := [(0, .ref a0), (1, .int v34.1), (2, .int v34.2), (3, .int (1 <<< (x38 &&& 31)))]) dX7_answeredByMost_21 rfl (by decide) [1, 2, 3, 0] rfl ?_
    refine Ex_iconst (v := 0) dX7_answeredByMost_22 (by decide) ?_
    refine Ex_istore (lv' := [(0, .ref a0), (1, .int v34.1), (2, .int v34.2), (3, .int (1 <<< (x38 &&& 31))), (4, .int 0)]) dX7_answeredByMost_23 (by decide) [1, 2, 3, 4, 0] rfl ?_
    refine Ex_lp (γ := Int32 × Int32) (pj := 25) (fun v39 => [(0, .ref a0), (1, .int v34.1), (2, .int v34.2), (3, .int v39.1), (4, .int v39.2)]) (fun v39 => []) (fun j40 hj40 v39 => ?_) ((1 <<< (x38 &&& 31)), 0) rfl rfl
    refine Ex_iload dX7_answeredByMost_25 4 rfl ?_
    refine Ex_iconst (v := 5) dX7_answeredByMost_27 (by decide) ?_
    refine Ex_icmp_ge (tgt := 68) dX7_answeredByMost_28 (by decide) ?_ ?_
    · refine Ex_aload_n dX7_answeredByMost_68 rfl 0 rfl ?_
      refine Ex_iload_n dX7_answeredByMost_69 rfl 3 rfl ?_
      refine Ex_bnI (Inv_V (L_X7_isMajority hG a0 v39.1) (lw_V q2243 q2244 q2245 q55 q2246) oe_16 ⟨rfl, hm_X7_isMajority⟩ (by decide) (by decide) dX7_answeredByMost_70 rfl (Nat.le_of_ble_eq_true rfl)) (fun r41 => ?_)
      refine Ex_jn (γ := Int32) (pj := 81) (fun v42 => [(0, .ref a0), (2, .int v34.2)]) (fun v42 => [.int v42]) (fun v42 => ?_) (fun j43 hj43 => ?_)
      · refine Ex_istore_n (lv' := [(0, .ref a0), (1, .int v42), (2, .int v34.2)]) dX7_answeredByMost_81 rfl (by decide) [1, 0, 2] rfl ?_
        refine Ex_iinc (j := 2) (lv' := [(0, .ref a0), (1, .int v42), (2, .int (v34.2 + 1))]) dX7_answeredByMost_82 rfl rfl (by decide) [1, 2, 0] rfl ?_
        refine Ex_goto (tgt := 4) dX7_answeredByMost_85 (by decide) ?_
        exact hj35 (v42, (v34.2 + 1))
      · refine Ex_if_eq (tgt := 80) dX7_answeredByMost_73 (by decide) ?_ ?_
        · refine Ex_iload_n dX7_answeredByMost_80 rfl 1 rfl ?_
          refine Ex_lv [0, 2] (lv' := [(0, .ref a0), (2, .int v34.2)]) rfl ?_
          exact hj43 v34.1
        · refine Ex_iload_n dX7_answeredByMost_76 rfl 2 rfl ?_
          refine Ex_goto (tgt := 81) dX7_answeredByMost_77 (by decide) ?_
          refine Ex_lv [0, 2] (lv' := [(0, .ref a0), (2, .int v34.2)]) rfl ?_
          exact hj43 v34.2
    · refine Ex_iload_n dX7_answeredByMost_31 rfl 3 rfl ?_
      refine Ex_iload dX7_answeredByMost_32 4 rfl ?_
      refine Ex_aload_n dX7_answeredByMost_34 rfl 0 rfl ?_
      refine Ex_gI dX7_answeredByMost_35 lk_X7_53 rfl (fun x44 => ?_)
      refine Ex_jn (γ := Int32 × Int32) (pj := 60) (fun v45 => [(0, .ref a0), (1, .int v34.1), (2, .int v34.2), (4, .int v39.2)]) (fun v45 => [.int v45.1, .int v45.2]) (fun v45 => ?_) (fun j46 hj46 => ?_)
      · refine Ex_ior dX7_answeredByMost_60 ?_
        refine Ex_istore_n (lv' := [(0, .ref a0), (1, .int v34.1), (2, .int v34.2), (3, .int (v45.2 ||| v45.1)), (4, .int v39.2)]) dX7_answeredByMost_61 rfl (by decide) [1, 2, 3, 0, 4] rfl ?_
        refine Ex_iinc (j := 4) (lv' := [(0, .ref a0), (1, .int v34.1), (2, .int v34.2), (3, .int (v45.2 ||| v45.1)), (4, .int (v39.2 + 1))]) dX7_answeredByMost_62 rfl rfl (by decide) [1, 2, 3, 4, 0] rfl ?_
        refine Ex_goto (tgt := 25) dX7_answeredByMost_65 (by decide) ?_
        exact hj40 ((v45.2 ||| v45.1), (v39.2 + 1))
      · refine Ex_jn (γ := Int32) (pj := 59) (fun v47 => [(0, .ref a0), (1, .int v34.1), (2, .int v34.2), (4, .int v39.2)]) (fun v47 => [.int v47]) (fun v47 => ?_) (fun j48 hj48 => ?_)
        · refine Ex_iconst (v := 0) dX7_answeredByMost_59 (by decide) ?_
          exact hj46 (0, v47)
        · refine Ex_icmp_eq (tgt := 59) dX7_answeredByMost_38 (by decide) ?_ ?_
          · refine Ex_lv [0, 1, 2, 4] (lv' := [(0, .ref a0), (1, .int v34.1), (2, .int v34.2), (4, .int v39.2)]) rfl ?_
            exact hj48 v39.1
          · refine Ex_aload_n dX7_answeredByMost_41 rfl 0 rfl ?_
            refine Ex_gR dX7_answeredByMost_42 lk_X7_47 rfl (fun x49 => ?_)
            refine Ex_iload dX7_answeredByMost_45 4 rfl ?_
            refine Ex_aI_i dX7_answeredByMost_47 (fun x50 => ?_)
            refine Ex_iload_n dX7_answeredByMost_48 rfl 2 rfl ?_
            refine Ex_icmp_lt (tgt := 59) dX7_answeredByMost_49 (by decide) ?_ ?_
            · refine Ex_lv [0, 1, 2, 4] (lv' := [(0, .ref a0), (1, .int v34.1), (2, .int v34.2), (4, .int v39.2)]) rfl ?_
              exact hj48 v39.1
            · refine Ex_iconst (v := 1) dX7_answeredByMost_52 (by decide) ?_
              refine Ex_iload dX7_answeredByMost_53 4 rfl ?_
              refine Ex_ishl dX7_answeredByMost_55 ?_
              refine Ex_goto (tgt := 60) dX7_answeredByMost_56 (by decide) ?_
              refine Ex_lv [0, 1, 2, 4] (lv' := [(0, .ref a0), (1, .int v34.1), (2, .int v34.2), (4, .int v39.2)]) rfl ?_
              exact hj46 ((1 <<< (v39.2 &&& 31)), v39.1)
-- QuorumAlmanacModel$Node.looksAtReads()V
def m_X7_looksAtReads (a0 : Nat) : Ms Unit :=
  gI [16] 58 a0 fun x50 =>
  jn (fun (v51 : Int32) =>
      gR [16] 139 a0 fun x53 =>
      gR [15] 130 x53 fun x54 =>
      bn (ko [22] x54 (m_J2_iterator x54)) fun r55 =>
      lp (fun j57 (v56 : Unit) =>
          bn (ko [23] r55 (m_J17_hasNext r55)) fun r58 =>
          if r58 = 0 then
            rt ()
          else
            bn (ko [23] r55 (m_J17_next r55)) fun r59 =>
            ko [21] r59 <|
            gI [21] 86 r59 fun x60 =>
            gI [16] 54 a0 fun x61 =>
            jn (fun (v62 : Unit) =>
                j57 ())
              fun j63 =>
              if ¬ x60 = x61 then
                j63 ()
              else
                gI [21] 90 r59 fun x64 =>
                if ¬ x64 = 119 then
                  j63 ()
                else
                  gI [21] 89 r59 fun x65 =>
                  if v51 < x65 then
                    j63 ()
                  else
                    pV [21] 90 r59 (.int 114) <|
                    gR [16] 134 a0 fun x66 =>
                    gR [18] 141 x66 fun x67 =>
                    gI [21] 88 r59 fun x68 =>
                    aI 30 x67 x68 fun x69 =>
                    pV [21] 91 r59 (.int x69) <|
                    j63 ())
        ())
    fun j52 =>
    if ¬ x50 = 108 then
      j52 0
    else
      bn (ko [16] a0 (m_X7_answeredByMost a0)) fun r70 =>
      j52 r70
theorem hm_X7_looksAtReads : (yX7_looksAtReads.cls ≠ "java/lang/invoke/MethodHandle" ∧ yX7_looksAtReads.cls ≠ "java/lang/invoke/VarHandle" ∧ (parseMethodDescriptor yX7_looksAtReads.desc).map (fun d => d.parameters.length) = some 0) := by decide +kernel
set_option maxHeartbeats 4000000 in
set_option maxRecDepth 100000 in
theorem L_X7_looksAtReads {G : GT} (hG : GOK G) (a0 : Nat) : Cal G yX7_looksAtReads (ws_ yX7_looksAtReads cX7_looksAtReads 4 (Option.none : Option Jvm.ClassFile.FieldType)) 10 236 [.ref a0] rU (m_X7_looksAtReads a0) := by
  refine Cal_of hG (by decide +kernel) (Nat.le_of_ble_eq_true rfl) (lv0 := [(0, .ref a0)]) rfl (fun X σ0 => ?_)
  delta m_X7_looksAtReads
  refine Ex_aload_n dX7_looksAtReads_0 rfl 0 rfl ?_
  refine Ex_gI dX7_looksAtReads_1 lk_X7_19 rfl (fun x50 => ?_)
  refine Ex_bipush (v := 108) dX7_looksAtReads_4 (by decide) ?_
  refine Ex_jn (γ := Int32) (pj := 17) (fun v51 => [(0, .ref a0)]) (fun v51 => [.int v51]) (fun v51 => ?_) (fun j52 hj52 => ?_)
  · refine Ex_istore_n (lv' := [(0, .ref a0), (1, .int v51)]) dX7_looksAtReads_17 rfl (by decide) [1, 0] rfl ?_
    refine Ex_aload_n dX7_looksAtReads_18 rfl 0 rfl ?_
    refine Ex_gR dX7_looksAtReads_19 lk_X7_3 rfl (fun x53 => ?_)
    refine Ex_gR dX7_looksAtReads_22 lk_X7_136 rfl (fun x54 => ?_)
    refine Ex_bnR (Inv_V (L_J2_iterator hG x54) (lw_V q2319 q1149 q1150 q48 q1151) oe_22 ⟨rfl, hm_J2_iterator⟩ (by decide) (by decide) dX7_looksAtReads_25 rfl (Nat.le_of_ble_eq_true rfl)) (fun r55 => ?_)
    refine Ex_astore_n (lv' := [(0, .ref a0), (1, .int v51), (2, .ref r55)]) dX7_looksAtReads_28 rfl (by decide) [1, 2, 0] rfl ?_
    refine Ex_lp (γ := Unit) (pj := 29) (fun v56 => [(0, .ref a0), (1, .int v51), (2, .ref r55)]) (fun v56 => []) (fun j57 hj57 v56 => ?_) () rfl rfl
    refine Ex_aload_n dX7_looksAtReads_29 rfl 2 rfl ?_
    refine Ex_bnI (Inv_F (L_J17_hasNext hG r55) (lw_F q2321 q1176 q1178 q77 q1180) q1174 q1173 q1179 q1177 q1175 oe_23 hx_Iterator_hasNext (by decide) (by decide) dX7_looksAtReads_30 rfl (Nat.le_of_ble_eq_true rfl)) (fun r58 => ?_)
    refine Ex_if_eq (tgt := 101) dX7_looksAtReads_35 (by decide) ?_ ?_
    · exact Ex_vreturn dX7_looksAtReads_101 rfl
    · refine Ex_aload_n dX7_looksAtReads_38 rfl 2 rfl ?_
      refine Ex_bnR (Inv_F (L_J17_next hG r55) (lw_F q2323 q1185 q1187 q77 q1189) q1184 q1183 q1188 q1186 q1175 oe_23 hx_Iterator_next (by decide) (by decide) dX7_looksAtReads_39 rfl (Nat.le_of_ble_eq_true rfl)) (fun r59 => ?_)
      refine Ex_ko dX7_looksAtReads_44 q2324 oc_QuorumAlmanacModel_Read_21 ?_
      refine Ex_astore_n (lv' := [(0, .ref a0), (1, .int v51), (2, .ref r55), (3, .ref r59)]) dX7_looksAtReads_47 rfl (by decide) [1, 2, 3, 0] rfl ?_
      refine Ex_aload_n dX7_looksAtReads_48 rfl 3 rfl ?_
      refine Ex_gI dX7_looksAtReads_49 lk_X7_154 rfl (fun x60 => ?_)
      refine Ex_aload_n dX7_looksAtReads_52 rfl 0 rfl ?_
      refine Ex_gI dX7_looksAtReads_53 lk_X7_53 rfl (fun x61 => ?_)
      refine Ex_jn (γ := Unit) (pj := 98) (fun v62 => [(0, .ref a0), (1, .int v51), (2, .ref r55)]) (fun v62 => []) (fun v62 => ?_) (fun j63 hj63 => ?_)
      · refine Ex_goto (tgt := 29) dX7_looksAtReads_98 (by decide) ?_
        exact hj57 ()
      · refine Ex_icmp_ne (tgt := 98) dX7_looksAtReads_56 (by decide) ?_ ?_
        · refine Ex_lv [0, 1, 2] (lv' := [(0, .ref a0), (1, .int v51), (2, .ref r55)]) rfl ?_
          exact hj63 ()
        · refine Ex_aload_n dX7_looksAtReads_59 rfl 3 rfl ?_
          refine Ex_gI dX7_looksAtReads_60 lk_X7_157 rfl (fun x64 => ?_)
          refine Ex_bipush (v := 119) dX7_looksAtReads_63 (by decide) ?_
          refine Ex_icmp_ne (tgt := 98) dX7_looksAtReads_65 (by decide) ?_ ?_
          · refine Ex_lv [0, 1, 2] (lv' := [(0, .ref a0), (1, .int v51), (2, .ref r55)]) rfl ?_
            exact hj63 ()
          · refine Ex_aload_n dX7_looksAtReads_68 rfl 3 rfl ?_
            refine Ex_gI dX7_looksAtReads_69 lk_X7_255 rfl (fun x65 => ?_)
            refine Ex_iload_n dX7_looksAtReads_72 rfl 1 rfl ?_
            refine Ex_icmp_gt (tgt := 98) dX7_looksAtReads_73 (by decide) ?_ ?_
            · refine Ex_lv [0, 1, 2] (lv' := [(0, .ref a0), (1, .int v51), (2, .ref r55)]) rfl ?_
              exact hj63 ()
            · refine Ex_aload_n dX7_looksAtReads_76 rfl 3 rfl ?_
              refine Ex_bipush (v := 114) dX7_looksAtReads_77 (by decide) ?_
              refine Ex_pV dX7_looksAtReads_79 lk_X7_157 rfl rfl rfl rfl ?_
              refine Ex_aload_n dX7_looksAtReads_82 rfl 3 rfl ?_
              refine Ex_aload_n dX7_looksAtReads_83 rfl 0 rfl ?_
              refine Ex_gR dX7_looksAtReads_84 lk_X7_68 rfl (fun x66 => ?_)
              refine Ex_gR dX7_looksAtReads_87 lk_X7_256 rfl (fun x67 => ?_)
              refine Ex_aload_n dX7_looksAtReads_90 rfl 3 rfl ?_
              refine Ex_gI dX7_looksAtReads_91 lk_X7_259 rfl (fun x68 => ?_)
              refine Ex_aI_i dX7_looksAtReads_94 (fun x69 => ?_)
              refine Ex_pV dX7_looksAtReads_95 lk_X7_262 rfl rfl rfl rfl ?_
              refine Ex_lv [0, 1, 2] (lv' := [(0, .ref a0), (1, .int v51), (2, .ref r55)]) rfl ?_
              exact hj63 ()
  · refine Ex_icmp_ne (tgt := 16) dX7_looksAtReads_6 (by decide) ?_ ?_
    · refine Ex_iconst (v := 0) dX7_looksAtReads_16 (by decide) ?_
      exact hj52 0
    · refine Ex_aload_n dX7_looksAtReads_9 rfl 0 rfl ?_
      refine Ex_bnI (Inv_V (L_X7_answeredByMost hG a0) (lw_V q2329 q2330 q2331 q55 q2332) oe_16 ⟨rfl, hm_X7_answeredByMost⟩ (by decide) (by decide) dX7_looksAtReads_10 rfl (Nat.le_of_ble_eq_true rfl)) (fun r70 => ?_)
      refine Ex_goto (tgt := 17) dX7_looksAtReads_13 (by decide) ?_
      exact hj52 r70
-- QuorumAlmanacModel$Node.syncs()I
def m_X7_syncs (a0 : Nat) : Ms Int32 :=
  bn (ko [16] a0 (m_X7_last a0)) fun r32 =>
  gI [16] 60 a0 fun x33 =>
  bn (ko [16] a0 (m_X7_last a0)) fun r34 =>
  pV [16] 60 a0 (.int r34) <|
  gI [16] 58 a0 fun x35 =>
  jn (fun (v36 : Unit) =>
      rt (r32 - x33))
    fun j37 =>
    if ¬ x35 = 108 then
      gI [16] 58 a0 fun x38 =>
      if ¬ x38 = 102 then
        j37 ()
      else
        gI [16] 64 a0 fun x39 =>
        if x39 = (-1) then
          j37 ()
        else
          bn (ko [16] a0 (m_X7_answers a0)) fun _ =>
          j37 ()
    else
      bn (ko [16] a0 (m_X7_finds a0)) fun _ =>
      bn (ko [16] a0 (m_X7_looksAtReads a0)) fun _ =>
      j37 ()
theorem hm_X7_syncs : (yX7_syncs.cls ≠ "java/lang/invoke/MethodHandle" ∧ yX7_syncs.cls ≠ "java/lang/invoke/VarHandle" ∧ (parseMethodDescriptor yX7_syncs.desc).map (fun d => d.parameters.length) = some 0) := by decide +kernel
set_option maxHeartbeats 4000000 in
set_option maxRecDepth 100000 in
theorem L_X7_syncs {G : GT} (hG : GOK G) (a0 : Nat) : Cal G yX7_syncs (ws_ yX7_syncs cX7_syncs 2 (Option.some Jvm.ClassFile.FieldType.int)) 11 260 [.ref a0] rI (m_X7_syncs a0) := by
  refine Cal_of hG (by decide +kernel) (Nat.le_of_ble_eq_true rfl) (lv0 := [(0, .ref a0)]) rfl (fun X σ0 => ?_)
  delta m_X7_syncs
  refine Ex_aload_n dX7_syncs_0 rfl 0 rfl ?_
  refine Ex_bnI (Inv_V (L_X7_last hG a0) (lw_V q2138 q2139 q2140 q55 q2141) oe_16 ⟨rfl, hm_X7_last⟩ (by decide) (by decide) dX7_syncs_1 rfl (Nat.le_of_ble_eq_true rfl)) (fun r32 => ?_)
  refine Ex_aload_n dX7_syncs_4 rfl 0 rfl ?_
  refine Ex_gI dX7_syncs_5 lk_X7_243 rfl (fun x33 => ?_)
  refine Ex_isub dX7_syncs_8 ?_
  refine Ex_istore_n (lv' := [(0, .ref a0), (1, .int (r32 - x33))]) dX7_syncs_9 rfl (by decide) [1, 0] rfl ?_
  refine Ex_aload_n dX7_syncs_10 rfl 0 rfl ?_
  refine Ex_aload_n dX7_syncs_11 rfl 0 rfl ?_
  refine Ex_bnI (Inv_V (L_X7_last hG a0) (lw_V q2138 q2139 q2140 q55 q2141) oe_16 ⟨rfl, hm_X7_last⟩ (by decide) (by decide) dX7_syncs_12 rfl (Nat.le_of_ble_eq_true rfl)) (fun r34 => ?_)
  refine Ex_pV dX7_syncs_15 lk_X7_243 rfl rfl rfl rfl ?_
  refine Ex_aload_n dX7_syncs_18 rfl 0 rfl ?_
  refine Ex_gI dX7_syncs_19 lk_X7_19 rfl (fun x35 => ?_)
  refine Ex_bipush (v := 108) dX7_syncs_22 (by decide) ?_
  refine Ex_jn (γ := Unit) (pj := 59) (fun v36 => [(1, .int (r32 - x33))]) (fun v36 => []) (fun v36 => ?_) (fun j37 hj37 => ?_)
  · refine Ex_iload_n dX7_syncs_59 rfl 0 rfl ?_
    exact Ex_ireturn dX7_syncs_60 rfl
  · refine Ex_icmp_ne (tgt := 38) dX7_syncs_24 (by decide) ?_ ?_
    · refine Ex_aload_n dX7_syncs_38 rfl 0 rfl ?_
      refine Ex_gI dX7_syncs_39 lk_X7_19 rfl (fun x38 => ?_)
      refine Ex_bipush (v := 102) dX7_syncs_42 (by decide) ?_
      refine Ex_icmp_ne (tgt := 59) dX7_syncs_44 (by decide) ?_ ?_
      · refine Ex_lv [1] (lv' := [(1, .int (r32 - x33))]) rfl ?_
        exact hj37 ()
      · refine Ex_aload_n dX7_syncs_47 rfl 0 rfl ?_
        refine Ex_gI dX7_syncs_48 lk_X7_37 rfl (fun x39 => ?_)
        refine Ex_iconst (v := (-1)) dX7_syncs_51 (by decide) ?_
        refine Ex_icmp_eq (tgt := 59) dX7_syncs_52 (by decide) ?_ ?_
        · refine Ex_lv [1] (lv' := [(1, .int (r32 - x33))]) rfl ?_
          exact hj37 ()
        · refine Ex_aload_n dX7_syncs_55 rfl 0 rfl ?_
          refine Ex_bnU (Inv_V (L_X7_answers hG a0) (lw_V q2333 q2334 q2335 q55 q2336) oe_16 ⟨rfl, hm_X7_answers⟩ (by decide) (by decide) dX7_syncs_56 rfl (Nat.le_of_ble_eq_true rfl)) (fun _ => ?_)
          refine Ex_lv [1] (lv' := [(1, .int (r32 - x33))]) rfl ?_
          exact hj37 ()
    · refine Ex_aload_n dX7_syncs_27 rfl 0 rfl ?_
      refine Ex_bnU (Inv_V (L_X7_finds hG a0) (lw_V q2294 q2295 q2296 q55 q2297) oe_16 ⟨rfl, hm_X7_finds⟩ (by decide) (by decide) dX7_syncs_28 rfl (Nat.le_of_ble_eq_true rfl)) (fun _ => ?_)
      refine Ex_aload_n dX7_syncs_31 rfl 0 rfl ?_
      refine Ex_bnU (Inv_V (L_X7_looksAtReads hG a0) (lw_V q2325 q2326 q2327 q55 q2328) oe_16 ⟨rfl, hm_X7_looksAtReads⟩ (by decide) (by decide) dX7_syncs_32 rfl (Nat.le_of_ble_eq_true rfl)) (fun _ => ?_)
      refine Ex_goto (tgt := 59) dX7_syncs_35 (by decide) ?_
      refine Ex_lv [1] (lv' := [(1, .int (r32 - x33))]) rfl ?_
      exact hj37 ()
-- QuorumAlmanacModel.sync(I)I
def m_X6_sync (a0 : Nat) (x1 : Int32) : Ms Int32 :=
  bn (ko [15] a0 (m_X6_failsDown a0 x1)) fun r28 =>
  jn (fun (v29 : Int32) =>
      rt v29)
    fun j30 =>
    if r28 = 0 then
      gR [15] 128 a0 fun x31 =>
      aR 34 x31 x1 fun x32 =>
      bn (ko [16] x32 (m_X7_syncs x32)) fun r33 =>
      j30 r33
    else
      j30 0
theorem hm_X6_sync : (yX6_sync.cls ≠ "java/lang/invoke/MethodHandle" ∧ yX6_sync.cls ≠ "java/lang/invoke/VarHandle" ∧ (parseMethodDescriptor yX6_sync.desc).map (fun d => d.parameters.length) = some 1) := by decide +kernel
set_option maxHeartbeats 4000000 in
set_option maxRecDepth 100000 in
theorem L_X6_sync {G : GT} (hG : GOK G) (a0 : Nat) (x1 : Int32) : Cal G yX6_sync (ws_ yX6_sync cX6_sync 2 (Option.some Jvm.ClassFile.FieldType.int)) 12 281 [.ref a0, .int x1] rI (m_X6_sync a0 x1) := by
  refine Cal_of hG (by decide +kernel) (Nat.le_of_ble_eq_true rfl) (lv0 := [(0, .ref a0), (1, .int x1)]) rfl (fun X σ0 => ?_)
  delta m_X6_sync
  refine Ex_aload_n dX6_sync_0 rfl 0 rfl ?_
  refine Ex_iload_n dX6_sync_1 rfl 1 rfl ?_
  refine Ex_bnI (Inv_V (L_X6_failsDown hG a0 x1) (lw_V q2286 q2288 qs37 q54 q2289) oe_15 ⟨rfl, hm_X6_failsDown⟩ (by decide) (by decide) dX6_sync_2 rfl (Nat.le_of_ble_eq_true rfl)) (fun r28 => ?_)
  refine Ex_jn (γ := Int32) (pj := 21) (fun v29 => []) (fun v29 => [.int v29]) (fun v29 => ?_) (fun j30 hj30 => ?_)
  · exact Ex_ireturn dX6_sync_21 rfl
  · refine Ex_if_eq (tgt := 12) dX6_sync_5 (by decide) ?_ ?_
    · refine Ex_aload_n dX6_sync_12 rfl 0 rfl ?_
      refine Ex_gR dX6_sync_13 lk_X6_15 rfl (fun x31 => ?_)
      refine Ex_iload_n dX6_sync_16 rfl 1 rfl ?_
      refine Ex_aR (j := 4) rfl rfl dX6_sync_17 (fun x32 => ?_)
      refine Ex_bnI (Inv_V (L_X7_syncs hG x32) (lw_V q2290 q2291 q2292 q55 q2293) oe_16 ⟨rfl, hm_X7_syncs⟩ (by decide) (by decide) dX6_sync_18 rfl (Nat.le_of_ble_eq_true rfl)) (fun r33 => ?_)
      refine Ex_lv [] (lv' := []) rfl ?_
      exact hj30 r33
    · refine Ex_iconst (v := 0) dX6_sync_8 (by decide) ?_
      refine Ex_goto (tgt := 21) dX6_sync_9 (by decide) ?_
      refine Ex_lv [] (lv' := []) rfl ?_
      exact hj30 0
-- QuorumAlmanacModel$Node.cuts(I)V
def m_X7_cuts (a0 : Nat) (x1 : Int32) : Ms Unit :=
  lp (fun j35 (v34 : Unit) =>
      bn (ko [16] a0 (m_X7_last a0)) fun r36 =>
      if r36 < x1 then
        gI [16] 60 a0 fun x37 =>
        bn (ko [16] a0 (m_X7_last a0)) fun r38 =>
        pV [16] 60 a0 (.int (iMin x37 r38)) <|
        rt ()
      else
        gR [16] 133 a0 fun x39 =>
        gR [16] 133 a0 fun x40 =>
        bn (ko [22] x40 (m_J2_size x40)) fun r41 =>
        bn (ko [22] x39 (m_J2_remove x39 (r41 - 1))) fun r42 =>
        ko [20] r42 <|
        j35 ())
    ()
theorem hm_X7_cuts : (yX7_cuts.cls ≠ "java/lang/invoke/MethodHandle" ∧ yX7_cuts.cls ≠ "java/lang/invoke/VarHandle" ∧ (parseMethodDescriptor yX7_cuts.desc).map (fun d => d.parameters.length) = some 1) := by decide +kernel
set_option maxHeartbeats 4000000 in
set_option maxRecDepth 100000 in
theorem L_X7_cuts {G : GT} (hG : GOK G) (a0 : Nat) (x1 : Int32) : Cal G yX7_cuts (ws_ yX7_cuts cX7_cuts 3 (Option.none : Option Jvm.ClassFile.FieldType)) 5 126 [.ref a0, .int x1] rU (m_X7_cuts a0 x1) := by
  refine Cal_of hG (by decide +kernel) (Nat.le_of_ble_eq_true rfl) (lv0 := [(0, .ref a0), (1, .int x1)]) rfl (fun X σ0 => ?_)
  delta m_X7_cuts
  refine Ex_lp (γ := Unit) (pj := 0) (fun v34 => [(0, .ref a0), (1, .int x1)]) (fun v34 => []) (fun j35 hj35 v34 => ?_) () rfl rfl
  refine Ex_aload_n dX7_cuts_0 rfl 0 rfl ?_
  refine Ex_bnI (Inv_V (L_X7_last hG a0) (lw_V q2138 q2139 q2140 q55 q2141) oe_16 ⟨rfl, hm_X7_last⟩ (by decide) (by decide) dX7_cuts_1 rfl (Nat.le_of_ble_eq_true rfl)) (fun r36 => ?_)
  refine Ex_iload_n dX7_cuts_4 rfl 1 rfl ?_
  refine Ex_icmp_lt (tgt := 31) dX7_cuts_5 (by decide) ?_ ?_
  · refine Ex_aload_n dX7_cuts_31 rfl 0 rfl ?_
    refine Ex_aload_n dX7_cuts_32 rfl 0 rfl ?_
    refine Ex_gI dX7_cuts_33 lk_X7_243 rfl (fun x37 => ?_)
    refine Ex_aload_n dX7_cuts_36 rfl 0 rfl ?_
    refine Ex_bnI (Inv_V (L_X7_last hG a0) (lw_V q2138 q2139 q2140 q55 q2141) oe_16 ⟨rfl, hm_X7_last⟩ (by decide) (by decide) dX7_cuts_37 rfl (Nat.le_of_ble_eq_true rfl)) (fun r38 => ?_)
    refine Ex_mmin dX7_cuts_40 q2337 q149 q49 q150 (by decide) (Nat.le_of_ble_eq_true rfl) ?_
    refine Ex_pV dX7_cuts_43 lk_X7_243 rfl rfl rfl rfl ?_
    exact Ex_vreturn dX7_cuts_46 rfl
  · refine Ex_aload_n dX7_cuts_8 rfl 0 rfl ?_
    refine Ex_gR dX7_cuts_9 lk_X7_30 rfl (fun x39 => ?_)
    refine Ex_aload_n dX7_cuts_12 rfl 0 rfl ?_
    refine Ex_gR dX7_cuts_13 lk_X7_30 rfl (fun x40 => ?_)
    refine Ex_bnI (Inv_V (L_J2_size hG x40) (lw_V q2124 q112 q113 q48 q114) oe_22 ⟨rfl, hm_J2_size⟩ (by decide) (by decide) dX7_cuts_16 rfl (Nat.le_of_ble_eq_true rfl)) (fun r41 => ?_)
    refine Ex_iconst (v := 1) dX7_cuts_19 (by decide) ?_
    refine Ex_isub dX7_cuts_20 ?_
    refine Ex_bnR (Inv_V (L_J2_remove hG x39 (r41 - 1)) (lw_V q2350 q1086 q1087 q48 q1088) oe_22 ⟨rfl, hm_J2_remove⟩ (by decide) (by decide) dX7_cuts_21 rfl (Nat.le_of_ble_eq_true rfl)) (fun r42 => ?_)
    refine Ex_ko dX7_cuts_24 q2154 oc_QuorumAlmanacModel_Entry_20 ?_
    refine Ex_astore_n (lv' := [(0, .ref a0), (1, .int x1), (2, .ref r42)]) dX7_cuts_27 rfl (by decide) [1, 2, 0] rfl ?_
    refine Ex_goto (tgt := 0) dX7_cuts_28 (by decide) ?_
    refine Ex_lv [0, 1] (lv' := [(0, .ref a0), (1, .int x1)]) rfl ?_
    exact hj35 ()
-- QuorumAlmanacModel$Store.copy()LQuorumAlmanacModel$Store;
def m_X9_copy (a0 : Nat) : Ms Nat :=
  nO 18 2 dfl fun a34 =>
  bn (m_X9_init a34) fun _ =>
  lp (fun j36 (v35 : Int32) =>
      if 20 ≤ v35 then
        rt a34
      else
        gR [18] 141 a34 fun x37 =>
        gR [18] 141 a0 fun x38 =>
        aI 30 x38 v35 fun x39 =>
        sV 30 x37 v35 (.int x39) <|
        gR [18] 142 a34 fun x40 =>
        gR [18] 142 a0 fun x41 =>
        aI 30 x41 v35 fun x42 =>
        sV 30 x40 v35 (.int x42) <|
        j36 (v35 + 1))
    0
theorem hm_X9_copy : (yX9_copy.cls ≠ "java/lang/invoke/MethodHandle" ∧ yX9_copy.cls ≠ "java/lang/invoke/VarHandle" ∧ (parseMethodDescriptor yX9_copy.desc).map (fun d => d.parameters.length) = some 0) := by decide +kernel
set_option maxHeartbeats 4000000 in
set_option maxRecDepth 100000 in
theorem L_X9_copy {G : GT} (hG : GOK G) (a0 : Nat) : Cal G yX9_copy (ws_ yX9_copy cX9_copy 3 (Option.some (Jvm.ClassFile.FieldType.object "QuorumAlmanacModel$Store"))) 3 81 [.ref a0] rR (m_X9_copy a0) := by
  refine Cal_of hG (by decide +kernel) (Nat.le_of_ble_eq_true rfl) (lv0 := [(0, .ref a0)]) rfl (fun X σ0 => ?_)
  delta m_X9_copy
  refine Ex_nO (ci := 17) (q := qcl 17) dX9_copy_0 rfl q2355 q1950 q57 (fun a34 => ?_)
  refine Ex_dup rfl dX9_copy_3 ?_
  refine Ex_bnU (Inv_I (L_X9_init hG a34) q57 q2356 q1952 q1953 rfl hm_X9_init (by decide) (by decide) dX9_copy_4 rfl (Nat.le_of_ble_eq_true rfl)) (fun _ => ?_)
  refine Ex_astore_n (lv' := [(0, .ref a0), (1, .ref a34)]) dX9_copy_7 rfl (by decide) [1, 0] rfl ?_
  refine Ex_iconst (v := 0) dX9_copy_8 (by decide) ?_
  refine Ex_istore_n (lv' := [(0, .ref a0), (1, .ref a34), (2, .int 0)]) dX9_copy_9 rfl (by decide) [1, 2, 0] rfl ?_
  refine Ex_lp (γ := Int32) (pj := 10) (fun v35 => [(0, .ref a0), (1, .ref a34), (2, .int v35)]) (fun v35 => []) (fun j36 hj36 v35 => ?_) 0 rfl rfl
  refine Ex_iload_n dX9_copy_10 rfl 2 rfl ?_
  refine Ex_bipush (v := 20) dX9_copy_11 (by decide) ?_
  refine Ex_icmp_ge (tgt := 46) dX9_copy_13 (by decide) ?_ ?_
  · refine Ex_aload_n dX9_copy_46 rfl 1 rfl ?_
    exact Ex_areturn dX9_copy_47 rfl (Or.inl ⟨_, rfl⟩)
  · refine Ex_aload_n dX9_copy_16 rfl 1 rfl ?_
    refine Ex_gR dX9_copy_17 lk_X9_9 rfl (fun x37 => ?_)
    refine Ex_iload_n dX9_copy_20 rfl 2 rfl ?_
    refine Ex_aload_n dX9_copy_21 rfl 0 rfl ?_
    refine Ex_gR dX9_copy_22 lk_X9_9 rfl (fun x38 => ?_)
    refine Ex_iload_n dX9_copy_25 rfl 2 rfl ?_
    refine Ex_aI_i dX9_copy_26 (fun x39 => ?_)
    refine Ex_iast dX9_copy_27 ?_
    refine Ex_aload_n dX9_copy_28 rfl 1 rfl ?_
    refine Ex_gR dX9_copy_29 lk_X9_15 rfl (fun x40 => ?_)
    refine Ex_iload_n dX9_copy_32 rfl 2 rfl ?_
    refine Ex_aload_n dX9_copy_33 rfl 0 rfl ?_
    refine Ex_gR dX9_copy_34 lk_X9_15 rfl (fun x41 => ?_)
    refine Ex_iload_n dX9_copy_37 rfl 2 rfl ?_
    refine Ex_aI_i dX9_copy_38 (fun x42 => ?_)
    refine Ex_iast dX9_copy_39 ?_
    refine Ex_iinc (j := 2) (lv' := [(0, .ref a0), (1, .ref a34), (2, .int (v35 + 1))]) dX9_copy_40 rfl rfl (by decide) [1, 2, 0] rfl ?_
    refine Ex_goto (tgt := 10) dX9_copy_43 (by decide) ?_
    exact hj36 (v35 + 1)
-- QuorumAlmanacModel$Node.crashes()I
def m_X7_crashes (a0 : Nat) : Ms Int32 :=
  bn (ko [16] a0 (m_X7_last a0)) fun r36 =>
  gI [16] 60 a0 fun x37 =>
  gI [16] 60 a0 fun x38 =>
  bn (ko [16] a0 (m_X7_cuts a0 (x38 + 1))) fun _ =>
  pV [16] 59 a0 (.int 0) <|
  gR [16] 132 a0 fun x39 =>
  gI [17] 68 x39 fun x40 =>
  pV [16] 61 a0 (.int x40) <|
  gR [16] 132 a0 fun x41 =>
  gR [17] 140 x41 fun x42 =>
  bn (ko [18] x42 (m_X9_copy x42)) fun r43 =>
  pV [16] 134 a0 (.ref r43) <|
  pV [16] 58 a0 (.int 102) <|
  bn (ko [16] a0 (m_X7_losesReads a0)) fun _ =>
  pV [16] 65 a0 (.int 0) <|
  pV [16] 64 a0 (.int (-1)) <|
  pV [16] 66 a0 (.int 0) <|
  rt (r36 - x37)
theorem hm_X7_crashes : (yX7_crashes.cls ≠ "java/lang/invoke/MethodHandle" ∧ yX7_crashes.cls ≠ "java/lang/invoke/VarHandle" ∧ (parseMethodDescriptor yX7_crashes.desc).map (fun d => d.parameters.length) = some 0) := by decide +kernel
set_option maxHeartbeats 4000000 in
set_option maxRecDepth 100000 in
theorem L_X7_crashes {G : GT} (hG : GOK G) (a0 : Nat) : Cal G yX7_crashes (ws_ yX7_crashes cX7_crashes 2 (Option.some Jvm.ClassFile.FieldType.int)) 6 148 [.ref a0] rI (m_X7_crashes a0) := by
  refine Cal_of hG (by decide +kernel) (Nat.le_of_ble_eq_true rfl) (lv0 := [(0, .ref a0)]) rfl (fun X σ0 => ?_)
  delta m_X7_crashes
  refine Ex_aload_n dX7_crashes_0 rfl 0 rfl ?_
  refine Ex_bnI (Inv_V (L_X7_last hG a0) (lw_V q2138 q2139 q2140 q55 q2141) oe_16 ⟨rfl, hm_X7_last⟩ (by decide) (by decide) dX7_crashes_1 rfl (Nat.le_of_ble_eq_true rfl)) (fun r36 => ?_)
  refine Ex_aload_n dX7_crashes_4 rfl 0 rfl ?_
  refine Ex_gI dX7_crashes_5 lk_X7_243 rfl (fun x37 => ?_)
  refine Ex_isub dX7_crashes_8 ?_
  refine Ex_istore_n (lv' := [(0, .ref a0), (1, .int (r36 - x37))]) dX7_crashes_9 rfl (by decide) [1, 0] rfl ?_
  refine Ex_aload_n dX7_crashes_10 rfl 0 rfl ?_
  refine Ex_aload_n dX7_crashes_11 rfl 0 rfl ?_
  refine Ex_gI dX7_crashes_12 lk_X7_243 rfl (fun x38 => ?_)
  refine Ex_iconst (v := 1) dX7_crashes_15 (by decide) ?_
  refine Ex_iadd dX7_crashes_16 ?_
  refine Ex_bnU (Inv_V (L_X7_cuts hG a0 (x38 + 1)) (lw_V q2346 q2347 q2348 q55 q2349) oe_16 ⟨rfl, hm_X7_cuts⟩ (by decide) (by decide) dX7_crashes_17 rfl (Nat.le_of_ble_eq_true rfl)) (fun _ => ?_)
  refine Ex_aload_n dX7_crashes_20 rfl 0 rfl ?_
  refine Ex_iconst (v := 0) dX7_crashes_21 (by decide) ?_
  refine Ex_pV dX7_crashes_22 lk_X7_23 rfl rfl rfl rfl ?_
  refine Ex_aload_n dX7_crashes_25 rfl 0 rfl ?_
  refine Ex_aload_n dX7_crashes_26 rfl 0 rfl ?_
  refine Ex_gR dX7_crashes_27 lk_X7_64 rfl (fun x39 => ?_)
  refine Ex_gI dX7_crashes_30 lk_X7_72 rfl (fun x40 => ?_)
  refine Ex_pV dX7_crashes_33 lk_X7_220 rfl rfl rfl rfl ?_
  refine Ex_aload_n dX7_crashes_36 rfl 0 rfl ?_
  refine Ex_aload_n dX7_crashes_37 rfl 0 rfl ?_
  refine Ex_gR dX7_crashes_38 lk_X7_64 rfl (fun x41 => ?_)
  refine Ex_gR dX7_crashes_41 lk_X7_310 rfl (fun x42 => ?_)
  refine Ex_bnR (Inv_V (L_X9_copy hG x42) (lw_V q2351 q2352 q2353 q57 q2354) oe_18 ⟨rfl, hm_X9_copy⟩ (by decide) (by decide) dX7_crashes_44 rfl (Nat.le_of_ble_eq_true rfl)) (fun r43 => ?_)
  refine Ex_pV dX7_crashes_47 lk_X7_68 rfl rfl rfl rfl ?_
  refine Ex_aload_n dX7_crashes_50 rfl 0 rfl ?_
  refine Ex_bipush (v := 102) dX7_crashes_51 (by decide) ?_
  refine Ex_pV dX7_crashes_53 lk_X7_19 rfl rfl rfl rfl ?_
  refine Ex_aload_n dX7_crashes_56 rfl 0 rfl ?_
  refine Ex_bnU (Inv_V (L_X7_losesReads hG a0) (lw_V q2315 q2316 q2317 q55 q2318) oe_16 ⟨rfl, hm_X7_losesReads⟩ (by decide) (by decide) dX7_crashes_57 rfl (Nat.le_of_ble_eq_true rfl)) (fun _ => ?_)
  refine Ex_aload_n dX7_crashes_60 rfl 0 rfl ?_
  refine Ex_iconst (v := 0) dX7_crashes_61 (by decide) ?_
  refine Ex_pV dX7_crashes_62 lk_X7_127 rfl rfl rfl rfl ?_
  refine Ex_aload_n dX7_crashes_65 rfl 0 rfl ?_
  refine Ex_iconst (v := (-1)) dX7_crashes_66 (by decide) ?_
  refine Ex_pV dX7_crashes_67 lk_X7_37 rfl rfl rfl rfl ?_
  refine Ex_aload_n dX7_crashes_70 rfl 0 rfl ?_
  refine Ex_iconst (v := 0) dX7_crashes_71 (by decide) ?_
  refine Ex_pV dX7_crashes_72 lk_X7_130 rfl rfl rfl rfl ?_
  refine Ex_iload_n dX7_crashes_75 rfl 1 rfl ?_
  exact Ex_ireturn dX7_crashes_76 rfl
-- QuorumAlmanacModel.crash(I)I
def m_X6_crash (a0 : Nat) (x1 : Int32) : Ms Int32 :=
  bn (ko [15] a0 (m_X6_failsDown a0 x1)) fun r28 =>
  jn (fun (v29 : Int32) =>
      rt v29)
    fun j30 =>
    if r28 = 0 then
      gR [15] 128 a0 fun x31 =>
      aR 34 x31 x1 fun x32 =>
      bn (ko [16] x32 (m_X7_crashes x32)) fun r33 =>
      j30 r33
    else
      j30 0
theorem hm_X6_crash : (yX6_crash.cls ≠ "java/lang/invoke/MethodHandle" ∧ yX6_crash.cls ≠ "java/lang/invoke/VarHandle" ∧ (parseMethodDescriptor yX6_crash.desc).map (fun d => d.parameters.length) = some 1) := by decide +kernel
set_option maxHeartbeats 4000000 in
set_option maxRecDepth 100000 in
theorem L_X6_crash {G : GT} (hG : GOK G) (a0 : Nat) (x1 : Int32) : Cal G yX6_crash (ws_ yX6_crash cX6_crash 2 (Option.some Jvm.ClassFile.FieldType.int)) 7 169 [.ref a0, .int x1] rI (m_X6_crash a0 x1) := by
  refine Cal_of hG (by decide +kernel) (Nat.le_of_ble_eq_true rfl) (lv0 := [(0, .ref a0), (1, .int x1)]) rfl (fun X σ0 => ?_)
  delta m_X6_crash
  refine Ex_aload_n dX6_crash_0 rfl 0 rfl ?_
  refine Ex_iload_n dX6_crash_1 rfl 1 rfl ?_
  refine Ex_bnI (Inv_V (L_X6_failsDown hG a0 x1) (lw_V q2286 q2288 qs37 q54 q2289) oe_15 ⟨rfl, hm_X6_failsDown⟩ (by decide) (by decide) dX6_crash_2 rfl (Nat.le_of_ble_eq_true rfl)) (fun r28 => ?_)
  refine Ex_jn (γ := Int32) (pj := 21) (fun v29 => []) (fun v29 => [.int v29]) (fun v29 => ?_) (fun j30 hj30 => ?_)
  · exact Ex_ireturn dX6_crash_21 rfl
  · refine Ex_if_eq (tgt := 12) dX6_crash_5 (by decide) ?_ ?_
    · refine Ex_aload_n dX6_crash_12 rfl 0 rfl ?_
      refine Ex_gR dX6_crash_13 lk_X6_15 rfl (fun x31 => ?_)
      refine Ex_iload_n dX6_crash_16 rfl 1 rfl ?_
      refine Ex_aR (j := 4) rfl rfl dX6_crash_17 (fun x32 => ?_)
      refine Ex_bnI (Inv_V (L_X7_crashes hG x32) (lw_V q2342 q2343 q2344 q55 q2345) oe_16 ⟨rfl, hm_X7_crashes⟩ (by decide) (by decide) dX6_crash_18 rfl (Nat.le_of_ble_eq_true rfl)) (fun r33 => ?_)
      refine Ex_lv [] (lv' := []) rfl ?_
      exact hj30 r33
    · refine Ex_iconst (v := 0) dX6_crash_8 (by decide) ?_
      refine Ex_goto (tgt := 21) dX6_crash_9 (by decide) ?_
      refine Ex_lv [] (lv' := []) rfl ?_
      exact hj30 0
-- QuorumAlmanacModel.start(I)I
def m_X6_start (a0 : Nat) (x1 : Int32) : Ms Int32 :=
  bn (m_X6_in x1 0 4) fun r56 =>
  jn (fun (v57 : Int32 × Nat) =>
      bn (ko [15] v57.2 (m_X6_fails v57.2 v57.1)) fun r59 =>
      if r59 = 0 then
        gR [15] 128 a0 fun x60 =>
        aR 34 x60 x1 fun x61 =>
        lp (fun j63 (v62 : Int32) =>
            if 5 ≤ v62 then
              pV [16] 59 x61 (.int 1) <|
              gI [16] 55 x61 fun x64 =>
              pV [16] 62 x61 (.int x64) <|
              gI [16] 55 x61 fun x65 =>
              pV [16] 63 x61 (.int x65) <|
              gI [16] 55 x61 fun x66 =>
              rt x66
            else
              gR [15] 128 a0 fun x67 =>
              aR 34 x67 v62 fun x68 =>
              gI [16] 59 x68 fun x69 =>
              jn (fun (v70 : Int32 × Nat) =>
                  pV [16] 55 v70.2 (.int v70.1) <|
                  j63 (v62 + 1))
                fun j71 =>
                if x69 = 0 then
                  gI [16] 55 x61 fun x72 =>
                  j71 (x72, x61)
                else
                  gI [16] 55 x61 fun x73 =>
                  gR [15] 128 a0 fun x74 =>
                  aR 34 x74 v62 fun x75 =>
                  gI [16] 55 x75 fun x76 =>
                  j71 ((iMax x73 x76), x61))
          0
      else
        rt 0)
    fun j58 =>
    if ¬ r56 = 0 then
      gR [15] 128 a0 fun x77 =>
      aR 34 x77 x1 fun x78 =>
      gI [16] 59 x78 fun x79 =>
      if x79 = 0 then
        j58 (0, a0)
      else
        j58 (2, a0)
    else
      j58 (1, a0)
theorem hm_X6_start : (yX6_start.cls ≠ "java/lang/invoke/MethodHandle" ∧ yX6_start.cls ≠ "java/lang/invoke/VarHandle" ∧ (parseMethodDescriptor yX6_start.desc).map (fun d => d.parameters.length) = some 1) := by decide +kernel
set_option maxHeartbeats 4000000 in
set_option maxRecDepth 100000 in
theorem L_X6_start {G : GT} (hG : GOK G) (a0 : Nat) (x1 : Int32) : Cal G yX6_start (ws_ yX6_start cX6_start 4 (Option.some Jvm.ClassFile.FieldType.int)) 3 82 [.ref a0, .int x1] rI (m_X6_start a0 x1) := by
  refine Cal_of hG (by decide +kernel) (Nat.le_of_ble_eq_true rfl) (lv0 := [(0, .ref a0), (1, .int x1)]) rfl (fun X σ0 => ?_)
  delta m_X6_start
  refine Ex_aload_n dX6_start_0 rfl 0 rfl ?_
  refine Ex_iload_n dX6_start_1 rfl 1 rfl ?_
  refine Ex_iconst (v := 0) dX6_start_2 (by decide) ?_
  refine Ex_iconst (v := 4) dX6_start_3 (by decide) ?_
  refine Ex_bnI (Inv_S (L_X6_in hG x1 0 4) (lw_S q2113 q2114 q54 q2115) hm_X6_in (by decide) (by decide) dX6_start_4 rfl (Nat.le_of_ble_eq_true rfl)) (fun r56 => ?_)
  refine Ex_jn (γ := Int32 × Nat) (pj := 31) (fun v57 => [(0, .ref a0), (1, .int x1)]) (fun v57 => [.int v57.1, .ref v57.2]) (fun v57 => ?_) (fun j58 hj58 => ?_)
  · refine Ex_bnI (Inv_V (L_X6_fails hG v57.2 v57.1) (lw_V q2116 q2118 qs34 q54 q2119) oe_15 ⟨rfl, hm_X6_fails⟩ (by decide) (by decide) dX6_start_31 rfl (Nat.le_of_ble_eq_true rfl)) (fun r59 => ?_)
    refine Ex_if_eq (tgt := 39) dX6_start_34 (by decide) ?_ ?_
    · refine Ex_aload_n dX6_start_39 rfl 0 rfl ?_
      refine Ex_gR dX6_start_40 lk_X6_15 rfl (fun x60 => ?_)
      refine Ex_iload_n dX6_start_43 rfl 1 rfl ?_
      refine Ex_aR (j := 4) rfl rfl dX6_start_44 (fun x61 => ?_)
      refine Ex_astore_n (lv' := [(0, .ref a0), (1, .int x1), (2, .ref x61)]) dX6_start_45 rfl (by decide) [1, 2, 0] rfl ?_
      refine Ex_iconst (v := 0) dX6_start_46 (by decide) ?_
      refine Ex_istore_n (lv' := [(0, .ref a0), (1, .int x1), (2, .ref x61), (3, .int 0)]) dX6_start_47 rfl (by decide) [1, 2, 3, 0] rfl ?_
      refine Ex_lv [0, 2, 3] (lv' := [(0, .ref a0), (2, .ref x61), (3, .int 0)]) rfl ?_
      refine Ex_lp (γ := Int32) (pj := 48) (fun v62 => [(0, .ref a0), (2, .ref x61), (3, .int v62)]) (fun v62 => []) (fun j63 hj63 v62 => ?_) 0 rfl rfl
      refine Ex_iload_n dX6_start_48 rfl 2 rfl ?_
      refine Ex_iconst (v := 5) dX6_start_49 (by decide) ?_
      refine Ex_icmp_ge (tgt := 98) dX6_start_50 (by decide) ?_ ?_
      · refine Ex_aload_n dX6_start_98 rfl 1 rfl ?_
        refine Ex_iconst (v := 1) dX6_start_99 (by decide) ?_
        refine Ex_pV dX6_start_100 lk_X6_77 rfl rfl rfl rfl ?_
        refine Ex_aload_n dX6_start_103 rfl 1 rfl ?_
        refine Ex_aload_n dX6_start_104 rfl 1 rfl ?_
        refine Ex_gI dX6_start_105 lk_X6_81 rfl (fun x64 => ?_)
        refine Ex_pV dX6_start_108 lk_X6_102 rfl rfl rfl rfl ?_
        refine Ex_aload_n dX6_start_111 rfl 1 rfl ?_
        refine Ex_aload_n dX6_start_112 rfl 1 rfl ?_
        refine Ex_gI dX6_start_113 lk_X6_81 rfl (fun x65 => ?_)
        refine Ex_pV dX6_start_116 lk_X6_105 rfl rfl rfl rfl ?_
        refine Ex_aload_n dX6_start_119 rfl 1 rfl ?_
        refine Ex_gI dX6_start_120 lk_X6_81 rfl (fun x66 => ?_)
        exact Ex_ireturn dX6_start_123 rfl
      · refine Ex_aload_n dX6_start_53 rfl 1 rfl ?_
        refine Ex_aload_n dX6_start_54 rfl 0 rfl ?_
        refine Ex_gR dX6_start_55 lk_X6_15 rfl (fun x67 => ?_)
        refine Ex_iload_n dX6_start_58 rfl 2 rfl ?_
        refine Ex_aR (j := 4) rfl rfl dX6_start_59 (fun x68 => ?_)
        refine Ex_gI dX6_start_60 lk_X6_77 rfl (fun x69 => ?_)
        refine Ex_jn (γ := Int32 × Nat) (pj := 89) (fun v70 => [(0, .ref a0), (2, .ref x61), (3, .int v62)]) (fun v70 => [.int v70.1, .ref v70.2]) (fun v70 => ?_) (fun j71 hj71 => ?_)
        · refine Ex_pV dX6_start_89 lk_X6_81 rfl rfl rfl rfl ?_
          refine Ex_iinc (j := 2) (lv' := [(0, .ref a0), (2, .ref x61), (3, .int (v62 + 1))]) dX6_start_92 rfl rfl (by decide) [1, 2, 0] rfl ?_
          refine Ex_goto (tgt := 48) dX6_start_95 (by decide) ?_
          exact hj63 (v62 + 1)
        · refine Ex_if_eq (tgt := 85) dX6_start_63 (by decide) ?_ ?_
          · refine Ex_aload_n dX6_start_85 rfl 1 rfl ?_
            refine Ex_gI dX6_start_86 lk_X6_81 rfl (fun x72 => ?_)
            exact hj71 (x72, x61)
          · refine Ex_aload_n dX6_start_66 rfl 1 rfl ?_
            refine Ex_gI dX6_start_67 lk_X6_81 rfl (fun x73 => ?_)
            refine Ex_aload_n dX6_start_70 rfl 0 rfl ?_
            refine Ex_gR dX6_start_71 lk_X6_15 rfl (fun x74 => ?_)
            refine Ex_iload_n dX6_start_74 rfl 2 rfl ?_
            refine Ex_aR (j := 4) rfl rfl dX6_start_75 (fun x75 => ?_)
            refine Ex_gI dX6_start_76 lk_X6_81 rfl (fun x76 => ?_)
            refine Ex_mmax dX6_start_79 q2361 q152 q49 q153 (by decide) (Nat.le_of_ble_eq_true rfl) ?_
            refine Ex_goto (tgt := 89) dX6_start_82 (by decide) ?_
            exact hj71 ((iMax x73 x76), x61)
    · refine Ex_iconst (v := 0) dX6_start_37 (by decide) ?_
      exact Ex_ireturn dX6_start_38 rfl
  · refine Ex_if_ne (tgt := 14) dX6_start_7 (by decide) ?_ ?_
    · refine Ex_aload_n dX6_start_14 rfl 0 rfl ?_
      refine Ex_gR dX6_start_15 lk_X6_15 rfl (fun x77 => ?_)
      refine Ex_iload_n dX6_start_18 rfl 1 rfl ?_
      refine Ex_aR (j := 4) rfl rfl dX6_start_19 (fun x78 => ?_)
      refine Ex_gI dX6_start_20 lk_X6_77 rfl (fun x79 => ?_)
      refine Ex_if_eq (tgt := 30) dX6_start_23 (by decide) ?_ ?_
      · refine Ex_iconst (v := 0) dX6_start_30 (by decide) ?_
        exact hj58 (0, a0)
      · refine Ex_iconst (v := 2) dX6_start_26 (by decide) ?_
        refine Ex_goto (tgt := 31) dX6_start_27 (by decide) ?_
        exact hj58 (2, a0)
    · refine Ex_iconst (v := 1) dX6_start_10 (by decide) ?_
      refine Ex_goto (tgt := 31) dX6_start_11 (by decide) ?_
      exact hj58 (1, a0)
-- QuorumAlmanacModel$Node.compacts()I
def m_X7_compacts (a0 : Nat) : Ms Int32 :=
  gI [16] 61 a0 fun x60 =>
  gR [16] 132 a0 fun x61 =>
  gI [17] 68 x61 fun x62 =>
  nO 17 5 dfl fun a63 =>
  gI [16] 61 a0 fun x64 =>
  gI [16] 61 a0 fun x65 =>
  bn (ko [16] a0 (m_X7_termAt a0 x65)) fun r66 =>
  gI [16] 61 a0 fun x67 =>
  bn (ko [16] a0 (m_X7_old a0 x67)) fun r68 =>
  gI [16] 61 a0 fun x69 =>
  bn (ko [16] a0 (m_X7_fresh a0 x69)) fun r70 =>
  gR [16] 134 a0 fun x71 =>
  bn (ko [18] x71 (m_X9_copy x71)) fun r72 =>
  bn (m_X8_init a63 x64 r66 r68 r70 r72) fun _ =>
  nO 22 3 dfl fun a73 =>
  bn (m_J2_init a73) fun _ =>
  gI [16] 61 a0 fun x74 =>
  lp (fun j76 (v75 : Int32) =>
      bn (ko [16] a0 (m_X7_last a0)) fun r77 =>
      if r77 < v75 then
        pV [16] 132 a0 (.ref a63) <|
        pV [16] 133 a0 (.ref a73) <|
        gI [16] 60 a0 fun x78 =>
        gI [17] 68 a63 fun x79 =>
        pV [16] 60 a0 (.int (iMax x78 x79)) <|
        rt (x60 - x62)
      else
        bn (ko [16] a0 (m_X7_entry a0 v75)) fun r80 =>
        bn (ko [22] a73 (m_J2_add a73 r80)) fun r81 =>
        j76 (v75 + 1))
    (x74 + 1)
theorem hm_X7_compacts : (yX7_compacts.cls ≠ "java/lang/invoke/MethodHandle" ∧ yX7_compacts.cls ≠ "java/lang/invoke/VarHandle" ∧ (parseMethodDescriptor yX7_compacts.desc).map (fun d => d.parameters.length) = some 0) := by decide +kernel
set_option maxHeartbeats 4000000 in
set_option maxRecDepth 100000 in
theorem L_X7_compacts {G : GT} (hG : GOK G) (a0 : Nat) : Cal G yX7_compacts (ws_ yX7_compacts cX7_compacts 6 (Option.some Jvm.ClassFile.FieldType.int)) 8 191 [.ref a0] rI (m_X7_compacts a0) := by
  refine Cal_of hG (by decide +kernel) (Nat.le_of_ble_eq_true rfl) (lv0 := [(0, .ref a0)]) rfl (fun X σ0 => ?_)
  delta m_X7_compacts
  refine Ex_aload_n dX7_compacts_0 rfl 0 rfl ?_
  refine Ex_gI dX7_compacts_1 lk_X7_220 rfl (fun x60 => ?_)
  refine Ex_aload_n dX7_compacts_4 rfl 0 rfl ?_
  refine Ex_gR dX7_compacts_5 lk_X7_64 rfl (fun x61 => ?_)
  refine Ex_gI dX7_compacts_8 lk_X7_72 rfl (fun x62 => ?_)
  refine Ex_isub dX7_compacts_11 ?_
  refine Ex_istore_n (lv' := [(0, .ref a0), (1, .int (x60 - x62))]) dX7_compacts_12 rfl (by decide) [1, 0] rfl ?_
  refine Ex_nO (ci := 16) (q := qcl 16) dX7_compacts_13 rfl q1947 q1948 q56 (fun a63 => ?_)
  refine Ex_dup rfl dX7_compacts_16 ?_
  refine Ex_aload_n dX7_compacts_17 rfl 0 rfl ?_
  refine Ex_gI dX7_compacts_18 lk_X7_220 rfl (fun x64 => ?_)
  refine Ex_aload_n dX7_compacts_21 rfl 0 rfl ?_
  refine Ex_aload_n dX7_compacts_22 rfl 0 rfl ?_
  refine Ex_gI dX7_compacts_23 lk_X7_220 rfl (fun x65 => ?_)
  refine Ex_bnI (Inv_V (L_X7_termAt hG a0 x65) (lw_V q2231 q2232 q2233 q55 q2234) oe_16 ⟨rfl, hm_X7_termAt⟩ (by decide) (by decide) dX7_compacts_26 rfl (Nat.le_of_ble_eq_true rfl)) (fun r66 => ?_)
  refine Ex_aload_n dX7_compacts_29 rfl 0 rfl ?_
  refine Ex_aload_n dX7_compacts_30 rfl 0 rfl ?_
  refine Ex_gI dX7_compacts_31 lk_X7_220 rfl (fun x67 => ?_)
  refine Ex_bnI (Inv_V (L_X7_old hG a0 x67) (lw_V q2142 q2143 q2144 q55 q2145) oe_16 ⟨rfl, hm_X7_old⟩ (by decide) (by decide) dX7_compacts_34 rfl (Nat.le_of_ble_eq_true rfl)) (fun r68 => ?_)
  refine Ex_aload_n dX7_compacts_37 rfl 0 rfl ?_
  refine Ex_aload_n dX7_compacts_38 rfl 0 rfl ?_
  refine Ex_gI dX7_compacts_39 lk_X7_220 rfl (fun x69 => ?_)
  refine Ex_bnI (Inv_V (L_X7_fresh hG a0 x69) (lw_V q2155 q2156 q2157 q55 q2158) oe_16 ⟨rfl, hm_X7_fresh⟩ (by decide) (by decide) dX7_compacts_42 rfl (Nat.le_of_ble_eq_true rfl)) (fun r70 => ?_)
  refine Ex_aload_n dX7_compacts_45 rfl 0 rfl ?_
  refine Ex_gR dX7_compacts_46 lk_X7_68 rfl (fun x71 => ?_)
  refine Ex_bnR (Inv_V (L_X9_copy hG x71) (lw_V q2351 q2352 q2353 q57 q2354) oe_18 ⟨rfl, hm_X9_copy⟩ (by decide) (by decide) dX7_compacts_49 rfl (Nat.le_of_ble_eq_true rfl)) (fun r72 => ?_)
  refine Ex_bnU (Inv_I (L_X8_init hG a63 x64 r66 r68 r70 r72) q56 q1965 q1966 q1967 rfl hm_X8_init (by decide) (by decide) dX7_compacts_52 rfl (Nat.le_of_ble_eq_true rfl)) (fun _ => ?_)
  refine Ex_astore_n (lv' := [(0, .ref a0), (1, .int (x60 - x62)), (2, .ref a63)]) dX7_compacts_55 rfl (by decide) [1, 2, 0] rfl ?_
  refine Ex_nO (ci := 21) (q := qcl 21) dX7_compacts_56 rfl q1945 q120 q48 (fun a73 => ?_)
  refine Ex_dup rfl dX7_compacts_59 ?_
  refine Ex_bnU (Inv_I (L_J2_init hG a73) q48 q1946 q122 q123 rfl hm_J2_init (by decide) (by decide) dX7_compacts_60 rfl (Nat.le_of_ble_eq_true rfl)) (fun _ => ?_)
  refine Ex_astore_n (lv' := [(0, .ref a0), (1, .int (x60 - x62)), (2, .ref a63), (3, .ref a73)]) dX7_compacts_63 rfl (by decide) [1, 2, 3, 0] rfl ?_
  refine Ex_aload_n dX7_compacts_64 rfl 0 rfl ?_
  refine Ex_gI dX7_compacts_65 lk_X7_220 rfl (fun x74 => ?_)
  refine Ex_iconst (v := 1) dX7_compacts_68 (by decide) ?_
  refine Ex_iadd dX7_compacts_69 ?_
  refine Ex_istore (lv' := [(0, .ref a0), (1, .int (x60 - x62)), (2, .ref a63), (3, .ref a73), (4, .int (x74 + 1))]) dX7_compacts_70 (by decide) [1, 2, 3, 4, 0] rfl ?_
  refine Ex_lp (γ := Int32) (pj := 72) (fun v75 => [(0, .ref a0), (1, .int (x60 - x62)), (2, .ref a63), (3, .ref a73), (4, .int v75)]) (fun v75 => []) (fun j76 hj76 v75 => ?_) (x74 + 1) rfl rfl
  refine Ex_iload dX7_compacts_72 4 rfl ?_
  refine Ex_aload_n dX7_compacts_74 rfl 0 rfl ?_
  refine Ex_bnI (Inv_V (L_X7_last hG a0) (lw_V q2138 q2139 q2140 q55 q2141) oe_16 ⟨rfl, hm_X7_last⟩ (by decide) (by decide) dX7_compacts_75 rfl (Nat.le_of_ble_eq_true rfl)) (fun r77 => ?_)
  refine Ex_icmp_gt (tgt := 99) dX7_compacts_78 (by decide) ?_ ?_
  · refine Ex_aload_n dX7_compacts_99 rfl 0 rfl ?_
    refine Ex_aload_n dX7_compacts_100 rfl 2 rfl ?_
    refine Ex_pV dX7_compacts_101 lk_X7_64 rfl rfl rfl rfl ?_
    refine Ex_aload_n dX7_compacts_104 rfl 0 rfl ?_
    refine Ex_aload_n dX7_compacts_105 rfl 3 rfl ?_
    refine Ex_pV dX7_compacts_106 lk_X7_30 rfl rfl rfl rfl ?_
    refine Ex_aload_n dX7_compacts_109 rfl 0 rfl ?_
    refine Ex_aload_n dX7_compacts_110 rfl 0 rfl ?_
    refine Ex_gI dX7_compacts_111 lk_X7_243 rfl (fun x78 => ?_)
    refine Ex_aload_n dX7_compacts_114 rfl 2 rfl ?_
    refine Ex_gI dX7_compacts_115 lk_X7_72 rfl (fun x79 => ?_)
    refine Ex_mmax dX7_compacts_118 q2314 q152 q49 q153 (by decide) (Nat.le_of_ble_eq_true rfl) ?_
    refine Ex_pV dX7_compacts_121 lk_X7_243 rfl rfl rfl rfl ?_
    refine Ex_iload_n dX7_compacts_124 rfl 1 rfl ?_
    exact Ex_ireturn dX7_compacts_125 rfl
  · refine Ex_aload_n dX7_compacts_81 rfl 3 rfl ?_
    refine Ex_aload_n dX7_compacts_82 rfl 0 rfl ?_
    refine Ex_iload dX7_compacts_83 4 rfl ?_
    refine Ex_bnR (Inv_V (L_X7_entry hG a0 v75) (lw_V q2150 q2151 q2152 q55 q2153) oe_16 ⟨rfl, hm_X7_entry⟩ (by decide) (by decide) dX7_compacts_85 rfl (Nat.le_of_ble_eq_true rfl)) (fun r80 => ?_)
    refine Ex_bnI (Inv_V (L_J2_add hG a73 r80) (lw_V q2133 q935 q936 q48 q937) oe_22 ⟨rfl, hm_J2_add⟩ (by decide) (by decide) dX7_compacts_88 rfl (Nat.le_of_ble_eq_true rfl)) (fun r81 => ?_)
    refine Ex_istore (lv' := [(0, .ref a0), (1, .int (x60 - x62)), (2, .ref a63), (3, .ref a73), (4, .int v75), (5, .int r81)]) dX7_compacts_91 (by decide) [1, 2, 3, 4, 5, 0] rfl ?_
    refine Ex_iinc (j := 4) (lv' := [(0, .ref a0), (1, .int (x60 - x62)), (2, .ref a63), (3, .ref a73), (4, .int (v75 + 1)), (5, .int r81)]) dX7_compacts_93 rfl rfl (by decide) [1, 2, 3, 4, 0, 5] rfl ?_
    refine Ex_goto (tgt := 72) dX7_compacts_96 (by decide) ?_
    refine Ex_lv [0, 1, 2, 3, 4] (lv' := [(0, .ref a0), (1, .int (x60 - x62)), (2, .ref a63), (3, .ref a73), (4, .int (v75 + 1))]) rfl ?_
    exact hj76 (v75 + 1)
-- QuorumAlmanacModel.compact(I)I
def m_X6_compact (a0 : Nat) (x1 : Int32) : Ms Int32 :=
  bn (ko [15] a0 (m_X6_failsNode a0 x1)) fun r38 =>
  if r38 = 0 then
    gR [15] 128 a0 fun x39 =>
    aR 34 x39 x1 fun x40 =>
    gI [16] 59 x40 fun x41 =>
    jn (fun (v42 : Int32 × Nat) =>
        bn (ko [15] v42.2 (m_X6_fails v42.2 v42.1)) fun r44 =>
        jn (fun (v45 : Int32) =>
            rt v45)
          fun j46 =>
          if r44 = 0 then
            bn (ko [16] x40 (m_X7_compacts x40)) fun r47 =>
            j46 r47
          else
            j46 0)
      fun j43 =>
      jn (fun (v48 : Nat) =>
          j43 (2, v48))
        fun j49 =>
        if x41 = 0 then
          j49 a0
        else
          gI [16] 61 x40 fun x50 =>
          gR [16] 132 x40 fun x51 =>
          gI [17] 68 x51 fun x52 =>
          if ¬ x50 = x52 then
            j43 (0, a0)
          else
            j49 a0
  else
    rt 0
theorem hm_X6_compact : (yX6_compact.cls ≠ "java/lang/invoke/MethodHandle" ∧ yX6_compact.cls ≠ "java/lang/invoke/VarHandle" ∧ (parseMethodDescriptor yX6_compact.desc).map (fun d => d.parameters.length) = some 1) := by decide +kernel
set_option maxHeartbeats 4000000 in
set_option maxRecDepth 100000 in
theorem L_X6_compact {G : GT} (hG : GOK G) (a0 : Nat) (x1 : Int32) : Cal G yX6_compact (ws_ yX6_compact cX6_compact 3 (Option.some Jvm.ClassFile.FieldType.int)) 9 216 [.ref a0, .int x1] rI (m_X6_compact a0 x1) := by
  refine Cal_of hG (by decide +kernel) (Nat.le_of_ble_eq_true rfl) (lv0 := [(0, .ref a0), (1, .int x1)]) rfl (fun X σ0 => ?_)
  delta m_X6_compact
  refine Ex_aload_n dX6_compact_0 rfl 0 rfl ?_
  refine Ex_iload_n dX6_compact_1 rfl 1 rfl ?_
  refine Ex_bnI (Inv_V (L_X6_failsNode hG a0 x1) (lw_V q2109 q2111 qs33 q54 q2112) oe_15 ⟨rfl, hm_X6_failsNode⟩ (by decide) (by decide) dX6_compact_2 rfl (Nat.le_of_ble_eq_true rfl)) (fun r38 => ?_)
  refine Ex_if_eq (tgt := 10) dX6_compact_5 (by decide) ?_ ?_
  · refine Ex_aload_n dX6_compact_10 rfl 0 rfl ?_
    refine Ex_gR dX6_compact_11 lk_X6_15 rfl (fun x39 => ?_)
    refine Ex_iload_n dX6_compact_14 rfl 1 rfl ?_
    refine Ex_aR (j := 4) rfl rfl dX6_compact_15 (fun x40 => ?_)
    refine Ex_astore_n (lv' := [(0, .ref a0), (1, .int x1), (2, .ref x40)]) dX6_compact_16 rfl (by decide) [1, 2, 0] rfl ?_
    refine Ex_aload_n dX6_compact_17 rfl 0 rfl ?_
    refine Ex_aload_n dX6_compact_18 rfl 2 rfl ?_
    refine Ex_gI dX6_compact_19 lk_X6_77 rfl (fun x41 => ?_)
    refine Ex_jn (γ := Int32 × Nat) (pj := 44) (fun v42 => [(2, .ref x40)]) (fun v42 => [.int v42.1, .ref v42.2]) (fun v42 => ?_) (fun j43 hj43 => ?_)
    · refine Ex_bnI (Inv_V (L_X6_fails hG v42.2 v42.1) (lw_V q2116 q2118 qs34 q54 q2119) oe_15 ⟨rfl, hm_X6_fails⟩ (by decide) (by decide) dX6_compact_44 rfl (Nat.le_of_ble_eq_true rfl)) (fun r44 => ?_)
      refine Ex_jn (γ := Int32) (pj := 58) (fun v45 => []) (fun v45 => [.int v45]) (fun v45 => ?_) (fun j46 hj46 => ?_)
      · exact Ex_ireturn dX6_compact_58 rfl
      · refine Ex_if_eq (tgt := 54) dX6_compact_47 (by decide) ?_ ?_
        · refine Ex_aload_n dX6_compact_54 rfl 0 rfl ?_
          refine Ex_bnI (Inv_V (L_X7_compacts hG x40) (lw_V q2366 q2367 q2368 q55 q2369) oe_16 ⟨rfl, hm_X7_compacts⟩ (by decide) (by decide) dX6_compact_55 rfl (Nat.le_of_ble_eq_true rfl)) (fun r47 => ?_)
          refine Ex_lv [] (lv' := []) rfl ?_
          exact hj46 r47
        · refine Ex_iconst (v := 0) dX6_compact_50 (by decide) ?_
          refine Ex_goto (tgt := 58) dX6_compact_51 (by decide) ?_
          refine Ex_lv [] (lv' := []) rfl ?_
          exact hj46 0
    · refine Ex_jn (γ := Nat) (pj := 39) (fun v48 => [(2, .ref x40)]) (fun v48 => [.ref v48]) (fun v48 => ?_) (fun j49 hj49 => ?_)
      · refine Ex_iconst (v := 2) dX6_compact_39 (by decide) ?_
        refine Ex_goto (tgt := 44) dX6_compact_40 (by decide) ?_
        exact hj43 (2, v48)
      · refine Ex_if_eq (tgt := 39) dX6_compact_22 (by decide) ?_ ?_
        · refine Ex_lv [2] (lv' := [(2, .ref x40)]) rfl ?_
          exact hj49 a0
        · refine Ex_aload_n dX6_compact_25 rfl 2 rfl ?_
          refine Ex_gI dX6_compact_26 lk_X6_108 rfl (fun x50 => ?_)
          refine Ex_aload_n dX6_compact_29 rfl 2 rfl ?_
          refine Ex_gR dX6_compact_30 lk_X6_111 rfl (fun x51 => ?_)
          refine Ex_gI dX6_compact_33 lk_X6_115 rfl (fun x52 => ?_)
          refine Ex_icmp_ne (tgt := 43) dX6_compact_36 (by decide) ?_ ?_
          · refine Ex_iconst (v := 0) dX6_compact_43 (by decide) ?_
            refine Ex_lv [2] (lv' := [(2, .ref x40)]) rfl ?_
            exact hj43 (0, a0)
          · refine Ex_lv [2] (lv' := [(2, .ref x40)]) rfl ?_
            exact hj49 a0
  · refine Ex_iconst (v := 0) dX6_compact_8 (by decide) ?_
    exact Ex_ireturn dX6_compact_9 rfl
-- QuorumAlmanacModel.role(I)C
def m_X6_role (a0 : Nat) (x1 : Int32) : Ms Int32 :=
  bn (ko [15] a0 (m_X6_failsNode a0 x1)) fun r34 =>
  jn (fun (v35 : Int32) =>
      ck (0 ≤ Int32.toInt v35 ∧ Int32.toInt v35 < 65536) <|
      rt v35)
    fun j36 =>
    if r34 = 0 then
      gR [15] 128 a0 fun x37 =>
      aR 34 x37 x1 fun x38 =>
      gI [16] 59 x38 fun x39 =>
      if x39 = 0 then
        j36 100
      else
        gR [15] 128 a0 fun x40 =>
        aR 34 x40 x1 fun x41 =>
        gI [16] 58 x41 fun x42 =>
        j36 x42
    else
      j36 0
theorem hm_X6_role : (yX6_role.cls ≠ "java/lang/invoke/MethodHandle" ∧ yX6_role.cls ≠ "java/lang/invoke/VarHandle" ∧ (parseMethodDescriptor yX6_role.desc).map (fun d => d.parameters.length) = some 1) := by decide +kernel
set_option maxHeartbeats 4000000 in
set_option maxRecDepth 100000 in
theorem L_X6_role {G : GT} (hG : GOK G) (a0 : Nat) (x1 : Int32) : Cal G yX6_role (ws_ yX6_role cX6_role 2 (Option.some Jvm.ClassFile.FieldType.char)) 4 103 [.ref a0, .int x1] rI (m_X6_role a0 x1) := by
  refine Cal_of hG (by decide +kernel) (Nat.le_of_ble_eq_true rfl) (lv0 := [(0, .ref a0), (1, .int x1)]) rfl (fun X σ0 => ?_)
  delta m_X6_role
  refine Ex_aload_n dX6_role_0 rfl 0 rfl ?_
  refine Ex_iload_n dX6_role_1 rfl 1 rfl ?_
  refine Ex_bnI (Inv_V (L_X6_failsNode hG a0 x1) (lw_V q2109 q2111 qs33 q54 q2112) oe_15 ⟨rfl, hm_X6_failsNode⟩ (by decide) (by decide) dX6_role_2 rfl (Nat.le_of_ble_eq_true rfl)) (fun r34 => ?_)
  refine Ex_jn (γ := Int32) (pj := 38) (fun v35 => []) (fun v35 => [.int v35]) (fun v35 => ?_) (fun j36 hj36 => ?_)
  · refine Ex_ck (fun hz => ?_)
    exact Ex_zreturn dX6_role_38 rfl (cok_n hz)
  · refine Ex_if_eq (tgt := 12) dX6_role_5 (by decide) ?_ ?_
    · refine Ex_aload_n dX6_role_12 rfl 0 rfl ?_
      refine Ex_gR dX6_role_13 lk_X6_15 rfl (fun x37 => ?_)
      refine Ex_iload_n dX6_role_16 rfl 1 rfl ?_
      refine Ex_aR (j := 4) rfl rfl dX6_role_17 (fun x38 => ?_)
      refine Ex_gI dX6_role_18 lk_X6_77 rfl (fun x39 => ?_)
      refine Ex_if_eq (tgt := 36) dX6_role_21 (by decide) ?_ ?_
      · refine Ex_bipush (v := 100) dX6_role_36 (by decide) ?_
        refine Ex_lv [] (lv' := []) rfl ?_
        exact hj36 100
      · refine Ex_aload_n dX6_role_24 rfl 0 rfl ?_
        refine Ex_gR dX6_role_25 lk_X6_15 rfl (fun x40 => ?_)
        refine Ex_iload_n dX6_role_28 rfl 1 rfl ?_
        refine Ex_aR (j := 4) rfl rfl dX6_role_29 (fun x41 => ?_)
        refine Ex_gI dX6_role_30 lk_X6_123 rfl (fun x42 => ?_)
        refine Ex_goto (tgt := 38) dX6_role_33 (by decide) ?_
        refine Ex_lv [] (lv' := []) rfl ?_
        exact hj36 x42
    · refine Ex_iconst (v := 0) dX6_role_8 (by decide) ?_
      refine Ex_goto (tgt := 38) dX6_role_9 (by decide) ?_
      refine Ex_lv [] (lv' := []) rfl ?_
      exact hj36 0
