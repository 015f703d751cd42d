-- QuorumAlmanacModel$Node.ticks()V
def m_X7_ticks (a0 : Nat) : Ms Unit :=
  gI [16] 55 a0 fun x70 =>
  pV [16] 55 a0 (.int (x70 + 1)) <|
  gI [16] 58 a0 fun x71 =>
  jn (fun (v72 : Unit) =>
      rt ())
    fun j73 =>
    if ¬ x71 = 108 then
      bn (ko [16] a0 (m_X7_isMember a0)) fun r74 =>
      if r74 = 0 then
        j73 ()
      else
        gI [16] 55 a0 fun x75 =>
        gI [16] 62 a0 fun x76 =>
        gI [16] 54 a0 fun x77 =>
        if (x75 - x76) < (10 + x77) then
          j73 ()
        else
          pV [16] 58 a0 (.int 99) <|
          gI [16] 56 a0 fun x78 =>
          pV [16] 56 a0 (.int (x78 + 1)) <|
          gI [16] 54 a0 fun x79 =>
          pV [16] 57 a0 (.int x79) <|
          gI [16] 54 a0 fun x80 =>
          pV [16] 67 a0 (.int (1 <<< (x80 &&& 31))) <|
          gI [16] 55 a0 fun x81 =>
          pV [16] 62 a0 (.int x81) <|
          pV [16] 65 a0 (.int 0) <|
          pV [16] 64 a0 (.int (-1)) <|
          pV [16] 66 a0 (.int 0) <|
          lp (fun j83 (v82 : Int32) =>
              if 5 ≤ v82 then
                bn (ko [16] a0 (m_X7_wins a0)) fun _ =>
                j73 ()
              else
                gI [16] 54 a0 fun x84 =>
                jn (fun (v85 : Unit) =>
                    j83 (v82 + 1))
                  fun j86 =>
                  if v82 = x84 then
                    j86 ()
                  else
                    bn (ko [16] a0 (m_X7_members a0)) fun r87 =>
                    if ¬ ((r87 >>> (v82 &&& 31)) &&& 1) = 1 then
                      j86 ()
                    else
                      gR [16] 139 a0 fun x88 =>
                      gI [16] 54 a0 fun x89 =>
                      bn (ko [15] x88 (m_X6_send x88 118 x89 v82)) fun r90 =>
                      gI [16] 56 a0 fun x91 =>
                      pV [19] 76 r90 (.int x91) <|
                      bn (ko [16] a0 (m_X7_last a0)) fun r92 =>
                      pV [19] 78 r90 (.int r92) <|
                      bn (ko [16] a0 (m_X7_last a0)) fun r93 =>
                      bn (ko [16] a0 (m_X7_termAt a0 r93)) fun r94 =>
                      pV [19] 79 r90 (.int r94) <|
                      j86 ())
            0
    else
      gI [16] 55 a0 fun x95 =>
      gR [16] 138 a0 fun x96 =>
      gR [16] 138 a0 fun x97 =>
      bn (ko [22] x97 (m_J2_size x97)) fun r98 =>
      bn (ko [22] x96 (m_J2_get x96 (r98 - 1))) fun r99 =>
      ko [24] r99 <|
      bn (ko [24] r99 (m_J14_intValue r99)) fun r100 =>
      if (x95 - r100) < 3 then
        j73 ()
      else
        bn (ko [16] a0 (m_X7_beginsRound a0)) fun _ =>
        j73 ()
theorem hm_X7_ticks : (yX7_ticks.cls ≠ "java/lang/invoke/MethodHandle" ∧ yX7_ticks.cls ≠ "java/lang/invoke/VarHandle" ∧ (parseMethodDescriptor yX7_ticks.desc).map (fun d => d.parameters.length) = some 0) := by decide +kernel
set_option maxHeartbeats 4000000 in
set_option maxRecDepth 100000 in
theorem L_X7_ticks {G : GT} (hG : GOK G) (a0 : Nat) : Cal G yX7_ticks (ws_ yX7_ticks cX7_ticks 3 (Option.none : Option Jvm.ClassFile.FieldType)) 13 306 [.ref a0] rU (m_X7_ticks a0) := by
  refine Cal_of hG (by decide +kernel) (Nat.le_of_ble_eq_true rfl) (lv0 := [(0, .ref a0)]) rfl (fun X σ0 => ?_)
  delta m_X7_ticks
  refine Ex_aload_n dX7_ticks_0 rfl 0 rfl ?_
  refine Ex_dup rfl dX7_ticks_1 ?_
  refine Ex_gI dX7_ticks_2 lk_X7_160 rfl (fun x70 => ?_)
  refine Ex_iconst (v := 1) dX7_ticks_5 (by decide) ?_
  refine Ex_iadd dX7_ticks_6 ?_
  refine Ex_pV dX7_ticks_7 lk_X7_160 rfl rfl rfl rfl ?_
  refine Ex_aload_n dX7_ticks_10 rfl 0 rfl ?_
  refine Ex_gI dX7_ticks_11 lk_X7_19 rfl (fun x71 => ?_)
  refine Ex_bipush (v := 108) dX7_ticks_14 (by decide) ?_
  refine Ex_jn (γ := Unit) (pj := 220) (fun v72 => []) (fun v72 => []) (fun v72 => ?_) (fun j73 hj73 => ?_)
  · exact Ex_vreturn dX7_ticks_220 rfl
  · refine Ex_icmp_ne (tgt := 57) dX7_ticks_16 (by decide) ?_ ?_
    · refine Ex_aload_n dX7_ticks_57 rfl 0 rfl ?_
      refine Ex_bnI (Inv_V (L_X7_isMember hG a0) (lw_V q2235 q2236 q2237 q55 q2238) oe_16 ⟨rfl, hm_X7_isMember⟩ (by decide) (by decide) dX7_ticks_58 rfl (Nat.le_of_ble_eq_true rfl)) (fun r74 => ?_)
      refine Ex_if_eq (tgt := 220) dX7_ticks_61 (by decide) ?_ ?_
      · refine Ex_lv [] (lv' := []) rfl ?_
        exact hj73 ()
      · refine Ex_aload_n dX7_ticks_64 rfl 0 rfl ?_
        refine Ex_gI dX7_ticks_65 lk_X7_160 rfl (fun x75 => ?_)
        refine Ex_aload_n dX7_ticks_68 rfl 0 rfl ?_
        refine Ex_gI dX7_ticks_69 lk_X7_174 rfl (fun x76 => ?_)
        refine Ex_isub dX7_ticks_72 ?_
        refine Ex_bipush (v := 10) dX7_ticks_73 (by decide) ?_
        refine Ex_aload_n dX7_ticks_75 rfl 0 rfl ?_
        refine Ex_gI dX7_ticks_76 lk_X7_53 rfl (fun x77 => ?_)
        refine Ex_iadd dX7_ticks_79 ?_
        refine Ex_icmp_lt (tgt := 220) dX7_ticks_80 (by decide) ?_ ?_
        · refine Ex_lv [] (lv' := []) rfl ?_
          exact hj73 ()
        · refine Ex_aload_n dX7_ticks_83 rfl 0 rfl ?_
          refine Ex_bipush (v := 99) dX7_ticks_84 (by decide) ?_
          refine Ex_pV dX7_ticks_86 lk_X7_19 rfl rfl rfl rfl ?_
          refine Ex_aload_n dX7_ticks_89 rfl 0 rfl ?_
          refine Ex_dup rfl dX7_ticks_90 ?_
          refine Ex_gI dX7_ticks_91 lk_X7_126 rfl (fun x78 => ?_)
          refine Ex_iconst (v := 1) dX7_ticks_94 (by decide) ?_
          refine Ex_iadd dX7_ticks_95 ?_
          refine Ex_pV dX7_ticks_96 lk_X7_126 rfl rfl rfl rfl ?_
          refine Ex_aload_n dX7_ticks_99 rfl 0 rfl ?_
          refine Ex_aload_n dX7_ticks_100 rfl 0 rfl ?_
          refine Ex_gI dX7_ticks_101 lk_X7_53 rfl (fun x79 => ?_)
          refine Ex_pV dX7_ticks_104 lk_X7_15 rfl rfl rfl rfl ?_
          refine Ex_aload_n dX7_ticks_107 rfl 0 rfl ?_
          refine Ex_iconst (v := 1) dX7_ticks_108 (by decide) ?_
          refine Ex_aload_n dX7_ticks_109 rfl 0 rfl ?_
          refine Ex_gI dX7_ticks_110 lk_X7_53 rfl (fun x80 => ?_)
          refine Ex_ishl dX7_ticks_113 ?_
          refine Ex_pV dX7_ticks_114 lk_X7_177 rfl rfl rfl rfl ?_
          refine Ex_aload_n dX7_ticks_117 rfl 0 rfl ?_
          refine Ex_aload_n dX7_ticks_118 rfl 0 rfl ?_
          refine Ex_gI dX7_ticks_119 lk_X7_160 rfl (fun x81 => ?_)
          refine Ex_pV dX7_ticks_122 lk_X7_174 rfl rfl rfl rfl ?_
          refine Ex_aload_n dX7_ticks_125 rfl 0 rfl ?_
          refine Ex_iconst (v := 0) dX7_ticks_126 (by decide) ?_
          refine Ex_pV dX7_ticks_127 lk_X7_127 rfl rfl rfl rfl ?_
          refine Ex_aload_n dX7_ticks_130 rfl 0 rfl ?_
          refine Ex_iconst (v := (-1)) dX7_ticks_131 (by decide) ?_
          refine Ex_pV dX7_ticks_132 lk_X7_37 rfl rfl rfl rfl ?_
          refine Ex_aload_n dX7_ticks_135 rfl 0 rfl ?_
          refine Ex_iconst (v := 0) dX7_ticks_136 (by decide) ?_
          refine Ex_pV dX7_ticks_137 lk_X7_130 rfl rfl rfl rfl ?_
          refine Ex_iconst (v := 0) dX7_ticks_140 (by decide) ?_
          refine Ex_istore_n (lv' := [(0, .ref a0), (1, .int 0)]) dX7_ticks_141 rfl (by decide) [1, 0] rfl ?_
          refine Ex_lp (γ := Int32) (pj := 142) (fun v82 => [(0, .ref a0), (1, .int v82)]) (fun v82 => []) (fun j83 hj83 v82 => ?_) 0 rfl rfl
          refine Ex_iload_n dX7_ticks_142 rfl 1 rfl ?_
          refine Ex_iconst (v := 5) dX7_ticks_143 (by decide) ?_
          refine Ex_icmp_ge (tgt := 216) dX7_ticks_144 (by decide) ?_ ?_
          · refine Ex_aload_n dX7_ticks_216 rfl 0 rfl ?_
            refine Ex_bnU (Inv_V (L_X7_wins hG a0) (lw_V q2239 q2240 q2241 q55 q2242) oe_16 ⟨rfl, hm_X7_wins⟩ (by decide) (by decide) dX7_ticks_217 rfl (Nat.le_of_ble_eq_true rfl)) (fun _ => ?_)
            refine Ex_lv [] (lv' := []) rfl ?_
            exact hj73 ()
          · refine Ex_iload_n dX7_ticks_147 rfl 1 rfl ?_
            refine Ex_aload_n dX7_ticks_148 rfl 0 rfl ?_
            refine Ex_gI dX7_ticks_149 lk_X7_53 rfl (fun x84 => ?_)
            refine Ex_jn (γ := Unit) (pj := 210) (fun v85 => [(0, .ref a0), (1, .int v82)]) (fun v85 => []) (fun v85 => ?_) (fun j86 hj86 => ?_)
            · refine Ex_iinc (j := 1) (lv' := [(0, .ref a0), (1, .int (v82 + 1))]) dX7_ticks_210 rfl rfl (by decide) [1, 0] rfl ?_
              refine Ex_goto (tgt := 142) dX7_ticks_213 (by decide) ?_
              exact hj83 (v82 + 1)
            · refine Ex_icmp_eq (tgt := 210) dX7_ticks_152 (by decide) ?_ ?_
              · exact hj86 ()
              · refine Ex_aload_n dX7_ticks_155 rfl 0 rfl ?_
                refine Ex_bnI (Inv_V (L_X7_members hG a0) (lw_V q2134 q2135 q2136 q55 q2137) oe_16 ⟨rfl, hm_X7_members⟩ (by decide) (by decide) dX7_ticks_156 rfl (Nat.le_of_ble_eq_true rfl)) (fun r87 => ?_)
                refine Ex_iload_n dX7_ticks_159 rfl 1 rfl ?_
                refine Ex_ishr dX7_ticks_160 ?_
                refine Ex_iconst (v := 1) dX7_ticks_161 (by decide) ?_
                refine Ex_iand dX7_ticks_162 ?_
                refine Ex_iconst (v := 1) dX7_ticks_163 (by decide) ?_
                refine Ex_icmp_ne (tgt := 210) dX7_ticks_164 (by decide) ?_ ?_
                · exact hj86 ()
                · refine Ex_aload_n dX7_ticks_167 rfl 0 rfl ?_
                  refine Ex_gR dX7_ticks_168 lk_X7_3 rfl (fun x88 => ?_)
                  refine Ex_bipush (v := 118) dX7_ticks_171 (by decide) ?_
                  refine Ex_aload_n dX7_ticks_173 rfl 0 rfl ?_
                  refine Ex_gI dX7_ticks_174 lk_X7_53 rfl (fun x89 => ?_)
                  refine Ex_iload_n dX7_ticks_177 rfl 1 rfl ?_
                  refine Ex_bnR (Inv_VN (L_X6_send hG x88 118 x89 v82) q54 q2163 q2165 q2166 qs35 oe_15 hm_X6_send (by decide) (by decide) dX7_ticks_178 rfl (Nat.le_of_ble_eq_true rfl)) (fun r90 => ?_)
                  refine Ex_astore_n (lv' := [(0, .ref a0), (1, .int v82), (2, .ref r90)]) dX7_ticks_181 rfl (by decide) [1, 2, 0] rfl ?_
                  refine Ex_aload_n dX7_ticks_182 rfl 2 rfl ?_
                  refine Ex_aload_n dX7_ticks_183 rfl 0 rfl ?_
                  refine Ex_gI dX7_ticks_184 lk_X7_126 rfl (fun x91 => ?_)
                  refine Ex_pV dX7_ticks_187 lk_X7_184 rfl rfl rfl rfl ?_
                  refine Ex_aload_n dX7_ticks_190 rfl 2 rfl ?_
                  refine Ex_aload_n dX7_ticks_191 rfl 0 rfl ?_
                  refine Ex_bnI (Inv_V (L_X7_last hG a0) (lw_V q2138 q2139 q2140 q55 q2141) oe_16 ⟨rfl, hm_X7_last⟩ (by decide) (by decide) dX7_ticks_192 rfl (Nat.le_of_ble_eq_true rfl)) (fun r92 => ?_)
                  refine Ex_pV dX7_ticks_195 lk_X7_187 rfl rfl rfl rfl ?_
                  refine Ex_aload_n dX7_ticks_198 rfl 2 rfl ?_
                  refine Ex_aload_n dX7_ticks_199 rfl 0 rfl ?_
                  refine Ex_aload_n dX7_ticks_200 rfl 0 rfl ?_
                  refine Ex_bnI (Inv_V (L_X7_last hG a0) (lw_V q2138 q2139 q2140 q55 q2141) oe_16 ⟨rfl, hm_X7_last⟩ (by decide) (by decide) dX7_ticks_201 rfl (Nat.le_of_ble_eq_true rfl)) (fun r93 => ?_)
                  refine Ex_bnI (Inv_V (L_X7_termAt hG a0 r93) (lw_V q2231 q2232 q2233 q55 q2234) oe_16 ⟨rfl, hm_X7_termAt⟩ (by decide) (by decide) dX7_ticks_204 rfl (Nat.le_of_ble_eq_true rfl)) (fun r94 => ?_)
                  refine Ex_pV dX7_ticks_207 lk_X7_191 rfl rfl rfl rfl ?_
                  refine Ex_lv [0, 1] (lv' := [(0, .ref a0), (1, .int v82)]) rfl ?_
                  exact hj86 ()
    · refine Ex_aload_n dX7_ticks_19 rfl 0 rfl ?_
      refine Ex_gI dX7_ticks_20 lk_X7_160 rfl (fun x95 => ?_)
      refine Ex_aload_n dX7_ticks_23 rfl 0 rfl ?_
      refine Ex_gR dX7_ticks_24 lk_X7_50 rfl (fun x96 => ?_)
      refine Ex_aload_n dX7_ticks_27 rfl 0 rfl ?_
      refine Ex_gR dX7_ticks_28 lk_X7_50 rfl (fun x97 => ?_)
      refine Ex_bnI (Inv_V (L_J2_size hG x97) (lw_V q2124 q112 q113 q48 q114) oe_22 ⟨rfl, hm_J2_size⟩ (by decide) (by decide) dX7_ticks_31 rfl (Nat.le_of_ble_eq_true rfl)) (fun r98 => ?_)
      refine Ex_iconst (v := 1) dX7_ticks_34 (by decide) ?_
      refine Ex_isub dX7_ticks_35 ?_
      refine Ex_bnR (Inv_V (L_J2_get hG x96 (r98 - 1)) (lw_V q2125 q415 q416 q48 q417) oe_22 ⟨rfl, hm_J2_get⟩ (by decide) (by decide) dX7_ticks_36 rfl (Nat.le_of_ble_eq_true rfl)) (fun r99 => ?_)
      refine Ex_ko dX7_ticks_39 q2126 oc_java_lang_Integer_24 ?_
      refine Ex_bnI (Inv_V (L_J14_intValue hG r99) (lw_V q2127 q670 q671 q68 q672) oe_24 ⟨rfl, hm_J14_intValue⟩ (by decide) (by decide) dX7_ticks_42 rfl (Nat.le_of_ble_eq_true rfl)) (fun r100 => ?_)
      refine Ex_isub dX7_ticks_45 ?_
      refine Ex_iconst (v := 3) dX7_ticks_46 (by decide) ?_
      refine Ex_icmp_lt (tgt := 220) dX7_ticks_47 (by decide) ?_ ?_
      · refine Ex_lv [] (lv' := []) rfl ?_
        exact hj73 ()
      · refine Ex_aload_n dX7_ticks_50 rfl 0 rfl ?_
        refine Ex_bnU (Inv_V (L_X7_beginsRound hG a0) (lw_V q2128 q2129 q2130 q55 q2131) oe_16 ⟨rfl, hm_X7_beginsRound⟩ (by decide) (by decide) dX7_ticks_51 rfl (Nat.le_of_ble_eq_true rfl)) (fun _ => ?_)
        refine Ex_goto (tgt := 220) dX7_ticks_54 (by decide) ?_
        refine Ex_lv [] (lv' := []) rfl ?_
        exact hj73 ()
-- QuorumAlmanacModel.tick(I)I
def m_X6_tick (a0 : Nat) (x1 : Int32) : Ms Int32 :=
  bn (ko [15] a0 (m_X6_failsNode a0 x1)) fun r58 =>
  if r58 = 0 then
    gR [15] 128 a0 fun x59 =>
    aR 34 x59 x1 fun x60 =>
    gI [16] 59 x60 fun x61 =>
    lp (fun j63 (v62 : Int32 × Int32) =>
        if 5 ≤ v62.2 then
          jn (fun (v64 : Int32 × Nat) =>
              bn (ko [15] v64.2 (m_X6_fails v64.2 v64.1)) fun r66 =>
              if r66 = 0 then
                gR [15] 128 a0 fun x67 =>
                aR 34 x67 x1 fun x68 =>
                bn (ko [16] x68 (m_X7_ticks x68)) fun _ =>
                gR [15] 128 a0 fun x69 =>
                aR 34 x69 x1 fun x70 =>
                gI [16] 55 x70 fun x71 =>
                rt x71
              else
                rt 0)
            fun j65 =>
            if v62.1 = 0 then
              j65 (2, a0)
            else
              j65 (0, a0)
        else
          jn (fun (v72 : Int32) =>
              j63 (v72, (v62.2 + 1)))
            fun j73 =>
            jn (fun (v74 : Unit) =>
                j73 0)
              fun j75 =>
              if v62.1 = 0 then
                j75 ()
              else
                jn (fun (v76 : Unit) =>
                    j73 1)
                  fun j77 =>
                  if v62.2 = x1 then
                    j77 ()
                  else
                    gR [15] 128 a0 fun x78 =>
                    aR 34 x78 v62.2 fun x79 =>
                    gI [16] 59 x79 fun x80 =>
                    if x80 = 0 then
                      j77 ()
                    else
                      gR [15] 128 a0 fun x81 =>
                      aR 34 x81 x1 fun x82 =>
                      gI [16] 55 x82 fun x83 =>
                      gR [15] 128 a0 fun x84 =>
                      aR 34 x84 v62.2 fun x85 =>
                      gI [16] 55 x85 fun x86 =>
                      if 2 < ((x83 + 1) - x86) then
                        j75 ()
                      else
                        j77 ())
      (x61, 0)
  else
    rt 0
theorem hm_X6_tick : (yX6_tick.cls ≠ "java/lang/invoke/MethodHandle" ∧ yX6_tick.cls ≠ "java/lang/invoke/VarHandle" ∧ (parseMethodDescriptor yX6_tick.desc).map (fun d => d.parameters.length) = some 1) := by decide +kernel
set_option maxHeartbeats 4000000 in
set_option maxRecDepth 100000 in
theorem L_X6_tick {G : GT} (hG : GOK G) (a0 : Nat) (x1 : Int32) : Cal G yX6_tick (ws_ yX6_tick cX6_tick 4 (Option.some Jvm.ClassFile.FieldType.int)) 14 328 [.ref a0, .int x1] rI (m_X6_tick a0 x1) := by
  refine Cal_of hG (by decide +kernel) (Nat.le_of_ble_eq_true rfl) (lv0 := [(0, .ref a0), (1, .int x1)]) rfl (fun X σ0 => ?_)
  delta m_X6_tick
  refine Ex_aload_n dX6_tick_0 rfl 0 rfl ?_
  refine Ex_iload_n dX6_tick_1 rfl 1 rfl ?_
  refine Ex_bnI (Inv_V (L_X6_failsNode hG a0 x1) (lw_V q2109 q2111 qs33 q54 q2112) oe_15 ⟨rfl, hm_X6_failsNode⟩ (by decide) (by decide) dX6_tick_2 rfl (Nat.le_of_ble_eq_true rfl)) (fun r58 => ?_)
  refine Ex_if_eq (tgt := 10) dX6_tick_5 (by decide) ?_ ?_
  · refine Ex_aload_n dX6_tick_10 rfl 0 rfl ?_
    refine Ex_gR dX6_tick_11 lk_X6_15 rfl (fun x59 => ?_)
    refine Ex_iload_n dX6_tick_14 rfl 1 rfl ?_
    refine Ex_aR (j := 4) rfl rfl dX6_tick_15 (fun x60 => ?_)
    refine Ex_gI dX6_tick_16 lk_X6_77 rfl (fun x61 => ?_)
    refine Ex_istore_n (lv' := [(0, .ref a0), (1, .int x1), (2, .int x61)]) dX6_tick_19 rfl (by decide) [1, 2, 0] rfl ?_
    refine Ex_iconst (v := 0) dX6_tick_20 (by decide) ?_
    refine Ex_istore_n (lv' := [(0, .ref a0), (1, .int x1), (2, .int x61), (3, .int 0)]) dX6_tick_21 rfl (by decide) [1, 2, 3, 0] rfl ?_
    refine Ex_lp (γ := Int32 × Int32) (pj := 22) (fun v62 => [(0, .ref a0), (1, .int x1), (2, .int v62.1), (3, .int v62.2)]) (fun v62 => []) (fun j63 hj63 v62 => ?_) (x61, 0) rfl rfl
    refine Ex_iload_n dX6_tick_22 rfl 3 rfl ?_
    refine Ex_iconst (v := 5) dX6_tick_23 (by decide) ?_
    refine Ex_icmp_ge (tgt := 85) dX6_tick_24 (by decide) ?_ ?_
    · refine Ex_aload_n dX6_tick_85 rfl 0 rfl ?_
      refine Ex_iload_n dX6_tick_86 rfl 2 rfl ?_
      refine Ex_jn (γ := Int32 × Nat) (pj := 95) (fun v64 => [(0, .ref a0), (1, .int x1)]) (fun v64 => [.int v64.1, .ref v64.2]) (fun v64 => ?_) (fun j65 hj65 => ?_)
      · refine Ex_bnI (Inv_V (L_X6_fails hG v64.2 v64.1) (lw_V q2116 q2118 qs34 q54 q2119) oe_15 ⟨rfl, hm_X6_fails⟩ (by decide) (by decide) dX6_tick_95 rfl (Nat.le_of_ble_eq_true rfl)) (fun r66 => ?_)
        refine Ex_if_eq (tgt := 103) dX6_tick_98 (by decide) ?_ ?_
        · refine Ex_aload_n dX6_tick_103 rfl 0 rfl ?_
          refine Ex_gR dX6_tick_104 lk_X6_15 rfl (fun x67 => ?_)
          refine Ex_iload_n dX6_tick_107 rfl 1 rfl ?_
          refine Ex_aR (j := 4) rfl rfl dX6_tick_108 (fun x68 => ?_)
          refine Ex_bnU (Inv_V (L_X7_ticks hG x68) (lw_V q2120 q2121 q2122 q55 q2123) oe_16 ⟨rfl, hm_X7_ticks⟩ (by decide) (by decide) dX6_tick_109 rfl (Nat.le_of_ble_eq_true rfl)) (fun _ => ?_)
          refine Ex_aload_n dX6_tick_112 rfl 0 rfl ?_
          refine Ex_gR dX6_tick_113 lk_X6_15 rfl (fun x69 => ?_)
          refine Ex_iload_n dX6_tick_116 rfl 1 rfl ?_
          refine Ex_aR (j := 4) rfl rfl dX6_tick_117 (fun x70 => ?_)
          refine Ex_gI dX6_tick_118 lk_X6_81 rfl (fun x71 => ?_)
          exact Ex_ireturn dX6_tick_121 rfl
        · refine Ex_iconst (v := 0) dX6_tick_101 (by decide) ?_
          exact Ex_ireturn dX6_tick_102 rfl
      · refine Ex_if_eq (tgt := 94) dX6_tick_87 (by decide) ?_ ?_
        · refine Ex_iconst (v := 2) dX6_tick_94 (by decide) ?_
          refine Ex_lv [0, 1] (lv' := [(0, .ref a0), (1, .int x1)]) rfl ?_
          exact hj65 (2, a0)
        · refine Ex_iconst (v := 0) dX6_tick_90 (by decide) ?_
          refine Ex_goto (tgt := 95) dX6_tick_91 (by decide) ?_
          refine Ex_lv [0, 1] (lv' := [(0, .ref a0), (1, .int x1)]) rfl ?_
          exact hj65 (0, a0)
    · refine Ex_iload_n dX6_tick_27 rfl 2 rfl ?_
      refine Ex_jn (γ := Int32) (pj := 78) (fun v72 => [(0, .ref a0), (1, .int x1), (3, .int v62.2)]) (fun v72 => [.int v72]) (fun v72 => ?_) (fun j73 hj73 => ?_)
      · refine Ex_istore_n (lv' := [(0, .ref a0), (1, .int x1), (2, .int v72), (3, .int v62.2)]) dX6_tick_78 rfl (by decide) [1, 2, 0, 3] rfl ?_
        refine Ex_iinc (j := 3) (lv' := [(0, .ref a0), (1, .int x1), (2, .int v72), (3, .int (v62.2 + 1))]) dX6_tick_79 rfl rfl (by decide) [1, 2, 3, 0] rfl ?_
        refine Ex_goto (tgt := 22) dX6_tick_82 (by decide) ?_
        exact hj63 (v72, (v62.2 + 1))
      · refine Ex_jn (γ := Unit) (pj := 77) (fun v74 => [(0, .ref a0), (1, .int x1), (3, .int v62.2)]) (fun v74 => []) (fun v74 => ?_) (fun j75 hj75 => ?_)
        · refine Ex_iconst (v := 0) dX6_tick_77 (by decide) ?_
          exact hj73 0
        · refine Ex_if_eq (tgt := 77) dX6_tick_28 (by decide) ?_ ?_
          · refine Ex_lv [0, 1, 3] (lv' := [(0, .ref a0), (1, .int x1), (3, .int v62.2)]) rfl ?_
            exact hj75 ()
          · refine Ex_iload_n dX6_tick_31 rfl 3 rfl ?_
            refine Ex_iload_n dX6_tick_32 rfl 1 rfl ?_
            refine Ex_jn (γ := Unit) (pj := 73) (fun v76 => [(0, .ref a0), (1, .int x1), (3, .int v62.2)]) (fun v76 => []) (fun v76 => ?_) (fun j77 hj77 => ?_)
            · refine Ex_iconst (v := 1) dX6_tick_73 (by decide) ?_
              refine Ex_goto (tgt := 78) dX6_tick_74 (by decide) ?_
              exact hj73 1
            · refine Ex_icmp_eq (tgt := 73) dX6_tick_33 (by decide) ?_ ?_
              · refine Ex_lv [0, 1, 3] (lv' := [(0, .ref a0), (1, .int x1), (3, .int v62.2)]) rfl ?_
                exact hj77 ()
              · refine Ex_aload_n dX6_tick_36 rfl 0 rfl ?_
                refine Ex_gR dX6_tick_37 lk_X6_15 rfl (fun x78 => ?_)
                refine Ex_iload_n dX6_tick_40 rfl 3 rfl ?_
                refine Ex_aR (j := 4) rfl rfl dX6_tick_41 (fun x79 => ?_)
                refine Ex_gI dX6_tick_42 lk_X6_77 rfl (fun x80 => ?_)
                refine Ex_if_eq (tgt := 73) dX6_tick_45 (by decide) ?_ ?_
                · refine Ex_lv [0, 1, 3] (lv' := [(0, .ref a0), (1, .int x1), (3, .int v62.2)]) rfl ?_
                  exact hj77 ()
                · refine Ex_aload_n dX6_tick_48 rfl 0 rfl ?_
                  refine Ex_gR dX6_tick_49 lk_X6_15 rfl (fun x81 => ?_)
                  refine Ex_iload_n dX6_tick_52 rfl 1 rfl ?_
                  refine Ex_aR (j := 4) rfl rfl dX6_tick_53 (fun x82 => ?_)
                  refine Ex_gI dX6_tick_54 lk_X6_81 rfl (fun x83 => ?_)
                  refine Ex_iconst (v := 1) dX6_tick_57 (by decide) ?_
                  refine Ex_iadd dX6_tick_58 ?_
                  refine Ex_aload_n dX6_tick_59 rfl 0 rfl ?_
                  refine Ex_gR dX6_tick_60 lk_X6_15 rfl (fun x84 => ?_)
                  refine Ex_iload_n dX6_tick_63 rfl 3 rfl ?_
                  refine Ex_aR (j := 4) rfl rfl dX6_tick_64 (fun x85 => ?_)
                  refine Ex_gI dX6_tick_65 lk_X6_81 rfl (fun x86 => ?_)
                  refine Ex_isub dX6_tick_68 ?_
                  refine Ex_iconst (v := 2) dX6_tick_69 (by decide) ?_
                  refine Ex_icmp_gt (tgt := 77) dX6_tick_70 (by decide) ?_ ?_
                  · refine Ex_lv [0, 1, 3] (lv' := [(0, .ref a0), (1, .int x1), (3, .int v62.2)]) rfl ?_
                    exact hj75 ()
                  · refine Ex_lv [0, 1, 3] (lv' := [(0, .ref a0), (1, .int x1), (3, .int v62.2)]) rfl ?_
                    exact hj77 ()
  · refine Ex_iconst (v := 0) dX6_tick_8 (by decide) ?_
    exact Ex_ireturn dX6_tick_9 rfl
-- QuorumAlmanacModel.failsDown(I)Z
def m_X6_failsDown (a0 : Nat) (x1 : Int32) : Ms Int32 :=
  bn (m_X6_in x1 0 4) fun r30 =>
  jn (fun (v31 : Int32 × Nat) =>
      bn (ko [15] v31.2 (m_X6_fails v31.2 v31.1)) fun r33 =>
      ck (r33 = 0 ∨ r33 = 1) <|
      rt r33)
    fun j32 =>
    if ¬ r30 = 0 then
      gR [15] 128 a0 fun x34 =>
      aR 34 x34 x1 fun x35 =>
      gI [16] 59 x35 fun x36 =>
      if x36 = 0 then
        j32 (2, a0)
      else
        j32 (0, a0)
    else
      j32 (1, a0)
theorem hm_X6_failsDown : (yX6_failsDown.cls ≠ "java/lang/invoke/MethodHandle" ∧ yX6_failsDown.cls ≠ "java/lang/invoke/VarHandle" ∧ (parseMethodDescriptor yX6_failsDown.desc).map (fun d => d.parameters.length) = some 1) := by decide +kernel
set_option maxHeartbeats 4000000 in
set_option maxRecDepth 100000 in
theorem L_X6_failsDown {G : GT} (hG : GOK G) (a0 : Nat) (x1 : Int32) : Cal G yX6_failsDown (ws_ yX6_failsDown cX6_failsDown 2 (Option.some Jvm.ClassFile.FieldType.boolean)) 3 82 [.ref a0, .int x1] rI (m_X6_failsDown a0 x1) := by
  refine Cal_of hG (by decide +kernel) (Nat.le_of_ble_eq_true rfl) (lv0 := [(0, .ref a0), (1, .int x1)]) rfl (fun X σ0 => ?_)
  delta m_X6_failsDown
  refine Ex_aload_n dX6_failsDown_0 rfl 0 rfl ?_
  refine Ex_iload_n dX6_failsDown_1 rfl 1 rfl ?_
  refine Ex_iconst (v := 0) dX6_failsDown_2 (by decide) ?_
  refine Ex_iconst (v := 4) dX6_failsDown_3 (by decide) ?_
  refine Ex_bnI (Inv_S (L_X6_in hG x1 0 4) (lw_S q2113 q2114 q54 q2115) hm_X6_in (by decide) (by decide) dX6_failsDown_4 rfl (Nat.le_of_ble_eq_true rfl)) (fun r30 => ?_)
  refine Ex_jn (γ := Int32 × Nat) (pj := 31) (fun v31 => []) (fun v31 => [.int v31.1, .ref v31.2]) (fun v31 => ?_) (fun j32 hj32 => ?_)
  · refine Ex_bnI (Inv_V (L_X6_fails hG v31.2 v31.1) (lw_V q2116 q2118 qs34 q54 q2119) oe_15 ⟨rfl, hm_X6_fails⟩ (by decide) (by decide) dX6_failsDown_31 rfl (Nat.le_of_ble_eq_true rfl)) (fun r33 => ?_)
    refine Ex_ck (fun hz => ?_)
    exact Ex_zreturn dX6_failsDown_34 rfl (zok_n hz)
  · refine Ex_if_ne (tgt := 14) dX6_failsDown_7 (by decide) ?_ ?_
    · refine Ex_aload_n dX6_failsDown_14 rfl 0 rfl ?_
      refine Ex_gR dX6_failsDown_15 lk_X6_15 rfl (fun x34 => ?_)
      refine Ex_iload_n dX6_failsDown_18 rfl 1 rfl ?_
      refine Ex_aR (j := 4) rfl rfl dX6_failsDown_19 (fun x35 => ?_)
      refine Ex_gI dX6_failsDown_20 lk_X6_77 rfl (fun x36 => ?_)
      refine Ex_if_eq (tgt := 30) dX6_failsDown_23 (by decide) ?_ ?_
      · refine Ex_iconst (v := 2) dX6_failsDown_30 (by decide) ?_
        refine Ex_lv [] (lv' := []) rfl ?_
        exact hj32 (2, a0)
      · refine Ex_iconst (v := 0) dX6_failsDown_26 (by decide) ?_
        refine Ex_goto (tgt := 31) dX6_failsDown_27 (by decide) ?_
        refine Ex_lv [] (lv' := []) rfl ?_
        exact hj32 (0, a0)
    · refine Ex_iconst (v := 1) dX6_failsDown_10 (by decide) ?_
      refine Ex_goto (tgt := 31) dX6_failsDown_11 (by decide) ?_
      refine Ex_lv [] (lv' := []) rfl ?_
      exact hj32 (1, a0)
-- QuorumAlmanacModel$Node.answers()V
def m_X7_answers (a0 : Nat) : Ms Unit :=
  gR [16] 139 a0 fun x36 =>
  gI [16] 54 a0 fun x37 =>
  gI [16] 64 a0 fun x38 =>
  bn (ko [15] x36 (m_X6_send x36 107 x37 x38)) fun r39 =>
  gI [16] 56 a0 fun x40 =>
  pV [19] 76 r39 (.int x40) <|
  gI [16] 66 a0 fun x41 =>
  pV [19] 77 r39 (.int x41) <|
  pV [19] 80 r39 (.int 1) <|
  gI [16] 65 a0 fun x42 =>
  gI [16] 60 a0 fun x43 =>
  pV [19] 78 r39 (.int (iMin x42 x43)) <|
  rt ()
theorem hm_X7_answers : (yX7_answers.cls ≠ "java/lang/invoke/MethodHandle" ∧ yX7_answers.cls ≠ "java/lang/invoke/VarHandle" ∧ (parseMethodDescriptor yX7_answers.desc).map (fun d => d.parameters.length) = some 0) := by decide +kernel
set_option maxHeartbeats 4000000 in
set_option maxRecDepth 100000 in
theorem L_X7_answers {G : GT} (hG : GOK G) (a0 : Nat) : Cal G yX7_answers (ws_ yX7_answers cX7_answers 2 (Option.none : Option Jvm.ClassFile.FieldType)) 10 238 [.ref a0] rU (m_X7_answers a0) := by
  refine Cal_of hG (by decide +kernel) (Nat.le_of_ble_eq_true rfl) (lv0 := [(0, .ref a0)]) rfl (fun X σ0 => ?_)
  delta m_X7_answers
  refine Ex_aload_n dX7_answers_0 rfl 0 rfl ?_
  refine Ex_gR dX7_answers_1 lk_X7_3 rfl (fun x36 => ?_)
  refine Ex_bipush (v := 107) dX7_answers_4 (by decide) ?_
  refine Ex_aload_n dX7_answers_6 rfl 0 rfl ?_
  refine Ex_gI dX7_answers_7 lk_X7_53 rfl (fun x37 => ?_)
  refine Ex_aload_n dX7_answers_10 rfl 0 rfl ?_
  refine Ex_gI dX7_answers_11 lk_X7_37 rfl (fun x38 => ?_)
  refine Ex_bnR (Inv_VN (L_X6_send hG x36 107 x37 x38) q54 q2163 q2165 q2166 qs35 oe_15 hm_X6_send (by decide) (by decide) dX7_answers_14 rfl (Nat.le_of_ble_eq_true rfl)) (fun r39 => ?_)
  refine Ex_astore_n (lv' := [(0, .ref a0), (1, .ref r39)]) dX7_answers_17 rfl (by decide) [1, 0] rfl ?_
  refine Ex_aload_n dX7_answers_18 rfl 1 rfl ?_
  refine Ex_aload_n dX7_answers_19 rfl 0 rfl ?_
  refine Ex_gI dX7_answers_20 lk_X7_126 rfl (fun x40 => ?_)
  refine Ex_pV dX7_answers_23 lk_X7_184 rfl rfl rfl rfl ?_
  refine Ex_aload_n dX7_answers_26 rfl 1 rfl ?_
  refine Ex_aload_n dX7_answers_27 rfl 0 rfl ?_
  refine Ex_gI dX7_answers_28 lk_X7_130 rfl (fun x41 => ?_)
  refine Ex_pV dX7_answers_31 lk_X7_216 rfl rfl rfl rfl ?_
  refine Ex_aload_n dX7_answers_34 rfl 1 rfl ?_
  refine Ex_iconst (v := 1) dX7_answers_35 (by decide) ?_
  refine Ex_pV dX7_answers_36 lk_X7_273 rfl rfl rfl rfl ?_
  refine Ex_aload_n dX7_answers_39 rfl 1 rfl ?_
  refine Ex_aload_n dX7_answers_40 rfl 0 rfl ?_
  refine Ex_gI dX7_answers_41 lk_X7_127 rfl (fun x42 => ?_)
  refine Ex_aload_n dX7_answers_44 rfl 0 rfl ?_
  refine Ex_gI dX7_answers_45 lk_X7_243 rfl (fun x43 => ?_)
  refine Ex_mmin dX7_answers_48 q2337 q149 q49 q150 (by decide) (Nat.le_of_ble_eq_true rfl) ?_
  refine Ex_pV dX7_answers_51 lk_X7_187 rfl rfl rfl rfl ?_
  exact Ex_vreturn dX7_answers_54 rfl
-- QuorumAlmanacModel$Store.first(I)I
def m_X9_first (a0 : Nat) (x1 : Int32) : Ms Int32 :=
  lp (fun j25 (v24 : Int32) =>
      gR [18] 142 a0 fun x26 =>
      aI 30 x26 v24 fun x27 =>
      if ¬ x27 = (-1) then
        rt v24
      else
        j25 (v24 + (-1)))
    x1
theorem hm_X9_first : (yX9_first.cls ≠ "java/lang/invoke/MethodHandle" ∧ yX9_first.cls ≠ "java/lang/invoke/VarHandle" ∧ (parseMethodDescriptor yX9_first.desc).map (fun d => d.parameters.length) = some 1) := by decide +kernel
set_option maxHeartbeats 4000000 in
set_option maxRecDepth 100000 in
theorem L_X9_first {G : GT} (hG : GOK G) (a0 : Nat) (x1 : Int32) : Cal G yX9_first (ws_ yX9_first cX9_first 3 (Option.some Jvm.ClassFile.FieldType.int)) 2 60 [.ref a0, .int x1] rI (m_X9_first a0 x1) := by
  refine Cal_of hG (by decide +kernel) (Nat.le_of_ble_eq_true rfl) (lv0 := [(0, .ref a0), (1, .int x1)]) rfl (fun X σ0 => ?_)
  delta m_X9_first
  refine Ex_iload_n dX9_first_0 rfl 1 rfl ?_
  refine Ex_istore_n (lv' := [(0, .ref a0), (1, .int x1), (2, .int x1)]) dX9_first_1 rfl (by decide) [1, 2, 0] rfl ?_
  refine Ex_lv [0, 2] (lv' := [(0, .ref a0), (2, .int x1)]) rfl ?_
  refine Ex_lp (γ := Int32) (pj := 2) (fun v24 => [(0, .ref a0), (2, .int v24)]) (fun v24 => []) (fun j25 hj25 v24 => ?_) x1 rfl rfl
  refine Ex_aload_n dX9_first_2 rfl 0 rfl ?_
  refine Ex_gR dX9_first_3 lk_X9_15 rfl (fun x26 => ?_)
  refine Ex_iload_n dX9_first_6 rfl 1 rfl ?_
  refine Ex_aI_i dX9_first_7 (fun x27 => ?_)
  refine Ex_iconst (v := (-1)) dX9_first_8 (by decide) ?_
  refine Ex_icmp_ne (tgt := 18) dX9_first_9 (by decide) ?_ ?_
  · refine Ex_iload_n dX9_first_18 rfl 1 rfl ?_
    exact Ex_ireturn dX9_first_19 rfl
  · refine Ex_iinc (j := 1) (lv' := [(0, .ref a0), (2, .int (v24 + (-1)))]) dX9_first_12 rfl rfl (by decide) [1, 0] rfl ?_
    refine Ex_goto (tgt := 2) dX9_first_15 (by decide) ?_
    exact hj25 (v24 + (-1))
-- QuorumAlmanacModel$Store.apply(LQuorumAlmanacModel$Entry;)V
def m_X9_apply (a0 : Nat) (a1 : Nat) : Ms Unit :=
  gI [20] 83 a1 fun x82 =>
  jn (fun (v83 : Unit) =>
      rt ())
    fun j84 =>
    if ¬ x82 = 119 then
      gI [20] 83 a1 fun x85 =>
      jn (fun (v86 : Unit) =>
          gI [20] 83 a1 fun x88 =>
          if ¬ x88 = 109 then
            j84 ()
          else
            gR [18] 142 a0 fun x89 =>
            gI [20] 84 a1 fun x90 =>
            aI 30 x89 x90 fun x91 =>
            if x91 = (-1) then
              j84 ()
            else
              gI [20] 84 a1 fun x92 =>
              if x92 ≤ 0 then
                j84 ()
              else
                gR [18] 142 a0 fun x93 =>
                gI [20] 84 a1 fun x94 =>
                aI 30 x93 x94 fun x95 =>
                gR [18] 142 a0 fun x96 =>
                gI [20] 84 a1 fun x97 =>
                sV 30 x96 x97 (.int (-1)) <|
                gR [18] 142 a0 fun x98 =>
                gI [20] 84 a1 fun x99 =>
                bn (ko [18] a0 (m_X9_first a0 x99)) fun r100 =>
                aI 30 x98 r100 fun x101 =>
                sV 30 x98 r100 (.int (x101 + x95)) <|
                j84 ())
        fun j87 =>
        if ¬ x85 = 115 then
          j87 ()
        else
          gR [18] 142 a0 fun x102 =>
          gI [20] 84 a1 fun x103 =>
          aI 30 x102 x103 fun x104 =>
          if ¬ x104 = (-1) then
            j87 ()
          else
            gR [18] 142 a0 fun x105 =>
            gI [20] 84 a1 fun x106 =>
            bn (ko [18] a0 (m_X9_first a0 x106)) fun r107 =>
            sV 30 x105 r107 (.int 0) <|
            gR [18] 142 a0 fun x108 =>
            gI [20] 84 a1 fun x109 =>
            sV 30 x108 x109 (.int 0) <|
            j84 ()
    else
      gR [18] 141 a0 fun x110 =>
      gI [20] 84 a1 fun x111 =>
      gI [20] 85 a1 fun x112 =>
      sV 30 x110 x111 (.int x112) <|
      gR [18] 142 a0 fun x113 =>
      gI [20] 84 a1 fun x114 =>
      bn (ko [18] a0 (m_X9_first a0 x114)) fun r115 =>
      aI 30 x113 r115 fun x116 =>
      sV 30 x113 r115 (.int (x116 + 1)) <|
      j84 ()
theorem hm_X9_apply : (yX9_apply.cls ≠ "java/lang/invoke/MethodHandle" ∧ yX9_apply.cls ≠ "java/lang/invoke/VarHandle" ∧ (parseMethodDescriptor yX9_apply.desc).map (fun d => d.parameters.length) = some 1) := by decide +kernel
set_option maxHeartbeats 4000000 in
set_option maxRecDepth 100000 in
theorem L_X9_apply {G : GT} (hG : GOK G) (a0 : Nat) (a1 : Nat) : Cal G yX9_apply (ws_ yX9_apply cX9_apply 3 (Option.none : Option Jvm.ClassFile.FieldType)) 3 82 [.ref a0, .ref a1] rU (m_X9_apply a0 a1) := by
  refine Cal_of hG (by decide +kernel) (Nat.le_of_ble_eq_true rfl) (lv0 := [(0, .ref a0), (1, .ref a1)]) rfl (fun X σ0 => ?_)
  delta m_X9_apply
  refine Ex_aload_n dX9_apply_0 rfl 1 rfl ?_
  refine Ex_gI dX9_apply_1 lk_X9_19 rfl (fun x82 => ?_)
  refine Ex_bipush (v := 119) dX9_apply_4 (by decide) ?_
  refine Ex_jn (γ := Unit) (pj := 157) (fun v83 => []) (fun v83 => []) (fun v83 => ?_) (fun j84 hj84 => ?_)
  · exact Ex_vreturn dX9_apply_157 rfl
  · refine Ex_icmp_ne (tgt := 42) dX9_apply_6 (by decide) ?_ ?_
    · refine Ex_aload_n dX9_apply_42 rfl 1 rfl ?_
      refine Ex_gI dX9_apply_43 lk_X9_19 rfl (fun x85 => ?_)
      refine Ex_bipush (v := 115) dX9_apply_46 (by decide) ?_
      refine Ex_jn (γ := Unit) (pj := 91) (fun v86 => [(0, .ref a0), (1, .ref a1)]) (fun v86 => []) (fun v86 => ?_) (fun j87 hj87 => ?_)
      · refine Ex_aload_n dX9_apply_91 rfl 1 rfl ?_
        refine Ex_gI dX9_apply_92 lk_X9_19 rfl (fun x88 => ?_)
        refine Ex_bipush (v := 109) dX9_apply_95 (by decide) ?_
        refine Ex_icmp_ne (tgt := 157) dX9_apply_97 (by decide) ?_ ?_
        · refine Ex_lv [] (lv' := []) rfl ?_
          exact hj84 ()
        · refine Ex_aload_n dX9_apply_100 rfl 0 rfl ?_
          refine Ex_gR dX9_apply_101 lk_X9_15 rfl (fun x89 => ?_)
          refine Ex_aload_n dX9_apply_104 rfl 1 rfl ?_
          refine Ex_gI dX9_apply_105 lk_X9_25 rfl (fun x90 => ?_)
          refine Ex_aI_i dX9_apply_108 (fun x91 => ?_)
          refine Ex_iconst (v := (-1)) dX9_apply_109 (by decide) ?_
          refine Ex_icmp_eq (tgt := 157) dX9_apply_110 (by decide) ?_ ?_
          · refine Ex_lv [] (lv' := []) rfl ?_
            exact hj84 ()
          · refine Ex_aload_n dX9_apply_113 rfl 1 rfl ?_
            refine Ex_gI dX9_apply_114 lk_X9_25 rfl (fun x92 => ?_)
            refine Ex_if_le (tgt := 157) dX9_apply_117 (by decide) ?_ ?_
            · refine Ex_lv [] (lv' := []) rfl ?_
              exact hj84 ()
            · refine Ex_aload_n dX9_apply_120 rfl 0 rfl ?_
              refine Ex_gR dX9_apply_121 lk_X9_15 rfl (fun x93 => ?_)
              refine Ex_aload_n dX9_apply_124 rfl 1 rfl ?_
              refine Ex_gI dX9_apply_125 lk_X9_25 rfl (fun x94 => ?_)
              refine Ex_aI_i dX9_apply_128 (fun x95 => ?_)
              refine Ex_istore_n (lv' := [(0, .ref a0), (1, .ref a1), (2, .int x95)]) dX9_apply_129 rfl (by decide) [1, 2, 0] rfl ?_
              refine Ex_aload_n dX9_apply_130 rfl 0 rfl ?_
              refine Ex_gR dX9_apply_131 lk_X9_15 rfl (fun x96 => ?_)
              refine Ex_aload_n dX9_apply_134 rfl 1 rfl ?_
              refine Ex_gI dX9_apply_135 lk_X9_25 rfl (fun x97 => ?_)
              refine Ex_iconst (v := (-1)) dX9_apply_138 (by decide) ?_
              refine Ex_iast dX9_apply_139 ?_
              refine Ex_aload_n dX9_apply_140 rfl 0 rfl ?_
              refine Ex_gR dX9_apply_141 lk_X9_15 rfl (fun x98 => ?_)
              refine Ex_aload_n dX9_apply_144 rfl 0 rfl ?_
              refine Ex_aload_n dX9_apply_145 rfl 1 rfl ?_
              refine Ex_gI dX9_apply_146 lk_X9_25 rfl (fun x99 => ?_)
              refine Ex_bnI (Inv_V (L_X9_first hG a0 x99) (lw_V q2306 q2307 q2308 q57 q2309) oe_18 ⟨rfl, hm_X9_first⟩ (by decide) (by decide) dX9_apply_149 rfl (Nat.le_of_ble_eq_true rfl)) (fun r100 => ?_)
              refine Ex_dup2_11 rfl rfl dX9_apply_152 ?_
              refine Ex_aI_i dX9_apply_153 (fun x101 => ?_)
              refine Ex_iload_n dX9_apply_154 rfl 2 rfl ?_
              refine Ex_iadd dX9_apply_155 ?_
              refine Ex_iast dX9_apply_156 ?_
              refine Ex_lv [] (lv' := []) rfl ?_
              exact hj84 ()
      · refine Ex_icmp_ne (tgt := 91) dX9_apply_48 (by decide) ?_ ?_
        · exact hj87 ()
        · refine Ex_aload_n dX9_apply_51 rfl 0 rfl ?_
          refine Ex_gR dX9_apply_52 lk_X9_15 rfl (fun x102 => ?_)
          refine Ex_aload_n dX9_apply_55 rfl 1 rfl ?_
          refine Ex_gI dX9_apply_56 lk_X9_25 rfl (fun x103 => ?_)
          refine Ex_aI_i dX9_apply_59 (fun x104 => ?_)
          refine Ex_iconst (v := (-1)) dX9_apply_60 (by decide) ?_
          refine Ex_icmp_ne (tgt := 91) dX9_apply_61 (by decide) ?_ ?_
          · exact hj87 ()
          · refine Ex_aload_n dX9_apply_64 rfl 0 rfl ?_
            refine Ex_gR dX9_apply_65 lk_X9_15 rfl (fun x105 => ?_)
            refine Ex_aload_n dX9_apply_68 rfl 0 rfl ?_
            refine Ex_aload_n dX9_apply_69 rfl 1 rfl ?_
            refine Ex_gI dX9_apply_70 lk_X9_25 rfl (fun x106 => ?_)
            refine Ex_bnI (Inv_V (L_X9_first hG a0 x106) (lw_V q2306 q2307 q2308 q57 q2309) oe_18 ⟨rfl, hm_X9_first⟩ (by decide) (by decide) dX9_apply_73 rfl (Nat.le_of_ble_eq_true rfl)) (fun r107 => ?_)
            refine Ex_iconst (v := 0) dX9_apply_76 (by decide) ?_
            refine Ex_iast dX9_apply_77 ?_
            refine Ex_aload_n dX9_apply_78 rfl 0 rfl ?_
            refine Ex_gR dX9_apply_79 lk_X9_15 rfl (fun x108 => ?_)
            refine Ex_aload_n dX9_apply_82 rfl 1 rfl ?_
            refine Ex_gI dX9_apply_83 lk_X9_25 rfl (fun x109 => ?_)
            refine Ex_iconst (v := 0) dX9_apply_86 (by decide) ?_
            refine Ex_iast dX9_apply_87 ?_
            refine Ex_goto (tgt := 157) dX9_apply_88 (by decide) ?_
            refine Ex_lv [] (lv' := []) rfl ?_
            exact hj84 ()
    · refine Ex_aload_n dX9_apply_9 rfl 0 rfl ?_
      refine Ex_gR dX9_apply_10 lk_X9_9 rfl (fun x110 => ?_)
      refine Ex_aload_n dX9_apply_13 rfl 1 rfl ?_
      refine Ex_gI dX9_apply_14 lk_X9_25 rfl (fun x111 => ?_)
      refine Ex_aload_n dX9_apply_17 rfl 1 rfl ?_
      refine Ex_gI dX9_apply_18 lk_X9_29 rfl (fun x112 => ?_)
      refine Ex_iast dX9_apply_21 ?_
      refine Ex_aload_n dX9_apply_22 rfl 0 rfl ?_
      refine Ex_gR dX9_apply_23 lk_X9_15 rfl (fun x113 => ?_)
      refine Ex_aload_n dX9_apply_26 rfl 0 rfl ?_
      refine Ex_aload_n dX9_apply_27 rfl 1 rfl ?_
      refine Ex_gI dX9_apply_28 lk_X9_25 rfl (fun x114 => ?_)
      refine Ex_bnI (Inv_V (L_X9_first hG a0 x114) (lw_V q2306 q2307 q2308 q57 q2309) oe_18 ⟨rfl, hm_X9_first⟩ (by decide) (by decide) dX9_apply_31 rfl (Nat.le_of_ble_eq_true rfl)) (fun r115 => ?_)
      refine Ex_dup2_11 rfl rfl dX9_apply_34 ?_
      refine Ex_aI_i dX9_apply_35 (fun x116 => ?_)
      refine Ex_iconst (v := 1) dX9_apply_36 (by decide) ?_
      refine Ex_iadd dX9_apply_37 ?_
      refine Ex_iast dX9_apply_38 ?_
      refine Ex_goto (tgt := 157) dX9_apply_39 (by decide) ?_
      refine Ex_lv [] (lv' := []) rfl ?_
      exact hj84 ()
-- QuorumAlmanacModel.tellsHistory(ILQuorumAlmanacModel$Entry;)V
def m_X6_tellsHistory (a0 : Nat) (x1 : Int32) (a2 : Nat) : Ms Unit :=
  gR [15] 131 a0 fun x28 =>
  bn (ko [22] x28 (m_J2_size x28)) fun r29 =>
  jn (fun (v30 : Int32) =>
      rt ())
    fun j31 =>
    jn (fun (v32 : Unit) =>
        j31 0)
      fun j33 =>
      if ¬ x1 = (r29 + 1) then
        j33 ()
      else
        gR [15] 131 a0 fun x34 =>
        bn (ko [22] x34 (m_J2_add x34 a2)) fun r35 =>
        if r35 = 0 then
          j33 ()
        else
          j31 1
theorem hm_X6_tellsHistory : (yX6_tellsHistory.cls ≠ "java/lang/invoke/MethodHandle" ∧ yX6_tellsHistory.cls ≠ "java/lang/invoke/VarHandle" ∧ (parseMethodDescriptor yX6_tellsHistory.desc).map (fun d => d.parameters.length) = some 2) := by decide +kernel
set_option maxHeartbeats 4000000 in
set_option maxRecDepth 100000 in
theorem L_X6_tellsHistory {G : GT} (hG : GOK G) (a0 : Nat) (x1 : Int32) (a2 : Nat) : Cal G yX6_tellsHistory (ws_ yX6_tellsHistory cX6_tellsHistory 4 (Option.none : Option Jvm.ClassFile.FieldType)) 8 191 [.ref a0, .int x1, .ref a2] rU (m_X6_tellsHistory a0 x1 a2) := by
  refine Cal_of hG (by decide +kernel) (Nat.le_of_ble_eq_true rfl) (lv0 := [(0, .ref a0), (1, .int x1), (2, .ref a2)]) rfl (fun X σ0 => ?_)
  delta m_X6_tellsHistory
  refine Ex_iload_n dX6_tellsHistory_0 rfl 1 rfl ?_
  refine Ex_aload_n dX6_tellsHistory_1 rfl 0 rfl ?_
  refine Ex_gR dX6_tellsHistory_2 lk_X6_29 rfl (fun x28 => ?_)
  refine Ex_bnI (Inv_V (L_J2_size hG x28) (lw_V q2229 q112 q113 q48 q114) oe_22 ⟨rfl, hm_J2_size⟩ (by decide) (by decide) dX6_tellsHistory_5 rfl (Nat.le_of_ble_eq_true rfl)) (fun r29 => ?_)
  refine Ex_iconst (v := 1) dX6_tellsHistory_8 (by decide) ?_
  refine Ex_iadd dX6_tellsHistory_9 ?_
  refine Ex_jn (γ := Int32) (pj := 29) (fun v30 => []) (fun v30 => [.int v30]) (fun v30 => ?_) (fun j31 hj31 => ?_)
  · refine Ex_istore_n (lv' := [(3, .int v30)]) dX6_tellsHistory_29 rfl (by decide) [0] rfl ?_
    exact Ex_vreturn dX6_tellsHistory_30 rfl
  · refine Ex_jn (γ := Unit) (pj := 28) (fun v32 => []) (fun v32 => []) (fun v32 => ?_) (fun j33 hj33 => ?_)
    · refine Ex_iconst (v := 0) dX6_tellsHistory_28 (by decide) ?_
      exact hj31 0
    · refine Ex_icmp_ne (tgt := 28) dX6_tellsHistory_10 (by decide) ?_ ?_
      · refine Ex_lv [] (lv' := []) rfl ?_
        exact hj33 ()
      · refine Ex_aload_n dX6_tellsHistory_13 rfl 0 rfl ?_
        refine Ex_gR dX6_tellsHistory_14 lk_X6_29 rfl (fun x34 => ?_)
        refine Ex_aload_n dX6_tellsHistory_17 rfl 2 rfl ?_
        refine Ex_bnI (Inv_V (L_J2_add hG x34 a2) (lw_V q2228 q935 q936 q48 q937) oe_22 ⟨rfl, hm_J2_add⟩ (by decide) (by decide) dX6_tellsHistory_18 rfl (Nat.le_of_ble_eq_true rfl)) (fun r35 => ?_)
        refine Ex_if_eq (tgt := 28) dX6_tellsHistory_21 (by decide) ?_ ?_
        · refine Ex_lv [] (lv' := []) rfl ?_
          exact hj33 ()
        · refine Ex_iconst (v := 1) dX6_tellsHistory_24 (by decide) ?_
          refine Ex_goto (tgt := 29) dX6_tellsHistory_25 (by decide) ?_
          refine Ex_lv [] (lv' := []) rfl ?_
          exact hj31 1
-- QuorumAlmanacModel$Node.commits(I)V
def m_X7_commits (a0 : Nat) (x1 : Int32) : Ms Unit :=
  gI [16] 61 a0 fun x32 =>
  lp (fun j34 (v33 : Int32) =>
      if x1 < v33 then
        gI [16] 61 a0 fun x35 =>
        pV [16] 61 a0 (.int (iMax x35 x1)) <|
        rt ()
      else
        gR [16] 134 a0 fun x36 =>
        bn (ko [16] a0 (m_X7_entry a0 v33)) fun r37 =>
        bn (ko [18] x36 (m_X9_apply x36 r37)) fun _ =>
        gR [16] 139 a0 fun x38 =>
        bn (ko [16] a0 (m_X7_entry a0 v33)) fun r39 =>
        bn (ko [15] x38 (m_X6_tellsHistory x38 v33 r39)) fun _ =>
        j34 (v33 + 1))
    (x32 + 1)
theorem hm_X7_commits : (yX7_commits.cls ≠ "java/lang/invoke/MethodHandle" ∧ yX7_commits.cls ≠ "java/lang/invoke/VarHandle" ∧ (parseMethodDescriptor yX7_commits.desc).map (fun d => d.parameters.length) = some 1) := by decide +kernel
set_option maxHeartbeats 4000000 in
set_option maxRecDepth 100000 in
theorem L_X7_commits {G : GT} (hG : GOK G) (a0 : Nat) (x1 : Int32) : Cal G yX7_commits (ws_ yX7_commits cX7_commits 3 (Option.none : Option Jvm.ClassFile.FieldType)) 9 214 [.ref a0, .int x1] rU (m_X7_commits a0 x1) := by
  refine Cal_of hG (by decide +kernel) (Nat.le_of_ble_eq_true rfl) (lv0 := [(0, .ref a0), (1, .int x1)]) rfl (fun X σ0 => ?_)
  delta m_X7_commits
  refine Ex_aload_n dX7_commits_0 rfl 0 rfl ?_
  refine Ex_gI dX7_commits_1 lk_X7_220 rfl (fun x32 => ?_)
  refine Ex_iconst (v := 1) dX7_commits_4 (by decide) ?_
  refine Ex_iadd dX7_commits_5 ?_
  refine Ex_istore_n (lv' := [(0, .ref a0), (1, .int x1), (2, .int (x32 + 1))]) dX7_commits_6 rfl (by decide) [1, 2, 0] rfl ?_
  refine Ex_lp (γ := Int32) (pj := 7) (fun v33 => [(0, .ref a0), (1, .int x1), (2, .int v33)]) (fun v33 => []) (fun j34 hj34 v33 => ?_) (x32 + 1) rfl rfl
  refine Ex_iload_n dX7_commits_7 rfl 2 rfl ?_
  refine Ex_iload_n dX7_commits_8 rfl 1 rfl ?_
  refine Ex_icmp_gt (tgt := 43) dX7_commits_9 (by decide) ?_ ?_
  · refine Ex_aload_n dX7_commits_43 rfl 0 rfl ?_
    refine Ex_aload_n dX7_commits_44 rfl 0 rfl ?_
    refine Ex_gI dX7_commits_45 lk_X7_220 rfl (fun x35 => ?_)
    refine Ex_iload_n dX7_commits_48 rfl 1 rfl ?_
    refine Ex_mmax dX7_commits_49 q2314 q152 q49 q153 (by decide) (Nat.le_of_ble_eq_true rfl) ?_
    refine Ex_pV dX7_commits_52 lk_X7_220 rfl rfl rfl rfl ?_
    exact Ex_vreturn dX7_commits_55 rfl
  · refine Ex_aload_n dX7_commits_12 rfl 0 rfl ?_
    refine Ex_gR dX7_commits_13 lk_X7_68 rfl (fun x36 => ?_)
    refine Ex_aload_n dX7_commits_16 rfl 0 rfl ?_
    refine Ex_iload_n dX7_commits_17 rfl 2 rfl ?_
    refine Ex_bnR (Inv_V (L_X7_entry hG a0 v33) (lw_V q2150 q2151 q2152 q55 q2153) oe_16 ⟨rfl, hm_X7_entry⟩ (by decide) (by decide) dX7_commits_18 rfl (Nat.le_of_ble_eq_true rfl)) (fun r37 => ?_)
    refine Ex_bnU (Inv_V (L_X9_apply hG x36 r37) (lw_V q2302 q2303 q2304 q57 q2305) oe_18 ⟨rfl, hm_X9_apply⟩ (by decide) (by decide) dX7_commits_21 rfl (Nat.le_of_ble_eq_true rfl)) (fun _ => ?_)
    refine Ex_aload_n dX7_commits_24 rfl 0 rfl ?_
    refine Ex_gR dX7_commits_25 lk_X7_3 rfl (fun x38 => ?_)
    refine Ex_iload_n dX7_commits_28 rfl 2 rfl ?_
    refine Ex_aload_n dX7_commits_29 rfl 0 rfl ?_
    refine Ex_iload_n dX7_commits_30 rfl 2 rfl ?_
    refine Ex_bnR (Inv_V (L_X7_entry hG a0 v33) (lw_V q2150 q2151 q2152 q55 q2153) oe_16 ⟨rfl, hm_X7_entry⟩ (by decide) (by decide) dX7_commits_31 rfl (Nat.le_of_ble_eq_true rfl)) (fun r39 => ?_)
    refine Ex_bnU (Inv_VN (L_X6_tellsHistory hG x38 v33 r39) q54 q2310 q2312 q2313 qs38 oe_15 hm_X6_tellsHistory (by decide) (by decide) dX7_commits_34 rfl (Nat.le_of_ble_eq_true rfl)) (fun _ => ?_)
    refine Ex_iinc (j := 2) (lv' := [(0, .ref a0), (1, .int x1), (2, .int (v33 + 1))]) dX7_commits_37 rfl rfl (by decide) [1, 2, 0] rfl ?_
    refine Ex_goto (tgt := 7) dX7_commits_40 (by decide) ?_
    exact hj34 (v33 + 1)
-- QuorumAlmanacModel$Node.losesReads()V
def m_X7_losesReads (a0 : Nat) : Ms Unit :=
  gR [16] 139 a0 fun x36 =>
  gR [15] 130 x36 fun x37 =>
  bn (ko [22] x37 (m_J2_iterator x37)) fun r38 =>
  lp (fun j40 (v39 : Unit) =>
      bn (ko [23] r38 (m_J17_hasNext r38)) fun r41 =>
      if r41 = 0 then
        rt ()
      else
        bn (ko [23] r38 (m_J17_next r38)) fun r42 =>
        ko [21] r42 <|
        gI [21] 86 r42 fun x43 =>
        gI [16] 54 a0 fun x44 =>
        jn (fun (v45 : Unit) =>
            j40 ())
          fun j46 =>
          if ¬ x43 = x44 then
            j46 ()
          else
            gI [21] 90 r42 fun x47 =>
            if ¬ x47 = 119 then
              j46 ()
            else
              pV [21] 90 r42 (.int 108) <|
              j46 ())
    ()
theorem hm_X7_losesReads : (yX7_losesReads.cls ≠ "java/lang/invoke/MethodHandle" ∧ yX7_losesReads.cls ≠ "java/lang/invoke/VarHandle" ∧ (parseMethodDescriptor yX7_losesReads.desc).map (fun d => d.parameters.length) = some 0) := by decide +kernel
set_option maxHeartbeats 4000000 in
set_option maxRecDepth 100000 in
theorem L_X7_losesReads {G : GT} (hG : GOK G) (a0 : Nat) : Cal G yX7_losesReads (ws_ yX7_losesReads cX7_losesReads 3 (Option.none : Option Jvm.ClassFile.FieldType)) 4 102 [.ref a0] rU (m_X7_losesReads a0) := by
  refine Cal_of hG (by decide +kernel) (Nat.le_of_ble_eq_true rfl) (lv0 := [(0, .ref a0)]) rfl (fun X σ0 => ?_)
  delta m_X7_losesReads
  refine Ex_aload_n dX7_losesReads_0 rfl 0 rfl ?_
  refine Ex_gR dX7_losesReads_1 lk_X7_3 rfl (fun x36 => ?_)
  refine Ex_gR dX7_losesReads_4 lk_X7_136 rfl (fun x37 => ?_)
  refine Ex_bnR (Inv_V (L_J2_iterator hG x37) (lw_V q2319 q1149 q1150 q48 q1151) oe_22 ⟨rfl, hm_J2_iterator⟩ (by decide) (by decide) dX7_losesReads_7 rfl (Nat.le_of_ble_eq_true rfl)) (fun r38 => ?_)
  refine Ex_astore_n (lv' := [(0, .ref a0), (1, .ref r38)]) dX7_losesReads_10 rfl (by decide) [1, 0] rfl ?_
  refine Ex_lp (γ := Unit) (pj := 11) (fun v39 => [(0, .ref a0), (1, .ref r38)]) (fun v39 => []) (fun j40 hj40 v39 => ?_) () rfl rfl
  refine Ex_aload_n dX7_losesReads_11 rfl 1 rfl ?_
  refine Ex_bnI (Inv_F (L_J17_hasNext hG r38) (lw_F q2321 q1176 q1178 q77 q1180) q1174 q1173 q1179 q1177 q1175 oe_23 hx_Iterator_hasNext (by decide) (by decide) dX7_losesReads_12 rfl (Nat.le_of_ble_eq_true rfl)) (fun r41 => ?_)
  refine Ex_if_eq (tgt := 59) dX7_losesReads_17 (by decide) ?_ ?_
  · exact Ex_vreturn dX7_losesReads_59 rfl
  · refine Ex_aload_n dX7_losesReads_20 rfl 1 rfl ?_
    refine Ex_bnR (Inv_F (L_J17_next hG r38) (lw_F q2323 q1185 q1187 q77 q1189) q1184 q1183 q1188 q1186 q1175 oe_23 hx_Iterator_next (by decide) (by decide) dX7_losesReads_21 rfl (Nat.le_of_ble_eq_true rfl)) (fun r42 => ?_)
    refine Ex_ko dX7_losesReads_26 q2324 oc_QuorumAlmanacModel_Read_21 ?_
    refine Ex_astore_n (lv' := [(0, .ref a0), (1, .ref r38), (2, .ref r42)]) dX7_losesReads_29 rfl (by decide) [1, 2, 0] rfl ?_
    refine Ex_aload_n dX7_losesReads_30 rfl 2 rfl ?_
    refine Ex_gI dX7_losesReads_31 lk_X7_154 rfl (fun x43 => ?_)
    refine Ex_aload_n dX7_losesReads_34 rfl 0 rfl ?_
    refine Ex_gI dX7_losesReads_35 lk_X7_53 rfl (fun x44 => ?_)
    refine Ex_jn (γ := Unit) (pj := 56) (fun v45 => [(0, .ref a0), (1, .ref r38)]) (fun v45 => []) (fun v45 => ?_) (fun j46 hj46 => ?_)
    · refine Ex_goto (tgt := 11) dX7_losesReads_56 (by decide) ?_
      exact hj40 ()
    · refine Ex_icmp_ne (tgt := 56) dX7_losesReads_38 (by decide) ?_ ?_
      · refine Ex_lv [0, 1] (lv' := [(0, .ref a0), (1, .ref r38)]) rfl ?_
        exact hj46 ()
      · refine Ex_aload_n dX7_losesReads_41 rfl 2 rfl ?_
        refine Ex_gI dX7_losesReads_42 lk_X7_157 rfl (fun x47 => ?_)
        refine Ex_bipush (v := 119) dX7_losesReads_45 (by decide) ?_
        refine Ex_icmp_ne (tgt := 56) dX7_losesReads_47 (by decide) ?_ ?_
        · refine Ex_lv [0, 1] (lv' := [(0, .ref a0), (1, .ref r38)]) rfl ?_
          exact hj46 ()
        · refine Ex_aload_n dX7_losesReads_50 rfl 2 rfl ?_
          refine Ex_bipush (v := 108) dX7_losesReads_51 (by decide) ?_
          refine Ex_pV dX7_losesReads_53 lk_X7_157 rfl rfl rfl rfl ?_
          refine Ex_lv [0, 1] (lv' := [(0, .ref a0), (1, .ref r38)]) rfl ?_
          exact hj46 ()
-- QuorumAlmanacModel$Node.finds()V
def m_X7_finds (a0 : Nat) : Ms Unit :=
  gI [16] 61 a0 fun x89 =>
  gI [16] 61 a0 fun x90 =>
  lp (fun j92 (v91 : Int32 × Int32) =>
      bn (ko [16] a0 (m_X7_last a0)) fun r93 =>
      if r93 < v91.2 then
        gI [16] 61 a0 fun x94 =>
        if ¬ v91.1 = x94 then
          bn (ko [16] a0 (m_X7_commits a0 v91.1)) fun _ =>
          bn (ko [16] a0 (m_X7_last a0)) fun r95 =>
          bn (ko [16] a0 (m_X7_fresh a0 r95)) fun r96 =>
          jn (fun (v97 : Unit) =>
              gI [16] 61 a0 fun x99 =>
              bn (ko [16] a0 (m_X7_latestChange a0 x99)) fun r100 =>
              jn (fun (v101 : Unit) =>
                  rt ())
                fun j102 =>
                if r100 ≤ 0 then
                  j102 ()
                else
                  bn (ko [16] a0 (m_X7_entry a0 r100)) fun r103 =>
                  gI [20] 83 r103 fun x104 =>
                  if ¬ x104 = 110 then
                    j102 ()
                  else
                    bn (ko [16] a0 (m_X7_entry a0 r100)) fun r105 =>
                    gI [20] 84 r105 fun x106 =>
                    gI [16] 54 a0 fun x107 =>
                    if ¬ ((x106 >>> (x107 &&& 31)) &&& 1) = 0 then
                      j102 ()
                    else
                      pV [16] 58 a0 (.int 102) <|
                      bn (ko [16] a0 (m_X7_losesReads a0)) fun _ =>
                      j102 ())
            fun j98 =>
            if r96 = 0 then
              j98 ()
            else
              bn (ko [16] a0 (m_X7_last a0)) fun r108 =>
              bn (ko [16] a0 (m_X7_latestChange a0 r108)) fun r109 =>
              gI [16] 61 a0 fun x110 =>
              if x110 < r109 then
                j98 ()
              else
                gR [16] 133 a0 fun x111 =>
                nO 20 4 dfl fun a112 =>
                gI [16] 56 a0 fun x113 =>
                bn (m_X17_init a112 x113 110 r96 0) fun _ =>
                bn (ko [22] x111 (m_J2_add x111 a112)) fun r114 =>
                j98 ()
        else
          rt ()
      else
        gI [16] 60 a0 fun x115 =>
        jn (fun (v116 : Int32) =>
            lp (fun j119 (v118 : Int32 × Int32) =>
                if 5 ≤ v118.2 then
                  bn (ko [16] a0 (m_X7_entry a0 v91.2)) fun r120 =>
                  gI [20] 82 r120 fun x121 =>
                  gI [16] 56 a0 fun x122 =>
                  jn (fun (v123 : Int32) =>
                      j92 (v123, (v91.2 + 1)))
                    fun j124 =>
                    jn (fun (v125 : Unit) =>
                        j124 v91.1)
                      fun j126 =>
                      if ¬ x121 = x122 then
                        j126 ()
                      else
                        bn (ko [16] a0 (m_X7_isMajority a0 v118.1)) fun r127 =>
                        if r127 = 0 then
                          j126 ()
                        else
                          j124 v91.2
                else
                  gI [16] 54 a0 fun x128 =>
                  jn (fun (v129 : Int32 × Int32) =>
                      j119 ((v129.2 ||| v129.1), (v118.2 + 1)))
                    fun j130 =>
                    jn (fun (v131 : Int32) =>
                        j130 (0, v131))
                      fun j132 =>
                      if v118.2 = x128 then
                        j132 v118.1
                      else
                        gR [16] 136 a0 fun x133 =>
                        aI 30 x133 v118.2 fun x134 =>
                        if x134 < v91.2 then
                          j132 v118.1
                        else
                          j130 ((1 <<< (v118.2 &&& 31)), v118.1))
              (v116, 0))
          fun j117 =>
          if x115 < v91.2 then
            j117 0
          else
            gI [16] 54 a0 fun x135 =>
            j117 (1 <<< (x135 &&& 31)))
    (x89, (x90 + 1))
theorem hm_X7_finds : (yX7_finds.cls ≠ "java/lang/invoke/MethodHandle" ∧ yX7_finds.cls ≠ "java/lang/invoke/VarHandle" ∧ (parseMethodDescriptor yX7_finds.desc).map (fun d => d.parameters.length) = some 0) := by decide +kernel
set_option maxHeartbeats 4000000 in
set_option maxRecDepth 100000 in
theorem L_X7_finds {G : GT} (hG : GOK G) (a0 : Nat) : Cal G yX7_finds (ws_ yX7_finds cX7_finds 5 (Option.none : Option Jvm.ClassFile.FieldType)) 10 236 [.ref a0] rU (m_X7_finds a0) := by
  refine Cal_of hG (by decide +kernel) (Nat.le_of_ble_eq_true rfl) (lv0 := [(0, .ref a0)]) rfl (fun X σ0 => ?_)
  delta m_X7_finds
  refine Ex_aload_n dX7_finds_0 rfl 0 rfl ?_
  refine Ex_gI dX7_finds_1 lk_X7_220 rfl (fun x89 => ?_)
  refine Ex_istore_n (lv' := [(0, .ref a0), (1, .int x89)]) dX7_finds_4 rfl (by decide) [1, 0] rfl ?_
  refine Ex_aload_n dX7_finds_5 rfl 0 rfl ?_
  refine Ex_gI dX7_finds_6 lk_X7_220 rfl (fun x90 => ?_)
  refine Ex_iconst (v := 1) dX7_finds_9 (by decide) ?_
  refine Ex_iadd dX7_finds_10 ?_
  refine Ex_istore_n (lv' := [(0, .ref a0), (1, .int x89), (2, .int (x90 + 1))]) dX7_finds_11 rfl (by decide) [1, 2, 0] rfl ?_
  refine Ex_lp (γ := Int32 × Int32) (pj := 12) (fun v91 => [(0, .ref a0), (1, .int v91.1), (2, .int v91.2)]) (fun v91 => []) (fun j92 hj92 v91 => ?_) (x89, (x90 + 1)) rfl rfl
  refine Ex_iload_n dX7_finds_12 rfl 2 rfl ?_
  refine Ex_aload_n dX7_finds_13 rfl 0 rfl ?_
  refine Ex_bnI (Inv_V (L_X7_last hG a0) (lw_V q2138 q2139 q2140 q55 q2141) oe_16 ⟨rfl, hm_X7_last⟩ (by decide) (by decide) dX7_finds_14 rfl (Nat.le_of_ble_eq_true rfl)) (fun r93 => ?_)
  refine Ex_icmp_gt (tgt := 120) dX7_finds_17 (by decide) ?_ ?_
  · refine Ex_iload_n dX7_finds_120 rfl 1 rfl ?_
    refine Ex_aload_n dX7_finds_121 rfl 0 rfl ?_
    refine Ex_gI dX7_finds_122 lk_X7_220 rfl (fun x94 => ?_)
    refine Ex_icmp_ne (tgt := 129) dX7_finds_125 (by decide) ?_ ?_
    · refine Ex_aload_n dX7_finds_129 rfl 0 rfl ?_
      refine Ex_iload_n dX7_finds_130 rfl 1 rfl ?_
      refine Ex_bnU (Inv_V (L_X7_commits hG a0 v91.1) (lw_V q2298 q2299 q2300 q55 q2301) oe_16 ⟨rfl, hm_X7_commits⟩ (by decide) (by decide) dX7_finds_131 rfl (Nat.le_of_ble_eq_true rfl)) (fun _ => ?_)
      refine Ex_aload_n dX7_finds_134 rfl 0 rfl ?_
      refine Ex_aload_n dX7_finds_135 rfl 0 rfl ?_
      refine Ex_bnI (Inv_V (L_X7_last hG a0) (lw_V q2138 q2139 q2140 q55 q2141) oe_16 ⟨rfl, hm_X7_last⟩ (by decide) (by decide) dX7_finds_136 rfl (Nat.le_of_ble_eq_true rfl)) (fun r95 => ?_)
      refine Ex_bnI (Inv_V (L_X7_fresh hG a0 r95) (lw_V q2155 q2156 q2157 q55 q2158) oe_16 ⟨rfl, hm_X7_fresh⟩ (by decide) (by decide) dX7_finds_139 rfl (Nat.le_of_ble_eq_true rfl)) (fun r96 => ?_)
      refine Ex_istore_n (lv' := [(0, .ref a0), (1, .int v91.1), (2, .int r96)]) dX7_finds_142 rfl (by decide) [1, 2, 0] rfl ?_
      refine Ex_iload_n dX7_finds_143 rfl 2 rfl ?_
      refine Ex_jn (γ := Unit) (pj := 185) (fun v97 => [(0, .ref a0)]) (fun v97 => []) (fun v97 => ?_) (fun j98 hj98 => ?_)
      · refine Ex_aload_n dX7_finds_185 rfl 0 rfl ?_
        refine Ex_aload_n dX7_finds_186 rfl 0 rfl ?_
        refine Ex_gI dX7_finds_187 lk_X7_220 rfl (fun x99 => ?_)
        refine Ex_bnI (Inv_V (L_X7_latestChange hG a0 x99) (lw_V q2146 q2147 q2148 q55 q2149) oe_16 ⟨rfl, hm_X7_latestChange⟩ (by decide) (by decide) dX7_finds_190 rfl (Nat.le_of_ble_eq_true rfl)) (fun r100 => ?_)
        refine Ex_istore_n (lv' := [(0, .ref a0), (3, .int r100)]) dX7_finds_193 rfl (by decide) [1, 0] rfl ?_
        refine Ex_iload_n dX7_finds_194 rfl 1 rfl ?_
        refine Ex_jn (γ := Unit) (pj := 239) (fun v101 => []) (fun v101 => []) (fun v101 => ?_) (fun j102 hj102 => ?_)
        · exact Ex_vreturn dX7_finds_239 rfl
        · refine Ex_if_le (tgt := 239) dX7_finds_195 (by decide) ?_ ?_
          · refine Ex_lv [] (lv' := []) rfl ?_
            exact hj102 ()
          · refine Ex_aload_n dX7_finds_198 rfl 0 rfl ?_
            refine Ex_iload_n dX7_finds_199 rfl 1 rfl ?_
            refine Ex_bnR (Inv_V (L_X7_entry hG a0 r100) (lw_V q2150 q2151 q2152 q55 q2153) oe_16 ⟨rfl, hm_X7_entry⟩ (by decide) (by decide) dX7_finds_200 rfl (Nat.le_of_ble_eq_true rfl)) (fun r103 => ?_)
            refine Ex_gI dX7_finds_203 lk_X7_96 rfl (fun x104 => ?_)
            refine Ex_bipush (v := 110) dX7_finds_206 (by decide) ?_
            refine Ex_icmp_ne (tgt := 239) dX7_finds_208 (by decide) ?_ ?_
            · refine Ex_lv [] (lv' := []) rfl ?_
              exact hj102 ()
            · refine Ex_aload_n dX7_finds_211 rfl 0 rfl ?_
              refine Ex_iload_n dX7_finds_212 rfl 1 rfl ?_
              refine Ex_bnR (Inv_V (L_X7_entry hG a0 r100) (lw_V q2150 q2151 q2152 q55 q2153) oe_16 ⟨rfl, hm_X7_entry⟩ (by decide) (by decide) dX7_finds_213 rfl (Nat.le_of_ble_eq_true rfl)) (fun r105 => ?_)
              refine Ex_gI dX7_finds_216 lk_X7_106 rfl (fun x106 => ?_)
              refine Ex_aload_n dX7_finds_219 rfl 0 rfl ?_
              refine Ex_gI dX7_finds_220 lk_X7_53 rfl (fun x107 => ?_)
              refine Ex_ishr dX7_finds_223 ?_
              refine Ex_iconst (v := 1) dX7_finds_224 (by decide) ?_
              refine Ex_iand dX7_finds_225 ?_
              refine Ex_if_ne (tgt := 239) dX7_finds_226 (by decide) ?_ ?_
              · refine Ex_lv [] (lv' := []) rfl ?_
                exact hj102 ()
              · refine Ex_aload_n dX7_finds_229 rfl 0 rfl ?_
                refine Ex_bipush (v := 102) dX7_finds_230 (by decide) ?_
                refine Ex_pV dX7_finds_232 lk_X7_19 rfl rfl rfl rfl ?_
                refine Ex_aload_n dX7_finds_235 rfl 0 rfl ?_
                refine Ex_bnU (Inv_V (L_X7_losesReads hG a0) (lw_V q2315 q2316 q2317 q55 q2318) oe_16 ⟨rfl, hm_X7_losesReads⟩ (by decide) (by decide) dX7_finds_236 rfl (Nat.le_of_ble_eq_true rfl)) (fun _ => ?_)
                refine Ex_lv [] (lv' := []) rfl ?_
                exact hj102 ()
      · refine Ex_if_eq (tgt := 185) dX7_finds_144 (by decide) ?_ ?_
        · refine Ex_lv [0] (lv' := [(0, .ref a0)]) rfl ?_
          exact hj98 ()
        · refine Ex_aload_n dX7_finds_147 rfl 0 rfl ?_
          refine Ex_aload_n dX7_finds_148 rfl 0 rfl ?_
          refine Ex_bnI (Inv_V (L_X7_last hG a0) (lw_V q2138 q2139 q2140 q55 q2141) oe_16 ⟨rfl, hm_X7_last⟩ (by decide) (by decide) dX7_finds_149 rfl (Nat.le_of_ble_eq_true rfl)) (fun r108 => ?_)
          refine Ex_bnI (Inv_V (L_X7_latestChange hG a0 r108) (lw_V q2146 q2147 q2148 q55 q2149) oe_16 ⟨rfl, hm_X7_latestChange⟩ (by decide) (by decide) dX7_finds_152 rfl (Nat.le_of_ble_eq_true rfl)) (fun r109 => ?_)
          refine Ex_aload_n dX7_finds_155 rfl 0 rfl ?_
          refine Ex_gI dX7_finds_156 lk_X7_220 rfl (fun x110 => ?_)
          refine Ex_icmp_gt (tgt := 185) dX7_finds_159 (by decide) ?_ ?_
          · refine Ex_lv [0] (lv' := [(0, .ref a0)]) rfl ?_
            exact hj98 ()
          · refine Ex_aload_n dX7_finds_162 rfl 0 rfl ?_
            refine Ex_gR dX7_finds_163 lk_X7_30 rfl (fun x111 => ?_)
            refine Ex_nO (ci := 19) (q := qcl 19) dX7_finds_166 rfl q2154 q2253 q82 (fun a112 => ?_)
            refine Ex_dup rfl dX7_finds_169 ?_
            refine Ex_aload_n dX7_finds_170 rfl 0 rfl ?_
            refine Ex_gI dX7_finds_171 lk_X7_126 rfl (fun x113 => ?_)
            refine Ex_bipush (v := 110) dX7_finds_174 (by decide) ?_
            refine Ex_iload_n dX7_finds_176 rfl 2 rfl ?_
            refine Ex_iconst (v := 0) dX7_finds_177 (by decide) ?_
            refine Ex_bnU (Inv_I (L_X17_init hG a112 x113 110 r96 0) q82 q2254 q2255 q2256 rfl hm_X17_init (by decide) (by decide) dX7_finds_178 rfl (Nat.le_of_ble_eq_true rfl)) (fun _ => ?_)
            refine Ex_bnI (Inv_V (L_J2_add hG x111 a112) (lw_V q2133 q935 q936 q48 q937) oe_22 ⟨rfl, hm_J2_add⟩ (by decide) (by decide) dX7_finds_181 rfl (Nat.le_of_ble_eq_true rfl)) (fun r114 => ?_)
            refine Ex_istore_n (lv' := [(0, .ref a0), (1, .int v91.1), (2, .int r96), (3, .int r114)]) dX7_finds_184 rfl (by decide) [1, 2, 3, 0] rfl ?_
            refine Ex_lv [0] (lv' := [(0, .ref a0)]) rfl ?_
            exact hj98 ()
    · exact Ex_vreturn dX7_finds_128 rfl
  · refine Ex_aload_n dX7_finds_20 rfl 0 rfl ?_
    refine Ex_gI dX7_finds_21 lk_X7_243 rfl (fun x115 => ?_)
    refine Ex_iload_n dX7_finds_24 rfl 2 rfl ?_
    refine Ex_jn (γ := Int32) (pj := 38) (fun v116 => [(0, .ref a0), (1, .int v91.1), (2, .int v91.2)]) (fun v116 => [.int v116]) (fun v116 => ?_) (fun j117 hj117 => ?_)
    · refine Ex_istore_n (lv' := [(0, .ref a0), (1, .int v91.1), (2, .int v91.2), (3, .int v116)]) dX7_finds_38 rfl (by decide) [1, 2, 3, 0] rfl ?_
      refine Ex_iconst (v := 0) dX7_finds_39 (by decide) ?_
      refine Ex_istore (lv' := [(0, .ref a0), (1, .int v91.1), (2, .int v91.2), (3, .int v116), (4, .int 0)]) dX7_finds_40 (by decide) [1, 2, 3, 4, 0] rfl ?_
      refine Ex_lp (γ := Int32 × Int32) (pj := 42) (fun v118 => [(0, .ref a0), (1, .int v91.1), (2, .int v91.2), (3, .int v118.1), (4, .int v118.2)]) (fun v118 => []) (fun j119 hj119 v118 => ?_) (v116, 0) rfl rfl
      refine Ex_iload dX7_finds_42 4 rfl ?_
      refine Ex_iconst (v := 5) dX7_finds_44 (by decide) ?_
      refine Ex_icmp_ge (tgt := 85) dX7_finds_45 (by decide) ?_ ?_
      · refine Ex_aload_n dX7_finds_85 rfl 0 rfl ?_
        refine Ex_iload_n dX7_finds_86 rfl 2 rfl ?_
        refine Ex_bnR (Inv_V (L_X7_entry hG a0 v91.2) (lw_V q2150 q2151 q2152 q55 q2153) oe_16 ⟨rfl, hm_X7_entry⟩ (by decide) (by decide) dX7_finds_87 rfl (Nat.le_of_ble_eq_true rfl)) (fun r120 => ?_)
        refine Ex_gI dX7_finds_90 lk_X7_95 rfl (fun x121 => ?_)
        refine Ex_aload_n dX7_finds_93 rfl 0 rfl ?_
        refine Ex_gI dX7_finds_94 lk_X7_126 rfl (fun x122 => ?_)
        refine Ex_jn (γ := Int32) (pj := 113) (fun v123 => [(0, .ref a0), (2, .int v91.2)]) (fun v123 => [.int v123]) (fun v123 => ?_) (fun j124 hj124 => ?_)
        · refine Ex_istore_n (lv' := [(0, .ref a0), (1, .int v123), (2, .int v91.2)]) dX7_finds_113 rfl (by decide) [1, 0, 2] rfl ?_
          refine Ex_iinc (j := 2) (lv' := [(0, .ref a0), (1, .int v123), (2, .int (v91.2 + 1))]) dX7_finds_114 rfl rfl (by decide) [1, 2, 0] rfl ?_
          refine Ex_goto (tgt := 12) dX7_finds_117 (by decide) ?_
          exact hj92 (v123, (v91.2 + 1))
        · refine Ex_jn (γ := Unit) (pj := 112) (fun v125 => [(0, .ref a0), (1, .int v91.1), (2, .int v91.2)]) (fun v125 => []) (fun v125 => ?_) (fun j126 hj126 => ?_)
          · refine Ex_iload_n dX7_finds_112 rfl 1 rfl ?_
            refine Ex_lv [0, 2] (lv' := [(0, .ref a0), (2, .int v91.2)]) rfl ?_
            exact hj124 v91.1
          · refine Ex_icmp_ne (tgt := 112) dX7_finds_97 (by decide) ?_ ?_
            · refine Ex_lv [0, 1, 2] (lv' := [(0, .ref a0), (1, .int v91.1), (2, .int v91.2)]) rfl ?_
              exact hj126 ()
            · refine Ex_aload_n dX7_finds_100 rfl 0 rfl ?_
              refine Ex_iload_n dX7_finds_101 rfl 3 rfl ?_
              refine Ex_bnI (Inv_V (L_X7_isMajority hG a0 v118.1) (lw_V q2243 q2244 q2245 q55 q2246) oe_16 ⟨rfl, hm_X7_isMajority⟩ (by decide) (by decide) dX7_finds_102 rfl (Nat.le_of_ble_eq_true rfl)) (fun r127 => ?_)
              refine Ex_if_eq (tgt := 112) dX7_finds_105 (by decide) ?_ ?_
              · refine Ex_lv [0, 1, 2] (lv' := [(0, .ref a0), (1, .int v91.1), (2, .int v91.2)]) rfl ?_
                exact hj126 ()
              · refine Ex_iload_n dX7_finds_108 rfl 2 rfl ?_
                refine Ex_goto (tgt := 113) dX7_finds_109 (by decide) ?_
                refine Ex_lv [0, 2] (lv' := [(0, .ref a0), (2, .int v91.2)]) rfl ?_
                exact hj124 v91.2
      · refine Ex_iload_n dX7_finds_48 rfl 3 rfl ?_
        refine Ex_iload dX7_finds_49 4 rfl ?_
        refine Ex_aload_n dX7_finds_51 rfl 0 rfl ?_
        refine Ex_gI dX7_finds_52 lk_X7_53 rfl (fun x128 => ?_)
        refine Ex_jn (γ := Int32 × Int32) (pj := 77) (fun v129 => [(0, .ref a0), (1, .int v91.1), (2, .int v91.2), (4, .int v118.2)]) (fun v129 => [.int v129.1, .int v129.2]) (fun v129 => ?_) (fun j130 hj130 => ?_)
        · refine Ex_ior dX7_finds_77 ?_
          refine Ex_istore_n (lv' := [(0, .ref a0), (1, .int v91.1), (2, .int v91.2), (3, .int (v129.2 ||| v129.1)), (4, .int v118.2)]) dX7_finds_78 rfl (by decide) [1, 2, 3, 0, 4] rfl ?_
          refine Ex_iinc (j := 4) (lv' := [(0, .ref a0), (1, .int v91.1), (2, .int v91.2), (3, .int (v129.2 ||| v129.1)), (4, .int (v118.2 + 1))]) dX7_finds_79 rfl rfl (by decide) [1, 2, 3, 4, 0] rfl ?_
          refine Ex_goto (tgt := 42) dX7_finds_82 (by decide) ?_
          exact hj119 ((v129.2 ||| v129.1), (v118.2 + 1))
        · refine Ex_jn (γ := Int32) (pj := 76) (fun v131 => [(0, .ref a0), (1, .int v91.1), (2, .int v91.2), (4, .int v118.2)]) (fun v131 => [.int v131]) (fun v131 => ?_) (fun j132 hj132 => ?_)
          · refine Ex_iconst (v := 0) dX7_finds_76 (by decide) ?_
            exact hj130 (0, v131)
          · refine Ex_icmp_eq (tgt := 76) dX7_finds_55 (by decide) ?_ ?_
            · refine Ex_lv [0, 1, 2, 4] (lv' := [(0, .ref a0), (1, .int v91.1), (2, .int v91.2), (4, .int v118.2)]) rfl ?_
              exact hj132 v118.1
            · refine Ex_aload_n dX7_finds_58 rfl 0 rfl ?_
              refine Ex_gR dX7_finds_59 lk_X7_44 rfl (fun x133 => ?_)
              refine Ex_iload dX7_finds_62 4 rfl ?_
              refine Ex_aI_i dX7_finds_64 (fun x134 => ?_)
              refine Ex_iload_n dX7_finds_65 rfl 2 rfl ?_
              refine Ex_icmp_lt (tgt := 76) dX7_finds_66 (by decide) ?_ ?_
              · refine Ex_lv [0, 1, 2, 4] (lv' := [(0, .ref a0), (1, .int v91.1), (2, .int v91.2), (4, .int v118.2)]) rfl ?_
                exact hj132 v118.1
              · refine Ex_iconst (v := 1) dX7_finds_69 (by decide) ?_
                refine Ex_iload dX7_finds_70 4 rfl ?_
                refine Ex_ishl dX7_finds_72 ?_
                refine Ex_goto (tgt := 77) dX7_finds_73 (by decide) ?_
                refine Ex_lv [0, 1, 2, 4] (lv' := [(0, .ref a0), (1, .int v91.1), (2, .int v91.2), (4, .int v118.2)]) rfl ?_
                exact hj130 ((1 <<< (v118.2 &&& 31)), v118.1)
    · refine Ex_icmp_lt (tgt := 37) dX7_finds_25 (by decide) ?_ ?_
      · refine Ex_iconst (v := 0) dX7_finds_37 (by decide) ?_
        exact hj117 0
      · refine Ex_iconst (v := 1) dX7_finds_28 (by decide) ?_
        refine Ex_aload_n dX7_finds_29 rfl 0 rfl ?_
        refine Ex_gI dX7_finds_30 lk_X7_53 rfl (fun x135 => ?_)
        refine Ex_ishl dX7_finds_33 ?_
        refine Ex_goto (tgt := 38) dX7_finds_34 (by decide) ?_
        exact hj117 (1 <<< (x135 &&& 31))
