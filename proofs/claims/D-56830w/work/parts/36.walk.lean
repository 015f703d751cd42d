-- QuorumAlmanacModel$Node.isAnswered(LQuorumAlmanacModel$Message;)V
def m_X7_isAnswered (a0 : Nat) (a1 : Nat) : Ms Unit :=
  gI [19] 76 a1 fun x78 =>
  gI [16] 56 a0 fun x79 =>
  if x78 ≤ x79 then
    gI [16] 58 a0 fun x80 =>
    jn (fun (v81 : Unit) =>
        rt ())
      fun j82 =>
      if ¬ x80 = 108 then
        j82 ()
      else
        gI [19] 76 a1 fun x83 =>
        gI [16] 56 a0 fun x84 =>
        if ¬ x83 = x84 then
          j82 ()
        else
          gI [19] 77 a1 fun x85 =>
          if ¬ x85 = (-1) then
            gI [19] 80 a1 fun x86 =>
            jn (fun (v87 : Unit) =>
                gR [16] 137 a0 fun x89 =>
                gI [19] 74 a1 fun x90 =>
                gR [16] 137 a0 fun x91 =>
                gI [19] 74 a1 fun x92 =>
                aI 30 x91 x92 fun x93 =>
                gI [19] 77 a1 fun x94 =>
                sV 30 x89 x90 (.int (iMax x93 x94)) <|
                bn (ko [16] a0 (m_X7_finds a0)) fun _ =>
                bn (ko [16] a0 (m_X7_looksAtReads a0)) fun _ =>
                rt ())
              fun j88 =>
              if x86 = 0 then
                gR [16] 135 a0 fun x95 =>
                gI [19] 74 a1 fun x96 =>
                gI [19] 78 a1 fun x97 =>
                sV 30 x95 x96 (.int (x97 + 1)) <|
                j88 ()
              else
                gR [16] 136 a0 fun x98 =>
                gI [19] 74 a1 fun x99 =>
                gR [16] 136 a0 fun x100 =>
                gI [19] 74 a1 fun x101 =>
                aI 30 x100 x101 fun x102 =>
                gI [19] 78 a1 fun x103 =>
                sV 30 x98 x99 (.int (iMax x102 x103)) <|
                gR [16] 135 a0 fun x104 =>
                gI [19] 74 a1 fun x105 =>
                gR [16] 135 a0 fun x106 =>
                gI [19] 74 a1 fun x107 =>
                aI 30 x106 x107 fun x108 =>
                gI [19] 78 a1 fun x109 =>
                sV 30 x104 x105 (.int (iMax x108 (x109 + 1))) <|
                j88 ()
          else
            j82 ()
  else
    gI [19] 76 a1 fun x110 =>
    bn (ko [16] a0 (m_X7_follow a0 x110)) fun _ =>
    rt ()
theorem hm_X7_isAnswered : (yX7_isAnswered.cls ≠ "java/lang/invoke/MethodHandle" ∧ yX7_isAnswered.cls ≠ "java/lang/invoke/VarHandle" ∧ (parseMethodDescriptor yX7_isAnswered.desc).map (fun d => d.parameters.length) = some 1) := by decide +kernel
set_option maxHeartbeats 4000000 in
set_option maxRecDepth 100000 in
theorem L_X7_isAnswered {G : GT} (hG : GOK G) (a0 : Nat) (a1 : Nat) : Cal G yX7_isAnswered (ws_ yX7_isAnswered cX7_isAnswered 2 (Option.none : Option Jvm.ClassFile.FieldType)) 11 260 [.ref a0, .ref a1] rU (m_X7_isAnswered a0 a1) := by
  refine Cal_of hG (by decide +kernel) (Nat.le_of_ble_eq_true rfl) (lv0 := [(0, .ref a0), (1, .ref a1)]) rfl (fun X σ0 => ?_)
  delta m_X7_isAnswered
  refine Ex_aload_n dX7_isAnswered_0 rfl 1 rfl ?_
  refine Ex_gI dX7_isAnswered_1 lk_X7_184 rfl (fun x78 => ?_)
  refine Ex_aload_n dX7_isAnswered_4 rfl 0 rfl ?_
  refine Ex_gI dX7_isAnswered_5 lk_X7_126 rfl (fun x79 => ?_)
  refine Ex_icmp_le (tgt := 20) dX7_isAnswered_8 (by decide) ?_ ?_
  · refine Ex_aload_n dX7_isAnswered_20 rfl 0 rfl ?_
    refine Ex_gI dX7_isAnswered_21 lk_X7_19 rfl (fun x80 => ?_)
    refine Ex_bipush (v := 108) dX7_isAnswered_24 (by decide) ?_
    refine Ex_jn (γ := Unit) (pj := 48) (fun v81 => []) (fun v81 => []) (fun v81 => ?_) (fun j82 hj82 => ?_)
    · exact Ex_vreturn dX7_isAnswered_48 rfl
    · refine Ex_icmp_ne (tgt := 48) dX7_isAnswered_26 (by decide) ?_ ?_
      · refine Ex_lv [] (lv' := []) rfl ?_
        exact hj82 ()
      · refine Ex_aload_n dX7_isAnswered_29 rfl 1 rfl ?_
        refine Ex_gI dX7_isAnswered_30 lk_X7_184 rfl (fun x83 => ?_)
        refine Ex_aload_n dX7_isAnswered_33 rfl 0 rfl ?_
        refine Ex_gI dX7_isAnswered_34 lk_X7_126 rfl (fun x84 => ?_)
        refine Ex_icmp_ne (tgt := 48) dX7_isAnswered_37 (by decide) ?_ ?_
        · refine Ex_lv [] (lv' := []) rfl ?_
          exact hj82 ()
        · refine Ex_aload_n dX7_isAnswered_40 rfl 1 rfl ?_
          refine Ex_gI dX7_isAnswered_41 lk_X7_216 rfl (fun x85 => ?_)
          refine Ex_iconst (v := (-1)) dX7_isAnswered_44 (by decide) ?_
          refine Ex_icmp_ne (tgt := 49) dX7_isAnswered_45 (by decide) ?_ ?_
          · refine Ex_aload_n dX7_isAnswered_49 rfl 1 rfl ?_
            refine Ex_gI dX7_isAnswered_50 lk_X7_273 rfl (fun x86 => ?_)
            refine Ex_jn (γ := Unit) (pj := 126) (fun v87 => [(0, .ref a0), (1, .ref a1)]) (fun v87 => []) (fun v87 => ?_) (fun j88 hj88 => ?_)
            · refine Ex_aload_n dX7_isAnswered_126 rfl 0 rfl ?_
              refine Ex_gR dX7_isAnswered_127 lk_X7_47 rfl (fun x89 => ?_)
              refine Ex_aload_n dX7_isAnswered_130 rfl 1 rfl ?_
              refine Ex_gI dX7_isAnswered_131 lk_X7_276 rfl (fun x90 => ?_)
              refine Ex_aload_n dX7_isAnswered_134 rfl 0 rfl ?_
              refine Ex_gR dX7_isAnswered_135 lk_X7_47 rfl (fun x91 => ?_)
              refine Ex_aload_n dX7_isAnswered_138 rfl 1 rfl ?_
              refine Ex_gI dX7_isAnswered_139 lk_X7_276 rfl (fun x92 => ?_)
              refine Ex_aI_i dX7_isAnswered_142 (fun x93 => ?_)
              refine Ex_aload_n dX7_isAnswered_143 rfl 1 rfl ?_
              refine Ex_gI dX7_isAnswered_144 lk_X7_216 rfl (fun x94 => ?_)
              refine Ex_mmax dX7_isAnswered_147 q2314 q152 q49 q153 (by decide) (Nat.le_of_ble_eq_true rfl) ?_
              refine Ex_iast dX7_isAnswered_150 ?_
              refine Ex_aload_n dX7_isAnswered_151 rfl 0 rfl ?_
              refine Ex_bnU (Inv_V (L_X7_finds hG a0) (lw_V q2294 q2295 q2296 q55 q2297) oe_16 ⟨rfl, hm_X7_finds⟩ (by decide) (by decide) dX7_isAnswered_152 rfl (Nat.le_of_ble_eq_true rfl)) (fun _ => ?_)
              refine Ex_aload_n dX7_isAnswered_155 rfl 0 rfl ?_
              refine Ex_bnU (Inv_V (L_X7_looksAtReads hG a0) (lw_V q2325 q2326 q2327 q55 q2328) oe_16 ⟨rfl, hm_X7_looksAtReads⟩ (by decide) (by decide) dX7_isAnswered_156 rfl (Nat.le_of_ble_eq_true rfl)) (fun _ => ?_)
              exact Ex_vreturn dX7_isAnswered_159 rfl
            · refine Ex_if_eq (tgt := 111) dX7_isAnswered_53 (by decide) ?_ ?_
              · refine Ex_aload_n dX7_isAnswered_111 rfl 0 rfl ?_
                refine Ex_gR dX7_isAnswered_112 lk_X7_40 rfl (fun x95 => ?_)
                refine Ex_aload_n dX7_isAnswered_115 rfl 1 rfl ?_
                refine Ex_gI dX7_isAnswered_116 lk_X7_276 rfl (fun x96 => ?_)
                refine Ex_aload_n dX7_isAnswered_119 rfl 1 rfl ?_
                refine Ex_gI dX7_isAnswered_120 lk_X7_187 rfl (fun x97 => ?_)
                refine Ex_iconst (v := 1) dX7_isAnswered_123 (by decide) ?_
                refine Ex_iadd dX7_isAnswered_124 ?_
                refine Ex_iast dX7_isAnswered_125 ?_
                exact hj88 ()
              · refine Ex_aload_n dX7_isAnswered_56 rfl 0 rfl ?_
                refine Ex_gR dX7_isAnswered_57 lk_X7_44 rfl (fun x98 => ?_)
                refine Ex_aload_n dX7_isAnswered_60 rfl 1 rfl ?_
                refine Ex_gI dX7_isAnswered_61 lk_X7_276 rfl (fun x99 => ?_)
                refine Ex_aload_n dX7_isAnswered_64 rfl 0 rfl ?_
                refine Ex_gR dX7_isAnswered_65 lk_X7_44 rfl (fun x100 => ?_)
                refine Ex_aload_n dX7_isAnswered_68 rfl 1 rfl ?_
                refine Ex_gI dX7_isAnswered_69 lk_X7_276 rfl (fun x101 => ?_)
                refine Ex_aI_i dX7_isAnswered_72 (fun x102 => ?_)
                refine Ex_aload_n dX7_isAnswered_73 rfl 1 rfl ?_
                refine Ex_gI dX7_isAnswered_74 lk_X7_187 rfl (fun x103 => ?_)
                refine Ex_mmax dX7_isAnswered_77 q2314 q152 q49 q153 (by decide) (Nat.le_of_ble_eq_true rfl) ?_
                refine Ex_iast dX7_isAnswered_80 ?_
                refine Ex_aload_n dX7_isAnswered_81 rfl 0 rfl ?_
                refine Ex_gR dX7_isAnswered_82 lk_X7_40 rfl (fun x104 => ?_)
                refine Ex_aload_n dX7_isAnswered_85 rfl 1 rfl ?_
                refine Ex_gI dX7_isAnswered_86 lk_X7_276 rfl (fun x105 => ?_)
                refine Ex_aload_n dX7_isAnswered_89 rfl 0 rfl ?_
                refine Ex_gR dX7_isAnswered_90 lk_X7_40 rfl (fun x106 => ?_)
                refine Ex_aload_n dX7_isAnswered_93 rfl 1 rfl ?_
                refine Ex_gI dX7_isAnswered_94 lk_X7_276 rfl (fun x107 => ?_)
                refine Ex_aI_i dX7_isAnswered_97 (fun x108 => ?_)
                refine Ex_aload_n dX7_isAnswered_98 rfl 1 rfl ?_
                refine Ex_gI dX7_isAnswered_99 lk_X7_187 rfl (fun x109 => ?_)
                refine Ex_iconst (v := 1) dX7_isAnswered_102 (by decide) ?_
                refine Ex_iadd dX7_isAnswered_103 ?_
                refine Ex_mmax dX7_isAnswered_104 q2314 q152 q49 q153 (by decide) (Nat.le_of_ble_eq_true rfl) ?_
                refine Ex_iast dX7_isAnswered_107 ?_
                refine Ex_goto (tgt := 126) dX7_isAnswered_108 (by decide) ?_
                exact hj88 ()
          · refine Ex_lv [] (lv' := []) rfl ?_
            exact hj82 ()
  · refine Ex_aload_n dX7_isAnswered_11 rfl 0 rfl ?_
    refine Ex_aload_n dX7_isAnswered_12 rfl 1 rfl ?_
    refine Ex_gI dX7_isAnswered_13 lk_X7_184 rfl (fun x110 => ?_)
    refine Ex_bnU (Inv_V (L_X7_follow hG a0 x110) (lw_V q2473 q2474 q2475 q55 q2476) oe_16 ⟨rfl, hm_X7_follow⟩ (by decide) (by decide) dX7_isAnswered_16 rfl (Nat.le_of_ble_eq_true rfl)) (fun _ => ?_)
    exact Ex_vreturn dX7_isAnswered_19 rfl
-- QuorumAlmanacModel$Node.hasOwnCommitted()Z
def m_X7_hasOwnCommitted (a0 : Nat) : Ms Int32 :=
  gR [16] 132 a0 fun x42 =>
  gI [17] 68 x42 fun x43 =>
  jn (fun (v44 : Int32) =>
      gR [16] 132 a0 fun x46 =>
      gI [17] 68 x46 fun x47 =>
      lp (fun j49 (v48 : Int32 × Int32) =>
          gI [16] 61 a0 fun x50 =>
          if x50 < v48.2 then
            ck (v48.1 = 0 ∨ v48.1 = 1) <|
            rt v48.1
          else
            jn (fun (v51 : Int32) =>
                j49 (v51, (v48.2 + 1)))
              fun j52 =>
              jn (fun (v53 : Unit) =>
                  j52 1)
                fun j54 =>
                if ¬ v48.1 = 0 then
                  j54 ()
                else
                  bn (ko [16] a0 (m_X7_entry a0 v48.2)) fun r55 =>
                  gI [20] 82 r55 fun x56 =>
                  gI [16] 56 a0 fun x57 =>
                  if ¬ x56 = x57 then
                    j52 0
                  else
                    j54 ())
        (v44, (x47 + 1)))
    fun j45 =>
    jn (fun (v58 : Unit) =>
        j45 0)
      fun j59 =>
      if x43 ≤ 0 then
        j59 ()
      else
        gR [16] 132 a0 fun x60 =>
        gI [17] 69 x60 fun x61 =>
        gI [16] 56 a0 fun x62 =>
        if ¬ x61 = x62 then
          j59 ()
        else
          j45 1
theorem hm_X7_hasOwnCommitted : (yX7_hasOwnCommitted.cls ≠ "java/lang/invoke/MethodHandle" ∧ yX7_hasOwnCommitted.cls ≠ "java/lang/invoke/VarHandle" ∧ (parseMethodDescriptor yX7_hasOwnCommitted.desc).map (fun d => d.parameters.length) = some 0) := by decide +kernel
set_option maxHeartbeats 4000000 in
set_option maxRecDepth 100000 in
theorem L_X7_hasOwnCommitted {G : GT} (hG : GOK G) (a0 : Nat) : Cal G yX7_hasOwnCommitted (ws_ yX7_hasOwnCommitted cX7_hasOwnCommitted 3 (Option.some Jvm.ClassFile.FieldType.boolean)) 6 145 [.ref a0] rI (m_X7_hasOwnCommitted a0) := by
  refine Cal_of hG (by decide +kernel) (Nat.le_of_ble_eq_true rfl) (lv0 := [(0, .ref a0)]) rfl (fun X σ0 => ?_)
  delta m_X7_hasOwnCommitted
  refine Ex_aload_n dX7_hasOwnCommitted_0 rfl 0 rfl ?_
  refine Ex_gR dX7_hasOwnCommitted_1 lk_X7_64 rfl (fun x42 => ?_)
  refine Ex_gI dX7_hasOwnCommitted_4 lk_X7_72 rfl (fun x43 => ?_)
  refine Ex_jn (γ := Int32) (pj := 29) (fun v44 => [(0, .ref a0)]) (fun v44 => [.int v44]) (fun v44 => ?_) (fun j45 hj45 => ?_)
  · refine Ex_istore_n (lv' := [(0, .ref a0), (1, .int v44)]) dX7_hasOwnCommitted_29 rfl (by decide) [1, 0] rfl ?_
    refine Ex_aload_n dX7_hasOwnCommitted_30 rfl 0 rfl ?_
    refine Ex_gR dX7_hasOwnCommitted_31 lk_X7_64 rfl (fun x46 => ?_)
    refine Ex_gI dX7_hasOwnCommitted_34 lk_X7_72 rfl (fun x47 => ?_)
    refine Ex_iconst (v := 1) dX7_hasOwnCommitted_37 (by decide) ?_
    refine Ex_iadd dX7_hasOwnCommitted_38 ?_
    refine Ex_istore_n (lv' := [(0, .ref a0), (1, .int v44), (2, .int (x47 + 1))]) dX7_hasOwnCommitted_39 rfl (by decide) [1, 2, 0] rfl ?_
    refine Ex_lp (γ := Int32 × Int32) (pj := 40) (fun v48 => [(0, .ref a0), (1, .int v48.1), (2, .int v48.2)]) (fun v48 => []) (fun j49 hj49 v48 => ?_) (v44, (x47 + 1)) rfl rfl
    refine Ex_iload_n dX7_hasOwnCommitted_40 rfl 2 rfl ?_
    refine Ex_aload_n dX7_hasOwnCommitted_41 rfl 0 rfl ?_
    refine Ex_gI dX7_hasOwnCommitted_42 lk_X7_220 rfl (fun x50 => ?_)
    refine Ex_icmp_gt (tgt := 79) dX7_hasOwnCommitted_45 (by decide) ?_ ?_
    · refine Ex_iload_n dX7_hasOwnCommitted_79 rfl 1 rfl ?_
      refine Ex_ck (fun hz => ?_)
      exact Ex_zreturn dX7_hasOwnCommitted_80 rfl (zok_n hz)
    · refine Ex_iload_n dX7_hasOwnCommitted_48 rfl 1 rfl ?_
      refine Ex_jn (γ := Int32) (pj := 72) (fun v51 => [(0, .ref a0), (2, .int v48.2)]) (fun v51 => [.int v51]) (fun v51 => ?_) (fun j52 hj52 => ?_)
      · refine Ex_istore_n (lv' := [(0, .ref a0), (1, .int v51), (2, .int v48.2)]) dX7_hasOwnCommitted_72 rfl (by decide) [1, 0, 2] rfl ?_
        refine Ex_iinc (j := 2) (lv' := [(0, .ref a0), (1, .int v51), (2, .int (v48.2 + 1))]) dX7_hasOwnCommitted_73 rfl rfl (by decide) [1, 2, 0] rfl ?_
        refine Ex_goto (tgt := 40) dX7_hasOwnCommitted_76 (by decide) ?_
        exact hj49 (v51, (v48.2 + 1))
      · refine Ex_jn (γ := Unit) (pj := 67) (fun v53 => [(0, .ref a0), (2, .int v48.2)]) (fun v53 => []) (fun v53 => ?_) (fun j54 hj54 => ?_)
        · refine Ex_iconst (v := 1) dX7_hasOwnCommitted_67 (by decide) ?_
          refine Ex_goto (tgt := 72) dX7_hasOwnCommitted_68 (by decide) ?_
          exact hj52 1
        · refine Ex_if_ne (tgt := 67) dX7_hasOwnCommitted_49 (by decide) ?_ ?_
          · refine Ex_lv [0, 2] (lv' := [(0, .ref a0), (2, .int v48.2)]) rfl ?_
            exact hj54 ()
          · refine Ex_aload_n dX7_hasOwnCommitted_52 rfl 0 rfl ?_
            refine Ex_iload_n dX7_hasOwnCommitted_53 rfl 2 rfl ?_
            refine Ex_bnR (Inv_V (L_X7_entry hG a0 v48.2) (lw_V q2150 q2151 q2152 q55 q2153) oe_16 ⟨rfl, hm_X7_entry⟩ (by decide) (by decide) dX7_hasOwnCommitted_54 rfl (Nat.le_of_ble_eq_true rfl)) (fun r55 => ?_)
            refine Ex_gI dX7_hasOwnCommitted_57 lk_X7_95 rfl (fun x56 => ?_)
            refine Ex_aload_n dX7_hasOwnCommitted_60 rfl 0 rfl ?_
            refine Ex_gI dX7_hasOwnCommitted_61 lk_X7_126 rfl (fun x57 => ?_)
            refine Ex_icmp_ne (tgt := 71) dX7_hasOwnCommitted_64 (by decide) ?_ ?_
            · refine Ex_iconst (v := 0) dX7_hasOwnCommitted_71 (by decide) ?_
              refine Ex_lv [0, 2] (lv' := [(0, .ref a0), (2, .int v48.2)]) rfl ?_
              exact hj52 0
            · refine Ex_lv [0, 2] (lv' := [(0, .ref a0), (2, .int v48.2)]) rfl ?_
              exact hj54 ()
  · refine Ex_jn (γ := Unit) (pj := 28) (fun v58 => [(0, .ref a0)]) (fun v58 => []) (fun v58 => ?_) (fun j59 hj59 => ?_)
    · refine Ex_iconst (v := 0) dX7_hasOwnCommitted_28 (by decide) ?_
      exact hj45 0
    · refine Ex_if_le (tgt := 28) dX7_hasOwnCommitted_7 (by decide) ?_ ?_
      · exact hj59 ()
      · refine Ex_aload_n dX7_hasOwnCommitted_10 rfl 0 rfl ?_
        refine Ex_gR dX7_hasOwnCommitted_11 lk_X7_64 rfl (fun x60 => ?_)
        refine Ex_gI dX7_hasOwnCommitted_14 lk_X7_88 rfl (fun x61 => ?_)
        refine Ex_aload_n dX7_hasOwnCommitted_17 rfl 0 rfl ?_
        refine Ex_gI dX7_hasOwnCommitted_18 lk_X7_126 rfl (fun x62 => ?_)
        refine Ex_icmp_ne (tgt := 28) dX7_hasOwnCommitted_21 (by decide) ?_ ?_
        · exact hj59 ()
        · refine Ex_iconst (v := 1) dX7_hasOwnCommitted_24 (by decide) ?_
          refine Ex_goto (tgt := 29) dX7_hasOwnCommitted_25 (by decide) ?_
          exact hj45 1
-- QuorumAlmanacModel$Node.hasLease()Z
def m_X7_hasLease (a0 : Nat) : Ms Int32 :=
  gI [16] 58 a0 fun x34 =>
  jn (fun (v35 : Int32) =>
      jn (fun (v37 : Int32) =>
          ck (v37 = 0 ∨ v37 = 1) <|
          rt v37)
        fun j38 =>
        jn (fun (v39 : Unit) =>
            j38 0)
          fun j40 =>
          if v35 ≤ 0 then
            j40 ()
          else
            gI [16] 55 a0 fun x41 =>
            gR [16] 138 a0 fun x42 =>
            bn (ko [22] x42 (m_J2_get x42 (v35 - 1))) fun r43 =>
            ko [24] r43 <|
            bn (ko [24] r43 (m_J14_intValue r43)) fun r44 =>
            if 6 ≤ (x41 - r44) then
              j40 ()
            else
              j38 1)
    fun j36 =>
    jn (fun (v45 : Unit) =>
        j36 0)
      fun j46 =>
      if ¬ x34 = 108 then
        j46 ()
      else
        bn (ko [16] a0 (m_X7_hasOwnCommitted a0)) fun r47 =>
        if r47 = 0 then
          j46 ()
        else
          bn (ko [16] a0 (m_X7_answeredByMost a0)) fun r48 =>
          j36 r48
theorem hm_X7_hasLease : (yX7_hasLease.cls ≠ "java/lang/invoke/MethodHandle" ∧ yX7_hasLease.cls ≠ "java/lang/invoke/VarHandle" ∧ (parseMethodDescriptor yX7_hasLease.desc).map (fun d => d.parameters.length) = some 0) := by decide +kernel
set_option maxHeartbeats 4000000 in
set_option maxRecDepth 100000 in
theorem L_X7_hasLease {G : GT} (hG : GOK G) (a0 : Nat) : Cal G yX7_hasLease (ws_ yX7_hasLease cX7_hasLease 2 (Option.some Jvm.ClassFile.FieldType.boolean)) 10 236 [.ref a0] rI (m_X7_hasLease a0) := by
  refine Cal_of hG (by decide +kernel) (Nat.le_of_ble_eq_true rfl) (lv0 := [(0, .ref a0)]) rfl (fun X σ0 => ?_)
  delta m_X7_hasLease
  refine Ex_aload_n dX7_hasLease_0 rfl 0 rfl ?_
  refine Ex_gI dX7_hasLease_1 lk_X7_19 rfl (fun x34 => ?_)
  refine Ex_bipush (v := 108) dX7_hasLease_4 (by decide) ?_
  refine Ex_jn (γ := Int32) (pj := 24) (fun v35 => [(0, .ref a0)]) (fun v35 => [.int v35]) (fun v35 => ?_) (fun j36 hj36 => ?_)
  · refine Ex_istore_n (lv' := [(0, .ref a0), (1, .int v35)]) dX7_hasLease_24 rfl (by decide) [1, 0] rfl ?_
    refine Ex_iload_n dX7_hasLease_25 rfl 1 rfl ?_
    refine Ex_jn (γ := Int32) (pj := 60) (fun v37 => []) (fun v37 => [.int v37]) (fun v37 => ?_) (fun j38 hj38 => ?_)
    · refine Ex_ck (fun hz => ?_)
      exact Ex_zreturn dX7_hasLease_60 rfl (zok_n hz)
    · refine Ex_jn (γ := Unit) (pj := 59) (fun v39 => []) (fun v39 => []) (fun v39 => ?_) (fun j40 hj40 => ?_)
      · refine Ex_iconst (v := 0) dX7_hasLease_59 (by decide) ?_
        exact hj38 0
      · refine Ex_if_le (tgt := 59) dX7_hasLease_26 (by decide) ?_ ?_
        · refine Ex_lv [] (lv' := []) rfl ?_
          exact hj40 ()
        · refine Ex_aload_n dX7_hasLease_29 rfl 0 rfl ?_
          refine Ex_gI dX7_hasLease_30 lk_X7_160 rfl (fun x41 => ?_)
          refine Ex_aload_n dX7_hasLease_33 rfl 0 rfl ?_
          refine Ex_gR dX7_hasLease_34 lk_X7_50 rfl (fun x42 => ?_)
          refine Ex_iload_n dX7_hasLease_37 rfl 1 rfl ?_
          refine Ex_iconst (v := 1) dX7_hasLease_38 (by decide) ?_
          refine Ex_isub dX7_hasLease_39 ?_
          refine Ex_bnR (Inv_V (L_J2_get hG x42 (v35 - 1)) (lw_V q2125 q415 q416 q48 q417) oe_22 ⟨rfl, hm_J2_get⟩ (by decide) (by decide) dX7_hasLease_40 rfl (Nat.le_of_ble_eq_true rfl)) (fun r43 => ?_)
          refine Ex_ko dX7_hasLease_43 q2126 oc_java_lang_Integer_24 ?_
          refine Ex_bnI (Inv_V (L_J14_intValue hG r43) (lw_V q2127 q670 q671 q68 q672) oe_24 ⟨rfl, hm_J14_intValue⟩ (by decide) (by decide) dX7_hasLease_46 rfl (Nat.le_of_ble_eq_true rfl)) (fun r44 => ?_)
          refine Ex_isub dX7_hasLease_49 ?_
          refine Ex_bipush (v := 6) dX7_hasLease_50 (by decide) ?_
          refine Ex_icmp_ge (tgt := 59) dX7_hasLease_52 (by decide) ?_ ?_
          · refine Ex_lv [] (lv' := []) rfl ?_
            exact hj40 ()
          · refine Ex_iconst (v := 1) dX7_hasLease_55 (by decide) ?_
            refine Ex_goto (tgt := 60) dX7_hasLease_56 (by decide) ?_
            refine Ex_lv [] (lv' := []) rfl ?_
            exact hj38 1
  · refine Ex_jn (γ := Unit) (pj := 23) (fun v45 => [(0, .ref a0)]) (fun v45 => []) (fun v45 => ?_) (fun j46 hj46 => ?_)
    · refine Ex_iconst (v := 0) dX7_hasLease_23 (by decide) ?_
      exact hj36 0
    · refine Ex_icmp_ne (tgt := 23) dX7_hasLease_6 (by decide) ?_ ?_
      · exact hj46 ()
      · refine Ex_aload_n dX7_hasLease_9 rfl 0 rfl ?_
        refine Ex_bnI (Inv_V (L_X7_hasOwnCommitted hG a0) (lw_V q2469 q2470 q2471 q55 q2472) oe_16 ⟨rfl, hm_X7_hasOwnCommitted⟩ (by decide) (by decide) dX7_hasLease_10 rfl (Nat.le_of_ble_eq_true rfl)) (fun r47 => ?_)
        refine Ex_if_eq (tgt := 23) dX7_hasLease_13 (by decide) ?_ ?_
        · exact hj46 ()
        · refine Ex_aload_n dX7_hasLease_16 rfl 0 rfl ?_
          refine Ex_bnI (Inv_V (L_X7_answeredByMost hG a0) (lw_V q2329 q2330 q2331 q55 q2332) oe_16 ⟨rfl, hm_X7_answeredByMost⟩ (by decide) (by decide) dX7_hasLease_17 rfl (Nat.le_of_ble_eq_true rfl)) (fun r48 => ?_)
          refine Ex_goto (tgt := 24) dX7_hasLease_20 (by decide) ?_
          exact hj36 r48
-- QuorumAlmanacModel$Node.isAsked(LQuorumAlmanacModel$Message;)V
def m_X7_isAsked (a0 : Nat) (a1 : Nat) : Ms Unit :=
  gI [16] 55 a0 fun x68 =>
  gI [16] 63 a0 fun x69 =>
  jn (fun (v70 : Unit) =>
      rt ())
    fun j71 =>
    if (x68 - x69) < 10 then
      j71 ()
    else
      bn (ko [16] a0 (m_X7_hasLease a0)) fun r72 =>
      if r72 = 0 then
        gI [19] 76 a1 fun x73 =>
        gI [16] 56 a0 fun x74 =>
        jn (fun (v75 : Unit) =>
            bn (ko [16] a0 (m_X7_last a0)) fun r77 =>
            bn (ko [16] a0 (m_X7_termAt a0 r77)) fun r78 =>
            gI [19] 79 a1 fun x79 =>
            jn (fun (v80 : Int32) =>
                gI [19] 76 a1 fun x82 =>
                gI [16] 56 a0 fun x83 =>
                jn (fun (v84 : Int32) =>
                    jn (fun (v86 : Unit) =>
                        gR [16] 139 a0 fun x88 =>
                        gI [16] 54 a0 fun x89 =>
                        gI [19] 74 a1 fun x90 =>
                        bn (ko [15] x88 (m_X6_send x88 121 x89 x90)) fun r91 =>
                        gI [16] 56 a0 fun x92 =>
                        pV [19] 76 r91 (.int x92) <|
                        ck (v84 = 0 ∨ v84 = 1) <|
                        pV [19] 80 r91 (.int v84) <|
                        rt ())
                      fun j87 =>
                      if v84 = 0 then
                        j87 ()
                      else
                        gI [19] 74 a1 fun x93 =>
                        pV [16] 57 a0 (.int x93) <|
                        gI [16] 55 a0 fun x94 =>
                        pV [16] 62 a0 (.int x94) <|
                        j87 ())
                  fun j85 =>
                  jn (fun (v95 : Unit) =>
                      j85 0)
                    fun j96 =>
                    if ¬ x82 = x83 then
                      j96 ()
                    else
                      gI [16] 57 a0 fun x97 =>
                      jn (fun (v98 : Unit) =>
                          if ¬ v80 = 0 then
                            j96 ()
                          else
                            j85 1)
                        fun j99 =>
                        if x97 = (-1) then
                          j99 ()
                        else
                          gI [16] 57 a0 fun x100 =>
                          gI [19] 74 a1 fun x101 =>
                          if ¬ x100 = x101 then
                            j96 ()
                          else
                            j99 ())
              fun j81 =>
              jn (fun (v102 : Unit) =>
                  j81 1)
                fun j103 =>
                if x79 < r78 then
                  j103 ()
                else
                  gI [19] 79 a1 fun x104 =>
                  jn (fun (v105 : Unit) =>
                      j81 0)
                    fun j106 =>
                    if ¬ x104 = r78 then
                      j106 ()
                    else
                      gI [19] 78 a1 fun x107 =>
                      bn (ko [16] a0 (m_X7_last a0)) fun r108 =>
                      if r108 ≤ x107 then
                        j106 ()
                      else
                        j103 ())
          fun j76 =>
          if x73 ≤ x74 then
            j76 ()
          else
            gI [19] 76 a1 fun x109 =>
            bn (ko [16] a0 (m_X7_follow a0 x109)) fun _ =>
            j76 ()
      else
        j71 ()
theorem hm_X7_isAsked : (yX7_isAsked.cls ≠ "java/lang/invoke/MethodHandle" ∧ yX7_isAsked.cls ≠ "java/lang/invoke/VarHandle" ∧ (parseMethodDescriptor yX7_isAsked.desc).map (fun d => d.parameters.length) = some 1) := by decide +kernel
set_option maxHeartbeats 4000000 in
set_option maxRecDepth 100000 in
theorem L_X7_isAsked {G : GT} (hG : GOK G) (a0 : Nat) (a1 : Nat) : Cal G yX7_isAsked (ws_ yX7_isAsked cX7_isAsked 6 (Option.none : Option Jvm.ClassFile.FieldType)) 11 257 [.ref a0, .ref a1] rU (m_X7_isAsked a0 a1) := by
  refine Cal_of hG (by decide +kernel) (Nat.le_of_ble_eq_true rfl) (lv0 := [(0, .ref a0), (1, .ref a1)]) rfl (fun X σ0 => ?_)
  delta m_X7_isAsked
  refine Ex_aload_n dX7_isAsked_0 rfl 0 rfl ?_
  refine Ex_gI dX7_isAsked_1 lk_X7_160 rfl (fun x68 => ?_)
  refine Ex_aload_n dX7_isAsked_4 rfl 0 rfl ?_
  refine Ex_gI dX7_isAsked_5 lk_X7_34 rfl (fun x69 => ?_)
  refine Ex_isub dX7_isAsked_8 ?_
  refine Ex_bipush (v := 10) dX7_isAsked_9 (by decide) ?_
  refine Ex_jn (γ := Unit) (pj := 21) (fun v70 => []) (fun v70 => []) (fun v70 => ?_) (fun j71 hj71 => ?_)
  · exact Ex_vreturn dX7_isAsked_21 rfl
  · refine Ex_icmp_lt (tgt := 21) dX7_isAsked_11 (by decide) ?_ ?_
    · refine Ex_lv [] (lv' := []) rfl ?_
      exact hj71 ()
    · refine Ex_aload_n dX7_isAsked_14 rfl 0 rfl ?_
      refine Ex_bnI (Inv_V (L_X7_hasLease hG a0) (lw_V q2465 q2466 q2467 q55 q2468) oe_16 ⟨rfl, hm_X7_hasLease⟩ (by decide) (by decide) dX7_isAsked_15 rfl (Nat.le_of_ble_eq_true rfl)) (fun r72 => ?_)
      refine Ex_if_eq (tgt := 22) dX7_isAsked_18 (by decide) ?_ ?_
      · refine Ex_aload_n dX7_isAsked_22 rfl 1 rfl ?_
        refine Ex_gI dX7_isAsked_23 lk_X7_184 rfl (fun x73 => ?_)
        refine Ex_aload_n dX7_isAsked_26 rfl 0 rfl ?_
        refine Ex_gI dX7_isAsked_27 lk_X7_126 rfl (fun x74 => ?_)
        refine Ex_jn (γ := Unit) (pj := 41) (fun v75 => [(0, .ref a0), (1, .ref a1)]) (fun v75 => []) (fun v75 => ?_) (fun j76 hj76 => ?_)
        · refine Ex_aload_n dX7_isAsked_41 rfl 0 rfl ?_
          refine Ex_aload_n dX7_isAsked_42 rfl 0 rfl ?_
          refine Ex_bnI (Inv_V (L_X7_last hG a0) (lw_V q2138 q2139 q2140 q55 q2141) oe_16 ⟨rfl, hm_X7_last⟩ (by decide) (by decide) dX7_isAsked_43 rfl (Nat.le_of_ble_eq_true rfl)) (fun r77 => ?_)
          refine Ex_bnI (Inv_V (L_X7_termAt hG a0 r77) (lw_V q2231 q2232 q2233 q55 q2234) oe_16 ⟨rfl, hm_X7_termAt⟩ (by decide) (by decide) dX7_isAsked_46 rfl (Nat.le_of_ble_eq_true rfl)) (fun r78 => ?_)
          refine Ex_istore_n (lv' := [(0, .ref a0), (1, .ref a1), (2, .int r78)]) dX7_isAsked_49 rfl (by decide) [1, 2, 0] rfl ?_
          refine Ex_aload_n dX7_isAsked_50 rfl 1 rfl ?_
          refine Ex_gI dX7_isAsked_51 lk_X7_191 rfl (fun x79 => ?_)
          refine Ex_iload_n dX7_isAsked_54 rfl 2 rfl ?_
          refine Ex_jn (γ := Int32) (pj := 82) (fun v80 => [(0, .ref a0), (1, .ref a1)]) (fun v80 => [.int v80]) (fun v80 => ?_) (fun j81 hj81 => ?_)
          · refine Ex_istore_n (lv' := [(0, .ref a0), (1, .ref a1), (3, .int v80)]) dX7_isAsked_82 rfl (by decide) [1, 2, 0] rfl ?_
            refine Ex_aload_n dX7_isAsked_83 rfl 1 rfl ?_
            refine Ex_gI dX7_isAsked_84 lk_X7_184 rfl (fun x82 => ?_)
            refine Ex_aload_n dX7_isAsked_87 rfl 0 rfl ?_
            refine Ex_gI dX7_isAsked_88 lk_X7_126 rfl (fun x83 => ?_)
            refine Ex_jn (γ := Int32) (pj := 122) (fun v84 => [(0, .ref a0), (1, .ref a1)]) (fun v84 => [.int v84]) (fun v84 => ?_) (fun j85 hj85 => ?_)
            · refine Ex_istore (lv' := [(0, .ref a0), (1, .ref a1), (4, .int v84)]) dX7_isAsked_122 (by decide) [1, 2, 0] rfl ?_
              refine Ex_iload dX7_isAsked_124 2 rfl ?_
              refine Ex_jn (γ := Unit) (pj := 145) (fun v86 => [(0, .ref a0), (1, .ref a1), (4, .int v84)]) (fun v86 => []) (fun v86 => ?_) (fun j87 hj87 => ?_)
              · refine Ex_aload_n dX7_isAsked_145 rfl 0 rfl ?_
                refine Ex_gR dX7_isAsked_146 lk_X7_3 rfl (fun x88 => ?_)
                refine Ex_bipush (v := 121) dX7_isAsked_149 (by decide) ?_
                refine Ex_aload_n dX7_isAsked_151 rfl 0 rfl ?_
                refine Ex_gI dX7_isAsked_152 lk_X7_53 rfl (fun x89 => ?_)
                refine Ex_aload_n dX7_isAsked_155 rfl 1 rfl ?_
                refine Ex_gI dX7_isAsked_156 lk_X7_276 rfl (fun x90 => ?_)
                refine Ex_bnR (Inv_VN (L_X6_send hG x88 121 x89 x90) q54 q2163 q2165 q2166 qs35 oe_15 hm_X6_send (by decide) (by decide) dX7_isAsked_159 rfl (Nat.le_of_ble_eq_true rfl)) (fun r91 => ?_)
                refine Ex_astore (lv' := [(0, .ref a0), (1, .ref a1), (4, .int v84), (5, .ref r91)]) dX7_isAsked_162 (by decide) [1, 2, 3, 0] rfl ?_
                refine Ex_aload dX7_isAsked_164 3 rfl ?_
                refine Ex_aload_n dX7_isAsked_166 rfl 0 rfl ?_
                refine Ex_gI dX7_isAsked_167 lk_X7_126 rfl (fun x92 => ?_)
                refine Ex_pV dX7_isAsked_170 lk_X7_184 rfl rfl rfl rfl ?_
                refine Ex_aload dX7_isAsked_173 3 rfl ?_
                refine Ex_iload dX7_isAsked_175 2 rfl ?_
                refine Ex_ck (fun hz => ?_)
                refine Ex_pV dX7_isAsked_177 lk_X7_273 rfl rfl (zok_n hz) (zok_f hz) ?_
                exact Ex_vreturn dX7_isAsked_180 rfl
              · refine Ex_if_eq (tgt := 145) dX7_isAsked_126 (by decide) ?_ ?_
                · exact hj87 ()
                · refine Ex_aload_n dX7_isAsked_129 rfl 0 rfl ?_
                  refine Ex_aload_n dX7_isAsked_130 rfl 1 rfl ?_
                  refine Ex_gI dX7_isAsked_131 lk_X7_276 rfl (fun x93 => ?_)
                  refine Ex_pV dX7_isAsked_134 lk_X7_15 rfl rfl rfl rfl ?_
                  refine Ex_aload_n dX7_isAsked_137 rfl 0 rfl ?_
                  refine Ex_aload_n dX7_isAsked_138 rfl 0 rfl ?_
                  refine Ex_gI dX7_isAsked_139 lk_X7_160 rfl (fun x94 => ?_)
                  refine Ex_pV dX7_isAsked_142 lk_X7_174 rfl rfl rfl rfl ?_
                  exact hj87 ()
            · refine Ex_jn (γ := Unit) (pj := 121) (fun v95 => [(0, .ref a0), (1, .ref a1)]) (fun v95 => []) (fun v95 => ?_) (fun j96 hj96 => ?_)
              · refine Ex_iconst (v := 0) dX7_isAsked_121 (by decide) ?_
                exact hj85 0
              · refine Ex_icmp_ne (tgt := 121) dX7_isAsked_91 (by decide) ?_ ?_
                · refine Ex_lv [0, 1] (lv' := [(0, .ref a0), (1, .ref a1)]) rfl ?_
                  exact hj96 ()
                · refine Ex_aload_n dX7_isAsked_94 rfl 0 rfl ?_
                  refine Ex_gI dX7_isAsked_95 lk_X7_15 rfl (fun x97 => ?_)
                  refine Ex_iconst (v := (-1)) dX7_isAsked_98 (by decide) ?_
                  refine Ex_jn (γ := Unit) (pj := 113) (fun v98 => [(0, .ref a0), (1, .ref a1), (3, .int v80)]) (fun v98 => []) (fun v98 => ?_) (fun j99 hj99 => ?_)
                  · refine Ex_iload_n dX7_isAsked_113 rfl 2 rfl ?_
                    refine Ex_if_ne (tgt := 121) dX7_isAsked_114 (by decide) ?_ ?_
                    · refine Ex_lv [0, 1] (lv' := [(0, .ref a0), (1, .ref a1)]) rfl ?_
                      exact hj96 ()
                    · refine Ex_iconst (v := 1) dX7_isAsked_117 (by decide) ?_
                      refine Ex_goto (tgt := 122) dX7_isAsked_118 (by decide) ?_
                      refine Ex_lv [0, 1] (lv' := [(0, .ref a0), (1, .ref a1)]) rfl ?_
                      exact hj85 1
                  · refine Ex_icmp_eq (tgt := 113) dX7_isAsked_99 (by decide) ?_ ?_
                    · exact hj99 ()
                    · refine Ex_aload_n dX7_isAsked_102 rfl 0 rfl ?_
                      refine Ex_gI dX7_isAsked_103 lk_X7_15 rfl (fun x100 => ?_)
                      refine Ex_aload_n dX7_isAsked_106 rfl 1 rfl ?_
                      refine Ex_gI dX7_isAsked_107 lk_X7_276 rfl (fun x101 => ?_)
                      refine Ex_icmp_ne (tgt := 121) dX7_isAsked_110 (by decide) ?_ ?_
                      · refine Ex_lv [0, 1] (lv' := [(0, .ref a0), (1, .ref a1)]) rfl ?_
                        exact hj96 ()
                      · exact hj99 ()
          · refine Ex_jn (γ := Unit) (pj := 77) (fun v102 => [(0, .ref a0), (1, .ref a1)]) (fun v102 => []) (fun v102 => ?_) (fun j103 hj103 => ?_)
            · refine Ex_iconst (v := 1) dX7_isAsked_77 (by decide) ?_
              refine Ex_goto (tgt := 82) dX7_isAsked_78 (by decide) ?_
              exact hj81 1
            · refine Ex_icmp_lt (tgt := 77) dX7_isAsked_55 (by decide) ?_ ?_
              · refine Ex_lv [0, 1] (lv' := [(0, .ref a0), (1, .ref a1)]) rfl ?_
                exact hj103 ()
              · refine Ex_aload_n dX7_isAsked_58 rfl 1 rfl ?_
                refine Ex_gI dX7_isAsked_59 lk_X7_191 rfl (fun x104 => ?_)
                refine Ex_iload_n dX7_isAsked_62 rfl 2 rfl ?_
                refine Ex_jn (γ := Unit) (pj := 81) (fun v105 => [(0, .ref a0), (1, .ref a1)]) (fun v105 => []) (fun v105 => ?_) (fun j106 hj106 => ?_)
                · refine Ex_iconst (v := 0) dX7_isAsked_81 (by decide) ?_
                  exact hj81 0
                · refine Ex_icmp_ne (tgt := 81) dX7_isAsked_63 (by decide) ?_ ?_
                  · refine Ex_lv [0, 1] (lv' := [(0, .ref a0), (1, .ref a1)]) rfl ?_
                    exact hj106 ()
                  · refine Ex_aload_n dX7_isAsked_66 rfl 1 rfl ?_
                    refine Ex_gI dX7_isAsked_67 lk_X7_187 rfl (fun x107 => ?_)
                    refine Ex_aload_n dX7_isAsked_70 rfl 0 rfl ?_
                    refine Ex_bnI (Inv_V (L_X7_last hG a0) (lw_V q2138 q2139 q2140 q55 q2141) oe_16 ⟨rfl, hm_X7_last⟩ (by decide) (by decide) dX7_isAsked_71 rfl (Nat.le_of_ble_eq_true rfl)) (fun r108 => ?_)
                    refine Ex_icmp_ge (tgt := 81) dX7_isAsked_74 (by decide) ?_ ?_
                    · refine Ex_lv [0, 1] (lv' := [(0, .ref a0), (1, .ref a1)]) rfl ?_
                      exact hj106 ()
                    · refine Ex_lv [0, 1] (lv' := [(0, .ref a0), (1, .ref a1)]) rfl ?_
                      exact hj103 ()
        · refine Ex_icmp_le (tgt := 41) dX7_isAsked_30 (by decide) ?_ ?_
          · exact hj76 ()
          · refine Ex_aload_n dX7_isAsked_33 rfl 0 rfl ?_
            refine Ex_aload_n dX7_isAsked_34 rfl 1 rfl ?_
            refine Ex_gI dX7_isAsked_35 lk_X7_184 rfl (fun x109 => ?_)
            refine Ex_bnU (Inv_V (L_X7_follow hG a0 x109) (lw_V q2473 q2474 q2475 q55 q2476) oe_16 ⟨rfl, hm_X7_follow⟩ (by decide) (by decide) dX7_isAsked_38 rfl (Nat.le_of_ble_eq_true rfl)) (fun _ => ?_)
            exact hj76 ()
      · refine Ex_lv [] (lv' := []) rfl ?_
        exact hj71 ()
-- QuorumAlmanacModel$Node.handles(LQuorumAlmanacModel$Message;)V
def m_X7_handles (a0 : Nat) (a1 : Nat) : Ms Unit :=
  gI [19] 73 a1 fun x62 =>
  jn (fun (v63 : Unit) =>
      rt ())
    fun j64 =>
    if ¬ x62 = 118 then
      gI [19] 73 a1 fun x65 =>
      if ¬ x65 = 121 then
        gI [19] 73 a1 fun x66 =>
        if ¬ x66 = 107 then
          gI [19] 76 a1 fun x67 =>
          gI [16] 56 a0 fun x68 =>
          if x68 ≤ x67 then
            bn (ko [16] a0 (m_X7_gets a0 a1)) fun _ =>
            j64 ()
          else
            gR [16] 139 a0 fun x69 =>
            gI [15] 53 x69 fun x70 =>
            pV [15] 53 x69 (.int (x70 + 1)) <|
            gR [16] 139 a0 fun x71 =>
            gI [16] 54 a0 fun x72 =>
            gI [19] 74 a1 fun x73 =>
            bn (ko [15] x71 (m_X6_send x71 107 x72 x73)) fun r74 =>
            gI [16] 56 a0 fun x75 =>
            pV [19] 76 r74 (.int x75) <|
            pV [19] 77 r74 (.int (-1)) <|
            j64 ()
        else
          bn (ko [16] a0 (m_X7_isAnswered a0 a1)) fun _ =>
          j64 ()
      else
        gI [19] 76 a1 fun x76 =>
        gI [16] 56 a0 fun x77 =>
        if x76 ≤ x77 then
          gI [16] 58 a0 fun x78 =>
          if ¬ x78 = 99 then
            j64 ()
          else
            gI [19] 76 a1 fun x79 =>
            gI [16] 56 a0 fun x80 =>
            if ¬ x79 = x80 then
              j64 ()
            else
              gI [19] 80 a1 fun x81 =>
              if x81 = 0 then
                j64 ()
              else
                gI [16] 67 a0 fun x82 =>
                gI [19] 74 a1 fun x83 =>
                pV [16] 67 a0 (.int (x82 ||| (1 <<< (x83 &&& 31)))) <|
                bn (ko [16] a0 (m_X7_wins a0)) fun _ =>
                j64 ()
        else
          gI [19] 76 a1 fun x84 =>
          bn (ko [16] a0 (m_X7_follow a0 x84)) fun _ =>
          j64 ()
    else
      bn (ko [16] a0 (m_X7_isAsked a0 a1)) fun _ =>
      j64 ()
theorem hm_X7_handles : (yX7_handles.cls ≠ "java/lang/invoke/MethodHandle" ∧ yX7_handles.cls ≠ "java/lang/invoke/VarHandle" ∧ (parseMethodDescriptor yX7_handles.desc).map (fun d => d.parameters.length) = some 1) := by decide +kernel
set_option maxHeartbeats 4000000 in
set_option maxRecDepth 100000 in
theorem L_X7_handles {G : GT} (hG : GOK G) (a0 : Nat) (a1 : Nat) : Cal G yX7_handles (ws_ yX7_handles cX7_handles 3 (Option.none : Option Jvm.ClassFile.FieldType)) 13 306 [.ref a0, .ref a1] rU (m_X7_handles a0 a1) := by
  refine Cal_of hG (by decide +kernel) (Nat.le_of_ble_eq_true rfl) (lv0 := [(0, .ref a0), (1, .ref a1)]) rfl (fun X σ0 => ?_)
  delta m_X7_handles
  refine Ex_aload_n dX7_handles_0 rfl 1 rfl ?_
  refine Ex_gI dX7_handles_1 lk_X7_265 rfl (fun x62 => ?_)
  refine Ex_bipush (v := 118) dX7_handles_4 (by decide) ?_
  refine Ex_jn (γ := Unit) (pj := 177) (fun v63 => []) (fun v63 => []) (fun v63 => ?_) (fun j64 hj64 => ?_)
  · exact Ex_vreturn dX7_handles_177 rfl
  · refine Ex_icmp_ne (tgt := 17) dX7_handles_6 (by decide) ?_ ?_
    · refine Ex_aload_n dX7_handles_17 rfl 1 rfl ?_
      refine Ex_gI dX7_handles_18 lk_X7_265 rfl (fun x65 => ?_)
      refine Ex_bipush (v := 121) dX7_handles_21 (by decide) ?_
      refine Ex_icmp_ne (tgt := 97) dX7_handles_23 (by decide) ?_ ?_
      · refine Ex_aload_n dX7_handles_97 rfl 1 rfl ?_
        refine Ex_gI dX7_handles_98 lk_X7_265 rfl (fun x66 => ?_)
        refine Ex_bipush (v := 107) dX7_handles_101 (by decide) ?_
        refine Ex_icmp_ne (tgt := 114) dX7_handles_103 (by decide) ?_ ?_
        · refine Ex_aload_n dX7_handles_114 rfl 1 rfl ?_
          refine Ex_gI dX7_handles_115 lk_X7_184 rfl (fun x67 => ?_)
          refine Ex_aload_n dX7_handles_118 rfl 0 rfl ?_
          refine Ex_gI dX7_handles_119 lk_X7_126 rfl (fun x68 => ?_)
          refine Ex_icmp_ge (tgt := 172) dX7_handles_122 (by decide) ?_ ?_
          · refine Ex_aload_n dX7_handles_172 rfl 0 rfl ?_
            refine Ex_aload_n dX7_handles_173 rfl 1 rfl ?_
            refine Ex_bnU (Inv_V (L_X7_gets hG a0 a1) (lw_V q2481 q2482 q2483 q55 q2484) oe_16 ⟨rfl, hm_X7_gets⟩ (by decide) (by decide) dX7_handles_174 rfl (Nat.le_of_ble_eq_true rfl)) (fun _ => ?_)
            refine Ex_lv [] (lv' := []) rfl ?_
            exact hj64 ()
          · refine Ex_aload_n dX7_handles_125 rfl 0 rfl ?_
            refine Ex_gR dX7_handles_126 lk_X7_3 rfl (fun x69 => ?_)
            refine Ex_dup rfl dX7_handles_129 ?_
            refine Ex_gI dX7_handles_130 lk_X7_282 rfl (fun x70 => ?_)
            refine Ex_iconst (v := 1) dX7_handles_133 (by decide) ?_
            refine Ex_iadd dX7_handles_134 ?_
            refine Ex_pV dX7_handles_135 lk_X7_282 rfl rfl rfl rfl ?_
            refine Ex_aload_n dX7_handles_138 rfl 0 rfl ?_
            refine Ex_gR dX7_handles_139 lk_X7_3 rfl (fun x71 => ?_)
            refine Ex_bipush (v := 107) dX7_handles_142 (by decide) ?_
            refine Ex_aload_n dX7_handles_144 rfl 0 rfl ?_
            refine Ex_gI dX7_handles_145 lk_X7_53 rfl (fun x72 => ?_)
            refine Ex_aload_n dX7_handles_148 rfl 1 rfl ?_
            refine Ex_gI dX7_handles_149 lk_X7_276 rfl (fun x73 => ?_)
            refine Ex_bnR (Inv_VN (L_X6_send hG x71 107 x72 x73) q54 q2163 q2165 q2166 qs35 oe_15 hm_X6_send (by decide) (by decide) dX7_handles_152 rfl (Nat.le_of_ble_eq_true rfl)) (fun r74 => ?_)
            refine Ex_astore_n (lv' := [(0, .ref a0), (1, .ref a1), (2, .ref r74)]) dX7_handles_155 rfl (by decide) [1, 2, 0] rfl ?_
            refine Ex_aload_n dX7_handles_156 rfl 2 rfl ?_
            refine Ex_aload_n dX7_handles_157 rfl 0 rfl ?_
            refine Ex_gI dX7_handles_158 lk_X7_126 rfl (fun x75 => ?_)
            refine Ex_pV dX7_handles_161 lk_X7_184 rfl rfl rfl rfl ?_
            refine Ex_aload_n dX7_handles_164 rfl 2 rfl ?_
            refine Ex_iconst (v := (-1)) dX7_handles_165 (by decide) ?_
            refine Ex_pV dX7_handles_166 lk_X7_216 rfl rfl rfl rfl ?_
            refine Ex_goto (tgt := 177) dX7_handles_169 (by decide) ?_
            refine Ex_lv [] (lv' := []) rfl ?_
            exact hj64 ()
        · refine Ex_aload_n dX7_handles_106 rfl 0 rfl ?_
          refine Ex_aload_n dX7_handles_107 rfl 1 rfl ?_
          refine Ex_bnU (Inv_V (L_X7_isAnswered hG a0 a1) (lw_V q2477 q2478 q2479 q55 q2480) oe_16 ⟨rfl, hm_X7_isAnswered⟩ (by decide) (by decide) dX7_handles_108 rfl (Nat.le_of_ble_eq_true rfl)) (fun _ => ?_)
          refine Ex_goto (tgt := 177) dX7_handles_111 (by decide) ?_
          refine Ex_lv [] (lv' := []) rfl ?_
          exact hj64 ()
      · refine Ex_aload_n dX7_handles_26 rfl 1 rfl ?_
        refine Ex_gI dX7_handles_27 lk_X7_184 rfl (fun x76 => ?_)
        refine Ex_aload_n dX7_handles_30 rfl 0 rfl ?_
        refine Ex_gI dX7_handles_31 lk_X7_126 rfl (fun x77 => ?_)
        refine Ex_icmp_le (tgt := 48) dX7_handles_34 (by decide) ?_ ?_
        · refine Ex_aload_n dX7_handles_48 rfl 0 rfl ?_
          refine Ex_gI dX7_handles_49 lk_X7_19 rfl (fun x78 => ?_)
          refine Ex_bipush (v := 99) dX7_handles_52 (by decide) ?_
          refine Ex_icmp_ne (tgt := 177) dX7_handles_54 (by decide) ?_ ?_
          · refine Ex_lv [] (lv' := []) rfl ?_
            exact hj64 ()
          · refine Ex_aload_n dX7_handles_57 rfl 1 rfl ?_
            refine Ex_gI dX7_handles_58 lk_X7_184 rfl (fun x79 => ?_)
            refine Ex_aload_n dX7_handles_61 rfl 0 rfl ?_
            refine Ex_gI dX7_handles_62 lk_X7_126 rfl (fun x80 => ?_)
            refine Ex_icmp_ne (tgt := 177) dX7_handles_65 (by decide) ?_ ?_
            · refine Ex_lv [] (lv' := []) rfl ?_
              exact hj64 ()
            · refine Ex_aload_n dX7_handles_68 rfl 1 rfl ?_
              refine Ex_gI dX7_handles_69 lk_X7_273 rfl (fun x81 => ?_)
              refine Ex_if_eq (tgt := 177) dX7_handles_72 (by decide) ?_ ?_
              · refine Ex_lv [] (lv' := []) rfl ?_
                exact hj64 ()
              · refine Ex_aload_n dX7_handles_75 rfl 0 rfl ?_
                refine Ex_dup rfl dX7_handles_76 ?_
                refine Ex_gI dX7_handles_77 lk_X7_177 rfl (fun x82 => ?_)
                refine Ex_iconst (v := 1) dX7_handles_80 (by decide) ?_
                refine Ex_aload_n dX7_handles_81 rfl 1 rfl ?_
                refine Ex_gI dX7_handles_82 lk_X7_276 rfl (fun x83 => ?_)
                refine Ex_ishl dX7_handles_85 ?_
                refine Ex_ior dX7_handles_86 ?_
                refine Ex_pV dX7_handles_87 lk_X7_177 rfl rfl rfl rfl ?_
                refine Ex_aload_n dX7_handles_90 rfl 0 rfl ?_
                refine Ex_bnU (Inv_V (L_X7_wins hG a0) (lw_V q2239 q2240 q2241 q55 q2242) oe_16 ⟨rfl, hm_X7_wins⟩ (by decide) (by decide) dX7_handles_91 rfl (Nat.le_of_ble_eq_true rfl)) (fun _ => ?_)
                refine Ex_goto (tgt := 177) dX7_handles_94 (by decide) ?_
                refine Ex_lv [] (lv' := []) rfl ?_
                exact hj64 ()
        · refine Ex_aload_n dX7_handles_37 rfl 0 rfl ?_
          refine Ex_aload_n dX7_handles_38 rfl 1 rfl ?_
          refine Ex_gI dX7_handles_39 lk_X7_184 rfl (fun x84 => ?_)
          refine Ex_bnU (Inv_V (L_X7_follow hG a0 x84) (lw_V q2473 q2474 q2475 q55 q2476) oe_16 ⟨rfl, hm_X7_follow⟩ (by decide) (by decide) dX7_handles_42 rfl (Nat.le_of_ble_eq_true rfl)) (fun _ => ?_)
          refine Ex_goto (tgt := 177) dX7_handles_45 (by decide) ?_
          refine Ex_lv [] (lv' := []) rfl ?_
          exact hj64 ()
    · refine Ex_aload_n dX7_handles_9 rfl 0 rfl ?_
      refine Ex_aload_n dX7_handles_10 rfl 1 rfl ?_
      refine Ex_bnU (Inv_V (L_X7_isAsked hG a0 a1) (lw_V q2461 q2462 q2463 q55 q2464) oe_16 ⟨rfl, hm_X7_isAsked⟩ (by decide) (by decide) dX7_handles_11 rfl (Nat.le_of_ble_eq_true rfl)) (fun _ => ?_)
      refine Ex_goto (tgt := 177) dX7_handles_14 (by decide) ?_
      refine Ex_lv [] (lv' := []) rfl ?_
      exact hj64 ()
-- QuorumAlmanacModel.deliver(I)I
def m_X6_deliver (a0 : Nat) (x1 : Int32) : Ms Int32 :=
  bn (ko [15] a0 (m_X6_message a0 x1)) fun r44 =>
  no r44 (
    rt 0) fun a45 =>
    gR [15] 129 a0 fun x47 =>
    bn (ko [22] x47 (m_J2_remove_2 x47 a45)) fun r48 =>
    gR [15] 128 a0 fun x49 =>
    gI [19] 75 a45 fun x50 =>
    aR 34 x49 x50 fun x51 =>
    gI [16] 59 x51 fun x52 =>
    if ¬ x52 = 0 then
      gJ [15] 155 a0 fun x53 =>
      pV [15] 155 a0 (.long (x53 + 1)) <|
      pV [15] 52 a0 (.int 0) <|
      gR [15] 128 a0 fun x54 =>
      gI [19] 75 a45 fun x55 =>
      aR 34 x54 x55 fun x56 =>
      bn (ko [16] x56 (m_X7_handles x56 a45)) fun _ =>
      gI [15] 52 a0 fun x57 =>
      rt x57
    else
      rt 0
theorem hm_X6_deliver : (yX6_deliver.cls ≠ "java/lang/invoke/MethodHandle" ∧ yX6_deliver.cls ≠ "java/lang/invoke/VarHandle" ∧ (parseMethodDescriptor yX6_deliver.desc).map (fun d => d.parameters.length) = some 1) := by decide +kernel
set_option maxHeartbeats 4000000 in
set_option maxRecDepth 100000 in
theorem L_X6_deliver {G : GT} (hG : GOK G) (a0 : Nat) (x1 : Int32) : Cal G yX6_deliver (ws_ yX6_deliver cX6_deliver 4 (Option.some Jvm.ClassFile.FieldType.int)) 14 328 [.ref a0, .int x1] rI (m_X6_deliver a0 x1) := by
  refine Cal_of hG (by decide +kernel) (Nat.le_of_ble_eq_true rfl) (lv0 := [(0, .ref a0), (1, .int x1)]) rfl (fun X σ0 => ?_)
  delta m_X6_deliver
  refine Ex_aload_n dX6_deliver_0 rfl 0 rfl ?_
  refine Ex_iload_n dX6_deliver_1 rfl 1 rfl ?_
  refine Ex_bnO (Inv_V (L_X6_message hG a0 x1) (lw_V q2439 q2441 qs40 q54 q2442) oe_15 ⟨rfl, hm_X6_message⟩ (by decide) (by decide) dX6_deliver_2 rfl (Nat.le_of_ble_eq_true rfl)) (fun r44 => ?_)
  refine Ex_astore_nO (lv' := [(0, .ref a0), (1, .int x1), (2, va_rf r44)]) dX6_deliver_5 rfl (by decide) [1, 2, 0] rfl ?_
  refine Ex_aload_nO dX6_deliver_6 rfl 2 rfl ?_
  rcases r44 with _ | a45
  · refine Ex_no_ifnonnullN dX6_deliver_7 ?_
    refine Ex_iconst (v := 0) dX6_deliver_10 (by decide) ?_
    exact Ex_ireturn dX6_deliver_11 rfl
  · refine Ex_no_ifnonnullR (tgt := 12) dX6_deliver_7 (by decide) ?_
    refine Ex_aload_n dX6_deliver_12 rfl 0 rfl ?_
    refine Ex_gR dX6_deliver_13 lk_X6_22 rfl (fun x47 => ?_)
    refine Ex_aload_n dX6_deliver_16 rfl 2 rfl ?_
    refine Ex_bnI (Inv_V (L_J2_remove_2 hG x47 a45) (lw_V q2456 q1544 q1545 q48 q1546) oe_22 ⟨rfl, hm_J2_remove_2⟩ (by decide) (by decide) dX6_deliver_17 rfl (Nat.le_of_ble_eq_true rfl)) (fun r48 => ?_)
    refine Ex_istore_n (lv' := [(0, .ref a0), (1, .int x1), (2, .ref a45), (3, .int r48)]) dX6_deliver_20 rfl (by decide) [1, 2, 3, 0] rfl ?_
    refine Ex_aload_n dX6_deliver_21 rfl 0 rfl ?_
    refine Ex_gR dX6_deliver_22 lk_X6_15 rfl (fun x49 => ?_)
    refine Ex_aload_n dX6_deliver_25 rfl 2 rfl ?_
    refine Ex_gI dX6_deliver_26 lk_X6_190 rfl (fun x50 => ?_)
    refine Ex_aR (j := 4) rfl rfl dX6_deliver_29 (fun x51 => ?_)
    refine Ex_gI dX6_deliver_30 lk_X6_77 rfl (fun x52 => ?_)
    refine Ex_if_ne (tgt := 38) dX6_deliver_33 (by decide) ?_ ?_
    · refine Ex_aload_n dX6_deliver_38 rfl 0 rfl ?_
      refine Ex_dup rfl dX6_deliver_39 ?_
      refine Ex_gJ dX6_deliver_40 lk_X6_195 rfl (fun x53 => ?_)
      refine Ex_lconst (v := 1) dX6_deliver_43 (by decide) ?_
      refine Ex_ladd dX6_deliver_44 ?_
      refine Ex_pV dX6_deliver_45 lk_X6_195 rfl rfl rfl rfl ?_
      refine Ex_aload_n dX6_deliver_48 rfl 0 rfl ?_
      refine Ex_iconst (v := 0) dX6_deliver_49 (by decide) ?_
      refine Ex_pV dX6_deliver_50 lk_X6_67 rfl rfl rfl rfl ?_
      refine Ex_aload_n dX6_deliver_53 rfl 0 rfl ?_
      refine Ex_gR dX6_deliver_54 lk_X6_15 rfl (fun x54 => ?_)
      refine Ex_aload_n dX6_deliver_57 rfl 2 rfl ?_
      refine Ex_gI dX6_deliver_58 lk_X6_190 rfl (fun x55 => ?_)
      refine Ex_aR (j := 4) rfl rfl dX6_deliver_61 (fun x56 => ?_)
      refine Ex_aload_n dX6_deliver_62 rfl 2 rfl ?_
      refine Ex_bnU (Inv_V (L_X7_handles hG x56 a45) (lw_V q2457 q2458 q2459 q55 q2460) oe_16 ⟨rfl, hm_X7_handles⟩ (by decide) (by decide) dX6_deliver_63 rfl (Nat.le_of_ble_eq_true rfl)) (fun _ => ?_)
      refine Ex_aload_n dX6_deliver_66 rfl 0 rfl ?_
      refine Ex_gI dX6_deliver_67 lk_X6_67 rfl (fun x57 => ?_)
      exact Ex_ireturn dX6_deliver_70 rfl
    · refine Ex_iconst (v := 0) dX6_deliver_36 (by decide) ?_
      exact Ex_ireturn dX6_deliver_37 rfl
-- QuorumAlmanacModel.lose(I)I
def m_X6_lose (a0 : Nat) (x1 : Int32) : Ms Int32 :=
  bn (ko [15] a0 (m_X6_message a0 x1)) fun r30 =>
  jn (fun (v31 : Int32) =>
      jn (fun (v33 : Int32) =>
          rt v33)
        fun j34 =>
        if v31 = 0 then
          j34 0
        else
          gR [15] 129 a0 fun x35 =>
          bn (ko [22] x35 (m_J2_size x35)) fun r36 =>
          j34 r36)
    fun j32 =>
    jn (fun (v37 : Unit) =>
        j32 0)
      fun j38 =>
      no r30 (
        j38 ()) fun a39 =>
        gR [15] 129 a0 fun x41 =>
        bn (ko [22] x41 (m_J2_remove_2 x41 a39)) fun r42 =>
        if r42 = 0 then
          j38 ()
        else
          j32 1
theorem hm_X6_lose : (yX6_lose.cls ≠ "java/lang/invoke/MethodHandle" ∧ yX6_lose.cls ≠ "java/lang/invoke/VarHandle" ∧ (parseMethodDescriptor yX6_lose.desc).map (fun d => d.parameters.length) = some 1) := by decide +kernel
set_option maxHeartbeats 4000000 in
set_option maxRecDepth 100000 in
theorem L_X6_lose {G : GT} (hG : GOK G) (a0 : Nat) (x1 : Int32) : Cal G yX6_lose (ws_ yX6_lose cX6_lose 4 (Option.some Jvm.ClassFile.FieldType.int)) 5 126 [.ref a0, .int x1] rI (m_X6_lose a0 x1) := by
  refine Cal_of hG (by decide +kernel) (Nat.le_of_ble_eq_true rfl) (lv0 := [(0, .ref a0), (1, .int x1)]) rfl (fun X σ0 => ?_)
  delta m_X6_lose
  refine Ex_aload_n dX6_lose_0 rfl 0 rfl ?_
  refine Ex_iload_n dX6_lose_1 rfl 1 rfl ?_
  refine Ex_bnO (Inv_V (L_X6_message hG a0 x1) (lw_V q2439 q2441 qs40 q54 q2442) oe_15 ⟨rfl, hm_X6_message⟩ (by decide) (by decide) dX6_lose_2 rfl (Nat.le_of_ble_eq_true rfl)) (fun r30 => ?_)
  refine Ex_astore_nO (lv' := [(0, .ref a0), (1, .int x1), (2, va_rf r30)]) dX6_lose_5 rfl (by decide) [1, 2, 0] rfl ?_
  refine Ex_aload_nO dX6_lose_6 rfl 2 rfl ?_
  refine Ex_jn (γ := Int32) (pj := 26) (fun v31 => [(0, .ref a0)]) (fun v31 => [.int v31]) (fun v31 => ?_) (fun j32 hj32 => ?_)
  · refine Ex_istore_n (lv' := [(0, .ref a0), (3, .int v31)]) dX6_lose_26 rfl (by decide) [1, 0] rfl ?_
    refine Ex_iload_n dX6_lose_27 rfl 1 rfl ?_
    refine Ex_jn (γ := Int32) (pj := 42) (fun v33 => []) (fun v33 => [.int v33]) (fun v33 => ?_) (fun j34 hj34 => ?_)
    · exact Ex_ireturn dX6_lose_42 rfl
    · refine Ex_if_eq (tgt := 41) dX6_lose_28 (by decide) ?_ ?_
      · refine Ex_iconst (v := 0) dX6_lose_41 (by decide) ?_
        refine Ex_lv [] (lv' := []) rfl ?_
        exact hj34 0
      · refine Ex_aload_n dX6_lose_31 rfl 0 rfl ?_
        refine Ex_gR dX6_lose_32 lk_X6_22 rfl (fun x35 => ?_)
        refine Ex_bnI (Inv_V (L_J2_size hG x35) (lw_V q2229 q112 q113 q48 q114) oe_22 ⟨rfl, hm_J2_size⟩ (by decide) (by decide) dX6_lose_35 rfl (Nat.le_of_ble_eq_true rfl)) (fun r36 => ?_)
        refine Ex_goto (tgt := 42) dX6_lose_38 (by decide) ?_
        refine Ex_lv [] (lv' := []) rfl ?_
        exact hj34 r36
  · refine Ex_jn (γ := Unit) (pj := 25) (fun v37 => [(0, .ref a0)]) (fun v37 => []) (fun v37 => ?_) (fun j38 hj38 => ?_)
    · refine Ex_iconst (v := 0) dX6_lose_25 (by decide) ?_
      exact hj32 0
    · rcases r30 with _ | a39
      · refine Ex_no_ifnullN (tgt := 25) dX6_lose_7 (by decide) ?_
        refine Ex_lv [0] (lv' := [(0, .ref a0)]) rfl ?_
        exact hj38 ()
      · refine Ex_no_ifnullR dX6_lose_7 ?_
        refine Ex_aload_n dX6_lose_10 rfl 0 rfl ?_
        refine Ex_gR dX6_lose_11 lk_X6_22 rfl (fun x41 => ?_)
        refine Ex_aload_n dX6_lose_14 rfl 2 rfl ?_
        refine Ex_bnI (Inv_V (L_J2_remove_2 hG x41 a39) (lw_V q2456 q1544 q1545 q48 q1546) oe_22 ⟨rfl, hm_J2_remove_2⟩ (by decide) (by decide) dX6_lose_15 rfl (Nat.le_of_ble_eq_true rfl)) (fun r42 => ?_)
        refine Ex_if_eq (tgt := 25) dX6_lose_18 (by decide) ?_ ?_
        · refine Ex_lv [0] (lv' := [(0, .ref a0)]) rfl ?_
          exact hj38 ()
        · refine Ex_iconst (v := 1) dX6_lose_21 (by decide) ?_
          refine Ex_goto (tgt := 26) dX6_lose_22 (by decide) ?_
          refine Ex_lv [0] (lv' := [(0, .ref a0)]) rfl ?_
          exact hj32 1
-- QuorumAlmanacModel.copy(I)I
def m_X6_copy (a0 : Nat) (x1 : Int32) : Ms Int32 :=
  bn (ko [15] a0 (m_X6_message a0 x1)) fun r28 =>
  no r28 (
    rt 0) fun a29 =>
    gI [15] 51 a0 fun x31 =>
    bn (ko [19] a29 (m_X16_copy a29 x31)) fun r32 =>
    bn (ko [15] a0 (m_X6_comes a0 r32)) fun _ =>
    gI [19] 72 r32 fun x33 =>
    rt x33
theorem hm_X6_copy : (yX6_copy.cls ≠ "java/lang/invoke/MethodHandle" ∧ yX6_copy.cls ≠ "java/lang/invoke/VarHandle" ∧ (parseMethodDescriptor yX6_copy.desc).map (fun d => d.parameters.length) = some 1) := by decide +kernel
set_option maxHeartbeats 4000000 in
set_option maxRecDepth 100000 in
theorem L_X6_copy {G : GT} (hG : GOK G) (a0 : Nat) (x1 : Int32) : Cal G yX6_copy (ws_ yX6_copy cX6_copy 4 (Option.some Jvm.ClassFile.FieldType.int)) 9 214 [.ref a0, .int x1] rI (m_X6_copy a0 x1) := by
  refine Cal_of hG (by decide +kernel) (Nat.le_of_ble_eq_true rfl) (lv0 := [(0, .ref a0), (1, .int x1)]) rfl (fun X σ0 => ?_)
  delta m_X6_copy
  refine Ex_aload_n dX6_copy_0 rfl 0 rfl ?_
  refine Ex_iload_n dX6_copy_1 rfl 1 rfl ?_
  refine Ex_bnO (Inv_V (L_X6_message hG a0 x1) (lw_V q2439 q2441 qs40 q54 q2442) oe_15 ⟨rfl, hm_X6_message⟩ (by decide) (by decide) dX6_copy_2 rfl (Nat.le_of_ble_eq_true rfl)) (fun r28 => ?_)
  refine Ex_astore_nO (lv' := [(0, .ref a0), (1, .int x1), (2, va_rf r28)]) dX6_copy_5 rfl (by decide) [1, 2, 0] rfl ?_
  refine Ex_aload_nO dX6_copy_6 rfl 2 rfl ?_
  rcases r28 with _ | a29
  · refine Ex_no_ifnonnullN dX6_copy_7 ?_
    refine Ex_iconst (v := 0) dX6_copy_10 (by decide) ?_
    exact Ex_ireturn dX6_copy_11 rfl
  · refine Ex_no_ifnonnullR (tgt := 12) dX6_copy_7 (by decide) ?_
    refine Ex_aload_n dX6_copy_12 rfl 2 rfl ?_
    refine Ex_aload_n dX6_copy_13 rfl 0 rfl ?_
    refine Ex_gI dX6_copy_14 lk_X6_57 rfl (fun x31 => ?_)
    refine Ex_bnR (Inv_V (L_X16_copy hG a29 x31) (lw_V q2498 q2499 q2500 q81 q2501) oe_19 ⟨rfl, hm_X16_copy⟩ (by decide) (by decide) dX6_copy_17 rfl (Nat.le_of_ble_eq_true rfl)) (fun r32 => ?_)
    refine Ex_astore_n (lv' := [(0, .ref a0), (1, .int x1), (2, .ref a29), (3, .ref r32)]) dX6_copy_20 rfl (by decide) [1, 2, 3, 0] rfl ?_
    refine Ex_aload_n dX6_copy_21 rfl 0 rfl ?_
    refine Ex_aload_n dX6_copy_22 rfl 3 rfl ?_
    refine Ex_bnU (Inv_V (L_X6_comes hG a0 r32) (lw_V q2224 q2226 qs36 q54 q2227) oe_15 ⟨rfl, hm_X6_comes⟩ (by decide) (by decide) dX6_copy_23 rfl (Nat.le_of_ble_eq_true rfl)) (fun _ => ?_)
    refine Ex_aload_n dX6_copy_26 rfl 3 rfl ?_
    refine Ex_gI dX6_copy_27 lk_X6_166 rfl (fun x33 => ?_)
    exact Ex_ireturn dX6_copy_30 rfl
