-- java/lang/Integer.valueOf(I)Ljava/lang/Integer;
def m_J14_valueOf (x0 : Int32) : Ms Nat :=
  jn (fun (v26 : Unit) =>
      fl)
    fun j27 =>
    if x0 < (-128) then
      j27 ()
    else
      gsI 1 fun x28 =>
      if x28 < x0 then
        j27 ()
      else
        gsR 2 fun x29 =>
        aR 38 x29 (x0 + 128) fun x30 =>
        rt x30
theorem hm_J14_valueOf : (yJ14_valueOf.cls ≠ "java/lang/invoke/MethodHandle" ∧ yJ14_valueOf.cls ≠ "java/lang/invoke/VarHandle" ∧ (parseMethodDescriptor yJ14_valueOf.desc).map (fun d => d.parameters.length) = some 1) := by decide +kernel
set_option maxHeartbeats 4000000 in
set_option maxRecDepth 100000 in
theorem L_J14_valueOf {G : GT} (hG : GOK G) (x0 : Int32) : Cal G yJ14_valueOf (ws_ yJ14_valueOf cJ14_valueOf 1 (Option.some (Jvm.ClassFile.FieldType.object "java/lang/Integer"))) 2 60 [.int x0] rR (m_J14_valueOf x0) := by
  refine Cal_of hG (by decide +kernel) (Nat.le_of_ble_eq_true rfl) (lv0 := [(0, .int x0)]) rfl (fun X σ0 => ?_)
  delta m_J14_valueOf
  refine Ex_iload_n dJ14_valueOf_0 rfl 0 rfl ?_
  refine Ex_bipush (v := (-128)) dJ14_valueOf_1 (by decide) ?_
  refine Ex_jn (γ := Unit) (pj := 23) (fun v26 => []) (fun v26 => []) (fun v26 => ?_) (fun j27 hj27 => ?_)
  · exact Ex_fl
  · refine Ex_icmp_lt (tgt := 23) dJ14_valueOf_3 (by decide) ?_ ?_
    · refine Ex_lv [] (lv' := []) rfl ?_
      exact hj27 ()
    · refine Ex_iload_n dJ14_valueOf_6 rfl 0 rfl ?_
      refine Ex_gsI (j := 1) rfl dJ14_valueOf_7 q751 (Or.inl rfl) (fun x28 => ?_)
      refine Ex_icmp_gt (tgt := 23) dJ14_valueOf_10 (by decide) ?_ ?_
      · refine Ex_lv [] (lv' := []) rfl ?_
        exact hj27 ()
      · refine Ex_gsR (j := 2) rfl dJ14_valueOf_13 q753 (Or.inl rfl) (fun x29 => ?_)
        refine Ex_iload_n dJ14_valueOf_16 rfl 0 rfl ?_
        refine Ex_sipush (v := 128) dJ14_valueOf_17 (by decide) ?_
        refine Ex_iadd dJ14_valueOf_20 ?_
        refine Ex_aR (j := 8) rfl rfl dJ14_valueOf_21 (fun x30 => ?_)
        exact Ex_areturn dJ14_valueOf_22 rfl (Or.inl ⟨_, rfl⟩)
-- jdk/internal/util/ArraysSupport.newLength(III)I
def m_J15_newLength (x0 : Int32) (x1 : Int32) (x2 : Int32) : Ms Int32 :=
  jn (fun (v20 : Unit) =>
      fl)
    fun j21 =>
    if (x0 + (iMax x1 x2)) ≤ 0 then
      j21 ()
    else
      if 2147483639 < (x0 + (iMax x1 x2)) then
        j21 ()
      else
        rt (x0 + (iMax x1 x2))
theorem hm_J15_newLength : (yJ15_newLength.cls ≠ "java/lang/invoke/MethodHandle" ∧ yJ15_newLength.cls ≠ "java/lang/invoke/VarHandle" ∧ (parseMethodDescriptor yJ15_newLength.desc).map (fun d => d.parameters.length) = some 3) := by decide +kernel
set_option maxHeartbeats 4000000 in
set_option maxRecDepth 100000 in
theorem L_J15_newLength {G : GT} (hG : GOK G) (x0 : Int32) (x1 : Int32) (x2 : Int32) : Cal G yJ15_newLength (ws_ yJ15_newLength cJ15_newLength 4 (Option.some Jvm.ClassFile.FieldType.int)) 2 60 [.int x0, .int x1, .int x2] rI (m_J15_newLength x0 x1 x2) := by
  refine Cal_of hG (by decide +kernel) (Nat.le_of_ble_eq_true rfl) (lv0 := [(0, .int x0), (1, .int x1), (2, .int x2)]) rfl (fun X σ0 => ?_)
  delta m_J15_newLength
  refine Ex_iload_n dJ15_newLength_0 rfl 0 rfl ?_
  refine Ex_iload_n dJ15_newLength_1 rfl 1 rfl ?_
  refine Ex_iload_n dJ15_newLength_2 rfl 2 rfl ?_
  refine Ex_mmax dJ15_newLength_3 q953 q152 q49 q153 (by decide) (Nat.le_of_ble_eq_true rfl) ?_
  refine Ex_iadd dJ15_newLength_6 ?_
  refine Ex_istore_n (lv' := [(0, .int x0), (1, .int x1), (2, .int x2), (3, .int (x0 + (iMax x1 x2)))]) dJ15_newLength_7 rfl (by decide) [1, 2, 3, 0] rfl ?_
  refine Ex_iconst (v := 0) dJ15_newLength_8 (by decide) ?_
  refine Ex_iload_n dJ15_newLength_9 rfl 3 rfl ?_
  refine Ex_jn (γ := Unit) (pj := 21) (fun v20 => []) (fun v20 => []) (fun v20 => ?_) (fun j21 hj21 => ?_)
  · exact Ex_fl
  · refine Ex_icmp_ge (tgt := 21) dJ15_newLength_10 (by decide) ?_ ?_
    · refine Ex_lv [] (lv' := []) rfl ?_
      exact hj21 ()
    · refine Ex_iload_n dJ15_newLength_13 rfl 3 rfl ?_
      refine Ex_ldci (v := 2147483639) q954 dJ15_newLength_14 ?_
      refine Ex_icmp_gt (tgt := 21) dJ15_newLength_16 (by decide) ?_ ?_
      · refine Ex_lv [] (lv' := []) rfl ?_
        exact hj21 ()
      · refine Ex_iload_n dJ15_newLength_19 rfl 3 rfl ?_
        exact Ex_ireturn dJ15_newLength_20 rfl
-- java/util/Arrays.copyOf([Ljava/lang/Object;ILjava/lang/Class;)[Ljava/lang/Object;
def m_J16_copyOf_2 (a0 : Nat) (x1 : Int32) (a2 : Nat) : Ms Nat :=
  gsR 20 fun x26 =>
  if ¬ (some a2) = (some x26) then
    fl
  else
    nA 32 x1 .null fun a27 =>
    aL 32 a0 fun x28 =>
    cpA [6, 7, 8, 9, 10, 12, 13, 19, 20, 21, 24] a0 0 a27 0 (iMin x28 x1) <|
    rt a27
theorem hm_J16_copyOf_2 : (yJ16_copyOf_2.cls ≠ "java/lang/invoke/MethodHandle" ∧ yJ16_copyOf_2.cls ≠ "java/lang/invoke/VarHandle" ∧ (parseMethodDescriptor yJ16_copyOf_2.desc).map (fun d => d.parameters.length) = some 3) := by decide +kernel
set_option maxHeartbeats 4000000 in
set_option maxRecDepth 100000 in
theorem L_J16_copyOf_2 {G : GT} (hG : GOK G) (a0 : Nat) (x1 : Int32) (a2 : Nat) : Cal G yJ16_copyOf_2 (ws_ yJ16_copyOf_2 cJ16_copyOf_2 4 (Option.some (Jvm.ClassFile.FieldType.array (Jvm.ClassFile.FieldType.object "java/lang/Object")))) 2 60 [.ref a0, .int x1, .ref a2] rR (m_J16_copyOf_2 a0 x1 a2) := by
  refine Cal_of hG (by decide +kernel) (Nat.le_of_ble_eq_true rfl) (lv0 := [(0, .ref a0), (1, .int x1), (2, .ref a2)]) rfl (fun X σ0 => ?_)
  delta m_J16_copyOf_2
  refine Ex_aload_n dJ16_copyOf_2_0 rfl 2 rfl ?_
  refine Ex_ldcM (j := 0) rfl dJ16_copyOf_2_1 q965 (fun x26 => ?_)
  refine Ex_acmp_ne (rx := (some a2)) (ry := (some x26)) (tgt := 13) dJ16_copyOf_2_3 (by decide) ?_ ?_
  · exact Ex_fl
  · refine Ex_iload_n dJ16_copyOf_2_6 rfl 1 rfl ?_
    refine Ex_nA_r (j := 2) dJ16_copyOf_2_7 rfl q967 q966 (fun a27 => ?_)
    refine Ex_goto (tgt := 24) dJ16_copyOf_2_10 (by decide) ?_
    refine Ex_astore_n (lv' := [(0, .ref a0), (1, .int x1), (2, .ref a2), (3, .ref a27)]) dJ16_copyOf_2_24 rfl (by decide) [1, 2, 3, 0] rfl ?_
    refine Ex_aload_n dJ16_copyOf_2_25 rfl 0 rfl ?_
    refine Ex_iconst (v := 0) dJ16_copyOf_2_26 (by decide) ?_
    refine Ex_aload_n dJ16_copyOf_2_27 rfl 3 rfl ?_
    refine Ex_iconst (v := 0) dJ16_copyOf_2_28 (by decide) ?_
    refine Ex_aload_n dJ16_copyOf_2_29 rfl 0 rfl ?_
    refine Ex_aL (j := 2) rfl dJ16_copyOf_2_30 (fun x28 => ?_)
    refine Ex_iload_n dJ16_copyOf_2_31 rfl 1 rfl ?_
    refine Ex_mmin dJ16_copyOf_2_32 q968 q149 q49 q150 (by decide) (Nat.le_of_ble_eq_true rfl) ?_
    refine Ex_cpA oc_java_lang_Object_6_7_8_9_10_12_13_19_20_21_24 dJ16_copyOf_2_35 q969 q971 q970 q72 (by decide) (Nat.le_of_ble_eq_true rfl) ?_
    refine Ex_aload_n dJ16_copyOf_2_38 rfl 3 rfl ?_
    exact Ex_areturn dJ16_copyOf_2_39 rfl (Or.inr ⟨_, rfl⟩)
-- java/util/Arrays.copyOf([Ljava/lang/Object;I)[Ljava/lang/Object;
def m_J16_copyOf (a0 : Nat) (x1 : Int32) : Ms Nat :=
  ko [32] a0 <|
  gsR 20 fun x24 =>
  bn (m_J16_copyOf_2 a0 x1 x24) fun r25 =>
  rt r25
theorem hm_J16_copyOf : (yJ16_copyOf.cls ≠ "java/lang/invoke/MethodHandle" ∧ yJ16_copyOf.cls ≠ "java/lang/invoke/VarHandle" ∧ (parseMethodDescriptor yJ16_copyOf.desc).map (fun d => d.parameters.length) = some 2) := by decide +kernel
set_option maxHeartbeats 4000000 in
set_option maxRecDepth 100000 in
theorem L_J16_copyOf {G : GT} (hG : GOK G) (a0 : Nat) (x1 : Int32) : Cal G yJ16_copyOf (ws_ yJ16_copyOf cJ16_copyOf 2 (Option.some (Jvm.ClassFile.FieldType.array (Jvm.ClassFile.FieldType.object "java/lang/Object")))) 3 83 [.ref a0, .int x1] rR (m_J16_copyOf a0 x1) := by
  refine Cal_of hG (by decide +kernel) (Nat.le_of_ble_eq_true rfl) (lv0 := [(0, .ref a0), (1, .int x1)]) rfl (fun X σ0 => ?_)
  delta m_J16_copyOf
  refine Ex_aload_n dJ16_copyOf_0 rfl 0 rfl ?_
  refine Ex_iload_n dJ16_copyOf_1 rfl 1 rfl ?_
  refine Ex_aload_n dJ16_copyOf_2 rfl 0 rfl ?_
  refine Ex_getC (j := 0) (jt := 2) rfl rfl rfl dJ16_copyOf_3 q961 q2676 q2675 q556 q592 (by decide) (Nat.le_of_ble_eq_true rfl) (fun x24 => ?_)
  refine Ex_bnR (Inv_S (L_J16_copyOf_2 hG a0 x1 x24) (lw_S q962 q963 q71 q964) hm_J16_copyOf_2 (by decide) (by decide) dJ16_copyOf_6 rfl (Nat.le_of_ble_eq_true rfl)) (fun r25 => ?_)
  exact Ex_areturn dJ16_copyOf_9 rfl (Or.inr ⟨_, rfl⟩)
-- java/util/ArrayList.grow(I)[Ljava/lang/Object;
def m_J2_grow_2 (a0 : Nat) (x1 : Int32) : Ms Nat :=
  gR [22] 145 a0 fun x36 =>
  aL 32 x36 fun x37 =>
  jn (fun (v38 : Unit) =>
      bn (m_J15_newLength x37 (x1 - x37) (x37 >>> (1 &&& 31))) fun r40 =>
      gR [22] 145 a0 fun x41 =>
      bn (m_J16_copyOf x41 r40) fun r42 =>
      pV [22] 145 a0 (.ref r42) <|
      rt r42)
    fun j39 =>
    if 0 < x37 then
      j39 ()
    else
      gR [22] 145 a0 fun x43 =>
      gsR 0 fun x44 =>
      if (some x43) = (some x44) then
        nA 32 (iMax 10 x1) .null fun a45 =>
        pV [22] 145 a0 (.ref a45) <|
        rt a45
      else
        j39 ()
theorem hm_J2_grow_2 : (yJ2_grow_2.cls ≠ "java/lang/invoke/MethodHandle" ∧ yJ2_grow_2.cls ≠ "java/lang/invoke/VarHandle" ∧ (parseMethodDescriptor yJ2_grow_2.desc).map (fun d => d.parameters.length) = some 1) := by decide +kernel
set_option maxHeartbeats 4000000 in
set_option maxRecDepth 100000 in
theorem L_J2_grow_2 {G : GT} (hG : GOK G) (a0 : Nat) (x1 : Int32) : Cal G yJ2_grow_2 (ws_ yJ2_grow_2 cJ2_grow_2 4 (Option.some (Jvm.ClassFile.FieldType.array (Jvm.ClassFile.FieldType.object "java/lang/Object")))) 4 104 [.ref a0, .int x1] rR (m_J2_grow_2 a0 x1) := by
  refine Cal_of hG (by decide +kernel) (Nat.le_of_ble_eq_true rfl) (lv0 := [(0, .ref a0), (1, .int x1)]) rfl (fun X σ0 => ?_)
  delta m_J2_grow_2
  refine Ex_aload_n dJ2_grow_2_0 rfl 0 rfl ?_
  refine Ex_gR dJ2_grow_2_1 lk_J2_9 rfl (fun x36 => ?_)
  refine Ex_aL (j := 2) rfl dJ2_grow_2_4 (fun x37 => ?_)
  refine Ex_istore_n (lv' := [(0, .ref a0), (1, .int x1), (2, .int x37)]) dJ2_grow_2_5 rfl (by decide) [1, 2, 0] rfl ?_
  refine Ex_iload_n dJ2_grow_2_6 rfl 2 rfl ?_
  refine Ex_jn (γ := Unit) (pj := 20) (fun v38 => [(0, .ref a0), (1, .int x1), (2, .int x37)]) (fun v38 => []) (fun v38 => ?_) (fun j39 hj39 => ?_)
  · refine Ex_iload_n dJ2_grow_2_20 rfl 2 rfl ?_
    refine Ex_iload_n dJ2_grow_2_21 rfl 1 rfl ?_
    refine Ex_iload_n dJ2_grow_2_22 rfl 2 rfl ?_
    refine Ex_isub dJ2_grow_2_23 ?_
    refine Ex_iload_n dJ2_grow_2_24 rfl 2 rfl ?_
    refine Ex_iconst (v := 1) dJ2_grow_2_25 (by decide) ?_
    refine Ex_ishr dJ2_grow_2_26 ?_
    refine Ex_bnI (Inv_S (L_J15_newLength hG x37 (x1 - x37) (x37 >>> (1 &&& 31))) (lw_S q950 q951 q70 q952) hm_J15_newLength (by decide) (by decide) dJ2_grow_2_27 rfl (Nat.le_of_ble_eq_true rfl)) (fun r40 => ?_)
    refine Ex_istore_n (lv' := [(0, .ref a0), (1, .int x1), (2, .int x37), (3, .int r40)]) dJ2_grow_2_30 rfl (by decide) [1, 2, 3, 0] rfl ?_
    refine Ex_aload_n dJ2_grow_2_31 rfl 0 rfl ?_
    refine Ex_aload_n dJ2_grow_2_32 rfl 0 rfl ?_
    refine Ex_gR dJ2_grow_2_33 lk_J2_9 rfl (fun x41 => ?_)
    refine Ex_iload_n dJ2_grow_2_36 rfl 3 rfl ?_
    refine Ex_bnR (Inv_S (L_J16_copyOf hG x41 r40) (lw_S q958 q959 q71 q960) hm_J16_copyOf (by decide) (by decide) dJ2_grow_2_37 rfl (Nat.le_of_ble_eq_true rfl)) (fun r42 => ?_)
    refine Ex_dup_x1 rfl rfl dJ2_grow_2_40 ?_
    refine Ex_pV dJ2_grow_2_41 lk_J2_9 rfl rfl rfl rfl ?_
    exact Ex_areturn dJ2_grow_2_44 rfl (Or.inr ⟨_, rfl⟩)
  · refine Ex_if_gt (tgt := 20) dJ2_grow_2_7 (by decide) ?_ ?_
    · exact hj39 ()
    · refine Ex_aload_n dJ2_grow_2_10 rfl 0 rfl ?_
      refine Ex_gR dJ2_grow_2_11 lk_J2_9 rfl (fun x43 => ?_)
      refine Ex_gsR (j := 0) rfl dJ2_grow_2_14 q131 (Or.inl rfl) (fun x44 => ?_)
      refine Ex_acmp_eq (rx := (some x43)) (ry := (some x44)) (tgt := 45) dJ2_grow_2_17 (by decide) ?_ ?_
      · refine Ex_aload_n dJ2_grow_2_45 rfl 0 rfl ?_
        refine Ex_bipush (v := 10) dJ2_grow_2_46 (by decide) ?_
        refine Ex_iload_n dJ2_grow_2_48 rfl 1 rfl ?_
        refine Ex_mmax dJ2_grow_2_49 q972 q152 q49 q153 (by decide) (Nat.le_of_ble_eq_true rfl) ?_
        refine Ex_nA_r (j := 2) dJ2_grow_2_52 rfl q973 q966 (fun a45 => ?_)
        refine Ex_dup_x1 rfl rfl dJ2_grow_2_55 ?_
        refine Ex_pV dJ2_grow_2_56 lk_J2_9 rfl rfl rfl rfl ?_
        exact Ex_areturn dJ2_grow_2_59 rfl (Or.inr ⟨_, rfl⟩)
      · exact hj39 ()
-- java/util/ArrayList.grow()[Ljava/lang/Object;
def m_J2_grow (a0 : Nat) : Ms Nat :=
  gI [22] 93 a0 fun x24 =>
  bn (ko [22] a0 (m_J2_grow_2 a0 (x24 + 1))) fun r25 =>
  rt r25
theorem hm_J2_grow : (yJ2_grow.cls ≠ "java/lang/invoke/MethodHandle" ∧ yJ2_grow.cls ≠ "java/lang/invoke/VarHandle" ∧ (parseMethodDescriptor yJ2_grow.desc).map (fun d => d.parameters.length) = some 0) := by decide +kernel
set_option maxHeartbeats 4000000 in
set_option maxRecDepth 100000 in
theorem L_J2_grow {G : GT} (hG : GOK G) (a0 : Nat) : Cal G yJ2_grow (ws_ yJ2_grow cJ2_grow 1 (Option.some (Jvm.ClassFile.FieldType.array (Jvm.ClassFile.FieldType.object "java/lang/Object")))) 5 127 [.ref a0] rR (m_J2_grow a0) := by
  refine Cal_of hG (by decide +kernel) (Nat.le_of_ble_eq_true rfl) (lv0 := [(0, .ref a0)]) rfl (fun X σ0 => ?_)
  delta m_J2_grow
  refine Ex_aload_n dJ2_grow_0 rfl 0 rfl ?_
  refine Ex_aload_n dJ2_grow_1 rfl 0 rfl ?_
  refine Ex_gI dJ2_grow_2 lk_J2_48 rfl (fun x24 => ?_)
  refine Ex_iconst (v := 1) dJ2_grow_5 (by decide) ?_
  refine Ex_iadd dJ2_grow_6 ?_
  refine Ex_bnR (Inv_V (L_J2_grow_2 hG a0 (x24 + 1)) (lw_V q946 q948 qs8 q48 q949) oe_22 ⟨rfl, hm_J2_grow_2⟩ (by decide) (by decide) dJ2_grow_7 rfl (Nat.le_of_ble_eq_true rfl)) (fun r25 => ?_)
  exact Ex_areturn dJ2_grow_10 rfl (Or.inr ⟨_, rfl⟩)
-- java/util/ArrayList.add(Ljava/lang/Object;[Ljava/lang/Object;I)V
def m_J2_add_2 (a0 : Nat) (a1 : Nat) (a2 : Nat) (x3 : Int32) : Ms Unit :=
  aL 32 a2 fun x24 =>
  jn (fun (v25 : Nat) =>
      sR 32 v25 x3 [6, 7, 8, 9, 10, 12, 13, 19, 20, 21, 24] a1 <|
      pV [22] 93 a0 (.int (x3 + 1)) <|
      rt ())
    fun j26 =>
    if ¬ x3 = x24 then
      j26 a2
    else
      bn (ko [22] a0 (m_J2_grow a0)) fun r27 =>
      j26 r27
theorem hm_J2_add_2 : (yJ2_add_2.cls ≠ "java/lang/invoke/MethodHandle" ∧ yJ2_add_2.cls ≠ "java/lang/invoke/VarHandle" ∧ (parseMethodDescriptor yJ2_add_2.desc).map (fun d => d.parameters.length) = some 3) := by decide +kernel
set_option maxHeartbeats 4000000 in
set_option maxRecDepth 100000 in
theorem L_J2_add_2 {G : GT} (hG : GOK G) (a0 : Nat) (a1 : Nat) (a2 : Nat) (x3 : Int32) : Cal G yJ2_add_2 (ws_ yJ2_add_2 cJ2_add_2 4 (Option.none : Option Jvm.ClassFile.FieldType)) 6 147 [.ref a0, .ref a1, .ref a2, .int x3] rU (m_J2_add_2 a0 a1 a2 x3) := by
  refine Cal_of hG (by decide +kernel) (Nat.le_of_ble_eq_true rfl) (lv0 := [(0, .ref a0), (1, .ref a1), (2, .ref a2), (3, .int x3)]) rfl (fun X σ0 => ?_)
  delta m_J2_add_2
  refine Ex_iload_n dJ2_add_2_0 rfl 3 rfl ?_
  refine Ex_aload_n dJ2_add_2_1 rfl 2 rfl ?_
  refine Ex_aL (j := 2) rfl dJ2_add_2_2 (fun x24 => ?_)
  refine Ex_jn (γ := Nat) (pj := 11) (fun v25 => [(0, .ref a0), (1, .ref a1), (2, .ref v25), (3, .int x3)]) (fun v25 => []) (fun v25 => ?_) (fun j26 hj26 => ?_)
  · refine Ex_aload_n dJ2_add_2_11 rfl 2 rfl ?_
    refine Ex_iload_n dJ2_add_2_12 rfl 3 rfl ?_
    refine Ex_aload_n dJ2_add_2_13 rfl 1 rfl ?_
    refine Ex_sR (j := 2) rfl oc_java_lang_Object_6_7_8_9_10_12_13_19_20_21_24 dJ2_add_2_14 ?_
    refine Ex_aload_n dJ2_add_2_15 rfl 0 rfl ?_
    refine Ex_iload_n dJ2_add_2_16 rfl 3 rfl ?_
    refine Ex_iconst (v := 1) dJ2_add_2_17 (by decide) ?_
    refine Ex_iadd dJ2_add_2_18 ?_
    refine Ex_pV dJ2_add_2_19 lk_J2_48 rfl rfl rfl rfl ?_
    exact Ex_vreturn dJ2_add_2_22 rfl
  · refine Ex_icmp_ne (tgt := 11) dJ2_add_2_3 (by decide) ?_ ?_
    · exact hj26 a2
    · refine Ex_aload_n dJ2_add_2_6 rfl 0 rfl ?_
      refine Ex_bnR (Inv_V (L_J2_grow hG a0) (lw_V q942 q944 qs7 q48 q945) oe_22 ⟨rfl, hm_J2_grow⟩ (by decide) (by decide) dJ2_add_2_7 rfl (Nat.le_of_ble_eq_true rfl)) (fun r27 => ?_)
      refine Ex_astore_n (lv' := [(0, .ref a0), (1, .ref a1), (2, .ref r27), (3, .int x3)]) dJ2_add_2_10 rfl (by decide) [1, 2, 0, 3] rfl ?_
      exact hj26 r27
-- java/util/ArrayList.add(Ljava/lang/Object;)Z
def m_J2_add (a0 : Nat) (a1 : Nat) : Ms Int32 :=
  gI [22] 92 a0 fun x26 =>
  pV [22] 92 a0 (.int (x26 + 1)) <|
  gR [22] 145 a0 fun x27 =>
  gI [22] 93 a0 fun x28 =>
  bn (ko [22] a0 (m_J2_add_2 a0 a1 x27 x28)) fun _ =>
  rt 1
theorem hm_J2_add : (yJ2_add.cls ≠ "java/lang/invoke/MethodHandle" ∧ yJ2_add.cls ≠ "java/lang/invoke/VarHandle" ∧ (parseMethodDescriptor yJ2_add.desc).map (fun d => d.parameters.length) = some 1) := by decide +kernel
set_option maxHeartbeats 4000000 in
set_option maxRecDepth 100000 in
theorem L_J2_add {G : GT} (hG : GOK G) (a0 : Nat) (a1 : Nat) : Cal G yJ2_add (ws_ yJ2_add cJ2_add 2 (Option.some Jvm.ClassFile.FieldType.boolean)) 7 170 [.ref a0, .ref a1] rI (m_J2_add a0 a1) := by
  refine Cal_of hG (by decide +kernel) (Nat.le_of_ble_eq_true rfl) (lv0 := [(0, .ref a0), (1, .ref a1)]) rfl (fun X σ0 => ?_)
  delta m_J2_add
  refine Ex_aload_n dJ2_add_0 rfl 0 rfl ?_
  refine Ex_dup rfl dJ2_add_1 ?_
  refine Ex_gI dJ2_add_2 lk_J2_63 rfl (fun x26 => ?_)
  refine Ex_iconst (v := 1) dJ2_add_5 (by decide) ?_
  refine Ex_iadd dJ2_add_6 ?_
  refine Ex_pV dJ2_add_7 lk_J2_63 rfl rfl rfl rfl ?_
  refine Ex_aload_n dJ2_add_10 rfl 0 rfl ?_
  refine Ex_aload_n dJ2_add_11 rfl 1 rfl ?_
  refine Ex_aload_n dJ2_add_12 rfl 0 rfl ?_
  refine Ex_gR dJ2_add_13 lk_J2_9 rfl (fun x27 => ?_)
  refine Ex_aload_n dJ2_add_16 rfl 0 rfl ?_
  refine Ex_gI dJ2_add_17 lk_J2_48 rfl (fun x28 => ?_)
  refine Ex_bnU (Inv_V (L_J2_add_2 hG a0 a1 x27 x28) (lw_V q938 q940 qs6 q48 q941) oe_22 ⟨rfl, hm_J2_add_2⟩ (by decide) (by decide) dJ2_add_20 rfl (Nat.le_of_ble_eq_true rfl)) (fun _ => ?_)
  refine Ex_iconst (v := 1) dJ2_add_23 (by decide) ?_
  exact Ex_zreturn dJ2_add_24 rfl rfl
-- QuorumAlmanac$Node.setOf(I)I
def m_X2_setOf (a0 : Nat) (x1 : Int32) : Ms Int32 :=
  lp (fun j25 (v24 : Int32 × Int32) =>
      if 5 ≤ v24.2 then
        rt v24.1
      else
        gR [2] 113 a0 fun x26 =>
        aI 30 x26 v24.2 fun x27 =>
        jn (fun (v28 : Int32 × Int32) =>
            j25 ((v28.2 ||| v28.1), (v24.2 + 1)))
          fun j29 =>
          if x27 < x1 then
            j29 (0, v24.1)
          else
            j29 ((1 <<< (v24.2 &&& 31)), v24.1))
    (0, 0)
theorem hm_X2_setOf : (yX2_setOf.cls ≠ "java/lang/invoke/MethodHandle" ∧ yX2_setOf.cls ≠ "java/lang/invoke/VarHandle" ∧ (parseMethodDescriptor yX2_setOf.desc).map (fun d => d.parameters.length) = some 1) := by decide +kernel
set_option maxHeartbeats 4000000 in
set_option maxRecDepth 100000 in
theorem L_X2_setOf {G : GT} (hG : GOK G) (a0 : Nat) (x1 : Int32) : Cal G yX2_setOf (ws_ yX2_setOf cX2_setOf 4 (Option.some Jvm.ClassFile.FieldType.int)) 2 60 [.ref a0, .int x1] rI (m_X2_setOf a0 x1) := by
  refine Cal_of hG (by decide +kernel) (Nat.le_of_ble_eq_true rfl) (lv0 := [(0, .ref a0), (1, .int x1)]) rfl (fun X σ0 => ?_)
  delta m_X2_setOf
  refine Ex_iconst (v := 0) dX2_setOf_0 (by decide) ?_
  refine Ex_istore_n (lv' := [(0, .ref a0), (1, .int x1), (2, .int 0)]) dX2_setOf_1 rfl (by decide) [1, 2, 0] rfl ?_
  refine Ex_iconst (v := 0) dX2_setOf_2 (by decide) ?_
  refine Ex_istore_n (lv' := [(0, .ref a0), (1, .int x1), (2, .int 0), (3, .int 0)]) dX2_setOf_3 rfl (by decide) [1, 2, 3, 0] rfl ?_
  refine Ex_lp (γ := Int32 × Int32) (pj := 4) (fun v24 => [(0, .ref a0), (1, .int x1), (2, .int v24.1), (3, .int v24.2)]) (fun v24 => []) (fun j25 hj25 v24 => ?_) (0, 0) rfl rfl
  refine Ex_iload_n dX2_setOf_4 rfl 3 rfl ?_
  refine Ex_iconst (v := 5) dX2_setOf_5 (by decide) ?_
  refine Ex_icmp_ge (tgt := 35) dX2_setOf_6 (by decide) ?_ ?_
  · refine Ex_iload_n dX2_setOf_35 rfl 2 rfl ?_
    exact Ex_ireturn dX2_setOf_36 rfl
  · refine Ex_iload_n dX2_setOf_9 rfl 2 rfl ?_
    refine Ex_aload_n dX2_setOf_10 rfl 0 rfl ?_
    refine Ex_gR dX2_setOf_11 lk_X2_54 rfl (fun x26 => ?_)
    refine Ex_iload_n dX2_setOf_14 rfl 3 rfl ?_
    refine Ex_aI_i dX2_setOf_15 (fun x27 => ?_)
    refine Ex_iload_n dX2_setOf_16 rfl 1 rfl ?_
    refine Ex_jn (γ := Int32 × Int32) (pj := 27) (fun v28 => [(0, .ref a0), (1, .int x1), (3, .int v24.2)]) (fun v28 => [.int v28.1, .int v28.2]) (fun v28 => ?_) (fun j29 hj29 => ?_)
    · refine Ex_ior dX2_setOf_27 ?_
      refine Ex_istore_n (lv' := [(0, .ref a0), (1, .int x1), (2, .int (v28.2 ||| v28.1)), (3, .int v24.2)]) dX2_setOf_28 rfl (by decide) [1, 2, 0, 3] rfl ?_
      refine Ex_iinc (j := 3) (lv' := [(0, .ref a0), (1, .int x1), (2, .int (v28.2 ||| v28.1)), (3, .int (v24.2 + 1))]) dX2_setOf_29 rfl rfl (by decide) [1, 2, 3, 0] rfl ?_
      refine Ex_goto (tgt := 4) dX2_setOf_32 (by decide) ?_
      exact hj25 ((v28.2 ||| v28.1), (v24.2 + 1))
    · refine Ex_icmp_lt (tgt := 26) dX2_setOf_17 (by decide) ?_ ?_
      · refine Ex_iconst (v := 0) dX2_setOf_26 (by decide) ?_
        refine Ex_lv [0, 1, 3] (lv' := [(0, .ref a0), (1, .int x1), (3, .int v24.2)]) rfl ?_
        exact hj29 (0, v24.1)
      · refine Ex_iconst (v := 1) dX2_setOf_20 (by decide) ?_
        refine Ex_iload_n dX2_setOf_21 rfl 3 rfl ?_
        refine Ex_ishl dX2_setOf_22 ?_
        refine Ex_goto (tgt := 27) dX2_setOf_23 (by decide) ?_
        refine Ex_lv [0, 1, 3] (lv' := [(0, .ref a0), (1, .int x1), (3, .int v24.2)]) rfl ?_
        exact hj29 ((1 <<< (v24.2 &&& 31)), v24.1)
-- QuorumAlmanac$Node.latestAnswered()I
def m_X2_latestAnswered (a0 : Nat) : Ms Int32 :=
  gR [2] 114 a0 fun x30 =>
  bn (ko [22] x30 (m_J2_size x30)) fun r31 =>
  bn (ko [2] a0 (m_X2_members a0)) fun r32 =>
  lp (fun j34 (v33 : Int32) =>
      jn (fun (v35 : Unit) =>
          rt v33)
        fun j36 =>
        if v33 ≤ 0 then
          j36 ()
        else
          bn (ko [2] a0 (m_X2_setOf a0 v33)) fun r37 =>
          bn (ko [3] r32 (m_X3_isMajority r32 r37)) fun r38 =>
          if ¬ r38 = 0 then
            j36 ()
          else
            j34 (v33 + (-1)))
    r31
theorem hm_X2_latestAnswered : (yX2_latestAnswered.cls ≠ "java/lang/invoke/MethodHandle" ∧ yX2_latestAnswered.cls ≠ "java/lang/invoke/VarHandle" ∧ (parseMethodDescriptor yX2_latestAnswered.desc).map (fun d => d.parameters.length) = some 0) := by decide +kernel
set_option maxHeartbeats 4000000 in
set_option maxRecDepth 100000 in
theorem L_X2_latestAnswered {G : GT} (hG : GOK G) (a0 : Nat) : Cal G yX2_latestAnswered (ws_ yX2_latestAnswered cX2_latestAnswered 3 (Option.some Jvm.ClassFile.FieldType.int)) 7 167 [.ref a0] rI (m_X2_latestAnswered a0) := by
  refine Cal_of hG (by decide +kernel) (Nat.le_of_ble_eq_true rfl) (lv0 := [(0, .ref a0)]) rfl (fun X σ0 => ?_)
  delta m_X2_latestAnswered
  refine Ex_aload_n dX2_latestAnswered_0 rfl 0 rfl ?_
  refine Ex_gR dX2_latestAnswered_1 lk_X2_57 rfl (fun x30 => ?_)
  refine Ex_bnI (Inv_V (L_J2_size hG x30) (lw_V q111 q112 q113 q48 q114) oe_22 ⟨rfl, hm_J2_size⟩ (by decide) (by decide) dX2_latestAnswered_4 rfl (Nat.le_of_ble_eq_true rfl)) (fun r31 => ?_)
  refine Ex_istore_n (lv' := [(0, .ref a0), (1, .int r31)]) dX2_latestAnswered_7 rfl (by decide) [1, 0] rfl ?_
  refine Ex_aload_n dX2_latestAnswered_8 rfl 0 rfl ?_
  refine Ex_bnR (Inv_V (L_X2_members hG a0) (lw_V q974 q975 q976 q50 q977) oe_2 ⟨rfl, hm_X2_members⟩ (by decide) (by decide) dX2_latestAnswered_9 rfl (Nat.le_of_ble_eq_true rfl)) (fun r32 => ?_)
  refine Ex_astore_n (lv' := [(0, .ref a0), (1, .int r31), (2, .ref r32)]) dX2_latestAnswered_12 rfl (by decide) [1, 2, 0] rfl ?_
  refine Ex_lp (γ := Int32) (pj := 13) (fun v33 => [(0, .ref a0), (1, .int v33), (2, .ref r32)]) (fun v33 => []) (fun j34 hj34 v33 => ?_) r31 rfl rfl
  refine Ex_iload_n dX2_latestAnswered_13 rfl 1 rfl ?_
  refine Ex_jn (γ := Unit) (pj := 35) (fun v35 => [(1, .int v33)]) (fun v35 => []) (fun v35 => ?_) (fun j36 hj36 => ?_)
  · refine Ex_iload_n dX2_latestAnswered_35 rfl 0 rfl ?_
    exact Ex_ireturn dX2_latestAnswered_36 rfl
  · refine Ex_if_le (tgt := 35) dX2_latestAnswered_14 (by decide) ?_ ?_
    · refine Ex_lv [1] (lv' := [(1, .int v33)]) rfl ?_
      exact hj36 ()
    · refine Ex_aload_n dX2_latestAnswered_17 rfl 2 rfl ?_
      refine Ex_aload_n dX2_latestAnswered_18 rfl 0 rfl ?_
      refine Ex_iload_n dX2_latestAnswered_19 rfl 1 rfl ?_
      refine Ex_bnI (Inv_V (L_X2_setOf hG a0 v33) (lw_V q1131 q1133 qs15 q50 q1134) oe_2 ⟨rfl, hm_X2_setOf⟩ (by decide) (by decide) dX2_latestAnswered_20 rfl (Nat.le_of_ble_eq_true rfl)) (fun r37 => ?_)
      refine Ex_bnI (Inv_V (L_X3_isMajority hG r32 r37) (lw_V q1135 q1136 q1137 q51 q1138) oe_3 ⟨rfl, hm_X3_isMajority⟩ (by decide) (by decide) dX2_latestAnswered_23 rfl (Nat.le_of_ble_eq_true rfl)) (fun r38 => ?_)
      refine Ex_if_ne (tgt := 35) dX2_latestAnswered_26 (by decide) ?_ ?_
      · refine Ex_lv [1] (lv' := [(1, .int v33)]) rfl ?_
        exact hj36 ()
      · refine Ex_iinc (j := 1) (lv' := [(0, .ref a0), (1, .int (v33 + (-1))), (2, .ref r32)]) dX2_latestAnswered_29 rfl rfl (by decide) [1, 0, 2] rfl ?_
        refine Ex_goto (tgt := 13) dX2_latestAnswered_32 (by decide) ?_
        exact hj34 (v33 + (-1))
-- QuorumAlmanac$Node.readyReads()V
def m_X2_readyReads (a0 : Nat) : Ms Unit :=
  gI [2] 6 a0 fun x60 =>
  jn (fun (v61 : Int32) =>
      gR [2] 115 a0 fun x63 =>
      gR [1] 106 x63 fun x64 =>
      bn (ko [22] x64 (m_J2_iterator x64)) fun r65 =>
      lp (fun j67 (v66 : Unit) =>
          bn (ko [23] r65 (m_J17_hasNext r65)) fun r68 =>
          if r68 = 0 then
            rt ()
          else
            bn (ko [23] r65 (m_J17_next r65)) fun r69 =>
            ko [13] r69 <|
            gI [13] 41 r69 fun x70 =>
            gI [2] 4 a0 fun x71 =>
            jn (fun (v72 : Unit) =>
                j67 ())
              fun j73 =>
              if ¬ x70 = x71 then
                j73 ()
              else
                gI [13] 46 r69 fun x74 =>
                if ¬ x74 = 119 then
                  j73 ()
                else
                  gI [13] 43 r69 fun x75 =>
                  if v61 < x75 then
                    j73 ()
                  else
                    pV [13] 46 r69 (.int 114) <|
                    gR [2] 110 a0 fun x76 =>
                    gR [4] 116 x76 fun x77 =>
                    gI [13] 44 r69 fun x78 =>
                    aI 30 x77 x78 fun x79 =>
                    pV [13] 47 r69 (.int x79) <|
                    gR [2] 115 a0 fun x80 =>
                    gR [2] 115 a0 fun x81 =>
                    gI [1] 3 x81 fun x82 =>
                    jn (fun (v83 : Int32 × Nat) =>
                        ck (v83.1 = 0 ∨ v83.1 = 1) <|
                        pV [1] 3 v83.2 (.int v83.1) <|
                        j73 ())
                      fun j84 =>
                      jn (fun (v85 : Nat) =>
                          j84 (0, v85))
                        fun j86 =>
                        if x82 = 0 then
                          j86 x80
                        else
                          gI [13] 45 r69 fun x87 =>
                          gI [2] 13 a0 fun x88 =>
                          if x88 < x87 then
                            j86 x80
                          else
                            j84 (1, x80))
        ())
    fun j62 =>
    if ¬ x60 = 108 then
      j62 0
    else
      bn (ko [2] a0 (m_X2_latestAnswered a0)) fun r89 =>
      j62 r89
theorem hm_X2_readyReads : (yX2_readyReads.cls ≠ "java/lang/invoke/MethodHandle" ∧ yX2_readyReads.cls ≠ "java/lang/invoke/VarHandle" ∧ (parseMethodDescriptor yX2_readyReads.desc).map (fun d => d.parameters.length) = some 0) := by decide +kernel
set_option maxHeartbeats 4000000 in
set_option maxRecDepth 100000 in
theorem L_X2_readyReads {G : GT} (hG : GOK G) (a0 : Nat) : Cal G yX2_readyReads (ws_ yX2_readyReads cX2_readyReads 4 (Option.none : Option Jvm.ClassFile.FieldType)) 8 189 [.ref a0] rU (m_X2_readyReads a0) := by
  refine Cal_of hG (by decide +kernel) (Nat.le_of_ble_eq_true rfl) (lv0 := [(0, .ref a0)]) rfl (fun X σ0 => ?_)
  delta m_X2_readyReads
  refine Ex_aload_n dX2_readyReads_0 rfl 0 rfl ?_
  refine Ex_gI dX2_readyReads_1 lk_X2_19 rfl (fun x60 => ?_)
  refine Ex_bipush (v := 108) dX2_readyReads_4 (by decide) ?_
  refine Ex_jn (γ := Int32) (pj := 17) (fun v61 => [(0, .ref a0)]) (fun v61 => [.int v61]) (fun v61 => ?_) (fun j62 hj62 => ?_)
  · refine Ex_istore_n (lv' := [(0, .ref a0), (1, .int v61)]) dX2_readyReads_17 rfl (by decide) [1, 0] rfl ?_
    refine Ex_aload_n dX2_readyReads_18 rfl 0 rfl ?_
    refine Ex_gR dX2_readyReads_19 lk_X2_3 rfl (fun x63 => ?_)
    refine Ex_gR dX2_readyReads_22 lk_X2_154 rfl (fun x64 => ?_)
    refine Ex_bnR (Inv_V (L_J2_iterator hG x64) (lw_V q1148 q1149 q1150 q48 q1151) oe_22 ⟨rfl, hm_J2_iterator⟩ (by decide) (by decide) dX2_readyReads_25 rfl (Nat.le_of_ble_eq_true rfl)) (fun r65 => ?_)
    refine Ex_astore_n (lv' := [(0, .ref a0), (1, .int v61), (2, .ref r65)]) dX2_readyReads_28 rfl (by decide) [1, 2, 0] rfl ?_
    refine Ex_lp (γ := Unit) (pj := 29) (fun v66 => [(0, .ref a0), (1, .int v61), (2, .ref r65)]) (fun v66 => []) (fun j67 hj67 v66 => ?_) () rfl rfl
    refine Ex_aload_n dX2_readyReads_29 rfl 2 rfl ?_
    refine Ex_bnI (Inv_F (L_J17_hasNext hG r65) (lw_F q1172 q1176 q1178 q77 q1180) q1174 q1173 q1179 q1177 q1175 oe_23 hx_Iterator_hasNext (by decide) (by decide) dX2_readyReads_30 rfl (Nat.le_of_ble_eq_true rfl)) (fun r68 => ?_)
    refine Ex_if_eq (tgt := 134) dX2_readyReads_35 (by decide) ?_ ?_
    · exact Ex_vreturn dX2_readyReads_134 rfl
    · refine Ex_aload_n dX2_readyReads_38 rfl 2 rfl ?_
      refine Ex_bnR (Inv_F (L_J17_next hG r65) (lw_F q1182 q1185 q1187 q77 q1189) q1184 q1183 q1188 q1186 q1175 oe_23 hx_Iterator_next (by decide) (by decide) dX2_readyReads_39 rfl (Nat.le_of_ble_eq_true rfl)) (fun r69 => ?_)
      refine Ex_ko dX2_readyReads_44 q1209 oc_QuorumAlmanac_Read_13 ?_
      refine Ex_astore_n (lv' := [(0, .ref a0), (1, .int v61), (2, .ref r65), (3, .ref r69)]) dX2_readyReads_47 rfl (by decide) [1, 2, 3, 0] rfl ?_
      refine Ex_aload_n dX2_readyReads_48 rfl 3 rfl ?_
      refine Ex_gI dX2_readyReads_49 lk_X2_171 rfl (fun x70 => ?_)
      refine Ex_aload_n dX2_readyReads_52 rfl 0 rfl ?_
      refine Ex_gI dX2_readyReads_53 lk_X2_60 rfl (fun x71 => ?_)
      refine Ex_jn (γ := Unit) (pj := 131) (fun v72 => [(0, .ref a0), (1, .int v61), (2, .ref r65)]) (fun v72 => []) (fun v72 => ?_) (fun j73 hj73 => ?_)
      · refine Ex_goto (tgt := 29) dX2_readyReads_131 (by decide) ?_
        exact hj67 ()
      · refine Ex_icmp_ne (tgt := 131) dX2_readyReads_56 (by decide) ?_ ?_
        · refine Ex_lv [0, 1, 2] (lv' := [(0, .ref a0), (1, .int v61), (2, .ref r65)]) rfl ?_
          exact hj73 ()
        · refine Ex_aload_n dX2_readyReads_59 rfl 3 rfl ?_
          refine Ex_gI dX2_readyReads_60 lk_X2_174 rfl (fun x74 => ?_)
          refine Ex_bipush (v := 119) dX2_readyReads_63 (by decide) ?_
          refine Ex_icmp_ne (tgt := 131) dX2_readyReads_65 (by decide) ?_ ?_
          · refine Ex_lv [0, 1, 2] (lv' := [(0, .ref a0), (1, .int v61), (2, .ref r65)]) rfl ?_
            exact hj73 ()
          · refine Ex_aload_n dX2_readyReads_68 rfl 3 rfl ?_
            refine Ex_gI dX2_readyReads_69 lk_X2_378 rfl (fun x75 => ?_)
            refine Ex_iload_n dX2_readyReads_72 rfl 1 rfl ?_
            refine Ex_icmp_gt (tgt := 131) dX2_readyReads_73 (by decide) ?_ ?_
            · refine Ex_lv [0, 1, 2] (lv' := [(0, .ref a0), (1, .int v61), (2, .ref r65)]) rfl ?_
              exact hj73 ()
            · refine Ex_aload_n dX2_readyReads_76 rfl 3 rfl ?_
              refine Ex_bipush (v := 114) dX2_readyReads_77 (by decide) ?_
              refine Ex_pV dX2_readyReads_79 lk_X2_174 rfl rfl rfl rfl ?_
              refine Ex_aload_n dX2_readyReads_82 rfl 3 rfl ?_
              refine Ex_aload_n dX2_readyReads_83 rfl 0 rfl ?_
              refine Ex_gR dX2_readyReads_84 lk_X2_40 rfl (fun x76 => ?_)
              refine Ex_gR dX2_readyReads_87 lk_X2_379 rfl (fun x77 => ?_)
              refine Ex_aload_n dX2_readyReads_90 rfl 3 rfl ?_
              refine Ex_gI dX2_readyReads_91 lk_X2_382 rfl (fun x78 => ?_)
              refine Ex_aI_i dX2_readyReads_94 (fun x79 => ?_)
              refine Ex_pV dX2_readyReads_95 lk_X2_385 rfl rfl rfl rfl ?_
              refine Ex_aload_n dX2_readyReads_98 rfl 0 rfl ?_
              refine Ex_gR dX2_readyReads_99 lk_X2_3 rfl (fun x80 => ?_)
              refine Ex_aload_n dX2_readyReads_102 rfl 0 rfl ?_
              refine Ex_gR dX2_readyReads_103 lk_X2_3 rfl (fun x81 => ?_)
              refine Ex_gI dX2_readyReads_106 lk_X2_388 rfl (fun x82 => ?_)
              refine Ex_jn (γ := Int32 × Nat) (pj := 128) (fun v83 => [(0, .ref a0), (1, .int v61), (2, .ref r65)]) (fun v83 => [.int v83.1, .ref v83.2]) (fun v83 => ?_) (fun j84 hj84 => ?_)
              · refine Ex_ck (fun hz => ?_)
                refine Ex_pV dX2_readyReads_128 lk_X2_388 rfl rfl (zok_n hz) (zok_f hz) ?_
                exact hj73 ()
              · refine Ex_jn (γ := Nat) (pj := 127) (fun v85 => [(0, .ref a0), (1, .int v61), (2, .ref r65)]) (fun v85 => [.ref v85]) (fun v85 => ?_) (fun j86 hj86 => ?_)
                · refine Ex_iconst (v := 0) dX2_readyReads_127 (by decide) ?_
                  exact hj84 (0, v85)
                · refine Ex_if_eq (tgt := 127) dX2_readyReads_109 (by decide) ?_ ?_
                  · refine Ex_lv [0, 1, 2] (lv' := [(0, .ref a0), (1, .int v61), (2, .ref r65)]) rfl ?_
                    exact hj86 x80
                  · refine Ex_aload_n dX2_readyReads_112 rfl 3 rfl ?_
                    refine Ex_gI dX2_readyReads_113 lk_X2_391 rfl (fun x87 => ?_)
                    refine Ex_aload_n dX2_readyReads_116 rfl 0 rfl ?_
                    refine Ex_gI dX2_readyReads_117 lk_X2_114 rfl (fun x88 => ?_)
                    refine Ex_icmp_gt (tgt := 127) dX2_readyReads_120 (by decide) ?_ ?_
                    · refine Ex_lv [0, 1, 2] (lv' := [(0, .ref a0), (1, .int v61), (2, .ref r65)]) rfl ?_
                      exact hj86 x80
                    · refine Ex_iconst (v := 1) dX2_readyReads_123 (by decide) ?_
                      refine Ex_goto (tgt := 128) dX2_readyReads_124 (by decide) ?_
                      refine Ex_lv [0, 1, 2] (lv' := [(0, .ref a0), (1, .int v61), (2, .ref r65)]) rfl ?_
                      exact hj84 (1, x80)
  · refine Ex_icmp_ne (tgt := 16) dX2_readyReads_6 (by decide) ?_ ?_
    · refine Ex_iconst (v := 0) dX2_readyReads_16 (by decide) ?_
      exact hj62 0
    · refine Ex_aload_n dX2_readyReads_9 rfl 0 rfl ?_
      refine Ex_bnI (Inv_V (L_X2_latestAnswered hG a0) (lw_V q1127 q1129 qs14 q50 q1130) oe_2 ⟨rfl, hm_X2_latestAnswered⟩ (by decide) (by decide) dX2_readyReads_10 rfl (Nat.le_of_ble_eq_true rfl)) (fun r89 => ?_)
      refine Ex_goto (tgt := 17) dX2_readyReads_13 (by decide) ?_
      exact hj62 r89
-- java/util/AbstractCollection.<init>()V
def m_J0_init (a0 : Nat) : Ms Unit :=
  rt ()
theorem hm_J0_init : (yJ0_init.cls ≠ "java/lang/invoke/MethodHandle" ∧ yJ0_init.cls ≠ "java/lang/invoke/VarHandle" ∧ (parseMethodDescriptor yJ0_init.desc).map (fun d => d.parameters.length) = some 0) := by decide +kernel
set_option maxHeartbeats 4000000 in
set_option maxRecDepth 100000 in
theorem L_J0_init {G : GT} (hG : GOK G) (a0 : Nat) : Cal G yJ0_init (ws_ yJ0_init cJ0_init 1 (Option.none : Option Jvm.ClassFile.FieldType)) 2 60 [.ref a0] rU (m_J0_init a0) := by
  refine Cal_of hG (by decide +kernel) (Nat.le_of_ble_eq_true rfl) (lv0 := [(0, .ref a0)]) rfl (fun X σ0 => ?_)
  delta m_J0_init
  refine Ex_aload_n dJ0_init_0 rfl 0 rfl ?_
  refine Ex_objInit dJ0_init_1 q130 q103 q104 (by decide) (Nat.le_of_ble_eq_true rfl) ?_
  exact Ex_vreturn dJ0_init_4 rfl
-- java/util/AbstractList.<init>()V
def m_J1_init (a0 : Nat) : Ms Unit :=
  bn (m_J0_init a0) fun _ =>
  pV [22] 92 a0 (.int 0) <|
  rt ()
theorem hm_J1_init : (yJ1_init.cls ≠ "java/lang/invoke/MethodHandle" ∧ yJ1_init.cls ≠ "java/lang/invoke/VarHandle" ∧ (parseMethodDescriptor yJ1_init.desc).map (fun d => d.parameters.length) = some 0) := by decide +kernel
set_option maxHeartbeats 4000000 in
set_option maxRecDepth 100000 in
theorem L_J1_init {G : GT} (hG : GOK G) (a0 : Nat) : Cal G yJ1_init (ws_ yJ1_init cJ1_init 1 (Option.none : Option Jvm.ClassFile.FieldType)) 3 80 [.ref a0] rU (m_J1_init a0) := by
  refine Cal_of hG (by decide +kernel) (Nat.le_of_ble_eq_true rfl) (lv0 := [(0, .ref a0)]) rfl (fun X σ0 => ?_)
  delta m_J1_init
  refine Ex_aload_n dJ1_init_0 rfl 0 rfl ?_
  refine Ex_bnU (Inv_I (L_J0_init hG a0) q46 q127 q128 q129 rfl hm_J0_init (by decide) (by decide) dJ1_init_1 rfl (Nat.le_of_ble_eq_true rfl)) (fun _ => ?_)
  refine Ex_aload_n dJ1_init_4 rfl 0 rfl ?_
  refine Ex_iconst (v := 0) dJ1_init_5 (by decide) ?_
  refine Ex_pV dJ1_init_6 lk_J1_7 rfl rfl rfl rfl ?_
  exact Ex_vreturn dJ1_init_9 rfl
-- java/util/ArrayList.<init>()V
def m_J2_init (a0 : Nat) : Ms Unit :=
  bn (m_J1_init a0) fun _ =>
  gsR 0 fun x22 =>
  pV [22] 145 a0 (.ref x22) <|
  rt ()
theorem hm_J2_init : (yJ2_init.cls ≠ "java/lang/invoke/MethodHandle" ∧ yJ2_init.cls ≠ "java/lang/invoke/VarHandle" ∧ (parseMethodDescriptor yJ2_init.desc).map (fun d => d.parameters.length) = some 0) := by decide +kernel
set_option maxHeartbeats 4000000 in
set_option maxRecDepth 100000 in
theorem L_J2_init {G : GT} (hG : GOK G) (a0 : Nat) : Cal G yJ2_init (ws_ yJ2_init cJ2_init 1 (Option.none : Option Jvm.ClassFile.FieldType)) 4 100 [.ref a0] rU (m_J2_init a0) := by
  refine Cal_of hG (by decide +kernel) (Nat.le_of_ble_eq_true rfl) (lv0 := [(0, .ref a0)]) rfl (fun X σ0 => ?_)
  delta m_J2_init
  refine Ex_aload_n dJ2_init_0 rfl 0 rfl ?_
  refine Ex_bnU (Inv_I (L_J1_init hG a0) q47 q124 q125 q126 rfl hm_J1_init (by decide) (by decide) dJ2_init_1 rfl (Nat.le_of_ble_eq_true rfl)) (fun _ => ?_)
  refine Ex_aload_n dJ2_init_4 rfl 0 rfl ?_
  refine Ex_gsR (j := 0) rfl dJ2_init_5 q131 (Or.inl rfl) (fun x22 => ?_)
  refine Ex_pV dJ2_init_8 lk_J2_9 rfl rfl rfl rfl ?_
  exact Ex_vreturn dJ2_init_11 rfl
-- QuorumAlmanac.nextMessage()I
def m_X1_nextMessage (a0 : Nat) : Ms Int32 :=
  gI [1] 0 a0 fun x24 =>
  gI [1] 0 a0 fun x25 =>
  pV [1] 0 a0 (.int (x25 + 1)) <|
  rt x24
theorem hm_X1_nextMessage : (yX1_nextMessage.cls ≠ "java/lang/invoke/MethodHandle" ∧ yX1_nextMessage.cls ≠ "java/lang/invoke/VarHandle" ∧ (parseMethodDescriptor yX1_nextMessage.desc).map (fun d => d.parameters.length) = some 0) := by decide +kernel
set_option maxHeartbeats 4000000 in
set_option maxRecDepth 100000 in
theorem L_X1_nextMessage {G : GT} (hG : GOK G) (a0 : Nat) : Cal G yX1_nextMessage (ws_ yX1_nextMessage cX1_nextMessage 2 (Option.some Jvm.ClassFile.FieldType.int)) 2 60 [.ref a0] rI (m_X1_nextMessage a0) := by
  refine Cal_of hG (by decide +kernel) (Nat.le_of_ble_eq_true rfl) (lv0 := [(0, .ref a0)]) rfl (fun X σ0 => ?_)
  delta m_X1_nextMessage
  refine Ex_aload_n dX1_nextMessage_0 rfl 0 rfl ?_
  refine Ex_gI dX1_nextMessage_1 lk_X1_94 rfl (fun x24 => ?_)
  refine Ex_istore_n (lv' := [(0, .ref a0), (1, .int x24)]) dX1_nextMessage_4 rfl (by decide) [1, 0] rfl ?_
  refine Ex_aload_n dX1_nextMessage_5 rfl 0 rfl ?_
  refine Ex_dup rfl dX1_nextMessage_6 ?_
  refine Ex_gI dX1_nextMessage_7 lk_X1_94 rfl (fun x25 => ?_)
  refine Ex_iconst (v := 1) dX1_nextMessage_10 (by decide) ?_
  refine Ex_iadd dX1_nextMessage_11 ?_
  refine Ex_pV dX1_nextMessage_12 lk_X1_94 rfl rfl rfl rfl ?_
  refine Ex_iload_n dX1_nextMessage_15 rfl 1 rfl ?_
  exact Ex_ireturn dX1_nextMessage_16 rfl
-- QuorumAlmanac$Node.termAt(I)I
def m_X2_termAt (a0 : Nat) (x1 : Int32) : Ms Int32 :=
  gR [2] 108 a0 fun x32 =>
  gI [5] 20 x32 fun x33 =>
  jn (fun (v34 : Int32) =>
      rt v34)
    fun j35 =>
    if ¬ x1 = x33 then
      bn (ko [2] a0 (m_X2_entry a0 x1)) fun r36 =>
      gI [9] 32 r36 fun x37 =>
      j35 x37
    else
      gR [2] 108 a0 fun x38 =>
      gI [5] 21 x38 fun x39 =>
      j35 x39
theorem hm_X2_termAt : (yX2_termAt.cls ≠ "java/lang/invoke/MethodHandle" ∧ yX2_termAt.cls ≠ "java/lang/invoke/VarHandle" ∧ (parseMethodDescriptor yX2_termAt.desc).map (fun d => d.parameters.length) = some 1) := by decide +kernel
set_option maxHeartbeats 4000000 in
set_option maxRecDepth 100000 in
theorem L_X2_termAt {G : GT} (hG : GOK G) (a0 : Nat) (x1 : Int32) : Cal G yX2_termAt (ws_ yX2_termAt cX2_termAt 2 (Option.some Jvm.ClassFile.FieldType.int)) 6 145 [.ref a0, .int x1] rI (m_X2_termAt a0 x1) := by
  refine Cal_of hG (by decide +kernel) (Nat.le_of_ble_eq_true rfl) (lv0 := [(0, .ref a0), (1, .int x1)]) rfl (fun X σ0 => ?_)
  delta m_X2_termAt
  refine Ex_iload_n dX2_termAt_0 rfl 1 rfl ?_
  refine Ex_aload_n dX2_termAt_1 rfl 0 rfl ?_
  refine Ex_gR dX2_termAt_2 lk_X2_68 rfl (fun x32 => ?_)
  refine Ex_gI dX2_termAt_5 lk_X2_72 rfl (fun x33 => ?_)
  refine Ex_jn (γ := Int32) (pj := 29) (fun v34 => []) (fun v34 => [.int v34]) (fun v34 => ?_) (fun j35 hj35 => ?_)
  · exact Ex_ireturn dX2_termAt_29 rfl
  · refine Ex_icmp_ne (tgt := 21) dX2_termAt_8 (by decide) ?_ ?_
    · refine Ex_aload_n dX2_termAt_21 rfl 0 rfl ?_
      refine Ex_iload_n dX2_termAt_22 rfl 1 rfl ?_
      refine Ex_bnR (Inv_V (L_X2_entry hG a0 x1) (lw_V q747 q411 q412 q50 q413) oe_2 ⟨rfl, hm_X2_entry⟩ (by decide) (by decide) dX2_termAt_23 rfl (Nat.le_of_ble_eq_true rfl)) (fun r36 => ?_)
      refine Ex_gI dX2_termAt_26 lk_X2_95 rfl (fun x37 => ?_)
      refine Ex_lv [] (lv' := []) rfl ?_
      exact hj35 x37
    · refine Ex_aload_n dX2_termAt_11 rfl 0 rfl ?_
      refine Ex_gR dX2_termAt_12 lk_X2_68 rfl (fun x38 => ?_)
      refine Ex_gI dX2_termAt_15 lk_X2_88 rfl (fun x39 => ?_)
      refine Ex_goto (tgt := 29) dX2_termAt_18 (by decide) ?_
      refine Ex_lv [] (lv' := []) rfl ?_
      exact hj35 x39
-- QuorumAlmanac$Message.<init>(IIII)V
def m_X10_init (a0 : Nat) (x1 : Int32) (x2 : Int32) (x3 : Int32) (x4 : Int32) : Ms Unit :=
  pV [6, 7, 8, 10, 12] 22 a0 (.int x1) <|
  pV [6, 7, 8, 10, 12] 23 a0 (.int x2) <|
  pV [6, 7, 8, 10, 12] 24 a0 (.int x3) <|
  pV [6, 7, 8, 10, 12] 25 a0 (.int x4) <|
  rt ()
theorem hm_X10_init : (yX10_init.cls ≠ "java/lang/invoke/MethodHandle" ∧ yX10_init.cls ≠ "java/lang/invoke/VarHandle" ∧ (parseMethodDescriptor yX10_init.desc).map (fun d => d.parameters.length) = some 4) := by decide +kernel
set_option maxHeartbeats 4000000 in
set_option maxRecDepth 100000 in
theorem L_X10_init {G : GT} (hG : GOK G) (a0 : Nat) (x1 : Int32) (x2 : Int32) (x3 : Int32) (x4 : Int32) : Cal G yX10_init (ws_ yX10_init cX10_init 5 (Option.none : Option Jvm.ClassFile.FieldType)) 2 60 [.ref a0, .int x1, .int x2, .int x3, .int x4] rU (m_X10_init a0 x1 x2 x3 x4) := by
  refine Cal_of hG (by decide +kernel) (Nat.le_of_ble_eq_true rfl) (lv0 := [(0, .ref a0), (1, .int x1), (2, .int x2), (3, .int x3), (4, .int x4)]) rfl (fun X σ0 => ?_)
  delta m_X10_init
  refine Ex_aload_n dX10_init_0 rfl 0 rfl ?_
  refine Ex_objInit dX10_init_1 q1007 q103 q104 (by decide) (Nat.le_of_ble_eq_true rfl) ?_
  refine Ex_aload_n dX10_init_4 rfl 0 rfl ?_
  refine Ex_iload_n dX10_init_5 rfl 1 rfl ?_
  refine Ex_pVF dX10_init_6 lkf_X10_7 rfl rfl rfl rfl rfl rfl ?_
  refine Ex_aload_n dX10_init_9 rfl 0 rfl ?_
  refine Ex_iload_n dX10_init_10 rfl 2 rfl ?_
  refine Ex_pVF dX10_init_11 lkf_X10_13 rfl rfl rfl rfl rfl rfl ?_
  refine Ex_aload_n dX10_init_14 rfl 0 rfl ?_
  refine Ex_iload_n dX10_init_15 rfl 3 rfl ?_
  refine Ex_pVF dX10_init_16 lkf_X10_16 rfl rfl rfl rfl rfl rfl ?_
  refine Ex_aload_n dX10_init_19 rfl 0 rfl ?_
  refine Ex_iload dX10_init_20 4 rfl ?_
  refine Ex_pVF dX10_init_22 lkf_X10_19 rfl rfl rfl rfl rfl rfl ?_
  exact Ex_vreturn dX10_init_25 rfl
-- QuorumAlmanac$RoundMessage.<init>(IIIII)V
def m_X11_init (a0 : Nat) (x1 : Int32) (x2 : Int32) (x3 : Int32) (x4 : Int32) (x5 : Int32) : Ms Unit :=
  bn (m_X10_init a0 x1 x2 x3 x4) fun _ =>
  pV [6, 7, 10] 26 a0 (.int x5) <|
  rt ()
theorem hm_X11_init : (yX11_init.cls ≠ "java/lang/invoke/MethodHandle" ∧ yX11_init.cls ≠ "java/lang/invoke/VarHandle" ∧ (parseMethodDescriptor yX11_init.desc).map (fun d => d.parameters.length) = some 5) := by decide +kernel
set_option maxHeartbeats 4000000 in
set_option maxRecDepth 100000 in
theorem L_X11_init {G : GT} (hG : GOK G) (a0 : Nat) (x1 : Int32) (x2 : Int32) (x3 : Int32) (x4 : Int32) (x5 : Int32) : Cal G yX11_init (ws_ yX11_init cX11_init 6 (Option.none : Option Jvm.ClassFile.FieldType)) 3 84 [.ref a0, .int x1, .int x2, .int x3, .int x4, .int x5] rU (m_X11_init a0 x1 x2 x3 x4 x5) := by
  refine Cal_of hG (by decide +kernel) (Nat.le_of_ble_eq_true rfl) (lv0 := [(0, .ref a0), (1, .int x1), (2, .int x2), (3, .int x3), (4, .int x4), (5, .int x5)]) rfl (fun X σ0 => ?_)
  delta m_X11_init
  refine Ex_aload_n dX11_init_0 rfl 0 rfl ?_
  refine Ex_iload_n dX11_init_1 rfl 1 rfl ?_
  refine Ex_iload_n dX11_init_2 rfl 2 rfl ?_
  refine Ex_iload_n dX11_init_3 rfl 3 rfl ?_
  refine Ex_iload dX11_init_4 4 rfl ?_
  refine Ex_bnU (Inv_I (L_X10_init hG a0 x1 x2 x3 x4) q73 q1004 q1005 q1006 rfl hm_X10_init (by decide) (by decide) dX11_init_6 rfl (Nat.le_of_ble_eq_true rfl)) (fun _ => ?_)
  refine Ex_aload_n dX11_init_9 rfl 0 rfl ?_
  refine Ex_iload dX11_init_10 5 rfl ?_
  refine Ex_pVF dX11_init_12 lkf_X11_7 rfl rfl rfl rfl rfl rfl ?_
  exact Ex_vreturn dX11_init_15 rfl
-- QuorumAlmanac$Append.<init>(IIIIIIILjava/util/ArrayList;I)V
def m_X13_init (a0 : Nat) (x1 : Int32) (x2 : Int32) (x3 : Int32) (x4 : Int32) (x5 : Int32) (x6 : Int32) (x7 : Int32) (a8 : Nat) (x9 : Int32) : Ms Unit :=
  bn (m_X11_init a0 x1 x2 x3 x4 x5) fun _ =>
  pV [7] 27 a0 (.int x6) <|
  pV [7] 28 a0 (.int x7) <|
  pV [7] 122 a0 (.ref a8) <|
  pV [7] 29 a0 (.int x9) <|
  rt ()
theorem hm_X13_init : (yX13_init.cls ≠ "java/lang/invoke/MethodHandle" ∧ yX13_init.cls ≠ "java/lang/invoke/VarHandle" ∧ (parseMethodDescriptor yX13_init.desc).map (fun d => d.parameters.length) = some 9) := by decide +kernel
set_option maxHeartbeats 4000000 in
set_option maxRecDepth 100000 in
theorem L_X13_init {G : GT} (hG : GOK G) (a0 : Nat) (x1 : Int32) (x2 : Int32) (x3 : Int32) (x4 : Int32) (x5 : Int32) (x6 : Int32) (x7 : Int32) (a8 : Nat) (x9 : Int32) : Cal G yX13_init (ws_ yX13_init cX13_init 10 (Option.none : Option Jvm.ClassFile.FieldType)) 4 109 [.ref a0, .int x1, .int x2, .int x3, .int x4, .int x5, .int x6, .int x7, .ref a8, .int x9] rU (m_X13_init a0 x1 x2 x3 x4 x5 x6 x7 a8 x9) := by
  refine Cal_of hG (by decide +kernel) (Nat.le_of_ble_eq_true rfl) (lv0 := [(0, .ref a0), (1, .int x1), (2, .int x2), (3, .int x3), (4, .int x4), (5, .int x5), (6, .int x6), (7, .int x7), (8, .ref a8), (9, .int x9)]) rfl (fun X σ0 => ?_)
  delta m_X13_init
  refine Ex_aload_n dX13_init_0 rfl 0 rfl ?_
  refine Ex_iload_n dX13_init_1 rfl 1 rfl ?_
  refine Ex_iload_n dX13_init_2 rfl 2 rfl ?_
  refine Ex_iload_n dX13_init_3 rfl 3 rfl ?_
  refine Ex_iload dX13_init_4 4 rfl ?_
  refine Ex_iload dX13_init_6 5 rfl ?_
  refine Ex_bnU (Inv_I (L_X11_init hG a0 x1 x2 x3 x4 x5) q74 q1100 q1002 q1003 rfl hm_X11_init (by decide) (by decide) dX13_init_8 rfl (Nat.le_of_ble_eq_true rfl)) (fun _ => ?_)
  refine Ex_aload_n dX13_init_11 rfl 0 rfl ?_
  refine Ex_iload dX13_init_12 6 rfl ?_
  refine Ex_pVF dX13_init_14 lkf_X13_7 rfl rfl rfl rfl rfl rfl ?_
  refine Ex_aload_n dX13_init_17 rfl 0 rfl ?_
  refine Ex_iload dX13_init_18 7 rfl ?_
  refine Ex_pVF dX13_init_20 lkf_X13_13 rfl rfl rfl rfl rfl rfl ?_
  refine Ex_aload_n dX13_init_23 rfl 0 rfl ?_
  refine Ex_aload dX13_init_24 8 rfl ?_
  refine Ex_pVF dX13_init_26 lkf_X13_16 rfl rfl rfl rfl rfl rfl ?_
  refine Ex_aload_n dX13_init_29 rfl 0 rfl ?_
  refine Ex_iload dX13_init_30 9 rfl ?_
  refine Ex_pVF dX13_init_32 lkf_X13_20 rfl rfl rfl rfl rfl rfl ?_
  exact Ex_vreturn dX13_init_35 rfl
-- java/util/ArrayList.fastRemove([Ljava/lang/Object;I)V
def m_J2_fastRemove (a0 : Nat) (a1 : Nat) (x2 : Int32) : Ms Unit :=
  gI [22] 92 a0 fun x24 =>
  pV [22] 92 a0 (.int (x24 + 1)) <|
  gI [22] 93 a0 fun x25 =>
  jn (fun (v26 : Unit) =>
      pV [22] 93 a0 (.int (x25 - 1)) <|
      sV 32 a1 (x25 - 1) .null <|
      rt ())
    fun j27 =>
    if (x25 - 1) ≤ x2 then
      j27 ()
    else
      cpA [6, 7, 8, 9, 10, 12, 13, 19, 20, 21, 24] a1 (x2 + 1) a1 x2 ((x25 - 1) - x2) <|
      j27 ()
theorem hm_J2_fastRemove : (yJ2_fastRemove.cls ≠ "java/lang/invoke/MethodHandle" ∧ yJ2_fastRemove.cls ≠ "java/lang/invoke/VarHandle" ∧ (parseMethodDescriptor yJ2_fastRemove.desc).map (fun d => d.parameters.length) = some 2) := by decide +kernel
set_option maxHeartbeats 4000000 in
set_option maxRecDepth 100000 in
theorem L_J2_fastRemove {G : GT} (hG : GOK G) (a0 : Nat) (a1 : Nat) (x2 : Int32) : Cal G yJ2_fastRemove (ws_ yJ2_fastRemove cJ2_fastRemove 4 (Option.none : Option Jvm.ClassFile.FieldType)) 2 60 [.ref a0, .ref a1, .int x2] rU (m_J2_fastRemove a0 a1 x2) := by
  refine Cal_of hG (by decide +kernel) (Nat.le_of_ble_eq_true rfl) (lv0 := [(0, .ref a0), (1, .ref a1), (2, .int x2)]) rfl (fun X σ0 => ?_)
  delta m_J2_fastRemove
  refine Ex_aload_n dJ2_fastRemove_0 rfl 0 rfl ?_
  refine Ex_dup rfl dJ2_fastRemove_1 ?_
  refine Ex_gI dJ2_fastRemove_2 lk_J2_63 rfl (fun x24 => ?_)
  refine Ex_iconst (v := 1) dJ2_fastRemove_5 (by decide) ?_
  refine Ex_iadd dJ2_fastRemove_6 ?_
  refine Ex_pV dJ2_fastRemove_7 lk_J2_63 rfl rfl rfl rfl ?_
  refine Ex_aload_n dJ2_fastRemove_10 rfl 0 rfl ?_
  refine Ex_gI dJ2_fastRemove_11 lk_J2_48 rfl (fun x25 => ?_)
  refine Ex_iconst (v := 1) dJ2_fastRemove_14 (by decide) ?_
  refine Ex_isub dJ2_fastRemove_15 ?_
  refine Ex_dup rfl dJ2_fastRemove_16 ?_
  refine Ex_istore_n (lv' := [(0, .ref a0), (1, .ref a1), (2, .int x2), (3, .int (x25 - 1))]) dJ2_fastRemove_17 rfl (by decide) [1, 2, 3, 0] rfl ?_
  refine Ex_iload_n dJ2_fastRemove_18 rfl 2 rfl ?_
  refine Ex_jn (γ := Unit) (pj := 34) (fun v26 => [(0, .ref a0), (1, .ref a1), (3, .int (x25 - 1))]) (fun v26 => []) (fun v26 => ?_) (fun j27 hj27 => ?_)
  · refine Ex_aload_n dJ2_fastRemove_34 rfl 1 rfl ?_
    refine Ex_aload_n dJ2_fastRemove_35 rfl 0 rfl ?_
    refine Ex_iload_n dJ2_fastRemove_36 rfl 2 rfl ?_
    refine Ex_dup_x1 rfl rfl dJ2_fastRemove_37 ?_
    refine Ex_pV dJ2_fastRemove_38 lk_J2_48 rfl rfl rfl rfl ?_
    refine Ex_null dJ2_fastRemove_41 ?_
    refine Ex_sN (j := 2) (C := "java/lang/Object") rfl dJ2_fastRemove_42 ?_
    exact Ex_vreturn dJ2_fastRemove_43 rfl
  · refine Ex_icmp_le (tgt := 34) dJ2_fastRemove_19 (by decide) ?_ ?_
    · refine Ex_lv [0, 1, 3] (lv' := [(0, .ref a0), (1, .ref a1), (3, .int (x25 - 1))]) rfl ?_
      exact hj27 ()
    · refine Ex_aload_n dJ2_fastRemove_22 rfl 1 rfl ?_
      refine Ex_iload_n dJ2_fastRemove_23 rfl 2 rfl ?_
      refine Ex_iconst (v := 1) dJ2_fastRemove_24 (by decide) ?_
      refine Ex_iadd dJ2_fastRemove_25 ?_
      refine Ex_aload_n dJ2_fastRemove_26 rfl 1 rfl ?_
      refine Ex_iload_n dJ2_fastRemove_27 rfl 2 rfl ?_
      refine Ex_iload_n dJ2_fastRemove_28 rfl 3 rfl ?_
      refine Ex_iload_n dJ2_fastRemove_29 rfl 2 rfl ?_
      refine Ex_isub dJ2_fastRemove_30 ?_
      refine Ex_cpA oc_java_lang_Object_6_7_8_9_10_12_13_19_20_21_24 dJ2_fastRemove_31 q1093 q971 q970 q72 (by decide) (Nat.le_of_ble_eq_true rfl) ?_
      refine Ex_lv [0, 1, 3] (lv' := [(0, .ref a0), (1, .ref a1), (3, .int (x25 - 1))]) rfl ?_
      exact hj27 ()
-- java/util/ArrayList.remove(I)Ljava/lang/Object;
def m_J2_remove (a0 : Nat) (x1 : Int32) : Ms Nat :=
  gI [22] 93 a0 fun x28 =>
  bn (m_J11_checkIndex x1 x28) fun r29 =>
  gR [22] 145 a0 fun x30 =>
  aR 32 x30 x1 fun x31 =>
  bn (ko [22] a0 (m_J2_fastRemove a0 x30 x1)) fun _ =>
  rt x31
theorem hm_J2_remove : (yJ2_remove.cls ≠ "java/lang/invoke/MethodHandle" ∧ yJ2_remove.cls ≠ "java/lang/invoke/VarHandle" ∧ (parseMethodDescriptor yJ2_remove.desc).map (fun d => d.parameters.length) = some 1) := by decide +kernel
set_option maxHeartbeats 4000000 in
set_option maxRecDepth 100000 in
theorem L_J2_remove {G : GT} (hG : GOK G) (a0 : Nat) (x1 : Int32) : Cal G yJ2_remove (ws_ yJ2_remove cJ2_remove 4 (Option.some (Jvm.ClassFile.FieldType.object "java/lang/Object"))) 4 103 [.ref a0, .int x1] rR (m_J2_remove a0 x1) := by
  refine Cal_of hG (by decide +kernel) (Nat.le_of_ble_eq_true rfl) (lv0 := [(0, .ref a0), (1, .int x1)]) rfl (fun X σ0 => ?_)
  delta m_J2_remove
  refine Ex_iload_n dJ2_remove_0 rfl 1 rfl ?_
  refine Ex_aload_n dJ2_remove_1 rfl 0 rfl ?_
  refine Ex_gI dJ2_remove_2 lk_J2_48 rfl (fun x28 => ?_)
  refine Ex_bnI (Inv_S (L_J11_checkIndex hG x1 x28) (lw_S q418 q419 q65 q420) hm_J11_checkIndex (by decide) (by decide) dJ2_remove_5 rfl (Nat.le_of_ble_eq_true rfl)) (fun r29 => ?_)
  refine Ex_pop rfl dJ2_remove_8 ?_
  refine Ex_aload_n dJ2_remove_9 rfl 0 rfl ?_
  refine Ex_gR dJ2_remove_10 lk_J2_9 rfl (fun x30 => ?_)
  refine Ex_astore_n (lv' := [(0, .ref a0), (1, .int x1), (2, .ref x30)]) dJ2_remove_13 rfl (by decide) [1, 2, 0] rfl ?_
  refine Ex_aload_n dJ2_remove_14 rfl 2 rfl ?_
  refine Ex_iload_n dJ2_remove_15 rfl 1 rfl ?_
  refine Ex_aR (j := 2) rfl rfl dJ2_remove_16 (fun x31 => ?_)
  refine Ex_astore_n (lv' := [(0, .ref a0), (1, .int x1), (2, .ref x30), (3, .ref x31)]) dJ2_remove_17 rfl (by decide) [1, 2, 3, 0] rfl ?_
  refine Ex_aload_n dJ2_remove_18 rfl 0 rfl ?_
  refine Ex_aload_n dJ2_remove_19 rfl 2 rfl ?_
  refine Ex_iload_n dJ2_remove_20 rfl 1 rfl ?_
  refine Ex_bnU (Inv_V (L_J2_fastRemove hG a0 x30 x1) (lw_V q1089 q1091 qs12 q48 q1092) oe_22 ⟨rfl, hm_J2_fastRemove⟩ (by decide) (by decide) dJ2_remove_21 rfl (Nat.le_of_ble_eq_true rfl)) (fun _ => ?_)
  refine Ex_aload_n dJ2_remove_24 rfl 3 rfl ?_
  exact Ex_areturn dJ2_remove_25 rfl (Or.inl ⟨_, rfl⟩)
-- QuorumAlmanac.send(LQuorumAlmanac$Message;)V
def m_X1_send (a0 : Nat) (a1 : Nat) : Ms Unit :=
  gR [1] 105 a0 fun x32 =>
  bn (ko [22] x32 (m_J2_add x32 a1)) fun r33 =>
  gR [1] 105 a0 fun x34 =>
  bn (ko [22] x34 (m_J2_size x34)) fun r35 =>
  jn (fun (v36 : Unit) =>
      rt ())
    fun j37 =>
    if r35 ≤ 60 then
      j37 ()
    else
      gR [1] 105 a0 fun x38 =>
      bn (ko [22] x38 (m_J2_remove x38 0)) fun r39 =>
      j37 ()
theorem hm_X1_send : (yX1_send.cls ≠ "java/lang/invoke/MethodHandle" ∧ yX1_send.cls ≠ "java/lang/invoke/VarHandle" ∧ (parseMethodDescriptor yX1_send.desc).map (fun d => d.parameters.length) = some 1) := by decide +kernel
set_option maxHeartbeats 4000000 in
set_option maxRecDepth 100000 in
theorem L_X1_send {G : GT} (hG : GOK G) (a0 : Nat) (a1 : Nat) : Cal G yX1_send (ws_ yX1_send cX1_send 2 (Option.none : Option Jvm.ClassFile.FieldType)) 8 191 [.ref a0, .ref a1] rU (m_X1_send a0 a1) := by
  refine Cal_of hG (by decide +kernel) (Nat.le_of_ble_eq_true rfl) (lv0 := [(0, .ref a0), (1, .ref a1)]) rfl (fun X σ0 => ?_)
  delta m_X1_send
  refine Ex_aload_n dX1_send_0 rfl 0 rfl ?_
  refine Ex_gR dX1_send_1 lk_X1_42 rfl (fun x32 => ?_)
  refine Ex_aload_n dX1_send_4 rfl 1 rfl ?_
  refine Ex_bnI (Inv_V (L_J2_add hG x32 a1) (lw_V q1084 q935 q936 q48 q937) oe_22 ⟨rfl, hm_J2_add⟩ (by decide) (by decide) dX1_send_5 rfl (Nat.le_of_ble_eq_true rfl)) (fun r33 => ?_)
  refine Ex_pop rfl dX1_send_8 ?_
  refine Ex_aload_n dX1_send_9 rfl 0 rfl ?_
  refine Ex_gR dX1_send_10 lk_X1_42 rfl (fun x34 => ?_)
  refine Ex_bnI (Inv_V (L_J2_size hG x34) (lw_V q348 q112 q113 q48 q114) oe_22 ⟨rfl, hm_J2_size⟩ (by decide) (by decide) dX1_send_13 rfl (Nat.le_of_ble_eq_true rfl)) (fun r35 => ?_)
  refine Ex_bipush (v := 60) dX1_send_16 (by decide) ?_
  refine Ex_jn (γ := Unit) (pj := 30) (fun v36 => []) (fun v36 => []) (fun v36 => ?_) (fun j37 hj37 => ?_)
  · exact Ex_vreturn dX1_send_30 rfl
  · refine Ex_icmp_le (tgt := 30) dX1_send_18 (by decide) ?_ ?_
    · refine Ex_lv [] (lv' := []) rfl ?_
      exact hj37 ()
    · refine Ex_aload_n dX1_send_21 rfl 0 rfl ?_
      refine Ex_gR dX1_send_22 lk_X1_42 rfl (fun x38 => ?_)
      refine Ex_iconst (v := 0) dX1_send_25 (by decide) ?_
      refine Ex_bnR (Inv_V (L_J2_remove hG x38 0) (lw_V q1085 q1086 q1087 q48 q1088) oe_22 ⟨rfl, hm_J2_remove⟩ (by decide) (by decide) dX1_send_26 rfl (Nat.le_of_ble_eq_true rfl)) (fun r39 => ?_)
      refine Ex_pop rfl dX1_send_29 ?_
      refine Ex_lv [] (lv' := []) rfl ?_
      exact hj37 ()
-- QuorumAlmanac$Install.<init>(IIIIILQuorumAlmanac$Snapshot;)V
def m_X12_init (a0 : Nat) (x1 : Int32) (x2 : Int32) (x3 : Int32) (x4 : Int32) (x5 : Int32) (a6 : Nat) : Ms Unit :=
  bn (m_X11_init a0 x1 x2 x3 x4 x5) fun _ =>
  pV [6] 121 a0 (.ref a6) <|
  rt ()
theorem hm_X12_init : (yX12_init.cls ≠ "java/lang/invoke/MethodHandle" ∧ yX12_init.cls ≠ "java/lang/invoke/VarHandle" ∧ (parseMethodDescriptor yX12_init.desc).map (fun d => d.parameters.length) = some 6) := by decide +kernel
set_option maxHeartbeats 4000000 in
set_option maxRecDepth 100000 in
theorem L_X12_init {G : GT} (hG : GOK G) (a0 : Nat) (x1 : Int32) (x2 : Int32) (x3 : Int32) (x4 : Int32) (x5 : Int32) (a6 : Nat) : Cal G yX12_init (ws_ yX12_init cX12_init 7 (Option.none : Option Jvm.ClassFile.FieldType)) 4 109 [.ref a0, .int x1, .int x2, .int x3, .int x4, .int x5, .ref a6] rU (m_X12_init a0 x1 x2 x3 x4 x5 a6) := by
  refine Cal_of hG (by decide +kernel) (Nat.le_of_ble_eq_true rfl) (lv0 := [(0, .ref a0), (1, .int x1), (2, .int x2), (3, .int x3), (4, .int x4), (5, .int x5), (6, .ref a6)]) rfl (fun X σ0 => ?_)
  delta m_X12_init
  refine Ex_aload_n dX12_init_0 rfl 0 rfl ?_
  refine Ex_iload_n dX12_init_1 rfl 1 rfl ?_
  refine Ex_iload_n dX12_init_2 rfl 2 rfl ?_
  refine Ex_iload_n dX12_init_3 rfl 3 rfl ?_
  refine Ex_iload dX12_init_4 4 rfl ?_
  refine Ex_iload dX12_init_6 5 rfl ?_
  refine Ex_bnU (Inv_I (L_X11_init hG a0 x1 x2 x3 x4 x5) q74 q1001 q1002 q1003 rfl hm_X11_init (by decide) (by decide) dX12_init_8 rfl (Nat.le_of_ble_eq_true rfl)) (fun _ => ?_)
  refine Ex_aload_n dX12_init_11 rfl 0 rfl ?_
  refine Ex_aload dX12_init_12 6 rfl ?_
  refine Ex_pVF dX12_init_14 lkf_X12_7 rfl rfl rfl rfl rfl rfl ?_
  exact Ex_vreturn dX12_init_17 rfl
-- QuorumAlmanac$Node.sendRound(II)V
def m_X2_sendRound (a0 : Nat) (x1 : Int32) (x2 : Int32) : Ms Unit :=
  gR [2] 111 a0 fun x76 =>
  aI 30 x76 x1 fun x77 =>
  gR [2] 108 a0 fun x78 =>
  gI [5] 20 x78 fun x79 =>
  if x79 < x77 then
    nO 22 3 dfl fun a80 =>
    bn (m_J2_init a80) fun _ =>
    gR [2] 111 a0 fun x81 =>
    aI 30 x81 x1 fun x82 =>
    lp (fun j84 (v83 : Int32) =>
        bn (ko [2] a0 (m_X2_last a0)) fun r85 =>
        jn (fun (v86 : Unit) =>
            gR [2] 111 a0 fun x88 =>
            aI 30 x88 x1 fun x89 =>
            gR [2] 115 a0 fun x90 =>
            nO 7 9 dfl fun a91 =>
            gR [2] 115 a0 fun x92 =>
            bn (ko [1] x92 (m_X1_nextMessage x92)) fun r93 =>
            gI [2] 4 a0 fun x94 =>
            gI [2] 8 a0 fun x95 =>
            bn (ko [2] a0 (m_X2_termAt a0 (x89 - 1))) fun r96 =>
            gI [2] 13 a0 fun x97 =>
            bn (m_X13_init a91 r93 x94 x1 x95 x2 (x89 - 1) r96 a80 x97) fun _ =>
            bn (ko [1] x90 (m_X1_send x90 a91)) fun _ =>
            rt ())
          fun j87 =>
          if r85 < v83 then
            j87 ()
          else
            bn (ko [22] a80 (m_J2_size a80)) fun r98 =>
            if 4 ≤ r98 then
              j87 ()
            else
              bn (ko [2] a0 (m_X2_entry a0 v83)) fun r99 =>
              bn (ko [22] a80 (m_J2_add a80 r99)) fun r100 =>
              j84 (v83 + 1))
      x82
  else
    gR [2] 115 a0 fun x101 =>
    nO 6 6 dfl fun a102 =>
    gR [2] 115 a0 fun x103 =>
    bn (ko [1] x103 (m_X1_nextMessage x103)) fun r104 =>
    gI [2] 4 a0 fun x105 =>
    gI [2] 8 a0 fun x106 =>
    gR [2] 108 a0 fun x107 =>
    bn (m_X12_init a102 r104 x105 x1 x106 x2 x107) fun _ =>
    bn (ko [1] x101 (m_X1_send x101 a102)) fun _ =>
    rt ()
theorem hm_X2_sendRound : (yX2_sendRound.cls ≠ "java/lang/invoke/MethodHandle" ∧ yX2_sendRound.cls ≠ "java/lang/invoke/VarHandle" ∧ (parseMethodDescriptor yX2_sendRound.desc).map (fun d => d.parameters.length) = some 2) := by decide +kernel
set_option maxHeartbeats 4000000 in
set_option maxRecDepth 100000 in
theorem L_X2_sendRound {G : GT} (hG : GOK G) (a0 : Nat) (x1 : Int32) (x2 : Int32) : Cal G yX2_sendRound (ws_ yX2_sendRound cX2_sendRound 5 (Option.none : Option Jvm.ClassFile.FieldType)) 9 212 [.ref a0, .int x1, .int x2] rU (m_X2_sendRound a0 x1 x2) := by
  refine Cal_of hG (by decide +kernel) (Nat.le_of_ble_eq_true rfl) (lv0 := [(0, .ref a0), (1, .int x1), (2, .int x2)]) rfl (fun X σ0 => ?_)
  delta m_X2_sendRound
  refine Ex_aload_n dX2_sendRound_0 rfl 0 rfl ?_
  refine Ex_gR dX2_sendRound_1 lk_X2_47 rfl (fun x76 => ?_)
  refine Ex_iload_n dX2_sendRound_4 rfl 1 rfl ?_
  refine Ex_aI_i dX2_sendRound_5 (fun x77 => ?_)
  refine Ex_aload_n dX2_sendRound_6 rfl 0 rfl ?_
  refine Ex_gR dX2_sendRound_7 lk_X2_68 rfl (fun x78 => ?_)
  refine Ex_gI dX2_sendRound_10 lk_X2_72 rfl (fun x79 => ?_)
  refine Ex_icmp_gt (tgt := 52) dX2_sendRound_13 (by decide) ?_ ?_
  · refine Ex_nO (ci := 21) (q := qcl 21) dX2_sendRound_52 rfl q174 q120 q48 (fun a80 => ?_)
    refine Ex_dup rfl dX2_sendRound_55 ?_
    refine Ex_bnU (Inv_I (L_J2_init hG a80) q48 q175 q122 q123 rfl hm_J2_init (by decide) (by decide) dX2_sendRound_56 rfl (Nat.le_of_ble_eq_true rfl)) (fun _ => ?_)
    refine Ex_astore_n (lv' := [(0, .ref a0), (1, .int x1), (2, .int x2), (3, .ref a80)]) dX2_sendRound_59 rfl (by decide) [1, 2, 3, 0] rfl ?_
    refine Ex_aload_n dX2_sendRound_60 rfl 0 rfl ?_
    refine Ex_gR dX2_sendRound_61 lk_X2_47 rfl (fun x81 => ?_)
    refine Ex_iload_n dX2_sendRound_64 rfl 1 rfl ?_
    refine Ex_aI_i dX2_sendRound_65 (fun x82 => ?_)
    refine Ex_istore (lv' := [(0, .ref a0), (1, .int x1), (2, .int x2), (3, .ref a80), (4, .int x82)]) dX2_sendRound_66 (by decide) [1, 2, 3, 4, 0] rfl ?_
    refine Ex_lp (γ := Int32) (pj := 68) (fun v83 => [(0, .ref a0), (1, .int x1), (2, .int x2), (3, .ref a80), (4, .int v83)]) (fun v83 => []) (fun j84 hj84 v83 => ?_) x82 rfl rfl
    refine Ex_iload dX2_sendRound_68 4 rfl ?_
    refine Ex_aload_n dX2_sendRound_70 rfl 0 rfl ?_
    refine Ex_bnI (Inv_V (L_X2_last hG a0) (lw_V q978 q108 q109 q50 q110) oe_2 ⟨rfl, hm_X2_last⟩ (by decide) (by decide) dX2_sendRound_71 rfl (Nat.le_of_ble_eq_true rfl)) (fun r85 => ?_)
    refine Ex_jn (γ := Unit) (pj := 102) (fun v86 => [(0, .ref a0), (1, .int x1), (2, .int x2), (3, .ref a80)]) (fun v86 => []) (fun v86 => ?_) (fun j87 hj87 => ?_)
    · refine Ex_aload_n dX2_sendRound_102 rfl 0 rfl ?_
      refine Ex_gR dX2_sendRound_103 lk_X2_47 rfl (fun x88 => ?_)
      refine Ex_iload_n dX2_sendRound_106 rfl 1 rfl ?_
      refine Ex_aI_i dX2_sendRound_107 (fun x89 => ?_)
      refine Ex_iconst (v := 1) dX2_sendRound_108 (by decide) ?_
      refine Ex_isub dX2_sendRound_109 ?_
      refine Ex_istore (lv' := [(0, .ref a0), (1, .int x1), (2, .int x2), (3, .ref a80), (4, .int (x89 - 1))]) dX2_sendRound_110 (by decide) [1, 2, 3, 4, 0] rfl ?_
      refine Ex_aload_n dX2_sendRound_112 rfl 0 rfl ?_
      refine Ex_gR dX2_sendRound_113 lk_X2_3 rfl (fun x90 => ?_)
      refine Ex_nO (ci := 6) (q := qcl 6) dX2_sendRound_116 rfl q1094 q1095 q76 (fun a91 => ?_)
      refine Ex_dup rfl dX2_sendRound_119 ?_
      refine Ex_aload_n dX2_sendRound_120 rfl 0 rfl ?_
      refine Ex_gR dX2_sendRound_121 lk_X2_3 rfl (fun x92 => ?_)
      refine Ex_bnI (Inv_VN (L_X1_nextMessage hG x92) q45 q994 q996 q997 qs10 oe_1 hm_X1_nextMessage (by decide) (by decide) dX2_sendRound_124 rfl (Nat.le_of_ble_eq_true rfl)) (fun r93 => ?_)
      refine Ex_aload_n dX2_sendRound_127 rfl 0 rfl ?_
      refine Ex_gI dX2_sendRound_128 lk_X2_60 rfl (fun x94 => ?_)
      refine Ex_iload_n dX2_sendRound_131 rfl 1 rfl ?_
      refine Ex_aload_n dX2_sendRound_132 rfl 0 rfl ?_
      refine Ex_gI dX2_sendRound_133 lk_X2_143 rfl (fun x95 => ?_)
      refine Ex_iload_n dX2_sendRound_136 rfl 2 rfl ?_
      refine Ex_iload dX2_sendRound_137 4 rfl ?_
      refine Ex_aload_n dX2_sendRound_139 rfl 0 rfl ?_
      refine Ex_iload dX2_sendRound_140 4 rfl ?_
      refine Ex_bnI (Inv_V16 (L_X2_termAt hG a0 (x89 - 1)) (lw_V q1096 q744 q745 q50 q746) oe_2 ⟨rfl, hm_X2_termAt⟩ (by decide) (by decide) dX2_sendRound_142 rfl (Nat.le_of_ble_eq_true rfl)) (fun r96 => ?_)
      refine Ex_aload_n dX2_sendRound_145 rfl 3 rfl ?_
      refine Ex_aload_n dX2_sendRound_146 rfl 0 rfl ?_
      refine Ex_gI dX2_sendRound_147 lk_X2_114 rfl (fun x97 => ?_)
      refine Ex_bnU (Inv_I (L_X13_init hG a91 r93 x94 x1 x95 x2 (x89 - 1) r96 a80 x97) q76 q1097 q1098 q1099 rfl hm_X13_init (by decide) (by decide) dX2_sendRound_150 rfl (Nat.le_of_ble_eq_true rfl)) (fun _ => ?_)
      refine Ex_bnU (Inv_VN (L_X1_send hG x90 a91) q45 q1080 q1082 q1083 qs11 oe_1 hm_X1_send (by decide) (by decide) dX2_sendRound_153 rfl (Nat.le_of_ble_eq_true rfl)) (fun _ => ?_)
      exact Ex_vreturn dX2_sendRound_156 rfl
    · refine Ex_icmp_gt (tgt := 102) dX2_sendRound_74 (by decide) ?_ ?_
      · refine Ex_lv [0, 1, 2, 3] (lv' := [(0, .ref a0), (1, .int x1), (2, .int x2), (3, .ref a80)]) rfl ?_
        exact hj87 ()
      · refine Ex_aload_n dX2_sendRound_77 rfl 3 rfl ?_
        refine Ex_bnI (Inv_V (L_J2_size hG a80) (lw_V q111 q112 q113 q48 q114) oe_22 ⟨rfl, hm_J2_size⟩ (by decide) (by decide) dX2_sendRound_78 rfl (Nat.le_of_ble_eq_true rfl)) (fun r98 => ?_)
        refine Ex_iconst (v := 4) dX2_sendRound_81 (by decide) ?_
        refine Ex_icmp_ge (tgt := 102) dX2_sendRound_82 (by decide) ?_ ?_
        · refine Ex_lv [0, 1, 2, 3] (lv' := [(0, .ref a0), (1, .int x1), (2, .int x2), (3, .ref a80)]) rfl ?_
          exact hj87 ()
        · refine Ex_aload_n dX2_sendRound_85 rfl 3 rfl ?_
          refine Ex_aload_n dX2_sendRound_86 rfl 0 rfl ?_
          refine Ex_iload dX2_sendRound_87 4 rfl ?_
          refine Ex_bnR (Inv_V (L_X2_entry hG a0 v83) (lw_V q747 q411 q412 q50 q413) oe_2 ⟨rfl, hm_X2_entry⟩ (by decide) (by decide) dX2_sendRound_89 rfl (Nat.le_of_ble_eq_true rfl)) (fun r99 => ?_)
          refine Ex_bnI (Inv_V (L_J2_add hG a80 r99) (lw_V q934 q935 q936 q48 q937) oe_22 ⟨rfl, hm_J2_add⟩ (by decide) (by decide) dX2_sendRound_92 rfl (Nat.le_of_ble_eq_true rfl)) (fun r100 => ?_)
          refine Ex_pop rfl dX2_sendRound_95 ?_
          refine Ex_iinc (j := 4) (lv' := [(0, .ref a0), (1, .int x1), (2, .int x2), (3, .ref a80), (4, .int (v83 + 1))]) dX2_sendRound_96 rfl rfl (by decide) [1, 2, 3, 4, 0] rfl ?_
          refine Ex_goto (tgt := 68) dX2_sendRound_99 (by decide) ?_
          exact hj84 (v83 + 1)
  · refine Ex_aload_n dX2_sendRound_16 rfl 0 rfl ?_
    refine Ex_gR dX2_sendRound_17 lk_X2_3 rfl (fun x101 => ?_)
    refine Ex_nO (ci := 5) (q := qcl 5) dX2_sendRound_20 rfl q992 q993 q75 (fun a102 => ?_)
    refine Ex_dup rfl dX2_sendRound_23 ?_
    refine Ex_aload_n dX2_sendRound_24 rfl 0 rfl ?_
    refine Ex_gR dX2_sendRound_25 lk_X2_3 rfl (fun x103 => ?_)
    refine Ex_bnI (Inv_VN (L_X1_nextMessage hG x103) q45 q994 q996 q997 qs10 oe_1 hm_X1_nextMessage (by decide) (by decide) dX2_sendRound_28 rfl (Nat.le_of_ble_eq_true rfl)) (fun r104 => ?_)
    refine Ex_aload_n dX2_sendRound_31 rfl 0 rfl ?_
    refine Ex_gI dX2_sendRound_32 lk_X2_60 rfl (fun x105 => ?_)
    refine Ex_iload_n dX2_sendRound_35 rfl 1 rfl ?_
    refine Ex_aload_n dX2_sendRound_36 rfl 0 rfl ?_
    refine Ex_gI dX2_sendRound_37 lk_X2_143 rfl (fun x106 => ?_)
    refine Ex_iload_n dX2_sendRound_40 rfl 2 rfl ?_
    refine Ex_aload_n dX2_sendRound_41 rfl 0 rfl ?_
    refine Ex_gR dX2_sendRound_42 lk_X2_68 rfl (fun x107 => ?_)
    refine Ex_bnU (Inv_I (L_X12_init hG a102 r104 x105 x1 x106 x2 x107) q75 q998 q999 q1000 rfl hm_X12_init (by decide) (by decide) dX2_sendRound_45 rfl (Nat.le_of_ble_eq_true rfl)) (fun _ => ?_)
    refine Ex_bnU (Inv_VN (L_X1_send hG x101 a102) q45 q1080 q1082 q1083 qs11 oe_1 hm_X1_send (by decide) (by decide) dX2_sendRound_48 rfl (Nat.le_of_ble_eq_true rfl)) (fun _ => ?_)
    exact Ex_vreturn dX2_sendRound_51 rfl
