-- the contract of a method out of its body
section
variable {α : Type} {G : GT} {y : MethodName} {cc : ByteArray} {nL : Nat} {rT : Option FieldType} {FR LO : Nat} {avs : List Value} {rv : α → Option Value} {f : Ms α} {lv0 : List (Nat × Value)}
theorem Cal_of (hG : GOK G) (hy : plainD y = true) (hn : (lg_sl avs).length ≤ nL) (hlv : lv_args 0 avs = lv0) (body : ∀ (X : XT) (σ0 : Sg), Ex G X σ0 y.cls cc nL rT FR LO y.name [] rv 0 lv0 [] f) : Cal G y (ws_ y cc nL rT) FR LO avs rv f := by
  refine ⟨fun X => (body X default).1, fun σ o σ' e => ?_⟩
  refine vx_ofW (cc := cc) (maxL := nL) (ret := rT) (Bool.and_eq_true_iff.mp hy).1 rfl ?_
  intro p e1 s m args below meth c s₁ B hml htab hv
  obtain ⟨rfl, hw0, hWd⟩ := hv
  have hts := atoms_spec (ws := ws_ y cc nL rT) B.pre
  have hown : s.vm.findClass y.cls = some m.cls := findClass_of_methodNamed B.named
  have hz : s.heap.size = nx σ := hWd.1.1
  have hX : CxOk G (p, e1, (headSpec (ws_ y cc nL rT) { frames := FR, cells := nx σ' - nx σ, slots := su σ' - su σ, locals := LO }).room, s, m, avs.toArray, below, meth, c) y.cls cc nL rT FR LO y.name [] :=
    ⟨hG, B.exec, B.bytes, hml, hown, fun w h => hts w (List.mem_cons_of_mem _ h), B.returns, B.notSynchronized, hw0, Nat.le_refl _, Nat.le_refl _, by rw [hz]; exact hWd.1.2.2, hWd.2.1, fun _ => ⟨(name_of_methodNamed B.named B.method).1, y, rfl, rfl, (Bool.and_eq_true_iff.mp hy).2, B.named⟩, List.eq_nil_iff_forall_not_mem.mpr (fun x hx => htab x hx)⟩
  have hl := lv_entry avs (n := nL) hn
  rw [lg_entry_eq]
  generalize (lg_sl avs ++ List.replicate (nL - (lg_sl avs).length) Slot.unset).toArray = ls at hl ⊢
  rw [hlv] at hl
  have h := (body (p, e1, (headSpec (ws_ y cc nL rT) { frames := FR, cells := nx σ' - nx σ, slots := su σ' - su σ, locals := LO }).room, s, m, avs.toArray, below, meth, c) σ).2 hX σ o σ' e rfl rfl (Nat.le_refl _) (Nat.le_refl _) (Nat.le_of_eq hz) s.heap [] ls hWd (fun z hz => nomatch hz) hl
  rw [Nat.sub_self, Nat.sub_self] at h
  exact h
theorem Cal_ofH {hh : List (Nat × Nat × Nat × Nat)} {tb : List ExceptionTableEntry} (hG : GOK G) (hy : plainD y = true) (hn : (lg_sl avs).length ≤ nL) (htb : tableOf hh = tb) (hlv : lv_args 0 avs = lv0) (body : ∀ (X : XT) (σ0 : Sg), Ex G X σ0 y.cls cc nL rT FR LO y.name tb rv 0 lv0 [] f) : Cal G y (wsW_ y cc nL rT hh) FR LO avs rv f := by
  refine ⟨fun X => (body X default).1, fun σ o σ' e => ?_⟩
  refine vx_ofWH (cc := cc) (maxL := nL) (ret := rT) (hh := hh) (Bool.and_eq_true_iff.mp hy).1 rfl ?_
  intro p e1 s m args below meth c s₁ B hml hv
  obtain ⟨rfl, hw0, hWd⟩ := hv
  have hts := atoms_spec (ws := wsW_ y cc nL rT hh) B.pre
  have hown : s.vm.findClass y.cls = some m.cls := findClass_of_methodNamed B.named
  have hz : s.heap.size = nx σ := hWd.1.1
  have htab := vx_table (x := y) B (hts _ List.mem_cons_self)
  have hX : CxOk G (p, e1, (headSpec (wsW_ y cc nL rT hh) { frames := FR, cells := nx σ' - nx σ, slots := su σ' - su σ, locals := LO }).room, s, m, avs.toArray, below, meth, c) y.cls cc nL rT FR LO y.name tb :=
    ⟨hG, B.exec, B.bytes, hml, hown, fun w h => hts w (List.mem_cons_of_mem _ h), B.returns, B.notSynchronized, hw0, Nat.le_refl _, Nat.le_refl _, by rw [hz]; exact hWd.1.2.2, hWd.2.1, fun _ => ⟨(name_of_methodNamed B.named B.method).1, y, rfl, rfl, (Bool.and_eq_true_iff.mp hy).2, B.named⟩, htab.trans htb⟩
  have hl := lv_entry avs (n := nL) hn
  rw [lg_entry_eq]
  generalize (lg_sl avs ++ List.replicate (nL - (lg_sl avs).length) Slot.unset).toArray = ls at hl ⊢
  rw [hlv] at hl
  have h := (body (p, e1, (headSpec (wsW_ y cc nL rT hh) { frames := FR, cells := nx σ' - nx σ, slots := su σ' - su σ, locals := LO }).room, s, m, avs.toArray, below, meth, c) σ).2 hX σ o σ' e rfl rfl (Nat.le_refl _) (Nat.le_refl _) (Nat.le_of_eq hz) s.heap [] ls hWd (fun z hz => nomatch hz) hl
  rw [Nat.sub_self, Nat.sub_self] at h
  exact h
end
-- calls
section
variable {β : Type} {G : GT} {X : XT} {own : String} {cc : ByteArray} {nL : Nat} {rT : Option FieldType} {FR LO : Nat} {mn : String} {tb : List ExceptionTableEntry} {pc index : Nat} {stk rest : List Value} {y : MethodName} {bytes : ByteArray} {maxL : Nat} {ret : Option FieldType} {fr lo : Nat} {rvb : β → Option Value} {f : Ms β} {b : Nat} {As : List Value} {ks : List Nat}
theorem Mono_ko {a : Nat} (h : Mono f) : Mono (ko ks a f) := Mono_if (p := fun σ => isK ks (kd σ a) = true) (fun σ _ o σ' e => h σ o σ' e)
/-- the kinds are those of the class C -/
def okE (C : String) (ks : List Nat) : Prop := ∀ kk ∈ ks, ∃ ci q, kk = ci + 1 ∧ cls[ci]? = some q ∧ q.1 = C
def okK (ks : List Nat) : Prop := ∀ kk ∈ ks, ∃ ci q, kk = ci + 1 ∧ cls[ci]? = some q
theorem ko_inv {a : Nat} {σ : Sg} {r : (β ⊕ (Nat × Nat)) × Sg} (h : ko ks a f σ = some r) : isK ks (kd σ a) = true ∧ f σ = some r := by
  have h : (if isK ks (kd σ a) = true then f σ else none) = some r := h
  by_cases hi : isK ks (kd σ a) = true
  · rw [if_pos hi] at h; exact ⟨hi, h⟩
  · rw [if_neg hi] at h; cases h
theorem pre_of (hX : CxOk G X own cc nL rT FR LO mn tb) {σ : Sg} {H : Heap} (hW : Wd G σ H) (avs : List Value) : FrameBlind (va_Pc avs (fun U => G.2.1.WarmedH U.vm ∧ Wd G σ U.heap)) ∧ ∀ U : State, U.heap = H → X.2.2.2.1.WarmedH U.vm → va_Pc avs (fun U => G.2.1.WarmedH U.vm ∧ Wd G σ U.heap) avs.toArray U :=
  ⟨fun _ _ _ _ q => q, fun U hU hWm => ⟨rfl, State.WarmedH.trans hX.2.2.2.2.2.2.2.2.1 hWm, by rw [hU]; exact hW⟩⟩
theorem Inv_V {C : String} (hC : Cal G y (ws_ y bytes maxL ret) fr lo (.ref b :: As) rvb f) (hw : GoodIn lw_all (wsV own index C y (ws_ y bytes maxL ret))) (hk : okE C ks) (hd : y.cls = C ∧ y.cls ≠ "java/lang/invoke/MethodHandle" ∧ y.cls ≠ "java/lang/invoke/VarHandle" ∧ (parseMethodDescriptor y.desc).map (fun d => d.parameters.length) = some As.length)
    (hfr : fr + 1 ≤ FR) (hlo : 8 + (maxL + 11) + lo ≤ LO) (hdg : decode cc pc = .ok (.invokevirtual index, 3)) (hst : stk = As.reverse ++ .ref b :: rest) (hcat : (rest.map fun v => v.category).sum ≤ 8) : Inv G X own cc nL rT FR LO mn tb 3 pc stk rest rvb (ko ks b f) := by
  refine ⟨Mono_ko (hC.1 X), fun hX σ o σ' H locs cells slots ls e hW hs hc1 hc2 => RunN_of ?_⟩
  obtain ⟨hi, e⟩ := ko_inv e
  obtain ⟨ci, q, hkk, hcq, hq⟩ := hk _ (List.contains_iff_mem.mp hi)
  obtain ⟨cv, v1, v2, v3, v4⟩ := obj_of hX hW hkk hcq
  obtain ⟨p1, p2⟩ := pre_of hX hW (.ref b :: As)
  exact vx_runV (C := C) ⟨hX.2.1, hX.2.2.1, hX.2.2.2.1, hX.2.2.2.2.1, hX.2.2.2.2.2.1⟩ (hC.2 σ o σ' e) (cwV As.length hX.2.2.2.2.2.1 hw rfl rfl rfl hd ⟨Nat.le_trans hfr hX.2.2.2.2.2.2.2.2.2.1, Nat.le_trans hlo hX.2.2.2.2.2.2.2.2.2.2.1⟩) ⟨p1, ⟨cv, v1, v2, by rw [← hq]; exact v3⟩, p2⟩ rfl rfl hs hst (lv_room hcat) hdg ⟨hc1, hc2⟩
theorem Inv_VW {C : String} {hh : List (Nat × Nat × Nat × Nat)} (hC : Cal G y (wsW_ y bytes maxL ret hh) fr lo (.ref b :: As) rvb f) (hw : GoodIn lw_all (wsV own index C y (wsW_ y bytes maxL ret hh))) (hk : okE C ks) (hd : y.cls = C ∧ y.cls ≠ "java/lang/invoke/MethodHandle" ∧ y.cls ≠ "java/lang/invoke/VarHandle" ∧ (parseMethodDescriptor y.desc).map (fun d => d.parameters.length) = some As.length)
    (hfr : fr + 1 ≤ FR) (hlo : 8 + (maxL + 11) + lo ≤ LO) (hdg : decode cc pc = .ok (.invokevirtual index, 3)) (hst : stk = As.reverse ++ .ref b :: rest) (hcat : (rest.map fun v => v.category).sum ≤ 8) : Inv G X own cc nL rT FR LO mn tb 3 pc stk rest rvb (ko ks b f) := by
  refine ⟨Mono_ko (hC.1 X), fun hX σ o σ' H locs cells slots ls e hW hs hc1 hc2 => RunN_of ?_⟩
  obtain ⟨hi, e⟩ := ko_inv e
  obtain ⟨ci, q, hkk, hcq, hq⟩ := hk _ (List.contains_iff_mem.mp hi)
  obtain ⟨cv, v1, v2, v3, v4⟩ := obj_of hX hW hkk hcq
  obtain ⟨p1, p2⟩ := pre_of hX hW (.ref b :: As)
  exact vx_runVX (C := C) ⟨hX.2.1, hX.2.2.1, hX.2.2.2.1, hX.2.2.2.2.1, hX.2.2.2.2.2.1⟩ (hC.2 σ o σ' e) (vx_cwVW As.length hX.2.2.2.2.2.1 hw rfl rfl rfl hd ⟨Nat.le_trans hfr hX.2.2.2.2.2.2.2.2.2.1, Nat.le_trans hlo hX.2.2.2.2.2.2.2.2.2.2.1⟩) ⟨p1, ⟨cv, v1, v2, by rw [← hq]; exact v3⟩, p2⟩ rfl rfl hs hst (lv_room hcat) hdg ⟨hc1, hc2⟩
theorem Inv_S (hC : Cal G y (ws_ y bytes maxL ret) fr lo As rvb f) (hw : GoodIn lw_all (va_wsS own index y (ws_ y bytes maxL ret))) (hd : y.cls ≠ "java/lang/invoke/MethodHandle" ∧ y.cls ≠ "java/lang/invoke/VarHandle" ∧ (parseMethodDescriptor y.desc).map (fun d => d.parameters.length) = some As.length)
    (hfr : fr + 1 ≤ FR) (hlo : 8 + (maxL + 11) + lo ≤ LO) (hdg : decode cc pc = .ok (.invokestatic index, 3)) (hst : stk = As.reverse ++ rest) (hcat : (rest.map fun v => v.category).sum ≤ 8) : Inv G X own cc nL rT FR LO mn tb 3 pc stk rest rvb f := by
  refine ⟨hC.1 X, fun hX σ o σ' H locs cells slots ls e hW hs hc1 hc2 => RunN_of ?_⟩
  obtain ⟨p1, p2⟩ := pre_of hX hW As
  exact vx_runS (As := As) ⟨hX.2.1, hX.2.2.1, hX.2.2.2.1, hX.2.2.2.2.1, hX.2.2.2.2.2.1⟩ (hC.2 σ o σ' e) (va_cwS As.length hX.2.2.2.2.2.1 hw rfl rfl rfl hd ⟨Nat.le_trans hfr hX.2.2.2.2.2.2.2.2.2.1, Nat.le_trans hlo hX.2.2.2.2.2.2.2.2.2.2.1⟩) ⟨p1, p2⟩ rfl rfl hs hst (lv_room hcat) hdg ⟨hc1, hc2⟩
theorem Inv_SW {hh : List (Nat × Nat × Nat × Nat)} (hC : Cal G y (wsW_ y bytes maxL ret hh) fr lo As rvb f) (hw : GoodIn lw_all (va_wsS own index y (wsW_ y bytes maxL ret hh))) (hd : y.cls ≠ "java/lang/invoke/MethodHandle" ∧ y.cls ≠ "java/lang/invoke/VarHandle" ∧ (parseMethodDescriptor y.desc).map (fun d => d.parameters.length) = some As.length)
    (hfr : fr + 1 ≤ FR) (hlo : 8 + (maxL + 11) + lo ≤ LO) (hdg : decode cc pc = .ok (.invokestatic index, 3)) (hst : stk = As.reverse ++ rest) (hcat : (rest.map fun v => v.category).sum ≤ 8) : Inv G X own cc nL rT FR LO mn tb 3 pc stk rest rvb f := by
  refine ⟨hC.1 X, fun hX σ o σ' H locs cells slots ls e hW hs hc1 hc2 => RunN_of ?_⟩
  obtain ⟨p1, p2⟩ := pre_of hX hW As
  exact vx_runSX (As := As) ⟨hX.2.1, hX.2.2.1, hX.2.2.2.1, hX.2.2.2.2.1, hX.2.2.2.2.2.1⟩ (hC.2 σ o σ' e) (vx_cwSW As.length hX.2.2.2.2.2.1 hw rfl rfl rfl hd ⟨Nat.le_trans hfr hX.2.2.2.2.2.2.2.2.2.1, Nat.le_trans hlo hX.2.2.2.2.2.2.2.2.2.2.1⟩) ⟨p1, p2⟩ rfl rfl hs hst (lv_room hcat) hdg ⟨hc1, hc2⟩
theorem Inv_I (hC : Cal G y (ws_ y bytes maxL none) fr lo (.ref b :: As) rvb f) (h1 : Cond.initialized y.cls ∈ lw_all) (h2 : Cond.methodLink own index y ∈ lw_all) (h3 : Cond.instanceMethod y ∈ lw_all) (h4 : Cond.code y bytes maxL none ∈ lw_all) (hy : y.name = "<init>") (hd : y.cls ≠ "java/lang/invoke/MethodHandle" ∧ y.cls ≠ "java/lang/invoke/VarHandle" ∧ (parseMethodDescriptor y.desc).map (fun d => d.parameters.length) = some As.length)
    (hfr : fr + 1 ≤ FR) (hlo : 8 + (maxL + 11) + lo ≤ LO) (hdg : decode cc pc = .ok (.invokespecial index, 3)) (hst : stk = As.reverse ++ .ref b :: rest) (hcat : (rest.map fun v => v.category).sum ≤ 8) : Inv G X own cc nL rT FR LO mn tb 3 pc stk rest rvb f := by
  refine ⟨hC.1 X, fun hX σ o σ' H locs cells slots ls e hW hs hc1 hc2 => RunN_of ?_⟩
  obtain ⟨p1, p2⟩ := pre_of hX hW (.ref b :: As)
  exact vx_runI ⟨hX.2.1, hX.2.2.1, hX.2.2.2.1, hX.2.2.2.2.1, hX.2.2.2.2.2.1⟩ (hC.2 σ o σ' e) (cwI As.length hX.2.2.2.2.2.1 (lw_meth h4) rfl rfl rfl (cx_word hX h1) (cx_word hX h2) (cx_word hX h3) hy hd ⟨Nat.le_trans hfr hX.2.2.2.2.2.2.2.2.2.1, Nat.le_trans hlo hX.2.2.2.2.2.2.2.2.2.2.1⟩) ⟨p1, p2⟩ rfl rfl hs hst (lv_room hcat) hdg ⟨hc1, hc2⟩
theorem Inv_VN {host C : String} (hC : Cal G y (ws_ y bytes maxL ret) fr lo (.ref b :: As) rvb f) (h1 : Cond.initialized y.cls ∈ lw_all) (h2 : Cond.methodLinkNest own index y host ∈ lw_tbl) (h3 : Cond.instanceMethod y ∈ lw_all) (h4 : Cond.code y bytes maxL ret ∈ lw_all) (h5 : Cond.selects C y y ∈ lw_all) (hk : okE C ks) (hd : y.cls ≠ "java/lang/invoke/MethodHandle" ∧ y.cls ≠ "java/lang/invoke/VarHandle" ∧ (parseMethodDescriptor y.desc).map (fun d => d.parameters.length) = some As.length)
    (hfr : fr + 1 ≤ FR) (hlo : 8 + (maxL + 11) + lo ≤ LO) (hdg : decode cc pc = .ok (.invokevirtual index, 3)) (hst : stk = As.reverse ++ .ref b :: rest) (hcat : (rest.map fun v => v.category).sum ≤ 8) : Inv G X own cc nL rT FR LO mn tb 3 pc stk rest rvb (ko ks b f) := by
  refine ⟨Mono_ko (hC.1 X), fun hX σ o σ' H locs cells slots ls e hW hs hc1 hc2 => RunN_of ?_⟩
  obtain ⟨hi, e⟩ := ko_inv e
  obtain ⟨ci, q, hkk, hcq, hq⟩ := hk _ (List.contains_iff_mem.mp hi)
  obtain ⟨cv, v1, v2, v3, v4⟩ := obj_of hX hW hkk hcq
  obtain ⟨p1, p2⟩ := pre_of hX hW (.ref b :: As)
  exact vx_runVN (C := C) (host := host) ⟨hX.2.1, hX.2.2.1, hX.2.2.2.1, hX.2.2.2.2.1, hX.2.2.2.2.2.1⟩ (hC.2 σ o σ' e) ⟨va_cnB As.length hX.2.2.2.2.2.1 (lw_meth h4) rfl rfl rfl (va_Nw.warmM hX.2.2.2.2.2.2.2.2.1 (cx_Nw hX rfl h2)) (cx_word hX h1) hd ⟨Nat.le_trans hfr hX.2.2.2.2.2.2.2.2.2.1, Nat.le_trans hlo hX.2.2.2.2.2.2.2.2.2.2.1⟩, cx_word hX h3, cx_word hX h5⟩ ⟨p1, ⟨cv, v1, v2, by rw [← hq]; exact v3⟩, p2⟩ rfl rfl hs hst (lv_room hcat) hdg ⟨hc1, hc2⟩
theorem Inv_SN {host : String} (hC : Cal G y (ws_ y bytes maxL ret) fr lo As rvb f) (h1 : Cond.initialized y.cls ∈ lw_all) (h2 : Cond.methodLinkNest own index y host ∈ lw_tbl) (h3 : Cond.static y ∈ lw_all) (h4 : Cond.code y bytes maxL ret ∈ lw_all) (hd : y.cls ≠ "java/lang/invoke/MethodHandle" ∧ y.cls ≠ "java/lang/invoke/VarHandle" ∧ (parseMethodDescriptor y.desc).map (fun d => d.parameters.length) = some As.length)
    (hfr : fr + 1 ≤ FR) (hlo : 8 + (maxL + 11) + lo ≤ LO) (hdg : decode cc pc = .ok (.invokestatic index, 3)) (hst : stk = As.reverse ++ rest) (hcat : (rest.map fun v => v.category).sum ≤ 8) : Inv G X own cc nL rT FR LO mn tb 3 pc stk rest rvb f := by
  refine ⟨hC.1 X, fun hX σ o σ' H locs cells slots ls e hW hs hc1 hc2 => RunN_of ?_⟩
  obtain ⟨p1, p2⟩ := pre_of hX hW As
  exact vx_runSN (As := As) (host := host) ⟨hX.2.1, hX.2.2.1, hX.2.2.2.1, hX.2.2.2.2.1, hX.2.2.2.2.2.1⟩ (hC.2 σ o σ' e) ⟨va_cnB As.length hX.2.2.2.2.2.1 (lw_meth h4) rfl rfl rfl (va_Nw.warmM hX.2.2.2.2.2.2.2.2.1 (cx_Nw hX rfl h2)) (cx_word hX h1) hd ⟨Nat.le_trans hfr hX.2.2.2.2.2.2.2.2.2.1, Nat.le_trans hlo hX.2.2.2.2.2.2.2.2.2.2.1⟩, cx_word hX h3, trivial⟩ ⟨p1, p2⟩ rfl rfl hs hst (lv_room hcat) hdg ⟨hc1, hc2⟩
/-- super.m(..) -/
theorem Inv_SU (hC : Cal G y (ws_ y bytes maxL ret) fr lo (.ref b :: As) rvb f) (hw : GoodIn lw_all (va_wsSU own index y (ws_ y bytes maxL ret))) (hk : okK ks) (hd : y.name ≠ "<init>" ∧ (parseMethodDescriptor y.desc).map (fun d => d.parameters.length) = some As.length)
    (hfr : fr + 1 ≤ FR) (hlo : 8 + (maxL + 11) + lo ≤ LO) (hdg : decode cc pc = .ok (.invokespecial index, 3)) (hst : stk = As.reverse ++ .ref b :: rest) (hcat : (rest.map fun v => v.category).sum ≤ 8) : Inv G X own cc nL rT FR LO mn tb 3 pc stk rest rvb (ko ks b f) := by
  refine ⟨Mono_ko (hC.1 X), fun hX σ o σ' H locs cells slots ls e hW hs hc1 hc2 => RunN_of ?_⟩
  obtain ⟨hi, e⟩ := ko_inv e
  obtain ⟨ci, q, hkk, hcq⟩ := hk _ (List.contains_iff_mem.mp hi)
  obtain ⟨cv, v1, v2, v3, v4⟩ := obj_of hX hW hkk hcq
  obtain ⟨p1, p2⟩ := pre_of hX hW (.ref b :: As)
  exact vx_runSU (C := q.1) ((cx_K hX).1 ci q hcq).2 ⟨hX.2.1, hX.2.2.1, hX.2.2.2.1, hX.2.2.2.2.1, hX.2.2.2.2.2.1⟩ (hC.2 σ o σ' e) (va_cwSU As.length hX.2.2.2.2.2.1 hw rfl rfl rfl hd ⟨Nat.le_trans hfr hX.2.2.2.2.2.2.2.2.2.1, Nat.le_trans hlo hX.2.2.2.2.2.2.2.2.2.2.1⟩) ⟨p1, ⟨cv, v1, v2, v3⟩, p2⟩ rfl rfl hs hst (lv_room hcat) hdg ⟨hc1, hc2⟩
/-- a method found by the receiver's class: x is named, y is selected -/
theorem Inv_U {x : MethodName} {C owner : String} (hC : Cal G y (ws_ y bytes maxL ret) fr lo (.ref b :: As) rvb f) (h1 : Cond.initialized y.cls ∈ lw_all) (h2 : Cond.methodLink own index x ∈ lw_all) (h3 : Cond.instanceMethod y ∈ lw_all) (h4 : Cond.code y bytes maxL ret ∈ lw_all) (h5 : Cond.selects C x y ∈ lw_all) (h6 : Cond.sameMethod x.cls owner x.name x.desc ∈ lw_all) (h7 : Cond.declares ⟨owner, x.name, x.desc⟩ ∈ lw_tbl) (hk : okE C ks)
    (hd : owner ≠ "java/lang/invoke/MethodHandle" ∧ owner ≠ "java/lang/invoke/VarHandle" ∧ (parseMethodDescriptor x.desc).map (fun d => d.parameters.length) = some As.length)
    (hfr : fr + 1 ≤ FR) (hlo : 8 + (maxL + 11) + lo ≤ LO) (hdg : decode cc pc = .ok (.invokevirtual index, 3)) (hst : stk = As.reverse ++ .ref b :: rest) (hcat : (rest.map fun v => v.category).sum ≤ 8) : Inv G X own cc nL rT FR LO mn tb 3 pc stk rest rvb (ko ks b f) := by
  refine ⟨Mono_ko (hC.1 X), fun hX σ o σ' H locs cells slots ls e hW hs hc1 hc2 => RunN_of ?_⟩
  obtain ⟨hi, e⟩ := ko_inv e
  obtain ⟨ci, q, hkk, hcq, hq⟩ := hk _ (List.contains_iff_mem.mp hi)
  obtain ⟨cv, v1, v2, v3, v4⟩ := obj_of hX hW hkk hcq
  obtain ⟨p1, p2⟩ := pre_of hX hW (.ref b :: As)
  refine vx_runU (C := C) (owner := owner) (x := x) ⟨hX.2.1, hX.2.2.1, hX.2.2.2.1, hX.2.2.2.2.1, hX.2.2.2.2.2.1⟩ (hC.2 σ o σ' e) ⟨⟨rfl, rfl, Nat.le_trans hfr hX.2.2.2.2.2.2.2.2.2.1, Nat.le_trans hlo hX.2.2.2.2.2.2.2.2.2.2.1, pay_in hX.2.2.2.2.2.1 (lw_meth h4), List.mem_cons_self⟩, cx_word hX h4, cx_word hX h1, ⟨hd.1, hd.2.1⟩, fun sig h => ?_, cx_word hX h2, cx_word hX h6, va_Decl.abs (va_Nw.warmD hX.2.2.2.2.2.2.2.2.1 (cx_Nw hX rfl h7)), cx_word hX h5, cx_word hX h3⟩ ⟨p1, ⟨cv, v1, v2, by rw [← hq]; exact v3⟩, p2⟩ rfl rfl hs hst (lv_room hcat) hdg ⟨hc1, hc2⟩
  have h2 := hd.2.2
  rw [h] at h2
  exact (Option.some.inj h2).symm
/-- by an interface -/
theorem Inv_F {x : MethodName} {C : String} {count : Nat} (hC : Cal G y (ws_ y bytes maxL ret) fr lo (.ref b :: As) rvb f) (hw : GoodIn lw_all (va_wsF own index C x y (ws_ y bytes maxL ret))) (h1 : Cond.declares x ∈ lw_tbl) (h2 : Cond.interfaceMethod x.cls x.cls x.name x.desc ∈ lw_tbl) (h3 : Cond.publicMethod y ∈ lw_tbl) (h4 : Cond.unhidden C x.name x.desc ∈ lw_tbl) (h5 : Cond.castable C x.cls ∈ lw_tbl) (hk : okE C ks)
    (hd : x.cls ≠ "java/lang/invoke/MethodHandle" ∧ x.cls ≠ "java/lang/invoke/VarHandle" ∧ (parseMethodDescriptor x.desc).map (fun d => d.parameters.length) = some As.length)
    (hfr : fr + 1 ≤ FR) (hlo : 8 + (maxL + 11) + lo ≤ LO) (hdg : decode cc pc = .ok (.invokeinterface index count, 5)) (hst : stk = As.reverse ++ .ref b :: rest) (hcat : (rest.map fun v => v.category).sum ≤ 8) : Inv G X own cc nL rT FR LO mn tb 5 pc stk rest rvb (ko ks b f) := by
  refine ⟨Mono_ko (hC.1 X), fun hX σ o σ' H locs cells slots ls e hW hs hc1 hc2 => RunN_of5 ?_⟩
  obtain ⟨hi, e⟩ := ko_inv e
  obtain ⟨ci, q, hkk, hcq, hq⟩ := hk _ (List.contains_iff_mem.mp hi)
  obtain ⟨cv, v1, v2, v3, v4⟩ := obj_of hX hW hkk hcq
  obtain ⟨p1, p2⟩ := pre_of hX hW (.ref b :: As)
  have hF : va_Fw C x y X.2.2.2.1 := va_Fw.moved ⟨hd.1, hd.2.1⟩ (cx_alike hX) (va_Fw.of (gok_word hX.1 h1) (gok_word hX.1 h2) (gok_word hX.1 h3) (gok_word hX.1 h4) (gok_word hX.1 h5))
  have hat : ClassAt X.2.2.2.1 C (G.2.2.2.1 ci) := by rw [← hq]; exact ((cx_K hX).1 ci q hcq).2
  exact vx_runF (C := C) hat ⟨hX.2.1, hX.2.2.1, hX.2.2.2.1, hX.2.2.2.2.1, hX.2.2.2.2.2.1⟩ (hC.2 σ o σ' e) (va_cwF As.length hX.2.2.2.2.2.1 hw rfl rfl rfl hF hd ⟨Nat.le_trans hfr hX.2.2.2.2.2.2.2.2.2.1, Nat.le_trans hlo hX.2.2.2.2.2.2.2.2.2.2.1⟩) ⟨p1, ⟨cv, v1, v2, by rw [← hq]; exact v3⟩, p2⟩ rfl rfl hs hst (lv_room hcat) hdg ⟨hc1, hc2⟩
end
-- Object's constructor
theorem Ex_objInit {α : Type} {G : GT} {X : XT} {σ0 : Sg} {own : String} {cc : ByteArray} {nL : Nat} {rT : Option FieldType} {FR LO : Nat} {mn : String} {tb : List ExceptionTableEntry} {rv : α → Option Value} {pc index a : Nat} {lv : List (Nat × Value)} {rest : List Value} {mm : Ms α} (hdg : decode cc pc = .ok (.invokespecial index, 3)) (h1 : Cond.methodLink own index objectInit ∈ lw_all) (h2 : Cond.instanceMethod objectInit ∈ lw_all) (h3 : Cond.code objectInit ⟨#[0xb1]⟩ 1 none ∈ lw_all) (hfr : 1 ≤ FR) (hlo : (rest.map fun v => v.category).sum + 12 ≤ LO)
    (k : Ex G X σ0 own cc nL rT FR LO mn tb rv (pc + 3) lv rest mm) : Ex G X σ0 own cc nL rT FR LO mn tb rv pc lv (.ref a :: rest) mm := by
  refine ⟨k.1, fun hX σ o σ' e hcc hss g1 g2 g3 H locs ls hW hlo' hv => ?_⟩
  refine W.objInit hX.2.1 hX.2.2.1 hX.2.2.2.2.1 (cx_word hX h1) (cx_word hX h2) (cx_word hX h3) rfl (by rw [hX.2.2.2.1]; exact hv.1) rfl hdg (Nat.le_trans hfr hX.2.2.2.2.2.2.2.2.2.1) (by show 2 * 0 + _ + 12 ≤ _; have := hX.2.2.2.2.2.2.2.2.2.2.1; omega) (k.2 hX σ o σ' e hcc hss g1 g2 g3 H locs ls hW hlo' hv)
