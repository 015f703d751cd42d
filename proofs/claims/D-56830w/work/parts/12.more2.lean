theorem vx_runV16 {p : Program} {l : Launch} {e : Env} {R : Room} {s : State} {m : MethodId} {args : Array Value} {below : List Frame} {meth : Method} {c : Code} {H : Heap} {locs : List Loc} {cells slots : Nat} {y : MethodName} {bytes cc : ByteArray} {maxL nL mc ms n index : Nat} {ret : Option FieldType} {ws : List Cond} {rm : Room} {Pc : Array Value → State → Prop} {Qc : Array Value → State → Outcome → State → Prop} {XC : String → Nat → State → State → Prop} {free : Addr → Prop} {Ts : List Cond} {own C : String} {b : Addr} {As rest : List Value} {g : JFrame} (h16 : 16 + (maxL + 11) + rm.locals ≤ R.locals) (S : CallFix p m c cc nL s args Ts own) (hM : vx_Met l y ws rm Pc Qc XC mc ms free) (cw : CallW R s args own C index y bytes maxL ret ws rm mc ms n) (hp : PreV s H C b Pc As)
    (hg : g.method = m) (hn : As.length = n) (hsize : g.locals.size = nL) (hstack : g.stack = As.reverse ++ .ref b :: rest) (hW : 2 * g.monitorRoom + (rest.map fun v => v.category).sum ≤ 16) (hdg : decode cc g.pc = .ok (.invokevirtual index, 3)) (hf : cells + mc ≤ R.cells ∧ slots + ms ≤ R.slots) :
    vx_Run p l e R s m args below meth c H locs cells slots mc ms g rest (Qc (Value.ref b :: As).toArray) XC free := by
  have hK : vx_Back l R p e below s args y 3 16 (PreOf R mc ms Pc) (PostOf Qc mc ms free) (vx_Post XC mc ms free) := by
    obtain ⟨hrc, hrs, hfr, hlo, hws, hcw, -, hini, -⟩ := cw.1
    exact vx_back (bytes := bytes) (maxL := maxL) (ret := ret) hM hp.1 hrc hrs hfr h16 hws hcw (fun a' U hW => word_at hW (Or.inl (by first | rfl | simp [Cond.onTables, Cond.keeps, Cond.steady])) hini)
  obtain ⟨⟨-, -, -, -, -, -, hcode, -, hy, hlen, hl⟩, hin, hse⟩ := cw
  obtain ⟨hx, hb, hml, ho, -⟩ := S
  obtain ⟨-, ⟨cellB, hcB, hoB, hclB⟩, hPc⟩ := hp
  intro T hT X
  rcases vx_callV X hx (C := C) (bytes := bytes) (maxL := maxL) (ret := ret) ho hl hin hse hcode hy hK (by rw [hT]; exact hcB) hoB hclB hg (hsize.trans hml.symm) (argsL := As) (rest := rest) (fun sig h => hn.trans (hlen sig h)) hstack hW (by rw [hb]; exact hdg)
    (fun vm₁ hW₁ => ⟨hf.1, hf.2, hPc (T.setVm vm₁) hT hW₁⟩) with ⟨v, vm₁, ⟨U', l2, c2, s2⟩, hW₁, X', ⟨g', mk, t, L, e1, e2, hq, h1, hL, h2, h3⟩, st⟩ | ⟨q, vm₁, ⟨U', l2, c2, s2⟩, hW₁, X', ⟨g', mk, t, L, E, ce, e1, e2, hq, hce, hcv, hcl, h1, hL, h2, h3⟩, st⟩
  · dsimp only [Pt.U, Pt.locs, Pt.cells, Pt.slots] at X' e1 e2 h1 h2 h3 st
    subst h1; subst h2; subst h3
    exact Or.inl ⟨v, (T.setVm vm₁).calling g' mk (Value.ref b :: As).toArray, t, U', L, hT, X', hL, e1, e2, hq, st⟩
  · dsimp only [Pt.U, Pt.locs, Pt.cells, Pt.slots] at X' e1 e2 h1 h2 h3 st hcl
    subst h1; subst h2; subst h3
    exact Or.inr ⟨q, (T.setVm vm₁).calling g' mk (Value.ref b :: As).toArray, t, U', L, E, ce, hT, X', hL, e1, e2, hq, hce, hcv, vx_cls hW₁ hcl, st⟩

theorem Inv_V16 {β : Type} {G : GT} {X : XT} {own : String} {cc : ByteArray} {nL : Nat} {rT : Option FieldType} {FR LO : Nat} {mn : String} {tb : List ExceptionTableEntry} {pc index : Nat} {stk rest : List Value} {y : MethodName} {bytes : ByteArray} {maxL : Nat} {ret : Option FieldType} {fr lo : Nat} {rvb : β → Option Value} {f : Ms β} {b : Nat} {As : List Value} {ks : List Nat} {C : String} (hC : Cal G y (ws_ y bytes maxL ret) fr lo (.ref b :: As) rvb f) (hw : GoodIn lw_all (wsV own index C y (ws_ y bytes maxL ret))) (hk : okE C ks) (hd : y.cls = C ∧ y.cls ≠ "java/lang/invoke/MethodHandle" ∧ y.cls ≠ "java/lang/invoke/VarHandle" ∧ (parseMethodDescriptor y.desc).map (fun d => d.parameters.length) = some As.length)
    (hfr : fr + 1 ≤ FR) (hlo : 16 + (maxL + 11) + lo ≤ LO) (hdg : decode cc pc = .ok (.invokevirtual index, 3)) (hst : stk = As.reverse ++ .ref b :: rest) (hcat : (rest.map fun v => v.category).sum ≤ 16) : Inv G X own cc nL rT FR LO mn tb 3 pc stk rest rvb (ko ks b f) := by
  refine ⟨Mono_ko (hC.1 X), fun hX σ o σ' H locs cells slots ls e hW hs hc1 hc2 => RunN_of ?_⟩
  obtain ⟨hi, e⟩ := ko_inv e
  obtain ⟨ci, q, hkk, hcq, hq⟩ := hk _ (List.contains_iff_mem.mp hi)
  obtain ⟨cv, v1, v2, v3, v4⟩ := obj_of hX hW hkk hcq
  obtain ⟨p1, p2⟩ := pre_of hX hW (.ref b :: As)
  have hL := Nat.le_trans hlo hX.2.2.2.2.2.2.2.2.2.2.1
  exact vx_runV16 hL (C := C) ⟨hX.2.1, hX.2.2.1, hX.2.2.2.1, hX.2.2.2.2.1, hX.2.2.2.2.2.1⟩ (hC.2 σ o σ' e) (cwV As.length hX.2.2.2.2.2.1 hw rfl rfl rfl hd ⟨Nat.le_trans hfr hX.2.2.2.2.2.2.2.2.2.1, by simp only; omega⟩) ⟨p1, ⟨cv, v1, v2, by rw [← hq]; exact v3⟩, p2⟩ rfl rfl hs hst (by show 2 * 0 + _ ≤ 16; omega) hdg ⟨hc1, hc2⟩
