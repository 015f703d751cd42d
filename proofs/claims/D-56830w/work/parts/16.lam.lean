def lmF (i : Nat) : ClassFile := ((lmS i).file "QuorumAlmanac").getD { minorVersion := 0, majorVersion := 0, constantPool := #[], accessFlags := 0, thisClass := 0, superClass := 0, interfaces := #[], fields := #[], methods := #[], attributes := #[] }
theorem lm_lt {P : Nat → Prop} (h0 : P 0) (h1 : P 1) : ∀ i, i < 2 → P i := fun i hi => by
  match i, hi with
  | 0, _ => exact h0
  | 1, _ => exact h1
def lmM (i : Nat) : Method := ((layoutMethods (lmF i)).bind (·[1]?)).getD default
theorem lm_file : ∀ i, i < 2 → ((lmS i).file "QuorumAlmanac").isSome = true := lm_lt (by decide +kernel) (by decide +kernel)
theorem lm_sec : ∀ i, i < 2 → ((layoutMethods (lmF i)).bind (·[1]?)).isSome = true := lm_lt (by decide +kernel) (by decide +kernel)
theorem lm_code : ∀ i, i < 2 → ((lmM i).code.map fun c => (c.code.data, c.maxLocals)) = some (#[43, 184, 0, 17, 172], 2) := lm_lt (by decide +kernel) (by decide +kernel)
theorem lm_flags : ∀ i, i < 2 → ((lmM i).accessFlags, (lmM i).name, (lmM i).sig.returnType) = (0x0001, "of", some FieldType.int) := lm_lt (by decide +kernel) (by decide +kernel)
theorem lm_17 : ∀ i, i < 2 → (lmF i).constantPool[17]? = some (.methodref 14 16) ∧ (lmF i).constantPool.className? 14 = some "QuorumAlmanac" ∧ (lmF i).constantPool.nameAndType? 16 = some (lmN i, "(LQuorumAlmanac$Node;)I") := lm_lt (by decide +kernel) (by decide +kernel)
theorem lm_itf : ∀ i, i < 2 → hasFlag (lmF i).accessFlags Acc.interface = false := lm_lt (by decide +kernel) (by decide +kernel)
theorem lm_14 : ∀ i, i < 2 → (lmF i).constantPool[14]? = some (.class_ 13) ∧ (lmF i).constantPool.string? 13 = some "QuorumAlmanac" ∧ 14 ≠ (lmF i).thisClass := lm_lt (by decide +kernel) (by decide +kernel)
theorem lm_made {vm : Vm} {d c : ClassId} {dk : Class} {i : Nat} (hi : i < 2) (hd : vm.classes[d]? = some dk) (hname : dk.name = "QuorumAlmanac") (h : Lambda.isMade { classPath := fun _ => none } vm d (lmS i) c = true) :
    ∃ (k tk : Class) (file : ClassFile) (methk : Method) (ck : Code) (toy iface : ClassId) (t found : MethodId),
      vm.classes[c]? = some k ∧ k.name = "QuorumAlmanac$$Lambda" ∧ k.isInterface = false ∧ k.cf = some file ∧ file.constantPool = (lmF i).constantPool ∧
      vm.method? ⟨c, 1⟩ = some methk ∧ methk.code = some ck ∧ ck.code = ⟨#[43, 184, 0, 17, 172]⟩ ∧ ck.maxLocals = 2 ∧ methk.locks = false ∧ methk.accessFlags = 0x0001 ∧ methk.sig.returnType = some .int ∧
      vm.findClass "QuorumAlmanac" = some toy ∧ vm.classes[toy]? = some tk ∧ ((methodIn toy (lmN i) "(LQuorumAlmanac$Node;)I" tk.isInterface none).ask { classPath := fun _ => none } vm).1 = .ok t ∧
      vm.methodReady c 17 t ∧ vm.classReady c 14 toy ∧ vm.findClass "QuorumAlmanac$Measure" = some iface ∧ ((methodIn iface "of" "(LQuorumAlmanac$Node;)I" true none).ask { classPath := fun _ => none } vm).1 = .ok found ∧ selectMethod {} vm c found = .method ⟨c, 1⟩ := by
  obtain ⟨dk', k, ok, tk, file, cf, object, iface, toy, lay, methods, target, found, hd', hk, hfile, hcf, -, hif, -, -, hms, ht, htk, hg, hfo, hrec, -, -, -, -, hpool, hmeth, -, -, hres, hsel⟩ := Lambda.isMade_spec h
  cases hd.symm.trans hd'
  have hF : (lmS i).file "QuorumAlmanac" = some (lmF i) := by
    obtain ⟨x, hx⟩ := Option.isSome_iff_exists.mp (lm_file i hi)
    simp [lmF, hx]
  rw [hname, hF] at hcf
  cases hcf
  have hM : methods[1]? = some (lmM i) := by
    obtain ⟨x, hx⟩ := Option.isSome_iff_exists.mp (lm_sec i hi)
    have hf : lmM i = x := by simp [lmM, hx]
    rw [hms] at hx
    rw [hf]
    exact hx
  obtain ⟨b, hb, hsame⟩ := hmeth 1 (lmM i) hM
  simp only [Lambda.sameMethod, Bool.and_eq_true, decide_eq_true_eq] at hsame
  obtain ⟨⟨hn, -, hsig, hfl⟩, hcode⟩ := hsame
  have fc := lm_code i hi
  have ff := lm_flags i hi
  simp only [Prod.mk.injEq] at ff
  obtain ⟨e1, e2, e3⟩ := lm_17 i hi
  obtain ⟨e4, e5, e6⟩ := lm_14 i hi
  cases hfc : (lmM i).code with
  | none => rw [hfc] at fc; cases fc
  | some x =>
    cases hbc : b.code with
    | none => simp [hfc, hbc] at hcode
    | some y =>
      simp only [hfc, hbc, Bool.and_eq_true, decide_eq_true_eq] at hcode
      simp only [hfc, Option.map_some, Option.some.injEq, Prod.mk.injEq] at fc
      refine ⟨k, tk, file, b, y, toy, iface, target, found, hk, by rw [hrec.1, hname]; rfl, ?_, hfile, hpool.2.1, by simp [Vm.method?, hk, hb], hbc, ?_, by rw [← hcode.1.1.1.1.2.1]; exact fc.2, ?_, by rw [← hfl]; exact ff.1, by rw [← hsig]; exact ff.2.2, ht, htk, hg,
        ⟨k, hk, hres 17 _ (Lambda.resolvedOf_method e1 e2 ht htk e3 hg)⟩, ⟨k, hk, hres 14 _ (Lambda.resolvedOf_class e4 e6 e5 ht)⟩, hif, hfo, hsel⟩
      · unfold Class.isInterface; rw [hrec.2.2.1]; exact lm_itf i hi
      · rw [← hcode.1.1.1.1.2.2]
        exact ByteArray.ext fc.1
      · simp [Method.locks, Method.isSynchronized, ← hfl, ff.1, hasFlag, Acc.synchronized]

theorem vx_lm {p : Program} {l : Launch} {e : Env} {R : Room} {s : State} {m : MethodId} {args : Array Value} {below : List Frame} {meth : Method} {c : Code} {T : State} {locs : List Loc} {cells slots : Nat} (X : Stand p l e R s m args below meth c T locs cells slots) (hexec : p.tables.exec = Jvm.exec) {own : String} {index count : Nat}
    (hown : s.vm.findClass own = some m.cls) (hlink : (Cond.methodLink own index ⟨"QuorumAlmanac$Measure", "of", "(LQuorumAlmanac$Node;)I"⟩).before args s = true) (hdecl : (Cond.declares ⟨"QuorumAlmanac$Measure", "of", "(LQuorumAlmanac$Node;)I"⟩).before args s = true) (hface : (Cond.interfaceMethod "QuorumAlmanac$Measure" "QuorumAlmanac$Measure" "of" "(LQuorumAlmanac$Node;)I").before args s = true)
    {i : Nat} (hi : i < 2) {d : ClassId} {dk : Class} (hd : s.vm.classes[d]? = some dk) (hdn : dk.name = "QuorumAlmanac") {a : Addr} {cell : Cell} (hcell : T.heap[a]? = some cell) (hobj : cell.vm = .none) (hmade : Lambda.isMade { classPath := fun _ => none } s.vm d (lmS i) cell.cls = true) (hcan : s.lambdaCallable (lmS i) cell.cls = true)
    {y : MethodName} {bytes : ByteArray} {maxL mc ms : Nat} {ws : List Cond} {rm : Room} {Pc : Array Value → State → Prop} {Qc : Array Value → State → Outcome → State → Prop} {XC : String → Nat → State → State → Prop} {free : Addr → Prop} (hy : y = ⟨"QuorumAlmanac", lmN i, "(LQuorumAlmanac$Node;)I"⟩)
    (hM : vx_Met l y ws rm Pc Qc XC mc ms free) (hbl : FrameBlind Pc) (hrc : rm.cells = mc) (hrs : rm.slots = ms) (hfr : rm.frames + 2 ≤ R.frames) (hlo : 8 + 13 + (8 + (maxL + 11) + rm.locals) ≤ R.locals) (hws : ∀ w ∈ ws, ∀ (a' : Array Value) (U : State), s.WarmedH U.vm → w.before a' U = true) (hcw : Cond.code y bytes maxL (some .int) ∈ ws)
    (hst : (Cond.static y).before args s = true) (hini : (Cond.initialized y.cls).before args s = true) (hf : cells + mc ≤ R.cells ∧ slots + ms ≤ R.slots) {node : Nat} (hpc : ∀ U : State, U.heap = T.heap → s.WarmedH U.vm → Pc #[.ref node] U) (hnt : ∀ E q st t, ¬ XC E q st t) (hvi : ∀ v st t, Qc #[.ref node] st (.returned v) t → ∃ r, v = some (.int r))
    {g : JFrame} (hg : g.method = m) (hsize : g.locals.size = c.maxLocals) {rest : List Value} (hstack : g.stack = .ref node :: .ref a :: rest) (hW : 2 * g.monitorRoom + (rest.map fun v => v.category).sum ≤ 8) (hdg : decode c.code g.pc = .ok (.invokeinterface index count, 5)) :
    ∃ (v : Option Value) (st₀ t T' : State) (L : List Loc), Stand p l e R s m args below meth c T' (locs ++ L) (cells + mc) (slots + ms) ∧ (∀ q ∈ L, free q.base) ∧ T'.heap = t.heap ∧ T'.vm = t.vm ∧ Qc #[.ref node] st₀ (.returned v) t ∧
      ∀ target, Steps p.tables e below (T'.setTop { g with pc := g.pc + 5, stack := v.toList ++ rest }) target → Steps p.tables e below (T.setTop g) target := by
  obtain ⟨r0, r, hn, hrm, hstR, hsigR⟩ := Cond.declares_spec hdecl
  obtain ⟨cL, kL, r1, hcL, hkL, hiL, hfoundL, hn1⟩ := Cond.interfaceMethod_spec hface
  cases hn.symm.trans hn1
  have hr0cls : r0.cls = cL := Option.some.inj ((findClass_of_methodNamed hn).symm.trans hcL)
  obtain ⟨hnameR, hdescR⟩ := name_of_methodNamed hn hrm
  obtain ⟨k, tk, file, methk, ck, toy, iface, t, found, hk, hkn, hki, hfile, hpool, hmk, hck, hbytes, hml, hlk, hfl, hretk, htoy, htk, hlook, hready, hclsR, hif, hfo, hsel⟩ := lm_made hi hd hdn hmade
  cases hcL.symm.trans hif
  have hfoundE : found = r0 := by
    have h1 := hfoundL
    simp only [State.methodFound?, hcL, hkL, hiL, hfo, Option.bind_eq_bind, Option.bind_some, Except.toOption] at h1
    exact Option.some.inj h1
  subst hfoundE
  have hselP : selectMethod e.platform s.vm cell.cls found = .method ⟨cell.cls, 1⟩ := by rw [Launch.admits_selectMethod X.admits]; exact hsel
  obtain ⟨i2, hi2, hasg, hway⟩ := State.lambdaCallable_spec hcan
  cases hi2.symm.trans hif
  have hlen0 : [Value.ref node].length = r.sig.parameters.length := by
    have h7 : parseMethodDescriptor "(LQuorumAlmanac$Node;)I" = some r.sig := hsigR
    have h8 : (parseMethodDescriptor "(LQuorumAlmanac$Node;)I").map (fun d => d.parameters.length) = some 1 := by decide +kernel
    rw [h7] at h8
    exact (Option.some.inj h8).symm
  obtain ⟨vm₁, X₁, hstep₁⟩ := X.invokeinterface hexec hown hlink hn hrm hstR (by rw [hr0cls]; exact hkL) hiL ⟨by decide, by decide⟩ (a := a) (cell := cell) (kcell := k) hcell
    (fun z h => by rw [h] at hobj; cases hobj) hk (by rw [hr0cls]; exact hasg) hselP hmk (by rw [hnameR, hdescR]; exact hway) (by rw [hfl]; decide) (by simp [Method.isAbstract, hfl, hasFlag, Acc.abstract]) (g := g) hg (argsL := [.ref node]) (rest := rest) hlen0 hstack hdg
  have hW1 := X₁.warmed
  obtain ⟨dk', hd', he⟩ := hW1.alike.2.2 _ _ hd
  have hdn' : dk'.name = "QuorumAlmanac" := by rw [he]; exact hdn
  have hT1 : (T.setVm vm₁).vm = vm₁ := rfl
  obtain ⟨k1, tk1, file1, methk1, ck1, toy1, -, t1, -, gk, gkn, -, gfile, gpool, gmk, gck, gbytes, gml, glk, gfl, gretk, gtoy, gtk, glook, gready, gclsR, -, -, -⟩ := lm_made hi hd' hdn' (Lambda.isMade_warmer hW1 hmade)
  have hpk : (T.setVm vm₁).plainMethod ⟨cell.cls, 1⟩ := State.plainMethod.of_name (fun k' hk' => by cases gk.symm.trans hk'; rw [gkn]; decide)
  have hg' : ({ g with stack := rest } : JFrame).method = m := hg
  have hsz' : ({ g with stack := rest } : JFrame).locals.size = c.maxLocals := hsize
  obtain ⟨Y₀, hin⟩ := X₁.into (g := { g with stack := rest }) hg' hsz' hdg #[.ref a, .ref node] (R' := { frames := rm.frames + 1, locals := 8 + (maxL + 11) + rm.locals, cells := mc, slots := ms }) gmk gck glk hpk hfr (by
    show 2 * g.monitorRoom + (rest.map fun v => v.category).sum + (ck1.maxLocals + 11) + (8 + (maxL + 11) + rm.locals) ≤ R.locals
    rw [gml]; omega) hf.1 hf.2
  generalize hS0 : (T.setVm vm₁).calling { g with stack := rest } ⟨cell.cls, 1⟩ #[.ref a, .ref node] = S0 at Y₀
  generalize hU0 : ((T.setVm vm₁).setTop { g with stack := rest }).pushFrame (.java (entryFrame ⟨cell.cls, 1⟩ #[.ref a, .ref node] ck1.maxLocals)) = U0 at Y₀ hin
  have hUvm : U0.vm = vm₁ := by rw [← hU0]; rfl
  have hUh : U0.heap = T.heap := by rw [← hU0]; rfl
  have hWS : s.WarmedH S0.vm := by rw [← hS0]; exact hW1
  have hws' : ∀ w ∈ ws, ∀ (a' : Array Value) (U : State), S0.WarmedH U.vm → w.before a' U = true := fun w hw a' U hU => hws w hw a' U (State.WarmedH.trans hWS hU)
  have hini' : ∀ (a' : Array Value) (U : State), S0.WarmedH U.vm → (Cond.initialized y.cls).before a' U = true := fun a' U hU => word_at (State.WarmedH.trans hWS hU) (Or.inl (by first | rfl | simp [Cond.onTables, Cond.keeps, Cond.steady])) hini
  have hst' : (Cond.static y).before args U0 = true := word_at (s := s) (by rw [hUvm]; exact hW1) (Or.inl (by first | rfl | simp [Cond.onTables, Cond.keeps, Cond.steady])) hst
  have hK := vx_back (l := l) (R := { frames := rm.frames + 1, locals := 8 + (maxL + 11) + rm.locals, cells := mc, slots := ms }) (p := p) (e := e) (below := .java { g with stack := rest } :: below) (s := S0) (sargs := #[.ref a, .ref node]) (len := 3) (W9 := 8) (bytes := bytes) (maxL := maxL) (ret := some .int) hM hbl hrc hrs (Nat.le_refl _) (Nat.le_refl _) hws' hcw hini'
  have hcodeU : (Cond.code y bytes maxL (some .int)).before args U0 = true := hws _ hcw args U0 (by rw [hUvm]; exact hW1)
  obtain ⟨my, hny⟩ : ∃ my, U0.methodNamed? y = some my := by
    cases h9 : U0.methodNamed? y with
    | none => simp [Cond.before, Cond.holds, Cond.value, h9] at hcodeU
    | some my => exact ⟨my, rfl⟩
  obtain ⟨methY, cY, hmY, hcY, hbY, hlY, hrY, hkY, -, hsY⟩ := Cond.code_spec hny hcodeU
  have hstY : methY.isStatic = true := Cond.static_spec hny hmY hst'
  have hfY := State.methodFound?_of_named hny (by rw [hy]; exact ⟨by show "QuorumAlmanac" ≠ _; decide, by show "QuorumAlmanac" ≠ _; decide⟩)
  have htY : t1 = my := by
    have gtoy' : U0.vm.findClass "QuorumAlmanac" = some toy1 := by rw [hUvm]; exact gtoy
    have gtk' : U0.vm.classes[toy1]? = some tk1 := by rw [hUvm]; exact gtk
    have glook' : ((methodIn toy1 (lmN i) "(LQuorumAlmanac$Node;)I" tk1.isInterface none).ask { classPath := fun _ => none } U0.vm).1 = .ok t1 := by rw [hUvm]; exact glook
    rw [hy] at hfY
    simp only [State.methodFound?, gtoy', gtk', glook', Option.bind_eq_bind, Option.bind_some, Except.toOption] at hfY
    exact Option.some.inj hfY
  subst htY
  have hcY2 : U0.vm.findClass "QuorumAlmanac" = some t1.cls := by have h9 := findClass_of_methodNamed hny; rw [hy] at h9; exact h9
  have htoyc : t1.cls = toy1 := by
    have gtoy' : U0.vm.findClass "QuorumAlmanac" = some toy1 := by rw [hUvm]; exact gtoy
    exact Option.some.inj (hcY2.symm.trans gtoy')
  have gtkU : U0.vm.classes[t1.cls]? = some tk1 := by rw [htoyc, hUvm]; exact gtk
  have htkn : tk1.name = "QuorumAlmanac" := by
    obtain ⟨kz, hkz, hnz⟩ := Vm.findClass_spec hcY2
    cases hkz.symm.trans gtkU
    exact hnz
  have htkmh : tk1.name ≠ "java/lang/invoke/MethodHandle" ∧ tk1.name ≠ "java/lang/invoke/VarHandle" := by rw [htkn]; exact ⟨by decide, by decide⟩
  have hinitY : tk1.init = .initialized := by
    have h9 := hini' args U0 (by have h10 := Y₀.warmed; exact h10)
    rw [hy] at h9
    exact Cond.initialized_spec hcY2 gtkU h9
  have hd0 : decode ck1.code 0 = .ok (.aload_n 1, 1) := by rw [gbytes]; decide +kernel
  have hd1 : decode ck1.code 1 = .ok (.invokestatic 17, 3) := by rw [gbytes]; decide +kernel
  have hd4 : decode ck1.code 4 = .ok (.ireturn, 1) := by rw [gbytes]; decide +kernel
  have hparY : 1 = methY.sig.parameters.length := by
    have h7 : parseMethodDescriptor "(LQuorumAlmanac$Node;)I" = some methY.sig := by rw [hy] at hsY; exact hsY
    have h8 : (parseMethodDescriptor "(LQuorumAlmanac$Node;)I").map (fun d => d.parameters.length) = some 1 := by decide +kernel
    rw [h7] at h8
    exact (Option.some.inj h8).symm
  rcases hK ⟨cell.cls, 1⟩ methk1 ck1 ⟨U0, [], 0, 0⟩ { method := ⟨cell.cls, 1⟩, pc := 1, locals := #[.val (.ref a), .val (.ref node)], stack := [], locked := none } (.invokestatic 17) t1 #[.ref node] Y₀ rfl (by rw [gml]; rfl) hd1 (by show 2 * 0 + 0 ≤ 8; omega) hny
    ⟨by show 0 + mc ≤ mc; omega, by show 0 + ms ≤ ms; omega, hpc U0 hUh (by rw [hUvm]; exact hW1)⟩ with ⟨v, B, Y₁, hpost, hsteps⟩ | ⟨q, B, Y₁, hpost, hsteps⟩
  · obtain ⟨U', l2, c2, s2⟩ := B
    obtain ⟨gy, mky, ty, L, e1, e2, hq, h1, hL, h2, h3⟩ := hpost
    dsimp only [Pt.U, Pt.locs, Pt.cells, Pt.slots] at Y₁ e1 e2 h1 h2 h3 hsteps hq
    obtain ⟨rr, hrr⟩ := hvi _ _ _ hq
    obtain ⟨fs, hleave, -, hended, hWe, hsame⟩ := Y₁.leave (v := v) (fun h => by rw [gretk] at h; cases h) glk
    have hWe' : ((T.setVm vm₁).calling { g with stack := rest } ⟨cell.cls, 1⟩ #[.ref a, .ref node]).WarmedH (U'.setFrames fs).vm := by rw [hS0]; exact hWe
    rw [← hS0] at hsame
    obtain ⟨T', X', hW', -, ht⟩ := X₁.outOf (g := { g with stack := rest }) hg' hdg hended hWe' hsame
    have hth : T'.heap = U'.heap := by
      have h9 := congrArg State.heap ht
      exact h9.symm
    have htv : T'.vm = U'.vm := by
      have h9 := congrArg State.vm ht
      exact h9.symm
    rw [h1, h2, h3, List.nil_append, Nat.zero_add, Nat.zero_add] at X'
    refine ⟨v, _, ty, T', L, X', hL, hth.trans e1, htv.trans e2, hq, fun target hh => hstep₁ _ fun acts => ?_⟩
    rw [hin acts]
    have ht' : U'.setFrames fs = T'.setTop { g with pc := g.pc + 5, stack := v.toList ++ rest } := ht
    rw [← ht'] at hh
    refine (Steps.weaken (mid := [.java { g with stack := rest }]) ?_).trans hh
    have hloc : entryFrame ⟨cell.cls, 1⟩ #[.ref a, .ref node] ck1.maxLocals = { method := ⟨cell.cls, 1⟩, pc := 0, locals := #[.val (.ref a), .val (.ref node)], stack := [], locked := none } := by rw [gml]; rfl
    rw [hloc]
    have hs : U0.topJava?.isSome := Y₀.here.top
    show Steps p.tables e (.java { g with stack := rest } :: below) _ _
    have gclsR' : U0.vm.classReady cell.cls 14 t1.cls := by rw [hUvm, htoyc]; exact gclsR
    have gready' : U0.vm.methodReady cell.cls 17 t1 := by rw [hUvm]; exact gready
    have gkU : U0.vm.classes[cell.cls]? = some k1 := by rw [hUvm]; exact gk
    obtain ⟨z1, z2, z3⟩ := lm_17 i hi
    obtain ⟨bb, hmem⟩ := memberRef_ask' (e := e) (vm := U0.vm) (d := cell.cls) (index := 17) gkU gfile (Or.inl (by rw [gpool]; exact z1)) (by rw [gpool]; exact z3)
    have href : plainRef U0 e cell.cls 17 := ⟨14, _, _, bb, t1.cls, tk1, hmem, gclsR', gtkU, by
      rw [Array.any_eq_false]
      intro j hj
      simp [signaturePolymorphic_of_name htkmh]⟩
    jvm_step Y₀.here [hs, hexec, hd0, Value.isRef]
    jvm_step Y₀.here [hs, hexec, hd1, invokestatic.wp_ready (e := e) (s := U0) (m := t1) (k := tk1) (meth := methY) (args := [.ref node]) (rest := [])
      (f := { method := ⟨cell.cls, 1⟩, pc := 1, locals := #[.val (.ref a), .val (.ref node)], stack := [.ref node], locked := none }) hs href gready' gtkU hmY (signaturePolymorphic_of_name htkmh _) hstY hinitY hparY rfl]
    intro acts'
    rw [doInvoke_state]
    refine hsteps.trans ?_
    subst hrr
    show Steps p.tables e (.java { g with stack := rest } :: below) (U'.setTop { method := ⟨cell.cls, 1⟩, pc := 4, locals := #[.val (.ref a), .val (.ref node)], stack := [.int rr], locked := none }) _
    jvm_step Y₁.here [Y₁.here.top, hexec, hd4, (show U'.vm.method? ⟨cell.cls, 1⟩ = some methk1 from Y₁.method'), gretk, narrow]
    intro acts''
    rw [hleave { method := ⟨cell.cls, 1⟩, pc := 4, locals := #[.val (.ref a), .val (.ref node)], stack := [], locked := none } acts'' rfl rfl rfl]
    exact Steps.refl _
  · obtain ⟨gy, mky, ty, L, E, ce, e1, e2, hx, -⟩ := hpost
    exact absurd hx (hnt _ _ _ _)
def lmO : MethodName := ⟨"QuorumAlmanac$Measure", "of", "(LQuorumAlmanac$Node;)I"⟩
section
variable {α : Type} {G : GT} {X : XT} {σ0 : Sg} {own : String} {cc : ByteArray} {nL : Nat} {rT : Option FieldType} {FR LO : Nat} {mn : String} {tb : List ExceptionTableEntry} {rv : α → Option Value} {pc : Nat} {lv : List (Nat × Value)} {rest : List Value}
theorem lm_at (hX : CxOk G X own cc nL rT FR LO mn tb) {σ : Sg} {H : Heap} (hW : Wd G σ H) {i : Nat} (hi : i < 2) :
    ∃ (a : Nat) (m0 : MethodId) (k : Class) (i0 p0 : Nat) (cell : Cell), st σ (10 + i) = .ref a ∧ X.2.2.2.1.methodNamed? ⟨"QuorumAlmanac", "<init>", "(I)V"⟩ = some m0 ∧ X.2.2.2.1.vm.classes[m0.cls]? = some k ∧ k.name = "QuorumAlmanac" ∧ (k.callSites.find? fun y => y.1 == m0.idx && y.2.1 == lmPc i) = some (i0, p0, .constant a) ∧
      H[a]? = some cell ∧ cell.vm = .none ∧ Lambda.isMade { classPath := fun _ => none } X.2.2.2.1.vm m0.cls (lmS i) cell.cls = true ∧ X.2.2.2.1.lambdaCallable (lmS i) cell.cls = true := by
  obtain ⟨c, a, h1, h2⟩ := hW.2.2.2.2.2.2.2 i hi
  obtain ⟨m0, k, cf, i0, p0, l, hm0, hk, -, -, -, hfind, hmade, hcall, hl⟩ := State.lambdaAt?_spec h2
  have hWm : G.2.1.WarmedH X.2.2.2.1.vm := hX.2.2.2.2.2.2.2.2.1
  obtain ⟨k', hk', he⟩ := hWm.alike.2.2 _ _ hk
  have hn : X.2.2.2.1.methodNamed? ⟨"QuorumAlmanac", "<init>", "(I)V"⟩ = some m0 := by
    have h := State.methodNamed?_setVm (s := G.2.1) hWm.alike ⟨"QuorumAlmanac", "<init>", "(I)V"⟩
    rw [hm0] at h
    exact h
  obtain ⟨kn, hkn, hnn⟩ := className_of_methodNamed hn
  cases hkn.symm.trans hk'
  have hcall' : X.2.2.2.1.lambdaCallable (lmS i) c = true := by
    have hA := hWm.alike
    simp only [State.lambdaCallable, hA.findClass, hA.assignable, hA.superclasses, hA.declaredIn] at hcall ⊢
    exact hcall
  rcases hl with ⟨a', cell, rfl, h3, -, hcell, rfl, hvm, -⟩ | ⟨-, -, h3⟩
  · cases h3
    have hlt : a < gb G := (Array.getElem?_eq_some_iff.mp hcell).1
    exact ⟨a, m0, k', i0, p0, cell, h1, hn, hk', hnn, by rw [he]; exact hfind, (hW.2.1 a hlt).trans hcell, hvm, Lambda.isMade_warmer hWm hmade, hcall'⟩
  · exact absurd rfl h3
theorem Ex_indy {i index : Nat} {kk : Nat → Ms α} (hi : i < 2) (hown : own = "QuorumAlmanac") (hmn : mn = "<init>") (hpc : pc = lmPc i) (hdg : decode cc pc = .ok (.invokedynamic index, 5)) (hlo : (rest.map fun v => v.category).sum + 3072 ≤ LO)
    (k : ∀ v : Nat, Ex G X σ0 own cc nL rT FR LO mn tb rv (pc + 5) lv (.ref v :: rest) (kk v)) : Ex G X σ0 own cc nL rT FR LO mn tb rv pc lv rest (gsR (10 + i) kk) := by
  refine ⟨fun σ o σ' e => ?_, fun hX σ o σ' e hcc hss g1 g2 g3 H locs ls hW hlo' hv => ?_⟩
  · unfold gsR gs at e
    cases h : st σ (10 + i) with
    | ref x => rw [h] at e; exact (k x).1 σ o σ' e
    | _ => rw [h] at e; cases e
  · obtain ⟨a, m0, kc, i0, p0, cell, h1, hn, hk, -, hfind, -⟩ := lm_at hX hW hi
    obtain ⟨-, y, hy1, hy2, hy3, hy4⟩ := hX.2.2.2.2.2.2.2.2.2.2.2.2.2.1 hmn
    have hy : y = ⟨"QuorumAlmanac", "<init>", "(I)V"⟩ := by
      obtain ⟨yc, yn, yd⟩ := y
      dsimp only at hy1 hy2
      subst hy1; subst hy2
      rw [hown, hmn] at hy3 ⊢
      have h9 : yd = "(I)V" := by simpa [oneD] using hy3
      rw [h9]
    rw [hy] at hy4
    obtain rfl : m0 = X.2.2.2.2.1 := Option.some.inj (hn.symm.trans hy4)
    have e' : kk a σ = some (o, σ') := by
      have h9 : gsR (10 + i) kk σ = kk a σ := by unfold gsR gs; rw [h1]
      rw [← h9]; exact e
    intro T hT X0
    obtain ⟨t, a1, b1⟩ := (k a).2 hX σ o σ' e' hcc hss g1 g2 g3 H locs ls hW hlo' hv T hT X0
    refine ⟨t, ?_, b1⟩
    have hwords : 2 * (F0 X.2.2.2.2.1 pc ls rest).monitorRoom + ((F0 X.2.2.2.2.1 pc ls rest).stack.map fun v => v.category).sum + X.2.1.platform.lambdaLinkWords ≤ X.2.2.1.locals := by
      rw [X0.admits.platform]
      show 2 * 0 + (rest.map fun v => v.category).sum + 3072 ≤ _
      have h9 := Nat.le_trans hlo hX.2.2.2.2.2.2.2.2.2.2.1
      omega
    exact X0.lambdaConstant hX.2.1 (g := F0 X.2.2.2.2.1 pc ls rest) rfl (by rw [hX.2.2.2.1]; exact hv.1) (by rw [hX.2.2.1]; exact hdg) hk (by rw [show (F0 X.2.2.2.2.1 pc ls rest).pc = lmPc i from hpc]; exact hfind) hwords a1
theorem inv_lm {i : Nat} (hi : i < 2) {y : MethodName} {bytes : ByteArray} {maxL fr lo index count node recv : Nat} {f : Ms Int32} (hC : Cal G y (ws_ y bytes maxL (some .int)) fr lo [.ref node] rI f) (hy : y = ⟨"QuorumAlmanac", lmN i, "(LQuorumAlmanac$Node;)I"⟩)
    (h1 : Cond.methodLink own index lmO ∈ lw_all) (h2 : Cond.declares lmO ∈ lw_tbl) (h3 : Cond.interfaceMethod lmO.cls lmO.cls lmO.name lmO.desc ∈ lw_tbl) (h4 : Cond.static y ∈ lw_all) (h5 : Cond.initialized y.cls ∈ lw_all) (h6 : Cond.code y bytes maxL (some .int) ∈ lw_all)
    (hfr : fr + 2 ≤ FR) (hlo : 8 + 13 + (8 + (maxL + 11) + lo) ≤ LO) (hdg : decode cc pc = .ok (.invokeinterface index count, 5)) (hcat : (rest.map fun v => v.category).sum ≤ 8)
    (hX : CxOk G X own cc nL rT FR LO mn tb) {σ σ' : Sg} {v : Int32} {H : Heap} {locs : List Loc} {cells slots : Nat} {ls : Array Slot} (hr : st σ (10 + i) = .ref recv) (e : f σ = some (.inl v, σ')) (hW : Wd G σ H) (hs : ls.size = nL) (hc1 : cells + (nx σ' - nx σ) ≤ X.2.2.1.cells) (hc2 : slots + (su σ' - su σ) ≤ X.2.2.1.slots) :
    RunN 5 G X H locs cells slots (nx σ' - nx σ) (su σ' - su σ) pc ls (.ref node :: .ref recv :: rest) rest (Qend G rI (.inl v) σ' #[]) (Xend G (.inl v : Int32 ⊕ (Nat × Nat)) σ') := by
  intro T hT X0
  obtain ⟨a, m0, kc, i0, p0, cell, q1, hn, hk, hkn, -, hcell, hvm, hmade, hcall⟩ := lm_at hX hW hi
  cases hr.symm.trans q1
  obtain ⟨p1, p2⟩ := pre_of hX hW [.ref node]
  have hdeclS := cx_tbl hX h2 rfl
  have hfaceS : (Cond.interfaceMethod lmO.cls lmO.cls lmO.name lmO.desc).before X.2.2.2.2.2.1 X.2.2.2.1 = true := by
    have g0 := gok_word hX.1 h3
    obtain ⟨r, meth, hnr, -⟩ := Cond.declares_spec (gok_word hX.1 h2)
    have hA := cx_alike hX
    have g1 : (Cond.interfaceMethod "QuorumAlmanac$Measure" "QuorumAlmanac$Measure" "of" "(LQuorumAlmanac$Node;)I").before #[.ref G.2.2.1] (G.2.1.setVm X.2.2.2.1.vm) = true := by
      rw [Cond.interfaceMethod_setVm hA (r := r) hnr ⟨by decide, by decide⟩]; exact g0
    have e9 := Cond.onTables_vm (A := #[.ref G.2.2.1]) (A' := X.2.2.2.2.2.1) (U := G.2.1) (U' := X.2.2.2.1) X.2.2.2.1.vm (Cond.interfaceMethod lmO.cls lmO.cls lmO.name lmO.desc) rfl
    have hU : X.2.2.2.1.setVm X.2.2.2.1.vm = X.2.2.2.1 := rfl
    rw [hU] at e9
    rw [← e9]
    exact g1
  obtain ⟨w, st0, t, T', L, X', hL, e1, e2, hq, hst⟩ := vx_lm X0 hX.2.1 (own := own) (index := index) (count := count) hX.2.2.2.2.1 (cx_word hX h1) hdeclS hfaceS hi hk hkn (a := recv) (cell := cell) (by rw [hT]; exact hcell) hvm hmade hcall
    (y := y) (bytes := bytes) (maxL := maxL) hy (hC.2 σ _ σ' e) p1 rfl rfl (by show fr + 2 ≤ _; exact Nat.le_trans hfr hX.2.2.2.2.2.2.2.2.2.1) (Nat.le_trans hlo hX.2.2.2.2.2.2.2.2.2.2.1) (pay_in hX.2.2.2.2.2.1 (lw_meth h6)) List.mem_cons_self (cx_word hX h4) (cx_word hX h5) ⟨hc1, hc2⟩ (node := node)
    (fun U hU hWm => p2 U (hU.trans hT) hWm) (fun E q st t hx => by obtain ⟨k, hk, -⟩ := hx; cases hk) (fun w st t hq => by obtain ⟨v', hv', ho, -⟩ := hq; cases ho; exact ⟨v', rfl⟩)
    (g := F0 X.2.2.2.2.1 pc ls (.ref node :: .ref recv :: rest)) rfl (by rw [hX.2.2.2.1]; exact hs) (rest := rest) rfl (by show 2 * 0 + _ ≤ 8; omega) (by rw [hX.2.2.1]; exact hdg)
  exact Or.inl ⟨w, st0, t, T', L, X', hL, e1, e2, hq, fun target h => hst target h⟩
/-- an object that stands for what is asked of a node -/
def isR (v : Value) (r : Nat) : Bool := match v with
  | .ref x => x == r
  | _ => false
def only (m : Ms Int32) : Ms Int32 := fun σ => match m σ with
  | some (.inl v, σ') => some (.inl v, σ')
  | _ => none
def mof (m0 m1 : Nat → Ms Int32) (recv node : Nat) : Ms Int32 := fun σ => if isR (st σ 10) recv = true then only (m0 node) σ else if isR (st σ 11) recv = true then only (m1 node) σ else none
theorem isR_eq {v : Value} {r : Nat} (h : isR v r = true) : v = .ref r := by
  cases v with
  | ref x => simp [isR] at h; rw [h]
  | _ => simp [isR] at h
theorem only_inv {m : Ms Int32} {σ σ' : Sg} {o : Int32 ⊕ (Nat × Nat)} (h : only m σ = some (o, σ')) : ∃ v, o = .inl v ∧ m σ = some (.inl v, σ') := by
  unfold only at h
  split at h
  · rename_i v s' e
    cases h
    exact ⟨v, rfl, e⟩
  · cases h
theorem Inv_of {index count recv node : Nat} {y0 y1 : MethodName} {b0 b1 : ByteArray} {f0 l0 f1 l1 : Nat} {m0 m1 : Nat → Ms Int32} (hC0 : Cal G y0 (ws_ y0 b0 1 (some .int)) f0 l0 [.ref node] rI (m0 node)) (hC1 : Cal G y1 (ws_ y1 b1 1 (some .int)) f1 l1 [.ref node] rI (m1 node)) (hy0 : y0 = ⟨"QuorumAlmanac", lmN 0, "(LQuorumAlmanac$Node;)I"⟩) (hy1 : y1 = ⟨"QuorumAlmanac", lmN 1, "(LQuorumAlmanac$Node;)I"⟩)
    (h1 : Cond.methodLink own index lmO ∈ lw_all) (h2 : Cond.declares lmO ∈ lw_tbl) (h3 : Cond.interfaceMethod lmO.cls lmO.cls lmO.name lmO.desc ∈ lw_tbl) (h4 : Cond.static y0 ∈ lw_all) (h4' : Cond.static y1 ∈ lw_all) (h5 : Cond.initialized "QuorumAlmanac" ∈ lw_all) (h6 : Cond.code y0 b0 1 (some .int) ∈ lw_all) (h6' : Cond.code y1 b1 1 (some .int) ∈ lw_all)
    (hfr : f0 + 2 ≤ FR) (hfr' : f1 + 2 ≤ FR) (hlo : 41 + l0 ≤ LO) (hlo' : 41 + l1 ≤ LO) (hdg : decode cc pc = .ok (.invokeinterface index count, 5)) (hcat : (rest.map fun v => v.category).sum ≤ 8) : Inv G X own cc nL rT FR LO mn tb 5 pc (.ref node :: .ref recv :: rest) rest rI (mof m0 m1 recv node) := by
  refine ⟨fun σ o σ' e => ?_, fun hX σ o σ' H locs cells slots ls e hW hs hc1 hc2 => ?_⟩
  · unfold mof at e
    by_cases i0 : isR (st σ 10) recv = true
    · rw [if_pos i0] at e
      obtain ⟨v, -, e2⟩ := only_inv e
      exact hC0.1 X σ _ σ' e2
    · rw [if_neg i0] at e
      by_cases i1 : isR (st σ 11) recv = true
      · rw [if_pos i1] at e
        obtain ⟨v, -, e2⟩ := only_inv e
        exact hC1.1 X σ _ σ' e2
      · rw [if_neg i1] at e; cases e
  · unfold mof at e
    by_cases i0 : isR (st σ 10) recv = true
    · rw [if_pos i0] at e
      obtain ⟨v, rfl, e2⟩ := only_inv e
      exact inv_lm (i := 0) (by decide) hC0 hy0 h1 h2 h3 h4 (by rw [hy0]; exact h5) h6 hfr (by omega) hdg hcat hX (isR_eq i0) e2 hW hs hc1 hc2
    · rw [if_neg i0] at e
      by_cases i1 : isR (st σ 11) recv = true
      · rw [if_pos i1] at e
        obtain ⟨v, rfl, e2⟩ := only_inv e
        exact inv_lm (i := 1) (by decide) hC1 hy1 h1 h2 h3 h4' (by rw [hy1]; exact h5) h6' hfr' (by omega) hdg hcat hX (isR_eq i1) e2 hW hs hc1 hc2
      · rw [if_neg i1] at e; cases e
end
/-- by a table -/
def tsw {β : Type} (n : Nat) (x : Int32) (f : Nat → Ms β) (d : Ms β) : Ms β := fun σ => if 0 ≤ x.toInt ∧ x.toInt < n then f x.toInt.toNat σ else d σ
theorem Ex_ts {α : Type} {G : GT} {X : XT} {σ0 : Sg} {own : String} {cc : ByteArray} {nL : Nat} {rT : Option FieldType} {FR LO : Nat} {mn : String} {tb : List ExceptionTableEntry} {rv : α → Option Value} {pc : Nat} {lv : List (Nat × Value)} {rest : List Value} {dflt hi : Int} {offs : Array Int} {len td n : Nat} {x : Int32} {f : Nat → Ms α} {md : Ms α}
    (hdg : decode cc pc = .ok (.tableswitch dflt 0 hi offs, len)) (hn : hi + 1 = (n : Int)) (hd : (pc : Int) + dflt = (td : Int)) (ed : Ex G X σ0 own cc nL rT FR LO mn tb rv td lv rest md)
    (hc : ∀ i, i < n → ∃ (off : Int) (tgt : Nat), offs[i]? = some off ∧ (pc : Int) + off = (tgt : Int) ∧ Ex G X σ0 own cc nL rT FR LO mn tb rv tgt lv rest (f i)) : Ex G X σ0 own cc nL rT FR LO mn tb rv pc lv (.int x :: rest) (tsw n x f md) := by
  refine ⟨fun σ o σ' e => ?_, fun hX σ o σ' e hcc hs g1 g2 g3 H locs ls hW hl hv => ?_⟩
  · unfold tsw at e
    by_cases h : 0 ≤ x.toInt ∧ x.toInt < n
    · rw [if_pos h] at e
      obtain ⟨off, tgt, -, -, k⟩ := hc x.toInt.toNat (by omega)
      exact k.1 σ o σ' e
    · rw [if_neg h] at e; exact ed.1 σ o σ' e
  · unfold tsw at e
    by_cases h : 0 ≤ x.toInt ∧ x.toInt < n
    · rw [if_pos h] at e
      obtain ⟨off, tgt, h1, h2, k⟩ := hc x.toInt.toNat (by omega)
      exact lv_tableIn hX.2.1 hX.2.2.1 hdg (by omega) (by omega) (by rw [Int.sub_zero]; exact h1) h2 (k.2 hX σ o σ' e hcc hs g1 g2 g3 H locs ls hW hl hv)
    · rw [if_neg h] at e
      exact lv_tableOut hX.2.1 hX.2.2.1 hdg (by omega) hd (ed.2 hX σ o σ' e hcc hs g1 g2 g3 H locs ls hW hl hv)
