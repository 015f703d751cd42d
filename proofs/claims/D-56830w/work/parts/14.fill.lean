section FILL
theorem vx_left {c : Cell} {t : ThreadId} (ho : c.monitor.owner = none) (hc : c.monitor.count = 0) (i : Nat) (v : Value) : ((c.withEntry t).setSlot i v).left = c.setSlot i v := by
  obtain ⟨cls, slots, ⟨owner, count, waitSet⟩, hash, vm⟩ := c
  simp only at ho hc
  subst ho; subst hc
  simp [Cell.left, Cell.withEntry, Cell.setSlot]
theorem vx_fillRooms {e : Env} {V : State} {g : JFrame} (htop : V.topJava?.isSome) (fm : MethodId) (self : Addr) (cell : Cell)
    {lim : Nat × Nat} (hlim : e.platform.stackLimits V.me = lim) (hframes : V.frames.length + 1 < lim.1) (hwords : (stackUse (.java g :: V.frames.tail)).2 + 41 ≤ lim.2) :
    e.platform.stackFull (((V.setTop g).threads[(V.setTop g).cur]?).getD { frames := [] }) (V.setTop g).frames (1 + 2) = false ∧
    e.platform.stackFull ((((fillInside V g fm self cell).setTop (fillJ fm self 16 [])).threads[((fillInside V g fm self cell).setTop (fillJ fm self 16 [])).cur]?).getD { frames := [] }) ((fillInside V g fm self cell).setTop (fillJ fm self 16 [])).frames (nativeFrameWords "java/lang/Throwable" "fillInStackTrace" 2) = false := by
  obtain ⟨g₀, hg⟩ := Option.isSome_iff_exists.mp htop
  obtain ⟨tl, htl⟩ := State.topJava?_eq_some.mp hg
  have hlen : V.frames.length = (Frame.java g :: V.frames.tail).length := by rw [htl]; rfl
  have hfg : (V.setTop g).frames = .java g :: V.frames.tail := by rw [State.frames_setTop _ htl, htl]; rfl
  have hlimg : e.platform.stackLimits (V.setTop g).me = lim := by rw [State.stackLimits_setTop _ htop]; exact hlim
  have hroom := roomAbove (pl := e.platform) (u := V.setTop g) (vars := 1 + 2) (pushed := []) (base := .java g :: V.frames.tail) (free := 41) (lim := lim) hfg hlimg (by rw [← hlen]; simp only [List.length_nil]; omega) hwords (by simp only [stackUse_nil]; omega)
  have htopE : (V.setCell self (cell.withEntry V.cur)).topJava?.isSome := htop
  have hfF : (fillInside V g fm self cell).frames = .java (entryFrameSync fm #[.ref self] 1 self) :: .java g :: V.frames.tail := frames_entered (g := g) htopE _
  have htopF : (fillInside V g fm self cell).topJava?.isSome := by rw [State.topJava?_of_frames hfF]; rfl
  have hlimF : e.platform.stackLimits (fillInside V g fm self cell).me = lim := by
    rw [State.stackLimits_pushFrame, State.stackLimits_setTop _ htopE]; exact hlim
  have hw : (stackUse [Frame.java (fillJ fm self 16 [])]).2 = 14 := by
    rw [stackUse_java, stackUse_nil]; simp [operandWords]
  have hroomN := roomAbove (pl := e.platform) (u := (fillInside V g fm self cell).setTop (fillJ fm self 16 [])) (vars := nativeFrameWords "java/lang/Throwable" "fillInStackTrace" 2)
      (pushed := [.java (fillJ fm self 16 [])]) (base := .java g :: V.frames.tail) (free := 41) (lim := lim) (State.frames_setTop _ hfF) (by rw [State.stackLimits_setTop _ htopF]; exact hlimF)
      (by rw [← hlen]; simp only [List.length_cons, List.length_nil]; omega) hwords (by rw [hw]; decide)
  exact ⟨hroom, hroomN⟩
theorem vx_fill {p : Program} {l : Launch} {e : Env} {R : Room} {s : State} {m : MethodId} {args : Array Value} {below : List Frame} {meth : Method} {c : Code} {T0 : State} {locs : List Loc} {cells slots : Nat} (X : Stand p l e R s m args below meth c T0 locs cells slots) (hexec : p.tables.exec = Jvm.exec) (htr : e.platform.stackTraces = false)
    (hown : s.vm.findClass Bundle.tN = some m.cls) {cls : String} {n : Nat} (h : ∀ w ∈ Bundle.throwableAtoms, w.before args s = true) (hb1 : (Cond.fieldLink Bundle.tN 198 Bundle.tN "backtrace" "Ljava/lang/Object;").before args s = true) (hb2 : (Cond.lays Bundle.tN Bundle.tN "backtrace" "Ljava/lang/Object;").before args s = true)
    (hs0 : (Cond.selects cls Bundle.tFill0 Bundle.tFill0).before args s = true) (hs1 : (Cond.selects cls Bundle.tFill Bundle.tFill).before args s = true) (hlS : (Cond.lays cls Bundle.tN "stackTrace" Bundle.steD).before args s = true) (hins : (Cond.instantiable cls n).before args s = true) (hsame : (Cond.sameMethod Bundle.tN Bundle.tN Bundle.tFill.name Bundle.tFill.desc).before args s = true)
    {a : Addr} {cell : Cell} (hfX : s.vm.findClass cls = some cell.cls) (hcell : T0.heap[a]? = some cell) (hvm : cell.vm = .none) (ho : cell.monitor.owner = none) (hc : cell.monitor.count = 0)
    {u0 : Value} (hu : u0.isRef = true) (hvS : ∀ x, s.fieldFound? Bundle.tN "stackTrace" Bundle.steD = some x → cell.slots[x.2.2.2.slot]? = some u0) (hvB : ∀ x, s.fieldFound? Bundle.tN "backtrace" "Ljava/lang/Object;" = some x → cell.slots[x.2.2.2.slot]? = some .null)
    {A : Nat → Prop} (hZ : va_Z Bundle.tN "UNASSIGNED_STACK" Bundle.steD u0 A s T0.heap)
    {g : JFrame} (hg : g.method = m) (hsize : g.locals.size = c.maxLocals) {rest : List Value} (hstack : g.stack = .ref a :: rest) (hdg : decode c.code g.pc = .ok (.invokevirtual 27, 3))
    (hRf : 1 < R.frames) (hRl : 2 * g.monitorRoom + (rest.map fun v => v.category).sum + 41 ≤ R.locals) :
    ∃ (vm' : Vm) (fS : Field), (∃ x, s.fieldFound? Bundle.tN "stackTrace" Bundle.steD = some x ∧ x.2.2.2 = fS) ∧ Stand p l e R s m args below meth c ((T0.setVm vm').setCell a (cell.setSlot fS.slot u0)) (locs ++ [⟨a, fS.slot⟩]) cells slots ∧
      ∀ target, Steps p.tables e below (((T0.setVm vm').setCell a (cell.setSlot fS.slot u0)).setTop { g with pc := g.pc + 3, stack := .ref a :: rest }) target → Steps p.tables e below (T0.setTop g) target := by
  have howns : e.platform.frameOwnsMonitors = true := by rw [X.admits.platform]
  have hfin : e.platform.finalization = false := by rw [X.admits.platform]
  have hpl : e.platform.magicAccessors = ({} : Platform).magicAccessors := by rw [X.admits.platform]
  obtain ⟨T, Z, L, LZ, Y⟩ := ThrowableC.of_atoms (args := args) howns hfin hpl h
  have hTm : m.cls = T.cT := Option.some.inj (hown.symm.trans Y.found)
  obtain ⟨ci198, i198, fB, hk198, hg198, ha198, hsB, -, hnB, htB, hffB⟩ := Cond.ownField (t := .object "java/lang/Object") Y.found L.cls (by decide +kernel) hb1 hb2 e.platform hpl
  obtain ⟨c1, kX, hc1, hk, hord, -, -, -⟩ := Cond.instantiable_spec hins
  cases hc1.symm.trans hfX
  have hsel0 : selectMethod e.platform s.vm cell.cls T.fill0 = .method T.fill0 := by
    obtain ⟨c2, r2, m2, q1, q2, q3, q4, -⟩ := Cond.selects_spec hs0
    cases q1.symm.trans hfX
    cases Option.some.inj (q2.symm.trans (State.methodFound?_of_named Y.fill0 (by decide)))
    cases Option.some.inj (q3.symm.trans Y.fill0)
    rw [Launch.admits_selectMethod X.admits]; exact q4
  have hselF : selectMethod e.platform s.vm cell.cls T.fill = .method T.fill := by
    obtain ⟨c2, r2, m2, q1, q2, q3, q4, -⟩ := Cond.selects_spec hs1
    cases q1.symm.trans hfX
    cases Option.some.inj (q2.symm.trans (State.methodFound?_of_named Y.fill (by decide)))
    cases Option.some.inj (q3.symm.trans Y.fill)
    rw [Launch.admits_selectMethod X.admits]; exact q4
  obtain ⟨cf, kf, fi, f, aS, cellS, z1, z2, z3, z4, z5, z6, z7, -⟩ := hZ
  obtain ⟨rfl, rfl, rfl, rfl⟩ : cf = T.cT ∧ kf = T.kT ∧ fi = T.i13 ∧ f = T.fUnassigned := by
    have := z1.symm.trans Y.unassigned
    cases this
    exact ⟨rfl, rfl, rfl, rfl⟩
  obtain rfl : aS = T.aS := Option.some.inj (z4.symm.trans L.statics)
  have hneS : T.aS ≠ a := fun hh => by
    rw [hh] at z5
    cases z5.symm.trans hcell
    rw [hvm] at z6
    cases z6
  have hknownS : cellS.vm ≠ .unknown := fun hh => by rw [hh] at z6; cases z6
  have hvS' := hvS _ Y.stack
  have hvB' := hvB _ hffB
  dsimp only at hvS' hvB'
  obtain ⟨tyS, -⟩ := Cond.laysAt hfX hk Y.stack hlS
  have htS : Takes s cell T.fStack u0 := by
    refine ⟨(Array.getElem?_eq_some_iff.mp hvS').1, ?_⟩
    have hf : fits T.fStack.type u0 = true := by rw [Y.stackType]; exact fits_refV_array _ ⟨u0, hu⟩
    simp [State.fitsSlot, State.slotType?, hk, hord, tyS, hf, hvm]
  have hobj : ∀ k, cell.vm ≠ .statics k := fun k => by rw [hvm]; intro hh; cases hh
  have hknown : cell.vm ≠ .unknown := by rw [hvm]; intro hh; cases hh
  obtain ⟨vm₁, X₁, hstep₁⟩ := X.invokevirtualUp hexec (own := Bundle.tN) (x := Bundle.tFill) (owner := Bundle.tN) hown (h (.methodLink Bundle.tN 27 Bundle.tFill) (by simp [Bundle.throwableAtoms])) hsame ⟨by decide, by decide⟩ Y.fill (L.method L.fillAt) L.fillStatic (a := a) (cell := cell) hcell
    hobj hselF (L.method L.fillAt) L.fillAbstract L.cls L.notInterface (g := g) hg (argsL := []) (rest := rest) (by rw [L.fillParams]; rfl) hstack hdg
  have hA : At (T0.setVm vm₁) ({ g with stack := rest } : JFrame).method c below := by
    show At (T0.setVm vm₁) g.method c below
    rw [hg]; exact X₁.here
  have hsz : ({ g with stack := rest } : JFrame).locals.size = c.maxLocals := hsize
  have hfr := X₁.framesAbove hRf
  have hwd := X₁.stackAbove hsz (K := 41) hRl
  have hrooms := fun vm => vx_fillRooms (e := e) (V := (T0.setVm vm₁).setVm vm) (g := { g with stack := rest }) hA.top T.fill a cell rfl hfr hwd
  obtain ⟨vm₂, hW₂, st⟩ := Steps.fillColdAnyV p (V := T0.setVm vm₁) (g := { g with stack := rest }) (c := c) (self := a) hA hexec T L X₁.warmed (Nn := fun u => u) heapOnly_id (fun _ _ => rfl) (fun _ => rfl) (fun u x y => setCell_twice _ _ _ _) (cell := cell) (cellS := cellS) (cN := cell.withEntry (T0.setVm vm₁).cur)
    (u0 := ⟨u0, hu⟩) (ig := .invokevirtual 27) (len := 3) [] hcell hobj hknown (Or.inl ho) hvS' hsel0 z5 hneS hknownS z7 (fun _ hh => hh) (fun _ hh => hh) rfl rfl rfl rfl htS hdg
    (fun _ vm1 hW1 hAt t' hs => L.nativeOff p htr hAt hW1 (hrooms vm1).2 hs) (hrooms vm₁).1
    ⟨{ ci198 := ci198, i198 := i198, fBack := fB }, ⟨hk198, hg198, ha198, hsB⟩, hvB', fun _ _ => rfl⟩
  have e1 : ((cell.withEntry (T0.setVm vm₁).cur).setSlot T.fStack.slot u0).left = cell.setSlot T.fStack.slot u0 := vx_left ho hc _ _
  refine ⟨vm₂, T.fStack, ⟨_, Y.stack, rfl⟩, (X₁.noted hW₂).stored hcell T.fStack.slot u0, fun target hh => hstep₁ _ fun acts => ?_⟩
  rw [doInvoke_state]
  refine st target ?_
  dsimp only
  rw [e1]
  exact hh
theorem vx_getCause {p : Program} {l : Launch} {e : Env} {R : Room} {s : State} {m : MethodId} {args : Array Value} {below : List Frame} {meth : Method} {c : Code} {T0 : State} {locs : List Loc} {cells slots : Nat} (X : Stand p l e R s m args below meth c T0 locs cells slots) (hexec : p.tables.exec = Jvm.exec) {own C : String} {index : Nat} {x y : MethodName}
    (hown : s.vm.findClass own = some m.cls) (hlink : (Cond.methodLink own index x).before args s = true) (hsame : (Cond.sameMethod x.cls y.cls x.name x.desc).before args s = true) (hxy : y = ⟨y.cls, x.name, x.desc⟩) (hyc : y.cls = Bundle.tN) (hd0 : va_Decl s y) (hpar : (parseMethodDescriptor x.desc).map (fun d => d.parameters.length) = some 0)
    (hsel : (Cond.selects C x y).before args s = true) (hinst : (Cond.instanceMethod y).before args s = true) (hcode : (Cond.codeSync y prog_43_method_8_code 1 (some (.object "java/lang/Throwable"))).before args s = true)
    (hl1 : (Cond.fieldLink Bundle.tN 7 Bundle.tN "cause" "Ljava/lang/Throwable;").before args s = true) (hl2 : (Cond.lays Bundle.tN Bundle.tN "cause" "Ljava/lang/Throwable;").before args s = true)
    {a q : Addr} {cell : Cell} (hfX : s.vm.findClass C = some cell.cls) (hcell : T0.heap[a]? = some cell) (hvm : cell.vm = .none) (ho : cell.monitor.owner = none) (hc : cell.monitor.count = 0)
    (hv : ∀ x, s.fieldFound? Bundle.tN "cause" "Ljava/lang/Throwable;" = some x → cell.slots[x.2.2.2.slot]? = some (.ref q)) (hq : q ≠ a)
    {g : JFrame} (hg : g.method = m) (hsize : g.locals.size = c.maxLocals) {rest : List Value} (hstack : g.stack = .ref a :: rest) (hdg : decode c.code g.pc = .ok (.invokevirtual index, 3))
    (hRf : 1 < R.frames) (hRl : 2 * g.monitorRoom + (rest.map fun v => v.category).sum + 41 ≤ R.locals) :
    ∃ vm' : Vm, Stand p l e R s m args below meth c (T0.setVm vm') locs cells slots ∧
      ∀ target, Steps p.tables e below ((T0.setVm vm').setTop { g with pc := g.pc + 3, stack := .ref q :: rest }) target → Steps p.tables e below (T0.setTop g) target := by
  have howns : e.platform.frameOwnsMonitors = true := by rw [X.admits.platform]
  have hpl : e.platform.magicAccessors = ({} : Platform).magicAccessors := by rw [X.admits.platform]
  have hobj : ∀ k, cell.vm ≠ .statics k := fun k => by rw [hvm]; intro hh; cases hh
  have hknown : cell.vm ≠ .unknown := by rw [hvm]; intro hh; cases hh
  obtain ⟨r0, r, hn, hrm, hstR, hsigR⟩ := hd0
  obtain ⟨cn, ck, r1, hcn, hck, hni, hf, hn1⟩ := Cond.sameMethod_found hsame
  rw [← hxy] at hn1
  cases hn.symm.trans hn1
  obtain ⟨mk, methM, hnamed, hmethM, hstM, habM⟩ := Cond.instanceMethod_spec hinst
  cases hn.symm.trans hnamed
  cases hrm.symm.trans hmethM
  obtain ⟨methC, cM, hmC, hcM, hbM, hlM, hrM, hlkM, -, hsigM⟩ := Cond.codeSync_spec hnamed hcode
  cases hmethM.symm.trans hmC
  obtain ⟨c2, r2, m2, q1, q2, q3, q4, kP, hkP, hkPi⟩ := Cond.selects_spec hsel
  cases q1.symm.trans hfX
  cases hf.symm.trans q2
  cases hnamed.symm.trans q3
  have hselP : selectMethod e.platform s.vm cell.cls r0 = .method r0 := by rw [Launch.admits_selectMethod X.admits]; exact q4
  have hlen0 : ([] : List Value).length = r.sig.parameters.length := by
    have hd : y.desc = x.desc := by rw [hxy]
    have h7 := hsigM
    rw [hd] at h7
    rw [h7] at hpar
    exact (Option.some.inj hpar).symm
  obtain ⟨vm₁, X₁, hstep₁⟩ := X.invokevirtualUp hexec (owner := y.cls) hown hlink hsame ⟨by rw [hyc]; decide, by rw [hyc]; decide⟩ (by rw [← hxy]; exact hn) hmethM hstM (a := a) (cell := cell) hcell
    hobj hselP hmethM habM hkP hkPi (g := g) hg (argsL := []) (rest := rest) hlen0 hstack hdg
  have hfT : s.vm.findClass Bundle.tN = some r0.cls := by rw [← hyc]; exact findClass_of_methodNamed hnamed
  obtain ⟨kT, hkT, hkn⟩ := Vm.findClass_spec hfT
  obtain ⟨ci7, i7, fC, hk7, hg7, ha7, hsC, -, hnC, htC, hffC⟩ := Cond.ownField (t := .object "java/lang/Throwable") hfT hkT (by decide +kernel) hl1 hl2 e.platform hpl
  have hvC := hv _ hffC
  dsimp only at hvC
  have hA : At (T0.setVm vm₁) ({ g with stack := rest } : JFrame).method c below := by
    show At (T0.setVm vm₁) g.method c below
    rw [hg]; exact X₁.here
  have hsz : ({ g with stack := rest } : JFrame).locals.size = c.maxLocals := hsize
  have hfr := X₁.framesAbove hRf
  have hwd := X₁.stackAbove hsz (K := 41) hRl
  have hrooms := vx_fillRooms (e := e) (V := T0.setVm vm₁) (g := { g with stack := rest }) hA.top r0 a cell rfl hfr hwd
  have hW := X₁.warmed
  have hpm : ∀ (k : Class), s.vm.classes[r0.cls]? = some k → plainName k.name = true := fun k hk => by
    cases hk.symm.trans hkT
    rw [hkn]; decide
  have hlt : a < (T0.setVm vm₁).heap.size := (Array.getElem?_eq_some_iff.mp hcell).1
  have hB0 : At (fillInside (T0.setVm vm₁) { g with stack := rest } r0 a cell) r0 cM below := by
    have h8 := At.enter_sync (g := { g with stack := rest }) hA #[.ref a] a (cell.withEntry (T0.setVm vm₁).cur) (hW.methodAt hmethM) hcM (hW.plainAt (m := r0) hpm)
    rw [hlM] at h8
    exact h8
  generalize hV : fillInside (T0.setVm vm₁) { g with stack := rest } r0 a cell = V at hB0
  have hVw : s.WarmedH V.vm := by rw [← hV]; exact hW
  have hVc : V.heap[a]? = some (cell.withEntry (T0.setVm vm₁).cur) := by
    rw [← hV]
    show (T0.heap.setIfInBounds a (cell.withEntry (T0.setVm vm₁).cur))[a]? = _
    have hlt' : a < T0.heap.size := hlt
    simp [hlt']
  have e0 : decode cM.code 0 = .ok (.aload_n 0, 1) := by rw [hbM]; decide +kernel
  have e1 : decode cM.code 1 = .ok (.getfield 7, 3) := by rw [hbM]; decide +kernel
  have e4 : decode cM.code 4 = .ok (.aload_n 0, 1) := by rw [hbM]; decide +kernel
  have e5 : decode cM.code 5 = .ok (.if_acmp .ne 7, 3) := by rw [hbM]; decide +kernel
  have e12 : decode cM.code 12 = .ok (.aload_n 0, 1) := by rw [hbM]; decide +kernel
  have e13 : decode cM.code 13 = .ok (.getfield 7, 3) := by rw [hbM]; decide +kernel
  have e16 : decode cM.code 16 = .ok (.areturn, 1) := by rw [hbM]; decide +kernel
  obtain ⟨vm1, hW1, st1⟩ := Steps.getfieldCold (tb := p.tables) (s₀ := s) (U := V) (f := (fillJ r0 a 1 [.ref a])) (a := a) (rest := []) (v := .ref q) hB0 hexec e1 hVw hk7 hg7 hkT ha7 hsC rfl hVc hknown hvC
  have hB1 : At (V.setVm vm1) r0 cM below := hB0.setVm (hVw.alike.symm.trans hW1.alike)
  obtain ⟨vm2, hW2, st2⟩ := Steps.getfieldCold (tb := p.tables) (s₀ := s) (U := V.setVm vm1) (f := (fillJ r0 a 13 [.ref a])) (a := a) (rest := []) (v := .ref q) hB1 hexec e13 hW1 hk7 hg7 hkT ha7 hsC rfl hVc hknown hvC
  have hB2 : At (V.setVm vm2) r0 cM below := hB0.setVm (hVw.alike.symm.trans hW2.alike)
  refine ⟨vm2, X₁.noted hW2, fun target hh => hstep₁ _ fun acts => ?_⟩
  rw [doInvoke_state, doInvoke_enter_sync hA.top [] (hW.methodAt hmethM) hcM hlkM hstM rfl hcell (Or.inl ho) (by rw [hlM]; exact hrooms.1), hlM]
  show Steps p.tables e below ((fillInside (T0.setVm vm₁) { g with stack := rest } r0 a cell).setTop (fillJ r0 a 0 [])) target
  rw [hV]
  have hne : ¬ (some q = some a) := fun h => hq (Option.some.inj h)
  jvm_step hB0 [hB0.top, hexec, e0, Value.isRef]
  refine st1 target ?_
  jvm_step hB1 [hB0.top, hB1.top, hexec, e4, Value.isRef]
  jvm_step hB1 [hB0.top, hB1.top, hexec, e5, if_acmp.wp_sem, if_acmp.holds, Value.asRef?, hne]
  jvm_step hB1 [hB0.top, hB1.top, hexec, e12, Value.isRef]
  refine st2 target ?_
  show Steps p.tables e below ((V.setVm vm2).setTop (fillJ r0 a 16 [.ref q])) target
  jvm_step hB2 [hB0.top, hB2.top, hexec, e16, areturn.wp_sem, Value.isRef, FieldType.isReference]
  refine ⟨r, hW2.methodAt hmethM, ⟨_, hrM, rfl⟩, fun acts' => ?_⟩
  have hfr2 : (V.setVm vm2).frames = .java (entryFrameSync r0 #[.ref a] 1 a) :: .java { g with stack := rest } :: T0.frames.tail := by
    rw [← hV]
    exact frames_entered (g := { g with stack := rest }) (show ((T0.setVm vm₁).setCell a (cell.withEntry (T0.setVm vm₁).cur)).topJava?.isSome from hA.top) _
  have hcd : (V.setVm vm2).code? ({ g with stack := rest } : JFrame).method = some c := by
    have h8 := (X₁.noted hW2).here.code
    show (T0.setVm vm2).code? g.method = some c
    rw [hg]
    exact h8
  have hmine : (cell.withEntry (T0.setVm vm₁).cur).monitor.owner = some (V.setVm vm2).cur := by rw [← hV]; rfl
  rw [doReturn_leave_sync (u := V.setVm vm2) (g := { g with stack := rest }) (meth := r) (cg := c) (ig := .invokevirtual index) (len := 3) (a := a) (cell := cell.withEntry (T0.setVm vm₁).cur) (f := fillJ r0 a 16 []) (f₀ := entryFrameSync r0 #[.ref a] 1 a) (r := T0.frames.tail) acts' howns hfr2 (hW2.methodAt hmethM) hlkM rfl rfl hVc hmine hcd hdg, Cell.left_withEntry _ ho hc]
  have hz : ((V.setVm vm2).setCell a cell).setFrames (.java { g with stack := rest } :: T0.frames.tail) = (T0.setVm vm2).setTop { g with stack := rest } := by
    rw [← hV]
    have h1 : (((((T0.setVm vm2).setCell a (cell.withEntry (T0.setVm vm₁).cur)).setTop { g with stack := rest }).pushFrame (.java (entryFrameSync r0 #[.ref a] 1 a))).setFrames (.java { g with stack := rest } :: T0.frames.tail)) = ((T0.setVm vm2).setCell a (cell.withEntry (T0.setVm vm₁).cur)).setTop { g with stack := rest } :=
      setFrames_entered (s := (T0.setVm vm2).setCell a (cell.withEntry (T0.setVm vm₁).cur)) hA.top _
    show ((((((T0.setVm vm2).setCell a (cell.withEntry (T0.setVm vm₁).cur)).setTop { g with stack := rest }).pushFrame (.java (entryFrameSync r0 #[.ref a] 1 a))).setCell a cell).setFrames (.java { g with stack := rest } :: T0.frames.tail)) = _
    rw [← State.setCell_setFrames, h1]
    show (((T0.setVm vm2).setCell a (cell.withEntry (T0.setVm vm₁).cur)).setCell a cell).setTop { g with stack := rest } = _
    rw [setCell_twice, State.setCell_asItLies (s := T0.setVm vm2) hcell]
  rw [hz, State.setTop_setTop]
  exact hh
end FILL
