section
variable {p : Program} {l : Launch} {e : Env} {R : Room} {s : State} {m : MethodId} {args : Array Value} {below : List Frame} {meth : Method} {c : Code} {H : Heap} {locs : List Loc} {cells slots : Nat} {Q : State → Prop}
variable {ls : Array Slot} {rest : List Value}
theorem vx_make0x {cc : ByteArray} {pc : Nat} (hexec : p.tables.exec = Jvm.exec) (hb : c.code = cc) (hl : l.stackTraces = false) {own cls : String} {names : List String} {ik ic : Nat} {A : Nat → Prop}
    (hown : s.vm.findClass own = some m.cls) (hcls : Bundle.fit cls = true) (hnames : ∀ n ∈ names, Bundle.fit n = true)
    (hk : (Cond.classLink own ik cls).before args s = true) (hini : (Cond.initialized cls).before args s = true) (hat : ∀ w ∈ vx_at0 own ic cls names, w.before args s = true)
    (hgood : ∀ w ∈ Cond.classLink own ik cls :: Cond.initialized cls :: vx_at0 own ic cls names, vx_ot w = true)
    (hU : vx_Zq Bundle.tN "UNASSIGNED_STACK" Bundle.steD A s s.heap) (hN : vx_Zq Bundle.tN "SUPPRESSED_SENTINEL" Bundle.listD A s s.heap) (hS : va_S A s.heap H locs) (hsize : ls.size = c.maxLocals)
    (d0 : decode cc pc = .ok (.new ik, 3)) (d3 : decode cc (pc + 3) = .ok (.dup, 1)) (d4 : decode cc (pc + 4) = .ok (.invokespecial ic, 3))
    (hRframes : names.length + 3 < R.frames) (hRlocals : (rest.map fun v => v.category).sum + (13 * (names.length + 1) + 42) ≤ R.locals) (hRcells : cells + 1 ≤ R.cells) (hRslots : slots + 6 ≤ R.slots)
    (kk : ∀ H1 : Heap, H1.size = H.size + 1 → (∀ q : Nat, q < H.size → H1[q]? = H[q]?) → W p l e R s m args below meth c H1 locs (cells + 1) (slots + 6) Q (F0 m (pc + 7) ls (.ref H.size :: rest))) :
    W p l e R s m args below meth c H locs cells slots Q (F0 m pc ls rest) := by
  intro T hT X
  subst hT
  have htr : e.platform.stackTraces = false := (show e.platform.stackTraces = l.stackTraces by rw [X.admits.platform]).trans hl
  have Y := vx_rebase X (R' := { frames := R.frames, locals := R.locals, cells := 1, slots := 6 }) (Nat.le_refl _) (Nat.le_refl _) hRcells hRslots
  obtain ⟨s', hA'⟩ : ∃ z, z = (T.setVm s.vm).setFrames (.invoking m args :: below) := ⟨_, rfl⟩
  rw [← hA'] at Y
  have hvm : s'.vm = s.vm := by rw [hA']; rfl
  have hhp : s'.heap = T.heap := by rw [hA']; rfl
  have hW0 : s.WarmedH s'.vm := by rw [hvm]; exact State.WarmedH.refl s
  have hat' : ∀ w ∈ vx_at0 own ic cls names, w.before args s' = true := fun w hw => vx_ot_at hW0 hvm.symm (hgood w (List.mem_cons_of_mem _ (List.mem_cons_of_mem _ hw))) (hat w hw)
  have hk' : (Cond.classLink own ik cls).before args s' = true := vx_ot_at hW0 hvm.symm (hgood _ List.mem_cons_self) hk
  have hini' : (Cond.initialized cls).before args s' = true := vx_ot_at hW0 hvm.symm (hgood _ (List.mem_cons_of_mem _ List.mem_cons_self)) hini
  have hU' : vx_Zq Bundle.tN "UNASSIGNED_STACK" Bundle.steD A s' s'.heap := by rw [hhp]; exact vx_Zq.moved hW0.alike (hU.kept hS.2.1)
  have hN' : vx_Zq Bundle.tN "SUPPRESSED_SENTINEL" Bundle.listD A s' s'.heap := by rw [hhp]; exact vx_Zq.moved hW0.alike (hN.kept hS.2.1)
  have h : ∀ w ∈ Bundle.ownAtoms0 own ic cls names, w.before args s' = true := vx_own hat' (vx_isRefq hU'.1) (vx_isRefq hN'.1) hU'.2.word hN'.2.word
  have hown' : s'.vm.findClass own = some m.cls := by rw [hvm]; exact hown
  have hins : (Cond.instantiable cls 6).before args s' = true := h _ (by simp [Bundle.ownAtoms0])
  obtain ⟨vm₁, cX, kX, hfX, hkX, -, -, X₁, st1⟩ := Y.newCold hexec (own := own) (C := cls) (index := ik) (n := 6) hown' hk' hins hini'
    (g := F0 m pc ls rest) rfl (by rw [hb]; exact d0) (Nat.le_refl _) (Nat.le_refl _)
  generalize hT1 : (T.setVm vm₁).pushCell { cls := cX, slots := kX.instanceTypes.map defaultValue, vm := .none } = T1 at X₁ st1
  have hcat : (Value.ref T.heap.size).category = 1 := rfl
  have hcellA : T1.heap[T.heap.size]? = some (freshCell cX kX) := by rw [← hT1]; exact State.heap_pushCell_size _ _
  have d3' : decode c.code (pc + 3) = .ok (.dup, 1) := by rw [hb]; exact d3
  obtain ⟨V, ce, L, Z, hL, hlt, hcl9, hvm9, st⟩ := vx_ctorMade0 X₁ hexec htr (own := own) (cls := cls) (names := names) (ic := ic) hown' hcls hnames h (fun x hx => nomatch hx) hfX hkX hcellA (by rw [hhp]; exact Nat.le_refl _)
    (g := { method := m, pc := pc + 4, locals := ls, stack := .ref T.heap.size :: .ref T.heap.size :: rest, locked := none }) rfl hsize (rest := rest) rfl
    (by rw [hb]; exact d4) hRframes (by simp only [List.map_cons, List.sum_cons, hcat]; omega)
  have Z0 := Stand.forget (locs := []) Z (fun y hy => by rw [hL y hy, hhp]; exact Nat.le_refl _)
  obtain ⟨f1, f2⟩ := vx_frame Z0.same
  rw [hhp] at f1 f2
  have hh : (V.setCell T.heap.size ce).heap[T.heap.size]? = some ce := heapAt_setCell_self (s := V) ce hlt
  have hsz : (V.setCell T.heap.size ce).heap.size = T.heap.size + 1 := by
    have h7 := Z0.same.2.2.1
    rw [hhp] at h7
    exact Nat.le_antisymm h7 (Array.getElem?_eq_some_iff.mp hh).1
  subst hA'
  have X5 := vx_back9 X Y Z0
  have X6 : Stand p l e R s m args below meth c (V.setCell T.heap.size ce) locs (cells + 1) (slots + 6) := { X5 with same := X5.same.mono (by omega) (by omega) }
  obtain ⟨t, a1, b1⟩ := kk (V.setCell T.heap.size ce).heap hsz (fun q hq => f2 q hq (fun z hz => nomatch hz)) _ rfl X6
  refine ⟨t, st1 _ ?_, b1⟩
  show Steps p.tables e below (T1.setTop { method := m, pc := pc + 3, locals := ls, stack := .ref T.heap.size :: rest, locked := none }) _
  jvm_step X₁.here [X₁.here.top, hexec, d3', Value.category]
  exact st _ a1
end
section
variable {α : Type} {G : GT} {X : XT} {σ0 : Sg} {own : String} {cc : ByteArray} {nL : Nat} {rT : Option FieldType} {FR LO : Nat} {mn : String} {tb : List ExceptionTableEntry} {rv : α → Option Value} {pc : Nat} {lv : List (Nat × Value)} {rest : List Value}
/-- 'new E()', kept: an object nobody looks into -/
def mk0 {β : Type} (k : Nat → Ms β) : Ms β := fun σ => k (nx σ) (bmp σ 1 6)
theorem Ex_mk0 {e ik ic : Nat} {kk : Nat → Ms α} (names : List String) (hcls : Bundle.fit (exN e) = true) (hnames : ∀ n ∈ names, Bundle.fit n = true) (h1 : Cond.classLink own ik (exN e) ∈ lw_all) (h2 : Cond.initialized (exN e) ∈ lw_all) (hat : ∀ w ∈ vx_at0 own ic (exN e) names, w ∈ lw_tbl ∧ mvW w = true)
    (d0 : decode cc pc = .ok (.new ik, 3)) (d3 : decode cc (pc + 3) = .ok (.dup, 1)) (d4 : decode cc (pc + 4) = .ok (.invokespecial ic, 3))
    (hfr : names.length + 3 < FR) (hlo : (rest.map fun v => v.category).sum + (13 * (names.length + 1) + 42) ≤ LO) (k : ∀ x : Nat, Ex G X σ0 own cc nL rT FR LO mn tb rv (pc + 7) lv (.ref x :: rest) (kk x)) : Ex G X σ0 own cc nL rT FR LO mn tb rv pc lv rest (mk0 kk) := by
  refine ⟨fun σ o σ' h => ?_, fun hX σ o σ' h hcc hss g1 g2 g3 H locs ls hW hlo' hv => ?_⟩
  · have hm := (k (nx σ)).1 (bmp σ 1 6) o σ' h
    exact ⟨Nat.le_trans (Nat.le_succ _) hm.1, Nat.le_trans (Nat.le_add_right _ _) hm.2⟩
  have h : kk (nx σ) (bmp σ 1 6) = some (o, σ') := h
  have hz : H.size = nx σ := hW.1.1
  have hm := (k (nx σ)).1 (bmp σ 1 6) o σ' h
  have hm1 : nx σ + 1 ≤ nx σ' := hm.1
  have hm2 : su σ + 6 ≤ su σ' := hm.2
  have hlk : (Cond.classLink own ik (exN e)).before X.2.2.2.2.2.1 X.2.2.2.1 = true := cx_word hX h1
  refine vx_make0x (A := fun q => gb G ≤ q) hX.2.1 hX.2.2.1 hX.1.2.2.1 (names := names) hX.2.2.2.2.1 hcls hnames hlk (cx_word hX h2) (fun w hw => cx_tbl hX (hat w hw).1 (hat w hw).2) (fun w hw => ?_) (vx_Zq.moved (cx_alike hX) (vx_Zq.kept hX.1.2.2.2.2.1 (fun a ha hb => cx_base hX ha hb))) (vx_Zq.moved (cx_alike hX) (vx_Zq.kept hX.1.2.2.2.2.2.1 (fun a ha hb => cx_base hX ha hb)))
    (cx_S hX hW g3 hlo') (by rw [hX.2.2.2.1]; exact hv.1) d0 d3 d4 (Nat.lt_of_lt_of_le hfr hX.2.2.2.2.2.2.2.2.2.1) (Nat.le_trans hlo hX.2.2.2.2.2.2.2.2.2.2.1) (by rw [hcc]; omega) (by rw [hss]; omega) (fun H1 z1 o1 => ?_)
  · rcases List.mem_cons.mp hw with rfl | hw
    · rfl
    · rcases List.mem_cons.mp hw with rfl | hw
      · rfl
      · exact mvW_ot (hat w hw).2
  · have hz1 : nx σ + 1 - nx σ0 = nx σ - nx σ0 + 1 := by omega
    have hz2 : su σ + 6 - su σ0 = su σ - su σ0 + 6 := by omega
    have hk := (k (nx σ)).2 hX (bmp σ 1 6) o σ' h hcc hss (Nat.le_trans g1 (Nat.le_succ _)) (Nat.le_trans g2 (Nat.le_add_right _ _)) (Nat.le_trans g3 (Nat.le_succ _)) H1 locs ls (wd_bmp hW (by rw [z1, hz]) (fun q hq => o1 q (by rw [hz]; exact hq))) hlo' hv
    rw [show nx (bmp σ 1 6) = nx σ + 1 from rfl, show su (bmp σ 1 6) = su σ + 6 from rfl, hz1, hz2] at hk
    rw [hz]
    exact hk
/-- the words of the exception that keeps a cause -/
def rfW : List Cond := [Cond.selects "QuorumAlmanac$Refused" Bundle.tFill0 Bundle.tFill0, Cond.selects "QuorumAlmanac$Refused" Bundle.tFill Bundle.tFill, Cond.lays "QuorumAlmanac$Refused" Bundle.tN "stackTrace" Bundle.steD, Cond.instantiable "QuorumAlmanac$Refused" 7, Cond.sameMethod Bundle.tN Bundle.tN Bundle.tFill.name Bundle.tFill.desc]
/-- fillInStackTrace: a stack trace is not kept -/
def fi {β : Type} (a : Nat) (k : Ms β) : Ms β := fun σ => if kd σ a = 11 ∧ bs σ ≤ a ∧ fd σ 124 a = st σ 3 ∧ fd σ 127 a = .null ∧ (st σ 3).isRef = true then k (setF σ 124 a (st σ 3)) else none
theorem Ex_fill {own' cls' : String} {ic' : Nat} {names' : List String} {a : Nat} {mm : Ms α} (hown : own = Bundle.tN) (hat : ∀ w ∈ vx_at0 own' ic' cls' names', w ∈ lw_tbl ∧ mvW w = true) (hr : ∀ w ∈ rfW, w ∈ lw_all) (hdg : decode cc pc = .ok (.invokevirtual 27, 3)) (hfr : 1 < FR) (hlo : (rest.map fun v => v.category).sum + 41 ≤ LO)
    (k : Ex G X σ0 own cc nL rT FR LO mn tb rv (pc + 3) lv (.ref a :: rest) mm) : Ex G X σ0 own cc nL rT FR LO mn tb rv pc lv (.ref a :: rest) (fi a mm) := by
  refine ⟨Mono_if (p := fun σ => kd σ a = 11 ∧ bs σ ≤ a ∧ fd σ 124 a = st σ 3 ∧ fd σ 127 a = .null ∧ (st σ 3).isRef = true) (fun σ _ o σ' e => k.1 (setF σ 124 a (st σ 3)) o σ' e), fun hX σ o σ' e hcc hss g1 g2 g3 H locs ls hW hlo' hv => ?_⟩
  unfold fi at e
  by_cases hi : kd σ a = 11 ∧ bs σ ≤ a ∧ fd σ 124 a = st σ 3 ∧ fd σ 127 a = .null ∧ (st σ 3).isRef = true
  · rw [if_pos hi] at e
    obtain ⟨i1, i2, i3, i4, i5⟩ := hi
    have hba : gb G ≤ a := by rw [← hW.1.2.1]; exact i2
    have hcl : cls[10]? = some (cls.getD 10 ("", fun _ => fN 0, 0)) := rfl
    obtain ⟨cell, q1, q2, q3, q4⟩ := hW.2.2.1 a 10 _ i1 hcl
    obtain ⟨hSl, hfc, kC, hkC, hkind⟩ := (cx_K hX).1 10 _ hcl
    obtain ⟨cf1, kf1, fi1, fd1, hii1, hsl1⟩ := hSl 1 (by decide)
    obtain ⟨cf4, kf4, fi4, fd4, hii4, hsl4⟩ := hSl 4 (by decide)
    intro T0 hT X0
    have htr : X.2.1.platform.stackTraces = false := (show X.2.1.platform.stackTraces = G.1.stackTraces by rw [X0.admits.platform]).trans hX.1.2.2.1
    have hU : vx_Zq Bundle.tN "UNASSIGNED_STACK" Bundle.steD (fun q => gb G ≤ q) X.2.2.2.1 X.2.2.2.1.heap := vx_Zq.moved (cx_alike hX) (vx_Zq.kept hX.1.2.2.2.2.1 (fun a ha hb => cx_base hX ha hb))
    have hN : vx_Zq Bundle.tN "SUPPRESSED_SENTINEL" Bundle.listD (fun q => gb G ≤ q) X.2.2.2.1 X.2.2.2.1.heap := vx_Zq.moved (cx_alike hX) (vx_Zq.kept hX.1.2.2.2.2.2.1 (fun a ha hb => cx_base hX ha hb))
    have h : ∀ w ∈ Bundle.ownAtoms0 own' ic' cls' names', w.before X.2.2.2.2.2.1 X.2.2.2.1 = true := vx_own (fun w hw => cx_tbl hX (hat w hw).1 (hat w hw).2) (vx_isRefq hU.1) (vx_isRefq hN.1) hU.2.word hN.2.word
    have hZ0 := hW.2.2.2.2.2.1 3 _ rfl
    have hZ : va_Z Bundle.tN "UNASSIGNED_STACK" Bundle.steD (st σ 3) (fun q => gb G ≤ q) X.2.2.2.1 T0.heap := by
      rw [hT]
      exact va_Z.kept (va_Z.moved (cx_alike hX) hZ0) (fun b _ hb => hW.2.1 b (Nat.lt_of_not_le hb))
    have hmon := (hW.2.2.2.2.1 a (by rw [i1]; decide)).2 i1 cell q1
    have hsz : (F0 X.2.2.2.2.1 pc ls (.ref a :: rest)).locals.size = X.2.2.2.2.2.2.2.2.maxLocals := by rw [hX.2.2.2.1]; exact hv.1
    obtain ⟨vm', fS, ⟨x, hx1, hx2⟩, X', st'⟩ := vx_fill X0 hX.2.1 htr (by rw [← hown]; exact hX.2.2.2.2.1) (cls := "QuorumAlmanac$Refused") (n := 7) (fun w hw => h w (by simp [Bundle.ownAtoms0, hw])) (h _ (by simp [Bundle.ownAtoms0])) (h _ (by simp [Bundle.ownAtoms0]))
      (cx_word hX (hr _ (by simp [rfW]))) (cx_word hX (hr _ (by simp [rfW]))) (cx_word hX (hr _ (by simp [rfW]))) (cx_word hX (hr _ (by simp [rfW]))) (cx_word hX (hr _ (by simp [rfW])))
      (a := a) (cell := cell) (by rw [q2]; exact hfc) (by rw [hT]; exact q1) hmon.2.2 hmon.1 hmon.2.1 i5
      (fun x hx => by
        cases hx.symm.trans hii1
        show cell.slots[fd1.slot]? = _
        rw [hsl1, q4 1 (by decide)]
        exact congrArg some i3)
      (fun x hx => by
        cases hx.symm.trans hii4
        show cell.slots[fd4.slot]? = _
        rw [hsl4, q4 4 (by decide)]
        exact congrArg some i4)
      hZ (g := F0 X.2.2.2.2.1 pc ls (.ref a :: rest)) rfl hsz (rest := rest) rfl (by rw [hX.2.2.1]; exact hdg) (Nat.lt_of_lt_of_le hfr hX.2.2.2.2.2.2.2.2.2.1) (by
        show 2 * 0 + _ + 41 ≤ _
        have h9 := Nat.le_trans hlo hX.2.2.2.2.2.2.2.2.2.2.1
        omega)
    have hfs : fS.slot = G.2.2.2.2 10 1 := by
      cases hx1.symm.trans hii1
      rw [← hx2]
      exact hsl1
    have hlt : a < (T0.setVm vm').heap.size := by
      show a < T0.heap.size
      rw [hT]
      exact (Array.getElem?_eq_some_iff.mp q1).1
    have hWn : Wd G (setF σ 124 a (st σ 3)) ((T0.setVm vm').setCell a (cell.setSlot fS.slot (st σ 3))).heap := by
      refine wd_setF (k := 1) hW i1 hcl (by decide) rfl hba q1 ?_ ?_ (fun b hb => ?_) (cx_apart hX hcl)
      · rw [← hfs]; exact heapAt_setCell_self (s := T0.setVm vm') _ hlt
      · show (T0.heap.setIfInBounds _ _).size = _
        rw [Array.size_setIfInBounds, hT]
      · rw [heapAt_setCell_ne _ (Ne.symm hb)]
        show T0.heap[b]? = _
        rw [hT]
    obtain ⟨t, a1, b1⟩ := k.2 hX (setF σ 124 a (st σ 3)) o σ' e hcc hss g1 g2 g3 _ _ ls hWn (fun z hz => by
      rcases List.mem_append.mp hz with hz | hz
      · exact hlo' z hz
      · rw [List.mem_singleton.mp hz]; exact hba) hv _ rfl X'
    exact ⟨t, st' _ a1, b1⟩
  · rw [if_neg hi] at e; cases e
/-- getCause -/
def gcz {β : Type} (a : Nat) (k : Nat → Ms β) : Ms β := fun σ => if kd σ a = 11 then (match fd σ 123 a with
  | .ref x => if x ≠ a then k x σ else none
  | _ => none) else none
def gczN : String := "getCause"
def gczD : String := "()Ljava/lang/Throwable;"
def gcW (own : String) (index : Nat) : List Cond := [Cond.methodLink own index ⟨"QuorumAlmanac$Refused", gczN, gczD⟩, Cond.sameMethod "QuorumAlmanac$Refused" Bundle.tN gczN gczD, Cond.selects "QuorumAlmanac$Refused" ⟨"QuorumAlmanac$Refused", gczN, gczD⟩ ⟨Bundle.tN, gczN, gczD⟩, Cond.instanceMethod ⟨Bundle.tN, gczN, gczD⟩, Cond.codeSync ⟨Bundle.tN, gczN, gczD⟩ prog_43_method_8_code 1 (some (.object "java/lang/Throwable")), Cond.fieldLink Bundle.tN 7 Bundle.tN "cause" "Ljava/lang/Throwable;", Cond.lays Bundle.tN Bundle.tN "cause" "Ljava/lang/Throwable;"]
theorem Ex_gc {index a : Nat} {kk : Nat → Ms α} (hr : ∀ w ∈ gcW own index, w ∈ lw_all) (hd : Cond.declares ⟨Bundle.tN, gczN, gczD⟩ ∈ lw_tbl) (hdg : decode cc pc = .ok (.invokevirtual index, 3)) (hfr : 1 < FR) (hlo : (rest.map fun v => v.category).sum + 41 ≤ LO)
    (k : ∀ x : Nat, Ex G X σ0 own cc nL rT FR LO mn tb rv (pc + 3) lv (.ref x :: rest) (kk x)) : Ex G X σ0 own cc nL rT FR LO mn tb rv pc lv (.ref a :: rest) (gcz a kk) := by
  refine ⟨fun σ o σ' e => ?_, fun hX σ o σ' e hcc hss g1 g2 g3 H locs ls hW hlo' hv => ?_⟩
  · unfold gcz at e
    by_cases hi : kd σ a = 11
    · rw [if_pos hi] at e
      split at e
      · rename_i x _
        by_cases hx : x ≠ a
        · rw [if_pos hx] at e; exact (k x).1 σ o σ' e
        · rw [if_neg hx] at e; cases e
      · cases e
    · rw [if_neg hi] at e; cases e
  · unfold gcz at e
    by_cases hi : kd σ a = 11
    · rw [if_pos hi] at e
      split at e
      · rename_i x hx0
        by_cases hx : x ≠ a
        · rw [if_pos hx] at e
          have hcl : cls[10]? = some (cls.getD 10 ("", fun _ => fN 0, 0)) := rfl
          obtain ⟨cell, q1, q2, q3, q4⟩ := hW.2.2.1 a 10 _ hi hcl
          obtain ⟨hSl, hfc, kC, hkC, hkind⟩ := (cx_K hX).1 10 _ hcl
          obtain ⟨cf1, kf1, fi1, fd1, hii1, hsl1⟩ := hSl 0 (by decide)
          have hmon := (hW.2.2.2.2.1 a (by rw [hi]; decide)).2 hi cell q1
          intro T0 hT X0
          have hsz : (F0 X.2.2.2.2.1 pc ls (.ref a :: rest)).locals.size = X.2.2.2.2.2.2.2.2.maxLocals := by rw [hX.2.2.2.1]; exact hv.1
          obtain ⟨vm', X', st'⟩ := vx_getCause X0 hX.2.1 (own := own) (C := "QuorumAlmanac$Refused") (index := index) (x := ⟨"QuorumAlmanac$Refused", gczN, gczD⟩) (y := ⟨Bundle.tN, gczN, gczD⟩) hX.2.2.2.2.1
            (cx_word hX (hr _ (by simp [gcW]))) (cx_word hX (hr _ (by simp [gcW]))) rfl rfl (va_Decl.abs (va_Nw.warmD hX.2.2.2.2.2.2.2.2.1 (cx_Nw hX rfl hd))) (by decide +kernel) (cx_word hX (hr _ (by simp [gcW]))) (cx_word hX (hr _ (by simp [gcW]))) (cx_word hX (hr _ (by simp [gcW]))) (cx_word hX (hr _ (by simp [gcW]))) (cx_word hX (hr _ (by simp [gcW])))
            (a := a) (q := x) (cell := cell) (by rw [q2]; exact hfc) (by rw [hT]; exact q1) hmon.2.2 hmon.1 hmon.2.1
            (fun y hy => by
              cases hy.symm.trans hii1
              show cell.slots[fd1.slot]? = _
              rw [hsl1, q4 0 (by decide)]
              exact congrArg some hx0)
            hx (g := F0 X.2.2.2.2.1 pc ls (.ref a :: rest)) rfl hsz (rest := rest) rfl (by rw [hX.2.2.1]; exact hdg) (Nat.lt_of_lt_of_le hfr hX.2.2.2.2.2.2.2.2.2.1) (by
              show 2 * 0 + _ + 41 ≤ _
              have h9 := Nat.le_trans hlo hX.2.2.2.2.2.2.2.2.2.2.1
              omega)
          obtain ⟨t, a1, b1⟩ := (k x).2 hX σ o σ' e hcc hss g1 g2 g3 H locs ls hW hlo' hv (T0.setVm vm') hT X'
          exact ⟨t, st' _ a1, b1⟩
        · rw [if_neg hx] at e; cases e
      · cases e
    · rw [if_neg hi] at e; cases e
end
