-- the values that a method answers
def rI (v : Int32) : Option Value := some (.int v)
def rJ (v : Int64) : Option Value := some (.long v)
def rF (v : UInt32) : Option Value := some (.float v)
def rD (v : UInt64) : Option Value := some (.double v)
def rR (v : Nat) : Option Value := some (.ref v)
def rO (v : Option Nat) : Option Value := some (va_rf v)
def rU (_ : Unit) : Option Value := none
section
variable {α β : Type} {G : GT} {X : XT} {σ0 : Sg} {own : String} {cc : ByteArray} {nL : Nat} {rT : Option FieldType} {FR LO : Nat} {mn : String} {tb : List ExceptionTableEntry} {rv : α → Option Value} {pc : Nat} {lv : List (Nat × Value)} {rest : List Value}
theorem Mono_rt {v : α} : Mono (rt v) := fun σ o σ' e => by cases e; exact ⟨Nat.le_refl _, Nat.le_refl _⟩
theorem Ex_ret {st : List Value} {v : α} (h : CxOk G X own cc nL rT FR LO mn tb → ∀ (H : Heap) (locs : List Loc) (cells slots : Nat) (ls : Array Slot) (Qc : Array Value → State → Outcome → State → Prop) (free : Addr → Prop), (∀ t : State, t.heap = H → Qc X.2.2.2.2.2.1 X.2.2.2.1 (.returned (rv v)) t) → (∀ q ∈ locs, free q.base) →
      W X.1 G.1 X.2.1 X.2.2.1 X.2.2.2.1 X.2.2.2.2.1 X.2.2.2.2.2.1 X.2.2.2.2.2.2.1 X.2.2.2.2.2.2.2.1 X.2.2.2.2.2.2.2.2 H locs cells slots (MQ X.2.2.2.2.2.2.1 Qc X.2.2.2.2.2.1 X.2.2.2.1 cells slots free) (F0 X.2.2.2.2.1 pc ls st)) : Ex G X σ0 own cc nL rT FR LO mn tb rv pc lv st (rt v) := by
  refine ⟨Mono_rt, ?_⟩
  intro hX σ o σ' e hcc hss g1 g2 g3 H locs ls hW hlo hv
  cases e
  exact vx_ret (h hX H locs _ _ ls _ _ (fun t ht => ⟨v, rfl, rfl, by rw [ht]; exact hW⟩) hlo)
end
section
variable {G : GT} {X : XT} {σ0 : Sg} {own : String} {cc : ByteArray} {nL : Nat} {rT : Option FieldType} {FR LO : Nat} {mn : String} {tb : List ExceptionTableEntry} {pc : Nat} {lv : List (Nat × Value)}
theorem Ex_ireturn {v : Int32} (hdg : decode cc pc = .ok (.ireturn, 1)) (hr : rT = some .int) : Ex G X σ0 own cc nL rT FR LO mn tb rI pc lv [.int v] (rt v) :=
  Ex_ret fun hX H locs cells slots ls Qc free hq hf => W.iret hX.2.1 hX.2.2.1 (hX.2.2.2.2.2.2.1.trans hr) (fun t ht _ => hq t ht) hf hdg hX.2.2.2.2.2.2.2.1
theorem Ex_zreturn {v : Int32} {ty : FieldType} (hdg : decode cc pc = .ok (.ireturn, 1)) (hr : rT = some ty) (hn : narrow ty (.int v) = .int v) : Ex G X σ0 own cc nL rT FR LO mn tb rI pc lv [.int v] (rt v) :=
  Ex_ret fun hX H locs cells slots ls Qc free hq hf => W.zret hX.2.1 hX.2.2.1 (hX.2.2.2.2.2.2.1.trans hr) hn (fun t ht _ => hq t ht) hf hdg hX.2.2.2.2.2.2.2.1
theorem Ex_lreturn {v : Int64} (hdg : decode cc pc = .ok (.lreturn, 1)) (hr : rT = some .long) : Ex G X σ0 own cc nL rT FR LO mn tb rJ pc lv [.long v] (rt v) :=
  Ex_ret fun hX H locs cells slots ls Qc free hq hf => W.lret hX.2.1 hX.2.2.1 (hX.2.2.2.2.2.2.1.trans hr) (fun t ht _ => hq t ht) hf hdg hX.2.2.2.2.2.2.2.1
theorem Ex_freturn {v : UInt32} (hdg : decode cc pc = .ok (.freturn, 1)) (hr : rT = some .float) : Ex G X σ0 own cc nL rT FR LO mn tb rF pc lv [.float v] (rt v) :=
  Ex_ret fun hX H locs cells slots ls Qc free hq hf => W.fret hX.2.1 hX.2.2.1 (hX.2.2.2.2.2.2.1.trans hr) (fun t ht _ => hq t ht) hf hdg hX.2.2.2.2.2.2.2.1
theorem Ex_dreturn {v : UInt64} (hdg : decode cc pc = .ok (.dreturn, 1)) (hr : rT = some .double) : Ex G X σ0 own cc nL rT FR LO mn tb rD pc lv [.double v] (rt v) :=
  Ex_ret fun hX H locs cells slots ls Qc free hq hf => W.dret hX.2.1 hX.2.2.1 (hX.2.2.2.2.2.2.1.trans hr) (fun t ht _ => hq t ht) hf hdg hX.2.2.2.2.2.2.2.1
theorem Ex_vreturn {v : Unit} (hdg : decode cc pc = .ok (.return_, 1)) (hr : rT = none) : Ex G X σ0 own cc nL rT FR LO mn tb rU pc lv [] (rt v) :=
  Ex_ret fun hX H locs cells slots ls Qc free hq hf => W.vret hX.2.1 hX.2.2.1 (hX.2.2.2.2.2.2.1.trans hr) (fun t ht _ => hq t ht) hf hdg hX.2.2.2.2.2.2.2.1
theorem Ex_areturn {v : Nat} {ty : FieldType} (hdg : decode cc pc = .ok (.areturn, 1)) (hr : rT = some ty) (ht : (∃ n, ty = .object n) ∨ ∃ t, ty = .array t) : Ex G X σ0 own cc nL rT FR LO mn tb rR pc lv [.ref v] (rt v) :=
  Ex_ret fun hX H locs cells slots ls Qc free hq hf => W.aret hX.2.1 hX.2.2.1 (hX.2.2.2.2.2.2.1.trans hr) ht (Or.inr ⟨v, rfl⟩) (fun t ht _ => hq t ht) hf hdg hX.2.2.2.2.2.2.2.1
theorem Ex_oreturn {v : Option Nat} {ty : FieldType} (hdg : decode cc pc = .ok (.areturn, 1)) (hr : rT = some ty) (ht : (∃ n, ty = .object n) ∨ ∃ t, ty = .array t) : Ex G X σ0 own cc nL rT FR LO mn tb rO pc lv [va_rf v] (rt v) :=
  Ex_ret fun hX H locs cells slots ls Qc free hq hf => W.aret hX.2.1 hX.2.2.1 (hX.2.2.2.2.2.2.1.trans hr) ht (by cases v with | none => exact Or.inl rfl | some a => exact Or.inr ⟨a, rfl⟩) (fun t ht _ => hq t ht) hf hdg hX.2.2.2.2.2.2.2.1
end
/-- booleans and chars -/
def zok (x : Int32) : Prop := x = 0 ∨ x = 1
def cok (x : Int32) : Prop := 0 ≤ x.toInt ∧ x.toInt < 65536
theorem zok_n {x : Int32} (h : zok x) : narrow .boolean (.int x) = .int x := by rcases h with rfl | rfl <;> rfl
theorem zok_f {x : Int32} (h : zok x) : fits .boolean (.int x) = true := by rcases h with rfl | rfl <;> rfl
theorem cok_e {x : Int32} (h : cok x) : ∃ n, n < 65536 ∧ x = nI n := by
  refine ⟨x.toInt.toNat, by have := h.1; have := h.2; omega, ?_⟩
  apply Int32.toInt.inj
  rw [nI_toInt (by have := h.1; have := h.2; omega)]
  have := h.1
  omega
theorem cok_n {x : Int32} (h : cok x) : narrow .char (.int x) = .int x := by
  obtain ⟨n, hn, rfl⟩ := cok_e h
  exact (pk_charN hn).1
theorem cok_f {x : Int32} (h : cok x) : fits .char (.int x) = true := by
  obtain ⟨n, hn, rfl⟩ := cok_e h
  exact (pk_charN hn).2
-- calls
def RunN (n : Nat) (G : GT) (X : XT) (H : Heap) (locs : List Loc) (cells slots mc ms pc : Nat) (ls : Array Slot) (stk rest : List Value) (Qa : State → Outcome → State → Prop) (XC : String → Nat → State → State → Prop) : Prop :=
  ∀ T : State, T.heap = H → Stand X.1 G.1 X.2.1 X.2.2.1 X.2.2.2.1 X.2.2.2.2.1 X.2.2.2.2.2.1 X.2.2.2.2.2.2.1 X.2.2.2.2.2.2.2.1 X.2.2.2.2.2.2.2.2 T locs cells slots →
    (∃ (v : Option Value) (st₀ t T' : State) (L : List Loc), Stand X.1 G.1 X.2.1 X.2.2.1 X.2.2.2.1 X.2.2.2.2.1 X.2.2.2.2.2.1 X.2.2.2.2.2.2.1 X.2.2.2.2.2.2.2.1 X.2.2.2.2.2.2.2.2 T' (locs ++ L) (cells + mc) (slots + ms) ∧ (∀ q ∈ L, gb G ≤ q.base) ∧ T'.heap = t.heap ∧ T'.vm = t.vm ∧ Qa st₀ (.returned v) t ∧
      Goes X.1 X.2.1 X.2.2.2.2.2.2.1 T (F0 X.2.2.2.2.1 pc ls stk) T' (F0 X.2.2.2.2.1 (pc + n) ls (v.toList ++ rest))) ∨
    (∃ (q : Addr) (st₀ t T' : State) (L : List Loc) (E : String) (ce : Cell), Stand X.1 G.1 X.2.1 X.2.2.1 X.2.2.2.1 X.2.2.2.2.1 X.2.2.2.2.2.1 X.2.2.2.2.2.2.1 X.2.2.2.2.2.2.2.1 X.2.2.2.2.2.2.2.2 T' (locs ++ L) (cells + mc) (slots + ms) ∧ (∀ z ∈ L, gb G ≤ z.base) ∧ T'.heap = t.heap ∧ T'.vm = t.vm ∧ XC E q st₀ t ∧ t.heap[q]? = some ce ∧ ce.vm = .none ∧ X.2.2.2.1.vm.findClass E = some ce.cls ∧
      Steps X.1.tables X.2.1 X.2.2.2.2.2.2.1 (T.setTop (F0 X.2.2.2.2.1 pc ls stk)) ((T'.setTop (F0 X.2.2.2.2.1 pc ls rest)).pushFrame (.throwing q)))
theorem RunN_of {G : GT} {X : XT} {H : Heap} {locs : List Loc} {cells slots mc ms pc : Nat} {ls : Array Slot} {stk rest : List Value} {Qa : State → Outcome → State → Prop} {XC : String → Nat → State → State → Prop} (h : vx_Run X.1 G.1 X.2.1 X.2.2.1 X.2.2.2.1 X.2.2.2.2.1 X.2.2.2.2.2.1 X.2.2.2.2.2.2.1 X.2.2.2.2.2.2.2.1 X.2.2.2.2.2.2.2.2 H locs cells slots mc ms (F0 X.2.2.2.2.1 pc ls stk) rest Qa XC (fun q => gb G ≤ q)) : RunN 3 G X H locs cells slots mc ms pc ls stk rest Qa XC := by
  intro T hT XS
  rcases h T hT XS with ⟨v, st0, t, T', L, -, r⟩ | ⟨q, st0, t, T', L, E, ce, -, r⟩
  · exact Or.inl ⟨v, st0, t, T', L, r⟩
  · exact Or.inr ⟨q, st0, t, T', L, E, ce, r⟩
theorem RunN_of5 {G : GT} {X : XT} {H : Heap} {locs : List Loc} {cells slots mc ms pc : Nat} {ls : Array Slot} {stk rest : List Value} {Qa : State → Outcome → State → Prop} {XC : String → Nat → State → State → Prop} (h : vx_Run5 X.1 G.1 X.2.1 X.2.2.1 X.2.2.2.1 X.2.2.2.2.1 X.2.2.2.2.2.1 X.2.2.2.2.2.2.1 X.2.2.2.2.2.2.2.1 X.2.2.2.2.2.2.2.2 H locs cells slots mc ms (F0 X.2.2.2.2.1 pc ls stk) rest Qa XC (fun q => gb G ≤ q)) : RunN 5 G X H locs cells slots mc ms pc ls stk rest Qa XC := by
  intro T hT XS
  rcases h T hT XS with ⟨v, st0, t, T', L, -, r⟩ | ⟨q, st0, t, T', L, E, ce, -, r⟩
  · exact Or.inl ⟨v, st0, t, T', L, r⟩
  · exact Or.inr ⟨q, st0, t, T', L, E, ce, r⟩
/-- the instruction at pc calls what f says -/
def Inv {β : Type} (G : GT) (X : XT) (own : String) (cc : ByteArray) (nL : Nat) (rT : Option FieldType) (FR LO : Nat) (mn : String) (tb : List ExceptionTableEntry) (n pc : Nat) (stk rest : List Value) (rvb : β → Option Value) (f : Ms β) : Prop :=
  Mono f ∧ (CxOk G X own cc nL rT FR LO mn tb → ∀ σ o σ' (H : Heap) (locs : List Loc) (cells slots : Nat) (ls : Array Slot), f σ = some (o, σ') → Wd G σ H → ls.size = nL → cells + (nx σ' - nx σ) ≤ X.2.2.1.cells → slots + (su σ' - su σ) ≤ X.2.2.1.slots →
    RunN n G X H locs cells slots (nx σ' - nx σ) (su σ' - su σ) pc ls stk rest (Qend G rvb o σ' #[]) (Xend G o σ'))
/-- q is thrown at pc -/
def ExT {α : Type} (G : GT) (X : XT) (σ0 : Sg) (own : String) (cc : ByteArray) (nL : Nat) (rT : Option FieldType) (FR LO : Nat) (mn : String) (tb : List ExceptionTableEntry) (rv : α → Option Value) (pc : Nat) (lv : List (Nat × Value)) (rest : List Value) (e q : Nat) (mm : Ms α) : Prop :=
  Mono mm ∧ (CxOk G X own cc nL rT FR LO mn tb → ∀ σ o σ', mm σ = some (o, σ') → X.2.2.1.cells = nx σ' - nx σ0 → X.2.2.1.slots = su σ' - su σ0 → nx σ0 ≤ nx σ → su σ0 ≤ su σ → X.2.2.2.1.heap.size ≤ nx σ → ∀ (H : Heap) (locs : List Loc) (ls : Array Slot) (ce : Cell), Wd G σ H → (∀ z ∈ locs, gb G ≤ z.base) → lv_has ls nL lv →
    H[q]? = some ce → ce.vm = .none → X.2.2.2.1.vm.findClass (exN e) = some ce.cls →
    vx_W X.1 G.1 X.2.1 X.2.2.1 X.2.2.2.1 X.2.2.2.2.1 X.2.2.2.2.2.1 X.2.2.2.2.2.2.1 X.2.2.2.2.2.2.2.1 X.2.2.2.2.2.2.2.2 H locs (nx σ - nx σ0) (su σ - su σ0) (QF G X σ0 rv o σ') (F0 X.2.2.2.2.1 pc ls rest) q)
section
variable {α β : Type} {G : GT} {X : XT} {σ0 : Sg} {own : String} {cc : ByteArray} {nL : Nat} {rT : Option FieldType} {FR LO : Nat} {mn : String} {tb : List ExceptionTableEntry} {rv : α → Option Value} {pc n : Nat} {lv : List (Nat × Value)} {stk rest : List Value} {rvb : β → Option Value} {f : Ms β}
theorem Ex_tr {kk : β → Ms α} {hh : Nat → Nat → Ms α} (hI : Inv G X own cc nL rT FR LO mn tb n pc stk rest rvb f) (k : ∀ v : β, Ex G X σ0 own cc nL rT FR LO mn tb rv (pc + n) lv ((rvb v).toList ++ rest) (kk v)) (h : ∀ e q, ExT G X σ0 own cc nL rT FR LO mn tb rv pc lv rest e q (hh e q)) : Ex G X σ0 own cc nL rT FR LO mn tb rv pc lv stk (tr f kk hh) := by
  refine ⟨fun σ o σ' e => ?_, ?_⟩
  · unfold tr at e
    cases hf : f σ with
    | none => rw [hf] at e; cases e
    | some r =>
      obtain ⟨o1, σ1⟩ := r
      rw [hf] at e
      have m1 := hI.1 σ o1 σ1 hf
      cases o1 with
      | inl v => have m2 := (k v).1 σ1 o σ' e; exact ⟨Nat.le_trans m1.1 m2.1, Nat.le_trans m1.2 m2.2⟩
      | inr x => have m2 := (h x.1 x.2).1 σ1 o σ' e; exact ⟨Nat.le_trans m1.1 m2.1, Nat.le_trans m1.2 m2.2⟩
  · intro hX σ o σ' e hcc hss g1 g2 g3 H locs ls hW hlo hv
    unfold tr at e
    cases hf : f σ with
    | none => rw [hf] at e; cases e
    | some r =>
      obtain ⟨o1, σ1⟩ := r
      rw [hf] at e
      have m1 := hI.1 σ o1 σ1 hf
      intro T hT XS
      cases o1 with
      | inl v =>
        have m2 := (k v).1 σ1 o σ' e
        have m1a := m1.1
        have m1b := m1.2
        have m2a := m2.1
        have m2b := m2.2
        rcases hI.2 hX σ _ σ1 H locs (nx σ - nx σ0) (su σ - su σ0) ls hf hW hv.1 (by rw [hcc]; omega) (by rw [hss]; omega) T hT XS with ⟨v1, st0, t, T', L, X', hL, e1, e2, ⟨v2, h1, h2, h3⟩, go⟩ | ⟨q, st0, t, T', L, E, ce, -, -, -, -, ⟨k9, h1, -⟩, -⟩
        · cases h1
          cases h2
          rw [show nx σ - nx σ0 + (nx σ1 - nx σ) = nx σ1 - nx σ0 by omega, show su σ - su σ0 + (su σ1 - su σ) = su σ1 - su σ0 by omega] at X'
          obtain ⟨t2, a1, b1⟩ := (k v).2 hX σ1 o σ' e hcc hss (Nat.le_trans g1 m1a) (Nat.le_trans g2 m1b) (Nat.le_trans g3 m1a) T'.heap (locs ++ L) ls (by rw [e1]; exact h3) (fun z hz => (List.mem_append.mp hz).elim (hlo z) (hL z)) hv T' rfl X'
          exact ⟨t2, go t2 a1, b1⟩
        · cases h1
      | inr x =>
        have m2 := (h x.1 x.2).1 σ1 o σ' e
        have m1a := m1.1
        have m1b := m1.2
        have m2a := m2.1
        have m2b := m2.2
        rcases hI.2 hX σ _ σ1 H locs (nx σ - nx σ0) (su σ - su σ0) ls hf hW hv.1 (by rw [hcc]; omega) (by rw [hss]; omega) T hT XS with ⟨v1, st0, t, T', L, X', hL, e1, e2, ⟨v2, h1, h2, h3⟩, go⟩ | ⟨q, st0, t, T', L, E, ce, X', hL, e1, e2, ⟨k9, h1, h2, h3⟩, hce, hcv, hcl, go⟩
        · cases h1
        · cases h1
          subst h2
          rw [show nx σ - nx σ0 + (nx σ1 - nx σ) = nx σ1 - nx σ0 by omega, show su σ - su σ0 + (su σ1 - su σ) = su σ1 - su σ0 by omega] at X'
          obtain ⟨t2, a1, b1⟩ := (h k9 q).2 hX σ1 o σ' e hcc hss (Nat.le_trans g1 m1a) (Nat.le_trans g2 m1b) (Nat.le_trans g3 m1a) T'.heap (locs ++ L) ls ce (by rw [e1]; exact h3) (fun z hz => (List.mem_append.mp hz).elim (hlo z) (hL z)) hv (by rw [e1]; exact hce) hcv hcl T' rfl X'
          exact ⟨t2, go.trans a1, b1⟩
theorem Mono_thq {e q : Nat} : Mono (thq e q : Ms α) := fun σ o σ' h => by cases h; exact ⟨Nat.le_refl _, Nat.le_refl _⟩
/-- not caught here -/
theorem ExT_out {e q : Nat} (hpass : ∀ z ∈ tb, covers z pc = false ∨ (z.catchType ≠ 0 ∧ ∃ nm : String, Cond.classLink own z.catchType nm ∈ lw_all ∧ (GOK G → va_Nc (exN e) nm G.2.1))) : ExT G X σ0 own cc nL rT FR LO mn tb rv pc lv rest e q (thq e q) := by
  refine ⟨Mono_thq, ?_⟩
  intro hX σ o σ' h hcc hss g1 g2 g3 H locs ls ce hW hlo hv h1 h2 h3
  cases h
  refine vx_outP (own := own) (E := exN e) hX.2.2.2.2.1 hX.2.2.2.2.2.2.2.1 (fun z hz => ?_) h1 h2 h3 (fun t ht _ => ⟨e, rfl, rfl, by rw [ht]; exact hW⟩) hlo (Nat.le_refl _) (Nat.le_refl _)
  rw [hX.2.2.2.2.2.2.2.2.2.2.2.2.2.2] at hz
  rcases hpass z hz with h | ⟨h0, nm, hl, hn⟩
  · exact Or.inl h
  · exact Or.inr ⟨h0, nm, cx_word hX hl, va_Nc.moved (cx_alike hX) (hn hX.1)⟩
/-- caught by the row x of the table -/
theorem ExT_catch {e q : Nat} {mm : Ms α} {name : String} (pre : List ExceptionTableEntry) (x : ExceptionTableEntry) (suf : List ExceptionTableEntry) (hsplit : tb = pre ++ x :: suf) (hpass : ∀ z ∈ pre, covers z pc = false ∨ (z.catchType ≠ 0 ∧ ∃ nm : String, Cond.classLink own z.catchType nm ∈ lw_all ∧ (GOK G → va_Nc (exN e) nm G.2.1)))
    (hx : covers x pc = true) (h0 : x.catchType ≠ 0) (hlink : Cond.classLink own x.catchType name ∈ lw_all) (hcast : Cond.castable (exN e) name ∈ lw_tbl) (k : Ex G X σ0 own cc nL rT FR LO mn tb rv x.handlerPc lv [.ref q] mm) : ExT G X σ0 own cc nL rT FR LO mn tb rv pc lv rest e q mm := by
  refine ⟨k.1, ?_⟩
  intro hX σ o σ' h hcc hss g1 g2 g3 H locs ls ce hW hlo hv h1 h2 h3
  refine vx_catch (own := own) (name := name) (E := exN e) hX.2.2.2.2.1 pre x suf (by rw [hX.2.2.2.2.2.2.2.2.2.2.2.2.2.2]; exact hsplit) (fun z hz => ?_) hx h0 (cx_word hX hlink) (va_Nw.use rfl (va_Nw.warmC hX.2.2.2.2.2.2.2.2.1 (cx_Nw hX rfl hcast))) h1 h2 h3 (k.2 hX σ o σ' h hcc hss g1 g2 g3 H locs ls hW hlo hv)
  rcases hpass z hz with h | ⟨h0, nm, hl, hn⟩
  · exact Or.inl h
  · exact Or.inr ⟨h0, nm, cx_word hX hl, va_Nc.moved (cx_alike hX) (hn hX.1)⟩
theorem ExT_fl {e q : Nat} : ExT G X σ0 own cc nL rT FR LO mn tb rv pc lv rest e q (fl : Ms α) := ⟨Mono_fl, fun _ _ _ _ h => by cases h⟩
theorem ExT_if {e q e0 : Nat} {m1 m2 : Ms α} (h1 : ExT G X σ0 own cc nL rT FR LO mn tb rv pc lv rest e0 q m1) (h2 : ExT G X σ0 own cc nL rT FR LO mn tb rv pc lv rest e q m2) : ExT G X σ0 own cc nL rT FR LO mn tb rv pc lv rest e q (if e = e0 then m1 else m2) := by
  by_cases h : e = e0
  · subst h; rw [if_pos rfl]; exact h1
  · rw [if_neg h]; exact h2
theorem bd_tr (kk : β → Ms α) : bd f kk = tr f kk thq := by
  funext σ
  unfold bd tr thq
  cases f σ with
  | none => rfl
  | some r => obtain ⟨o, σ1⟩ := r; cases o <;> rfl
theorem bn_tr (kk : β → Ms α) : bn f kk = tr f kk (fun _ _ => fl) := by
  funext σ
  unfold bn tr fl
  cases f σ with
  | none => rfl
  | some r => obtain ⟨o, σ1⟩ := r; cases o <;> rfl
theorem Ex_bd {kk : β → Ms α} (hI : Inv G X own cc nL rT FR LO mn tb n pc stk rest rvb f) (ht : ∀ z ∈ tb, covers z pc = false) (k : ∀ v : β, Ex G X σ0 own cc nL rT FR LO mn tb rv (pc + n) lv ((rvb v).toList ++ rest) (kk v)) : Ex G X σ0 own cc nL rT FR LO mn tb rv pc lv stk (bd f kk) := by
  rw [bd_tr]
  exact Ex_tr hI k (fun e q => ExT_out (fun z hz => Or.inl (ht z hz)))
theorem Ex_bn {kk : β → Ms α} (hI : Inv G X own cc nL rT FR LO mn tb n pc stk rest rvb f) (k : ∀ v : β, Ex G X σ0 own cc nL rT FR LO mn tb rv (pc + n) lv ((rvb v).toList ++ rest) (kk v)) : Ex G X σ0 own cc nL rT FR LO mn tb rv pc lv stk (bn f kk) := by
  rw [bn_tr]
  exact Ex_tr hI k (fun e q => ExT_fl)
/-- athrow -/
theorem Ex_athrow {e q : Nat} {mm : Ms α} (hdg : decode cc pc = .ok (.athrow, 1)) (hk : okC (exN e) [11]) (hs : ∀ kk ∈ [11], ∃ ci q, kk = ci + 1 ∧ cls[ci]? = some q ∧ q.1 = exN e) (k : ExT G X σ0 own cc nL rT FR LO mn tb rv pc lv rest e q mm) : Ex G X σ0 own cc nL rT FR LO mn tb rv pc lv (.ref q :: rest) (ko [11] q mm) := by
  refine ⟨Mono_if (p := fun σ => isK [11] (kd σ q) = true) (fun σ _ o σ' e => k.1 σ o σ' e), ?_⟩
  intro hX σ o σ' h hc hss h1 h2 h3 H locs ls hW hlo hv
  have h : (if isK [11] (kd σ q) = true then mm σ else none) = some (o, σ') := h
  by_cases hi : isK [11] (kd σ q) = true
  · rw [if_pos hi] at h
    obtain ⟨ci, c9, hkk, hcq, hcl⟩ := hs (kd σ q) (List.contains_iff_mem.mp hi)
    obtain ⟨cv, v1, v2, v3, v4⟩ := obj_of hX hW hkk hcq
    exact vx_athrow hX.2.1 hX.2.2.1 hdg (k.2 hX σ o σ' h hc hss h1 h2 h3 H locs ls cv hW hlo hv v1 ((hW.2.2.2.2.1 q (by rw [hkk]; exact Nat.succ_ne_zero _)).2 (by simpa [isK] using hi) cv v1).2.2 (by rw [← hcl]; exact v3))
  · rw [if_neg hi] at h; cases h
end
