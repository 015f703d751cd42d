/-- words that a method may use beyond its list -/
def mvW : Cond → Bool
  | .castable _ _ => true
  | .declares _ => true
  | w => goodWord w
theorem mvW_ot {w : Cond} (h : mvW w = true) : vx_ot w = true := by
  unfold mvW at h
  split at h
  · rfl
  · rfl
  · unfold vx_ot; rw [h, Bool.or_true]
section
variable {α : Type} {G : GT} {X : XT} {σ0 : Sg} {own : String} {cc : ByteArray} {nL : Nat} {rT : Option FieldType} {FR LO : Nat} {mn : String} {tb : List ExceptionTableEntry} {rv : α → Option Value} {pc : Nat} {lv : List (Nat × Value)} {rest : List Value}
theorem cx_tbl (hX : CxOk G X own cc nL rT FR LO mn tb) {w : Cond} (h : w ∈ lw_tbl) (hm : mvW w = true) : w.before X.2.2.2.2.2.1 X.2.2.2.1 = true := by
  unfold mvW at hm
  split at hm
  · exact va_Nw.use rfl (va_Nw.warmC hX.2.2.2.2.2.2.2.2.1 (cx_Nw hX rfl h))
  · exact va_Nw.use rfl (va_Nw.warmD hX.2.2.2.2.2.2.2.2.1 (cx_Nw hX rfl h))
  · exact cx_word hX (List.mem_filter.mpr ⟨h, hm⟩)
/-- the frame of the machine's heap since the method's entry -/
theorem cx_S (hX : CxOk G X own cc nL rT FR LO mn tb) {σ : Sg} {H : Heap} {locs : List Loc} (hW : Wd G σ H) (h3 : X.2.2.2.1.heap.size ≤ nx σ) (hl : ∀ z ∈ locs, gb G ≤ z.base) : va_S (fun q => gb G ≤ q) X.2.2.2.1.heap H locs :=
  ⟨by rw [hW.1.1]; exact h3, fun q _ hq => (hW.2.1 q (Nat.lt_of_not_le hq)).trans (hX.2.2.2.2.2.2.2.2.2.2.2.2.1 q (Nat.lt_of_not_le hq)).symm, hl⟩
theorem cx_base (hX : CxOk G X own cc nL rT FR LO mn tb) {a : Nat} (_ : a < G.2.1.heap.size) (h : ¬ gb G ≤ a) : X.2.2.2.1.heap[a]? = G.2.1.heap[a]? := hX.2.2.2.2.2.2.2.2.2.2.2.2.1 a (Nat.lt_of_not_le h)
theorem Mono_th {e : Nat} : Mono (th e : Ms α) := fun σ o σ' h => by cases h; exact ⟨Nat.le_succ _, Nat.le_add_right _ _⟩
/-- 'throw new E()' -/
theorem Ex_th {e ik ic : Nat} (names : List String) (hcls : Bundle.fit (exN e) = true) (hnames : ∀ n ∈ names, Bundle.fit n = true) (h1 : Cond.classLink own ik (exN e) ∈ lw_all) (h2 : Cond.initialized (exN e) ∈ lw_all) (hat : ∀ w ∈ vx_at0 own ic (exN e) names, w ∈ lw_tbl ∧ mvW w = true)
    (d0 : decode cc pc = .ok (.new ik, 3)) (d3 : decode cc (pc + 3) = .ok (.dup, 1)) (d4 : decode cc (pc + 4) = .ok (.invokespecial ic, 3)) (d7 : decode cc (pc + 7) = .ok (.athrow, 1)) (hout : ∀ x ∈ tb, covers x (pc + 7) = false)
    (hfr : names.length + 3 < FR) (hlo : (rest.map fun v => v.category).sum + (13 * (names.length + 1) + 42) ≤ LO) : Ex G X σ0 own cc nL rT FR LO mn tb rv pc lv rest (th e) := by
  refine ⟨Mono_th, fun hX σ o σ' h hcc hss g1 g2 g3 H locs ls hW hlo' hv => ?_⟩
  have h : some ((Sum.inr (e, nx σ) : α ⊕ (Nat × Nat)), bmp σ 1 6) = some (o, σ') := h
  obtain ⟨rfl, rfl⟩ := Prod.mk.inj (Option.some.inj h)
  have hz : H.size = nx σ := hW.1.1
  have hcc : X.2.2.1.cells = nx σ + 1 - nx σ0 := hcc
  have hss : X.2.2.1.slots = su σ + 6 - su σ0 := hss
  have hlk : (Cond.classLink own ik (exN e)).before X.2.2.2.2.2.1 X.2.2.2.1 = true := cx_word hX h1
  refine vx_throw0 (A := fun q => gb G ≤ q) hX.2.1 hX.2.2.1 hX.1.2.2.1 (names := names) hX.2.2.2.2.1 hcls hnames hlk (cx_word hX h2) (fun w hw => cx_tbl hX (hat w hw).1 (hat w hw).2) (fun w hw => ?_) (vx_Zq.moved (cx_alike hX) (vx_Zq.kept hX.1.2.2.2.2.1 (fun a ha hb => cx_base hX ha hb))) (vx_Zq.moved (cx_alike hX) (vx_Zq.kept hX.1.2.2.2.2.2.1 (fun a ha hb => cx_base hX ha hb)))
    (cx_S hX hW g3 hlo') (by rw [hX.2.2.2.1]; exact hv.1) d0 d3 d4 d7 (fun x hx => hout x (by rw [← hX.2.2.2.2.2.2.2.2.2.2.2.2.2.2]; exact hx)) (Nat.lt_of_lt_of_le hfr hX.2.2.2.2.2.2.2.2.2.1) (Nat.le_trans hlo hX.2.2.2.2.2.2.2.2.2.2.1) (by rw [hcc]; omega) (by rw [hss]; omega) hX.2.2.2.2.2.2.2.1
    (fun t _ hs hk => ⟨e, by rw [hz], rfl, wd_bmp hW (by rw [hs, hz]) (fun q hq => hk q (by rw [hz]; exact hq))⟩) hlo' (by show _ ≤ nx σ + 1 - nx σ0; omega) (by show _ ≤ su σ + 6 - su σ0; omega)
  rcases List.mem_cons.mp hw with rfl | hw
  · rfl
  · rcases List.mem_cons.mp hw with rfl | hw
    · rfl
    · exact mvW_ot (hat w hw).2
-- statics
theorem Ex_gs {j index : Nat} {x : String × String × String} {ref : String} {kk : Value → Ms α} (hj : stN[j]? = some x) (hdg : decode cc pc = .ok (.getstatic index, 3)) (hl : Cond.fieldLink own index ref x.2.1 x.2.2 ∈ lw_all) (hs : ref = x.1 ∨ Cond.sameField ref x.1 x.2.1 x.2.2 ∈ lw_all) (k : ∀ v, Ex G X σ0 own cc nL rT FR LO mn tb rv (pc + 3) lv (v :: rest) (kk v)) : Ex G X σ0 own cc nL rT FR LO mn tb rv pc lv rest (gs j kk) := by
  refine ⟨fun σ o σ' e => (k _).1 σ o σ' e, fun hX σ o σ' e hcc hss g1 g2 g3 H locs ls hW hlo hv => ?_⟩
  have hZ := va_Z.moved (cx_alike hX) (va_Z.kept (hW.2.2.2.2.2.1 j x hj) (fun a ha hb => cx_base hX ha hb))
  exact va_gets hX.2.1 hX.2.2.1 hZ (cx_S hX hW g3 hlo) hX.2.2.2.2.1 (cx_word hX hl) (fun y hy => by
    rcases hs with rfl | hs
    · exact hy
    · exact u_same (cx_word hX hs) y hy) hdg ((k _).2 hX σ o σ' e hcc hss g1 g2 g3 H locs ls hW hlo hv)
theorem Ex_gsI {j index : Nat} {x : String × String × String} {ref : String} {kk : Int32 → Ms α} (hj : stN[j]? = some x) (hdg : decode cc pc = .ok (.getstatic index, 3)) (hl : Cond.fieldLink own index ref x.2.1 x.2.2 ∈ lw_all) (hs : ref = x.1 ∨ Cond.sameField ref x.1 x.2.1 x.2.2 ∈ lw_all) (k : ∀ v : Int32, Ex G X σ0 own cc nL rT FR LO mn tb rv (pc + 3) lv (.int v :: rest) (kk v)) : Ex G X σ0 own cc nL rT FR LO mn tb rv pc lv rest (gsI j kk) := by
  refine Ex_gs hj hdg hl hs (fun v => ?_)
  cases v with
  | int x => exact k x
  | _ => exact Ex_fl
theorem Ex_gsO {j index : Nat} {x : String × String × String} {ref : String} {kk : Option Nat → Ms α} (hj : stN[j]? = some x) (hdg : decode cc pc = .ok (.getstatic index, 3)) (hl : Cond.fieldLink own index ref x.2.1 x.2.2 ∈ lw_all) (hs : ref = x.1 ∨ Cond.sameField ref x.1 x.2.1 x.2.2 ∈ lw_all) (k : ∀ v : Option Nat, Ex G X σ0 own cc nL rT FR LO mn tb rv (pc + 3) lv (va_rf v :: rest) (kk v)) : Ex G X σ0 own cc nL rT FR LO mn tb rv pc lv rest (gsO j kk) := by
  refine Ex_gs hj hdg hl hs (fun v => ?_)
  cases v with
  | ref x => exact k (some x)
  | null => exact k none
  | _ => exact Ex_fl
theorem Ex_gsR {j index : Nat} {x : String × String × String} {ref : String} {kk : Nat → Ms α} (hj : stN[j]? = some x) (hdg : decode cc pc = .ok (.getstatic index, 3)) (hl : Cond.fieldLink own index ref x.2.1 x.2.2 ∈ lw_all) (hs : ref = x.1 ∨ Cond.sameField ref x.1 x.2.1 x.2.2 ∈ lw_all) (k : ∀ v : Nat, Ex G X σ0 own cc nL rT FR LO mn tb rv (pc + 3) lv (.ref v :: rest) (kk v)) : Ex G X σ0 own cc nL rT FR LO mn tb rv pc lv rest (gsR j kk) := by
  refine Ex_gs hj hdg hl hs (fun v => ?_)
  cases v with
  | ref x => exact k x
  | _ => exact Ex_fl
-- mirrors
theorem wd_mi (hX : CxOk G X own cc nL rT FR LO mn tb) {σ : Sg} {H : Heap} (hW : Wd G σ H) {j : Nat} {C : String} (hj : miN[j]? = some C) : ∃ mi, st σ (20 + j) = .ref mi ∧ va_Mi C mi X.2.2.2.1 := by
  obtain ⟨mi, h1, h2⟩ := hW.2.2.2.2.2.2.1 j C hj
  exact ⟨mi, h1, va_Mi.moved (cx_alike hX) h2⟩
theorem Ex_ldcM {j index : Nat} {C : String} {kk : Nat → Ms α} (hj : miN[j]? = some C) (hdg : decode cc pc = .ok (.ldc index, 2)) (hl : Cond.classLink own index C ∈ lw_all) (k : ∀ v : Nat, Ex G X σ0 own cc nL rT FR LO mn tb rv (pc + 2) lv (.ref v :: rest) (kk v)) : Ex G X σ0 own cc nL rT FR LO mn tb rv pc lv rest (gsR (20 + j) kk) := by
  refine ⟨fun σ o σ' e => ?_, fun hX σ o σ' e hcc hss g1 g2 g3 H locs ls hW hlo hv => ?_⟩
  · unfold gsR gs at e
    revert e
    cases st σ (20 + j) with
    | ref x => intro e; exact (k x).1 σ o σ' e
    | _ => intro e; cases e
  · obtain ⟨mi, h1, h2⟩ := wd_mi hX hW hj
    unfold gsR gs at e
    rw [h1] at e
    exact va_ldcM hX.2.1 hX.2.2.1 hX.2.2.2.2.1 (cx_word hX hl) h2 hdg ((k mi).2 hX σ o σ' e hcc hss g1 g2 g3 H locs ls hW hlo hv)
def gcN : MethodName := ⟨"java/lang/Object", "getClass", "()Ljava/lang/Class;"⟩
/-- getClass of an array of Objects -/
theorem Ex_getC {j jt index a : Nat} {C E : String} {kk : Nat → Ms α} (hj : miN[j]? = some C) (ht : arrT[jt]? = some (.object E)) (hCE : C = "[" ++ (FieldType.object E).toString) (hdg : decode cc pc = .ok (.invokevirtual index, 3)) (hl : Cond.methodLink own index gcN ∈ lw_all) (h1 : Cond.declares gcN ∈ lw_tbl) (h2 : Cond.selects C gcN gcN ∈ lw_all) (h3 : Cond.instanceMethod gcN ∈ lw_all) (h4 : Cond.native gcN ∈ lw_all) (hfr : 1 ≤ FR) (hlo : (rest.map fun v => v.category).sum + 14 ≤ LO)
    (k : ∀ v : Nat, Ex G X σ0 own cc nL rT FR LO mn tb rv (pc + 3) lv (.ref v :: rest) (kk v)) (hne : E ≠ "java/lang/Integer" := by decide) : Ex G X σ0 own cc nL rT FR LO mn tb rv pc lv (.ref a :: rest) (ko [30 + jt] a (gsR (20 + j) kk)) := by
  refine ⟨Mono_ko (fun σ o σ' e => ?_), fun hX σ o σ' e hcc hss g1 g2 g3 H locs ls hW hlo' hv => ?_⟩
  · unfold gsR gs at e
    revert e
    cases st σ (20 + j) with
    | ref x => intro e; exact (k x).1 σ o σ' e
    | _ => intro e; cases e
  · obtain ⟨hi, e⟩ := ko_inv e
    obtain ⟨mi, m1, m2⟩ := wd_mi hX hW hj
    unfold gsR gs at e
    rw [m1] at e
    have hkk : kd σ a = 30 + jt := by simpa [isK] using hi
    obtain ⟨cell, q1, q2, q3, q4, q5, q6⟩ := hW.2.2.2.1 a jt _ hkk ht
    obtain ⟨kA, comp, w1, w2, w3, w4⟩ := va_RA.moved (cx_alike hX) (q2.2 E rfl hne)
    exact va_getC hX.2.1 hX.2.2.1 (by rw [hX.2.2.2.1]; exact hv.1.symm) hX.2.2.2.2.1 (cx_word hX hl) (cx_tbl hX h1 rfl) (cx_word hX h2) (cx_word hX h3) (cx_word hX h4) m2 ⟨cell, q1, q3.2.1, by rw [hCE]; exact w4⟩ (Nat.le_trans hfr hX.2.2.2.2.2.2.2.2.2.1) (Nat.le_trans hlo hX.2.2.2.2.2.2.2.2.2.2.1) hdg ((k mi).2 hX σ o σ' e hcc hss g1 g2 g3 H locs ls hW hlo' hv)
end
