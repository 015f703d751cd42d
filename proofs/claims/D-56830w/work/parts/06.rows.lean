def LkF (own : String) (index f : Nat) : Prop := (∃ ref, Cond.fieldLink own index ref (fN f).2.1 (fN f).2.2.1 ∈ lw_all ∧ (ref = (fN f).1 ∨ Cond.sameField ref (fN f).1 (fN f).2.1 (fN f).2.2.1 ∈ lw_all)) ∨ (∃ host, Cond.fieldLinkNest own index (fN f).1 (fN f).2.1 (fN f).2.2.1 host ∈ lw_tbl)
theorem Mono_if {α : Type} {p : Sg → Prop} [∀ σ, Decidable (p σ)] {m : Sg → Option ((α ⊕ (Nat × Nat)) × Sg)} (h : ∀ σ, p σ → ∀ o σ', m σ = some (o, σ') → nx σ ≤ nx σ' ∧ su σ ≤ su σ') : Mono (fun σ => if p σ then m σ else none) := by
  intro σ o σ' e
  have e : (if p σ then m σ else none) = some (o, σ') := e
  by_cases hp : p σ
  · rw [if_pos hp] at e; exact h σ hp o σ' e
  · rw [if_neg hp] at e; cases e
theorem Ex_gV {α : Type} {G : GT} {X : XT} {σ0 : Sg} {own : String} {cc : ByteArray} {nL : Nat} {rT : Option FieldType} {FR LO : Nat} {mn : String} {tb : List ExceptionTableEntry} {rv : α → Option Value} {pc : Nat} {lv : List (Nat × Value)} {rest : List Value} {index f a : Nat} {ks : List Nat} {kk : Value → Ms α} (hdg : decode cc pc = .ok (.getfield index, 3)) (hl : LkF own index f) (hk : okF ks f = true) (k : ∀ v, Ex G X σ0 own cc nL rT FR LO mn tb rv (pc + 3) lv (v :: rest) (kk v)) : Ex G X σ0 own cc nL rT FR LO mn tb rv pc lv (.ref a :: rest) (gV ks f a kk) := by
  refine ⟨Mono_if (p := fun σ => isK ks (kd σ a) = true) (fun σ _ o σ' e => (k _).1 σ o σ' e), ?_⟩
  intro hX σ o σ' e hc hs h1 h2 h3 H locs ls hW hlo hv
  have e : (if isK ks (kd σ a) = true then kk (fd σ f a) σ else none) = some (o, σ') := e
  by_cases hi : isK ks (kd σ a) = true
  · rw [if_pos hi] at e
    obtain ⟨ci, q, kx, e1, e2, e3, e4⟩ := okF_spec hk hi
    obtain ⟨cell, q1, q2, q3, q4⟩ := hW.2.2.1 a ci q e1 e2
    obtain ⟨hS, hfc, kC, hkC, hkind⟩ := (cx_K hX).1 ci q e2
    obtain ⟨cf, kf, fi, fdd, hii, hsl⟩ := hS kx e3
    have hst := (u_facts hfc hkC (u_lays (ws := lw_all) (fun w h => cx_word hX h) (cx_cl hX e2).1 e3) hii).1
    have hT : q.2.1 kx = fN f := by rw [(cls_T e2).1, e4]
    rw [hT] at hii
    have hkk := (k (fd σ f a)).2 hX σ o σ' e hc hs h1 h2 h3 H locs ls hW hlo hv
    have hslot : cell.slots[fdd.slot]? = some (fd σ f a) := by rw [hsl, q4 kx e3]; show some (fd σ (fS ci kx) a) = _; rw [e4]
    rcases hl with ⟨ref, hl1, hl2⟩ | ⟨host, hl1⟩
    · have hsame : X.2.2.2.1.fieldFound? ref (fN f).2.1 (fN f).2.2.1 = some (cf, kf, fi, fdd) := by
        rcases hl2 with rfl | hl2
        · exact hii
        · exact u_same (cx_word hX hl2) _ hii
      exact W.getf hX.2.1 hX.2.2.1 hX.2.2.2.2.1 (cx_word hX hl1) hsame hst q1 q3.1 hslot rfl rfl hdg hkk
    · exact va_Wgetf hX.2.1 hX.2.2.1 hX.2.2.2.2.1 (va_Nw.use rfl (va_Nw.warmF hX.2.2.2.2.2.2.2.2.1 (cx_Nw hX rfl hl1))) hii hst q1 q3.1 hslot rfl rfl hdg hkk
  · rw [if_neg hi] at e; cases e
theorem Ex_gI {α : Type} {G : GT} {X : XT} {σ0 : Sg} {own : String} {cc : ByteArray} {nL : Nat} {rT : Option FieldType} {FR LO : Nat} {mn : String} {tb : List ExceptionTableEntry} {rv : α → Option Value} {pc : Nat} {lv : List (Nat × Value)} {rest : List Value} {index f a : Nat} {ks : List Nat} {kk : Int32 → Ms α} (hdg : decode cc pc = .ok (.getfield index, 3)) (hl : LkF own index f) (hk : okF ks f = true) (k : ∀ x : Int32, Ex G X σ0 own cc nL rT FR LO mn tb rv (pc + 3) lv (.int x :: rest) (kk x)) : Ex G X σ0 own cc nL rT FR LO mn tb rv pc lv (.ref a :: rest) (gI ks f a kk) := by
  refine Ex_gV hdg hl hk (fun v => ?_)
  cases v with
  | int x => exact k x
  | _ => exact Ex_fl
theorem Ex_gJ {α : Type} {G : GT} {X : XT} {σ0 : Sg} {own : String} {cc : ByteArray} {nL : Nat} {rT : Option FieldType} {FR LO : Nat} {mn : String} {tb : List ExceptionTableEntry} {rv : α → Option Value} {pc : Nat} {lv : List (Nat × Value)} {rest : List Value} {index f a : Nat} {ks : List Nat} {kk : Int64 → Ms α} (hdg : decode cc pc = .ok (.getfield index, 3)) (hl : LkF own index f) (hk : okF ks f = true) (k : ∀ x : Int64, Ex G X σ0 own cc nL rT FR LO mn tb rv (pc + 3) lv (.long x :: rest) (kk x)) : Ex G X σ0 own cc nL rT FR LO mn tb rv pc lv (.ref a :: rest) (gJ ks f a kk) := by
  refine Ex_gV hdg hl hk (fun v => ?_)
  cases v with
  | long x => exact k x
  | _ => exact Ex_fl
theorem Ex_gR {α : Type} {G : GT} {X : XT} {σ0 : Sg} {own : String} {cc : ByteArray} {nL : Nat} {rT : Option FieldType} {FR LO : Nat} {mn : String} {tb : List ExceptionTableEntry} {rv : α → Option Value} {pc : Nat} {lv : List (Nat × Value)} {rest : List Value} {index f a : Nat} {ks : List Nat} {kk : Nat → Ms α} (hdg : decode cc pc = .ok (.getfield index, 3)) (hl : LkF own index f) (hk : okF ks f = true) (k : ∀ x : Nat, Ex G X σ0 own cc nL rT FR LO mn tb rv (pc + 3) lv (.ref x :: rest) (kk x)) : Ex G X σ0 own cc nL rT FR LO mn tb rv pc lv (.ref a :: rest) (gR ks f a kk) := by
  refine Ex_gV hdg hl hk (fun v => ?_)
  cases v with
  | ref x => exact k x
  | _ => exact Ex_fl
theorem Ex_gO {α : Type} {G : GT} {X : XT} {σ0 : Sg} {own : String} {cc : ByteArray} {nL : Nat} {rT : Option FieldType} {FR LO : Nat} {mn : String} {tb : List ExceptionTableEntry} {rv : α → Option Value} {pc : Nat} {lv : List (Nat × Value)} {rest : List Value} {index f a : Nat} {ks : List Nat} {kk : Option Nat → Ms α} (hdg : decode cc pc = .ok (.getfield index, 3)) (hl : LkF own index f) (hk : okF ks f = true) (k : ∀ x : Option Nat, Ex G X σ0 own cc nL rT FR LO mn tb rv (pc + 3) lv (va_rf x :: rest) (kk x)) : Ex G X σ0 own cc nL rT FR LO mn tb rv pc lv (.ref a :: rest) (gO ks f a kk) := by
  refine Ex_gV hdg hl hk (fun v => ?_)
  cases v with
  | ref x => exact k (some x)
  | null => exact k none
  | _ => exact Ex_fl
theorem Ex_pV {α : Type} {G : GT} {X : XT} {σ0 : Sg} {own : String} {cc : ByteArray} {nL : Nat} {rT : Option FieldType} {FR LO : Nat} {mn : String} {tb : List ExceptionTableEntry} {rv : α → Option Value} {pc : Nat} {lv : List (Nat × Value)} {rest : List Value} {index f a : Nat} {ks : List Nat} {v : Value} {mm : Ms α} (hdg : decode cc pc = .ok (.putfield index, 3)) (hl : LkF own index f) (hk : okF ks f = true) (hfin : (fN f).2.2.2 = false) (hn : narrow (fty f) v = v) (hf : fits (fty f) v = true) (k : Ex G X σ0 own cc nL rT FR LO mn tb rv (pc + 3) lv (rest) mm) : Ex G X σ0 own cc nL rT FR LO mn tb rv pc lv (v :: .ref a :: rest) (pV ks f a v mm) := by
  refine ⟨Mono_if (p := fun σ => isK ks (kd σ a) = true ∧ bs σ ≤ a) (fun σ _ o σ' e => k.1 (setF σ f a v) o σ' e), ?_⟩
  intro hX σ o σ' e hc hs h1 h2 h3 H locs ls hW hlo hv
  have e : (if isK ks (kd σ a) = true ∧ bs σ ≤ a then mm (setF σ f a v) else none) = some (o, σ') := e
  by_cases hi : isK ks (kd σ a) = true ∧ bs σ ≤ a
  · rw [if_pos hi] at e
    obtain ⟨ci, q, kx, e1, e2, e3, e4⟩ := okF_spec hk hi.1
    obtain ⟨cell, q1, q2, q3, q4⟩ := hW.2.2.1 a ci q e1 e2
    obtain ⟨hS, hfc, kC, hkC, hkind⟩ := (cx_K hX).1 ci q e2
    obtain ⟨cf, kf, fi, fdd, hii, hsl⟩ := hS kx e3
    have hlay := cx_word hX ((cx_cl hX e2).1 _ (u_in_lay e3))
    have hst := (u_facts hfc hkC (u_lays (ws := lw_all) (fun w h => cx_word hX h) (cx_cl hX e2).1 e3) hii).1
    have hpd := (cx_cl hX e2).2.2 kx e3
    have hT : q.2.1 kx = fN f := by rw [(cls_T e2).1, e4]
    have hba : gb G ≤ a := by rw [← hW.1.2.1]; exact hi.2
    rw [e4] at hpd
    unfold u_lay at hlay
    rw [if_neg (by rw [hT, hfin]; decide)] at hlay
    have h6 := u_store hfc hkC hkind hlay hii hpd hn hf
    rw [hT] at hii
    rcases hl with ⟨ref, hl1, hl2⟩ | ⟨host, hl1⟩
    · have hsame : X.2.2.2.1.fieldFound? ref (fN f).2.1 (fN f).2.2.1 = some (cf, kf, fi, fdd) := by
        rcases hl2 with rfl | hl2
        · exact hii
        · exact u_same (cx_word hX hl2) _ hii
      refine W.putK hX.2.1 hX.2.2.1 (f := fdd) ⟨hX.2.2.2.2.1, cx_word hX hl1, ⟨_, _, _, hsame⟩, hst⟩ (by rw [q2]; exact h6) q1 (q3.2.2 hba) (by rw [hsl]; exact k2_hasslot (q4 kx e3)) rfl rfl hdg fun H' g1 g2 g3 => ?_
      exact k.2 hX (setF σ f a v) o σ' e hc hs h1 h2 h3 H' _ ls (wd_setF hW e1 e2 e3 e4 hba q1 (by rw [← hsl]; exact g1) g2 g3 (cx_apart hX e2)) (fun z hz => by
        rcases List.mem_append.mp hz with hz | hz
        · exact hlo z hz
        · rw [List.mem_singleton.mp hz]; exact hba) hv
    · refine va_WputK hX.2.1 hX.2.2.1 (f := fdd) hX.2.2.2.2.1 (va_Nw.use rfl (va_Nw.warmF hX.2.2.2.2.2.2.2.2.1 (cx_Nw hX rfl hl1))) hii hst (by rw [q2]; exact h6) q1 (q3.2.2 hba) (by rw [hsl]; exact k2_hasslot (q4 kx e3)) rfl rfl hdg fun H' g1 g2 g3 => ?_
      exact k.2 hX (setF σ f a v) o σ' e hc hs h1 h2 h3 H' _ ls (wd_setF hW e1 e2 e3 e4 hba q1 (by rw [← hsl]; exact g1) g2 g3 (cx_apart hX e2)) (fun z hz => by
        rcases List.mem_append.mp hz with hz | hz
        · exact hlo z hz
        · rw [List.mem_singleton.mp hz]; exact hba) hv
  · rw [if_neg hi] at e; cases e
theorem Ex_pVF {α : Type} {G : GT} {X : XT} {σ0 : Sg} {own : String} {cc : ByteArray} {nL : Nat} {rT : Option FieldType} {FR LO : Nat} {mn : String} {tb : List ExceptionTableEntry} {rv : α → Option Value} {pc : Nat} {lv : List (Nat × Value)} {rest : List Value} {index f a : Nat} {ks : List Nat} {v : Value} {mm : Ms α} (hdg : decode cc pc = .ok (.putfield index, 3)) (hl : ∃ ref, Cond.fieldLink own index ref (fN f).2.1 (fN f).2.2.1 ∈ lw_all ∧ (ref = (fN f).1 ∨ Cond.sameField ref (fN f).1 (fN f).2.1 (fN f).2.2.1 ∈ lw_all)) (hk : okF ks f = true) (hfin : (fN f).2.2.2 = true) (hin : mn = "<init>") (hdecl : (fN f).1 = own) (hn : narrow (fty f) v = v) (hf : fits (fty f) v = true) (k : Ex G X σ0 own cc nL rT FR LO mn tb rv (pc + 3) lv (rest) mm) : Ex G X σ0 own cc nL rT FR LO mn tb rv pc lv (v :: .ref a :: rest) (pV ks f a v mm) := by
  refine ⟨Mono_if (p := fun σ => isK ks (kd σ a) = true ∧ bs σ ≤ a) (fun σ _ o σ' e => k.1 (setF σ f a v) o σ' e), ?_⟩
  intro hX σ o σ' e hc hs h1 h2 h3 H locs ls hW hlo hv
  have e : (if isK ks (kd σ a) = true ∧ bs σ ≤ a then mm (setF σ f a v) else none) = some (o, σ') := e
  by_cases hi : isK ks (kd σ a) = true ∧ bs σ ≤ a
  · rw [if_pos hi] at e
    obtain ⟨ci, q, kx, e1, e2, e3, e4⟩ := okF_spec hk hi.1
    obtain ⟨cell, q1, q2, q3, q4⟩ := hW.2.2.1 a ci q e1 e2
    obtain ⟨hS, hfc, kC, hkC, hkind⟩ := (cx_K hX).1 ci q e2
    obtain ⟨cf, kf, fi, fdd, hii, hsl⟩ := hS kx e3
    have hlay := cx_word hX ((cx_cl hX e2).1 _ (u_in_lay e3))
    have hst := (u_facts hfc hkC (u_lays (ws := lw_all) (fun w h => cx_word hX h) (cx_cl hX e2).1 e3) hii).1
    have hpd := (cx_cl hX e2).2.2 kx e3
    have hT : q.2.1 kx = fN f := by rw [(cls_T e2).1, e4]
    have hba : gb G ≤ a := by rw [← hW.1.2.1]; exact hi.2
    rw [e4] at hpd
    unfold u_lay at hlay
    rw [if_pos (by rw [hT]; exact hfin)] at hlay
    have hcf : X.2.2.2.2.1.cls = cf := by
      obtain ⟨_, _, c', _, _, _, -, -, hf', -, -, -, hown2, -⟩ := Cond.laysFinal_spec hlay
      have z1 : c' = cf := by have := hii.symm.trans hf'; simp at this; exact this.1.symm
      rw [hT, hdecl] at hown2
      rw [← z1]; exact Option.some.inj (hX.2.2.2.2.1.symm.trans hown2)
    have h6 := u_fits hfc hkC hkind (Or.inr hlay) hii hpd hn hf
    rw [hT] at hii
    obtain ⟨ref, hl1, hl2⟩ := hl
    · have hsame : X.2.2.2.1.fieldFound? ref (fN f).2.1 (fN f).2.2.1 = some (cf, kf, fi, fdd) := by
        rcases hl2 with rfl | hl2
        · exact hii
        · exact u_same (cx_word hX hl2) _ hii
      refine W.putFinK hX.2.1 hX.2.2.1 hX.2.2.2.2.1 (cx_word hX hl1) hsame hst hcf ((hX.2.2.2.2.2.2.2.2.2.2.2.2.2.1 hin).1.trans hin) (by rw [q2]; exact h6) q1 (q3.2.2 hba) (by rw [hsl]; exact k2_hasslot (q4 kx e3)) rfl rfl hdg fun H' g1 g2 g3 => ?_
      exact k.2 hX (setF σ f a v) o σ' e hc hs h1 h2 h3 H' _ ls (wd_setF hW e1 e2 e3 e4 hba q1 (by rw [← hsl]; exact g1) g2 g3 (cx_apart hX e2)) (fun z hz => by
        rcases List.mem_append.mp hz with hz | hz
        · exact hlo z hz
        · rw [List.mem_singleton.mp hz]; exact hba) hv
  · rw [if_neg hi] at e; cases e
theorem as_self (vm : Vm) (c : ClassId) : vm.assignable c c = true := by
  show vm.assignableAux (255 + 1) c c = true
  rw [Vm.assignableAux]
  simp only [beq_self_eq_true, Bool.true_or]
theorem vp_in_of2 {i : Int32} {n : Nat} (h : 0 ≤ i.toInt ∧ i.toInt < n) : ¬ (i < 0 ∨ n ≤ i.toNatClampNeg) := vp_in_iff.mpr h
theorem Ex_iald {α : Type} {G : GT} {X : XT} {σ0 : Sg} {own : String} {cc : ByteArray} {nL : Nat} {rT : Option FieldType} {FR LO : Nat} {mn : String} {tb : List ExceptionTableEntry} {rv : α → Option Value} {pc : Nat} {lv : List (Nat × Value)} {rest : List Value} {a : Nat} {i : Int32} {kk : Value → Ms α} (hdg : decode cc pc = .ok (.iaload, 1)) (k : ∀ v, Ex G X σ0 own cc nL rT FR LO mn tb rv (pc + 1) lv (v :: rest) (kk v)) : Ex G X σ0 own cc nL rT FR LO mn tb rv pc lv (.int i :: .ref a :: rest) (aV 30 a i kk) := by
  refine ⟨Mono_if (p := fun σ => kd σ a = 30 ∧ 0 ≤ i.toInt ∧ i.toInt < ln σ a) (fun σ _ o σ' e => (k _).1 σ o σ' e), ?_⟩
  intro hX σ o σ' e hc hs h1 h2 h3 H locs ls hW hlo hv
  have e : (if kd σ a = 30 ∧ 0 ≤ i.toInt ∧ i.toInt < ln σ a then kk (ar σ a i.toNatClampNeg) σ else none) = some (o, σ') := e
  by_cases hi : kd σ a = 30 ∧ 0 ≤ i.toInt ∧ i.toInt < ln σ a
  · rw [if_pos hi] at e
    obtain ⟨cell, q1, q2, q3, q4, q5, q6⟩ := hW.2.2.2.1 a 0 .int hi.1 rfl
    have hin := vp_in_of2 hi.2
    exact W.iald hX.2.1 hX.2.2.1 q1 (State.isArrayOf_alike (cx_alike hX) q2.1) q3.1 (by rw [q4]; exact hin) (q6 _ (Nat.lt_of_not_le fun h => hin (Or.inr h))) rfl rfl hdg ((k _).2 hX σ o σ' e hc hs h1 h2 h3 H locs ls hW hlo hv)
  · rw [if_neg hi] at e; cases e
theorem Ex_zald {α : Type} {G : GT} {X : XT} {σ0 : Sg} {own : String} {cc : ByteArray} {nL : Nat} {rT : Option FieldType} {FR LO : Nat} {mn : String} {tb : List ExceptionTableEntry} {rv : α → Option Value} {pc : Nat} {lv : List (Nat × Value)} {rest : List Value} {a : Nat} {i : Int32} {kk : Value → Ms α} (hdg : decode cc pc = .ok (.baload, 1)) (k : ∀ v, Ex G X σ0 own cc nL rT FR LO mn tb rv (pc + 1) lv (v :: rest) (kk v)) : Ex G X σ0 own cc nL rT FR LO mn tb rv pc lv (.int i :: .ref a :: rest) (aV 31 a i kk) := by
  refine ⟨Mono_if (p := fun σ => kd σ a = 31 ∧ 0 ≤ i.toInt ∧ i.toInt < ln σ a) (fun σ _ o σ' e => (k _).1 σ o σ' e), ?_⟩
  intro hX σ o σ' e hc hs h1 h2 h3 H locs ls hW hlo hv
  have e : (if kd σ a = 31 ∧ 0 ≤ i.toInt ∧ i.toInt < ln σ a then kk (ar σ a i.toNatClampNeg) σ else none) = some (o, σ') := e
  by_cases hi : kd σ a = 31 ∧ 0 ≤ i.toInt ∧ i.toInt < ln σ a
  · rw [if_pos hi] at e
    obtain ⟨cell, q1, q2, q3, q4, q5, q6⟩ := hW.2.2.2.1 a 1 .boolean hi.1 rfl
    have hin := vp_in_of2 hi.2
    exact W.zald hX.2.1 hX.2.2.1 q1 (State.isArrayOf_alike (cx_alike hX) q2.1) q3.1 (by rw [q4]; exact hin) (q6 _ (Nat.lt_of_not_le fun h => hin (Or.inr h))) rfl rfl hdg ((k _).2 hX σ o σ' e hc hs h1 h2 h3 H locs ls hW hlo hv)
  · rw [if_neg hi] at e; cases e
theorem Ex_lald {α : Type} {G : GT} {X : XT} {σ0 : Sg} {own : String} {cc : ByteArray} {nL : Nat} {rT : Option FieldType} {FR LO : Nat} {mn : String} {tb : List ExceptionTableEntry} {rv : α → Option Value} {pc : Nat} {lv : List (Nat × Value)} {rest : List Value} {a : Nat} {i : Int32} {kk : Value → Ms α} (hdg : decode cc pc = .ok (.laload, 1)) (k : ∀ v, Ex G X σ0 own cc nL rT FR LO mn tb rv (pc + 1) lv (v :: rest) (kk v)) : Ex G X σ0 own cc nL rT FR LO mn tb rv pc lv (.int i :: .ref a :: rest) (aV 35 a i kk) := by
  refine ⟨Mono_if (p := fun σ => kd σ a = 35 ∧ 0 ≤ i.toInt ∧ i.toInt < ln σ a) (fun σ _ o σ' e => (k _).1 σ o σ' e), ?_⟩
  intro hX σ o σ' e hc hs h1 h2 h3 H locs ls hW hlo hv
  have e : (if kd σ a = 35 ∧ 0 ≤ i.toInt ∧ i.toInt < ln σ a then kk (ar σ a i.toNatClampNeg) σ else none) = some (o, σ') := e
  by_cases hi : kd σ a = 35 ∧ 0 ≤ i.toInt ∧ i.toInt < ln σ a
  · rw [if_pos hi] at e
    obtain ⟨cell, q1, q2, q3, q4, q5, q6⟩ := hW.2.2.2.1 a 5 .long hi.1 rfl
    have hin := vp_in_of2 hi.2
    exact W.lald hX.2.1 hX.2.2.1 q1 (State.isArrayOf_alike (cx_alike hX) q2.1) q3.1 (by rw [q4]; exact hin) (q6 _ (Nat.lt_of_not_le fun h => hin (Or.inr h))) rfl rfl hdg ((k _).2 hX σ o σ' e hc hs h1 h2 h3 H locs ls hW hlo hv)
  · rw [if_neg hi] at e; cases e
theorem Ex_dald {α : Type} {G : GT} {X : XT} {σ0 : Sg} {own : String} {cc : ByteArray} {nL : Nat} {rT : Option FieldType} {FR LO : Nat} {mn : String} {tb : List ExceptionTableEntry} {rv : α → Option Value} {pc : Nat} {lv : List (Nat × Value)} {rest : List Value} {a : Nat} {i : Int32} {kk : Value → Ms α} (hdg : decode cc pc = .ok (.daload, 1)) (k : ∀ v, Ex G X σ0 own cc nL rT FR LO mn tb rv (pc + 1) lv (v :: rest) (kk v)) : Ex G X σ0 own cc nL rT FR LO mn tb rv pc lv (.int i :: .ref a :: rest) (aV 36 a i kk) := by
  refine ⟨Mono_if (p := fun σ => kd σ a = 36 ∧ 0 ≤ i.toInt ∧ i.toInt < ln σ a) (fun σ _ o σ' e => (k _).1 σ o σ' e), ?_⟩
  intro hX σ o σ' e hc hs h1 h2 h3 H locs ls hW hlo hv
  have e : (if kd σ a = 36 ∧ 0 ≤ i.toInt ∧ i.toInt < ln σ a then kk (ar σ a i.toNatClampNeg) σ else none) = some (o, σ') := e
  by_cases hi : kd σ a = 36 ∧ 0 ≤ i.toInt ∧ i.toInt < ln σ a
  · rw [if_pos hi] at e
    obtain ⟨cell, q1, q2, q3, q4, q5, q6⟩ := hW.2.2.2.1 a 6 .double hi.1 rfl
    have hin := vp_in_of2 hi.2
    exact W.dald hX.2.1 hX.2.2.1 q1 (State.isArrayOf_alike (cx_alike hX) q2.1) q3.1 (by rw [q4]; exact hin) (q6 _ (Nat.lt_of_not_le fun h => hin (Or.inr h))) rfl rfl hdg ((k _).2 hX σ o σ' e hc hs h1 h2 h3 H locs ls hW hlo hv)
  · rw [if_neg hi] at e; cases e
theorem Ex_aald {α : Type} {G : GT} {X : XT} {σ0 : Sg} {own : String} {cc : ByteArray} {nL : Nat} {rT : Option FieldType} {FR LO : Nat} {mn : String} {tb : List ExceptionTableEntry} {rv : α → Option Value} {pc : Nat} {lv : List (Nat × Value)} {rest : List Value} {a : Nat} {i : Int32} {kk : Value → Ms α} {j : Nat} {ty : FieldType} (hj : arrT[j]? = some ty) (hr : ty.isReference = true) (hdg : decode cc pc = .ok (.aaload, 1)) (k : ∀ v, Ex G X σ0 own cc nL rT FR LO mn tb rv (pc + 1) lv (v :: rest) (kk v)) : Ex G X σ0 own cc nL rT FR LO mn tb rv pc lv (.int i :: .ref a :: rest) (aV (30 + j) a i kk) := by
  refine ⟨Mono_if (p := fun σ => kd σ a = 30 + j ∧ 0 ≤ i.toInt ∧ i.toInt < ln σ a) (fun σ _ o σ' e => (k _).1 σ o σ' e), ?_⟩
  intro hX σ o σ' e hc hs h1 h2 h3 H locs ls hW hlo hv
  have e : (if kd σ a = 30 + j ∧ 0 ≤ i.toInt ∧ i.toInt < ln σ a then kk (ar σ a i.toNatClampNeg) σ else none) = some (o, σ') := e
  by_cases hi : kd σ a = 30 + j ∧ 0 ≤ i.toInt ∧ i.toInt < ln σ a
  · rw [if_pos hi] at e
    obtain ⟨cell, q1, q2, q3, q4, q5, q6⟩ := hW.2.2.2.1 a j ty hi.1 hj
    have hin := vp_in_of2 hi.2
    exact W.aald hX.2.1 hX.2.2.1 q1 (State.isArrayOf_alike (cx_alike hX) q2.1) hr q3.1 (by rw [q4]; exact hin) (q6 _ (Nat.lt_of_not_le fun h => hin (Or.inr h))) rfl rfl hdg ((k _).2 hX σ o σ' e hc hs h1 h2 h3 H locs ls hW hlo hv)
  · rw [if_neg hi] at e; cases e
theorem Ex_aI_i {α : Type} {G : GT} {X : XT} {σ0 : Sg} {own : String} {cc : ByteArray} {nL : Nat} {rT : Option FieldType} {FR LO : Nat} {mn : String} {tb : List ExceptionTableEntry} {rv : α → Option Value} {pc : Nat} {lv : List (Nat × Value)} {rest : List Value} {a : Nat} {i : Int32} {kk : Int32 → Ms α} (hdg : decode cc pc = .ok (.iaload, 1)) (k : ∀ x : Int32, Ex G X σ0 own cc nL rT FR LO mn tb rv (pc + 1) lv (.int x :: rest) (kk x)) : Ex G X σ0 own cc nL rT FR LO mn tb rv pc lv (.int i :: .ref a :: rest) (aI 30 a i kk) := by
  refine Ex_iald hdg (fun v => ?_)
  cases v with
  | int x => exact k x
  | _ => exact Ex_fl
theorem Ex_aI_z {α : Type} {G : GT} {X : XT} {σ0 : Sg} {own : String} {cc : ByteArray} {nL : Nat} {rT : Option FieldType} {FR LO : Nat} {mn : String} {tb : List ExceptionTableEntry} {rv : α → Option Value} {pc : Nat} {lv : List (Nat × Value)} {rest : List Value} {a : Nat} {i : Int32} {kk : Int32 → Ms α} (hdg : decode cc pc = .ok (.baload, 1)) (k : ∀ x : Int32, Ex G X σ0 own cc nL rT FR LO mn tb rv (pc + 1) lv (.int x :: rest) (kk x)) : Ex G X σ0 own cc nL rT FR LO mn tb rv pc lv (.int i :: .ref a :: rest) (aI 31 a i kk) := by
  refine Ex_zald hdg (fun v => ?_)
  cases v with
  | int x => exact k x
  | _ => exact Ex_fl
theorem Ex_aJ_l {α : Type} {G : GT} {X : XT} {σ0 : Sg} {own : String} {cc : ByteArray} {nL : Nat} {rT : Option FieldType} {FR LO : Nat} {mn : String} {tb : List ExceptionTableEntry} {rv : α → Option Value} {pc : Nat} {lv : List (Nat × Value)} {rest : List Value} {a : Nat} {i : Int32} {kk : Int64 → Ms α} (hdg : decode cc pc = .ok (.laload, 1)) (k : ∀ x : Int64, Ex G X σ0 own cc nL rT FR LO mn tb rv (pc + 1) lv (.long x :: rest) (kk x)) : Ex G X σ0 own cc nL rT FR LO mn tb rv pc lv (.int i :: .ref a :: rest) (aJ 35 a i kk) := by
  refine Ex_lald hdg (fun v => ?_)
  cases v with
  | long x => exact k x
  | _ => exact Ex_fl
theorem Ex_aD_d {α : Type} {G : GT} {X : XT} {σ0 : Sg} {own : String} {cc : ByteArray} {nL : Nat} {rT : Option FieldType} {FR LO : Nat} {mn : String} {tb : List ExceptionTableEntry} {rv : α → Option Value} {pc : Nat} {lv : List (Nat × Value)} {rest : List Value} {a : Nat} {i : Int32} {kk : UInt64 → Ms α} (hdg : decode cc pc = .ok (.daload, 1)) (k : ∀ x : UInt64, Ex G X σ0 own cc nL rT FR LO mn tb rv (pc + 1) lv (.double x :: rest) (kk x)) : Ex G X σ0 own cc nL rT FR LO mn tb rv pc lv (.int i :: .ref a :: rest) (aD 36 a i kk) := by
  refine Ex_dald hdg (fun v => ?_)
  cases v with
  | double x => exact k x
  | _ => exact Ex_fl
theorem Ex_aR {α : Type} {G : GT} {X : XT} {σ0 : Sg} {own : String} {cc : ByteArray} {nL : Nat} {rT : Option FieldType} {FR LO : Nat} {mn : String} {tb : List ExceptionTableEntry} {rv : α → Option Value} {pc : Nat} {lv : List (Nat × Value)} {rest : List Value} {j a : Nat} {ty : FieldType} {i : Int32} {kk : Nat → Ms α} (hj : arrT[j]? = some ty) (hr : ty.isReference = true) (hdg : decode cc pc = .ok (.aaload, 1)) (k : ∀ x : Nat, Ex G X σ0 own cc nL rT FR LO mn tb rv (pc + 1) lv (.ref x :: rest) (kk x)) : Ex G X σ0 own cc nL rT FR LO mn tb rv pc lv (.int i :: .ref a :: rest) (aR (30 + j) a i kk) := by
  refine Ex_aald hj hr hdg (fun v => ?_)
  cases v with
  | ref x => exact k x
  | _ => exact Ex_fl
theorem Ex_aO {α : Type} {G : GT} {X : XT} {σ0 : Sg} {own : String} {cc : ByteArray} {nL : Nat} {rT : Option FieldType} {FR LO : Nat} {mn : String} {tb : List ExceptionTableEntry} {rv : α → Option Value} {pc : Nat} {lv : List (Nat × Value)} {rest : List Value} {j a : Nat} {ty : FieldType} {i : Int32} {kk : Option Nat → Ms α} (hj : arrT[j]? = some ty) (hr : ty.isReference = true) (hdg : decode cc pc = .ok (.aaload, 1)) (k : ∀ x : Option Nat, Ex G X σ0 own cc nL rT FR LO mn tb rv (pc + 1) lv (va_rf x :: rest) (kk x)) : Ex G X σ0 own cc nL rT FR LO mn tb rv pc lv (.int i :: .ref a :: rest) (aO (30 + j) a i kk) := by
  refine Ex_aald hj hr hdg (fun v => ?_)
  cases v with
  | ref x => exact k (some x)
  | null => exact k none
  | _ => exact Ex_fl
theorem Ex_iast {α : Type} {G : GT} {X : XT} {σ0 : Sg} {own : String} {cc : ByteArray} {nL : Nat} {rT : Option FieldType} {FR LO : Nat} {mn : String} {tb : List ExceptionTableEntry} {rv : α → Option Value} {pc : Nat} {lv : List (Nat × Value)} {rest : List Value} {a : Nat} {i : Int32} {x : Int32} {mm : Ms α} (hdg : decode cc pc = .ok (.iastore, 1)) (k : Ex G X σ0 own cc nL rT FR LO mn tb rv (pc + 1) lv (rest) mm) : Ex G X σ0 own cc nL rT FR LO mn tb rv pc lv (.int x :: .int i :: .ref a :: rest) (sV 30 a i (.int x) mm) := by
  refine ⟨Mono_if (p := fun σ => kd σ a = 30 ∧ bs σ ≤ a ∧ 0 ≤ i.toInt ∧ i.toInt < ln σ a) (fun σ _ o σ' e => k.1 (setA σ a i.toNatClampNeg (.int x)) o σ' e), ?_⟩
  intro hX σ o σ' e hc hs h1 h2 h3 H locs ls hW hlo hv
  have e : (if kd σ a = 30 ∧ bs σ ≤ a ∧ 0 ≤ i.toInt ∧ i.toInt < ln σ a then mm (setA σ a i.toNatClampNeg (.int x)) else none) = some (o, σ') := e
  by_cases hi : kd σ a = 30 ∧ bs σ ≤ a ∧ 0 ≤ i.toInt ∧ i.toInt < ln σ a
  · rw [if_pos hi] at e
    obtain ⟨cell, q1, q2, q3, q4, q5, q6⟩ := hW.2.2.2.1 a 0 .int hi.1 rfl
    have hin := vp_in_of2 hi.2.2
    have hba : gb G ≤ a := by rw [← hW.1.2.1]; exact hi.2.1
    refine W.iast hX.2.1 hX.2.2.1 q1 (State.isArrayOf_alike (cx_alike hX) q2.1) q3.1 (by rw [q4]; exact hin) rfl rfl hdg fun H' g1 g2 g3 => ?_
    exact k.2 hX (setA σ a i.toNatClampNeg (.int x)) o σ' e hc hs h1 h2 h3 H' _ ls (wd_setA hW hi.1 (show arrT[0]? = some .int from rfl) hba q1 g1 g2 g3) (fun z hz => by
      rcases List.mem_append.mp hz with hz | hz
      · exact hlo z hz
      · rw [List.mem_singleton.mp hz]; exact hba) hv
  · rw [if_neg hi] at e; cases e
theorem Ex_zast {α : Type} {G : GT} {X : XT} {σ0 : Sg} {own : String} {cc : ByteArray} {nL : Nat} {rT : Option FieldType} {FR LO : Nat} {mn : String} {tb : List ExceptionTableEntry} {rv : α → Option Value} {pc : Nat} {lv : List (Nat × Value)} {rest : List Value} {a : Nat} {i : Int32} {x : Int32} {mm : Ms α} (hz : narrow .boolean (.int x) = .int x) (hdg : decode cc pc = .ok (.bastore, 1)) (k : Ex G X σ0 own cc nL rT FR LO mn tb rv (pc + 1) lv (rest) mm) : Ex G X σ0 own cc nL rT FR LO mn tb rv pc lv (.int x :: .int i :: .ref a :: rest) (sV 31 a i (.int x) mm) := by
  refine ⟨Mono_if (p := fun σ => kd σ a = 31 ∧ bs σ ≤ a ∧ 0 ≤ i.toInt ∧ i.toInt < ln σ a) (fun σ _ o σ' e => k.1 (setA σ a i.toNatClampNeg (.int x)) o σ' e), ?_⟩
  intro hX σ o σ' e hc hs h1 h2 h3 H locs ls hW hlo hv
  have e : (if kd σ a = 31 ∧ bs σ ≤ a ∧ 0 ≤ i.toInt ∧ i.toInt < ln σ a then mm (setA σ a i.toNatClampNeg (.int x)) else none) = some (o, σ') := e
  by_cases hi : kd σ a = 31 ∧ bs σ ≤ a ∧ 0 ≤ i.toInt ∧ i.toInt < ln σ a
  · rw [if_pos hi] at e
    obtain ⟨cell, q1, q2, q3, q4, q5, q6⟩ := hW.2.2.2.1 a 1 .boolean hi.1 rfl
    have hin := vp_in_of2 hi.2.2
    have hba : gb G ≤ a := by rw [← hW.1.2.1]; exact hi.2.1
    refine W.zast hX.2.1 hX.2.2.1 q1 (State.isArrayOf_alike (cx_alike hX) q2.1) q3.1 (by rw [q4]; exact hin) rfl rfl hdg fun H' g1 g2 g3 => ?_
    rw [hz] at g1
    exact k.2 hX (setA σ a i.toNatClampNeg (.int x)) o σ' e hc hs h1 h2 h3 H' _ ls (wd_setA hW hi.1 (show arrT[1]? = some .boolean from rfl) hba q1 g1 g2 g3) (fun z hz => by
      rcases List.mem_append.mp hz with hz | hz
      · exact hlo z hz
      · rw [List.mem_singleton.mp hz]; exact hba) hv
  · rw [if_neg hi] at e; cases e
theorem Ex_last {α : Type} {G : GT} {X : XT} {σ0 : Sg} {own : String} {cc : ByteArray} {nL : Nat} {rT : Option FieldType} {FR LO : Nat} {mn : String} {tb : List ExceptionTableEntry} {rv : α → Option Value} {pc : Nat} {lv : List (Nat × Value)} {rest : List Value} {a : Nat} {i : Int32} {x : Int64} {mm : Ms α} (hdg : decode cc pc = .ok (.lastore, 1)) (k : Ex G X σ0 own cc nL rT FR LO mn tb rv (pc + 1) lv (rest) mm) : Ex G X σ0 own cc nL rT FR LO mn tb rv pc lv (.long x :: .int i :: .ref a :: rest) (sV 35 a i (.long x) mm) := by
  refine ⟨Mono_if (p := fun σ => kd σ a = 35 ∧ bs σ ≤ a ∧ 0 ≤ i.toInt ∧ i.toInt < ln σ a) (fun σ _ o σ' e => k.1 (setA σ a i.toNatClampNeg (.long x)) o σ' e), ?_⟩
  intro hX σ o σ' e hc hs h1 h2 h3 H locs ls hW hlo hv
  have e : (if kd σ a = 35 ∧ bs σ ≤ a ∧ 0 ≤ i.toInt ∧ i.toInt < ln σ a then mm (setA σ a i.toNatClampNeg (.long x)) else none) = some (o, σ') := e
  by_cases hi : kd σ a = 35 ∧ bs σ ≤ a ∧ 0 ≤ i.toInt ∧ i.toInt < ln σ a
  · rw [if_pos hi] at e
    obtain ⟨cell, q1, q2, q3, q4, q5, q6⟩ := hW.2.2.2.1 a 5 .long hi.1 rfl
    have hin := vp_in_of2 hi.2.2
    have hba : gb G ≤ a := by rw [← hW.1.2.1]; exact hi.2.1
    refine W.last hX.2.1 hX.2.2.1 q1 (State.isArrayOf_alike (cx_alike hX) q2.1) q3.1 (by rw [q4]; exact hin) rfl rfl hdg fun H' g1 g2 g3 => ?_
    exact k.2 hX (setA σ a i.toNatClampNeg (.long x)) o σ' e hc hs h1 h2 h3 H' _ ls (wd_setA hW hi.1 (show arrT[5]? = some .long from rfl) hba q1 g1 g2 g3) (fun z hz => by
      rcases List.mem_append.mp hz with hz | hz
      · exact hlo z hz
      · rw [List.mem_singleton.mp hz]; exact hba) hv
  · rw [if_neg hi] at e; cases e
theorem Ex_dast {α : Type} {G : GT} {X : XT} {σ0 : Sg} {own : String} {cc : ByteArray} {nL : Nat} {rT : Option FieldType} {FR LO : Nat} {mn : String} {tb : List ExceptionTableEntry} {rv : α → Option Value} {pc : Nat} {lv : List (Nat × Value)} {rest : List Value} {a : Nat} {i : Int32} {x : UInt64} {mm : Ms α} (hdg : decode cc pc = .ok (.dastore, 1)) (k : Ex G X σ0 own cc nL rT FR LO mn tb rv (pc + 1) lv (rest) mm) : Ex G X σ0 own cc nL rT FR LO mn tb rv pc lv (.double x :: .int i :: .ref a :: rest) (sV 36 a i (.double x) mm) := by
  refine ⟨Mono_if (p := fun σ => kd σ a = 36 ∧ bs σ ≤ a ∧ 0 ≤ i.toInt ∧ i.toInt < ln σ a) (fun σ _ o σ' e => k.1 (setA σ a i.toNatClampNeg (.double x)) o σ' e), ?_⟩
  intro hX σ o σ' e hc hs h1 h2 h3 H locs ls hW hlo hv
  have e : (if kd σ a = 36 ∧ bs σ ≤ a ∧ 0 ≤ i.toInt ∧ i.toInt < ln σ a then mm (setA σ a i.toNatClampNeg (.double x)) else none) = some (o, σ') := e
  by_cases hi : kd σ a = 36 ∧ bs σ ≤ a ∧ 0 ≤ i.toInt ∧ i.toInt < ln σ a
  · rw [if_pos hi] at e
    obtain ⟨cell, q1, q2, q3, q4, q5, q6⟩ := hW.2.2.2.1 a 6 .double hi.1 rfl
    have hin := vp_in_of2 hi.2.2
    have hba : gb G ≤ a := by rw [← hW.1.2.1]; exact hi.2.1
    refine W.dast hX.2.1 hX.2.2.1 q1 (State.isArrayOf_alike (cx_alike hX) q2.1) q3.1 (by rw [q4]; exact hin) rfl rfl hdg fun H' g1 g2 g3 => ?_
    exact k.2 hX (setA σ a i.toNatClampNeg (.double x)) o σ' e hc hs h1 h2 h3 H' _ ls (wd_setA hW hi.1 (show arrT[6]? = some .double from rfl) hba q1 g1 g2 g3) (fun z hz => by
      rcases List.mem_append.mp hz with hz | hz
      · exact hlo z hz
      · rw [List.mem_singleton.mp hz]; exact hba) hv
  · rw [if_neg hi] at e; cases e
/-- an object of this kind goes into an array of C -/
def okC (C : String) (ks : List Nat) : Prop := ∀ kk ∈ ks, ∃ ci q, kk = ci + 1 ∧ cls[ci]? = some q ∧ (q.1 = C ∨ Cond.castable q.1 C ∈ lw_tbl)
theorem obj_of {G : GT} {X : XT} {own : String} {cc : ByteArray} {nL : Nat} {rT : Option FieldType} {FR LO : Nat} {mn : String} {tb : List ExceptionTableEntry} (hX : CxOk G X own cc nL rT FR LO mn tb) {σ : Sg} {H : Heap} (hW : Wd G σ H) {a ci : Nat} {q : vw_C} (hk : kd σ a = ci + 1) (hc : cls[ci]? = some q) :
    ∃ cell : Cell, H[a]? = some cell ∧ cell.vm.isStatics = false ∧ X.2.2.2.1.vm.findClass q.1 = some cell.cls ∧ vmK (gb G) a cell.vm := by
  obtain ⟨cell, q1, q2, q3, -⟩ := hW.2.2.1 a ci q hk hc
  obtain ⟨-, hfc, -⟩ := (cx_K hX).1 ci q hc
  exact ⟨cell, q1, q3.2.1, by rw [q2]; exact hfc, q3⟩
def sR {β : Type} (kk a : Nat) (i : Int32) (ks : List Nat) (v : Nat) (k : Ms β) : Ms β := fun σ => if (kd σ a = kk ∧ bs σ ≤ a ∧ 0 ≤ i.toInt ∧ i.toInt < ln σ a) ∧ isK ks (kd σ v) = true then k (setA σ a i.toNatClampNeg (.ref v)) else none
theorem Ex_sR {α : Type} {G : GT} {X : XT} {σ0 : Sg} {own : String} {cc : ByteArray} {nL : Nat} {rT : Option FieldType} {FR LO : Nat} {mn : String} {tb : List ExceptionTableEntry} {rv : α → Option Value} {pc : Nat} {lv : List (Nat × Value)} {rest : List Value} {j a v : Nat} {i : Int32} {C : String} {ks : List Nat} {mm : Ms α} (hj : arrT[j]? = some (.object C)) (hC : okC C ks) (hdg : decode cc pc = .ok (.aastore, 1)) (k : Ex G X σ0 own cc nL rT FR LO mn tb rv (pc + 1) lv (rest) mm) (hne : C ≠ "java/lang/Integer" := by decide) : Ex G X σ0 own cc nL rT FR LO mn tb rv pc lv (.ref v :: .int i :: .ref a :: rest) (sR (30 + j) a i ks v mm) := by
  refine ⟨Mono_if (p := fun σ => (kd σ a = 30 + j ∧ bs σ ≤ a ∧ 0 ≤ i.toInt ∧ i.toInt < ln σ a) ∧ isK ks (kd σ v) = true) (fun σ _ o σ' e => k.1 (setA σ a i.toNatClampNeg (.ref v)) o σ' e), ?_⟩
  intro hX σ o σ' e hc hs h1 h2 h3 H locs ls hW hlo hv
  have e : (if (kd σ a = 30 + j ∧ bs σ ≤ a ∧ 0 ≤ i.toInt ∧ i.toInt < ln σ a) ∧ isK ks (kd σ v) = true then mm (setA σ a i.toNatClampNeg (.ref v)) else none) = some (o, σ') := e
  by_cases hi : (kd σ a = 30 + j ∧ bs σ ≤ a ∧ 0 ≤ i.toInt ∧ i.toInt < ln σ a) ∧ isK ks (kd σ v) = true
  · rw [if_pos hi] at e
    obtain ⟨cell, q1, q2, q3, q4, q5, q6⟩ := hW.2.2.2.1 a j (.object C) hi.1.1 hj
    have hin := vp_in_of2 hi.1.2.2
    have hba : gb G ≤ a := by rw [← hW.1.2.1]; exact hi.1.2.1
    obtain ⟨ci, q, hkk, hcq, hcast⟩ := hC (kd σ v) (List.contains_iff_mem.mp hi.2)
    obtain ⟨cv, v1, v2, v3, v4⟩ := obj_of hX hW hkk hcq
    obtain ⟨kA, comp, w1, w2, w3, w4⟩ := va_RA.moved (cx_alike hX) (q2.2 C rfl hne)
    obtain ⟨kcomp, hkcomp, -⟩ := Vm.findClass_spec w3
    obtain ⟨kv, hkv, -⟩ := Vm.findClass_spec v3
    have hinst : X.2.2.2.1.vm.assignable cv.cls comp = true := by
      rcases hcast with he | hcast
      · rw [he] at v3
        rw [Option.some.inj (v3.symm.trans w3)]
        exact as_self _ _
      · obtain ⟨c3, c4, z1, z2, z3⟩ := Cond.castable_spec (args := X.2.2.2.2.2.1) (va_Nw.use rfl (va_Nw.warmC hX.2.2.2.2.2.2.2.2.1 (cx_Nw hX rfl hcast)))
        rw [Option.some.inj (v3.symm.trans z1), Option.some.inj (w3.symm.trans z2)]
        exact z3
    refine W.aast hX.2.1 hX.2.2.1 q1 (fun q h => by have h9 := q3.2.1; rw [h] at h9; cases h9) q3.1 w1 w2 rfl hkcomp ⟨fun h => hin (Or.inl h), by rw [q4]; exact Nat.lt_of_not_le fun h => hin (Or.inr h)⟩ v1 (fun q h => by rw [h] at v2; cases v2) hkv hinst rfl rfl hdg fun H' g1 g2 g3 => ?_
    exact k.2 hX (setA σ a i.toNatClampNeg (.ref v)) o σ' e hc hs h1 h2 h3 H' _ ls (wd_setA hW hi.1.1 hj hba q1 g1 g2 g3) (fun z hz => by
      rcases List.mem_append.mp hz with hz | hz
      · exact hlo z hz
      · rw [List.mem_singleton.mp hz]; exact hba) hv
  · rw [if_neg hi] at e; cases e
theorem W_aastN {p : Program} {l : Launch} {e : Env} {R : Room} {s : State} {m : MethodId} {args : Array Value} {below : List Frame} {meth : Method} {c : Code} {H : Heap} {locs : List Loc} {cells slots : Nat} {Q : State → Prop} {cc : ByteArray} (hexec : p.tables.exec = Jvm.exec) (hb : c.code = cc) {a : Addr} {cell : Cell} {j : Int32} {k : Class} {comp : ClassId} {t : FieldType}
    (hcell : H[a]? = some cell) (hobj : ∀ q, cell.vm ≠ .statics q) (hknown : cell.vm ≠ .unknown) (hk : s.vm.classes[cell.cls]? = some k) (hkind : k.kind = .array comp t) (href : t.isReference = true) (hin : ¬ j < 0 ∧ j.toNatClampNeg < cell.slots.size)
    {g : JFrame} (hg : g.method = m) {rest : List Value} (hstack : g.stack = .null :: .int j :: .ref a :: rest) (hdg : decode cc g.pc = .ok (.aastore, 1))
    (kk : ∀ H' : Heap, H'[a]? = some (cell.setSlot j.toNatClampNeg .null) → H'.size = H.size → (∀ q, q ≠ a → H'[q]? = H[q]?) → W p l e R s m args below meth c H' (locs ++ [⟨a, j.toNatClampNeg⟩]) cells slots Q { g with pc := g.pc + 1, stack := rest }) : W p l e R s m args below meth c H locs cells slots Q g := by
  intro T hT X
  subst hT; subst hb
  obtain ⟨X', st⟩ := X.aastoreNullIn hexec hcell hobj hknown hk hkind href hin hg hstack hdg
  have hl := (Array.getElem?_eq_some_iff.mp hcell).1
  obtain ⟨t, a1, b1⟩ := kk (T.heap.setIfInBounds a (cell.setSlot j.toNatClampNeg .null)) (Array.getElem?_setIfInBounds_self_of_lt hl) (Array.size_setIfInBounds) (fun q hq => Array.getElem?_setIfInBounds_ne (Ne.symm hq)) _ rfl X'
  exact ⟨t, st t a1, b1⟩
theorem Ex_sN {α : Type} {G : GT} {X : XT} {σ0 : Sg} {own : String} {cc : ByteArray} {nL : Nat} {rT : Option FieldType} {FR LO : Nat} {mn : String} {tb : List ExceptionTableEntry} {rv : α → Option Value} {pc : Nat} {lv : List (Nat × Value)} {rest : List Value} {a : Nat} {i : Int32} {j : Nat} {C : String} {mm : Ms α} (hj : arrT[j]? = some (.object C)) (hdg : decode cc pc = .ok (.aastore, 1)) (k : Ex G X σ0 own cc nL rT FR LO mn tb rv (pc + 1) lv (rest) mm) (hne : C ≠ "java/lang/Integer" := by decide) : Ex G X σ0 own cc nL rT FR LO mn tb rv pc lv (.null :: .int i :: .ref a :: rest) (sV (30 + j) a i (.null) mm) := by
  refine ⟨Mono_if (p := fun σ => kd σ a = (30 + j) ∧ bs σ ≤ a ∧ 0 ≤ i.toInt ∧ i.toInt < ln σ a) (fun σ _ o σ' e => k.1 (setA σ a i.toNatClampNeg (.null)) o σ' e), ?_⟩
  intro hX σ o σ' e hc hs h1 h2 h3 H locs ls hW hlo hv
  have e : (if kd σ a = (30 + j) ∧ bs σ ≤ a ∧ 0 ≤ i.toInt ∧ i.toInt < ln σ a then mm (setA σ a i.toNatClampNeg (.null)) else none) = some (o, σ') := e
  by_cases hi : kd σ a = (30 + j) ∧ bs σ ≤ a ∧ 0 ≤ i.toInt ∧ i.toInt < ln σ a
  · rw [if_pos hi] at e
    obtain ⟨cell, q1, q2, q3, q4, q5, q6⟩ := hW.2.2.2.1 a j (.object C) hi.1 hj
    have hin := vp_in_of2 hi.2.2
    have hba : gb G ≤ a := by rw [← hW.1.2.1]; exact hi.2.1
    obtain ⟨kA, comp, w1, w2, w3, w4⟩ := va_RA.moved (cx_alike hX) (q2.2 C rfl hne)
    refine W_aastN hX.2.1 hX.2.2.1 q1 (fun q h => by have h9 := q3.2.1; rw [h] at h9; cases h9) q3.1 w1 w2 rfl ⟨fun h => hin (Or.inl h), by rw [q4]; exact Nat.lt_of_not_le fun h => hin (Or.inr h)⟩ rfl rfl hdg fun H' g1 g2 g3 => ?_
    exact k.2 hX (setA σ a i.toNatClampNeg (.null)) o σ' e hc hs h1 h2 h3 H' _ ls (wd_setA hW hi.1 hj hba q1 g1 g2 g3) (fun z hz => by
      rcases List.mem_append.mp hz with hz | hz
      · exact hlo z hz
      · rw [List.mem_singleton.mp hz]; exact hba) hv
  · rw [if_neg hi] at e; cases e
theorem Ex_aL {α : Type} {G : GT} {X : XT} {σ0 : Sg} {own : String} {cc : ByteArray} {nL : Nat} {rT : Option FieldType} {FR LO : Nat} {mn : String} {tb : List ExceptionTableEntry} {rv : α → Option Value} {pc : Nat} {lv : List (Nat × Value)} {rest : List Value} {j a : Nat} {ty : FieldType} {kk : Int32 → Ms α} (hj : arrT[j]? = some ty) (hdg : decode cc pc = .ok (.arraylength, 1)) (k : ∀ x : Int32, Ex G X σ0 own cc nL rT FR LO mn tb rv (pc + 1) lv (.int x :: rest) (kk x)) : Ex G X σ0 own cc nL rT FR LO mn tb rv pc lv (.ref a :: rest) (aL (30 + j) a kk) := by
  refine ⟨Mono_if (p := fun σ => kd σ a = 30 + j) (fun σ _ o σ' e => (k _).1 σ o σ' e), ?_⟩
  intro hX σ o σ' e hc hs h1 h2 h3 H locs ls hW hlo hv
  have e : (if kd σ a = 30 + j then kk (Int32.ofNat (ln σ a)) σ else none) = some (o, σ') := e
  by_cases hi : kd σ a = 30 + j
  · rw [if_pos hi] at e
    obtain ⟨cell, q1, q2, q3, q4, q5, q6⟩ := hW.2.2.2.1 a j ty hi hj
    exact W.alen hX.2.1 hX.2.2.1 q1 (State.isArrayOf_alike (cx_alike hX) q2.1) (n := Int32.ofNat (ln σ a)) (by rw [q4]) rfl rfl hdg ((k _).2 hX σ o σ' e hc hs h1 h2 h3 H locs ls hW hlo hv)
  · rw [if_neg hi] at e; cases e
theorem fS_157 {ci : Nat} {q : vw_C} (h : cls[ci]? = some q) {x : Nat} (hx : x < q.2.2) : fS ci x < 157 := by
  obtain ⟨-, h2, -⟩ := cls_T h
  rw [h2] at hx
  rw [fS_lt hx]
  have key : ∀ i, i < 26 → ∀ z ∈ slL.getD i [], z < 157 := by decide +kernel
  exact key ci (cls_ci h) _ (List.getElem_mem hx)
theorem Ex_nO {α : Type} {G : GT} {X : XT} {σ0 : Sg} {own : String} {cc : ByteArray} {nL : Nat} {rT : Option FieldType} {FR LO : Nat} {mn : String} {tb : List ExceptionTableEntry} {rv : α → Option Value} {pc : Nat} {lv : List (Nat × Value)} {rest : List Value} {index ci : Nat} {q : vw_C} {kk : Nat → Ms α} (hdg : decode cc pc = .ok (.new index, 3)) (hc : cls[ci]? = some q) (h1 : Cond.classLink own index q.1 ∈ lw_all) (h2 : Cond.instantiable q.1 q.2.2 ∈ lw_all) (h3 : Cond.initialized q.1 ∈ lw_all) (k : ∀ x : Nat, Ex G X σ0 own cc nL rT FR LO mn tb rv (pc + 3) lv (.ref x :: rest) (kk x)) : Ex G X σ0 own cc nL rT FR LO mn tb rv pc lv (rest) (nO (ci + 1) q.2.2 dfl kk) := by
  refine ⟨fun σ o σ' e => ?_, ?_⟩
  · have h := (k (nx σ)).1 (newO σ (ci + 1) q.2.2 dfl) o σ' e
    exact ⟨Nat.le_trans (Nat.le_succ _) h.1, Nat.le_trans (Nat.le_add_right _ _) h.2⟩
  · intro hX σ o σ' e hcc hs g1 g2 g3 H locs ls hW hlo hv
    have e : kk (nx σ) (newO σ (ci + 1) q.2.2 dfl) = some (o, σ') := e
    have hm := (k (nx σ)).1 _ o σ' e
    have hm1 : nx σ + 1 ≤ nx σ' := hm.1
    have hm2 : su σ + q.2.2 ≤ su σ' := hm.2
    have hKn := (cx_K hX).1 ci q hc
    have hz : H.size = nx σ := hW.1.1
    refine W.newcK hX.2.1 hX.2.2.1 hX.2.2.2.2.1 (cx_word hX h1) (cx_word hX h2) (cx_word hX h3) rfl hdg (by rw [hcc]; omega) (by rw [hs]; omega) hKn.2.1 hz fun H' kC hkC e1 z1 o1 => ?_
    have hob := (u_born (ws := lw_all) (fun k => fty (fS ci k)) (fun w h => cx_word hX h) (cx_cl hX hc).1 hKn hkC e1 (cx_cl hX hc).2.2)
    have hWn : Wd G (newO σ (ci + 1) q.2.2 dfl) H' := wd_newO hW hc (hob.to fun x hx => by
      have hlt : fS ci x < 157 := fS_157 hc hx
      exact fty_dfl _ hlt) z1 o1 (fun ce hce => by rw [e1] at hce; cases hce; exact ⟨rfl, rfl, rfl⟩)
    have hz1 : nx σ + 1 - nx σ0 = nx σ - nx σ0 + 1 := by omega
    have hz2 : su σ + q.2.2 - su σ0 = su σ - su σ0 + q.2.2 := by omega
    have hk := (k (nx σ)).2 hX (newO σ (ci + 1) q.2.2 dfl) o σ' e hcc hs (Nat.le_trans g1 (Nat.le_succ _)) (Nat.le_trans g2 (Nat.le_add_right _ _)) (Nat.le_trans g3 (Nat.le_succ _)) H' locs ls hWn hlo hv
    rw [show nx (newO σ (ci + 1) q.2.2 dfl) = nx σ + 1 from rfl, show su (newO σ (ci + 1) q.2.2 dfl) = su σ + q.2.2 from rfl, hz1, hz2] at hk
    exact hk
theorem Ex_nA_i {α : Type} {G : GT} {X : XT} {σ0 : Sg} {own : String} {cc : ByteArray} {nL : Nat} {rT : Option FieldType} {FR LO : Nat} {mn : String} {tb : List ExceptionTableEntry} {rv : α → Option Value} {pc : Nat} {lv : List (Nat × Value)} {rest : List Value} {n : Int32} {kk : Nat → Ms α} (hdg : decode cc pc = .ok (.newarray .int, 2)) (hw : Cond.arrayClass .int ∈ lw_all) (k : ∀ x : Nat, Ex G X σ0 own cc nL rT FR LO mn tb rv (pc + 2) lv (.ref x :: rest) (kk x)) : Ex G X σ0 own cc nL rT FR LO mn tb rv pc lv (.int n :: rest) (nA 30 n (.int 0) kk) := by
  refine ⟨Mono_if (p := fun _ => 0 ≤ n.toInt ∧ n.toInt ≤ 1000000) (fun σ _ o σ' e => ?_), ?_⟩
  · have h := (k (nx σ)).1 (newA σ 30 n.toNatClampNeg (.int 0)) o σ' e
    exact ⟨Nat.le_trans (Nat.le_succ _) h.1, Nat.le_trans (Nat.le_add_right _ _) h.2⟩
  · intro hX σ o σ' e hcc hs g1 g2 g3 H locs ls hW hlo hv
    have e : (if 0 ≤ n.toInt ∧ n.toInt ≤ 1000000 then kk (nx σ) (newA σ 30 n.toNatClampNeg (.int 0)) else none) = some (o, σ') := e
    by_cases hi : 0 ≤ n.toInt ∧ n.toInt ≤ 1000000
    · rw [if_pos hi] at e
      have hn0 : ¬ n < 0 := fun h => by have := Int32.lt_iff_toInt_lt.mp h; rw [show (0 : Int32).toInt = 0 from rfl] at this; omega
      have hN : n.toNatClampNeg ≤ 1000000 := by unfold Int32.toNatClampNeg; omega
      have hm := (k (nx σ)).1 _ o σ' e
      have hm1 : nx σ + 1 ≤ nx σ' := hm.1
      have hm2 : su σ + n.toNatClampNeg ≤ su σ' := hm.2
      have hz : H.size = nx σ := hW.1.1
      refine W.newaK hX.2.1 hX.2.2.1 (atype := .int) (cx_word hX hw) rfl hdg rfl hn0 rfl (by show n.toNatClampNeg * _ ≤ 536870912; have h8 : componentBytes (newarray.typeOf .int) ≤ 8 := (by decide); exact Nat.le_trans (Nat.mul_le_mul hN h8) (by decide)) (by rw [hcc]; omega) (by rw [hs]; omega) hz fun H' cA e1 z1 o1 hA => ?_
      have hWn : Wd G (newA σ 30 n.toNatClampNeg (.int 0)) H' := wd_newA (j := 0) (ty := .int) hW rfl e1 ⟨State.isArrayOf_alike (cx_alike hX).symm (hA _ _), fun C h _ => by cases h⟩ rfl (by simp [arrV]) hN (fun i hi => by simp [arrV, hi]; rfl) z1 o1
      have hz1 : nx σ + 1 - nx σ0 = nx σ - nx σ0 + 1 := by omega
      have hz2 : su σ + n.toNatClampNeg - su σ0 = su σ - su σ0 + n.toNatClampNeg := by omega
      have hk := (k (nx σ)).2 hX (newA σ 30 n.toNatClampNeg (.int 0)) o σ' e hcc hs (Nat.le_trans g1 (Nat.le_succ _)) (Nat.le_trans g2 (Nat.le_add_right _ _)) (Nat.le_trans g3 (Nat.le_succ _)) H' locs ls hWn hlo hv
      rw [show nx (newA σ 30 n.toNatClampNeg (.int 0)) = nx σ + 1 from rfl, show su (newA σ 30 n.toNatClampNeg (.int 0)) = su σ + n.toNatClampNeg from rfl, hz1, hz2] at hk
      exact hk
    · rw [if_neg hi] at e; cases e
theorem Ex_nA_z {α : Type} {G : GT} {X : XT} {σ0 : Sg} {own : String} {cc : ByteArray} {nL : Nat} {rT : Option FieldType} {FR LO : Nat} {mn : String} {tb : List ExceptionTableEntry} {rv : α → Option Value} {pc : Nat} {lv : List (Nat × Value)} {rest : List Value} {n : Int32} {kk : Nat → Ms α} (hdg : decode cc pc = .ok (.newarray .boolean, 2)) (hw : Cond.arrayClass .boolean ∈ lw_all) (k : ∀ x : Nat, Ex G X σ0 own cc nL rT FR LO mn tb rv (pc + 2) lv (.ref x :: rest) (kk x)) : Ex G X σ0 own cc nL rT FR LO mn tb rv pc lv (.int n :: rest) (nA 31 n (.int 0) kk) := by
  refine ⟨Mono_if (p := fun _ => 0 ≤ n.toInt ∧ n.toInt ≤ 1000000) (fun σ _ o σ' e => ?_), ?_⟩
  · have h := (k (nx σ)).1 (newA σ 31 n.toNatClampNeg (.int 0)) o σ' e
    exact ⟨Nat.le_trans (Nat.le_succ _) h.1, Nat.le_trans (Nat.le_add_right _ _) h.2⟩
  · intro hX σ o σ' e hcc hs g1 g2 g3 H locs ls hW hlo hv
    have e : (if 0 ≤ n.toInt ∧ n.toInt ≤ 1000000 then kk (nx σ) (newA σ 31 n.toNatClampNeg (.int 0)) else none) = some (o, σ') := e
    by_cases hi : 0 ≤ n.toInt ∧ n.toInt ≤ 1000000
    · rw [if_pos hi] at e
      have hn0 : ¬ n < 0 := fun h => by have := Int32.lt_iff_toInt_lt.mp h; rw [show (0 : Int32).toInt = 0 from rfl] at this; omega
      have hN : n.toNatClampNeg ≤ 1000000 := by unfold Int32.toNatClampNeg; omega
      have hm := (k (nx σ)).1 _ o σ' e
      have hm1 : nx σ + 1 ≤ nx σ' := hm.1
      have hm2 : su σ + n.toNatClampNeg ≤ su σ' := hm.2
      have hz : H.size = nx σ := hW.1.1
      refine W.newaK hX.2.1 hX.2.2.1 (atype := .boolean) (cx_word hX hw) rfl hdg rfl hn0 rfl (by show n.toNatClampNeg * _ ≤ 536870912; have h8 : componentBytes (newarray.typeOf .boolean) ≤ 8 := (by decide); exact Nat.le_trans (Nat.mul_le_mul hN h8) (by decide)) (by rw [hcc]; omega) (by rw [hs]; omega) hz fun H' cA e1 z1 o1 hA => ?_
      have hWn : Wd G (newA σ 31 n.toNatClampNeg (.int 0)) H' := wd_newA (j := 1) (ty := .boolean) hW rfl e1 ⟨State.isArrayOf_alike (cx_alike hX).symm (hA _ _), fun C h _ => by cases h⟩ rfl (by simp [arrV]) hN (fun i hi => by simp [arrV, hi]; rfl) z1 o1
      have hz1 : nx σ + 1 - nx σ0 = nx σ - nx σ0 + 1 := by omega
      have hz2 : su σ + n.toNatClampNeg - su σ0 = su σ - su σ0 + n.toNatClampNeg := by omega
      have hk := (k (nx σ)).2 hX (newA σ 31 n.toNatClampNeg (.int 0)) o σ' e hcc hs (Nat.le_trans g1 (Nat.le_succ _)) (Nat.le_trans g2 (Nat.le_add_right _ _)) (Nat.le_trans g3 (Nat.le_succ _)) H' locs ls hWn hlo hv
      rw [show nx (newA σ 31 n.toNatClampNeg (.int 0)) = nx σ + 1 from rfl, show su (newA σ 31 n.toNatClampNeg (.int 0)) = su σ + n.toNatClampNeg from rfl, hz1, hz2] at hk
      exact hk
    · rw [if_neg hi] at e; cases e
theorem Ex_nA_l {α : Type} {G : GT} {X : XT} {σ0 : Sg} {own : String} {cc : ByteArray} {nL : Nat} {rT : Option FieldType} {FR LO : Nat} {mn : String} {tb : List ExceptionTableEntry} {rv : α → Option Value} {pc : Nat} {lv : List (Nat × Value)} {rest : List Value} {n : Int32} {kk : Nat → Ms α} (hdg : decode cc pc = .ok (.newarray .long, 2)) (hw : Cond.arrayClass .long ∈ lw_all) (k : ∀ x : Nat, Ex G X σ0 own cc nL rT FR LO mn tb rv (pc + 2) lv (.ref x :: rest) (kk x)) : Ex G X σ0 own cc nL rT FR LO mn tb rv pc lv (.int n :: rest) (nA 35 n (.long 0) kk) := by
  refine ⟨Mono_if (p := fun _ => 0 ≤ n.toInt ∧ n.toInt ≤ 1000000) (fun σ _ o σ' e => ?_), ?_⟩
  · have h := (k (nx σ)).1 (newA σ 35 n.toNatClampNeg (.long 0)) o σ' e
    exact ⟨Nat.le_trans (Nat.le_succ _) h.1, Nat.le_trans (Nat.le_add_right _ _) h.2⟩
  · intro hX σ o σ' e hcc hs g1 g2 g3 H locs ls hW hlo hv
    have e : (if 0 ≤ n.toInt ∧ n.toInt ≤ 1000000 then kk (nx σ) (newA σ 35 n.toNatClampNeg (.long 0)) else none) = some (o, σ') := e
    by_cases hi : 0 ≤ n.toInt ∧ n.toInt ≤ 1000000
    · rw [if_pos hi] at e
      have hn0 : ¬ n < 0 := fun h => by have := Int32.lt_iff_toInt_lt.mp h; rw [show (0 : Int32).toInt = 0 from rfl] at this; omega
      have hN : n.toNatClampNeg ≤ 1000000 := by unfold Int32.toNatClampNeg; omega
      have hm := (k (nx σ)).1 _ o σ' e
      have hm1 : nx σ + 1 ≤ nx σ' := hm.1
      have hm2 : su σ + n.toNatClampNeg ≤ su σ' := hm.2
      have hz : H.size = nx σ := hW.1.1
      refine W.newaK hX.2.1 hX.2.2.1 (atype := .long) (cx_word hX hw) rfl hdg rfl hn0 rfl (by show n.toNatClampNeg * _ ≤ 536870912; have h8 : componentBytes (newarray.typeOf .long) ≤ 8 := (by decide); exact Nat.le_trans (Nat.mul_le_mul hN h8) (by decide)) (by rw [hcc]; omega) (by rw [hs]; omega) hz fun H' cA e1 z1 o1 hA => ?_
      have hWn : Wd G (newA σ 35 n.toNatClampNeg (.long 0)) H' := wd_newA (j := 5) (ty := .long) hW rfl e1 ⟨State.isArrayOf_alike (cx_alike hX).symm (hA _ _), fun C h _ => by cases h⟩ rfl (by simp [arrV]) hN (fun i hi => by simp [arrV, hi]; rfl) z1 o1
      have hz1 : nx σ + 1 - nx σ0 = nx σ - nx σ0 + 1 := by omega
      have hz2 : su σ + n.toNatClampNeg - su σ0 = su σ - su σ0 + n.toNatClampNeg := by omega
      have hk := (k (nx σ)).2 hX (newA σ 35 n.toNatClampNeg (.long 0)) o σ' e hcc hs (Nat.le_trans g1 (Nat.le_succ _)) (Nat.le_trans g2 (Nat.le_add_right _ _)) (Nat.le_trans g3 (Nat.le_succ _)) H' locs ls hWn hlo hv
      rw [show nx (newA σ 35 n.toNatClampNeg (.long 0)) = nx σ + 1 from rfl, show su (newA σ 35 n.toNatClampNeg (.long 0)) = su σ + n.toNatClampNeg from rfl, hz1, hz2] at hk
      exact hk
    · rw [if_neg hi] at e; cases e
theorem Ex_nA_d {α : Type} {G : GT} {X : XT} {σ0 : Sg} {own : String} {cc : ByteArray} {nL : Nat} {rT : Option FieldType} {FR LO : Nat} {mn : String} {tb : List ExceptionTableEntry} {rv : α → Option Value} {pc : Nat} {lv : List (Nat × Value)} {rest : List Value} {n : Int32} {kk : Nat → Ms α} (hdg : decode cc pc = .ok (.newarray .double, 2)) (hw : Cond.arrayClass .double ∈ lw_all) (k : ∀ x : Nat, Ex G X σ0 own cc nL rT FR LO mn tb rv (pc + 2) lv (.ref x :: rest) (kk x)) : Ex G X σ0 own cc nL rT FR LO mn tb rv pc lv (.int n :: rest) (nA 36 n (.double 0) kk) := by
  refine ⟨Mono_if (p := fun _ => 0 ≤ n.toInt ∧ n.toInt ≤ 1000000) (fun σ _ o σ' e => ?_), ?_⟩
  · have h := (k (nx σ)).1 (newA σ 36 n.toNatClampNeg (.double 0)) o σ' e
    exact ⟨Nat.le_trans (Nat.le_succ _) h.1, Nat.le_trans (Nat.le_add_right _ _) h.2⟩
  · intro hX σ o σ' e hcc hs g1 g2 g3 H locs ls hW hlo hv
    have e : (if 0 ≤ n.toInt ∧ n.toInt ≤ 1000000 then kk (nx σ) (newA σ 36 n.toNatClampNeg (.double 0)) else none) = some (o, σ') := e
    by_cases hi : 0 ≤ n.toInt ∧ n.toInt ≤ 1000000
    · rw [if_pos hi] at e
      have hn0 : ¬ n < 0 := fun h => by have := Int32.lt_iff_toInt_lt.mp h; rw [show (0 : Int32).toInt = 0 from rfl] at this; omega
      have hN : n.toNatClampNeg ≤ 1000000 := by unfold Int32.toNatClampNeg; omega
      have hm := (k (nx σ)).1 _ o σ' e
      have hm1 : nx σ + 1 ≤ nx σ' := hm.1
      have hm2 : su σ + n.toNatClampNeg ≤ su σ' := hm.2
      have hz : H.size = nx σ := hW.1.1
      refine W.newaK hX.2.1 hX.2.2.1 (atype := .double) (cx_word hX hw) rfl hdg rfl hn0 rfl (by show n.toNatClampNeg * _ ≤ 536870912; have h8 : componentBytes (newarray.typeOf .double) ≤ 8 := (by decide); exact Nat.le_trans (Nat.mul_le_mul hN h8) (by decide)) (by rw [hcc]; omega) (by rw [hs]; omega) hz fun H' cA e1 z1 o1 hA => ?_
      have hWn : Wd G (newA σ 36 n.toNatClampNeg (.double 0)) H' := wd_newA (j := 6) (ty := .double) hW rfl e1 ⟨State.isArrayOf_alike (cx_alike hX).symm (hA _ _), fun C h _ => by cases h⟩ rfl (by simp [arrV]) hN (fun i hi => by simp [arrV, hi]; rfl) z1 o1
      have hz1 : nx σ + 1 - nx σ0 = nx σ - nx σ0 + 1 := by omega
      have hz2 : su σ + n.toNatClampNeg - su σ0 = su σ - su σ0 + n.toNatClampNeg := by omega
      have hk := (k (nx σ)).2 hX (newA σ 36 n.toNatClampNeg (.double 0)) o σ' e hcc hs (Nat.le_trans g1 (Nat.le_succ _)) (Nat.le_trans g2 (Nat.le_add_right _ _)) (Nat.le_trans g3 (Nat.le_succ _)) H' locs ls hWn hlo hv
      rw [show nx (newA σ 36 n.toNatClampNeg (.double 0)) = nx σ + 1 from rfl, show su (newA σ 36 n.toNatClampNeg (.double 0)) = su σ + n.toNatClampNeg from rfl, hz1, hz2] at hk
      exact hk
    · rw [if_neg hi] at e; cases e
theorem Ex_nA_r {α : Type} {G : GT} {X : XT} {σ0 : Sg} {own : String} {cc : ByteArray} {nL : Nat} {rT : Option FieldType} {FR LO : Nat} {mn : String} {tb : List ExceptionTableEntry} {rv : α → Option Value} {pc : Nat} {lv : List (Nat × Value)} {rest : List Value} {index j : Nat} {C : String} {n : Int32} {kk : Nat → Ms α} (hdg : decode cc pc = .ok (.anewarray index, 3)) (hj : arrT[j]? = some (.object C)) (hl : Cond.classLink own index C ∈ lw_all) (hw : Cond.arrayOver (.object C) ∈ lw_tbl) (k : ∀ x : Nat, Ex G X σ0 own cc nL rT FR LO mn tb rv (pc + 3) lv (.ref x :: rest) (kk x)) : Ex G X σ0 own cc nL rT FR LO mn tb rv pc lv (.int n :: rest) (nA (30 + j) n .null kk) := by
  refine ⟨Mono_if (p := fun _ => 0 ≤ n.toInt ∧ n.toInt ≤ 1000000) (fun σ _ o σ' e => ?_), ?_⟩
  · have h := (k (nx σ)).1 (newA σ (30 + j) n.toNatClampNeg .null) o σ' e
    exact ⟨Nat.le_trans (Nat.le_succ _) h.1, Nat.le_trans (Nat.le_add_right _ _) h.2⟩
  · intro hX σ o σ' e hcc hs g1 g2 g3 H locs ls hW hlo hv
    have e : (if 0 ≤ n.toInt ∧ n.toInt ≤ 1000000 then kk (nx σ) (newA σ (30 + j) n.toNatClampNeg .null) else none) = some (o, σ') := e
    by_cases hi : 0 ≤ n.toInt ∧ n.toInt ≤ 1000000
    · rw [if_pos hi] at e
      have hn0 : ¬ n < 0 := fun h => by have := Int32.lt_iff_toInt_lt.mp h; rw [show (0 : Int32).toInt = 0 from rfl] at this; omega
      have hN : n.toNatClampNeg ≤ 1000000 := by unfold Int32.toNatClampNeg; omega
      have hm := (k (nx σ)).1 _ o σ' e
      have hm1 : nx σ + 1 ≤ nx σ' := hm.1
      have hm2 : su σ + n.toNatClampNeg ≤ su σ' := hm.2
      have hz : H.size = nx σ := hW.1.1
      refine W.anew hX.2.1 hX.2.2.1 hX.2.2.2.2.1 (cx_word hX hl) (va_AO.use (va_AO.moved (cx_alike hX) (va_AO.of (gok_word hX.1 hw)))) rfl hdg rfl hn0 (Nat.le_trans (Nat.mul_le_mul_right 4 hN) (by decide)) (by rw [hcc]; omega) (by rw [hs]; omega) fun cA kA comp w1 w2 w3 w4 => ?_
      have hsym := (cx_alike hX).symm
      have hRA : va_RA X.2.2.2.1 cA (.object C) := ⟨kA, comp, w2, w3, w4, w1⟩
      have hWn : Wd G (newA σ (30 + j) n.toNatClampNeg .null) (H.push { cls := cA, slots := Array.replicate n.toNatClampNeg .null, vm := .none }) := wd_newA hW hj (by rw [← hz]; exact Array.getElem?_push_size) ⟨State.isArrayOf_alike hsym ⟨fun k h => (by cases h), kA, w2, comp, w3⟩, fun C' h _ => by cases h; exact va_RA.moved hsym hRA⟩ rfl (by simp) hN (fun i hi => by simp [hi]) (by rw [Array.size_push, hz]) (fun q hq => by rw [Array.getElem?_push_lt (by rw [hz]; exact hq)]; exact (Array.getElem?_eq_getElem _).symm)
      have hz1 : nx σ + 1 - nx σ0 = nx σ - nx σ0 + 1 := by omega
      have hz2 : su σ + n.toNatClampNeg - su σ0 = su σ - su σ0 + n.toNatClampNeg := by omega
      have hk := (k (nx σ)).2 hX (newA σ (30 + j) n.toNatClampNeg .null) o σ' e hcc hs (Nat.le_trans g1 (Nat.le_succ _)) (Nat.le_trans g2 (Nat.le_add_right _ _)) (Nat.le_trans g3 (Nat.le_succ _)) _ locs ls hWn hlo hv
      rw [show nx (newA σ (30 + j) n.toNatClampNeg .null) = nx σ + 1 from rfl, show su (newA σ (30 + j) n.toNatClampNeg .null) = su σ + n.toNatClampNeg from rfl, hz1, hz2] at hk
      rw [hz]
      exact hk
    · rw [if_neg hi] at e; cases e
theorem Ex_ko {α : Type} {G : GT} {X : XT} {σ0 : Sg} {own : String} {cc : ByteArray} {nL : Nat} {rT : Option FieldType} {FR LO : Nat} {mn : String} {tb : List ExceptionTableEntry} {rv : α → Option Value} {pc : Nat} {lv : List (Nat × Value)} {rest : List Value} {index a : Nat} {ks : List Nat} {nm : String} {mm : Ms α} (hdg : decode cc pc = .ok (.checkcast index, 3)) (hl : Cond.classLink own index nm ∈ lw_all) (hC : okC nm ks) (k : Ex G X σ0 own cc nL rT FR LO mn tb rv (pc + 3) lv (.ref a :: rest) mm) : Ex G X σ0 own cc nL rT FR LO mn tb rv pc lv (.ref a :: rest) (ko ks a mm) := by
  refine ⟨Mono_if (p := fun σ => isK ks (kd σ a) = true) (fun σ _ o σ' e => k.1 σ o σ' e), ?_⟩
  intro hX σ o σ' e hc hs h1 h2 h3 H locs ls hW hlo hv
  have e : (if isK ks (kd σ a) = true then mm σ else none) = some (o, σ') := e
  by_cases hi : isK ks (kd σ a) = true
  · rw [if_pos hi] at e
    obtain ⟨ci, q, hkk, hcq, hcast⟩ := hC (kd σ a) (List.contains_iff_mem.mp hi)
    obtain ⟨cv, v1, v2, v3, v4⟩ := obj_of hX hW hkk hcq
    have hk := k.2 hX σ o σ' e hc hs h1 h2 h3 H locs ls hW hlo hv
    rcases hcast with he | hcast
    · obtain ⟨-, hfc⟩ := (cx_K hX).1 ci q hcq
      exact va_castS hX.2.1 hX.2.2.1 hX.2.2.2.2.1 (cx_word hX hl) (by rw [← he]; exact hfc) ⟨cv, v1, v2, by rw [← he]; exact v3⟩ hdg hk
    · exact va_castY hX.2.1 hX.2.2.1 hX.2.2.2.2.1 (cx_word hX hl) (va_Nw.warmC hX.2.2.2.2.2.2.2.2.1 (cx_Nw hX rfl hcast)) ⟨cv, v1, v2, v3⟩ hdg hk
  · rw [if_neg hi] at e; cases e
theorem Ex_inst {α : Type} {G : GT} {X : XT} {σ0 : Sg} {own : String} {cc : ByteArray} {nL : Nat} {rT : Option FieldType} {FR LO : Nat} {mn : String} {tb : List ExceptionTableEntry} {rv : α → Option Value} {pc : Nat} {lv : List (Nat × Value)} {rest : List Value} {index a : Nat} {ks : List Nat} {nm : String} {mm : Ms α} (hdg : decode cc pc = .ok (.instanceof index, 3)) (hl : Cond.classLink own index nm ∈ lw_all) (hC : okC nm ks) (k : Ex G X σ0 own cc nL rT FR LO mn tb rv (pc + 3) lv (.int 1 :: rest) mm) : Ex G X σ0 own cc nL rT FR LO mn tb rv pc lv (.ref a :: rest) (ko ks a mm) := by
  refine ⟨Mono_if (p := fun σ => isK ks (kd σ a) = true) (fun σ _ o σ' e => k.1 σ o σ' e), ?_⟩
  intro hX σ o σ' e hc hs h1 h2 h3 H locs ls hW hlo hv
  have e : (if isK ks (kd σ a) = true then mm σ else none) = some (o, σ') := e
  by_cases hi : isK ks (kd σ a) = true
  · rw [if_pos hi] at e
    obtain ⟨ci, q, hkk, hcq, hcast⟩ := hC (kd σ a) (List.contains_iff_mem.mp hi)
    obtain ⟨cv, v1, v2, v3, v4⟩ := obj_of hX hW hkk hcq
    have hk := k.2 hX σ o σ' e hc hs h1 h2 h3 H locs ls hW hlo hv
    rcases hcast with he | hcast
    · obtain ⟨-, hfc⟩ := (cx_K hX).1 ci q hcq
      exact va_instS hX.2.1 hX.2.2.1 hX.2.2.2.2.1 (cx_word hX hl) (by rw [← he]; exact hfc) ⟨cv, v1, v2, by rw [← he]; exact v3⟩ hdg hk
    · exact va_instY hX.2.1 hX.2.2.1 hX.2.2.2.2.1 (cx_word hX hl) (va_Nw.warmC hX.2.2.2.2.2.2.2.2.1 (cx_Nw hX rfl hcast)) ⟨cv, v1, v2, v3⟩ hdg hk
  · rw [if_neg hi] at e; cases e
theorem Ex_kq {α : Type} {G : GT} {X : XT} {σ0 : Sg} {own : String} {cc : ByteArray} {nL : Nat} {rT : Option FieldType} {FR LO : Nat} {mn : String} {tb : List ExceptionTableEntry} {rv : α → Option Value} {pc : Nat} {lv : List (Nat × Value)} {st : List Value} {kk a : Nat} {m1 m2 : Ms α} (h1 : Ex G X σ0 own cc nL rT FR LO mn tb rv pc lv st m1) (h2 : Ex G X σ0 own cc nL rT FR LO mn tb rv pc lv st m2) : Ex G X σ0 own cc nL rT FR LO mn tb rv pc lv st (kq kk a m1 m2) := by
  refine ⟨fun σ o σ' e => ?_, fun hX σ o σ' e => ?_⟩
  · have e : (if kd σ a = kk then m1 σ else m2 σ) = some (o, σ') := e
    by_cases hi : kd σ a = kk
    · rw [if_pos hi] at e; exact h1.1 σ o σ' e
    · rw [if_neg hi] at e; exact h2.1 σ o σ' e
  · have e : (if kd σ a = kk then m1 σ else m2 σ) = some (o, σ') := e
    by_cases hi : kd σ a = kk
    · rw [if_pos hi] at e; exact h1.2 hX σ o σ' e
    · rw [if_neg hi] at e; exact h2.2 hX σ o σ' e
