-- System.arraycopy between arrays of Objects
def cpS (σ : Sg) (src sp dst dp n : Nat) : Sg := (σ.1, σ.2.1, σ.2.2.1, fun b j => if b = dst ∧ dp ≤ j ∧ j < dp + n then σ.2.2.2.1 src (sp + (j - dp)) else σ.2.2.2.1 b j, σ.2.2.2.2)
def okv (ks : List Nat) (σ : Sg) : Value → Bool
  | .null => true
  | .ref a => isK ks (kd σ a)
  | _ => false
def cpA {β : Type} (ks : List Nat) (src : Nat) (sp : Int32) (dst : Nat) (dp n : Int32) (k : Ms β) : Ms β := fun σ =>
  if (kd σ src = 32 ∧ kd σ dst = 32 ∧ bs σ ≤ dst) ∧ (0 ≤ sp.toInt ∧ 0 ≤ dp.toInt ∧ 0 ≤ n.toInt ∧ sp.toInt + n.toInt ≤ ln σ src ∧ dp.toInt + n.toInt ≤ ln σ dst) ∧ (List.range n.toNatClampNeg).all (fun i => okv ks σ (ar σ src (sp.toNatClampNeg + i))) = true
  then k (cpS σ src sp.toNatClampNeg dst dp.toNatClampNeg n.toNatClampNeg) else none
theorem wd_cpS {G : GT} {σ : Sg} {H H' : Heap} {src sp dst dp n : Nat} {cs cd : Cell} (hW : Wd G σ H) (hk : kd σ dst = 32) (hb : gb G ≤ dst) (hcd : H[dst]? = some cd) (h1 : H'[dst]? = some (cd.storeRun dp (cs.stretch sp n))) (hs : H'.size = H.size) (ho : ∀ q, q ≠ dst → H'[q]? = H[q]?)
    (hin : dp + n ≤ ln σ dst) (hcs : ∀ i, i < n → cs.slots[sp + i]? = some (ar σ src (sp + i))) : Wd G (cpS σ src sp dst dp n) H' := by
  refine ⟨⟨by rw [hs]; exact hW.1.1, hW.1.2⟩, fun b hb' => (ho b (by omega)).trans (hW.2.1 b hb'), ?_, ?_, ?_, hW.2.2.2.2.2⟩
  · intro b cj q' hkb hcj
    have hkb : kd σ b = cj + 1 := hkb
    have hci := cls_ci hcj
    have hba : b ≠ dst := fun h => by subst h; omega
    exact (hW.2.2.1 b cj q' hkb hcj).kept (ho b hba)
  · intro b j' ty' hkb hj'
    have hkb : kd σ b = 30 + j' := hkb
    obtain ⟨c0, e1, e2, e3, e4, e5, e6⟩ := hW.2.2.2.1 b j' ty' hkb hj'
    by_cases hba : b = dst
    · subst hba
      obtain rfl : c0 = cd := Option.some.inj (e1.symm.trans hcd)
      have hf := Cell.storeRun_facts c0 dp (cs.stretch sp n)
      refine ⟨_, h1, ⟨⟨fun k => by rw [hf.2.1]; exact e2.1.1 k, by rw [hf.1]; exact e2.1.2⟩, by rw [hf.1]; exact e2.2⟩, by rw [hf.2.1]; exact e3, by rw [hf.2.2.1]; exact e4, e5, fun x hx => ?_⟩
      have hx : x < ln σ b := hx
      rw [Cell.storeRun_get _ _ _ _ (by rw [Cell.stretch_length, e4]; exact hin), Cell.stretch_length]
      show _ = some (if b = b ∧ dp ≤ x ∧ x < dp + n then ar σ src (sp + (x - dp)) else ar σ b x)
      by_cases hxi : dp ≤ x ∧ x < dp + n
      · rw [if_pos hxi, if_pos ⟨rfl, hxi⟩]
        have hlt : x - dp < n := by omega
        show ((List.range n).map fun i => cs.slots.getD (sp + i) .null)[x - dp]? = _
        rw [List.getElem?_map, List.getElem?_range hlt]
        show some (cs.slots.getD (sp + (x - dp)) .null) = _
        rw [Array.getD_eq_getD_getElem?, hcs _ hlt]
        rfl
      · rw [if_neg hxi, if_neg (fun h => hxi h.2)]
        exact e6 x hx
    · refine ⟨c0, (ho b hba).trans e1, e2, e3, e4, e5, fun x hx => ?_⟩
      show c0.slots[x]? = some (if b = dst ∧ dp ≤ x ∧ x < dp + n then ar σ src (sp + (x - dp)) else ar σ b x)
      rw [if_neg (fun h => hba h.1)]
      exact e6 x hx
  · intro b hb'
    refine ⟨by rw [hs]; exact (hW.2.2.2.2.1 b hb').1, fun h11 ce hce => ?_⟩
    have h11 : kd σ b = 11 := h11
    have hba : b ≠ dst := fun h => by subst h; omega
    rw [ho b hba] at hce
    exact (hW.2.2.2.2.1 b hb').2 h11 ce hce
theorem clampI {x : Int32} (h : 0 ≤ x.toInt) : x.toInt = (x.toNatClampNeg : Int) ∧ ¬ x < 0 := by
  refine ⟨?_, fun hx => ?_⟩
  · show x.toInt = ((x.toInt.toNat : Nat) : Int)
    omega
  · have := Int32.lt_iff_toInt_lt.mp hx
    rw [show (0 : Int32).toInt = 0 from rfl] at this
    omega
section
variable {α : Type} {G : GT} {X : XT} {σ0 : Sg} {own : String} {cc : ByteArray} {nL : Nat} {rT : Option FieldType} {FR LO : Nat} {mn : String} {tb : List ExceptionTableEntry} {rv : α → Option Value} {pc : Nat} {lv : List (Nat × Value)} {rest : List Value}
theorem Ex_cpA {index src dst : Nat} {sp dp n : Int32} {ks : List Nat} {mm : Ms α} (hC : okC "java/lang/Object" ks) (hdg : decode cc pc = .ok (.invokestatic index, 3)) (h1 : Cond.methodLink own index arraycopyName ∈ lw_all) (h2 : Cond.native arraycopyName ∈ lw_all) (h3 : Cond.static arraycopyName ∈ lw_all) (h4 : Cond.initialized "java/lang/System" ∈ lw_all) (hfr : 1 ≤ FR) (hlo : (rest.map fun v => v.category).sum + 18 ≤ LO)
    (k : Ex G X σ0 own cc nL rT FR LO mn tb rv (pc + 3) lv rest mm) : Ex G X σ0 own cc nL rT FR LO mn tb rv pc lv (.int n :: .int dp :: .ref dst :: .int sp :: .ref src :: rest) (cpA ks src sp dst dp n mm) := by
  refine ⟨Mono_if (p := fun σ => (kd σ src = 32 ∧ kd σ dst = 32 ∧ bs σ ≤ dst) ∧ (0 ≤ sp.toInt ∧ 0 ≤ dp.toInt ∧ 0 ≤ n.toInt ∧ sp.toInt + n.toInt ≤ ln σ src ∧ dp.toInt + n.toInt ≤ ln σ dst) ∧ (List.range n.toNatClampNeg).all (fun i => okv ks σ (ar σ src (sp.toNatClampNeg + i))) = true) (fun σ _ o σ' e => k.1 (cpS σ src sp.toNatClampNeg dst dp.toNatClampNeg n.toNatClampNeg) o σ' e), ?_⟩
  intro hX σ o σ' e hcc hss g1 g2 g3 H locs ls hW hlo' hv
  unfold cpA at e
  by_cases hi : (kd σ src = 32 ∧ kd σ dst = 32 ∧ bs σ ≤ dst) ∧ (0 ≤ sp.toInt ∧ 0 ≤ dp.toInt ∧ 0 ≤ n.toInt ∧ sp.toInt + n.toInt ≤ ln σ src ∧ dp.toInt + n.toInt ≤ ln σ dst) ∧ (List.range n.toNatClampNeg).all (fun i => okv ks σ (ar σ src (sp.toNatClampNeg + i))) = true
  · rw [if_pos hi] at e
    obtain ⟨⟨i1, i2, i3⟩, ⟨i4, i5, i6, i7, i8⟩, i9⟩ := hi
    have hba : gb G ≤ dst := by rw [← hW.1.2.1]; exact i3
    obtain ⟨cs, q1, q2, q3, q4, q5, q6⟩ := hW.2.2.2.1 src 2 (.object "java/lang/Object") i1 rfl
    obtain ⟨cd, r1, r2, r3, r4, r5, r6⟩ := hW.2.2.2.1 dst 2 (.object "java/lang/Object") i2 rfl
    obtain ⟨kS, compS, w1, w2, w3, -⟩ := va_RA.moved (cx_alike hX) (q2.2 _ rfl (by decide))
    obtain ⟨kD, compD, z1, z2, z3, -⟩ := va_RA.moved (cx_alike hX) (r2.2 _ rfl (by decide))
    obtain ⟨c1, c1n⟩ := clampI i4
    obtain ⟨c2, c2n⟩ := clampI i5
    obtain ⟨c3, c3n⟩ := clampI i6
    intro T hT XS
    obtain ⟨vm', X', step⟩ := XS.arraycopy hX.2.1 hX.2.2.2.2.1 (cx_word hX h1) (cx_word hX h2) (cx_word hX h3) (cx_word hX h4) (src := src) (dst := dst) (cs := cs) (cd := cd) (srcPos := sp) (destPos := dp) (n := n) (by rw [hT]; exact q1) (by rw [hT]; exact r1)
      (fun _ h => by have h9 := q3.2.1; rw [h] at h9; cases h9) (fun _ h => by have h9 := r3.2.1; rw [h] at h9; cases h9) q3.1 r3.1 w1 z1 w2 z2 rfl c1n c2n c3n (by rw [q4]; omega) (by rw [r4]; omega)
      (fun vm1 hvm1 i hi => by
        have hlt : sp.toNatClampNeg + i < ln σ src := by omega
        have hslot : cs.slots.getD (sp.toNatClampNeg + i) .null = ar σ src (sp.toNatClampNeg + i) := by rw [Array.getD_eq_getD_getElem?, q6 _ hlt]; rfl
        have hov := List.all_eq_true.mp i9 i (List.mem_range.mpr hi)
        rw [hslot]
        revert hov
        cases ar σ src (sp.toNatClampNeg + i) with
        | null => exact fun _ => ⟨rfl, trivial⟩
        | ref a =>
          intro hov
          obtain ⟨ci, q, hkk, hcq, hcast⟩ := hC (kd σ a) (List.contains_iff_mem.mp hov)
          obtain ⟨cv, v1, v2, v3, v4⟩ := obj_of hX hW hkk hcq
          obtain ⟨kcomp, hkcomp, -⟩ := Vm.findClass_spec z3
          obtain ⟨kv, hkv, -⟩ := Vm.findClass_spec v3
          have hinst : X.2.2.2.1.vm.assignable cv.cls compD = true := by
            rcases hcast with he | hcast
            · rw [he] at v3
              rw [Option.some.inj (v3.symm.trans z3)]
              exact as_self _ _
            · obtain ⟨c3', c4', y1, y2, y3⟩ := Cond.castable_spec (args := X.2.2.2.2.2.1) (va_Nw.use rfl (va_Nw.warmC hX.2.2.2.2.2.2.2.2.1 (cx_Nw hX rfl hcast)))
              rw [Option.some.inj (v3.symm.trans y1), Option.some.inj (z3.symm.trans y2)]
              exact y3
          obtain ⟨kv', hkv', -⟩ := hvm1.2.2 _ _ hkv
          obtain ⟨kc', hkc', -⟩ := hvm1.2.2 _ _ hkcomp
          exact ⟨rfl, cv, (by show T.heap[a]? = some cv; rw [hT]; exact v1), (fun k h => by rw [h] at v2; cases v2), ⟨kv', hkv'⟩, ⟨kc', hkc'⟩, (by show vm1.assignable cv.cls compD = true; rw [hvm1.assignable]; exact hinst)⟩
        | _ => intro hov; cases hov)
      (g := F0 X.2.2.2.2.1 pc ls (.int n :: .int dp :: .ref dst :: .int sp :: .ref src :: rest)) rfl (by rw [hX.2.2.2.1]; exact hv.1) (rest := rest) rfl (by rw [hX.2.2.1]; exact hdg) (Nat.le_trans hfr hX.2.2.2.2.2.2.2.2.2.1) (by
        have := Nat.le_trans hlo hX.2.2.2.2.2.2.2.2.2.2.1
        have h7 : nativeFrameWords "java/lang/System" "arraycopy" 5 = 7 := rfl
        show 2 * 0 + _ + _ ≤ _
        rw [h7]
        omega)
    have hl : dst < H.size := (Array.getElem?_eq_some_iff.mp r1).1
    have hheap : ((T.setVm vm').setCell dst (copied cs cd sp dp n)).heap = H.setIfInBounds dst (copied cs cd sp dp n) := by rw [← hT]; rfl
    have hWn : Wd G (cpS σ src sp.toNatClampNeg dst dp.toNatClampNeg n.toNatClampNeg) (H.setIfInBounds dst (copied cs cd sp dp n)) := wd_cpS (cs := cs) (cd := cd) hW i2 hba r1 (by rw [Array.getElem?_setIfInBounds_self_of_lt hl]) Array.size_setIfInBounds (fun q hq => Array.getElem?_setIfInBounds_ne (Ne.symm hq)) (by omega) (fun i hi => q6 _ (by omega))
    obtain ⟨t, a1, b1⟩ := k.2 hX (cpS σ src sp.toNatClampNeg dst dp.toNatClampNeg n.toNatClampNeg) o σ' e hcc hss g1 g2 g3 _ _ ls hWn (fun z hz => by
      rcases List.mem_append.mp hz with h | h
      · exact hlo' z h
      · obtain ⟨y, -, hy⟩ := List.mem_map.mp h
        rw [← hy]
        exact hba) hv _ hheap X'
    exact ⟨t, step t a1, b1⟩
  · rw [if_neg hi] at e; cases e
end
