theorem fold_all {f : Nat → Option Bool} : ∀ (l : List Nat) (b : Option Bool), l.foldl (fun acc i => match acc with
    | some true => f i
    | x => x) b = some true → b = some true ∧ ∀ i ∈ l, f i = some true := by
  intro l
  induction l with
  | nil => intro b h; exact ⟨h, fun i hi => nomatch hi⟩
  | cons x l ih =>
    intro b h
    obtain ⟨h1, h2⟩ := ih _ h
    cases b with
    | none => cases h1
    | some v =>
      cases v with
      | false => cases h1
      | true =>
        refine ⟨rfl, fun i hi => ?_⟩
        rcases List.mem_cons.mp hi with rfl | hi
        · exact h1
        · exact h2 i hi
/-- every element of an array, as a word says -/
theorem all_spec {t : Term} {c : Cond} {args : Array Value} {s : State} (h : (Cond.all t c).before args s = true) : ∃ (a : Nat) (cell : Cell), t.eval args s none [] s = some (.ref a) ∧ s.arrayAt? a = some cell ∧ ∀ i, i < cell.slots.size → c.value args s none s [i] = some true := by
  simp only [Cond.before, Cond.holds, Cond.value, beq_iff_eq] at h
  cases ht : t.eval args s none [] s with
  | none => rw [ht] at h; cases h
  | some v =>
    cases v with
    | ref a =>
      rw [ht] at h
      dsimp only at h
      cases hc : s.arrayAt? a with
      | none => rw [hc] at h; cases h
      | some cell =>
        rw [hc] at h
        dsimp only at h
        exact ⟨a, cell, rfl, hc, fun i hi => (fold_all _ _ h).2 i (List.mem_range.mpr hi)⟩
    | _ => rw [ht] at h; cases h
def icT : Term := .static "java/lang/Integer$IntegerCache" "cache" "[Ljava/lang/Integer;"
theorem ic_elem {args : Array Value} {s : State} {ca : Nat} {cell : Cell} {i : Nat} (ht : icT.eval args s none [] s = some (.ref ca)) (hc : s.arrayAt? ca = some cell) (hi : i < cell.slots.size) (hn : cell.slots.size = 256)
    (h : (Cond.and (Cond.exactly (.elem icT (.index 0)) "java/lang/Integer") (Cond.eq (.field (.elem icT (.index 0)) "java/lang/Integer" "value" "I") (.sub (.index 0) (.int 128)))).value args s none s [i] = some true) :
    ∃ q c k ce, cell.slots[i]? = some (.ref q) ∧ s.vm.findClass "java/lang/Integer" = some c ∧ s.heap[q]? = some ce ∧ s.vm.classes[c]? = some k ∧ ce.vm.isStatics = false ∧ ce.cls = c ∧ s.fieldOf? q "java/lang/Integer" "value" "I" = some (.int (Int32.ofNat i - 128)) := by
  have hv : (Cond.and (Cond.exactly (.elem icT (.index 0)) "java/lang/Integer") (Cond.eq (.field (.elem icT (.index 0)) "java/lang/Integer" "value" "I") (.sub (.index 0) (.int 128)))).holds args s none s [i] = true := by
    unfold Cond.holds; rw [h]; rfl
  rw [Cond.holds_and, Bool.and_eq_true] at hv
  have ht' : icT.eval args s none [i] s = some (.ref ca) := ht
  have hlt : ¬ (i.toInt32 < 0) ∧ i.toInt32.toNatClampNeg = i := by
    have h256 : i < 256 := hn ▸ hi
    have key : ∀ j : Fin 256, ¬ (j.val.toInt32 < 0) ∧ j.val.toInt32.toNatClampNeg = j.val := by decide +kernel
    exact key ⟨i, h256⟩
  obtain ⟨q, c, ce, k, e1, e2, e3, e4, e5, e6, -⟩ := Cond.exactly_spec hv.1
  have hel : (Term.elem icT (.index 0)).eval args s none [i] s = cell.slots[i]? := by
    have hx : (Term.index 0).eval args s none [i] s = some (.int i.toInt32) := rfl
    simp only [Term.eval, ht', hx, hc]
    simp [hlt.1, hlt.2, hc]
  rw [hel] at e1
  refine ⟨q, c, k, ce, e1, e2, e3, e4, e5, e6, ?_⟩
  have h2 := hv.2
  have hx : (Term.sub (.index 0) (.int 128)).eval args s none [i] s = some (.int (i.toInt32 - 128)) := Term.sub_int rfl rfl
  have hfe : (Term.field (.elem icT (.index 0)) "java/lang/Integer" "value" "I").eval args s none [i] s = s.fieldOf? q "java/lang/Integer" "value" "I" := by
    have h9 : (Term.elem icT (.index 0)).eval args s none [i] s = some (.ref q) := by rw [hel]; exact e1
    have h10 : ∀ tm : Term, (Term.field tm "java/lang/Integer" "value" "I").eval args s none [i] s = (match tm.eval args s none [i] s with
      | some (.ref a) => s.fieldOf? a "java/lang/Integer" "value" "I"
      | _ => none) := fun tm => by
      simp only [Term.eval]
      cases tm.eval args s none [i] s with
      | none => rfl
      | some v => cases v <;> rfl
    rw [h10, h9]
  simp only [Cond.holds, Cond.value, hfe, hx] at h2
  cases hf : s.fieldOf? q "java/lang/Integer" "value" "I" with
  | none => rw [hf] at h2; cases h2
  | some w =>
    rw [hf] at h2
    have h9 : w = .int (i.toInt32 - 128) := by cases w <;> simp_all
    rw [h9]
theorem ic_slot {s : State} {a : Nat} {v : Value} {ce : Cell} {i : Nat} (hS : SlotIs s "java/lang/Integer" "value" "I" i) (hf : s.fieldOf? a "java/lang/Integer" "value" "I" = some v) (hce : s.heap[a]? = some ce) : ce.vm ≠ .unknown ∧ ce.slots[i]? = some v := by
  obtain ⟨cf, kf, fi, fdd, hii, hsl⟩ := hS
  simp only [State.fieldOf?, State.fieldNamed?, hce, hii, Option.bind_eq_bind, Option.bind_some, Option.pure_def] at hf
  split at hf
  · simp only [Option.bind_some] at hf
    split at hf
    · cases hf
    · rename_i hn
      rw [hsl] at hf
      exact ⟨fun h => hn (Or.inl h), hf⟩
  · cases hf
/-- every class has its places -/
theorem kn_all {s : State} {args : Array Value} (hts : ∀ w ∈ lw_all, w.before args s = true) (hcl : ∀ ci q, cls[ci]? = some q → ClOK ci q) (hins : ∀ (ci : Nat) (q : vw_C), cls[ci]? = some q → Cond.instantiable q.1 q.2.2 ∈ lw_all) : ∃ D : va_G, va_K D cls [] s := by
  have h : ∀ ci : Nat, ∃ x : ClassId × (Nat → Nat), ∀ q, cls[ci]? = some q → u_Kn s q.1 q.2.1 q.2.2 x.1 x.2 := by
    intro ci
    cases hc : cls[ci]? with
    | none => exact ⟨(0, fun _ => 0), fun q hq => by cases hq⟩
    | some q =>
      obtain ⟨cC, iS, hk⟩ := u_known hts (hcl ci q hc).1 (hts _ (hins ci q hc))
      exact ⟨(cC, iS), fun q' hq => by cases hq; exact hk⟩
  exact ⟨(fun ci => (h ci).choose.1, fun ci => (h ci).choose.2), fun ci q hc => (h ci).choose_spec q hc, fun k q hq => by simp at hq⟩
/-- what the plain part may lean on at the law's start -/
def Init (σ : Sg) (b L : Nat) (xs : Nat → Int32) : Prop :=
  (bs σ = nx σ ∧ ∀ a, kd σ a ≠ 0 → a < nx σ) ∧ (kd σ b = 30 ∧ ln σ b = L ∧ ∀ i, i < L → ar σ b i = .int (xs i)) ∧ (∃ e0, st σ 0 = .ref e0 ∧ kd σ e0 = 32 ∧ ln σ e0 = 0) ∧ st σ 1 = .int 127 ∧
  (∃ ca, st σ 2 = .ref ca ∧ kd σ ca = 38 ∧ ln σ ca = 256 ∧ ∀ i, i < 256 → ∃ q, ar σ ca i = .ref q ∧ kd σ q = 24 ∧ fd σ 97 q = .int (Int32.ofNat i - 128)) ∧ (st σ 3).isRef = true ∧ (st σ 4).isRef = true ∧ (∃ l0 l1, st σ 10 = .ref l0 ∧ st σ 11 = .ref l1 ∧ l0 ≠ l1) ∧ (∃ mi, st σ 20 = .ref mi)
theorem len_spec {t : Term} {args : Array Value} {s : State} {a : Nat} {cell : Cell} {n : Int32} (ht : t.eval args s none [] s = some (.ref a)) (hc : s.arrayAt? a = some cell) (h : (Cond.eq (.length t) (.int n)).before args s = true) : cell.slots.size < 2 ^ 31 ∧ cell.slots.size.toInt32 = n := by
  have hv : (Term.length t).eval args s none [] s = if cell.slots.size < 2 ^ 31 then some (.int cell.slots.size.toInt32) else none := by
    simp only [Term.eval, ht]
    simp [hc]
  have hz : (Term.int n).eval args s none [] s = some (.int n) := rfl
  by_cases hs : cell.slots.size < 2 ^ 31
  · rw [if_pos hs] at hv
    simp only [Cond.before, Cond.holds, Cond.value, hv, hz] at h
    exact ⟨hs, by simpa using h⟩
  · rw [if_neg hs] at hv
    simp [Cond.before, Cond.holds, Cond.value, hv] at h
theorem arrayAt_of {s : State} {a : Nat} {cell : Cell} {ty : FieldType} (hc : s.heap[a]? = some cell) (h : s.isArrayOf cell ty) (hu : cell.vm ≠ .unknown) (hs : cell.vm.isStatics = false) : s.arrayAt? a = some cell := by
  obtain ⟨-, k, hk, comp, hkind⟩ := h
  simp [State.arrayAt?, hc, hk, hu, hs, hkind]
theorem arr_ne {s : State} {a a' : Nat} {cell cell' : Cell} {ty ty' : FieldType} (h1 : s.heap[a]? = some cell) (h2 : s.heap[a']? = some cell') (k1 : s.isArrayOf cell ty) (k2 : s.isArrayOf cell' ty') (hne : ty ≠ ty') : a ≠ a' := by
  rintro rfl
  cases h1.symm.trans h2
  obtain ⟨-, k, hk, c, hc⟩ := k1
  obtain ⟨-, k', hk', c', hc'⟩ := k2
  cases hk.symm.trans hk'
  rw [hc] at hc'
  cases hc'
  exact hne rfl
theorem isSt_of {s : State} {cell : Cell} {ty : FieldType} (h : s.isArrayOf cell ty) : cell.vm.isStatics = false := by
  cases hv : cell.vm with
  | statics k => exact absurd hv (h.1 k)
  | _ => rfl
theorem toInt32_small {n : Nat} (h : n < 2 ^ 31) {m : Nat} (hm : m < 2 ^ 31) (e : n.toInt32 = Int32.ofNat m) : n = m := by
  have h1 := congrArg Int32.toInt e
  have e1 : n.toInt32 = Int32.ofNat n := rfl
  rw [e1, Int32.toInt_ofNat_of_lt (by omega), Int32.toInt_ofNat_of_lt (by omega)] at h1
  omega
theorem lm_ne {G : GT} {σ : Sg} (h : LmP G σ) : ∃ l0 l1, st σ 10 = .ref l0 ∧ st σ 11 = .ref l1 ∧ l0 ≠ l1 := by
  have key : ∀ i, i < 2 → ∃ (a : Nat) (c : ClassId) (cell : Cell) (k : Class) (file : ClassFile), st σ (10 + i) = .ref a ∧ G.2.1.heap[a]? = some cell ∧ cell.cls = c ∧ G.2.1.vm.classes[c]? = some k ∧ k.cf = some file ∧ file.constantPool = (lmF i).constantPool := by
    intro i hi
    obtain ⟨c, a, h1, h2⟩ := h i hi
    obtain ⟨m0, k, cf, i0, p0, l, hm0, hk, -, -, -, -, hmade, -, hl⟩ := State.lambdaAt?_spec h2
    obtain ⟨kn, hkn, hnn⟩ := className_of_methodNamed hm0
    obtain ⟨k1, -, file1, -, -, -, -, -, -, gk, -, -, gfile, gpool, -⟩ := lm_made hi hkn hnn hmade
    rcases hl with ⟨a', cell, rfl, h3, -, hcell, hcc, -, -⟩ | ⟨-, -, h3⟩
    · cases h3
      exact ⟨a, c, cell, k1, file1, h1, hcell, hcc, gk, gfile, gpool⟩
    · exact absurd rfl h3
  obtain ⟨a0, c0, cell0, k0, f0, h1, h2, h3, h4, h5, h6⟩ := key 0 (by decide)
  obtain ⟨a1, c1, cell1, k1, f1, g1, g2, g3, g4, g5, g6⟩ := key 1 (by decide)
  refine ⟨a0, a1, h1, g1, fun e => ?_⟩
  subst e
  cases h2.symm.trans g2
  subst h3; subst g3
  cases h4.symm.trans g4
  cases h5.symm.trans g5
  have e9 := (lm_17 0 (by decide)).2.2
  have e8 := (lm_17 1 (by decide)).2.2
  rw [← h6, g6, e8] at e9
  exact absurd e9 (by decide)
def emT : Term := .static "java/util/ArrayList" "DEFAULTCAPACITY_EMPTY_ELEMENTDATA" "[Ljava/lang/Object;"
theorem start_wd {l : Launch} {s : State} {b L : Nat} {xs : Nat → Int32} (hL : L ≤ 97) (hts : ∀ w ∈ lw_tbl, w.before #[.ref b] s = true) (hX : va_X b L xs s s.heap) (hb : b < s.heap.size) (hgv : (Jvm.Cond.and given_1 narrow_1).before #[.ref b] s = true) (hl : l.stackTraces = false) (hcl : ∀ ci q, cls[ci]? = some q → ClOK ci q) (hins : ∀ (ci : Nat) (q : vw_C), cls[ci]? = some q → Cond.instantiable q.1 q.2.2 ∈ lw_all) :
    ∃ (D : va_G) (σ : Sg), GOK (l, s, b, D) ∧ Wd (l, s, b, D) σ s.heap ∧ Init σ b L xs := by
  have hall : ∀ w ∈ lw_all, w.before #[.ref b] s = true := fun w h => hts w (lw_all_tbl h)
  obtain ⟨D, hD⟩ := kn_all hall hcl hins
  have hA : ∀ a : Nat, a < s.heap.size → ¬ (fun q => s.heap.size ≤ q) a := fun a h h' => absurd h' (Nat.not_le_of_lt h)
  have r3 : (Cond.isRef (.static Bundle.tN "UNASSIGNED_STACK" Bundle.steD)).before #[.ref b] s = true := flat_of_before _ hgv _ (by decide +kernel)
  have r4 : (Cond.isRef (.static Bundle.tN "SUPPRESSED_SENTINEL" Bundle.listD)).before #[.ref b] s = true := flat_of_before _ hgv _ (by decide +kernel)
  have hU : vx_Zq Bundle.tN "UNASSIGNED_STACK" Bundle.steD (fun q => s.heap.size ≤ q) s s.heap := vx_Zqof (hts _ q802) (hall _ q58) r3 hA
  have hN : vx_Zq Bundle.tN "SUPPRESSED_SENTINEL" Bundle.listD (fun q => s.heap.size ≤ q) s s.heap := vx_Zqof (hts _ q804) (hall _ q58) r4 hA
  obtain ⟨v3, e3, hv3⟩ := Cond.isRef_spec r3
  obtain ⟨v4, e4, hv4⟩ := Cond.isRef_spec r4
  have z3 := va_Zof (hts _ q802) (hall _ q58) e3 hA
  have z4 := va_Zof (hts _ q804) (hall _ q58) e4 hA
  have e1 : (Term.static "java/lang/Integer$IntegerCache" "high" "I").eval #[.ref b] s none [] s = some (.int 127) := va_eqi (flat_of_before _ hgv _ (by decide +kernel))
  have z1 := va_Zof (hts _ q752) (hall _ q69) e1 hA
  -- the empty array
  have x0 : (Cond.exactly emT "[Ljava/lang/Object;").before #[.ref b] s = true := flat_of_before _ hgv _ (by decide +kernel)
  have x1 : (Cond.arrayOf emT (.object "java/lang/Object")).before #[.ref b] s = true := flat_of_before _ hgv _ (by decide +kernel)
  have x2 : (Cond.eq (.length emT) (.int 0)).before #[.ref b] s = true := flat_of_before _ hgv _ (by decide +kernel)
  obtain ⟨e0, c0, cell0, k0, ev0, fc0, h0, hk0, st0, cc0, -⟩ := Cond.exactly_spec x0
  obtain ⟨ia0, un0⟩ := Cond.arrayOf_spec x1 ev0 h0
  obtain ⟨l0a, l0b⟩ := len_spec ev0 (arrayAt_of h0 ia0 un0 st0) x2
  have sz0 : cell0.slots.size = 0 := toInt32_small l0a (by decide) l0b
  have z0 := va_Zof (hts _ q132) (hall _ q48) ev0 hA
  -- the cache
  have y0 : (Cond.arrayOf icT (.object "java/lang/Integer")).before #[.ref b] s = true := flat_of_before _ hgv _ (by decide +kernel)
  have y1 : (Cond.eq (.length icT) (.int 256)).before #[.ref b] s = true := flat_of_before _ hgv _ (by decide +kernel)
  have y2 : (Cond.all icT (Cond.and (Cond.exactly (.elem icT (.index 0)) "java/lang/Integer") (Cond.eq (.field (.elem icT (.index 0)) "java/lang/Integer" "value" "I") (.sub (.index 0) (.int 128))))).before #[.ref b] s = true := flat_of_before _ hgv _ (by decide +kernel)
  obtain ⟨ca, cellC, evC, hcC, hel⟩ := all_spec y2
  obtain ⟨hC, knC, -⟩ := State.arrayAt?_spec hcC
  obtain ⟨iaC, unC⟩ := Cond.arrayOf_spec y0 evC hC
  obtain ⟨lCa, lCb⟩ := len_spec evC hcC y1
  have szC : cellC.slots.size = 256 := toInt32_small lCa (by decide) lCb
  have z2 := va_Zof (hts _ q754) (hall _ q69) evC hA
  have hic : ∀ i, i < 256 → ∃ q c k ce, cellC.slots[i]? = some (.ref q) ∧ s.vm.findClass "java/lang/Integer" = some c ∧ s.heap[q]? = some ce ∧ s.vm.classes[c]? = some k ∧ ce.vm.isStatics = false ∧ ce.cls = c ∧ s.fieldOf? q "java/lang/Integer" "value" "I" = some (.int (Int32.ofNat i - 128)) := fun i hi => ic_elem evC hcC (by rw [szC]; exact hi) szC (hel i (by rw [szC]; exact hi))
  obtain ⟨scr, hS, iaS, unS, szS, vS⟩ := hX
  -- the objects of the lambdas, the mirror
  have w1 : siteWord_1_1.before #[.ref b] s = true := flat_of_before _ hgv _ (by decide +kernel)
  have w2 : siteWord_1_2.before #[.ref b] s = true := flat_of_before _ hgv _ (by decide +kernel)
  have lam : ∀ i, i < 2 → ∃ (c : ClassId) (a : Nat), s.lambdaAt? ⟨"QuorumAlmanac", "<init>", "(I)V"⟩ (lmPc i) (lmIx i) (lmS i) = some (c, some a) := by
    have go : ∀ i, (Cond.lambdaSite ⟨"QuorumAlmanac", "<init>", "(I)V"⟩ (lmPc i) (lmIx i) (lmS i)).before #[.ref b] s = true → ∃ (c : ClassId) (a : Nat), s.lambdaAt? ⟨"QuorumAlmanac", "<init>", "(I)V"⟩ (lmPc i) (lmIx i) (lmS i) = some (c, some a) := by
      intro i h
      obtain ⟨c, one, h1⟩ := Cond.lambdaSite_spec h
      obtain ⟨m0, k, cf, i0, p0, l, -, -, -, -, -, -, -, -, hl⟩ := State.lambdaAt?_spec h1
      rcases hl with ⟨a, cell, -, rfl, -⟩ | ⟨-, -, h3⟩
      · exact ⟨c, a, h1⟩
      · exact absurd rfl h3
    intro i hi
    match i, hi with
    | 0, _ => exact go 0 w1
    | 1, _ => exact go 1 w2
  obtain ⟨cl0, la0, hl0⟩ := lam 0 (by decide)
  obtain ⟨cl1, la1, hl1⟩ := lam 1 (by decide)
  obtain ⟨mi, hmi⟩ := va_Mi.of (C := "[Ljava/lang/Object;") (args := #[.ref b]) (s := s) (flat_of_before _ hgv _ (by decide +kernel))
  have n1 : e0 ≠ b := arr_ne h0 hS ia0 iaS (by decide)
  have n2 : ca ≠ b := arr_ne hC hS iaC iaS (by decide)
  have n3 : ca ≠ e0 := arr_ne hC h0 iaC ia0 (by decide)
  let isI : Nat → Prop := fun a => ∃ i, i < 256 ∧ cellC.slots[i]? = some (.ref a)
  have hq24 : cls[23]? = some (qcl 23) := rfl
  obtain ⟨hSl, hfc, kI, hkI, hkindI⟩ := hD.1 23 _ hq24
  have nI : ∀ a, isI a → ∀ (cell : Cell) (ty : FieldType), s.isArrayOf cell ty → s.heap[a]? = some cell → False := by
    rintro a ⟨i, hi, hs⟩ cell ty hia hh
    obtain ⟨q, c, k, ce, g1, g2, g3, g4, g5, g6, g7⟩ := hic i hi
    cases hs.symm.trans g1
    cases hh.symm.trans g3
    obtain ⟨-, k', hk', comp, hc'⟩ := hia
    subst g6
    have e9 := Option.some.inj (g2.symm.trans hfc)
    rw [e9] at hk'
    cases hk'.symm.trans hkI
    rw [hkindI] at hc'
    cases hc'
  have hkd : ∃ kdf : Nat → Nat, kdf b = 30 ∧ kdf e0 = 32 ∧ kdf ca = 38 ∧ (∀ a, isI a → kdf a = 24) ∧ ∀ a, kdf a = 0 ∨ (a = b ∧ kdf a = 30) ∨ (a = e0 ∧ kdf a = 32) ∨ (a = ca ∧ kdf a = 38) ∨ (isI a ∧ kdf a = 24) := by
    classical
    refine ⟨fun a => if a = b then 30 else if a = e0 then 32 else if a = ca then 38 else if isI a then 24 else 0, by simp, by simp [n1], by simp [n2, n3], fun a ha => ?_, fun a => ?_⟩
    · have m1 : a ≠ b := fun h => nI a ha scr _ iaS (by rw [h]; exact hS)
      have m2 : a ≠ e0 := fun h => nI a ha cell0 _ ia0 (by rw [h]; exact h0)
      have m3 : a ≠ ca := fun h => nI a ha cellC _ iaC (by rw [h]; exact hC)
      simp [m1, m2, m3, ha]
    · by_cases m1 : a = b
      · right; left; simp [m1]
      · by_cases m2 : a = e0
        · right; right; left; simp [m2, n1]
        · by_cases m3 : a = ca
          · right; right; right; left; simp [m3, n2, n3]
          · by_cases m4 : isI a
            · right; right; right; right; simp [m1, m2, m3, m4]
            · left; simp [m1, m2, m3, m4]
  obtain ⟨kdf, kb, ke, kc, kI', kall⟩ := hkd
  let fdf : Nat → Nat → Value := fun _ a => (s.fieldOf? a "java/lang/Integer" "value" "I").getD .null
  let lnf : Nat → Nat := fun a => if a = b then L else if a = ca then 256 else 0
  let arf : Nat → Nat → Value := fun a i => if a = b then .int (xs i) else (cellC.slots[i]?).getD .null
  let stf : Nat → Value := fun j => if j = 0 then .ref e0 else if j = 1 then .int 127 else if j = 2 then .ref ca else if j = 3 then v3 else if j = 4 then v4 else if j = 10 then .ref la0 else if j = 11 then .ref la1 else if j = 20 then .ref mi else .null
  have hLm : LmP (l, s, b, D) (kdf, fdf, lnf, arf, s.heap.size, 0, s.heap.size, stf) := by
    intro i hi
    match i, hi with
    | 0, _ => exact ⟨cl0, la0, rfl, hl0⟩
    | 1, _ => exact ⟨cl1, la1, rfl, hl1⟩
  have hlt : ∀ a, kdf a ≠ 0 → a < s.heap.size := by
    intro a ha
    rcases kall a with h | ⟨rfl, -⟩ | ⟨rfl, -⟩ | ⟨rfl, -⟩ | ⟨⟨i, hi, hs⟩, -⟩
    · exact absurd h ha
    · exact hb
    · exact (Array.getElem?_eq_some_iff.mp h0).1
    · exact (Array.getElem?_eq_some_iff.mp hC).1
    · obtain ⟨q, c, k, ce, g1, g2, g3, -⟩ := hic i hi
      cases hs.symm.trans g1
      exact (Array.getElem?_eq_some_iff.mp g3).1
  refine ⟨D, (kdf, fdf, lnf, arf, s.heap.size, 0, s.heap.size, stf), ⟨hts, hD, hl, hcl, hU, hN, hgv⟩, ⟨⟨rfl, rfl, Nat.le_refl _⟩, fun _ _ => rfl, ?_, ?_, ?_, ?_, ?_, hLm⟩, ⟨rfl, hlt⟩, ⟨kb, if_pos rfl, fun i _ => if_pos rfl⟩, ⟨e0, rfl, ke, ?_⟩, rfl, ⟨ca, rfl, kc, ?_, ?_⟩, hv3, hv4, lm_ne hLm, ⟨mi, rfl⟩⟩
  · intro a ci q hk hc
    have hk : kdf a = ci + 1 := hk
    rcases kall a with h | ⟨-, h⟩ | ⟨-, h⟩ | ⟨-, h⟩ | ⟨⟨i, hi, hs⟩, h⟩
    · omega
    · have := cls_ci hc; omega
    · have := cls_ci hc; omega
    · have := cls_ci hc; omega
    · obtain rfl : ci = 23 := by omega
      cases hc.symm.trans hq24
      obtain ⟨q, c, k, ce, g1, g2, g3, g4, g5, g6, g7⟩ := hic i hi
      cases hs.symm.trans g1
      subst g6
      obtain ⟨u1, u2⟩ := ic_slot (hSl 0 (by decide)) g7 g3
      refine ⟨ce, g3, Option.some.inj (g2.symm.trans hfc), ⟨u1, g5, fun h => absurd h (Nat.not_le_of_lt (Array.getElem?_eq_some_iff.mp g3).1)⟩, fun x hx => ?_⟩
      have hx0 : x = 0 := by have hx : x < 1 := hx; omega
      subst hx0
      rw [u2]
      show some _ = some ((s.fieldOf? a "java/lang/Integer" "value" "I").getD .null)
      rw [g7]; rfl
  · intro a j ty hk hj
    have hk : kdf a = 30 + j := hk
    have nole : ∀ {x : Nat} {cc : Cell} {v : VmData}, s.heap[x]? = some cc → gb (l, s, b, D) ≤ x → v = .none := fun h h' => absurd h' (Nat.not_le_of_lt (Array.getElem?_eq_some_iff.mp h).1)
    rcases kall a with h | ⟨rfl, h⟩ | ⟨rfl, h⟩ | ⟨rfl, h⟩ | ⟨-, h⟩
    · omega
    · obtain rfl : j = 0 := by omega
      cases hj
      have el : lnf a = L := if_pos rfl
      refine ⟨scr, hS, ⟨iaS, fun C h => by cases h⟩, ⟨unS, isSt_of iaS, nole hS⟩, ?_, ?_, fun i hi => ?_⟩
      · show scr.slots.size = lnf a; rw [el]; exact szS
      · show lnf a ≤ _; rw [el]; omega
      · have hi : i < lnf a := hi
        rw [el] at hi
        rw [vS i hi]
        show some _ = some (if a = a then Value.int (xs i) else _)
        rw [if_pos rfl]
    · obtain rfl : j = 2 := by omega
      cases hj
      have el : lnf a = 0 := by show (if a = b then L else if a = ca then 256 else 0) = 0; rw [if_neg n1, if_neg (Ne.symm n3)]
      refine ⟨cell0, h0, ⟨ia0, fun C h _ => ?_⟩, ⟨un0, st0, nole h0⟩, ?_, ?_, fun i hi => ?_⟩
      · cases h
        obtain ⟨comp, c, k, b1, -, b2, b3, b4⟩ := Cond.arrayOver_spec (hts _ q966)
        have e9 : "[" ++ (FieldType.object "java/lang/Object").toString = "[Ljava/lang/Object;" := by decide +kernel
        have hcc : cell0.cls = c := by
          rw [e9] at b4
          rw [cc0]
          exact Option.some.inj (fc0.symm.trans b4)
        rw [hcc]
        exact ⟨k, comp, b2, b3, b1, b4⟩
      · show cell0.slots.size = lnf a; rw [el]; exact sz0
      · show lnf a ≤ _; rw [el]; omega
      · have hi : i < lnf a := hi
        rw [el] at hi; omega
    · obtain rfl : j = 8 := by omega
      cases hj
      have el : lnf a = 256 := by show (if a = b then L else if a = a then 256 else 0) = 256; rw [if_neg n2, if_pos rfl]
      refine ⟨cellC, hC, ⟨iaC, fun C h hne => by cases h; exact absurd rfl hne⟩, ⟨unC, isSt_of iaC, nole hC⟩, ?_, ?_, fun i hi => ?_⟩
      · show cellC.slots.size = lnf a; rw [el]; exact szC
      · show lnf a ≤ _; rw [el]; omega
      · have hi : i < lnf a := hi
        rw [el] at hi
        obtain ⟨q, c, k, ce, g1, -⟩ := hic i hi
        rw [g1]
        show some _ = some (if a = b then Value.int (xs i) else (cellC.slots[i]?).getD .null)
        rw [if_neg n2, g1]; rfl
    · omega
  · intro a ha
    refine ⟨hlt a ha, fun h => ?_⟩
    have h : kdf a = 11 := h
    rcases kall a with h' | ⟨-, h'⟩ | ⟨-, h'⟩ | ⟨-, h'⟩ | ⟨-, h'⟩ <;> omega
  · intro j x hj
    match j, hj with
    | 0, hj => cases hj; exact z0
    | 1, hj => cases hj; exact z1
    | 2, hj => cases hj; exact z2
    | 3, hj => cases hj; exact z3
    | 4, hj => cases hj; exact z4
    | n + 5, hj => cases hj
  · intro j C hj
    match j, hj with
    | 0, hj => cases hj; exact ⟨mi, rfl, hmi⟩
    | n + 1, hj => cases hj
  · show (if e0 = b then L else if e0 = ca then 256 else 0) = 0; rw [if_neg n1, if_neg (Ne.symm n3)]
  · show (if ca = b then L else if ca = ca then 256 else 0) = 256; rw [if_neg n2, if_pos rfl]
  · intro i hi
    obtain ⟨q, c, k, ce, g1, -, -, -, -, -, g7⟩ := hic i hi
    refine ⟨q, ?_, kI' q ⟨i, hi, g1⟩, ?_⟩
    · show (if ca = b then Value.int (xs i) else (cellC.slots[i]?).getD .null) = _
      rw [if_neg n2, g1]; rfl
    · show (s.fieldOf? q "java/lang/Integer" "value" "I").getD .null = _
      rw [g7]; rfl
