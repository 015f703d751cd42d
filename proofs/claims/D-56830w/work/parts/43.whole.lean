theorem stand_room {p : Program} {l : Launch} {e : Env} {R R' : Room} {s : State} {m : MethodId} {args : Array Value} {below : List Frame} {meth : Method} {c : Code} {T : State} {locs : List Loc} {cells slots : Nat} (X : Stand p l e R s m args below meth c T locs cells slots) (h1 : R'.frames = R.frames) (h2 : R'.locals = R.locals) (h3 : R'.cells ≤ R.cells) (h4 : R'.slots ≤ R.slots) : Stand p l e R' s m args below meth c T locs cells slots := by
  have hr := X.room
  have hr' : s.hasRoom e.platform R' = true := by
    simp only [State.hasRoom, h1, h2, Bool.and_eq_true, decide_eq_true_eq] at hr ⊢
    exact ⟨⟨⟨hr.1.1.1, by have := hr.1.1.2; omega⟩, by have := hr.1.2; omega⟩, hr.2⟩
  exact { admits := X.admits, cas := X.cas, clock := X.clock, frames := X.frames, room := hr', hears := X.hears, method := X.method, code := X.code, here := X.here, tail := X.tail, warmed := X.warmed, limits := X.limits, bytes := X.bytes, same := X.same }
theorem whole_of {p : Program} {e : Env} {s : State} {m : MethodId} {below : List Frame} {meth : Method} {c : Code} (l : Launch) (hflags : l.flags = flags0) {b L : Nat} {xs : Nat → Int32} (hL : L ≤ 97) (C0 : lw_At p s m meth c b L xs) (hcl : ∀ ci q, cls[ci]? = some q → ClOK ci q) (hins : ∀ (ci : Nat) (q : vw_C), cls[ci]? = some q → Cond.instantiable q.1 q.2.2 ∈ lw_all) {f : Nat → Ms Int32} (hE : ∀ {G : GT} (hG : GOK G) {X : XT} {σ0 : Sg} {tb : List ExceptionTableEntry} (a0 : Nat), Ex G X σ0 "QuorumAlmanacLaw" cL_law 10 (some .boolean) 16 3103 "law" tb rI 0 [(0, .ref a0)] [] (f a0))
    (hp : ∀ σ, Init σ b L xs → ∃ σ', f b σ = some (.inl 1, σ') ∧ nx σ' ≤ nx σ + 1200144 ∧ su σ' ≤ su σ + 5494968) :
    W p l e room_1 s m #[Value.ref b] below meth c s.heap [] 0 0 (lw_Z below #[Value.ref b] s) (entryFrame m ([Value.ref b] : List Value).toArray 10) := by
  obtain ⟨hexec, hcode, hret, hml, hown, hts, hX, hb, hlocks, hgv⟩ := C0
  have hst : l.stackTraces = false := by unfold Launch.stackTraces; rw [hflags]; decide
  obtain ⟨D, σ, hG, hW, hI⟩ := start_wd hL hts hX hb hgv hst hcl hins
  obtain ⟨σ', e1, hc, hs⟩ := hp σ hI
  have hall : ∀ w ∈ lw_all, w.before #[.ref b] s = true := fun w h => hts w (lw_all_tbl h)
  have hn : s.heap.size = nx σ := hW.1.1
  intro T hT X0
  have X1 := stand_room (R' := { frames := 8192, locals := 104096, cells := nx σ' - nx σ, slots := su σ' - su σ }) X0 rfl rfl (by show nx σ' - nx σ ≤ 1200144; omega) (by show su σ' - su σ ≤ 5494968; omega)
  have hE1 := hE hG (X := (p, e, { frames := 8192, locals := 104096, cells := nx σ' - nx σ, slots := su σ' - su σ }, s, m, #[.ref b], below, meth, c)) (σ0 := σ) (tb := c.exceptionTable.toList) b
  have hCx : CxOk (l, s, b, D) (p, e, { frames := 8192, locals := 104096, cells := nx σ' - nx σ, slots := su σ' - su σ }, s, m, #[.ref b], below, meth, c) "QuorumAlmanacLaw" cL_law 10 (some .boolean) 16 3103 "law" c.exceptionTable.toList :=
    ⟨hG, hexec, hcode, hml, hown, hall, hret, hlocks, State.WarmedH.refl s, by show 16 ≤ 8192; omega, by show 3103 ≤ 104096; omega, Nat.le_refl _, fun _ _ => rfl, fun h => absurd h (by decide), rfl⟩
  have hl := lv_entry [Value.ref b] (n := 10) (Nat.le_of_ble_eq_true rfl)
  rw [lg_entry_eq]
  generalize (lg_sl [Value.ref b] ++ List.replicate (10 - (lg_sl [Value.ref b]).length) Slot.unset).toArray = ls at hl ⊢
  have hk := hE1.2 hCx σ _ σ' e1 rfl rfl (Nat.le_refl _) (Nat.le_refl _) (Nat.le_of_eq hn) s.heap [] ls hW (fun z hz => nomatch hz) hl
  rw [Nat.sub_self, Nat.sub_self] at hk
  obtain ⟨t, a1, o, b1, b2, b3⟩ := hk T hT X1
  refine ⟨t, a1, o, b1, b2, ?_⟩
  rcases b3 with ⟨⟨v, hv, ho, -⟩, Ls, hfr, hfree⟩ | ⟨q, hq, hx⟩
  · cases hv
    exact ⟨ho, hfr.1, hfr.2.1, hfr.2.2.weaken (fun y hy hlt => absurd hlt (Nat.not_lt.mpr (hfree y hy))) (by show nx σ' - nx σ ≤ 1200144; omega) (by show su σ' - su σ ≤ 5494968; omega)⟩
  · obtain ⟨E, ce, LL, hx1, -⟩ := hx
    obtain ⟨k, hk, -⟩ := hx1
    cases hk
