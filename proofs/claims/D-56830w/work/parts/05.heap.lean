-- the tables of classes
theorem cls_ci {ci : Nat} {q : vw_C} (h : cls[ci]? = some q) : ci < 26 := (List.getElem?_eq_some_iff.mp h).1
theorem cls_T {ci : Nat} {q : vw_C} (h : cls[ci]? = some q) : (∀ k, q.2.1 k = fN (fS ci k)) ∧ q.2.2 = (slL.getD ci []).length ∧ (slL.getD ci []).Nodup := by
  match ci, h with
  | 0, h => cases h; exact ⟨fun _ => rfl, rfl, by decide⟩
  | 1, h => cases h; exact ⟨fun _ => rfl, rfl, by decide⟩
  | 2, h => cases h; exact ⟨fun _ => rfl, rfl, by decide⟩
  | 3, h => cases h; exact ⟨fun _ => rfl, rfl, by decide⟩
  | 4, h => cases h; exact ⟨fun _ => rfl, rfl, by decide⟩
  | 5, h => cases h; exact ⟨fun _ => rfl, rfl, by decide⟩
  | 6, h => cases h; exact ⟨fun _ => rfl, rfl, by decide⟩
  | 7, h => cases h; exact ⟨fun _ => rfl, rfl, by decide⟩
  | 8, h => cases h; exact ⟨fun _ => rfl, rfl, by decide⟩
  | 9, h => cases h; exact ⟨fun _ => rfl, rfl, by decide⟩
  | 10, h => cases h; exact ⟨fun _ => rfl, rfl, by decide⟩
  | 11, h => cases h; exact ⟨fun _ => rfl, rfl, by decide⟩
  | 12, h => cases h; exact ⟨fun _ => rfl, rfl, by decide⟩
  | 13, h => cases h; exact ⟨fun _ => rfl, rfl, by decide⟩
  | 14, h => cases h; exact ⟨fun _ => rfl, rfl, by decide⟩
  | 15, h => cases h; exact ⟨fun _ => rfl, rfl, by decide⟩
  | 16, h => cases h; exact ⟨fun _ => rfl, rfl, by decide⟩
  | 17, h => cases h; exact ⟨fun _ => rfl, rfl, by decide⟩
  | 18, h => cases h; exact ⟨fun _ => rfl, rfl, by decide⟩
  | 19, h => cases h; exact ⟨fun _ => rfl, rfl, by decide⟩
  | 20, h => cases h; exact ⟨fun _ => rfl, rfl, by decide⟩
  | 21, h => cases h; exact ⟨fun _ => rfl, rfl, by decide⟩
  | 22, h => cases h; exact ⟨fun _ => rfl, rfl, by decide⟩
  | 23, h => cases h; exact ⟨fun _ => rfl, rfl, by decide⟩
  | 24, h => cases h; exact ⟨fun _ => rfl, rfl, by decide⟩
  | 25, h => cases h; exact ⟨fun _ => rfl, rfl, by decide⟩
  | n + 26, h => exact absurd (List.getElem?_eq_some_iff.mp h).1 (by show ¬ n + 26 < 26; omega)
theorem fS_lt {ci k : Nat} (h : k < (slL.getD ci []).length) : fS ci k = (slL.getD ci [])[k] := by
  unfold fS
  rw [List.getD_eq_getElem?_getD, List.getElem?_eq_getElem h, Option.getD_some]
theorem fS_inj {ci : Nat} {q : vw_C} (h : cls[ci]? = some q) {x y : Nat} (hx : x < q.2.2) (hy : y < q.2.2) (e : fS ci x = fS ci y) : x = y := by
  obtain ⟨-, h2, h3⟩ := cls_T h
  rw [h2] at hx hy
  rw [fS_lt hx, fS_lt hy] at e
  exact (List.getElem_inj h3).mp e
def okF (ks : List Nat) (f : Nat) : Bool := ks.all (fun kk => decide (0 < kk) && decide (kk ≤ 26) && (slL.getD (kk - 1) []).contains f)
theorem cls_some {ci : Nat} (h : ci < 26) : ∃ q, cls[ci]? = some q := ⟨cls[ci]'h, List.getElem?_eq_getElem h⟩
theorem okF_spec {ks : List Nat} {f n : Nat} (h : okF ks f = true) (hn : isK ks n = true) : ∃ ci q k, n = ci + 1 ∧ cls[ci]? = some q ∧ k < q.2.2 ∧ fS ci k = f := by
  have h1 := List.all_eq_true.mp h n (List.contains_iff_mem.mp hn)
  simp only [Bool.and_eq_true, decide_eq_true_eq] at h1
  obtain ⟨⟨h2, h3⟩, h4⟩ := h1
  obtain ⟨q, hq⟩ := cls_some (ci := n - 1) (by omega)
  obtain ⟨i, hi, he⟩ := List.getElem_of_mem (List.contains_iff_mem.mp h4)
  refine ⟨n - 1, q, i, by omega, hq, ?_, ?_⟩
  · rw [(cls_T hq).2.1]; exact hi
  · rw [fS_lt hi]; exact he
theorem fty_dfl : ∀ f, f < 157 → defaultValue (fty f) = dfl f := by decide +kernel
-- accessors of the context
theorem gok_word {G : GT} (hG : GOK G) {w : Cond} (h : w ∈ lw_tbl) : w.before #[.ref G.2.2.1] G.2.1 = true := hG.1 w h
section
variable {G : GT} {X : XT} {own : String} {cc : ByteArray} {nL : Nat} {rT : Option FieldType} {FR LO : Nat} {mn : String} {tb : List ExceptionTableEntry}
theorem cx_word (hX : CxOk G X own cc nL rT FR LO mn tb) {w : Cond} (h : w ∈ lw_all) : w.before X.2.2.2.2.2.1 X.2.2.2.1 = true := hX.2.2.2.2.2.1 w h
theorem cx_alike (hX : CxOk G X own cc nL rT FR LO mn tb) : G.2.1.vm.Alike X.2.2.2.1.vm := hX.2.2.2.2.2.2.2.2.1.alike
theorem cx_K (hX : CxOk G X own cc nL rT FR LO mn tb) : va_K G.2.2.2 cls [] X.2.2.2.1 := va_K.moved (cx_alike hX) hX.1.2.1
theorem cx_cl (hX : CxOk G X own cc nL rT FR LO mn tb) {ci : Nat} {q : vw_C} (hc : cls[ci]? = some q) : ClOK ci q := hX.1.2.2.2.1 ci q hc
theorem cx_Nw (hX : CxOk G X own cc nL rT FR LO mn tb) {w : Cond} (hw : w.onTables = true) (h : w ∈ lw_tbl) : va_Nw w G.2.1 := va_Nw.of hw (gok_word hX.1 h)
theorem cx_apart (hX : CxOk G X own cc nL rT FR LO mn tb) {ci : Nat} {q : vw_C} (hc : cls[ci]? = some q) : ∀ x y, x < q.2.2 → y < q.2.2 → x ≠ y → (G.2.2.2.2 ci) x ≠ (G.2.2.2.2 ci) y :=
  va_apart (own := own) (T := q.2.1) (N := q.2.2) (C := q.1) (Ts := lw_all) (args := X.2.2.2.2.2.1) (fun w h => cx_word hX h) (cx_cl hX hc).1 (fun k => fty (fS ci k)) (cx_cl hX hc).2.2 (cx_cl hX hc).2.1 (cx_K hX) hc
end
-- the heap's picture behind a store
theorem wd_setF {G : GT} {σ : Sg} {H H' : Heap} {a ci k f : Nat} {q : vw_C} {v : Value} {cell : Cell} (hW : Wd G σ H) (hk : kd σ a = ci + 1) (hc : cls[ci]? = some q) (hkN : k < q.2.2) (hf : fS ci k = f) (hb : gb G ≤ a)
    (hcell : H[a]? = some cell) (h1 : H'[a]? = some (cell.setSlot ((G.2.2.2.2 ci) k) v)) (hs : H'.size = H.size) (ho : ∀ q, q ≠ a → H'[q]? = H[q]?)
    (hap : ∀ x y, x < q.2.2 → y < q.2.2 → x ≠ y → (G.2.2.2.2 ci) x ≠ (G.2.2.2.2 ci) y) : Wd G (setF σ f a v) H' := by
  have hci := cls_ci hc
  refine ⟨⟨by rw [hs]; exact hW.1.1, hW.1.2⟩, fun b hb' => (ho b (by omega)).trans (hW.2.1 b hb'), ?_, ?_, ?_, hW.2.2.2.2.2⟩
  · intro b cj q' hkb hcj
    have hkb : kd σ b = cj + 1 := hkb
    by_cases hba : b = a
    · subst hba
      obtain rfl : ci = cj := by omega
      obtain rfl : q = q' := Option.some.inj (hc.symm.trans hcj)
      obtain ⟨cell0, e1, e2, e3, e4⟩ := hW.2.2.1 b ci q hk hc
      obtain rfl : cell0 = cell := Option.some.inj (e1.symm.trans hcell)
      refine ⟨_, h1, e2, e3, fun x hx => ?_⟩
      rw [t_set e4 hap hkN v x hx]
      congr 1
      show (if x = k then v else fd σ (fS ci x) b) = (if fS ci x = f ∧ b = b then v else σ.2.1 (fS ci x) b)
      by_cases hxk : x = k
      · subst hxk
        rw [if_pos rfl, if_pos ⟨hf, rfl⟩]
      · rw [if_neg hxk, if_neg (fun h => hxk (fS_inj hc hx hkN (h.1.trans hf.symm)))]
        rfl
    · refine t_OC.to ((hW.2.2.1 b cj q' hkb hcj).kept (ho b hba)) (fun x _ => ?_)
      show fd σ (fS cj x) b = (if fS cj x = f ∧ b = a then v else σ.2.1 (fS cj x) b)
      rw [if_neg (fun h => hba h.2)]
      rfl
  · intro b j ty hkb hj
    have hkb : kd σ b = 30 + j := hkb
    have hba : b ≠ a := fun h => by subst h; omega
    obtain ⟨c0, e1, e2⟩ := hW.2.2.2.1 b j ty hkb hj
    exact ⟨c0, (ho b hba).trans e1, e2⟩
  · intro b hb'
    refine ⟨by rw [hs]; exact (hW.2.2.2.2.1 b hb').1, fun h11 ce hce => ?_⟩
    by_cases hba : b = a
    · subst hba
      rw [h1] at hce
      cases hce
      exact (hW.2.2.2.2.1 b hb').2 h11 cell hcell
    · rw [ho b hba] at hce
      exact (hW.2.2.2.2.1 b hb').2 h11 ce hce
theorem wd_setA {G : GT} {σ : Sg} {H H' : Heap} {a j i : Nat} {ty : FieldType} {v : Value} {cell : Cell} (hW : Wd G σ H) (hk : kd σ a = 30 + j) (hj : arrT[j]? = some ty) (hb : gb G ≤ a)
    (hcell : H[a]? = some cell) (h1 : H'[a]? = some (cell.setSlot i v)) (hs : H'.size = H.size) (ho : ∀ q, q ≠ a → H'[q]? = H[q]?) : Wd G (setA σ a i v) H' := by
  refine ⟨⟨by rw [hs]; exact hW.1.1, hW.1.2⟩, fun b hb' => (ho b (by omega)).trans (hW.2.1 b hb'), ?_, ?_, ?_, hW.2.2.2.2.2⟩
  · intro b cj q' hkb hcj
    have hkb : kd σ b = cj + 1 := hkb
    have hci := cls_ci hcj
    have hba : b ≠ a := fun h => by subst h; omega
    exact (hW.2.2.1 b cj q' hkb hcj).kept (ho b hba)
  · intro b j' ty' hkb hj'
    have hkb : kd σ b = 30 + j' := hkb
    obtain ⟨c0, e1, e2, e3, e4, e5, e6⟩ := hW.2.2.2.1 b j' ty' hkb hj'
    by_cases hba : b = a
    · subst hba
      obtain rfl : c0 = cell := Option.some.inj (e1.symm.trans hcell)
      refine ⟨_, h1, ⟨e2.1, e2.2⟩, e3, ?_, e5, fun x hx => ?_⟩
      · show (c0.slots.setIfInBounds i v).size = _
        rw [Array.size_setIfInBounds]; exact e4
      · have hx : x < ln σ b := hx
        show (c0.slots.setIfInBounds i v)[x]? = some (if b = b ∧ x = i then v else ar σ b x)
        by_cases hxi : x = i
        · subst hxi
          rw [if_pos ⟨rfl, rfl⟩, Array.getElem?_setIfInBounds_self_of_lt (by rw [e4]; exact hx)]
        · rw [if_neg (fun h => hxi h.2), Array.getElem?_setIfInBounds_ne (Ne.symm hxi)]
          exact e6 x hx
    · refine ⟨c0, (ho b hba).trans e1, e2, e3, e4, e5, fun x hx => ?_⟩
      show c0.slots[x]? = some (if b = a ∧ x = i then v else ar σ b x)
      rw [if_neg (fun h => hba h.1)]
      exact e6 x hx
  · intro b hb'
    refine ⟨by rw [hs]; exact (hW.2.2.2.2.1 b hb').1, fun h11 ce hce => ?_⟩
    have h11 : kd σ b = 11 := h11
    have hba : b ≠ a := fun h => by subst h; omega
    rw [ho b hba] at hce
    exact (hW.2.2.2.2.1 b hb').2 h11 ce hce
theorem wd_lt {G : GT} {σ : Sg} {H : Heap} (hW : Wd G σ H) {a : Nat} (h : kd σ a ≠ 0) : a < nx σ := by
  rw [← hW.1.1]; exact (hW.2.2.2.2.1 a h).1
theorem wd_newO {G : GT} {σ : Sg} {H H' : Heap} {ci n : Nat} {q : vw_C} {d : Nat → Value} (hW : Wd G σ H) (hc : cls[ci]? = some q) (h1 : t_OB (nx σ) (G.2.2.2.1 ci) q.2.2 (G.2.2.2.2 ci) H' (fun k => d (fS ci k))) (hs : H'.size = nx σ + 1) (ho : ∀ q, q < nx σ → H'[q]? = H[q]?) (hm : Mon H' (nx σ)) : Wd G (newO σ (ci + 1) n d) H' := by
  have hci := cls_ci hc
  refine ⟨⟨hs, hW.1.2.1, Nat.le_succ_of_le hW.1.2.2⟩, fun b hb' => (ho b (Nat.lt_of_lt_of_le hb' hW.1.2.2)).trans (hW.2.1 b hb'), ?_, ?_, ?_, hW.2.2.2.2.2⟩
  · intro b cj q' hkb hcj
    have hkb : (if b = nx σ then ci + 1 else kd σ b) = cj + 1 := hkb
    by_cases hba : b = nx σ
    · rw [if_pos hba] at hkb
      obtain rfl : ci = cj := by omega
      obtain rfl : q = q' := Option.some.inj (hc.symm.trans hcj)
      rw [hba]
      refine (t_OC.of h1).to fun x _ => ?_
      show d (fS ci x) = (if nx σ = nx σ then d (fS ci x) else _)
      rw [if_pos rfl]
    · rw [if_neg hba] at hkb
      have hl : b < nx σ := wd_lt hW (by rw [hkb]; omega)
      refine ((hW.2.2.1 b cj q' hkb hcj).kept (ho b hl)).to fun x _ => ?_
      show fd σ (fS cj x) b = (if b = nx σ then d (fS cj x) else σ.2.1 (fS cj x) b)
      rw [if_neg hba]
      rfl
  · intro b j ty hkb hj
    have hkb : (if b = nx σ then ci + 1 else kd σ b) = 30 + j := hkb
    by_cases hba : b = nx σ
    · rw [if_pos hba] at hkb; omega
    · rw [if_neg hba] at hkb
      have hl : b < nx σ := wd_lt hW (by rw [hkb]; omega)
      obtain ⟨c0, e1, e2⟩ := hW.2.2.2.1 b j ty hkb hj
      exact ⟨c0, (ho b hl).trans e1, e2⟩
  · intro b hb'
    have hb' : (if b = nx σ then ci + 1 else kd σ b) ≠ 0 := hb'
    rw [hs]
    by_cases hba : b = nx σ
    · exact ⟨by omega, fun _ => by rw [hba]; exact hm⟩
    · rw [if_neg hba] at hb'
      have hl : b < nx σ := wd_lt hW hb'
      refine ⟨by omega, fun h11 ce hce => ?_⟩
      have h11 : (if b = nx σ then ci + 1 else kd σ b) = 11 := h11
      rw [if_neg hba] at h11
      rw [ho b hl] at hce
      exact (hW.2.2.2.2.1 b hb').2 h11 ce hce
theorem wd_newA {G : GT} {σ : Sg} {H H' : Heap} {j n : Nat} {ty : FieldType} {v : Value} {cell : Cell} (hW : Wd G σ H) (hj : arrT[j]? = some ty) (h1 : H'[nx σ]? = some cell) (h2 : arrP G.2.1 cell ty) (h3 : cell.vm = .none) (h4 : cell.slots.size = n) (h5 : n ≤ 1000000) (h6 : ∀ i, i < n → cell.slots[i]? = some v)
    (hs : H'.size = nx σ + 1) (ho : ∀ q, q < nx σ → H'[q]? = H[q]?) : Wd G (newA σ (30 + j) n v) H' := by
  refine ⟨⟨hs, hW.1.2.1, Nat.le_succ_of_le hW.1.2.2⟩, fun b hb' => (ho b (Nat.lt_of_lt_of_le hb' hW.1.2.2)).trans (hW.2.1 b hb'), ?_, ?_, ?_, hW.2.2.2.2.2⟩
  · intro b cj q' hkb hcj
    have hci := cls_ci hcj
    have hkb : (if b = nx σ then 30 + j else kd σ b) = cj + 1 := hkb
    by_cases hba : b = nx σ
    · rw [if_pos hba] at hkb; omega
    · rw [if_neg hba] at hkb
      have hl : b < nx σ := wd_lt hW (by rw [hkb]; omega)
      exact (hW.2.2.1 b cj q' hkb hcj).kept (ho b hl)
  · intro b j' ty' hkb hj'
    have hkb : (if b = nx σ then 30 + j else kd σ b) = 30 + j' := hkb
    by_cases hba : b = nx σ
    · rw [if_pos hba] at hkb
      obtain rfl : j = j' := by omega
      obtain rfl : ty = ty' := Option.some.inj (hj.symm.trans hj')
      rw [hba]
      have el : ln (newA σ (30 + j) n v) (nx σ) = n := if_pos rfl
      refine ⟨cell, h1, h2, vmK.of h3, by rw [el]; exact h4, by rw [el]; exact h5, fun x hx => ?_⟩
      rw [el] at hx
      rw [h6 x hx]
      show some v = some (if nx σ = nx σ then v else _)
      rw [if_pos rfl]
    · rw [if_neg hba] at hkb
      have hl : b < nx σ := wd_lt hW (by rw [hkb]; omega)
      obtain ⟨c0, e1, e2, e3, e4, e5, e6⟩ := hW.2.2.2.1 b j' ty' hkb hj'
      have el : ln (newA σ (30 + j) n v) b = ln σ b := if_neg hba
      refine ⟨c0, (ho b hl).trans e1, e2, e3, by rw [el]; exact e4, by rw [el]; exact e5, fun x hx => ?_⟩
      rw [el] at hx
      rw [e6 x hx]
      show some (ar σ b x) = some (if b = nx σ then v else ar σ b x)
      rw [if_neg hba]
  · intro b hb'
    have hb' : (if b = nx σ then 30 + j else kd σ b) ≠ 0 := hb'
    rw [hs]
    by_cases hba : b = nx σ
    · refine ⟨by omega, fun h11 => ?_⟩
      have h11 : (if b = nx σ then 30 + j else kd σ b) = 11 := h11
      rw [if_pos hba] at h11
      omega
    · rw [if_neg hba] at hb'
      have hl : b < nx σ := wd_lt hW hb'
      refine ⟨by omega, fun h11 ce hce => ?_⟩
      have h11 : (if b = nx σ then 30 + j else kd σ b) = 11 := h11
      rw [if_neg hba] at h11
      rw [ho b hl] at hce
      exact (hW.2.2.2.2.1 b hb').2 h11 ce hce
theorem wd_bmp {G : GT} {σ : Sg} {H H' : Heap} {c n : Nat} (hW : Wd G σ H) (hs : H'.size = nx σ + c) (ho : ∀ q, q < nx σ → H'[q]? = H[q]?) : Wd G (bmp σ c n) H' := by
  have key : ∀ b z, z ≠ 0 → (if nx σ ≤ b ∧ b < nx σ + c then 0 else kd σ b) = z → kd σ b = z ∧ b < nx σ := by
    intro b z hz h
    by_cases hb : nx σ ≤ b ∧ b < nx σ + c
    · rw [if_pos hb] at h; exact absurd h.symm hz
    · rw [if_neg hb] at h
      exact ⟨h, wd_lt hW (by rw [h]; exact hz)⟩
  refine ⟨⟨hs, hW.1.2.1, Nat.le_trans hW.1.2.2 (Nat.le_add_right _ _)⟩, fun b hb' => (ho b (Nat.lt_of_lt_of_le hb' hW.1.2.2)).trans (hW.2.1 b hb'), ?_, ?_, ?_, hW.2.2.2.2.2⟩
  · intro b cj q' hkb hcj
    obtain ⟨h1, h2⟩ := key b _ (by omega) hkb
    exact (hW.2.2.1 b cj q' h1 hcj).kept (ho b h2)
  · intro b j ty hkb hj
    obtain ⟨h1, h2⟩ := key b _ (by omega) hkb
    obtain ⟨c0, e1, e2⟩ := hW.2.2.2.1 b j ty h1 hj
    exact ⟨c0, (ho b h2).trans e1, e2⟩
  · intro b hb'
    obtain ⟨h1, h2⟩ := key b _ hb' rfl
    refine ⟨by rw [hs]; omega, fun h11 ce hce => ?_⟩
    obtain ⟨h3, -⟩ := key b 11 (by omega) h11
    rw [ho b h2] at hce
    exact (hW.2.2.2.2.1 b (by omega)).2 h3 ce hce
