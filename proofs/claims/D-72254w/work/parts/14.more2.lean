theorem ninL {A : Nat → Prop} {x : Nat} {L : List Nat} (hn : ¬ A x) (h : ∀ q ∈ L, A q) : x ∉ L := fun e => hn (h x e)
theorem ninW {A : Nat → Prop} {ws : va_W} {Lc : List Nat} (hD : va_D A ws) (i : Nat) (isC : List Nat) {p : Nat × va_E} (hi : ws[i]? = some p) (hC : isC.map (fun j => (ws[j]?).map (·.1)) = Lc.map some) (hn : i ∉ isC) : p.1 ∉ Lc := by
  intro h
  obtain ⟨k2, hk2⟩ := List.getElem?_of_mem h
  have h3 : (isC.map (fun i => (ws[i]?).map (·.1)))[k2]? = some (some p.1) := by rw [hC, List.getElem?_map, hk2]; rfl
  rw [List.getElem?_map] at h3
  cases hj : isC[k2]? with
  | none => rw [hj] at h3; cases h3
  | some j =>
    rw [hj] at h3
    have h4 : (ws[j]?).map (·.1) = some p.1 := Option.some.inj h3
    cases hw : ws[j]? with
    | none => rw [hw] at h4; cases h4
    | some x =>
      rw [hw] at h4
      have h5 : x.1 = p.1 := Option.some.inj h4
      have hij := hD.1 i j p x hi hw h5.symm
      subst hij
      exact hn (List.mem_of_getElem? hj)
theorem zz_val {za : Nat} {s : State} {H : Heap} {C n d : String} {A : Nat → Prop} (h : va_Zq C n d (fun q => q ≠ za) s H) (hn : ¬ A za) (ty : FieldType) (h1 : narrow ty .null = .null ∧ fits ty .null = true) (h2 : ∀ t, narrow ty (.ref t) = .ref t ∧ fits ty (.ref t) = true) : ∃ v : Value, va_Z C n d v A s H ∧ v.category = 1 ∧ narrow ty v = v ∧ fits ty v = true := by
  have hA : ∀ q, A q → q ≠ za := fun q h e => hn (e ▸ h)
  rcases h with h | ⟨t, h⟩
  · exact ⟨.null, h.narrow hA, rfl, h1.1, h1.2⟩
  · exact ⟨.ref t, h.narrow hA, rfl, (h2 t).1, (h2 t).2⟩
/-- an exception's cell, thrown -/
theorem xcell {D : va_G} {g : Nat → ClassId} {s : State} {H : Heap} {ws : va_W} (hK : KK D g s) (hP : va_P D vwCl ws H) (q0 : Nat) {a ci : Nat} {q : vw_C} {fs : List Value} (he : ws[q0]? = some (a, .inr (ci, fs))) (hc : vwCl[ci]? = some q) : ∃ cell : Cell, H[a]? = some cell ∧ cell.vm = .none ∧ s.vm.findClass q.1 = some cell.cls := by
  obtain ⟨q', h1, cell, g1, g2, g3, -⟩ := hP q0 _ he
  exact ⟨cell, g1, g3, by rw [g2]; exact (hK.1.1 ci q hc).2.1⟩
theorem nodupW {A : Nat → Prop} {ws : va_W} {Lc : List Nat} (hD : va_D A ws) (isC : List Nat) (hC : isC.map (fun j => (ws[j]?).map (·.1)) = Lc.map some) (hn : va_nd isC = true) : Lc.Nodup := by
  refine List.pairwise_iff_getElem.mpr fun i j hi hj hij h => ?_
  have at' : ∀ (k a : Nat), Lc[k]? = some a → ∃ (n : Nat) (x : Nat × va_E), isC[k]? = some n ∧ ws[n]? = some x ∧ x.1 = a := by
    intro k a hk
    have h3 : (isC.map (fun i => (ws[i]?).map (·.1)))[k]? = some (some a) := by rw [hC, List.getElem?_map, hk]; rfl
    rw [List.getElem?_map] at h3
    cases hj : isC[k]? with
    | none => rw [hj] at h3; cases h3
    | some n =>
      rw [hj] at h3
      have h4 : (ws[n]?).map (·.1) = some a := Option.some.inj h3
      cases hw : ws[n]? with
      | none => rw [hw] at h4; cases h4
      | some x =>
        rw [hw] at h4
        exact ⟨n, x, rfl, hw, Option.some.inj h4⟩
  have e1 : Lc[i]? = some Lc[i] := List.getElem?_eq_getElem hi
  have e2 : Lc[j]? = some Lc[i] := by rw [h]; exact List.getElem?_eq_getElem hj
  obtain ⟨n1, x1, a1, b1, d1⟩ := at' i _ e1
  obtain ⟨n2, x2, a2, b2, d2⟩ := at' j _ e2
  have := hD.1 n1 n2 x1 x2 b1 b2 (d1.trans d2.symm)
  subst this
  exact absurd (va_nd_inj isC hn i j n1 a1 a2) (Nat.ne_of_lt hij)
