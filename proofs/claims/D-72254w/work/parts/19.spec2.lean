theorem stF_s (q w x0 tg : Int32) (n i : Nat) (u : Nat → Int32) : stF q w x0 tg (n + 1) i u = cif (rch x0 tg (u 0)) (nI i) (cif (pOK (e64 u) (0 : Int32).toInt64 q.toInt64 w.toInt64) (stF q w x0 tg n (i + 1) (pE u 0 q w)) (-2000000001)) := rfl
theorem syF_s (q w kd va : Int32) (n i : Nat) (u : Nat → Int32) : syF q w kd va (n + 1) i u = cif (pOK (e64 u) (0 : Int32).toInt64 q.toInt64 w.toInt64)
      (cif (cOK (e64 (pE u 0 q w)) kd va.toInt64 (msr kd (pE u 0 q w)).toInt64)
        (cif (cE (pE u 0 q w) kd va (msr kd (pE u 0 q w)) 2 = u 2 ∧ cE (pE u 0 q w) kd va (msr kd (pE u 0 q w)) 3 = u 3 ∧ cE (pE u 0 q w) kd va (msr kd (pE u 0 q w)) 4 = u 4) (some (i, cE (pE u 0 q w) kd va (msr kd (pE u 0 q w)))) (syF q w kd va n (i + 1) (cE (pE u 0 q w) kd va (msr kd (pE u 0 q w))))) none) none := rfl
theorem rpF_s (f : Nat → Int32) (nz : Int32) (i : Nat) : rpF f nz (i + 1) = (rpF f nz i).bind (rpS f nz i) := rfl
theorem bfF_s (f : Nat → Int32) (k i : Nat) : bfF f k (i + 1) = match rpE f (cnz i) k with
    | none => bfF f k i
    | some s => match bfF f k i with
      | none => some (cnz i, s)
      | some y => cif (s < y.2) (some (cnz i, s)) (some y) := rfl
theorem syR_some (wh : Int32) (y : Nat × (Nat → Int32)) : syR wh (some y) = cif (wh = -2000000001) (nI y.1) (cif (wh = 0) (y.2 6) (y.2 7)) := rfl
theorem pnil {D : va_G} {cl : List vw_C} {H : Heap} : va_P D cl [] H := fun k q h => by simp at h
theorem dnil {A : Nat → Prop} : va_D A [] := ⟨fun i j p q h => by simp at h, fun k q h => by simp at h⟩
theorem rp_read {f : Nat → Int32} {nz : Int32} {i j : Nat} {u : Nat → Int32} {sm : Int64} (h1 : ¬ f (23 + 2 * i) = -1) (hj : whoK f i = j) (h : cOK (e64 u) (f (8 + j)) (f (12 + j)).toInt64 (f (24 + 2 * i)).toInt64) (hr : rpF f nz i = some (u, sm)) : rpF f nz (i + 1) = some (cE u (f (8 + j)) (f (12 + j)) (f (24 + 2 * i)), sm + absL (cE u (f (8 + j)) (f (12 + j)) (f (24 + 2 * i)) 5).toInt64) := by
  rw [rpF_s, hr]
  show rpS f nz i (u, sm) = _
  unfold rpS rpU
  rw [cif_f h1, hj, cif_t h]
theorem rp_readX {f : Nat → Int32} {nz : Int32} {i j : Nat} {u : Nat → Int32} {sm : Int64} (h1 : ¬ f (23 + 2 * i) = -1) (hj : whoK f i = j) (h : ¬ cOK (e64 u) (f (8 + j)) (f (12 + j)).toInt64 (f (24 + 2 * i)).toInt64) (hr : rpF f nz i = some (u, sm)) : rpF f nz (i + 1) = none := by
  rw [rpF_s, hr]
  show rpS f nz i (u, sm) = _
  unfold rpS
  rw [cif_f h1, hj, cif_f h]
theorem rp_pred {f : Nat → Int32} {nz : Int32} {i : Nat} {u : Nat → Int32} {sm : Int64} (h1 : f (23 + 2 * i) = -1) (h : pOK (e64 u) (f (24 + 2 * i)).toInt64 (f 5).toInt64 nz.toInt64) (hr : rpF f nz i = some (u, sm)) : rpF f nz (i + 1) = some (pE u (f (24 + 2 * i)) (f 5) nz, sm) := by
  rw [rpF_s, hr]
  show rpS f nz i (u, sm) = _
  unfold rpS
  rw [cif_t h1, cif_t h]
theorem rp_predX {f : Nat → Int32} {nz : Int32} {i : Nat} {u : Nat → Int32} {sm : Int64} (h1 : f (23 + 2 * i) = -1) (h : ¬ pOK (e64 u) (f (24 + 2 * i)).toInt64 (f 5).toInt64 nz.toInt64) (hr : rpF f nz i = some (u, sm)) : rpF f nz (i + 1) = none := by
  rw [rpF_s, hr]
  show rpS f nz i (u, sm) = _
  unfold rpS
  rw [cif_t h1, cif_f h]
theorem rpE_x {f : Nat → Int32} {nz : Int32} {k i : Nat} (h : rpF f nz (i + 1) = none) (hi : i < k) : rpE f nz k = none := by
  unfold rpE
  rw [rpF_none h k hi]
  rfl
theorem rpE_y {f : Nat → Int32} {nz : Int32} {k : Nat} {u : Nat → Int32} {sm : Int64} (hr : rpF f nz k = some (u, sm)) (h : lim sm) : rpE f nz k = some sm := by
  unfold rpE
  rw [hr]
  exact cif_t h
theorem rpE_n {f : Nat → Int32} {nz : Int32} {k : Nat} {u : Nat → Int32} {sm : Int64} (hr : rpF f nz k = some (u, sm)) (h : ¬ lim sm) : rpE f nz k = none := by
  unfold rpE
  rw [hr]
  exact cif_f h
theorem rpE_lim {f : Nat → Int32} {nz : Int32} {k : Nat} {sm : Int64} (h : rpE f nz k = some sm) : lim sm := by
  unfold rpE at h
  cases hr : rpF f nz k with
  | none => rw [hr] at h; cases h
  | some x =>
    rw [hr] at h
    by_cases hl : lim x.2
    · rw [show (some x : Option ((Nat → Int32) × Int64)).bind (fun x => cif (lim x.2) (some x.2) none) = cif (lim x.2) (some x.2) none from rfl, cif_t hl] at h
      cases h
      exact hl
    · rw [show (some x : Option ((Nat → Int32) × Int64)).bind (fun x => cif (lim x.2) (some x.2) none) = cif (lim x.2) (some x.2) none from rfl, cif_f hl] at h
      cases h
theorem lim_ne {s : Int64} (h : lim s) : ¬ s.toInt32 = -2000000004 := by
  intro e
  have h1 := lim_int h
  have h2 := lim_iff.mp h
  rw [e] at h1
  have h3 : (-2000000004 : Int32).toInt = -2000000004 := by decide
  omega
theorem opI_ne {x : Option Int64} (h : ¬ opI x = -2000000004) : ∃ s, x = some s := by
  cases x with
  | none => exact absurd rfl h
  | some s => exact ⟨s, rfl⟩
def bfRel (x : Option (Int32 × Int64)) (b l : Int32) : Prop := match x with
  | none => b = -2000000001
  | some y => b = y.1 ∧ l = y.2.toInt32 ∧ lim y.2 ∧ ¬ y.1 = -2000000001
theorem cnz_shl : ∀ i, i < 12 → 1 ≤ i → (1 : Int32) <<< ((2 * (nI i - 1)) &&& 31) = cnz i := by decide +kernel
theorem cnz_b : ∀ i, i < 12 → 0 ≤ (cnz i).toInt ∧ (cnz i).toInt ≤ 4096000 := by decide +kernel
theorem cnz_ne : ∀ i, i < 12 → ¬ cnz i = -2000000001 := by decide +kernel
theorem bf_A {f : Nat → Int32} {k i : Nat} {b l er : Int32} (h : bfRel (bfF f k i) b l) (he : er = opI (rpE f (cnz i) k)) (h1 : er = -2000000004) : bfRel (bfF f k (i + 1)) b l := by
  rw [bfF_s]
  cases hx : rpE f (cnz i) k with
  | none => exact h
  | some s =>
    rw [hx] at he
    exact absurd (he.symm.trans h1) (lim_ne (rpE_lim hx))
theorem bf_B {f : Nat → Int32} {k i : Nat} {b l er : Int32} (hi : i < 12) (h : bfRel (bfF f k i) b l) (he : er = opI (rpE f (cnz i) k)) (h1 : ¬ er = -2000000004) (h2 : b = -2000000001) : bfRel (bfF f k (i + 1)) (cnz i) er := by
  rw [bfF_s]
  obtain ⟨s, hs⟩ := opI_ne (by rw [← he]; exact h1)
  rw [hs] at he ⊢
  cases hb : bfF f k i with
  | none => exact ⟨rfl, he, rpE_lim hs, cnz_ne i hi⟩
  | some y =>
    rw [hb] at h
    exact absurd (h.1.symm.trans h2) h.2.2.2
theorem lim_lt {s t : Int64} (h1 : lim s) (h2 : lim t) : s.toInt32 < t.toInt32 ↔ s < t := by
  rw [v_lt, w_lt, lim_int h1, lim_int h2]
theorem bf_C {f : Nat → Int32} {k i : Nat} {b l er : Int32} (hi : i < 12) (h : bfRel (bfF f k i) b l) (he : er = opI (rpE f (cnz i) k)) (h1 : ¬ er = -2000000004) (h2 : ¬ b = -2000000001) (h3 : er < l) : bfRel (bfF f k (i + 1)) (cnz i) er := by
  rw [bfF_s]
  obtain ⟨s, hs⟩ := opI_ne (by rw [← he]; exact h1)
  rw [hs] at he ⊢
  cases hb : bfF f k i with
  | none => rw [hb] at h; exact absurd h h2
  | some y =>
    rw [hb] at h
    have h4 : s < y.2 := (lim_lt (rpE_lim hs) h.2.2.1).mp (by rw [← h.2.1, ← show er = s.toInt32 from he]; exact h3)
    show bfRel (cif (s < y.2) (some (cnz i, s)) (some y)) (cnz i) er
    rw [cif_t h4]
    exact ⟨rfl, he, rpE_lim hs, cnz_ne i hi⟩
theorem bf_D {f : Nat → Int32} {k i : Nat} {b l er : Int32} (h : bfRel (bfF f k i) b l) (he : er = opI (rpE f (cnz i) k)) (h1 : ¬ er = -2000000004) (h2 : ¬ b = -2000000001) (h3 : ¬ er < l) : bfRel (bfF f k (i + 1)) b l := by
  rw [bfF_s]
  obtain ⟨s, hs⟩ := opI_ne (by rw [← he]; exact h1)
  rw [hs] at he ⊢
  cases hb : bfF f k i with
  | none => rw [hb] at h; exact absurd h h2
  | some y =>
    rw [hb] at h
    have h4 : ¬ s < y.2 := fun q => h3 (by rw [he, h.2.1]; exact (lim_lt (rpE_lim hs) h.2.2.1).mpr q)
    show bfRel (cif (s < y.2) (some (cnz i, s)) (some y)) b l
    rw [cif_f h4]
    exact h
theorem bf_end {f : Nat → Int32} {k : Nat} {b l : Int32} (h : bfRel (bfF f k 12) b l) : b = bfR f k := by
  unfold bfR
  cases hb : bfF f k 12 with
  | none => rw [hb] at h; exact h
  | some y => rw [hb] at h; exact h.1
theorem whoK_of {f : Nat → Int32} {i j : Nat} (h : f (23 + 2 * i) = nI j) (hj : j < 4) : whoK f i = j := by
  unfold whoK
  rw [h]
  exact nI_clamp (by omega)
theorem nI_ne_m1 {j : Nat} (hj : j < 4) : ¬ nI j = -1 := by
  intro e
  have := congrArg Int32.toInt e
  rw [nI_toInt (by omega)] at this
  have h3 : (-1 : Int32).toInt = -1 := by decide
  omega
/-- an event of a row: a prediction, or a reading by one of the four -/
theorem row_ev {f : Nat → Int32} {k i : Nat} {a : Int32} (h : RowOK f) (hk : k ≤ 24) (hkf : f 22 = nI k) (hi : i < k) (ha : f (23 + 2 * i) = evw a) : (¬ 0 ≤ a ∧ f (23 + 2 * i) = -1) ∨ (∃ j, j < 4 ∧ a = nI j ∧ f (23 + 2 * i) = nI j) := by
  obtain ⟨_, _, _, _, _, k', h1, h2, h3⟩ := h
  have hkk : k' = k := (nI_eq (by omega) (by omega)).mp (h2.symm.trans hkf)
  subst hkk
  by_cases h0 : 0 ≤ a
  · rw [evw_pos h0] at ha
    rcases (h3 i hi).1 with h4 | ⟨j, h4, h5⟩
    · rw [ha] at h4
      rw [h4] at h0
      exact absurd h0 (by decide)
    · exact Or.inr ⟨j, h4, ha.symm.trans h5, h5⟩
  · exact Or.inl ⟨h0, ha.trans (evw_neg h0)⟩
