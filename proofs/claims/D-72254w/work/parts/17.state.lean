/-! a State's elements: its four sensors, the events of its history; f is the model's row -/
def evw (a : Int32) : Int32 := if 0 ≤ a then a else -1
def SnAt (D : va_G) (M : Nat → Prop) (H : Heap) (gs : Nat → Option Nat) (f : Nat → Int32) : Prop := ∀ i, i < 4 → ∃ y, gs i = some y ∧ ¬ M y ∧ va_P D vwCl [(y, .inr (4, [.int (f (8 + i)), .int (f (12 + i))]))] H
def EvAt (D : va_G) (M : Nat → Prop) (H : Heap) (ge : Nat → Option Nat) (k : Nat) (f : Nat → Int32) : Prop := ∀ i, i < k → ∃ y a, ge i = some y ∧ ¬ M y ∧ f (23 + 2 * i) = evw a ∧ va_P D vwCl [(y, .inr (8, [.int a, .int (f (24 + 2 * i))]))] H
/-- the estimate's fields in a row -/
def eR (f : Nat → Int32) : Nat → Int32 := fun k => if k < 5 then f k else f (k + 11)
theorem ro_new {H0 H : Heap} {locs : List Loc} {D : va_G} {cl : List vw_C} {q : Nat × va_E} (hS : va_S (fun q => H0.size ≤ q) H0 H locs) (h : va_P D cl [q] H0) : va_P D cl [q] H := ro_at hS h (Nat.not_le.mpr (h 0 _ rfl).lt)
theorem p_kept {D : va_G} {cl : List vw_C} {q : Nat × va_E} {H H1 : Heap} (h : va_P D cl [q] H) (hk : H1[q.1]? = H[q.1]?) : va_P D cl [q] H1 := h.kept (fun k x hx => by
  have hz : k < 1 := (List.getElem?_eq_some_iff.mp hx).1
  rw [show k = 0 by omega] at hx
  cases hx
  exact hk)
theorem p_lt {D : va_G} {cl : List vw_C} {q : Nat × va_E} {H : Heap} (h : va_P D cl [q] H) : q.1 < H.size := (h 0 _ rfl).lt
theorem SnAt.kept {D : va_G} {M : Nat → Prop} {H H1 : Heap} {gs : Nat → Option Nat} {f : Nat → Int32} (h : SnAt D M H gs f) (hk : ∀ q, q < H.size → ¬ M q → H1[q]? = H[q]?) : SnAt D M H1 gs f := fun i hi => by
  obtain ⟨y, h1, h2, h3⟩ := h i hi
  exact ⟨y, h1, h2, p_kept h3 (hk y (p_lt h3) h2)⟩
theorem EvAt.kept {D : va_G} {M : Nat → Prop} {H H1 : Heap} {ge : Nat → Option Nat} {k : Nat} {f : Nat → Int32} (h : EvAt D M H ge k f) (hk : ∀ q, q < H.size → ¬ M q → H1[q]? = H[q]?) : EvAt D M H1 ge k f := fun i hi => by
  obtain ⟨y, a, h1, h2, h3, h4⟩ := h i hi
  exact ⟨y, a, h1, h2, h3, p_kept h4 (hk y (p_lt h4) h2)⟩
theorem SnAt.all {D : va_G} {M : Nat → Prop} {H H1 : Heap} {gs : Nat → Option Nat} {f : Nat → Int32} (h : SnAt D M H gs f) (hk : ∀ q, q < H.size → H1[q]? = H[q]?) : SnAt D M H1 gs f := h.kept (fun q h1 _ => hk q h1)
theorem EvAt.all {D : va_G} {M : Nat → Prop} {H H1 : Heap} {ge : Nat → Option Nat} {k : Nat} {f : Nat → Int32} (h : EvAt D M H ge k f) (hk : ∀ q, q < H.size → H1[q]? = H[q]?) : EvAt D M H1 ge k f := h.kept (fun q h1 _ => hk q h1)
theorem SnAt.to {D : va_G} {M : Nat → Prop} {H : Heap} {gs gs' : Nat → Option Nat} {f f' : Nat → Int32} (h : SnAt D M H gs f) (h1 : ∀ i, i < 4 → gs' i = gs i) (h2 : ∀ i, i < 4 → f' (8 + i) = f (8 + i) ∧ f' (12 + i) = f (12 + i)) : SnAt D M H gs' f' := fun i hi => by
  obtain ⟨y, a, b, c⟩ := h i hi
  exact ⟨y, (h1 i hi).trans a, b, by rw [(h2 i hi).1, (h2 i hi).2]; exact c⟩
theorem EvAt.to {D : va_G} {M : Nat → Prop} {H : Heap} {ge ge' : Nat → Option Nat} {k : Nat} {f f' : Nat → Int32} (h : EvAt D M H ge k f) (h1 : ∀ i, i < k → ge' i = ge i) (h2 : ∀ i, i < k → f' (23 + 2 * i) = f (23 + 2 * i) ∧ f' (24 + 2 * i) = f (24 + 2 * i)) : EvAt D M H ge' k f' := fun i hi => by
  obtain ⟨y, a, c1, c2, c3, c4⟩ := h i hi
  exact ⟨y, a, (h1 i hi).trans c1, c2, (h2 i hi).1.trans c3, by rw [(h2 i hi).2]; exact c4⟩
theorem cpy4 {o f : Nat → Option Nat} (j : Nat) : va_cpy o f 0 0 4 j = cpyF 4 o f j := cpyF_eq j
/-- some event is a reading -/
def hasR (f : Nat → Int32) (k : Nat) : Prop := ∃ i, i < k ∧ ¬ f (23 + 2 * i) = -1
theorem evw_iff {a : Int32} : 0 ≤ a ↔ ¬ evw a = -1 := by
  unfold evw
  by_cases h : 0 ≤ a
  · rw [if_pos h]
    refine ⟨fun _ e => ?_, fun _ => h⟩
    rw [e] at h
    exact absurd h (by decide)
  · rw [if_neg h]
    exact ⟨fun q => absurd q h, fun q => absurd rfl q⟩
