def inR (lo hi a : Int32) : Prop := lo ≤ a ∧ a ≤ hi
theorem le64 {a b : Int32} : a.toInt64 ≤ b.toInt64 ↔ a ≤ b := by rw [w_le, v_le, i64_int, i64_int]
theorem in64 {a : Int32} {lo hi : Int32} {lo' hi' : Int64} (h1 : lo' = lo.toInt64) (h2 : hi' = hi.toInt64) : (lo' ≤ a.toInt64 ∧ a.toInt64 ≤ hi') ↔ inR lo hi a := by
  rw [h1, h2, le64, le64]
  exact Iff.rfl
theorem inR_nat {a : Int32} {n : Nat} (hn : n < 2147483648) (h : inR 0 (nI n) a) : ∃ j, j ≤ n ∧ a = nI j := by
  obtain ⟨j, h1, h2⟩ := nI_of (x := a) (Int32.not_lt.mpr h.1)
  refine ⟨j, ?_, h2⟩
  have := h.2
  rw [h2] at this
  exact (nI_leI (by omega) (by omega)).mp this
theorem StAt.obj2 {D : va_G} {g : Nat → ClassId} {M : Nat → Prop} {H : Heap} {q : Nat} {f : Nat → Int32} (h : StAt D g M H q f) : ∃ fs, ¬ M q ∧ va_P D vwCl [(q, .inr (1, fs))] H := by
  obtain ⟨qe, qs, qh, qa, k, gs, ge, h1, h2, ⟨a1, _⟩, _⟩ := h
  exact ⟨_, h2.1, a1⟩
theorem i4 {P : Nat → Prop} (h0 : P 0) (h1 : P 1) (h2 : P 2) (h3 : P 3) : ∀ i, i < 4 → P i := fun i hi => by
  rcases (show i = 0 ∨ i = 1 ∨ i = 2 ∨ i = 3 by omega) with rfl | rfl | rfl | rfl
  · exact h0
  · exact h1
  · exact h2
  · exact h3
theorem u2n {f : Nat → Int32} {a b j : Nat} {x y : Int32} (h1 : j ≠ a) (h2 : j ≠ b) : upd (upd f a x) b y j = f j := (pk_un h2).trans (pk_un h1)
/-- one sensor anew -/
theorem SnAt.put {D : va_G} {M : Nat → Prop} {H : Heap} {gs : Nat → Option Nat} {f : Nat → Int32} {se y : Nat} {kd va : Int32} (h : SnAt D M H gs f) (hs : se < 4) (hy : ¬ M y) (hp : va_P D vwCl [(y, .inr (4, [.int kd, .int va]))] H) : SnAt D M H (va_up gs se (some y)) (upd (upd f (8 + se) kd) (12 + se) va) := by
  intro i hi
  by_cases e : i = se
  · subst e
    refine ⟨y, va_up_self _ _ _, hy, ?_⟩
    have e1 : upd (upd f (8 + i) kd) (12 + i) va (8 + i) = kd := (pk_un (by omega)).trans pk_us
    have e2 : upd (upd f (8 + i) kd) (12 + i) va (12 + i) = va := pk_us
    rw [e1, e2]
    exact hp
  · obtain ⟨z, a, b, c⟩ := h i hi
    refine ⟨z, (va_up_ne _ _ e).trans a, b, ?_⟩
    rw [u2n (by omega) (by omega), u2n (by omega) (by omega)]
    exact c
