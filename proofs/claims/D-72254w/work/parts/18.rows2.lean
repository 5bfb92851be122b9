/-! what the loops over predictions and corrections compute; the bounds of a row -/
noncomputable def cif {α : Type} (P : Prop) (a b : α) : α := @ite α P (Classical.propDecidable P) a b
theorem cif_t {α : Type} {P : Prop} {a b : α} (h : P) : cif P a b = a := by unfold cif; exact if_pos h
theorem cif_f {α : Type} {P : Prop} {a b : α} (h : ¬ P) : cif P a b = b := by unfold cif; exact if_neg h
/-- t predictions without inflow -/
def pIt (q w : Int32) : Nat → (Nat → Int32) → (Nat → Int32)
  | 0, u => u
  | t + 1, u => pE (pIt q w t u) 0 q w
def pItOK (q w : Int32) (t : Nat) (u : Nat → Int32) : Prop := ∀ j, j < t → pOK (e64 (pIt q w j u)) (0 : Int32).toInt64 q.toInt64 w.toInt64
/-- the level's way to a target: reached -/
def rch (x0 tg x : Int32) : Prop := (x0 < tg ∧ tg ≤ x) ∨ (¬ x0 < tg ∧ x ≤ tg)
noncomputable def stF (q w x0 tg : Int32) : Nat → Nat → (Nat → Int32) → Int32
  | 0, _, _ => -2000000001
  | n + 1, i, u => cif (rch x0 tg (u 0)) (nI i) (cif (pOK (e64 u) (0 : Int32).toInt64 q.toInt64 w.toInt64) (stF q w x0 tg n (i + 1) (pE u 0 q w)) (-2000000001))
/-- the steady cycle: its number and the estimate there -/
def msr (kd : Int32) (u : Nat → Int32) : Int32 := if kd = 0 then u 0 else u 1
noncomputable def syF (q w kd va : Int32) : Nat → Nat → (Nat → Int32) → Option (Nat × (Nat → Int32))
  | 0, _, _ => none
  | n + 1, i, u => cif (pOK (e64 u) (0 : Int32).toInt64 q.toInt64 w.toInt64)
      (cif (cOK (e64 (pE u 0 q w)) kd va.toInt64 (msr kd (pE u 0 q w)).toInt64)
        (cif (cE (pE u 0 q w) kd va (msr kd (pE u 0 q w)) 2 = u 2 ∧ cE (pE u 0 q w) kd va (msr kd (pE u 0 q w)) 3 = u 3 ∧ cE (pE u 0 q w) kd va (msr kd (pE u 0 q w)) 4 = u 4) (some (i, cE (pE u 0 q w) kd va (msr kd (pE u 0 q w)))) (syF q w kd va n (i + 1) (cE (pE u 0 q w) kd va (msr kd (pE u 0 q w))))) none) none
noncomputable def syR (wh : Int32) (x : Option (Nat × (Nat → Int32))) : Int32 := match x with
  | none => -2000000001
  | some y => cif (wh = -2000000001) (nI y.1) (cif (wh = 0) (y.2 6) (y.2 7))
/-- the replay of a history -/
def absL (a : Int64) : Int64 := if 0 ≤ a then a else -a
def whoK (f : Nat → Int32) (i : Nat) : Nat := (f (23 + 2 * i)).toNatClampNeg
def rpU (f : Nat → Int32) (i : Nat) (u : Nat → Int32) : Nat → Int32 := cE u (f (8 + whoK f i)) (f (12 + whoK f i)) (f (24 + 2 * i))
noncomputable def rpS (f : Nat → Int32) (nz : Int32) (i : Nat) (x : (Nat → Int32) × Int64) : Option ((Nat → Int32) × Int64) :=
  cif (f (23 + 2 * i) = -1) (cif (pOK (e64 x.1) (f (24 + 2 * i)).toInt64 (f 5).toInt64 nz.toInt64) (some (pE x.1 (f (24 + 2 * i)) (f 5) nz, x.2)) none)
    (cif (cOK (e64 x.1) (f (8 + whoK f i)) (f (12 + whoK f i)).toInt64 (f (24 + 2 * i)).toInt64) (some (rpU f i x.1, x.2 + absL (rpU f i x.1 5).toInt64)) none)
noncomputable def rpF (f : Nat → Int32) (nz : Int32) : Nat → Option ((Nat → Int32) × Int64)
  | 0 => some (eR f, 0)
  | i + 1 => (rpF f nz i).bind (rpS f nz i)
noncomputable def rpE (f : Nat → Int32) (nz : Int32) (k : Nat) : Option Int64 := (rpF f nz k).bind (fun x => cif (lim x.2) (some x.2) none)
theorem rpF_none {f : Nat → Int32} {nz : Int32} {i : Nat} (h : rpF f nz i = none) : ∀ j, i ≤ j → rpF f nz j = none := by
  intro j hj
  induction j with
  | zero => rw [show i = 0 by omega] at h; exact h
  | succ j ih =>
    rcases Nat.lt_or_ge i (j + 1) with h1 | h1
    · show (rpF f nz j).bind _ = none
      rw [ih (by omega)]; rfl
    · rw [show j + 1 = i by omega]; exact h
def opI (x : Option Int64) : Int32 := match x with
  | none => -2000000004
  | some s => s.toInt32
/-- the candidates for the noise -/
def cnz : Nat → Int32
  | 0 => 0
  | i + 1 => nI (4 ^ i)
noncomputable def bfF (f : Nat → Int32) (k : Nat) : Nat → Option (Int32 × Int64)
  | 0 => none
  | i + 1 => match rpE f (cnz i) k with
    | none => bfF f k i
    | some s => match bfF f k i with
      | none => some (cnz i, s)
      | some y => cif (s < y.2) (some (cnz i, s)) (some y)
noncomputable def bfR (f : Nat → Int32) (k : Nat) : Int32 := match bfF f k 12 with
  | none => -2000000001
  | some y => y.1
/-! bounds -/
def EstOK (u : Nat → Int32) : Prop := (∀ k, k < 5 → lim (u k).toInt64) ∧ 0 ≤ (u 2).toInt ∧ 0 ≤ (u 4).toInt
theorem pos_ge (v : Int64) : 0 ≤ (pos v).toInt := by
  unfold pos
  split
  · rename_i h; rw [w_lt] at h; exact Int.le_of_lt h
  · exact Int.le_refl _
theorem lim_int {v : Int64} (h : lim v) : v.toInt32.toInt = v.toInt := by
  have := congrArg Int64.toInt (lim_back h)
  rw [Int32.toInt_toInt64] at this
  exact this
theorem add_int {a b : Int64} (h1 : -2000000000 ≤ a.toInt ∧ a.toInt ≤ 2000000000) (h2 : -2000000000 ≤ b.toInt ∧ b.toInt ≤ 2000000000) : (a + b).toInt = a.toInt + b.toInt := by
  rw [Int64.toInt_add]
  exact Int.bmod_eq_of_le (by omega) (by omega)
theorem i64_int (a : Int32) : a.toInt64.toInt = a.toInt := Int32.toInt_toInt64 a
theorem pE_ok {u : Nat → Int32} {i q w : Int32} (h : EstOK u) (hw : 0 ≤ w.toInt ∧ w.toInt ≤ 4096000) (hp : pOK (e64 u) i.toInt64 q.toInt64 w.toInt64) : EstOK (pE u i q w) := by
  obtain ⟨h1, h2, h3⟩ := h
  obtain ⟨p1, p2, p3, p4⟩ := hp
  refine ⟨fun k hk => ?_, ?_, ?_⟩
  · match k, hk with
    | 0, _ => show lim (Int64.toInt32 _).toInt64; rw [lim_back p1]; exact p1
    | 1, _ => exact h1 1 (by omega)
    | 2, _ => show lim (Int64.toInt32 _).toInt64; rw [lim_back p2]; exact p2
    | 3, _ => show lim (Int64.toInt32 _).toInt64; rw [lim_back p3]; exact p3
    | 4, _ => show lim (Int64.toInt32 _).toInt64; rw [lim_back p4]; exact p4
  · show 0 ≤ (Int64.toInt32 _).toInt
    rw [lim_int p2]; exact pos_ge _
  · show 0 ≤ (Int64.toInt32 (pC (e64 u) w.toInt64)).toInt
    rw [lim_int p4]
    have hc := lim_iff.mp (h1 4 (by omega))
    show 0 ≤ ((u 4).toInt64 + w.toInt64).toInt
    rw [i64_int] at hc
    rw [add_int (by rw [i64_int]; omega) (by rw [i64_int]; omega), i64_int, i64_int]
    omega
theorem cE_ok {u : Nat → Int32} {kd va rd : Int32} (h : cOK (e64 u) kd va.toInt64 rd.toInt64) : EstOK (cE u kd va rd) := by
  obtain ⟨_, _, p0, p1, p2, p3, p4⟩ := h
  refine ⟨fun k hk => ?_, ?_, ?_⟩
  · match k, hk with
    | 0, _ => show lim (Int64.toInt32 _).toInt64; rw [lim_back p0]; exact p0
    | 1, _ => show lim (Int64.toInt32 _).toInt64; rw [lim_back p1]; exact p1
    | 2, _ => show lim (Int64.toInt32 _).toInt64; rw [lim_back p2]; exact p2
    | 3, _ => show lim (Int64.toInt32 _).toInt64; rw [lim_back p3]; exact p3
    | 4, _ => show lim (Int64.toInt32 _).toInt64; rw [lim_back p4]; exact p4
  · show 0 ≤ (Int64.toInt32 _).toInt
    rw [lim_int p2]; exact pos_ge _
  · show 0 ≤ (Int64.toInt32 _).toInt
    rw [lim_int p4]; exact pos_ge _
theorem cS_ne {u : Nat → Int32} {kd va : Int32} (h : EstOK u) (hv : 1 ≤ va.toInt ∧ va.toInt ≤ 40960000) : ¬ cS (e64 u) kd va.toInt64 = 0 := by
  obtain ⟨h1, h2, h3⟩ := h
  have b2 := lim_iff.mp (h1 2 (by omega))
  have b4 := lim_iff.mp (h1 4 (by omega))
  rw [i64_int] at b2 b4
  intro e
  have e2 := congrArg Int64.toInt e
  unfold cS e64 at e2
  have e0 : (0 : Int64).toInt = 0 := rfl
  split at e2
  · rw [add_int (by rw [i64_int]; omega) (by rw [i64_int]; omega), i64_int, i64_int, e0] at e2
    omega
  · rw [add_int (by rw [i64_int]; omega) (by rw [i64_int]; omega), i64_int, i64_int, e0] at e2
    omega
/-- a row's bounds -/
def RowOK (f : Nat → Int32) : Prop := EstOK (eR f) ∧ (0 ≤ (f 5).toInt ∧ (f 5).toInt ≤ 4096000) ∧ (0 ≤ (f 6).toInt ∧ (f 6).toInt ≤ 4096000) ∧ (0 ≤ (f 7).toInt ∧ (f 7).toInt ≤ 25) ∧ (∀ i, i < 4 → (f (8 + i) = 0 ∨ f (8 + i) = 1) ∧ (1 ≤ (f (12 + i)).toInt ∧ (f (12 + i)).toInt ≤ 40960000)) ∧ ∃ k, k ≤ 24 ∧ f 22 = nI k ∧ ∀ i, i < k → (f (23 + 2 * i) = -1 ∨ ∃ j, j < 4 ∧ f (23 + 2 * i) = nI j) ∧ (-40960000 ≤ (f (24 + 2 * i)).toInt ∧ (f (24 + 2 * i)).toInt ≤ 40960000)
theorem evw_neg {a : Int32} (h : ¬ 0 ≤ a) : evw a = -1 := if_neg h
theorem evw_pos {a : Int32} (h : 0 ≤ a) : evw a = a := if_pos h
