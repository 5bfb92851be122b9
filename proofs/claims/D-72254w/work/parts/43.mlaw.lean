/-! plain lemmas for the reference's loops -/
theorem lt64 {a b : Int32} : a.toInt64 < b.toInt64 ↔ a < b := by rw [w_lt, v_lt, i64_int, i64_int]
theorem inj64 {a b : Int32} : a.toInt64 = b.toInt64 ↔ a = b := by
  constructor
  · intro h
    apply Int32.toInt_inj.mp
    have := congrArg Int64.toInt h
    rw [i64_int, i64_int] at this
    exact this
  · intro h; rw [h]
theorem nI_ne_none {n : Nat} (h : n ≤ 300) : ¬ nI n = -2000000001 := by
  intro e
  have := congrArg Int32.toInt e
  rw [nI_toInt (by omega)] at this
  have h3 : (-2000000001 : Int32).toInt = -2000000001 := by decide
  omega
theorem inR01_ne {x : Int32} (h : inR 0 1 x) : ¬ x = -2000000001 := by
  intro e
  rw [e] at h
  exact absurd h.1 (by decide)
theorem hasR_0 {f : Nat → Int32} : (0 : Int32) = bI (hasR f 0) := (bI_f (fun ⟨i, h, _⟩ => absurd h (Nat.not_lt_zero i))).symm
theorem hasR_up {f : Nat → Int32} {i : Nat} (h : hasR f i) : (1 : Int32) = bI (hasR f (i + 1)) := by
  obtain ⟨j, h1, h2⟩ := h
  exact (bI_t ⟨j, by omega, h2⟩).symm
theorem hasR_new {f : Nat → Int32} {i : Nat} (h : ¬ f (23 + 2 * i) = -1) : (1 : Int32) = bI (hasR f (i + 1)) := (bI_t ⟨i, by omega, h⟩).symm
theorem hasR_no {f : Nat → Int32} {i : Nat} (h0 : ¬ hasR f i) (h : f (23 + 2 * i) = -1) : (0 : Int32) = bI (hasR f (i + 1)) := by
  refine (bI_f ?_).symm
  intro ⟨j, h1, h2⟩
  rcases Nat.lt_or_ge j i with h3 | h3
  · exact h0 ⟨j, h3, h2⟩
  · rw [show j = i by omega] at h2
    exact h2 h
theorem cY_back {u : Nat → Int32} {kd rd : Int32} (h : EstOK u) (hr : -40960000 ≤ rd.toInt ∧ rd.toInt ≤ 40960000) : (cY (e64 u) kd rd.toInt64).toInt32.toInt64 = cY (e64 u) kd rd.toInt64 := by
  have key : ∀ x : Int32, lim x.toInt64 → ((rd.toInt64 - x.toInt64).toInt32).toInt64 = rd.toInt64 - x.toInt64 := by
    intro x hx
    have hb := lim_iff.mp hx
    rw [i64_int] at hb
    have h1 : (rd.toInt64 - x.toInt64).toInt = rd.toInt - x.toInt := by
      rw [Int64.toInt_sub, i64_int, i64_int]
      exact Int.bmod_eq_of_le (by omega) (by omega)
    apply Int64.toInt_inj.mp
    rw [i64_int, Int64.toInt_toInt32, h1]
    exact Int.bmod_eq_of_le (by omega) (by omega)
  unfold cY e64
  split
  · exact key _ (h.1 0 (by omega))
  · exact key _ (h.1 1 (by omega))
theorem absL_p {a : Int64} (h : 0 ≤ a) : absL a = a := if_pos h
theorem absL_n {a : Int64} (h : ¬ 0 ≤ a) : absL a = -a := if_neg h
theorem absL_b (x : Int32) : 0 ≤ (absL x.toInt64).toInt ∧ (absL x.toInt64).toInt ≤ 2147483648 := by
  have h1 := x.le_toInt
  have h2 := x.toInt_lt
  unfold absL
  split
  · rename_i h
    rw [w_le, i64_int] at h
    have e : (0 : Int64).toInt = 0 := rfl
    rw [e] at h
    rw [i64_int]
    omega
  · rename_i h
    rw [w_le, i64_int] at h
    have e : (0 : Int64).toInt = 0 := rfl
    rw [e] at h
    rw [Int64.toInt_neg, i64_int, Int.bmod_eq_of_le (by omega) (by omega)]
    omega
theorem rpF_nn {f : Nat → Int32} {nz : Int32} : ∀ i, i ≤ 24 → ∀ u sm, rpF f nz i = some (u, sm) → 0 ≤ sm.toInt ∧ sm.toInt ≤ (i : Int) * 2147483648 := by
  intro i
  induction i with
  | zero =>
    intro _ u sm h
    have h2 : (eR f, (0 : Int64)) = (u, sm) := Option.some.inj h
    have h3 : (0 : Int64) = sm := congrArg Prod.snd h2
    rw [← h3]
    have e : (0 : Int64).toInt = 0 := rfl
    rw [e]
    omega
  | succ i ih =>
    intro hi u sm h
    rw [rpF_s] at h
    cases hr : rpF f nz i with
    | none => rw [hr] at h; cases h
    | some x =>
      obtain ⟨v, t⟩ := x
      have ih := ih (by omega) v t hr
      rw [hr] at h
      have h : rpS f nz i (v, t) = some (u, sm) := h
      unfold rpS at h
      by_cases h1 : f (23 + 2 * i) = -1
      · rw [cif_t h1] at h
        by_cases h2 : pOK (e64 (v, t).1) (f (24 + 2 * i)).toInt64 (f 5).toInt64 nz.toInt64
        · rw [cif_t h2] at h
          have h3 : t = sm := congrArg Prod.snd (Option.some.inj h)
          rw [← h3]
          omega
        · rw [cif_f h2] at h; cases h
      · rw [cif_f h1] at h
        by_cases h2 : cOK (e64 (v, t).1) (f (8 + whoK f i)) (f (12 + whoK f i)).toInt64 (f (24 + 2 * i)).toInt64
        · rw [cif_t h2] at h
          have h3 : t + absL (rpU f i v 5).toInt64 = sm := congrArg Prod.snd (Option.some.inj h)
          rw [← h3]
          have hb := absL_b (rpU f i v 5)
          rw [Int64.toInt_add, Int.bmod_eq_of_le (by omega) (by omega)]
          omega
        · rw [cif_f h2] at h; cases h
theorem rpE_nn {f : Nat → Int32} {nz : Int32} {k : Nat} {sm : Int64} (hk : k ≤ 24) (h : rpE f nz k = some sm) : 0 ≤ sm := by
  unfold rpE at h
  cases hr : rpF f nz k with
  | none => rw [hr] at h; cases h
  | some x =>
    obtain ⟨u, t⟩ := x
    rw [hr] at h
    have h : cif (lim t) (some t) none = some sm := h
    have hb := rpF_nn k hk u t hr
    by_cases hl : lim t
    · rw [cif_t hl] at h
      rw [← Option.some.inj h, w_le]
      exact hb.1
    · rw [cif_f hl] at h; cases h
/-- the least so far -/
def bfL (x : Option (Int32 × Int64)) (b : Int32) (l : Int64) : Prop := match x with
  | none => b = -2000000001 ∧ l = 1000000001
  | some y => b = y.1 ∧ l = y.2
theorem bl_no {f : Nat → Int32} {k i : Nat} {b : Int32} {l : Int64} (h : bfL (bfF f k i) b l) (hn : rpE f (cnz i) k = none) : bfL (bfF f k (i + 1)) b l := by
  rw [bfF_s, hn]
  exact h
theorem bl_less {f : Nat → Int32} {k i : Nat} {b : Int32} {l s : Int64} (h : bfL (bfF f k i) b l) (hs : rpE f (cnz i) k = some s) (hl : s < l) : bfL (bfF f k (i + 1)) (cnz i) s := by
  rw [bfF_s, hs]
  cases hb : bfF f k i with
  | none => exact ⟨rfl, rfl⟩
  | some y =>
    rw [hb] at h
    show bfL (cif (s < y.2) (some (cnz i, s)) (some y)) (cnz i) s
    rw [cif_t (by rw [← h.2]; exact hl)]
    exact ⟨rfl, rfl⟩
theorem bl_more {f : Nat → Int32} {k i : Nat} {b : Int32} {l s : Int64} (h : bfL (bfF f k i) b l) (hs : rpE f (cnz i) k = some s) (hl : ¬ s < l) : bfL (bfF f k (i + 1)) b l := by
  rw [bfF_s, hs]
  cases hb : bfF f k i with
  | none =>
    rw [hb] at h
    exfalso
    have h1 := lim_iff.mp (rpE_lim hs)
    apply hl
    rw [h.2, w_lt]
    have e : (1000000001 : Int64).toInt = 1000000001 := by decide
    omega
  | some y =>
    rw [hb] at h
    show bfL (cif (s < y.2) (some (cnz i, s)) (some y)) b l
    rw [cif_f (by rw [← h.2]; exact hl)]
    exact h
theorem bl_end {f : Nat → Int32} {k : Nat} {b : Int32} {l : Int64} (h : bfL (bfF f k 12) b l) : b = bfR f k := by
  unfold bfR
  cases hb : bfF f k 12 with
  | none => rw [hb] at h; exact h.1
  | some y => rw [hb] at h; exact h.1
theorem cnz_1 : ∀ i, i < 12 → cnz i = 0 → (1 : Int32) = cnz (i + 1) := by decide +kernel
theorem cnz_4 : ∀ i, i < 12 → ¬ cnz i = 0 → (4 : Int32) * cnz i = cnz (i + 1) := by decide +kernel
theorem dgE_hsh {f : Nat → Int32} {h : Int64} (k : Nat) : hsh h (fun j => f (23 + j)) (2 * k) = dgE f h k := by
  induction k with
  | zero => rfl
  | succ k ih =>
    show hsh h (fun j => f (23 + j)) (2 * k + 1 + 1) = _
    show 31 * (31 * hsh h (fun j => f (23 + j)) (2 * k) + (f (23 + 2 * k)).toInt64) + (f (23 + (2 * k + 1))).toInt64 = 31 * (31 * dgE f h k + (f (23 + 2 * k)).toInt64) + (f (24 + 2 * k)).toInt64
    rw [ih, show 23 + (2 * k + 1) = 24 + 2 * k by omega]
/-- the first row -/
def iniF : Nat → Int32 := fun k => if k = 2 ∨ k = 4 then 4096 else if k = 6 then 64 else if k = 7 then 9 else if 12 ≤ k ∧ k < 16 then 4096 else if 16 ≤ k ∧ k < 19 then -2000000001 else 0
def inK (i : Nat) : Nat → Int32 := fun k => if k = 2 ∨ k = 4 then 4096 else if k = 6 then 64 else if k = 7 then 9 else if 12 ≤ k ∧ k < 12 + i then 4096 else 0
theorem in_base (j : Nat) : upd (upd (upd (upd (fun _ => 0) 2 4096) 4 4096) 6 64) 7 9 j = inK 0 j := by
  rcases (show j = 2 ∨ j = 4 ∨ j = 6 ∨ j = 7 ∨ (¬ j = 2 ∧ ¬ j = 4 ∧ ¬ j = 6 ∧ ¬ j = 7) by omega) with h | h | h | h | h
  · subst h; rfl
  · subst h; rfl
  · subst h; rfl
  · subst h; rfl
  · rw [pk_un (by omega), pk_un (by omega), pk_un (by omega), pk_un (by omega)]
    unfold inK
    rw [if_neg (by omega), if_neg (by omega), if_neg (by omega), if_neg (by omega)]
theorem in_step {i j : Nat} (hi : i < 4) : upd (inK i) (12 + i) 4096 j = inK (i + 1) j := by
  by_cases e : j = 12 + i
  · subst e
    rw [pk_us]
    unfold inK
    rw [if_neg (by omega), if_neg (by omega), if_neg (by omega), if_pos (by omega)]
  · rw [pk_un e]
    unfold inK
    by_cases h1 : j = 2 ∨ j = 4
    · rw [if_pos h1, if_pos h1]
    · rw [if_neg h1, if_neg h1]
      by_cases h2 : j = 6
      · rw [if_pos h2, if_pos h2]
      · rw [if_neg h2, if_neg h2]
        by_cases h3 : j = 7
        · rw [if_pos h3, if_pos h3]
        · rw [if_neg h3, if_neg h3]
          by_cases h4 : 12 ≤ j ∧ j < 12 + i
          · rw [if_pos h4, if_pos (show 12 ≤ j ∧ j < 12 + (i + 1) by omega)]
          · rw [if_neg h4, if_neg (show ¬ (12 ≤ j ∧ j < 12 + (i + 1)) by omega)]
theorem in_fin {j : Nat} (hj : j < 71) : fgK (inK 4) 71 j = iniF j := by
  unfold fgK inK iniF
  by_cases h1 : 16 ≤ j
  · rw [if_pos ⟨h1, hj⟩, if_neg (show ¬ (j = 2 ∨ j = 4) by omega), if_neg (show ¬ j = 6 by omega), if_neg (show ¬ j = 7 by omega), if_neg (show ¬ (12 ≤ j ∧ j < 16) by omega)]
    by_cases h2 : j < 19
    · rw [if_pos h2, if_pos ⟨h1, h2⟩]
    · rw [if_neg h2, if_neg (fun h => h2 h.2)]
  · rw [if_neg (fun h => h1 h.1), if_neg (show ¬ (16 ≤ j ∧ j < 19) by omega)]
theorem st_one {q w x0 tg : Int32} {i : Nat} {u : Nat → Int32} (h : ¬ rch x0 tg (u 0)) : stF q w x0 tg 1 i u = -2000000001 := by
  rw [stF_s, cif_f h]
  by_cases h9 : pOK (e64 u) (0 : Int32).toInt64 q.toInt64 w.toInt64
  · rw [cif_t h9]; rfl
  · rw [cif_f h9]
theorem hsh_0 (h : Int64) (v : Nat → Int32) : hsh h v 0 = h := rfl
theorem hsh_s (h : Int64) (v : Nat → Int32) (n : Nat) : hsh h v (n + 1) = 31 * hsh h v n + (v n).toInt64 := rfl
theorem dgS_0 (f : Nat → Int32) (h : Int64) : dgS f h 0 = h := rfl
theorem dgS_s (f : Nat → Int32) (h : Int64) (i : Nat) : dgS f h (i + 1) = 31 * (31 * dgS f h i + (f (8 + i)).toInt64) + (f (12 + i)).toInt64 := rfl
theorem va_D.exD {A : Nat → Prop} {ws : va_W} (i : Nat) {a : Nat} {e e' : va_E} (h : va_D A ws) (hi : ws[i]? = some (a, e)) : va_D A (ws.set i (a, e')) := by
  have h2 : va_D A (ws.set i (a, e)) := by
    obtain ⟨h3, h4⟩ := List.getElem?_eq_some_iff.mp hi
    rw [← h4, List.set_getElem_self]
    exact h
  exact h2.swapE
