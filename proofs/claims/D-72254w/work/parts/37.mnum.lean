/-! the reference's quotient is the floor -/
theorem pos_pos' {a : Int64} (h : 0 ≤ a) : pos a = a := by
  unfold pos
  split
  · rfl
  · rename_i h1
    exact Int64.le_antisymm h (Int64.not_lt.mp h1)
theorem pos_neg' {a : Int64} (h : ¬ 0 ≤ a) : pos a = 0 := by
  unfold pos
  rw [if_neg (fun q => h (Int64.le_of_lt q))]
theorem tdiv_bd {a b : Int} (hb : 0 < b) : a.tdiv b * b = a - a.tmod b := by
  have := Int.tmod_add_mul_tdiv a b
  rw [Int.mul_comm]; omega
theorem div_int {a b : Int64} (hb : 0 < b) : (a / b).toInt = a.toInt.tdiv b.toInt := by
  have h0 : 0 < b.toInt := w_lt.mp hb
  rw [Int64.toInt_div]
  have h1 := a.le_toInt
  have h2 := a.toInt_lt
  have hn := Int.natAbs_tdiv_le_natAbs a.toInt b.toInt
  by_cases hq : a.toInt.tdiv b.toInt = 2 ^ 63
  · exfalso
    have : (a.toInt.tdiv b.toInt).natAbs = 2 ^ 63 := by rw [hq]; rfl
    rcases Int.le_total 0 a.toInt with h3 | h3
    · have := Int.tdiv_le_self b.toInt h3
      omega
    · have h4 : a.toInt.tdiv b.toInt ≤ 0 := by
        have := Int.tdiv_nonneg (a := -a.toInt) (b := b.toInt) (by omega) (by omega)
        rw [Int.neg_tdiv] at this
        omega
      omega
  · exact Int.bmod_eq_of_le (by omega) (by omega)
theorem mul_back {a b : Int64} (hb : 0 < b) : (a / b * b).toInt = a.toInt - a.toInt.tmod b.toInt := by
  have h0 : 0 < b.toInt := w_lt.mp hb
  have h1 := a.le_toInt
  have h2 := a.toInt_lt
  rw [Int64.toInt_mul, div_int hb, tdiv_bd h0]
  have h3 := Int.tmod_lt_of_pos a.toInt h0
  rcases Int.le_total 0 a.toInt with h4 | h4
  · have h5 := Int.tmod_nonneg b.toInt h4
    have h6 : a.toInt.tmod b.toInt ≤ a.toInt := by
      have h7 := Int.tdiv_nonneg h4 (Int.le_of_lt h0)
      have h8 := tdiv_bd (a := a.toInt) h0
      have := Int.mul_nonneg h7 (Int.le_of_lt h0)
      omega
    exact Int.bmod_eq_of_le (by omega) (by omega)
  · have h5 : a.toInt.tmod b.toInt ≤ 0 := by
      have := Int.tmod_nonneg (a := -a.toInt) b.toInt (by omega)
      rw [Int.neg_tmod] at this
      omega
    have h6 : a.toInt ≤ a.toInt.tmod b.toInt := by
      have h7 : 0 ≤ (-a.toInt).tdiv b.toInt := Int.tdiv_nonneg (by omega) (by omega)
      have h8 := tdiv_bd (a := -a.toInt) h0
      rw [Int.neg_tmod] at h8
      have := Int.mul_nonneg h7 (Int.le_of_lt h0)
      omega
    exact Int.bmod_eq_of_le (by omega) (by omega)
theorem rem_int {a b : Int64} (hb : 0 < b) : (a - a / b * b).toInt = a.toInt.tmod b.toInt := by
  have h0 : 0 < b.toInt := w_lt.mp hb
  have hl := b.toInt_lt
  rw [Int64.toInt_sub, mul_back hb]
  have h3 := Int.tmod_lt_of_pos a.toInt h0
  have h4 : -b.toInt < a.toInt.tmod b.toInt := by
    have := Int.tmod_lt_of_pos (-a.toInt) h0
    rw [Int.neg_tmod] at this
    omega
  rw [show a.toInt - (a.toInt - a.toInt.tmod b.toInt) = a.toInt.tmod b.toInt by omega]
  exact Int.bmod_eq_of_le (by omega) (by omega)
theorem sgn_msb (a : Int64) : 0 ≤ a ↔ a.toBitVec.msb = false := by
  rw [w_le]
  show 0 ≤ a.toBitVec.toInt ↔ _
  rw [BitVec.msb_eq_toInt]
  simp
theorem xor_sgn {a b : Int64} (hb : 0 < b) : 0 ≤ a ^^^ b ↔ 0 ≤ a := by
  have h1 : b.toBitVec.msb = false := (sgn_msb b).mp (Int64.le_of_lt hb)
  rw [sgn_msb, sgn_msb]
  show (a.toBitVec ^^^ b.toBitVec).msb = false ↔ _
  rw [BitVec.msb_xor, h1]
  simp
theorem dwn_fdv {a b : Int64} (hb : 0 < b) : dwn a b = fdv a b := by
  have h0 : 0 < b.toInt := w_lt.mp hb
  unfold dwn fdv
  by_cases ha : 0 ≤ a
  · rw [if_pos ((xor_sgn hb).mpr ha), if_neg]
    rw [w_lt, rem_int hb]
    have := Int.tmod_nonneg b.toInt (w_le.mp ha)
    have e : (0 : Int64).toInt = 0 := rfl
    omega
  · rw [if_neg (fun h => ha ((xor_sgn hb).mp h))]
    by_cases he : a / b * b = a
    · rw [if_pos he, if_neg]
      rw [he, Int64.sub_self]
      decide
    · rw [if_neg he, if_pos]
      rw [w_lt, rem_int hb]
      have e : (0 : Int64).toInt = 0 := rfl
      have h3 : a.toInt.tmod b.toInt ≤ 0 := by
        have h9 : a.toInt < 0 := by
          have := Int64.not_le.mp ha
          rw [w_lt] at this
          exact this
        have := Int.tmod_nonneg (a := -a.toInt) b.toInt (by omega)
        rw [Int.neg_tmod] at this
        omega
      have h4 : a.toInt.tmod b.toInt ≠ 0 := by
        intro h5
        apply he
        apply Int64.toInt_inj.mp
        rw [mul_back hb, h5]
        omega
      omega
theorem dwn_two {s : Int64} (h : 0 < s) : dwn s 2 = s / 2 := by
  unfold dwn
  rw [if_neg]
  rw [w_lt, rem_int (by decide)]
  have := Int.tmod_nonneg (2 : Int64).toInt (Int.le_of_lt (w_lt.mp h))
  have e : (0 : Int64).toInt = 0 := rfl
  rw [e]
  exact Int.not_lt.mpr this
theorem dw_mul (a b : Int64) : dwn (a * b + 2048) 4096 = mulf a b := dwn_fdv (by decide)
theorem dw_div {a s : Int64} (h : 0 < s) : dwn (a * 4096 + dwn s 2) s = divf a s := by rw [dwn_two h, dwn_fdv h]; rfl
theorem cS_pos {u : Nat → Int32} {kd va : Int32} (h : EstOK u) (hv : 1 ≤ va.toInt ∧ va.toInt ≤ 40960000) : 0 < cS (e64 u) kd va.toInt64 := by
  obtain ⟨h1, h2, h3⟩ := h
  have b2 := lim_iff.mp (h1 2 (by omega))
  have b4 := lim_iff.mp (h1 4 (by omega))
  rw [i64_int] at b2 b4
  rw [w_lt]
  have e0 : (0 : Int64).toInt = 0 := rfl
  rw [e0]
  unfold cS e64
  split
  · rw [add_int (by rw [i64_int]; omega) (by rw [i64_int]; omega), i64_int, i64_int]
    omega
  · rw [add_int (by rw [i64_int]; omega) (by rw [i64_int]; omega), i64_int, i64_int]
    omega
theorem i32_back (x : Int32) : x.toInt64.toInt32 = x := by
  apply Int32.toInt_inj.mp
  rw [Int64.toInt_toInt32, i64_int]
  exact Int.bmod_eq_of_le (by have := x.le_toInt; omega) (by have := x.toInt_lt; omega)
theorem e64_pE {u : Nat → Int32} {i q w : Int32} (h : pOK (e64 u) i.toInt64 q.toInt64 w.toInt64) : ∀ j, j < 5 → vp_updL (vp_updL (vp_updL (vp_updL (e64 u) 0 (pX (e64 u) i.toInt64)) 2 (pA (e64 u) q.toInt64)) 3 (pB (e64 u))) 4 (pC (e64 u) w.toInt64) j = e64 (pE u i q w) j := by
  obtain ⟨h0, h2, h3, h4⟩ := h
  intro j hj
  rcases (show j = 0 ∨ j = 1 ∨ j = 2 ∨ j = 3 ∨ j = 4 by omega) with rfl | rfl | rfl | rfl | rfl
  · exact (lim_back h0).symm
  · rfl
  · exact (lim_back h2).symm
  · exact (lim_back h3).symm
  · exact (lim_back h4).symm
theorem e64_cE {u : Nat → Int32} {kd va rd : Int32} (h : cOK (e64 u) kd va.toInt64 rd.toInt64) : ∀ j, j < 5 → vp_updL (vp_updL (vp_updL (vp_updL (vp_updL (e64 u) 0 (c0 (e64 u) kd va.toInt64 rd.toInt64)) 1 (c1 (e64 u) kd va.toInt64 rd.toInt64)) 2 (c2 (e64 u) kd va.toInt64)) 3 (c3 (e64 u) kd va.toInt64)) 4 (c4 (e64 u) kd va.toInt64) j = e64 (cE u kd va rd) j := by
  obtain ⟨_, _, h0, h1, h2, h3, h4⟩ := h
  intro j hj
  rcases (show j = 0 ∨ j = 1 ∨ j = 2 ∨ j = 3 ∨ j = 4 by omega) with rfl | rfl | rfl | rfl | rfl
  · exact (lim_back h0).symm
  · exact (lim_back h1).symm
  · exact (lim_back h2).symm
  · exact (lim_back h3).symm
  · exact (lim_back h4).symm
