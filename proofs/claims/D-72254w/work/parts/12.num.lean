/-! numbers: the limit, the floor of a quotient -/
theorem naw {L : List Nat} {n a : Nat} (h1 : a ∉ L) (h2 : a < n) : ¬ Aw L n a := fun h => h.elim h1 (fun h => absurd h2 (Nat.not_lt.mpr h))
/-- Math.floorDiv -/
def fdv (a b : Int64) : Int64 := if 0 ≤ a ^^^ b then a / b else if a / b * b = a then a / b else a / b - 1
/-- the reference's quotient rounded down -/
def dwn (a b : Int64) : Int64 := if a - a / b * b < 0 then a / b - 1 else a / b
def mulf (a b : Int64) : Int64 := fdv (a * b + 2048) 4096
def divf (a b : Int64) : Int64 := fdv (a * 4096 + b / 2) b
/-- a number in the limit -/
def lim (v : Int64) : Prop := -1000000000 ≤ v ∧ v ≤ 1000000000
theorem lim_iff {v : Int64} : lim v ↔ -1000000000 ≤ v.toInt ∧ v.toInt ≤ 1000000000 := by
  unfold lim
  rw [Int64.le_iff_toInt_le, Int64.le_iff_toInt_le]
  exact Iff.rfl
theorem lim_back {v : Int64} (h : lim v) : v.toInt32.toInt64 = v := by
  obtain ⟨h1, h2⟩ := lim_iff.mp h
  apply Int64.toInt_inj.mp
  rw [Int32.toInt_toInt64, Int64.toInt_toInt32]
  exact Int.bmod_eq_of_le (by omega) (by omega)
theorem w_le {a b : Int64} : a ≤ b ↔ a.toInt ≤ b.toInt := Int64.le_iff_toInt_le
theorem w_lt {a b : Int64} : a < b ↔ a.toInt < b.toInt := Int64.lt_iff_toInt_lt
theorem v_le {a b : Int32} : a ≤ b ↔ a.toInt ≤ b.toInt := Int32.le_iff_toInt_le
theorem v_lt {a b : Int32} : a < b ↔ a.toInt < b.toInt := Int32.lt_iff_toInt_lt
