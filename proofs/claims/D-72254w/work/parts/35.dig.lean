/-! the digest -/
def hsh (h : Int64) (v : Nat → Int32) : Nat → Int64
  | 0 => h
  | i + 1 => 31 * hsh h v i + (v i).toInt64
theorem hsh_congr {h : Int64} {v v' : Nat → Int32} {n : Nat} (e : ∀ j, j < n → v j = v' j) : hsh h v n = hsh h v' n := by
  induction n with
  | zero => rfl
  | succ n ih =>
    show 31 * hsh h v n + (v n).toInt64 = 31 * hsh h v' n + (v' n).toInt64
    rw [ih (fun j hj => e j (by omega)), e n (by omega)]
def v12 (ef : Nat → Int32) (np : Nat) (f : Nat → Int32) : Nat → Int32 := fun k => if k < 3 then ef k else if k = 3 then nI np else f (k - 4)
def v2 (a b : Int32) : Nat → Int32 := fun k => if k = 0 then a else b
def dgS (f : Nat → Int32) (h : Int64) : Nat → Int64
  | 0 => h
  | i + 1 => hsh (dgS f h i) (v2 (f (8 + i)) (f (12 + i))) 2
def dgE (f : Nat → Int32) (h : Int64) : Nat → Int64
  | 0 => h
  | i + 1 => hsh (dgE f h i) (v2 (f (23 + 2 * i)) (f (24 + 2 * i))) 2
def dgV (ef : Nat → Int32) (np : Nat) (f : Nat → Int32) (k : Nat) : Int64 := dgE f (hsh (dgS f (hsh 12254 (v12 ef np f) 12) 4) (fun j => f (16 + j)) 7) k
theorem j12 {P : Nat → Prop} (h0 : P 0) (h1 : P 1) (h2 : P 2) (h3 : P 3) (h4 : P 4) (h5 : P 5) (h6 : P 6) (h7 : P 7) (h8 : P 8) (h9 : P 9) (h10 : P 10) (h11 : P 11) : ∀ i, i < 12 → P i := fun i hi => by
  rcases (show i = 0 ∨ i = 1 ∨ i = 2 ∨ i = 3 ∨ i = 4 ∨ i = 5 ∨ i = 6 ∨ i = 7 ∨ i = 8 ∨ i = 9 ∨ i = 10 ∨ i = 11 by omega) with rfl | rfl | rfl | rfl | rfl | rfl | rfl | rfl | rfl | rfl | rfl | rfl <;> assumption
theorem j7 {P : Nat → Prop} (h0 : P 0) (h1 : P 1) (h2 : P 2) (h3 : P 3) (h4 : P 4) (h5 : P 5) (h6 : P 6) : ∀ i, i < 7 → P i := fun i hi => by
  rcases (show i = 0 ∨ i = 1 ∨ i = 2 ∨ i = 3 ∨ i = 4 ∨ i = 5 ∨ i = 6 by omega) with rfl | rfl | rfl | rfl | rfl | rfl | rfl <;> assumption
theorem j2 {P : Nat → Prop} (h0 : P 0) (h1 : P 1) : ∀ i, i < 2 → P i := fun i hi => by
  rcases (show i = 0 ∨ i = 1 by omega) with rfl | rfl <;> assumption
