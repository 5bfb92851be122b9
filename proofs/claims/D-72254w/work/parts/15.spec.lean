/-! what a prediction and a correction compute, over longs: n 0 level, n 1 flow, n 2 n 3 n 4 variances -/
def pos (v : Int64) : Int64 := if 0 < v then v else 0
def e64 (e : Nat → Int32) : Nat → Int64 := fun k => (e k).toInt64
def pX (n : Nat → Int64) (i : Int64) : Int64 := n 0 + n 1 + i
def pA (n : Nat → Int64) (q : Int64) : Int64 := pos (n 2 + 2 * n 3 + n 4 + q)
def pB (n : Nat → Int64) : Int64 := n 3 + n 4
def pC (n : Nat → Int64) (w : Int64) : Int64 := n 4 + w
def pOK (n : Nat → Int64) (i q w : Int64) : Prop := lim (pX n i) ∧ lim (pA n q) ∧ lim (pB n) ∧ lim (pC n w)
def pN (n : Nat → Int64) (i q w : Int64) : Nat → Int64 := fun k => if k = 0 then pX n i else if k = 2 then pA n q else if k = 3 then pB n else if k = 4 then pC n w else n k
/-- the estimate's fields behind a prediction -/
def pE (e : Nat → Int32) (i q w : Int32) : Nat → Int32 := fun k => if k = 0 then (pX (e64 e) i.toInt64).toInt32 else if k = 2 then (pA (e64 e) q.toInt64).toInt32 else if k = 3 then (pB (e64 e)).toInt32 else if k = 4 then (pC (e64 e) w.toInt64).toInt32 else e k
/-- level: kd = 0 -/
def cS (n : Nat → Int64) (kd : Int32) (va : Int64) : Int64 := (if kd = 0 then n 2 else n 4) + va
def cY (n : Nat → Int64) (kd : Int32) (rd : Int64) : Int64 := rd - (if kd = 0 then n 0 else n 1)
def cRej (n : Nat → Int64) (kd : Int32) (va rd : Int64) (gt : Int32) : Prop := ¬ gt = 0 ∧ ¬ cY n kd rd * cY n kd rd ≤ gt.toInt64 * cS n kd va * 4096
def cK (n : Nat → Int64) (kd : Int32) (va : Int64) : Int64 := divf (if kd = 0 then n 2 else n 3) (cS n kd va)
def cL (n : Nat → Int64) (kd : Int32) (va : Int64) : Int64 := divf (if kd = 0 then n 3 else n 4) (cS n kd va)
def c0 (n : Nat → Int64) (kd : Int32) (va rd : Int64) : Int64 := n 0 + mulf (cK n kd va) (cY n kd rd)
def c1 (n : Nat → Int64) (kd : Int32) (va rd : Int64) : Int64 := n 1 + mulf (cL n kd va) (cY n kd rd)
def c2 (n : Nat → Int64) (kd : Int32) (va : Int64) : Int64 := pos (n 2 - mulf (cK n kd va) (if kd = 0 then n 2 else n 3))
def c3 (n : Nat → Int64) (kd : Int32) (va : Int64) : Int64 := n 3 - mulf (cK n kd va) (if kd = 0 then n 3 else n 4)
def c4 (n : Nat → Int64) (kd : Int32) (va : Int64) : Int64 := pos (n 4 - mulf (cL n kd va) (if kd = 0 then n 3 else n 4))
def cOK (n : Nat → Int64) (kd : Int32) (va rd : Int64) : Prop := lim (cK n kd va) ∧ lim (cL n kd va) ∧ lim (c0 n kd va rd) ∧ lim (c1 n kd va rd) ∧ lim (c2 n kd va) ∧ lim (c3 n kd va) ∧ lim (c4 n kd va)
def cN (n : Nat → Int64) (kd : Int32) (va rd : Int64) : Nat → Int64 := fun k => if k = 0 then c0 n kd va rd else if k = 1 then c1 n kd va rd else if k = 2 then c2 n kd va else if k = 3 then c3 n kd va else if k = 4 then c4 n kd va else n k
/-- the estimate's fields behind a correction that is taken -/
def cE (e : Nat → Int32) (kd va rd : Int32) : Nat → Int32 := fun k => if k = 0 then (c0 (e64 e) kd va.toInt64 rd.toInt64).toInt32 else if k = 1 then (c1 (e64 e) kd va.toInt64 rd.toInt64).toInt32 else if k = 2 then (c2 (e64 e) kd va.toInt64).toInt32 else if k = 3 then (c3 (e64 e) kd va.toInt64).toInt32 else if k = 4 then (c4 (e64 e) kd va.toInt64).toInt32 else if k = 5 then (cY (e64 e) kd rd.toInt64).toInt32 else if k = 6 then (cK (e64 e) kd va.toInt64).toInt32 else (cL (e64 e) kd va.toInt64).toInt32
/-- .. and one that is refused -/
def cF (e : Nat → Int32) (kd rd : Int32) : Nat → Int32 := fun k => if k = 5 then (cY (e64 e) kd rd.toInt64).toInt32 else e k
theorem lv_pos {x : Int64} : (if 0 < x then x else 0 : Int64) = pos x := rfl
