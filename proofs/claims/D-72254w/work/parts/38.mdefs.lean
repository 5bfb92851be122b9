/-! the reference's rows -/
theorem va_P.exI {D : va_G} {cl : List vw_C} {H : Heap} {ws : va_W} (i : Nat) {a n : Nat} {c : ClassId} {f f' : Nat → Int32} (h : va_P D cl ws H) (hi : ws[i]? = some (a, .inl (c, n, .inl f))) (e : ∀ j, j < n → f j = f' j) : va_P D cl (ws.set i (a, .inl (c, n, .inl f'))) H := by
  have h2 : va_P D cl (ws.set i (a, .inl (c, n, .inl f))) H := by
    have hl := (List.getElem?_eq_some_iff.mp hi)
    obtain ⟨h3, h4⟩ := hl
    rw [← h4, List.set_getElem_self]
    exact h
  exact h2.swapE fun z => (show H[a]? = some _ from (show H[a]? = some _ from z).trans (congrArg some (cell_i c n e)))
theorem va_P.exL {D : va_G} {cl : List vw_C} {H : Heap} {ws : va_W} (i : Nat) {a n : Nat} {c : ClassId} {f f' : Nat → Int64} (h : va_P D cl ws H) (hi : ws[i]? = some (a, .inl (c, n, .inr (.inl f)))) (e : ∀ j, j < n → f j = f' j) : va_P D cl (ws.set i (a, .inl (c, n, .inr (.inl f')))) H := by
  have h2 : va_P D cl (ws.set i (a, .inl (c, n, .inr (.inl f)))) H := by
    have hl := (List.getElem?_eq_some_iff.mp hi)
    obtain ⟨h3, h4⟩ := hl
    rw [← h4, List.set_getElem_self]
    exact h
  exact h2.swapE fun z => (show H[a]? = some _ from (show H[a]? = some _ from z).trans (congrArg some (cell_l c n e)))
/-- forgotten up to n -/
def fgK (f : Nat → Int32) (n : Nat) : Nat → Int32 := fun k => if 16 ≤ k ∧ k < n then (if k < 19 then -2000000001 else 0) else f k
theorem fg_base (f : Nat → Int32) (j : Nat) : upd (upd (upd (upd (upd (upd (upd f 16 (-2000000001)) 17 (-2000000001)) 18 (-2000000001)) 19 0) 20 0) 21 0) 22 0 j = fgK f 23 j := by
  rcases (show j = 16 ∨ j = 17 ∨ j = 18 ∨ j = 19 ∨ j = 20 ∨ j = 21 ∨ j = 22 ∨ (j < 16 ∨ 23 ≤ j) by omega) with h | h | h | h | h | h | h | h
  · subst h; rfl
  · subst h; rfl
  · subst h; rfl
  · subst h; rfl
  · subst h; rfl
  · subst h; rfl
  · subst h; rfl
  · rw [pk_un (by omega), pk_un (by omega), pk_un (by omega), pk_un (by omega), pk_un (by omega), pk_un (by omega), pk_un (by omega)]
    unfold fgK
    rw [if_neg (by omega)]
theorem fg_step {f : Nat → Int32} {i j : Nat} (h : 23 ≤ i) : upd (fgK f i) i 0 j = fgK f (i + 1) j := by
  by_cases e : j = i
  · subst e
    rw [pk_us]
    unfold fgK
    rw [if_pos (by omega), if_neg (by omega)]
  · rw [pk_un e]
    unfold fgK
    by_cases h1 : 16 ≤ j ∧ j < i
    · rw [if_pos h1, if_pos (show 16 ≤ j ∧ j < i + 1 by omega)]
    · rw [if_neg h1, if_neg (by omega)]
/-- the past, one row down; a row written into it -/
def shF (p : Nat → Int32) (i : Nat) : Nat → Int32 := fun k => if k < i then p (k + 71) else p k
theorem sh_step {p : Nat → Int32} {i j : Nat} : upd (shF p i) i (shF p i (i + 71)) j = shF p (i + 1) j := by
  by_cases e : j = i
  · subst e
    rw [pk_us]
    unfold shF
    rw [if_neg (by omega), if_pos (by omega)]
  · rw [pk_un e]
    unfold shF
    by_cases h1 : j < i
    · rw [if_pos h1, if_pos (by omega)]
    · rw [if_neg h1, if_neg (by omega)]
def ptF (b : Nat → Int32) (o : Nat) (f : Nat → Int32) (i : Nat) : Nat → Int32 := fun k => if o ≤ k ∧ k < o + i then f (k - o) else b k
theorem pt_step {b f : Nat → Int32} {o i j : Nat} : upd (ptF b o f i) (o + i) (f i) j = ptF b o f (i + 1) j := by
  by_cases e : j = o + i
  · subst e
    rw [pk_us]
    unfold ptF
    rw [if_pos (by omega), show o + i - o = i by omega]
  · rw [pk_un e]
    unfold ptF
    by_cases h1 : o ≤ j ∧ j < o + i
    · rw [if_pos h1, if_pos (by omega)]
    · rw [if_neg h1, if_neg (by omega)]
theorem pt_0 {b f : Nat → Int32} {o : Nat} : b = ptF b o f 0 := by
  funext j
  unfold ptF
  rw [if_neg (by omega)]
theorem sh_0 {p : Nat → Int32} : p = shF p 0 := by
  funext j
  unfold shF
  rw [if_neg (by omega)]
def ntF (np : Nat) (pa f : Nat → Int32) : Nat → Int32 := if np = 4 then ptF (shF pa 213) (71 * 3) f 71 else ptF pa (71 * np) f 71
/-- what is worked on -/
def tkF (w : Nat → Int64) (f : Nat → Int32) (i : Nat) : Nat → Int64 := fun k => if k < i then (f k).toInt64 else w k
theorem tk_step {w : Nat → Int64} {f : Nat → Int32} {i j : Nat} : vp_updL (tkF w f i) i (f i).toInt64 j = tkF w f (i + 1) j := by
  unfold vp_updL tkF
  by_cases e : j = i
  · subst e
    rw [if_pos rfl, if_pos (by omega)]
  · rw [if_neg e]
    by_cases h1 : j < i
    · rw [if_pos h1, if_pos (by omega)]
    · rw [if_neg h1, if_neg (by omega)]
theorem tk_0 {w : Nat → Int64} {f : Nat → Int32} : w = tkF w f 0 := by
  funext j
  unfold tkF
  rw [if_neg (by omega)]
theorem tk_5 {w : Nat → Int64} {f : Nat → Int32} {j : Nat} (h : j < 5) : tkF w f 5 j = e64 (eR f) j := by
  unfold tkF e64 eR
  rw [if_pos h, if_pos h]
def p5F (f u : Nat → Int32) (i : Nat) : Nat → Int32 := fun k => if k < i then u k else f k
theorem p5_step {f u : Nat → Int32} {i j : Nat} : upd (p5F f u i) i (e64 u i).toInt32 j = p5F f u (i + 1) j := by
  by_cases e : j = i
  · subst e
    rw [pk_us]
    unfold p5F e64
    rw [if_pos (by omega), i32_back]
  · rw [pk_un e]
    unfold p5F
    by_cases h1 : j < i
    · rw [if_pos h1, if_pos (by omega)]
    · rw [if_neg h1, if_neg (by omega)]
theorem p5_0 {f u : Nat → Int32} : f = p5F f u 0 := by
  funext j
  unfold p5F
  rw [if_neg (by omega)]
/-- the events, one down -/
def s2F (f : Nat → Int32) (i : Nat) : Nat → Int32 := fun k => if 23 ≤ k ∧ k < i then f (k + 2) else f k
theorem s2_step {f : Nat → Int32} {i j : Nat} (h : 23 ≤ i) : upd (s2F f i) i (s2F f i (i + 2)) j = s2F f (i + 1) j := by
  by_cases e : j = i
  · subst e
    rw [pk_us]
    unfold s2F
    rw [if_neg (by omega), if_pos (by omega)]
  · rw [pk_un e]
    unfold s2F
    by_cases h1 : 23 ≤ j ∧ j < i
    · rw [if_pos h1, if_pos (by omega)]
    · rw [if_neg h1, if_neg (by omega)]
theorem s2_0 {f : Nat → Int32} : f = s2F f 23 := by
  funext j
  unfold s2F
  rw [if_neg (by omega)]
theorem s2_22 {f : Nat → Int32} {i : Nat} : s2F f i 22 = f 22 := by
  unfold s2F
  rw [if_neg (by omega)]
def rcB (f : Nat → Int32) : Nat → Int32 := upd (s2F f 69) 22 23
def rW1 (b : Nat → Int32) (k : Nat) (who : Int32) : Nat → Int32 := upd b (23 + 2 * k) who
def rW2 (b : Nat → Int32) (k : Nat) (who val : Int32) : Nat → Int32 := upd (rW1 b k who) (23 + 2 * k + 1) val
theorem rW1_22 {b : Nat → Int32} {k : Nat} {who : Int32} : rW1 b k who 22 = b 22 := pk_un (by omega)
theorem rW2_22 {b : Nat → Int32} {k : Nat} {who val : Int32} : rW2 b k who val 22 = b 22 := (pk_un (by omega)).trans rW1_22
theorem rc_A {f : Nat → Int32} {k : Nat} {who val : Int32} (hk : k = 24) {j : Nat} (hj : j < 71) : upd (rW2 (rcB f) 23 who val) 22 (nI 24) j = rcF f k who val j := by
  unfold rcF addK
  by_cases e : j = 22
  · subst e
    rw [pk_us, if_pos rfl, if_pos hk]
  · rw [pk_un e, if_neg e, if_pos hk]
    unfold rW2 rW1 rcB
    by_cases e1 : j = 70
    · subst e1; rw [pk_us, if_pos (by omega), if_neg (by omega), if_pos rfl]
    · rw [pk_un (by omega)]
      by_cases e2 : j = 69
      · subst e2; rw [pk_us, if_pos (by omega), if_pos rfl]
      · rw [pk_un (by omega), pk_un e]
        unfold s2F
        by_cases e3 : 23 ≤ j
        · rw [if_pos (by omega), if_pos e3, if_neg e2, if_neg e1]
        · rw [if_neg (by omega), if_neg e3]
theorem rc_B {f : Nat → Int32} {k : Nat} {who val : Int32} (hk : ¬ k = 24) {j : Nat} : upd (rW2 f k who val) 22 (nI (k + 1)) j = rcF f k who val j := by
  unfold rcF addK
  by_cases e : j = 22
  · subst e
    rw [pk_us, if_pos rfl, if_neg hk]
  · rw [pk_un e, if_neg e, if_neg hk]
    unfold rW2 rW1
    by_cases e1 : j = 23 + 2 * k + 1
    · subst e1; rw [pk_us, if_pos (by omega), if_neg (by omega), if_pos (by omega)]
    · rw [pk_un e1]
      by_cases e2 : j = 23 + 2 * k
      · subst e2; rw [pk_us, if_pos (by omega), if_pos rfl]
      · rw [pk_un e2]
        by_cases e3 : 23 ≤ j
        · rw [if_pos e3, if_neg e2, if_neg (by omega)]
        · rw [if_neg e3]
/-- the reference between two calls -/
def MDI (D : va_G) (g : Nat → ClassId) (H : Heap) (mo ms mp me mn np : Nat) (ef f pa : Nat → Int32) : Prop := ∃ (nw : Nat → Int64) (iv lg fg hv : Int64), va_P D vwCl [(mo, .inr (6, [.ref ms, .ref mp, .int (nI np), .ref me, .ref mn, .long iv, .long lg, .long fg, .long hv])), (ms, .inl (g 0, 71, .inl f)), (mp, .inl (g 0, 284, .inl pa)), (me, .inl (g 0, 3, .inl ef)), (mn, .inl (g 1, 5, .inr (.inl nw)))] H
theorem MDI.to {D : va_G} {g : Nat → ClassId} {H : Heap} {mo ms mp me mn np : Nat} {ef f f' pa : Nat → Int32} (h : MDI D g H mo ms mp me mn np ef f pa) (e : ∀ j, j < 71 → f j = f' j) : MDI D g H mo ms mp me mn np ef f' pa := by
  obtain ⟨nw, iv, lg, fg, hv, h⟩ := h
  exact ⟨nw, iv, lg, fg, hv, h.exI 1 rfl e⟩
