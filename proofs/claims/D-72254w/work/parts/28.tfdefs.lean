/-! a State that nobody writes any more: it represents the row f. M: the cells that are written from call to call -/
def StAt (D : va_G) (g : Nat → ClassId) (M : Nat → Prop) (H : Heap) (q : Nat) (f : Nat → Int32) : Prop := ∃ (qe qs qh qa k : Nat) (gs ge : Nat → Option Nat), (k ≤ 24 ∧ f 22 = nI k) ∧ (¬ M q ∧ ¬ M qe ∧ ¬ M qs ∧ ¬ M qh ∧ ¬ M qa) ∧
  (va_P D vwCl [(q, .inr (1, [.ref qe, .int (f 5), .int (f 6), .ref qs, .int (f 7), .ref qh, .int (f 19), .int (f 20), .int (f 21)]))] H ∧ va_P D vwCl [(qe, .inr (2, [.int (f 0), .int (f 1), .int (f 2), .int (f 3), .int (f 4), .int (f 16), .int (f 17), .int (f 18)]))] H ∧ va_P D vwCl [(qs, .inl (g 4, 4, .inr (.inr (.inr (.inr gs)))))] H ∧ va_P D vwCl [(qh, .inr (3, [.ref qa, .int (nI k)]))] H ∧ va_P D vwCl [(qa, .inl (g 3, 24, .inr (.inr (.inr (.inr ge)))))] H) ∧ SnAt D M H gs f ∧ EvAt D M H ge k f
theorem StAt.kept {D : va_G} {g : Nat → ClassId} {M : Nat → Prop} {H H1 : Heap} {q : Nat} {f : Nat → Int32} (h : StAt D g M H q f) (hk : ∀ q, q < H.size → ¬ M q → H1[q]? = H[q]?) : StAt D g M H1 q f := by
  obtain ⟨qe, qs, qh, qa, k, gs, ge, h1, h2, ⟨a1, a2, a3, a4, a5⟩, h4, h5⟩ := h
  exact ⟨qe, qs, qh, qa, k, gs, ge, h1, h2, ⟨p_kept a1 (hk _ (p_lt a1) h2.1), p_kept a2 (hk _ (p_lt a2) h2.2.1), p_kept a3 (hk _ (p_lt a3) h2.2.2.1), p_kept a4 (hk _ (p_lt a4) h2.2.2.2.1), p_kept a5 (hk _ (p_lt a5) h2.2.2.2.2)⟩, h4.kept hk, h5.kept hk⟩
theorem StAt.mono {D : va_G} {g : Nat → ClassId} {M M' : Nat → Prop} {H : Heap} {q : Nat} {f : Nat → Int32} (h : StAt D g M H q f) (hm : ∀ a, a < H.size → ¬ M a → ¬ M' a) : StAt D g M' H q f := by
  obtain ⟨qe, qs, qh, qa, k, gs, ge, h1, h2, ⟨a1, a2, a3, a4, a5⟩, h4, h5⟩ := h
  refine ⟨qe, qs, qh, qa, k, gs, ge, h1, ⟨hm _ (p_lt a1) h2.1, hm _ (p_lt a2) h2.2.1, hm _ (p_lt a3) h2.2.2.1, hm _ (p_lt a4) h2.2.2.2.1, hm _ (p_lt a5) h2.2.2.2.2⟩, ⟨a1, a2, a3, a4, a5⟩, fun i hi => ?_, fun i hi => ?_⟩
  · obtain ⟨y, b1, b2, b3⟩ := h4 i hi
    exact ⟨y, b1, hm _ (p_lt b3) b2, b3⟩
  · obtain ⟨y, a, b1, b2, b3, b4⟩ := h5 i hi
    exact ⟨y, a, b1, hm _ (p_lt b4) b2, b3, b4⟩
theorem StAt.to {D : va_G} {g : Nat → ClassId} {M : Nat → Prop} {H : Heap} {q : Nat} {f f' : Nat → Int32} (h : StAt D g M H q f) (he : ∀ k, k < 71 → f' k = f k) : StAt D g M H q f' := by
  obtain ⟨qe, qs, qh, qa, k, gs, ge, h1, h2, ⟨a1, a2, a3, a4, a5⟩, h4, h5⟩ := h
  refine ⟨qe, qs, qh, qa, k, gs, ge, ⟨h1.1, (he 22 (by omega)).trans h1.2⟩, h2, ⟨?_, ?_, a3, a4, a5⟩, h4.to (fun _ _ => rfl) (fun i hi => ⟨he _ (by omega), he _ (by omega)⟩), h5.to (fun _ _ => rfl) (fun i hi => ⟨he _ (by omega), he _ (by omega)⟩)⟩
  · rw [he 5 (by omega), he 6 (by omega), he 7 (by omega), he 19 (by omega), he 20 (by omega), he 21 (by omega)]; exact a1
  · rw [he 0 (by omega), he 1 (by omega), he 2 (by omega), he 3 (by omega), he 4 (by omega), he 16 (by omega), he 17 (by omega), he 18 (by omega)]; exact a2
theorem StAt.obj {D : va_G} {g : Nat → ClassId} {M : Nat → Prop} {H : Heap} {q : Nat} {f : Nat → Int32} (h : StAt D g M H q f) : ∃ fs, va_P D vwCl [(q, .inr (1, fs))] H := by
  obtain ⟨qe, qs, qh, qa, k, gs, ge, h1, h2, ⟨a1, _⟩, _⟩ := h
  exact ⟨_, a1⟩
def SvAt (D : va_G) (g : Nat → ClassId) (M : Nat → Prop) (H : Heap) (np : Nat) (fs : Nat → Option Nat) (pf : Nat → Nat → Int32) : Prop := ∀ i, i < np → ∃ q, fs i = some q ∧ StAt D g M H q (pf i)
theorem SvAt.kept {D : va_G} {g : Nat → ClassId} {M : Nat → Prop} {H H1 : Heap} {np : Nat} {fs : Nat → Option Nat} {pf : Nat → Nat → Int32} (h : SvAt D g M H np fs pf) (hk : ∀ q, q < H.size → ¬ M q → H1[q]? = H[q]?) : SvAt D g M H1 np fs pf := fun i hi => by
  obtain ⟨q, h1, h2⟩ := h i hi
  exact ⟨q, h1, h2.kept hk⟩
theorem SvAt.el {D : va_G} {g : Nat → ClassId} {M : Nat → Prop} {H : Heap} {np : Nat} {fs : Nat → Option Nat} {pf : Nat → Nat → Int32} (h : SvAt D g M H np fs pf) : ∀ i, i < np → ∀ y, fs i = some y → ∃ fs, va_P D vwCl [(y, .inr (1, fs))] H := fun i hi y hy => by
  obtain ⟨q, h1, h2⟩ := h i hi
  rw [h1] at hy
  cases hy
  exact h2.obj
/-- the rows saved, one more -/
def addP (n k : Nat) (pf : Nat → Nat → Int32) (f : Nat → Int32) : Nat → Nat → Int32 := fun j => if k = n then (if j + 1 = n then f else pf (j + 1)) else (if j = k then f else pf j)
theorem SvAt.add {D : va_G} {g : Nat → ClassId} {M : Nat → Prop} {H : Heap} {np cur : Nat} {fs : Nat → Option Nat} {pf : Nat → Nat → Int32} {f : Nat → Int32} (h : SvAt D g M H np fs pf) (hc : StAt D g M H cur f) (hn : np ≤ 4) : SvAt D g M H (addK 4 np) (addF 4 np fs cur) (addP 4 np pf f) := by
  intro i hi
  unfold addK at hi
  unfold addF addP
  by_cases h4 : np = 4
  · rw [if_pos h4] at hi
    by_cases h5 : i + 1 = 4
    · rw [if_pos h4, if_pos h4, if_pos h5, if_pos h5]; exact ⟨cur, rfl, hc⟩
    · rw [if_pos h4, if_pos h4, if_neg h5, if_neg h5]; exact h (i + 1) (by omega)
  · rw [if_neg h4] at hi
    by_cases h5 : i = np
    · rw [if_neg h4, if_neg h4, if_pos h5, if_pos h5]; exact ⟨cur, rfl, hc⟩
    · rw [if_neg h4, if_neg h4, if_neg h5, if_neg h5]; exact h i (by omega)
/-- the whole filter between two calls -/
def TFI (D : va_G) (g : Nat → ClassId) (M : Nat → Prop) (H : Heap) (xo sv sa er rd np : Nat) (ef f : Nat → Int32) (pf : Nat → Nat → Int32) : Prop := ∃ (cur : Nat) (fs : Nat → Option Nat), va_P D vwCl [(xo, .inr (0, [.ref cur, .ref sv, .ref rd, .ref er])), (sv, .inr (3, [.ref sa, .int (nI np)])), (sa, .inl (g 2, 4, .inr (.inr (.inr (.inr fs))))), (er, .inl (g 0, 3, .inl ef))] H ∧ va_P D vwCl [(rd, .inr (5, []))] H ∧ StAt D g M H cur f ∧ SvAt D g M H np fs pf ∧ np ≤ 4
theorem newAt {L : List Nat} {n : Nat} {ws : va_W} (hD : va_D (Aw L n) ws) (i : Nat) (isC : List Nat) {p : Nat × va_E} (hi : ws[i]? = some p) (hC : isC.map (fun j => (ws[j]?).map (·.1)) = L.map some) (hn : i ∉ isC) : n ≤ p.1 := by
  rcases hD.2 i p hi with h | h
  · exact absurd h (ninW hD i isC hi hC hn)
  · exact h
theorem newM {M : Nat → Prop} {n a : Nat} (hMl : ∀ q, M q → q < n) (h : n ≤ a) : ¬ M a := fun q => absurd (hMl a q) (Nat.not_lt.mpr h)
/-! rows behind the operations -/
def rsF (f : Nat → Int32) (lv fl va vc : Int32) : Nat → Int32 := fun k => if k = 0 then lv else if k = 1 then fl else if k = 2 then va else if k = 3 then 0 else if k = 4 then vc else if k < 16 then f k else if k < 19 then -2000000001 else 0
/-- the estimate's numbers in a row -/
def puF (f u : Nat → Int32) : Nat → Int32 := fun k => if k < 5 then u k else if k = 16 then u 5 else if k = 17 then u 6 else if k = 18 then u 7 else f k
/-- one event more -/
def rcF (f : Nat → Int32) (k : Nat) (who val : Int32) : Nat → Int32 := fun j => if j = 22 then nI (addK 24 k) else if 23 ≤ j then (if k = 24 then (if j = 69 then who else if j = 70 then val else f (j + 2)) else (if j = 23 + 2 * k then who else if j = 24 + 2 * k then val else f j)) else f j
theorem EvAt.add {D : va_G} {M : Nat → Prop} {H : Heap} {ge : Nat → Option Nat} {k y : Nat} {f : Nat → Int32} {a val who : Int32} (h : EvAt D M H ge k f) (hk : k ≤ 24) (hy : ¬ M y) (hw : who = evw a) (hp : va_P D vwCl [(y, .inr (8, [.int a, .int val]))] H) : EvAt D M H (addF 24 k ge y) (addK 24 k) (rcF f k who val) := by
  intro i hi
  unfold addK at hi
  by_cases h4 : k = 24
  · rw [if_pos h4] at hi
    by_cases h5 : i + 1 = 24
    · refine ⟨y, a, ?_, hy, ?_, ?_⟩
      · unfold addF; rw [if_pos h4, if_pos h5]
      · unfold rcF; rw [if_neg (by omega), if_pos (by omega), if_pos h4, if_pos (by omega)]; exact hw
      · have e : rcF f k who val (24 + 2 * i) = val := by unfold rcF; rw [if_neg (by omega), if_pos (by omega), if_pos h4, if_neg (by omega), if_pos (by omega)]
        rw [e]; exact hp
    · obtain ⟨y', a', b1, b2, b3, b4⟩ := h (i + 1) (by omega)
      refine ⟨y', a', ?_, b2, ?_, ?_⟩
      · unfold addF; rw [if_pos h4, if_neg h5]; exact b1
      · unfold rcF; rw [if_neg (by omega), if_pos (by omega), if_pos h4, if_neg (by omega), if_neg (by omega), show 23 + 2 * i + 2 = 23 + 2 * (i + 1) by omega]; exact b3
      · have e : rcF f k who val (24 + 2 * i) = f (24 + 2 * (i + 1)) := by unfold rcF; rw [if_neg (by omega), if_pos (by omega), if_pos h4, if_neg (by omega), if_neg (by omega)]; congr 1
        rw [e]; exact b4
  · rw [if_neg h4] at hi
    by_cases h5 : i = k
    · refine ⟨y, a, ?_, hy, ?_, ?_⟩
      · unfold addF; rw [if_neg h4, if_pos h5]
      · unfold rcF; rw [if_neg (by omega), if_pos (by omega), if_neg h4, if_pos (by omega)]; exact hw
      · have e : rcF f k who val (24 + 2 * i) = val := by unfold rcF; rw [if_neg (by omega), if_pos (by omega), if_neg h4, if_neg (by omega), if_pos (by omega)]
        rw [e]; exact hp
    · obtain ⟨y', a', b1, b2, b3, b4⟩ := h i (by omega)
      refine ⟨y', a', ?_, b2, ?_, ?_⟩
      · unfold addF; rw [if_neg h4, if_neg h5]; exact b1
      · unfold rcF; rw [if_neg (by omega), if_pos (by omega), if_neg h4, if_neg (by omega), if_neg (by omega)]; exact b3
      · have e : rcF f k who val (24 + 2 * i) = f (24 + 2 * i) := by unfold rcF; rw [if_neg (by omega), if_pos (by omega), if_neg h4, if_neg (by omega), if_neg (by omega)]
        rw [e]; exact b4
theorem addK_le {k : Nat} (hk : k ≤ 24) : addK 24 k ≤ 24 := by unfold addK; split <;> omega
theorem addK_le4 {k : Nat} (hk : k ≤ 4) : addK 4 k ≤ 4 := by unfold addK; split <;> omega
