/-! what every row between two calls has, and the past -/
theorem EstOK.cg {u v : Nat → Int32} (h : EstOK u) (e : ∀ k, k < 5 → v k = u k) : EstOK v := by
  obtain ⟨h1, h2, h3⟩ := h
  exact ⟨fun k hk => by rw [e k hk]; exact h1 k hk, by rw [e 2 (by omega)]; exact h2, by rw [e 4 (by omega)]; exact h3⟩
theorem eR_lo {f : Nat → Int32} {k : Nat} (h : k < 5) : eR f k = f k := if_pos h
theorem inR_int {lo hi a : Int32} (h : inR lo hi a) : lo.toInt ≤ a.toInt ∧ a.toInt ≤ hi.toInt := ⟨v_le.mp h.1, v_le.mp h.2⟩
/-- the settings and the events of a row -/
def SetOK (f : Nat → Int32) : Prop := (0 ≤ (f 5).toInt ∧ (f 5).toInt ≤ 4096000) ∧ (0 ≤ (f 6).toInt ∧ (f 6).toInt ≤ 4096000) ∧ (0 ≤ (f 7).toInt ∧ (f 7).toInt ≤ 25) ∧ (∀ i, i < 4 → (f (8 + i) = 0 ∨ f (8 + i) = 1) ∧ (1 ≤ (f (12 + i)).toInt ∧ (f (12 + i)).toInt ≤ 40960000))
def EvOK (f : Nat → Int32) (k : Nat) : Prop := ∀ i, i < k → (f (23 + 2 * i) = -1 ∨ ∃ j, j < 4 ∧ f (23 + 2 * i) = nI j) ∧ (-40960000 ≤ (f (24 + 2 * i)).toInt ∧ (f (24 + 2 * i)).toInt ≤ 40960000)
theorem RowOK.set {f : Nat → Int32} (h : RowOK f) : SetOK f := ⟨h.2.1, h.2.2.1, h.2.2.2.1, h.2.2.2.2.1⟩
theorem RowOK.ev {f : Nat → Int32} (h : RowOK f) : ∃ k, k ≤ 24 ∧ f 22 = nI k ∧ EvOK f k := h.2.2.2.2.2
theorem rowOK {f : Nat → Int32} {k : Nat} (h1 : EstOK (eR f)) (h2 : SetOK f) (hk : k ≤ 24) (hkf : f 22 = nI k) (h3 : EvOK f k) : RowOK f := ⟨h1, h2.1, h2.2.1, h2.2.2.1, h2.2.2.2, k, hk, hkf, h3⟩
theorem SetOK.cg {f f' : Nat → Int32} (h : SetOK f) (e : ∀ j, 5 ≤ j → j < 16 → f' j = f j) : SetOK f' := by
  obtain ⟨h1, h2, h3, h4⟩ := h
  refine ⟨by rw [e 5 (by omega) (by omega)]; exact h1, by rw [e 6 (by omega) (by omega)]; exact h2, by rw [e 7 (by omega) (by omega)]; exact h3, fun i hi => ?_⟩
  rw [e (8 + i) (by omega) (by omega), e (12 + i) (by omega) (by omega)]
  exact h4 i hi
theorem EvOK.cg {f f' : Nat → Int32} {k : Nat} (h : EvOK f k) (e : ∀ j, 23 ≤ j → f' j = f j) : EvOK f' k := fun i hi => by
  rw [e (23 + 2 * i) (by omega), e (24 + 2 * i) (by omega)]
  exact h i hi
theorem ok_reset {f : Nat → Int32} {lv fl va vc : Int32} (h : RowOK f) (hc : inR (-40960000) 40960000 lv ∧ inR (-4096000) 4096000 fl ∧ inR 0 40960000 va ∧ inR 0 40960000 vc) : RowOK (rsF f lv fl va vc) := by
  obtain ⟨a1, a2, a3, a4⟩ := hc
  have b1 := inR_int a1; have b2 := inR_int a2; have b3 := inR_int a3; have b4 := inR_int a4
  have e1 : (-40960000 : Int32).toInt = -40960000 := by decide
  have e2 : (40960000 : Int32).toInt = 40960000 := by decide
  have e3 : (-4096000 : Int32).toInt = -4096000 := by decide
  have e4 : (4096000 : Int32).toInt = 4096000 := by decide
  have e5 : (0 : Int32).toInt = 0 := by decide
  refine rowOK (k := 0) ⟨fun k hk => ?_, ?_, ?_⟩ (h.set.cg (fun j h1 h2 => ?_)) (by omega) rfl (fun i hi => absurd hi (Nat.not_lt_zero i))
  · rw [lim_iff, i64_int]
    rcases (show k = 0 ∨ k = 1 ∨ k = 2 ∨ k = 3 ∨ k = 4 by omega) with rfl | rfl | rfl | rfl | rfl
    · show -1000000000 ≤ lv.toInt ∧ lv.toInt ≤ 1000000000; omega
    · show -1000000000 ≤ fl.toInt ∧ fl.toInt ≤ 1000000000; omega
    · show -1000000000 ≤ va.toInt ∧ va.toInt ≤ 1000000000; omega
    · show -1000000000 ≤ (0 : Int32).toInt ∧ (0 : Int32).toInt ≤ 1000000000; omega
    · show -1000000000 ≤ vc.toInt ∧ vc.toInt ≤ 1000000000; omega
  · show 0 ≤ va.toInt; omega
  · show 0 ≤ vc.toInt; omega
  · unfold rsF
    rw [if_neg (by omega), if_neg (by omega), if_neg (by omega), if_neg (by omega), if_neg (by omega), if_pos h2]
theorem est_upd {f : Nat → Int32} {a : Nat} {x : Int32} (h : RowOK f) (ha : 5 ≤ a) : EstOK (eR (upd f a x)) := h.1.cg (fun k hk => by rw [eR_lo hk, eR_lo hk, pk_un (by omega)])
theorem ok_noise {f : Nat → Int32} {q w : Int32} (h : RowOK f) (hc : inR 0 4096000 q ∧ inR 0 4096000 w) : RowOK (upd (upd f 5 q) 6 w) := by
  have b1 := inR_int hc.1; have b2 := inR_int hc.2
  have e4 : (4096000 : Int32).toInt = 4096000 := by decide
  have e5 : (0 : Int32).toInt = 0 := by decide
  obtain ⟨k, hk, hkf, hev⟩ := h.ev
  obtain ⟨h1, h2, h3, h4⟩ := h.set
  refine rowOK (h.1.cg (fun k hk => by rw [eR_lo hk, eR_lo hk, u2n (by omega) (by omega)])) ⟨?_, ?_, ?_, fun i hi => ?_⟩ hk (by rw [u2n (by omega) (by omega)]; exact hkf) (hev.cg (fun j hj => u2n (by omega) (by omega)))
  · rw [pk_un (by omega), pk_us]; omega
  · rw [pk_us]; omega
  · rw [u2n (by omega) (by omega)]; exact h3
  · rw [u2n (by omega) (by omega), u2n (by omega) (by omega)]; exact h4 i hi
theorem ok_gate {f : Nat → Int32} {q : Int32} (h : RowOK f) (hc : inR 0 25 q) : RowOK (upd f 7 q) := by
  have b1 := inR_int hc
  have e4 : (25 : Int32).toInt = 25 := by decide
  have e5 : (0 : Int32).toInt = 0 := by decide
  obtain ⟨k, hk, hkf, hev⟩ := h.ev
  obtain ⟨h1, h2, h3, h4⟩ := h.set
  refine rowOK (est_upd h (by omega)) ⟨?_, ?_, ?_, fun i hi => ?_⟩ hk (by rw [pk_un (by omega)]; exact hkf) (hev.cg (fun j hj => pk_un (by omega)))
  · rw [pk_un (by omega)]; exact h1
  · rw [pk_un (by omega)]; exact h2
  · rw [pk_us]; omega
  · rw [pk_un (by omega), pk_un (by omega)]; exact h4 i hi
theorem ok_miss {f : Nat → Int32} {x : Int32} (h : RowOK f) : RowOK (upd f 21 x) := by
  obtain ⟨k, hk, hkf, hev⟩ := h.ev
  exact rowOK (est_upd h (by omega)) (h.set.cg (fun j h1 h2 => pk_un (by omega))) hk (by rw [pk_un (by omega)]; exact hkf) (hev.cg (fun j hj => pk_un (by omega)))
theorem inR_cl {a : Int32} {n : Nat} (hn : n < 2147483648) (h : inR 0 (nI n) a) : a.toNatClampNeg ≤ n ∧ a = nI a.toNatClampNeg := by
  obtain ⟨j, h1, h2⟩ := inR_nat hn h
  have : a.toNatClampNeg = j := by rw [h2]; exact nI_clamp (by omega)
  rw [this]
  exact ⟨h1, h2⟩
theorem inR01 {x : Int32} (h : inR 0 1 x) : x = 0 ∨ x = 1 := by
  obtain ⟨j, h1, h2⟩ := inR_nat (n := 1) (by decide) h
  rcases (show j = 0 ∨ j = 1 by omega) with e | e
  · left; rw [h2, e]; rfl
  · right; rw [h2, e]; rfl
theorem ok_sensor {f : Nat → Int32} {sx kd va : Int32} (h : RowOK f) (hc : inR 0 3 sx ∧ inR 0 1 kd ∧ inR 1 40960000 va) : RowOK (upd (upd f (8 + sx.toNatClampNeg) kd) (12 + sx.toNatClampNeg) va) := by
  have hs := (inR_cl (n := 3) (by decide) hc.1).1
  generalize sx.toNatClampNeg = se at hs ⊢
  have b2 := inR_int hc.2.2
  have e4 : (40960000 : Int32).toInt = 40960000 := by decide
  have e5 : (1 : Int32).toInt = 1 := by decide
  obtain ⟨k, hk, hkf, hev⟩ := h.ev
  obtain ⟨h1, h2, h3, h4⟩ := h.set
  refine rowOK (h.1.cg (fun k hk => by rw [eR_lo hk, eR_lo hk, u2n (by omega) (by omega)])) ⟨?_, ?_, ?_, fun i hi => ?_⟩ hk (by rw [u2n (by omega) (by omega)]; exact hkf) (hev.cg (fun j hj => u2n (by omega) (by omega)))
  · rw [u2n (by omega) (by omega)]; exact h1
  · rw [u2n (by omega) (by omega)]; exact h2
  · rw [u2n (by omega) (by omega)]; exact h3
  · by_cases e : i = se
    · subst e
      rw [pk_un (show 8 + i ≠ 12 + i by omega), pk_us, pk_us]
      exact ⟨inR01 hc.2.1, by omega⟩
    · rw [u2n (by omega) (by omega), u2n (by omega) (by omega)]; exact h4 i hi
theorem ok_rec {f b : Nat → Int32} {k : Nat} {who val : Int32} (h : SetOK f) (hev : EvOK f k) (hk : k ≤ 24) (hb : EstOK (eR b)) (e1 : ∀ j, 5 ≤ j → j < 16 → b j = f j) (e2 : ∀ j, 23 ≤ j → b j = f j) (hw : who = -1 ∨ ∃ j, j < 4 ∧ who = nI j) (hv : -40960000 ≤ val.toInt ∧ val.toInt ≤ 40960000) : RowOK (rcF b k who val) := by
  refine rowOK (k := addK 24 k) (hb.cg (fun k hk => by rw [eR_lo hk, eR_lo hk, rcF_lo (by omega)])) (h.cg (fun j h1 h2 => by rw [rcF_lo (by omega), e1 j h1 h2])) (addK_le hk) rcF_22 (fun i hi => ?_)
  unfold addK at hi
  by_cases h4 : k = 24
  · rw [if_pos h4] at hi
    by_cases h5 : i = 23
    · have q1 : rcF b k who val (23 + 2 * i) = who := by unfold rcF; rw [if_neg (by omega), if_pos (by omega), if_pos h4, if_pos (by omega)]
      have q2 : rcF b k who val (24 + 2 * i) = val := by unfold rcF; rw [if_neg (by omega), if_pos (by omega), if_pos h4, if_neg (by omega), if_pos (by omega)]
      rw [q1, q2]
      exact ⟨hw, hv⟩
    · have q1 : rcF b k who val (23 + 2 * i) = f (23 + 2 * (i + 1)) := by unfold rcF; rw [if_neg (by omega), if_pos (by omega), if_pos h4, if_neg (by omega), if_neg (by omega), e2 _ (by omega)]; congr 1
      have q2 : rcF b k who val (24 + 2 * i) = f (24 + 2 * (i + 1)) := by unfold rcF; rw [if_neg (by omega), if_pos (by omega), if_pos h4, if_neg (by omega), if_neg (by omega), e2 _ (by omega)]; congr 1
      rw [q1, q2]
      exact hev (i + 1) (by omega)
  · rw [if_neg h4] at hi
    by_cases h5 : i = k
    · have q1 : rcF b k who val (23 + 2 * i) = who := by unfold rcF; rw [if_neg (by omega), if_pos (by omega), if_neg h4, if_pos (by omega)]
      have q2 : rcF b k who val (24 + 2 * i) = val := by unfold rcF; rw [if_neg (by omega), if_pos (by omega), if_neg h4, if_neg (by omega), if_pos (by omega)]
      rw [q1, q2]
      exact ⟨hw, hv⟩
    · have q1 : rcF b k who val (23 + 2 * i) = f (23 + 2 * i) := by unfold rcF; rw [if_neg (by omega), if_pos (by omega), if_neg h4, if_neg (by omega), if_neg (by omega), e2 _ (by omega)]
      have q2 : rcF b k who val (24 + 2 * i) = f (24 + 2 * i) := by unfold rcF; rw [if_neg (by omega), if_pos (by omega), if_neg h4, if_neg (by omega), if_neg (by omega), e2 _ (by omega)]
      rw [q1, q2]
      exact hev i (by omega)
theorem est_pu {f u : Nat → Int32} (h : EstOK u) : EstOK (eR (puF f u)) := h.cg (fun k hk => by rw [eR_lo hk, puF_lo hk])
theorem est_upu {f u : Nat → Int32} {a : Nat} {x : Int32} (h : EstOK u) (ha : 5 ≤ a) : EstOK (eR (upd (puF f u) a x)) := h.cg (fun k hk => by rw [eR_lo hk, pk_un (by omega), puF_lo hk])
theorem ok_predict {f : Nat → Int32} {i : Int32} (h : RowOK f) (hc : inR (-4096000) 4096000 i) (hok : pOK (e64 (eR f)) i.toInt64 (f 5).toInt64 (f 6).toInt64) : RowOK (prF f i) := by
  obtain ⟨k, hk, hkf, hev⟩ := h.ev
  have b1 := inR_int hc
  have e3 : (-4096000 : Int32).toInt = -4096000 := by decide
  have e4 : (4096000 : Int32).toInt = 4096000 := by decide
  unfold prF
  rw [ln_of hkf hk]
  exact ok_rec h.set hev hk (est_pu (pE_ok h.1 h.2.2.1 hok)) (fun j h1 h2 => puF_ot (by omega)) (fun j h1 => puF_ot (by omega)) (Or.inl rfl) (by omega)
theorem who_ok {sx : Int32} (h : inR 0 3 sx) : sx = -1 ∨ ∃ j, j < 4 ∧ sx = nI j := by
  obtain ⟨j, h1, h2⟩ := inR_nat (n := 3) (by decide) h
  exact Or.inr ⟨j, by omega, h2⟩
theorem val_ok {rv : Int32} (h : inR (-40960000) 40960000 rv) : -40960000 ≤ rv.toInt ∧ rv.toInt ≤ 40960000 := by
  have b1 := inR_int h
  have e1 : (-40960000 : Int32).toInt = -40960000 := by decide
  have e2 : (40960000 : Int32).toInt = 40960000 := by decide
  omega
theorem ok_accept {f : Nat → Int32} {sx rv : Int32} (h : RowOK f) (hc : inR 0 3 sx ∧ inR (-40960000) 40960000 rv) (hok : cOK (e64 (eR f)) (f (8 + sx.toNatClampNeg)) (f (12 + sx.toNatClampNeg)).toInt64 rv.toInt64) : RowOK (acF f sx rv) := by
  obtain ⟨k, hk, hkf, hev⟩ := h.ev
  unfold acF
  rw [ln_of hkf hk]
  exact ok_rec h.set hev hk (est_upu (cE_ok hok) (by omega)) (fun j h1 h2 => by rw [pk_un (by omega), puF_ot (by omega)]) (fun j h1 => by rw [pk_un (by omega), puF_ot (by omega)]) (who_ok hc.1) (val_ok hc.2)
theorem ok_reject {f : Nat → Int32} {sx rv : Int32} (h : RowOK f) (hc : inR 0 3 sx ∧ inR (-40960000) 40960000 rv) : RowOK (rjF f sx rv) := by
  obtain ⟨k, hk, hkf, hev⟩ := h.ev
  unfold rjF
  rw [ln_of hkf hk]
  exact ok_rec h.set hev hk (est_upu (h.1.cg (fun k hk => by
    rcases (show k = 0 ∨ k = 1 ∨ k = 2 ∨ k = 3 ∨ k = 4 by omega) with rfl | rfl | rfl | rfl | rfl <;> rfl)) (by omega)) (fun j h1 h2 => by rw [pk_un (by omega), puF_ot (by omega)]) (fun j h1 => by rw [pk_un (by omega), puF_ot (by omega)]) (who_ok hc.1) (val_ok hc.2)
theorem ok_ini : RowOK iniF := by
  refine rowOK (k := 0) ⟨fun k hk => ?_, by decide, by decide⟩ ⟨by decide, by decide, by decide, fun i hi => ?_⟩ (by omega) rfl (fun i hi => absurd hi (Nat.not_lt_zero i))
  · rw [lim_iff, i64_int]
    rcases (show k = 0 ∨ k = 1 ∨ k = 2 ∨ k = 3 ∨ k = 4 by omega) with rfl | rfl | rfl | rfl | rfl <;> decide
  · rcases (show i = 0 ∨ i = 1 ∨ i = 2 ∨ i = 3 by omega) with rfl | rfl | rfl | rfl <;> decide
/-- the rows all in bounds, the past the same on both sides -/
def LJ (np : Nat) (f : Nat → Int32) (pf : Nat → Nat → Int32) (pa : Nat → Int32) : Prop := RowOK f ∧ (∀ i, i < np → RowOK (pf i)) ∧ (∀ i, i < np → ∀ k, k < 71 → pa (71 * i + k) = pf i k) ∧ np ≤ 4
theorem LJ.add {np : Nat} {f f' : Nat → Int32} {pf : Nat → Nat → Int32} {pa : Nat → Int32} (h : LJ np f pf pa) (hf : RowOK f') : LJ (addK 4 np) f' (addP 4 np pf f) (ntF np pa f) := by
  obtain ⟨h1, h2, h3, h4⟩ := h
  refine ⟨hf, fun i hi => ?_, fun i hi k hk => ?_, addK_le4 h4⟩
  · unfold addK at hi
    unfold addP
    by_cases e : np = 4
    · rw [if_pos e] at hi ⊢
      by_cases e1 : i + 1 = 4
      · rw [if_pos e1]; exact h1
      · rw [if_neg e1]; exact h2 (i + 1) (by omega)
    · rw [if_neg e] at hi ⊢
      by_cases e1 : i = np
      · rw [if_pos e1]; exact h1
      · rw [if_neg e1]; exact h2 i (by omega)
  · unfold addK at hi
    unfold addP ntF
    by_cases e : np = 4
    · rw [if_pos e] at hi ⊢
      rw [if_pos e]
      unfold ptF shF
      by_cases e1 : i + 1 = 4
      · rw [if_pos e1, if_pos (by omega), show 71 * i + k - 71 * 3 = k by omega]
      · rw [if_neg e1, if_neg (by omega), if_pos (by omega), ← h3 (i + 1) (by omega) k hk]
        congr 1
        omega
    · rw [if_neg e] at hi ⊢
      rw [if_neg e]
      unfold ptF
      by_cases e1 : i = np
      · subst e1
        rw [if_pos rfl, if_pos (by omega), show 71 * i + k - 71 * i = k by omega]
      · rw [if_neg e1, if_neg (by omega), h3 i (by omega) k hk]
theorem LJ.undo {j : Nat} {f : Nat → Int32} {pf : Nat → Nat → Int32} {pa : Nat → Int32} (h : LJ (j + 1) f pf pa) : LJ j (pf j) pf pa := ⟨h.2.1 j (by omega), fun i hi => h.2.1 i (by omega), fun i hi => h.2.2.1 i (by omega), by have := h.2.2.2; omega⟩
