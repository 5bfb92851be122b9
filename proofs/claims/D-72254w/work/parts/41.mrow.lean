/-! rows behind the reference's operations -/
theorem rs_eq {f : Nat → Int32} {lv fl va vc : Int32} {j : Nat} (hj : j < 71) : fgK (upd (upd (upd (upd (upd f 0 lv) 1 fl) 2 va) 3 0) 4 vc) 71 j = rsF f lv fl va vc j := by
  rcases (show j = 0 ∨ j = 1 ∨ j = 2 ∨ j = 3 ∨ j = 4 ∨ (5 ≤ j ∧ j < 16) ∨ 16 ≤ j by omega) with h | h | h | h | h | h | h
  · subst h; rfl
  · subst h; rfl
  · subst h; rfl
  · subst h; rfl
  · subst h; rfl
  · unfold fgK rsF
    rw [if_neg (by omega), pk_un (by omega), pk_un (by omega), pk_un (by omega), pk_un (by omega), pk_un (by omega), if_neg (by omega), if_neg (by omega), if_neg (by omega), if_neg (by omega), if_neg (by omega), if_pos h.2]
  · unfold fgK rsF
    rw [if_pos ⟨h, hj⟩, if_neg (show ¬ j = 0 by omega), if_neg (show ¬ j = 1 by omega), if_neg (show ¬ j = 2 by omega), if_neg (show ¬ j = 3 by omega), if_neg (show ¬ j = 4 by omega), if_neg (show ¬ j < 16 by omega)]
theorem p5_stepu {f u : Nat → Int32} {i j : Nat} : upd (p5F f u i) i (u i) j = p5F f u (i + 1) j := by
  by_cases e : j = i
  · subst e
    rw [pk_us]
    unfold p5F
    rw [if_pos (by omega)]
  · rw [pk_un e]
    unfold p5F
    by_cases h1 : j < i
    · rw [if_pos h1, if_pos (by omega)]
    · rw [if_neg h1, if_neg (by omega)]
theorem p5_lo {f u : Nat → Int32} {i j : Nat} (h : j < i) : p5F f u i j = u j := if_pos h
theorem p5_hi {f u : Nat → Int32} {i j : Nat} (h : i ≤ j) : p5F f u i j = f j := if_neg (Nat.not_lt.mpr h)
theorem p5_pu {f u : Nat → Int32} (h5 : u 5 = f 16) (h6 : u 6 = f 17) (h7 : u 7 = f 18) : p5F f u 5 = puF f u := by
  funext j
  rcases (show j < 5 ∨ j = 16 ∨ j = 17 ∨ j = 18 ∨ ((5 ≤ j ∧ j < 16) ∨ 19 ≤ j) by omega) with h | h | h | h | h
  · rw [p5_lo h, puF_lo h]
  · subst h; rw [p5_hi (by omega), puF_16, h5]
  · subst h; rw [p5_hi (by omega), puF_17, h6]
  · subst h; rw [p5_hi (by omega), puF_18, h7]
  · rw [p5_hi (by omega), puF_ot h]
theorem pr_eq {f : Nat → Int32} {k : Nat} {i : Int32} (hk : k ≤ 24) (hkf : f 22 = nI k) : rcF (p5F f (pE (eR f) i (f 5) (f 6)) 5) k (-1) i = prF f i := by
  unfold prF
  rw [ln_of hkf hk, p5_pu rfl rfl rfl]
theorem rc_up {b b' : Nat → Int32} {k j : Nat} {who val : Int32} (h : ∀ j, 23 ≤ j → b j = b' j) (hj : 22 ≤ j) : rcF b k who val j = rcF b' k who val j := by
  unfold rcF
  by_cases e : j = 22
  · rw [if_pos e, if_pos e]
  · rw [if_neg e, if_neg e, if_pos (show 23 ≤ j by omega), if_pos (show 23 ≤ j by omega), h j (by omega), h (j + 2) (by omega)]
theorem rj_eq {f u U : Nat → Int32} {k j : Nat} {y x sx rv : Int32} (h5 : U 5 = y) (h6 : U 6 = f 17) (h7 : U 7 = f 18) (hU : ∀ k, k < 5 → U k = u k) : upd (upd (rcF (p5F f u 5) k sx rv) 16 y) 20 x j = rcF (upd (puF f U) 20 x) k sx rv j := by
  rcases (show j < 5 ∨ (5 ≤ j ∧ j < 16) ∨ j = 16 ∨ j = 17 ∨ j = 18 ∨ j = 19 ∨ j = 20 ∨ j = 21 ∨ 22 ≤ j by omega) with h | h | h | h | h | h | h | h | h
  · rw [pk_un (by omega), pk_un (by omega), rcF_lo (by omega), rcF_lo (by omega), pk_un (by omega), p5_lo h, puF_lo h, hU j h]
  · rw [pk_un (by omega), pk_un (by omega), rcF_lo (by omega), rcF_lo (by omega), pk_un (by omega), p5_hi (by omega), puF_ot (by omega)]
  · subst h; rw [pk_un (by omega), pk_us, rcF_lo (by omega), pk_un (by omega), puF_16, h5]
  · subst h; rw [pk_un (by omega), pk_un (by omega), rcF_lo (by omega), rcF_lo (by omega), pk_un (by omega), p5_hi (by omega), puF_17, h6]
  · subst h; rw [pk_un (by omega), pk_un (by omega), rcF_lo (by omega), rcF_lo (by omega), pk_un (by omega), p5_hi (by omega), puF_18, h7]
  · subst h; rw [pk_un (by omega), pk_un (by omega), rcF_lo (by omega), rcF_lo (by omega), pk_un (by omega), p5_hi (by omega), puF_ot (by omega)]
  · subst h; rw [pk_us, rcF_lo (by omega), pk_us]
  · subst h; rw [pk_un (by omega), pk_un (by omega), rcF_lo (by omega), rcF_lo (by omega), pk_un (by omega), p5_hi (by omega), puF_ot (by omega)]
  · rw [pk_un (by omega), pk_un (by omega)]
    exact rc_up (fun j hj => by rw [p5_hi (by omega), pk_un (by omega), puF_ot (by omega)]) h
theorem ac_eq {f U : Nat → Int32} {k j : Nat} {x sx rv : Int32} : upd (upd (upd (upd (rcF (p5F f U 5) k sx rv) 16 (U 5)) 17 (U 6)) 18 (U 7)) 19 x j = rcF (upd (puF f U) 19 x) k sx rv j := by
  rcases (show j < 5 ∨ (5 ≤ j ∧ j < 16) ∨ j = 16 ∨ j = 17 ∨ j = 18 ∨ j = 19 ∨ j = 20 ∨ j = 21 ∨ 22 ≤ j by omega) with h | h | h | h | h | h | h | h | h
  · rw [pk_un (by omega), pk_un (by omega), pk_un (by omega), pk_un (by omega), rcF_lo (by omega), rcF_lo (by omega), pk_un (by omega), p5_lo h, puF_lo h]
  · rw [pk_un (by omega), pk_un (by omega), pk_un (by omega), pk_un (by omega), rcF_lo (by omega), rcF_lo (by omega), pk_un (by omega), p5_hi (by omega), puF_ot (by omega)]
  · subst h; rw [pk_un (by omega), pk_un (by omega), pk_un (by omega), pk_us, rcF_lo (by omega), pk_un (by omega), puF_16]
  · subst h; rw [pk_un (by omega), pk_un (by omega), pk_us, rcF_lo (by omega), pk_un (by omega), puF_17]
  · subst h; rw [pk_un (by omega), pk_us, rcF_lo (by omega), pk_un (by omega), puF_18]
  · subst h; rw [pk_us, rcF_lo (by omega), pk_us]
  · subst h; rw [pk_un (by omega), pk_un (by omega), pk_un (by omega), pk_un (by omega), rcF_lo (by omega), rcF_lo (by omega), pk_un (by omega), p5_hi (by omega), puF_ot (by omega)]
  · subst h; rw [pk_un (by omega), pk_un (by omega), pk_un (by omega), pk_un (by omega), rcF_lo (by omega), rcF_lo (by omega), pk_un (by omega), p5_hi (by omega), puF_ot (by omega)]
  · rw [pk_un (by omega), pk_un (by omega), pk_un (by omega), pk_un (by omega)]
    exact rc_up (fun j hj => by rw [p5_hi (by omega), pk_un (by omega), puF_ot (by omega)]) h
theorem rj_fin {f : Nat → Int32} {k se j : Nat} {sx rv y x : Int32} (hk : k ≤ 24) (hkf : f 22 = nI k) (hs : sx.toNatClampNeg = se) (hy : y = (cY (e64 (eR f)) (f (8 + se)) rv.toInt64).toInt32) (hx : x = f 20 + 1) : upd (upd (rcF (p5F f (eR f) 5) k sx rv) 16 y) 20 x j = rjF f sx rv j := by
  unfold rjF
  rw [ln_of hkf hk, hs, ← hx]
  exact rj_eq hy.symm rfl rfl (fun k hk => by
    rcases (show k = 0 ∨ k = 1 ∨ k = 2 ∨ k = 3 ∨ k = 4 by omega) with rfl | rfl | rfl | rfl | rfl <;> rfl)
theorem ac_fin {f : Nat → Int32} {k se j : Nat} {sx rv y a b x : Int32} (hk : k ≤ 24) (hkf : f 22 = nI k) (hs : sx.toNatClampNeg = se) (hy : y = (cY (e64 (eR f)) (f (8 + se)) rv.toInt64).toInt32) (ha : a = (cK (e64 (eR f)) (f (8 + se)) (f (12 + se)).toInt64).toInt32) (hb : b = (cL (e64 (eR f)) (f (8 + se)) (f (12 + se)).toInt64).toInt32) (hx : x = f 19 + 1) : upd (upd (upd (upd (rcF (p5F f (cE (eR f) (f (8 + se)) (f (12 + se)) rv) 5) k sx rv) 16 y) 17 a) 18 b) 19 x j = acF f sx rv j := by
  unfold acF
  rw [ln_of hkf hk, hs, hx, hy, ha, hb]
  exact ac_eq
