def ln (f : Nat → Int32) : Nat := (f 22).toNatClampNeg
theorem ln_of {f : Nat → Int32} {k : Nat} (h : f 22 = nI k) (hk : k ≤ 24) : ln f = k := by unfold ln; rw [h]; exact nI_clamp (by omega)
theorem puF_hi {f u : Nat → Int32} {j : Nat} (h : 23 ≤ j) : puF f u j = f j := by
  unfold puF
  rw [if_neg (by omega), if_neg (by omega), if_neg (by omega), if_neg (by omega)]
/-- the rows behind predict and correct -/
def prF (f : Nat → Int32) (i : Int32) : Nat → Int32 := rcF (puF f (pE (eR f) i (f 5) (f 6))) (ln f) (-1) i
def acF (f : Nat → Int32) (sx rv : Int32) : Nat → Int32 := rcF (upd (puF f (cE (eR f) (f (8 + sx.toNatClampNeg)) (f (12 + sx.toNatClampNeg)) rv)) 19 (f 19 + 1)) (ln f) sx rv
def rjF (f : Nat → Int32) (sx rv : Int32) : Nat → Int32 := rcF (upd (puF f (cF (eR f) (f (8 + sx.toNatClampNeg)) rv)) 20 (f 20 + 1)) (ln f) sx rv
theorem upu_hi {f u : Nat → Int32} {j a : Nat} {x : Int32} (h : 23 ≤ j) (ha : a < 23) : upd (puF f u) a x j = f j := (pk_un (by omega)).trans (puF_hi h)
theorem cR_0 {n : Nat → Int64} {kd : Int32} {va rd : Int64} : ¬ cRej n kd va rd 0 := fun h => h.1 rfl
theorem rcF_lo {f : Nat → Int32} {k j : Nat} {w v : Int32} (h : j < 22) : rcF f k w v j = f j := by
  unfold rcF
  rw [if_neg (by omega), if_neg (by omega)]
theorem rcF_22 {f : Nat → Int32} {k : Nat} {w v : Int32} : rcF f k w v 22 = nI (addK 24 k) := by
  unfold rcF
  rw [if_pos rfl]
theorem puF_lo {f u : Nat → Int32} {j : Nat} (h : j < 5) : puF f u j = u j := by unfold puF; rw [if_pos h]
theorem puF_16 {f u : Nat → Int32} : puF f u 16 = u 5 := by unfold puF; rw [if_neg (by omega), if_pos rfl]
theorem puF_17 {f u : Nat → Int32} : puF f u 17 = u 6 := by unfold puF; rw [if_neg (by omega), if_neg (by omega), if_pos rfl]
theorem puF_18 {f u : Nat → Int32} : puF f u 18 = u 7 := by unfold puF; rw [if_neg (by omega), if_neg (by omega), if_neg (by omega), if_pos rfl]
theorem puF_ot {f u : Nat → Int32} {j : Nat} (h : (5 ≤ j ∧ j < 16) ∨ 19 ≤ j) : puF f u j = f j := by
  unfold puF
  rw [if_neg (by omega), if_neg (by omega), if_neg (by omega), if_neg (by omega)]
theorem pr_ot {f u : Nat → Int32} {k j : Nat} {w v : Int32} (h : (5 ≤ j ∧ j < 16) ∨ (19 ≤ j ∧ j < 22)) : rcF (puF f u) k w v j = f j := (rcF_lo (by omega)).trans (puF_ot (by omega))
theorem pr_lo {f u : Nat → Int32} {k j : Nat} {w v : Int32} (h : j < 5) : rcF (puF f u) k w v j = u j := (rcF_lo (by omega)).trans (puF_lo h)
theorem pr_16 {f u : Nat → Int32} {k : Nat} {w v : Int32} : rcF (puF f u) k w v 16 = u 5 := (rcF_lo (by omega)).trans puF_16
theorem pr_17 {f u : Nat → Int32} {k : Nat} {w v : Int32} : rcF (puF f u) k w v 17 = u 6 := (rcF_lo (by omega)).trans puF_17
theorem pr_18 {f u : Nat → Int32} {k : Nat} {w v : Int32} : rcF (puF f u) k w v 18 = u 7 := (rcF_lo (by omega)).trans puF_18
theorem ur_ot {f u : Nat → Int32} {k j a : Nat} {w v x : Int32} (h : (5 ≤ j ∧ j < 16) ∨ (19 ≤ j ∧ j < 22)) (ha : j ≠ a) : rcF (upd (puF f u) a x) k w v j = f j := (rcF_lo (by omega)).trans ((pk_un ha).trans (puF_ot (by omega)))
theorem ur_us {f u : Nat → Int32} {k a : Nat} {w v x : Int32} (h : a < 22) : rcF (upd (puF f u) a x) k w v a = x := (rcF_lo h).trans pk_us
theorem ur_lo {f u : Nat → Int32} {k j a : Nat} {w v x : Int32} (h : j < 5) (ha : 19 ≤ a) : rcF (upd (puF f u) a x) k w v j = u j := (rcF_lo (by omega)).trans ((pk_un (by omega)).trans (puF_lo h))
theorem ur_16 {f u : Nat → Int32} {k a : Nat} {w v x : Int32} (ha : 19 ≤ a) : rcF (upd (puF f u) a x) k w v 16 = u 5 := (rcF_lo (by omega)).trans ((pk_un (by omega)).trans puF_16)
theorem ur_17 {f u : Nat → Int32} {k a : Nat} {w v x : Int32} (ha : 19 ≤ a) : rcF (upd (puF f u) a x) k w v 17 = u 6 := (rcF_lo (by omega)).trans ((pk_un (by omega)).trans puF_17)
theorem ur_18 {f u : Nat → Int32} {k a : Nat} {w v x : Int32} (ha : 19 ≤ a) : rcF (upd (puF f u) a x) k w v 18 = u 7 := (rcF_lo (by omega)).trans ((pk_un (by omega)).trans puF_18)
/-- a State by its cells, whatever their numbers' names -/
theorem mkSt {D : va_G} {g : Nat → ClassId} {M : Nat → Prop} {H : Heap} {q qe qs qh qa k : Nat} {gs ge : Nat → Option Nat} {f : Nat → Int32} {a5 a6 a7 a19 a20 a21 b0 b1 b2 b3 b4 b16 b17 b18 : Int32} (hk : k ≤ 24) (e22 : f 22 = nI k) (hM : ¬ M q ∧ ¬ M qe ∧ ¬ M qs ∧ ¬ M qh ∧ ¬ M qa)
    (d0 : va_P D vwCl [(q, .inr (1, [.ref qe, .int a5, .int a6, .ref qs, .int a7, .ref qh, .int a19, .int a20, .int a21]))] H) (d1 : va_P D vwCl [(qe, .inr (2, [.int b0, .int b1, .int b2, .int b3, .int b4, .int b16, .int b17, .int b18]))] H) (d2 : va_P D vwCl [(qs, .inl (g 4, 4, .inr (.inr (.inr (.inr gs)))))] H) (d3 : va_P D vwCl [(qh, .inr (3, [.ref qa, .int (nI k)]))] H) (d4 : va_P D vwCl [(qa, .inl (g 3, 24, .inr (.inr (.inr (.inr ge)))))] H) (hsn : SnAt D M H gs f) (hev : EvAt D M H ge k f)
    (e5 : f 5 = a5) (e6 : f 6 = a6) (e7 : f 7 = a7) (e19 : f 19 = a19) (e20 : f 20 = a20) (e21 : f 21 = a21) (u0 : f 0 = b0) (u1 : f 1 = b1) (u2 : f 2 = b2) (u3 : f 3 = b3) (u4 : f 4 = b4) (u16 : f 16 = b16) (u17 : f 17 = b17) (u18 : f 18 = b18) : StAt D g M H q f := by
  subst e5; subst e6; subst e7; subst e19; subst e20; subst e21; subst u0; subst u1; subst u2; subst u3; subst u4; subst u16; subst u17; subst u18
  exact ⟨qe, qs, qh, qa, k, gs, ge, ⟨hk, e22⟩, hM, ⟨d0, d1, d2, d3, d4⟩, hsn, hev⟩
