/-! rows of my own: a compare of longs with its branch; arrays by a place that is a Nat; numbers by their Nat -/
theorem nadd {x y : Int32} {a b : Nat} (h1 : x = nI a) (h2 : y = nI b) : x + y = nI (a + b) := by rw [h1, h2]; exact nI_add a b
theorem nmul {x y : Int32} {a b : Nat} (h1 : x = nI a) (h2 : y = nI b) : x * y = nI (a * b) := by rw [h1, h2]; exact pk_mul a b
theorem nsub {x y : Int32} {a b : Nat} (h1 : x = nI a) (h2 : y = nI b) (h : b ≤ a) : x - y = nI (a - b) := by rw [h1, h2]; exact pk_sub h
theorem ninc {x y : Int32} {a : Nat} (h0 : y = x + 1) (h1 : x = nI a) : y = nI (a + 1) := by rw [h0, h1]; exact nI_1 a
theorem va_P.swapE {D : va_G} {cl : List vw_C} {ws : va_W} {q0 a : Nat} {e e' : va_E} {H : Heap} (h : va_P D cl (ws.set q0 (a, e)) H) (he : va_at D cl (a, e) H → va_at D cl (a, e') H) : va_P D cl (ws.set q0 (a, e')) H := by
  intro k q hk
  by_cases hq : k = q0
  · subst hq
    have hl : k < ws.length := by
      have := (List.getElem?_eq_some_iff.mp hk).1
      simpa using this
    rw [List.getElem?_set_self hl] at hk
    cases hk
    exact he (h k _ (List.getElem?_set_self hl))
  · rw [List.getElem?_set_ne (Ne.symm hq)] at hk
    exact h k q (by rw [List.getElem?_set_ne (Ne.symm hq)]; exact hk)
theorem va_D.swapE {A : Nat → Prop} {ws : va_W} {q0 a : Nat} {e e' : va_E} (h : va_D A (ws.set q0 (a, e))) : va_D A (ws.set q0 (a, e')) := by
  have key : ∀ (k : Nat) (q : Nat × va_E), (ws.set q0 (a, e'))[k]? = some q → ∃ q', (ws.set q0 (a, e))[k]? = some q' ∧ q'.1 = q.1 := by
    intro k q hk
    by_cases hq : k = q0
    · subst hq
      have hl : k < ws.length := by
        have := (List.getElem?_eq_some_iff.mp hk).1
        simpa using this
      rw [List.getElem?_set_self hl] at hk
      cases hk
      exact ⟨_, List.getElem?_set_self hl, rfl⟩
    · rw [List.getElem?_set_ne (Ne.symm hq)] at hk
      exact ⟨q, by rw [List.getElem?_set_ne (Ne.symm hq)]; exact hk, rfl⟩
  refine ⟨fun i j x y hi hj hxy => ?_, fun k q hk => ?_⟩
  · obtain ⟨x', h1, h2⟩ := key i x hi
    obtain ⟨y', h3, h4⟩ := key j y hj
    exact h.1 i j x' y' h1 h3 (h2.trans (hxy.trans h4.symm))
  · obtain ⟨q', h1, h2⟩ := key k q hk
    rw [← h2]; exact h.2 k q' h1
theorem arrV_congr (c : ClassId) (n : Nat) {f f' : Nat → Value} (h : ∀ j, j < n → f j = f' j) : arrV c n f = arrV c n f' := by
  unfold arrV
  congr 1
  exact congrArg (Array.ofFn (n := n)) (funext fun j => h j.val j.isLt)
theorem cell_i (c : ClassId) (n : Nat) {f f' : Nat → Int32} (h : ∀ j, j < n → f j = f' j) : vp_cell c (n, .inl f) = vp_cell c (n, .inl f') := by
  rw [vp_cell_i, vp_cell_i]
  exact arrV_congr c n fun j hj => by rw [h j hj]
theorem cell_l (c : ClassId) (n : Nat) {f f' : Nat → Int64} (h : ∀ j, j < n → f j = f' j) : vp_cell c (n, .inr (.inl f)) = vp_cell c (n, .inr (.inl f')) := by
  rw [vp_cell_l, vp_cell_l]
  exact arrV_congr c n fun j hj => by rw [h j hj]
theorem cell_q (c : ClassId) (n : Nat) {f f' : Nat → Option Nat} (h : ∀ j, j < n → f j = f' j) : vp_cell c (n, .inr (.inr (.inr (.inr f)))) = vp_cell c (n, .inr (.inr (.inr (.inr f')))) := by
  rw [vp_cell_q, vp_cell_q]
  exact arrV_congr c n fun j hj => by rw [h j hj]
section SROWS
variable {p : Program} {l : Launch} {e : Env} {R : Room} {s : State} {m : MethodId} {args : Array Value} {below : List Frame} {meth : Method} {c : Code} {H : Heap} {locs : List Loc} {cells slots : Nat} {Q : State → Prop}
variable {cc : ByteArray} {pc : Nat} {ls : Array Slot} {rest : List Value} {D : va_G} {cl : List vw_C} {A : Nat → Prop} {a : Nat} {tys : List (ClassId × FieldType)} {ws : va_W} {H0 : Heap}
theorem lq_lt (hexec : p.tables.exec = Jvm.exec) (hb : c.code = cc) {x y : Int64} {off : Int} {tgt : Nat} (d1 : decode cc pc = .ok (.lcmp, 1)) (d2 : decode cc (pc + 1) = .ok (.ifCond .lt off, 3)) (ht : ((pc + 1 : Nat) : Int) + off = (tgt : Int))
    (kt : x < y → W p l e R s m args below meth c H locs cells slots Q (F0 m tgt ls rest)) (kf : ¬ x < y → W p l e R s m args below meth c H locs cells slots Q (F0 m (pc + 1 + 3) ls rest)) : W p l e R s m args below meth c H locs cells slots Q (F0 m pc ls (.long y :: .long x :: rest)) :=
  W.lcmp hexec hb d1 (lv_if_lt hexec hb d2 ht (fun h => kt ((lg_cmp_lt x y).mp h)) (fun h => kf (fun q => h ((lg_cmp_lt x y).mpr q))))
theorem lq_ge (hexec : p.tables.exec = Jvm.exec) (hb : c.code = cc) {x y : Int64} {off : Int} {tgt : Nat} (d1 : decode cc pc = .ok (.lcmp, 1)) (d2 : decode cc (pc + 1) = .ok (.ifCond .ge off, 3)) (ht : ((pc + 1 : Nat) : Int) + off = (tgt : Int))
    (kt : y ≤ x → W p l e R s m args below meth c H locs cells slots Q (F0 m tgt ls rest)) (kf : ¬ y ≤ x → W p l e R s m args below meth c H locs cells slots Q (F0 m (pc + 1 + 3) ls rest)) : W p l e R s m args below meth c H locs cells slots Q (F0 m pc ls (.long y :: .long x :: rest)) :=
  W.lcmp hexec hb d1 (lv_if_ge hexec hb d2 ht (fun h => kt ((lg_cmp_ge x y).mp h)) (fun h => kf (fun q => h ((lg_cmp_ge x y).mpr q))))
theorem lq_gt (hexec : p.tables.exec = Jvm.exec) (hb : c.code = cc) {x y : Int64} {off : Int} {tgt : Nat} (d1 : decode cc pc = .ok (.lcmp, 1)) (d2 : decode cc (pc + 1) = .ok (.ifCond .gt off, 3)) (ht : ((pc + 1 : Nat) : Int) + off = (tgt : Int))
    (kt : y < x → W p l e R s m args below meth c H locs cells slots Q (F0 m tgt ls rest)) (kf : ¬ y < x → W p l e R s m args below meth c H locs cells slots Q (F0 m (pc + 1 + 3) ls rest)) : W p l e R s m args below meth c H locs cells slots Q (F0 m pc ls (.long y :: .long x :: rest)) :=
  W.lcmp hexec hb d1 (lv_if_gt hexec hb d2 ht (fun h => kt ((lg_cmp_gt x y).mp h)) (fun h => kf (fun q => h ((lg_cmp_gt x y).mpr q))))
theorem lq_le (hexec : p.tables.exec = Jvm.exec) (hb : c.code = cc) {x y : Int64} {off : Int} {tgt : Nat} (d1 : decode cc pc = .ok (.lcmp, 1)) (d2 : decode cc (pc + 1) = .ok (.ifCond .le off, 3)) (ht : ((pc + 1 : Nat) : Int) + off = (tgt : Int))
    (kt : x ≤ y → W p l e R s m args below meth c H locs cells slots Q (F0 m tgt ls rest)) (kf : ¬ x ≤ y → W p l e R s m args below meth c H locs cells slots Q (F0 m (pc + 1 + 3) ls rest)) : W p l e R s m args below meth c H locs cells slots Q (F0 m pc ls (.long y :: .long x :: rest)) :=
  W.lcmp hexec hb d1 (lv_if_le hexec hb d2 ht (fun h => kt ((lg_cmp_le x y).mp h)) (fun h => kf (fun q => h ((lg_cmp_le x y).mpr q))))
theorem lq_eq (hexec : p.tables.exec = Jvm.exec) (hb : c.code = cc) {x y : Int64} {off : Int} {tgt : Nat} (d1 : decode cc pc = .ok (.lcmp, 1)) (d2 : decode cc (pc + 1) = .ok (.ifCond .eq off, 3)) (ht : ((pc + 1 : Nat) : Int) + off = (tgt : Int))
    (kt : x = y → W p l e R s m args below meth c H locs cells slots Q (F0 m tgt ls rest)) (kf : ¬ x = y → W p l e R s m args below meth c H locs cells slots Q (F0 m (pc + 1 + 3) ls rest)) : W p l e R s m args below meth c H locs cells slots Q (F0 m pc ls (.long y :: .long x :: rest)) :=
  W.lcmp hexec hb d1 (lv_if_eq hexec hb d2 ht (fun h => kt ((lg_cmp_eq x y).mp h)) (fun h => kf (fun q => h ((lg_cmp_eq x y).mpr q))))
theorem lq_ne (hexec : p.tables.exec = Jvm.exec) (hb : c.code = cc) {x y : Int64} {off : Int} {tgt : Nat} (d1 : decode cc pc = .ok (.lcmp, 1)) (d2 : decode cc (pc + 1) = .ok (.ifCond .ne off, 3)) (ht : ((pc + 1 : Nat) : Int) + off = (tgt : Int))
    (kt : ¬ x = y → W p l e R s m args below meth c H locs cells slots Q (F0 m tgt ls rest)) (kf : x = y → W p l e R s m args below meth c H locs cells slots Q (F0 m (pc + 1 + 3) ls rest)) : W p l e R s m args below meth c H locs cells slots Q (F0 m pc ls (.long y :: .long x :: rest)) :=
  W.lcmp hexec hb d1 (lv_if_ne hexec hb d2 ht (fun h => kt (fun q => h ((lg_cmp_eq x y).mpr q))) (fun h => kf ((lg_cmp_eq x y).mp h)))
theorem ia_ld (hexec : p.tables.exec = Jvm.exec) (hb : c.code = cc) (hK : va_K D cl tys s) (hP : va_P D cl ws H) (q0 t0 k : Nat) {cA : ClassId} {n : Nat} {f : Nat → Int32} (ha : ws[q0]? = some (a, .inl (cA, n, .inl f))) (ht : tys[t0]? = some (cA, .int)) {i : Int32} (hi : i = nI k) (hk : k < n) (hn : n < 2 ^ 31) (hdg : decode cc pc = .ok (.iaload, 1))
    (kk : W p l e R s m args below meth c H locs cells slots Q (F0 m (pc + 1) ls (.int (f k) :: rest))) : W p l e R s m args below meth c H locs cells slots Q (F0 m pc ls (.int i :: .ref a :: rest)) := by
  subst hi
  refine va_iald hexec hb hK hP q0 t0 ha ht (vp_in_nI hk hn) hdg ?_
  rw [nI_clamp (Nat.lt_trans hk hn)]
  exact kk
theorem la_ld (hexec : p.tables.exec = Jvm.exec) (hb : c.code = cc) (hK : va_K D cl tys s) (hP : va_P D cl ws H) (q0 t0 k : Nat) {cA : ClassId} {n : Nat} {f : Nat → Int64} (ha : ws[q0]? = some (a, .inl (cA, n, .inr (.inl f)))) (ht : tys[t0]? = some (cA, .long)) {i : Int32} (hi : i = nI k) (hk : k < n) (hn : n < 2 ^ 31) (hdg : decode cc pc = .ok (.laload, 1))
    (kk : W p l e R s m args below meth c H locs cells slots Q (F0 m (pc + 1) ls (.long (f k) :: rest))) : W p l e R s m args below meth c H locs cells slots Q (F0 m pc ls (.int i :: .ref a :: rest)) := by
  subst hi
  refine va_lald hexec hb hK hP q0 t0 ha ht (vp_in_nI hk hn) hdg ?_
  rw [nI_clamp (Nat.lt_trans hk hn)]
  exact kk
theorem qa_ld (hexec : p.tables.exec = Jvm.exec) (hb : c.code = cc) (hK : va_K D cl tys s) (hP : va_P D cl ws H) (q0 t0 k : Nat) {cA : ClassId} {C : String} {n y : Nat} {f : Nat → Option Nat} (ha : ws[q0]? = some (a, .inl (cA, n, .inr (.inr (.inr (.inr f)))))) (ht : tys[t0]? = some (cA, .object C)) {i : Int32} (hi : i = nI k) (hk : k < n) (hn : n < 2 ^ 31) (hy : f k = some y) (hdg : decode cc pc = .ok (.aaload, 1))
    (kk : W p l e R s m args below meth c H locs cells slots Q (F0 m (pc + 1) ls (.ref y :: rest))) : W p l e R s m args below meth c H locs cells slots Q (F0 m pc ls (.int i :: .ref a :: rest)) := by
  subst hi
  refine va_aldq hexec hb hK hP q0 t0 ha ht (vp_in_nI hk hn) hdg ?_
  rw [nI_clamp (Nat.lt_trans hk hn), hy]
  exact kk
theorem ia_st (hexec : p.tables.exec = Jvm.exec) (hb : c.code = cc) (hK : va_K D cl tys s) (hP : va_P D cl ws H) (hD : va_D A ws) (hS : va_S A H0 H locs) (q0 t0 k : Nat) {cA : ClassId} {n : Nat} {f f' : Nat → Int32} (ha : ws[q0]? = some (a, .inl (cA, n, .inl f))) (ht : tys[t0]? = some (cA, .int)) {i x : Int32} (hi : i = nI k) (hk : k < n) (hn : n < 2 ^ 31) (hf : ∀ j, j < n → upd f k x j = f' j) (hdg : decode cc pc = .ok (.iastore, 1))
    (kk : ∀ (H1 : Heap) (locs1 : List Loc), va_P D cl (ws.set q0 (a, .inl (cA, n, .inl f'))) H1 → va_D A (ws.set q0 (a, .inl (cA, n, .inl f'))) → va_S A H0 H1 locs1 → W p l e R s m args below meth c H1 locs1 cells slots Q (F0 m (pc + 1) ls rest)) : W p l e R s m args below meth c H locs cells slots Q (F0 m pc ls (.int x :: .int i :: .ref a :: rest)) := by
  subst hi
  refine va_iast hexec hb hK hP hD hS q0 t0 ha ht (vp_in_nI hk hn) hdg fun H1 locs1 h1 h2 h3 => ?_
  rw [nI_clamp (Nat.lt_trans hk hn)] at h1 h2
  exact kk H1 locs1 (h1.swapE fun z => (show H1[a]? = some _ from (show H1[a]? = some _ from z).trans (congrArg some (cell_i cA n hf)))) h2.swapE h3
theorem la_st (hexec : p.tables.exec = Jvm.exec) (hb : c.code = cc) (hK : va_K D cl tys s) (hP : va_P D cl ws H) (hD : va_D A ws) (hS : va_S A H0 H locs) (q0 t0 k : Nat) {cA : ClassId} {n : Nat} {f f' : Nat → Int64} (ha : ws[q0]? = some (a, .inl (cA, n, .inr (.inl f)))) (ht : tys[t0]? = some (cA, .long)) {i : Int32} {x : Int64} (hi : i = nI k) (hk : k < n) (hn : n < 2 ^ 31) (hf : ∀ j, j < n → vp_updL f k x j = f' j) (hdg : decode cc pc = .ok (.lastore, 1))
    (kk : ∀ (H1 : Heap) (locs1 : List Loc), va_P D cl (ws.set q0 (a, .inl (cA, n, .inr (.inl f')))) H1 → va_D A (ws.set q0 (a, .inl (cA, n, .inr (.inl f')))) → va_S A H0 H1 locs1 → W p l e R s m args below meth c H1 locs1 cells slots Q (F0 m (pc + 1) ls rest)) : W p l e R s m args below meth c H locs cells slots Q (F0 m pc ls (.long x :: .int i :: .ref a :: rest)) := by
  subst hi
  refine va_last hexec hb hK hP hD hS q0 t0 ha ht (vp_in_nI hk hn) hdg fun H1 locs1 h1 h2 h3 => ?_
  rw [nI_clamp (Nat.lt_trans hk hn)] at h1 h2
  exact kk H1 locs1 (h1.swapE fun z => (show H1[a]? = some _ from (show H1[a]? = some _ from z).trans (congrArg some (cell_l cA n hf)))) h2.swapE h3
/-- a cell of class C lies at v -/
theorem qa_st (hexec : p.tables.exec = Jvm.exec) (hb : c.code = cc) (hK : va_K D cl tys s) (hP : va_P D cl ws H) (hD : va_D A ws) (hS : va_S A H0 H locs) (q0 t0 k : Nat) {C : String} {cA : ClassId} {n v : Nat} {f f' : Nat → Option Nat} (ha : ws[q0]? = some (a, .inl (cA, n, .inr (.inr (.inr (.inr f)))))) (ht : tys[t0]? = some (cA, .object C)) (hr : ∃ cellV : Cell, H[v]? = some cellV ∧ cellV.vm.isStatics = false ∧ s.vm.findClass C = some cellV.cls) {i : Int32} (hi : i = nI k) (hk : k < n) (hn : n < 2 ^ 31) (hf : ∀ j, j < n → va_up f k (some v) j = f' j) (hdg : decode cc pc = .ok (.aastore, 1))
    (kk : ∀ (H1 : Heap) (locs1 : List Loc), va_P D cl (ws.set q0 (a, .inl (cA, n, .inr (.inr (.inr (.inr f')))))) H1 → va_D A (ws.set q0 (a, .inl (cA, n, .inr (.inr (.inr (.inr f')))))) → va_S A H0 H1 locs1 → W p l e R s m args below meth c H1 locs1 cells slots Q (F0 m (pc + 1) ls rest)) : W p l e R s m args below meth c H locs cells slots Q (F0 m pc ls (.ref v :: .int i :: .ref a :: rest)) := by
  subst hi
  refine vb_astq (E := C) (C := C) hexec hb hK hP hD hS q0 t0 ha ht hr vb_asgS (vp_in_nI hk hn) hdg fun H1 locs1 h1 h2 h3 => ?_
  rw [nI_clamp (Nat.lt_trans hk hn)] at h1 h2
  exact kk H1 locs1 (h1.swapE fun z => (show H1[a]? = some _ from (show H1[a]? = some _ from z).trans (congrArg some (cell_q cA n hf)))) h2.swapE h3
/-- System.arraycopy of references, the source not among the cells written -/
theorem qa_cpy (hexec : p.tables.exec = Jvm.exec) (hb : c.code = cc) (hml : c.maxLocals = ls.size) {own : String} {index : Nat} (hown : s.vm.findClass own = some m.cls) (hlink : (Cond.methodLink own index arraycopyName).before args s = true) (hnat : (Cond.native arraycopyName).before args s = true) (hstat : (Cond.static arraycopyName).before args s = true) (hini : (Cond.initialized "java/lang/System").before args s = true)
    (hK : va_K D cl tys s) (hP : va_P D cl ws H) (hD : va_D A ws) (hS : va_S A H0 H locs) (q1 t1 : Nat) {a0 : Nat} {c1 : ClassId} {n0 n1 : Nat} {f g g' : Nat → Option Nat} {C : String} (hc0 : H[a0]? = some (vp_cell c1 (n0, .inr (.inr (.inr (.inr f)))))) (ha1 : ws[q1]? = some (a, .inl (c1, n1, .inr (.inr (.inr (.inr g)))))) (ht1 : tys[t1]? = some (c1, .object C))
    {sp dp n : Int32} (ks kd kn : Nat) (h1 : sp = nI ks) (h2 : dp = nI kd) (h3 : n = nI kn) (h4 : ks + kn ≤ n0) (h5 : kd + kn ≤ n1) (h6 : n0 < 2 ^ 31) (h7 : n1 < 2 ^ 31) (hel : ∀ i : Nat, i < kn → ∀ y : Nat, f (ks + i) = some y → ∃ cellV : Cell, H[y]? = some cellV ∧ cellV.vm.isStatics = false ∧ s.vm.findClass C = some cellV.cls) (hg : ∀ j, j < n1 → va_cpy f g ks kd kn j = g' j)
    (hframes : 1 ≤ R.frames) (hlocals : (rest.map fun v => v.category).sum + (nativeFrameWords "java/lang/System" "arraycopy" 5 + 11) ≤ R.locals) (hdg : decode cc pc = .ok (.invokestatic index, 3))
    (kk : ∀ (H1 : Heap) (locs1 : List Loc), va_P D cl (ws.set q1 (a, .inl (c1, n1, .inr (.inr (.inr (.inr g')))))) H1 → va_D A (ws.set q1 (a, .inl (c1, n1, .inr (.inr (.inr (.inr g')))))) → va_S A H0 H1 locs1 → W p l e R s m args below meth c H1 locs1 cells slots Q (F0 m (pc + 3) ls rest)) : W p l e R s m args below meth c H locs cells slots Q (F0 m pc ls (.int n :: .int dp :: .ref a :: .int sp :: .ref a0 :: rest)) := by
  have hks : ks < 2 ^ 31 := by omega
  have hkd : kd < 2 ^ 31 := by omega
  have hkn : kn < 2 ^ 31 := by omega
  have e1 : sp.toNatClampNeg = ks := by rw [h1]; exact nI_clamp hks
  have e2 : dp.toNatClampNeg = kd := by rw [h2]; exact nI_clamp hkd
  have e3 : n.toNatClampNeg = kn := by rw [h3]; exact nI_clamp hkn
  have i1 : sp.toInt = ks := by rw [h1]; exact nI_toInt hks
  have i2 : dp.toInt = kd := by rw [h2]; exact nI_toInt hkd
  have i3 : n.toInt = kn := by rw [h3]; exact nI_toInt hkn
  have j1 : ¬ sp < 0 := by rw [h1]; exact nI_pos hks
  have j2 : ¬ dp < 0 := by rw [h2]; exact nI_pos hkd
  have j3 : ¬ n < 0 := by rw [h3]; exact nI_pos hkn
  intro T hT X
  have hc1 : H[a]? = some (vp_cell c1 (n1, .inr (.inr (.inr (.inr g))))) := hP q1 _ ha1
  obtain ⟨-, k0, hk0, cm0, hkk0⟩ := (hK.2 t1 _ ht1).1 n0 (fun j => va_rf (f j))
  obtain ⟨-, k1, hk1, cm1, hkk1⟩ := (hK.2 t1 _ ht1).1 n1 (fun j => va_rf (g j))
  obtain ⟨vm', X', step⟩ := X.arraycopy hexec hown hlink hnat hstat hini (src := a0) (dst := a) (cs := vp_cell c1 (n0, .inr (.inr (.inr (.inr f))))) (cd := vp_cell c1 (n1, .inr (.inr (.inr (.inr g))))) (srcPos := sp) (destPos := dp) (n := n) (by rw [hT]; exact hc0) (by rw [hT]; exact hc1)
    (fun _ h => by cases h) (fun _ h => by cases h) (fun h => by cases h) (fun h => by cases h) hk0 hk1 hkk0 hkk1 rfl j1 j2 j3
    (by rw [i1, i3]; show ¬ _ > ((arrV c1 n0 (fun j => va_rf (f j))).slots.size : Int); rw [arrV_size]; omega)
    (by rw [i2, i3]; show ¬ _ > ((arrV c1 n1 (fun j => va_rf (g j))).slots.size : Int); rw [arrV_size]; omega)
    (fun vm₁ hal i hi => by
      rw [e3] at hi
      have e : (vp_cell c1 (n0, .inr (.inr (.inr (.inr f))))).slots.getD (sp.toNatClampNeg + i) .null = va_rf (f (ks + i)) := by
        show (arrV c1 n0 (fun j => va_rf (f j))).slots.getD _ _ = _
        rw [Array.getD_eq_getD_getElem?, e1, arrV_read _ _ (by omega)]
        rfl
      rw [e]
      cases hy : f (ks + i) with
      | none => exact ⟨rfl, trivial⟩
      | some y =>
        obtain ⟨cellV, g1, g2, g3⟩ := hel i hi y hy
        obtain ⟨kA, comp, r1, r2, r3, -⟩ := (hK.2 t1 _ ht1).2
        cases hk1.symm.trans r1
        cases hkk1.symm.trans r2
        obtain ⟨kC, hkC, -⟩ := Vm.findClass_spec g3
        obtain ⟨kE, hkE, -⟩ := Vm.findClass_spec r3
        obtain ⟨kC', hkC', -⟩ := hal.2.2 _ _ hkC
        obtain ⟨kE', hkE', -⟩ := hal.2.2 _ _ hkE
        refine ⟨rfl, cellV, (show T.heap[y]? = some cellV by rw [hT]; exact g1), (fun q h => by rw [h] at g2; cases g2), ⟨kC', hkC'⟩, ?_, ?_⟩
        · exact ⟨kE', hkE'⟩
        · show vm₁.assignable _ _ = true
          rw [hal.assignable]
          exact vb_asgS _ _ r3 g3)
    (g := F0 m pc ls (.int n :: .int dp :: .ref a :: .int sp :: .ref a0 :: rest)) rfl (by rw [hml]) (rest := rest) rfl (by rw [hb]; exact hdg) hframes (by show 2 * 0 + _ + _ ≤ _; omega)
  have e9 : copied (vp_cell c1 (n0, .inr (.inr (.inr (.inr f))))) (vp_cell c1 (n1, .inr (.inr (.inr (.inr g))))) sp dp n = vp_cell c1 (n1, .inr (.inr (.inr (.inr g')))) := by
    rw [← cell_q c1 n1 hg, vp_cell_q, vp_cell_q, vp_cell_q]
    have h9 := va_copied (fun z => va_rf z) c1 c1 (n0 := n0) (n1 := n1) (sp := sp.toNatClampNeg) (dp := dp.toNatClampNeg) (n := n.toNatClampNeg) f g (by rw [e1, e3]; exact h4)
    rw [e1, e2, e3] at h9
    rw [← h9]
    unfold copied
    rw [e1, e2, e3]
  rw [e9] at X' step
  have hl : a < H.size := (Array.getElem?_eq_some_iff.mp hc1).1
  have hheap : ((T.setVm vm').setCell a (vp_cell c1 (n1, .inr (.inr (.inr (.inr g')))))).heap = H.setIfInBounds a (vp_cell c1 (n1, .inr (.inr (.inr (.inr g'))))) := by rw [← hT]; rfl
  have oq : ∀ q : Nat, q ≠ a → (H.setIfInBounds a (vp_cell c1 (n1, .inr (.inr (.inr (.inr g'))))))[q]? = H[q]? := fun q hq => by simp [Array.getElem?_setIfInBounds, Ne.symm hq]
  obtain ⟨t, a1, b1⟩ := kk _ _ (hP.set hD ha1 (show (H.setIfInBounds a _)[a]? = some _ by simp [Array.getElem?_setIfInBounds, hl]) oq) (hD.set ha1) ⟨by simp; exact hS.1, fun q g1 g2 => by
      rw [oq q (fun e => g2 (by rw [e]; exact hD.2 q1 _ ha1))]
      exact hS.2.1 q g1 g2, fun q hq => by
      rcases List.mem_append.mp hq with h | h
      · exact hS.2.2 q h
      · obtain ⟨z, -, hz⟩ := List.mem_map.mp h
        rw [← hz]
        exact hD.2 q1 _ ha1⟩ _ hheap X'
  exact ⟨t, step t a1, b1⟩
end SROWS
/-- the class of an array is one: by its name -/
theorem ra_one {U : State} {c1 c2 : ClassId} {C : String} (h1 : va_RA U c1 (.object C)) (h2 : va_RA U c2 (.object C)) : c1 = c2 := by
  obtain ⟨_, _, _, _, _, e1⟩ := h1
  obtain ⟨_, _, _, _, _, e2⟩ := h2
  exact Option.some.inj (e1.symm.trans e2)
theorem ra_int {U : State} {c1 c2 : ClassId} (h1 : va_RA U c1 .int) (h2 : va_RA U c2 .int) : c1 = c2 := Option.some.inj (h1.symm.trans h2)
theorem ra_long {U : State} {c1 c2 : ClassId} (h1 : va_RA U c1 .long) (h2 : va_RA U c2 .long) : c1 = c2 := Option.some.inj (h1.symm.trans h2)
/-- an object's cell, for a receiver or an element -/
theorem rcv {D : va_G} {g : Nat → ClassId} {s : State} {H : Heap} {ws : va_W} (hK : KK D g s) (hP : va_P D vwCl ws H) (q0 : Nat) {a ci : Nat} {q : vw_C} {fs : List Value} (he : ws[q0]? = some (a, .inr (ci, fs))) (hc : vwCl[ci]? = some q) : ∃ cell : Cell, H[a]? = some cell ∧ cell.vm.isStatics = false ∧ s.vm.findClass q.1 = some cell.cls := va_recv hK.1 hP hc he
