abbrev rm_m_thr : Room := ({ frames := 1, cells := 0, slots := 0, locals := 12 })
set_option maxHeartbeats 4000000 in
set_option maxRecDepth 100000 in
/-- Throwable(null, null, false, false): its fields are written -/
theorem m_thr (l : Launch) {D : va_G} {g : Nat → ClassId} (za : Nat) (h0 : Nat) (H : Heap) (hP : va_P D vwCl [(h0, .inr (7, [.null, .null, .null, .null, .null, .int 0]))] H) (hzn : za ∉ [h0]) : Met l yJ1_init_2 (ws_ yJ1_init_2 cJ1_init_2 5 none) rm_m_thr (va_Pc [.ref h0, .null, .null, .int 0, .int 0] (PZ D g za H)) (QV (fun H1 => ∃ fs, va_P D vwCl [(h0, .inr (7, fs))] H1) (Aw [h0] H.size)) 0 0 (Aw [h0] H.size) := by
  refine Met.ofW (cc := cJ1_init_2) (maxL := 5) (ret := none) (by decide) rfl ?_
  intro p e s m args below meth c s₁ B hml hv
  obtain ⟨rfl, hH, hK, hZ⟩ := hv
  subst hH
  have hx := B.exec
  have hb := B.bytes
  have hr := B.returns
  have hts := atoms_spec (ws := ws_ yJ1_init_2 cJ1_init_2 5 none) B.pre
  have hts : ∀ w ∈ lw_all, w.before _ s = true := fun w h => hts w (List.mem_cons_of_mem _ h)
  have hown : s.vm.findClass RJ1 = some m.cls := findClass_of_methodNamed B.named
  have hlocks := B.notSynchronized
  have hin : meth.name = "<init>" := (name_of_methodNamed B.named B.method).1
  have hA : ∀ q, s.heap.size ≤ q → (Aw [h0] s.heap.size) q := fun q h => Or.inr h
  have hS : va_S (Aw [h0] s.heap.size) s.heap s.heap [] := va_S.rf
  have hD : va_D (Aw [h0] s.heap.size) [(h0, .inr (7, [.null, .null, .null, .null, .null, .int 0]))] := d1 (Or.inl (by simp))
  have aza : ¬ (Aw [h0] s.heap.size) za := naw hzn hZ.lt
  have hl := lv_entry ([.ref h0, .null, .null, .int 0, .int 0]) (n := 5) (Nat.le_of_ble_eq_true rfl)
  rw [lg_entry_eq]
  generalize (lg_sl ([.ref h0, .null, .null, .int 0, .int 0]) ++ List.replicate (5 - (lg_sl ([.ref h0, .null, .null, .int 0, .int 0])).length) Slot.unset).toArray = ls at hl ⊢
  have hl : lv_has ls 5 [(0, .ref h0), (1, .null), (2, .null), (3, .int 0), (4, .int 0)] := hl
  obtain ⟨u1, hZ1, cu1, nu1, fu1⟩ := zz_val hZ.1 aza (.array (.object "java/lang/StackTraceElement")) ⟨rfl, rfl⟩ (fun _ => ⟨rfl, rfl⟩)
  obtain ⟨u2, hZ2, cu2, nu2, fu2⟩ := zz_val hZ.2 aza (.object "java/util/List") ⟨rfl, rfl⟩ (fun _ => ⟨rfl, rfl⟩)
  refine lv_aload_n (pc := 0) hx hb dJ1_init_2_0 rfl (lv_at hl 0 rfl) ?_
  refine W.objInit hx hb hown (hts _ q299) (hts _ q41) (hts _ q42) rfl (by rw [hml]; exact hl.1) rfl dJ1_init_2_1 (Nat.le_of_ble_eq_true rfl) (Nat.le_of_ble_eq_true rfl) ?_
  refine W.eq (g2 := F0 m 4 ls []) rfl ?_
  refine lv_aload_n (pc := 4) hx hb dJ1_init_2_4 rfl (lv_at hl 0 rfl) ?_
  refine lv_aload_n (pc := 5) hx hb dJ1_init_2_5 rfl (lv_at hl 0 rfl) ?_
  refine va_put (pc := 6) (D := D) (ci := 7) (v := .ref h0) (ty := .object "java/lang/Throwable") (C := RX7) (T := TX7) (N := 6) hx hb hts in_X7 tyX7 tyX7_ok nmX7 hown hK.1 hP hD hS 0 rfl rfl 0 (by decide) (hts _ q324) (fun _ h9 => h9) rfl (by decide +kernel) rfl rfl (Nat.le_of_ble_eq_true rfl) dJ1_init_2_6 (fun H locs hP hD hS => ?_)
  have hP : va_P D vwCl [(h0, .inr (7, [.ref h0, .null, .null, .null, .null, .int 0]))] H := hP
  have hD : va_D (Aw [h0] s.heap.size) [(h0, .inr (7, [.ref h0, .null, .null, .null, .null, .int 0]))] := hD
  refine lv_aload_n (pc := 9) hx hb dJ1_init_2_9 rfl (lv_at hl 0 rfl) ?_
  refine va_gets (pc := 10) hx hb hZ1 hS hown (hts _ q300) (fun _ h9 => h9) dJ1_init_2_10 ?_
  refine va_put (pc := 13) (D := D) (ci := 7) (v := u1) (ty := .array (.object "java/lang/StackTraceElement")) (C := RX7) (T := TX7) (N := 6) hx hb hts in_X7 tyX7 tyX7_ok nmX7 hown hK.1 hP hD hS 0 rfl rfl 1 (by decide) (hts _ q325) (fun _ h9 => h9) rfl (by decide +kernel) nu1 fu1 (Nat.le_of_ble_eq_true rfl) dJ1_init_2_13 (fun H locs hP hD hS => ?_)
  have hP : va_P D vwCl [(h0, .inr (7, [.ref h0, u1, .null, .null, .null, .int 0]))] H := hP
  have hD : va_D (Aw [h0] s.heap.size) [(h0, .inr (7, [.ref h0, u1, .null, .null, .null, .int 0]))] := hD
  refine lv_aload_n (pc := 16) hx hb dJ1_init_2_16 rfl (lv_at hl 0 rfl) ?_
  refine va_gets (pc := 17) hx hb hZ2 hS hown (hts _ q302) (fun _ h9 => h9) dJ1_init_2_17 ?_
  refine va_put (pc := 20) (D := D) (ci := 7) (v := u2) (ty := .object "java/util/List") (C := RX7) (T := TX7) (N := 6) hx hb hts in_X7 tyX7 tyX7_ok nmX7 hown hK.1 hP hD hS 0 rfl rfl 2 (by decide) (hts _ q326) (fun _ h9 => h9) rfl (by decide +kernel) nu2 fu2 (Nat.le_of_ble_eq_true rfl) dJ1_init_2_20 (fun H locs hP hD hS => ?_)
  have hP : va_P D vwCl [(h0, .inr (7, [.ref h0, u1, u2, .null, .null, .int 0]))] H := hP
  have hD : va_D (Aw [h0] s.heap.size) [(h0, .inr (7, [.ref h0, u1, u2, .null, .null, .int 0]))] := hD
  refine lv_iload (pc := 23) hx hb dJ1_init_2_23 (lv_at hl 4 rfl) ?_
  refine lv_if_eq (pc := 25) (tgt := 36) hx hb dJ1_init_2_25 (by decide) (fun cd1 => ?_) (fun cd1 => absurd cd1 (by decide))
  refine lv_aload_n (pc := 36) hx hb dJ1_init_2_36 rfl (lv_at hl 0 rfl) ?_
  refine lv_null (pc := 37) hx hb dJ1_init_2_37 ?_
  refine va_put (pc := 38) (D := D) (ci := 7) (v := .null) (ty := .array (.object "java/lang/StackTraceElement")) (C := RX7) (T := TX7) (N := 6) hx hb hts in_X7 tyX7 tyX7_ok nmX7 hown hK.1 hP hD hS 0 rfl rfl 1 (by decide) (hts _ q325) (fun _ h9 => h9) rfl (by decide +kernel) rfl rfl (Nat.le_of_ble_eq_true rfl) dJ1_init_2_38 (fun H locs hP hD hS => ?_)
  have hP : va_P D vwCl [(h0, .inr (7, [.ref h0, .null, u2, .null, .null, .int 0]))] H := hP
  have hD : va_D (Aw [h0] s.heap.size) [(h0, .inr (7, [.ref h0, .null, u2, .null, .null, .int 0]))] := hD
  refine lv_aload_n (pc := 41) hx hb dJ1_init_2_41 rfl (lv_at hl 0 rfl) ?_
  refine lv_aload_nN (pc := 42) hx hb dJ1_init_2_42 rfl (lv_at hl 1 rfl) ?_
  refine va_put (pc := 43) (D := D) (ci := 7) (v := .null) (ty := .object "java/lang/String") (C := RX7) (T := TX7) (N := 6) hx hb hts in_X7 tyX7 tyX7_ok nmX7 hown hK.1 hP hD hS 0 rfl rfl 3 (by decide) (hts _ q323) (fun _ h9 => h9) rfl (by decide +kernel) rfl rfl (Nat.le_of_ble_eq_true rfl) dJ1_init_2_43 (fun H locs hP hD hS => ?_)
  have hP : va_P D vwCl [(h0, .inr (7, [.ref h0, .null, u2, .null, .null, .int 0]))] H := hP
  have hD : va_D (Aw [h0] s.heap.size) [(h0, .inr (7, [.ref h0, .null, u2, .null, .null, .int 0]))] := hD
  refine lv_aload_n (pc := 46) hx hb dJ1_init_2_46 rfl (lv_at hl 0 rfl) ?_
  refine lv_aload_nN (pc := 47) hx hb dJ1_init_2_47 rfl (lv_at hl 2 rfl) ?_
  refine va_put (pc := 48) (D := D) (ci := 7) (v := .null) (ty := .object "java/lang/Throwable") (C := RX7) (T := TX7) (N := 6) hx hb hts in_X7 tyX7 tyX7_ok nmX7 hown hK.1 hP hD hS 0 rfl rfl 0 (by decide) (hts _ q324) (fun _ h9 => h9) rfl (by decide +kernel) rfl rfl (Nat.le_of_ble_eq_true rfl) dJ1_init_2_48 (fun H locs hP hD hS => ?_)
  have hP : va_P D vwCl [(h0, .inr (7, [.null, .null, u2, .null, .null, .int 0]))] H := hP
  have hD : va_D (Aw [h0] s.heap.size) [(h0, .inr (7, [.null, .null, u2, .null, .null, .int 0]))] := hD
  refine lv_iload_n (pc := 51) hx hb dJ1_init_2_51 rfl (lv_at hl 3 rfl) ?_
  refine lv_if_ne (pc := 52) (tgt := 60) hx hb dJ1_init_2_52 (by decide) (fun cd2 => absurd cd2 (by decide)) (fun cd2 => ?_)
  refine lv_aload_n (pc := 55) hx hb dJ1_init_2_55 rfl (lv_at hl 0 rfl) ?_
  refine lv_null (pc := 56) hx hb dJ1_init_2_56 ?_
  refine va_put (pc := 57) (D := D) (ci := 7) (v := .null) (ty := .object "java/util/List") (C := RX7) (T := TX7) (N := 6) hx hb hts in_X7 tyX7 tyX7_ok nmX7 hown hK.1 hP hD hS 0 rfl rfl 2 (by decide) (hts _ q326) (fun _ h9 => h9) rfl (by decide +kernel) rfl rfl (Nat.le_of_ble_eq_true rfl) dJ1_init_2_57 (fun H locs hP hD hS => ?_)
  have hP : va_P D vwCl [(h0, .inr (7, [.null, .null, .null, .null, .null, .int 0]))] H := hP
  have hD : va_D (Aw [h0] s.heap.size) [(h0, .inr (7, [.null, .null, .null, .null, .null, .int 0]))] := hD
  have hq9 : (fun H1 => ∃ fs, va_P D vwCl [(h0, .inr (7, fs))] H1 : Heap → Prop) H := ⟨_, hP⟩
  exact W.vret hx hb hr (fun t ht hW => ⟨⟨rfl, by rw [ht]; exact hq9⟩, hS.F ht⟩) hS.2.2 dJ1_init_2_60

abbrev rm_m_exc : Room := ({ frames := 2, cells := 0, slots := 0, locals := 36 })
set_option maxHeartbeats 4000000 in
set_option maxRecDepth 100000 in
theorem m_exc (l : Launch) {D : va_G} {g : Nat → ClassId} (za : Nat) (h0 : Nat) (H : Heap) (hP : va_P D vwCl [(h0, .inr (7, [.null, .null, .null, .null, .null, .int 0]))] H) (hzn : za ∉ [h0]) : Met l yJ2_init (ws_ yJ2_init cJ2_init 5 none) rm_m_exc (va_Pc [.ref h0, .null, .null, .int 0, .int 0] (PZ D g za H)) (QV (fun H1 => ∃ fs, va_P D vwCl [(h0, .inr (7, fs))] H1) (Aw [h0] H.size)) 0 0 (Aw [h0] H.size) := by
  refine Met.ofW (cc := cJ2_init) (maxL := 5) (ret := none) (by decide) rfl ?_
  intro p e s m args below meth c s₁ B hml hv
  obtain ⟨rfl, hH, hK, hZ⟩ := hv
  subst hH
  have hx := B.exec
  have hb := B.bytes
  have hr := B.returns
  have hts := atoms_spec (ws := ws_ yJ2_init cJ2_init 5 none) B.pre
  have hts : ∀ w ∈ lw_all, w.before _ s = true := fun w h => hts w (List.mem_cons_of_mem _ h)
  have hown : s.vm.findClass RJ2 = some m.cls := findClass_of_methodNamed B.named
  have hlocks := B.notSynchronized
  have hin : meth.name = "<init>" := (name_of_methodNamed B.named B.method).1
  have hA : ∀ q, s.heap.size ≤ q → (Aw [h0] s.heap.size) q := fun q h => Or.inr h
  have hS : va_S (Aw [h0] s.heap.size) s.heap s.heap [] := va_S.rf
  have hD : va_D (Aw [h0] s.heap.size) [(h0, .inr (7, [.null, .null, .null, .null, .null, .int 0]))] := d1 (Or.inl (by simp))
  have aza : ¬ (Aw [h0] s.heap.size) za := naw hzn hZ.lt
  have hl := lv_entry ([.ref h0, .null, .null, .int 0, .int 0]) (n := 5) (Nat.le_of_ble_eq_true rfl)
  rw [lg_entry_eq]
  generalize (lg_sl ([.ref h0, .null, .null, .int 0, .int 0]) ++ List.replicate (5 - (lg_sl ([.ref h0, .null, .null, .int 0, .int 0])).length) Slot.unset).toArray = ls at hl ⊢
  have hl : lv_has ls 5 [(0, .ref h0), (1, .null), (2, .null), (3, .int 0), (4, .int 0)] := hl
  refine lv_aload_n (pc := 0) hx hb dJ2_init_0 rfl (lv_at hl 0 rfl) ?_
  refine lv_aload_nN (pc := 1) hx hb dJ2_init_1 rfl (lv_at hl 1 rfl) ?_
  refine lv_aload_nN (pc := 2) hx hb dJ2_init_2 rfl (lv_at hl 2 rfl) ?_
  refine lv_iload_n (pc := 3) hx hb dJ2_init_3 rfl (lv_at hl 3 rfl) ?_
  refine lv_iload (pc := 4) hx hb dJ2_init_4 (lv_at hl 4 rfl) ?_
  have hFc := awF (Lc := [h0]) hD hS hA [0] rfl
  refine kV (pc := 6) (va_runI (As := [.null, .null, .int 0, .int 0]) (rest := []) ⟨hx, hb, hml, hown, hts⟩ (m_thr l za h0 s.heap (hP.sub (ws' := [(h0, .inr (7, [.null, .null, .null, .null, .null, .int 0]))]) [0] rfl) (ninL aza (fun q h => hFc q (Or.inl h)))) (cwI 4 hts (lw_meth q321) rfl rfl rfl (hts _ q30) (hts _ q319) (hts _ q320) rfl (by decide +kernel) ⟨Nat.le_of_ble_eq_true rfl, Nat.le_of_ble_eq_true rfl⟩) (preSZ hK hZ) rfl rfl hl.1 rfl (lv_room (Nat.le_of_ble_eq_true rfl)) dJ2_init_6 ⟨Nat.le_of_ble_eq_true rfl, Nat.le_of_ble_eq_true rfl⟩) hS hFc (fun H locs hp9 hz1 hk1 hS => ?_)
  obtain ⟨fs1, hP1⟩ := hp9
  obtain ⟨hP, hD⟩ := jn (wr := []) (w1 := [(h0, .inr (7, fs1))]) hP hD [0] [] rfl rfl (by decide) (by decide) hk1 hFc hP1 (d1 (Or.inl (by simp)))
  have hP : va_P D vwCl [(h0, .inr (7, fs1))] H := hP
  have hD : va_D (Aw [h0] s.heap.size) [(h0, .inr (7, fs1))] := hD
  have hq9 : (fun H1 => ∃ fs, va_P D vwCl [(h0, .inr (7, fs))] H1 : Heap → Prop) H := ⟨_, hP⟩
  exact W.vret hx hb hr (fun t ht hW => ⟨⟨rfl, by rw [ht]; exact hq9⟩, hS.F ht⟩) hS.2.2 dJ2_init_9

abbrev rm_m_lim : Room := ({ frames := 3, cells := 0, slots := 0, locals := 60 })
set_option maxHeartbeats 4000000 in
set_option maxRecDepth 100000 in
theorem m_lim (l : Launch) {D : va_G} {g : Nat → ClassId} (za : Nat) (h0 : Nat) (H : Heap) (hP : va_P D vwCl [(h0, .inr (7, [.null, .null, .null, .null, .null, .int 0]))] H) (hzn : za ∉ [h0]) : Met l yX7_init (ws_ yX7_init cX7_init 1 none) rm_m_lim (va_Pc [.ref h0] (PZ D g za H)) (QV (fun H1 => ∃ fs, va_P D vwCl [(h0, .inr (7, fs))] H1) (Aw [h0] H.size)) 0 0 (Aw [h0] H.size) := by
  refine Met.ofW (cc := cX7_init) (maxL := 1) (ret := none) (by decide) rfl ?_
  intro p e s m args below meth c s₁ B hml hv
  obtain ⟨rfl, hH, hK, hZ⟩ := hv
  subst hH
  have hx := B.exec
  have hb := B.bytes
  have hr := B.returns
  have hts := atoms_spec (ws := ws_ yX7_init cX7_init 1 none) B.pre
  have hts : ∀ w ∈ lw_all, w.before _ s = true := fun w h => hts w (List.mem_cons_of_mem _ h)
  have hown : s.vm.findClass RX7 = some m.cls := findClass_of_methodNamed B.named
  have hlocks := B.notSynchronized
  have hin : meth.name = "<init>" := (name_of_methodNamed B.named B.method).1
  have hA : ∀ q, s.heap.size ≤ q → (Aw [h0] s.heap.size) q := fun q h => Or.inr h
  have hS : va_S (Aw [h0] s.heap.size) s.heap s.heap [] := va_S.rf
  have hD : va_D (Aw [h0] s.heap.size) [(h0, .inr (7, [.null, .null, .null, .null, .null, .int 0]))] := d1 (Or.inl (by simp))
  have aza : ¬ (Aw [h0] s.heap.size) za := naw hzn hZ.lt
  have hl := lv_entry ([.ref h0]) (n := 1) (Nat.le_of_ble_eq_true rfl)
  rw [lg_entry_eq]
  generalize (lg_sl ([.ref h0]) ++ List.replicate (1 - (lg_sl ([.ref h0])).length) Slot.unset).toArray = ls at hl ⊢
  have hl : lv_has ls 1 [(0, .ref h0)] := hl
  refine lv_aload_n (pc := 0) hx hb dX7_init_0 rfl (lv_at hl 0 rfl) ?_
  refine lv_null (pc := 1) hx hb dX7_init_1 ?_
  refine lv_null (pc := 2) hx hb dX7_init_2 ?_
  refine lv_iconst (pc := 3) (v := 0) hx hb dX7_init_3 (by decide) ?_
  refine lv_iconst (pc := 4) (v := 0) hx hb dX7_init_4 (by decide) ?_
  have hFc := awF (Lc := [h0]) hD hS hA [0] rfl
  refine kV (pc := 5) (va_runI (As := [.null, .null, .int 0, .int 0]) (rest := []) ⟨hx, hb, hml, hown, hts⟩ (m_exc l za h0 s.heap (hP.sub (ws' := [(h0, .inr (7, [.null, .null, .null, .null, .null, .int 0]))]) [0] rfl) (ninL aza (fun q h => hFc q (Or.inl h)))) (cwI 4 hts (lw_meth q318) rfl rfl rfl (hts _ q31) (hts _ q316) (hts _ q317) rfl (by decide +kernel) ⟨Nat.le_of_ble_eq_true rfl, Nat.le_of_ble_eq_true rfl⟩) (preSZ hK hZ) rfl rfl hl.1 rfl (lv_room (Nat.le_of_ble_eq_true rfl)) dX7_init_5 ⟨Nat.le_of_ble_eq_true rfl, Nat.le_of_ble_eq_true rfl⟩) hS hFc (fun H locs hp9 hz1 hk1 hS => ?_)
  obtain ⟨fs1, hP1⟩ := hp9
  obtain ⟨hP, hD⟩ := jn (wr := []) (w1 := [(h0, .inr (7, fs1))]) hP hD [0] [] rfl rfl (by decide) (by decide) hk1 hFc hP1 (d1 (Or.inl (by simp)))
  have hP : va_P D vwCl [(h0, .inr (7, fs1))] H := hP
  have hD : va_D (Aw [h0] s.heap.size) [(h0, .inr (7, fs1))] := hD
  have hq9 : (fun H1 => ∃ fs, va_P D vwCl [(h0, .inr (7, fs))] H1 : Heap → Prop) H := ⟨_, hP⟩
  exact W.vret hx hb hr (fun t ht hW => ⟨⟨rfl, by rw [ht]; exact hq9⟩, hS.F ht⟩) hS.2.2 dX7_init_8

abbrev rm_m_limited : Room := ({ frames := 4, cells := 1, slots := 6, locals := 80 })
set_option maxHeartbeats 4000000 in
set_option maxRecDepth 100000 in
/-- limited(a): a as an int, or LimitExceeded -/
theorem m_limited (l : Launch) {D : va_G} {g : Nat → ClassId} (za : Nat) (a : Int64) (H : Heap) : vx_Met l yX0_limited (ws_ yX0_limited cX0_limited 2 (some .int)) rm_m_limited (va_Pc [.long a] (PZ D g za H)) (QI (fun r H1 => H1 = H ∧ (lim a ∧ r = a.toInt32)) (fun q => H.size ≤ q)) (XL (¬ lim a)) 1 6 (fun q => H.size ≤ q) := by
  refine vx_ofW (cc := cX0_limited) (maxL := 2) (ret := (some .int)) (by decide) rfl ?_
  intro p e s m args below meth c s₁ B hml htab hv
  obtain ⟨rfl, hH, hK, hZ⟩ := hv
  subst hH
  have hx := B.exec
  have hb := B.bytes
  have hr := B.returns
  have hts := atoms_spec (ws := ws_ yX0_limited cX0_limited 2 (some .int)) B.pre
  have hts : ∀ w ∈ lw_all, w.before _ s = true := fun w h => hts w (List.mem_cons_of_mem _ h)
  have hown : s.vm.findClass RX0 = some m.cls := findClass_of_methodNamed B.named
  have hlocks := B.notSynchronized
  have hA : ∀ q, s.heap.size ≤ q → (fun q => s.heap.size ≤ q) q := fun q h => h
  have hS : va_S (fun q => s.heap.size ≤ q) s.heap s.heap [] := va_S.rf
  have hP : va_P D vwCl [] s.heap := fun k q h => by simp at h
  have hD : va_D (fun q => s.heap.size ≤ q) [] := ⟨fun i j p q h => by simp at h, fun k q h => by simp at h⟩
  have aza : ¬ (fun q => s.heap.size ≤ q) za := Nat.not_le.mpr hZ.lt
  have hl := lv_entry ([.long a]) (n := 2) (Nat.le_of_ble_eq_true rfl)
  rw [lg_entry_eq]
  generalize (lg_sl ([.long a]) ++ List.replicate (2 - (lg_sl ([.long a])).length) Slot.unset).toArray = ls at hl ⊢
  have hl : lv_has ls 2 [(0, .long a)] := hl
  refine lv_lload_n (pc := 0) hx hb dX0_limited_0 rfl (lv_at hl 0 rfl) ?_
  refine lv_ldc2 (pc := 1) (v := (-1000000000)) hx hb hown (hts _ q275) dX0_limited_1 ?_
  refine lv_ldc2 (pc := 4) (v := 1000000000) hx hb hown (hts _ q276) dX0_limited_4 ?_
  refine kIp (pc := 7) (va_runS (As := [.long a, .long (-1000000000), .long 1000000000]) (rest := []) ⟨hx, hb, hml, hown, hts⟩ (m_inRange l a (-1000000000) 1000000000 s.heap) (va_cwS 3 hts (lw_S q201 q202 q21 q203) rfl rfl rfl (by decide +kernel) ⟨Nat.le_of_ble_eq_true rfl, Nat.le_of_ble_eq_true rfl⟩) (preS hK) rfl rfl hl.1 rfl (lv_room (Nat.le_of_ble_eq_true rfl)) dX0_limited_7 ⟨Nat.le_of_ble_eq_true rfl, Nat.le_of_ble_eq_true rfl⟩) (fun r1 hr1 => ?_)
  refine lv_if_ne (pc := 10) (tgt := 21) hx hb dX0_limited_10 (by decide) (fun cd2 => ?_) (fun cd2 => ?_)
  · have hli : lim a := bI_ne (fun e => cd2 (hr1.trans e))
    refine lv_lload_n (pc := 21) hx hb dX0_limited_21 rfl (lv_at hl 0 rfl) ?_
    refine lv_l2i (pc := 22) hx hb dX0_limited_22 rfl ?_
    refine vx_ret ?_
    refine W.widen (k := 1) (n := 6) (by omega) (by omega) ?_
    have hq9 : (fun r H1 => H1 = s.heap ∧ (lim a ∧ r = a.toInt32) : Int32 → Heap → Prop) (Int64.toInt32 a) s.heap := ⟨rfl, hli, rfl⟩
    exact W.iret (v := Int64.toInt32 a) hx hb hr (fun t ht hW => ⟨⟨_, rfl, by rw [ht]; exact hq9⟩, hS.F ht⟩) hS.2.2 dX0_limited_23
  · have hnl : ¬ lim a := bI_eq (hr1.symm.trans cd2)
    refine va_new (pc := 13) (ci := 7) (fs := [.null, .null, .null, .null, .null, .int 0]) (C := RX7) (T := TX7) (N := 6) hx hb hts in_X7 tyX7 tyX7_ok hown (hts _ q267) (hts _ q277) (hts _ q32) hK.1 hP hD hS hA rfl (fun j hj => by rcases (show j = 0 ∨ j = 1 ∨ j = 2 ∨ j = 3 ∨ j = 4 ∨ j = 5 by omega) with rfl | rfl | rfl | rfl | rfl | rfl <;> rfl) (Nat.le_of_ble_eq_true rfl) (Nat.le_of_ble_eq_true rfl) dX0_limited_13 (fun q3 H hP hD hS => ?_)
    have hP : va_P D vwCl [(q3, .inr (7, [.null, .null, .null, .null, .null, .int 0]))] H := hP
    have hD : va_D (fun q => s.heap.size ≤ q) [(q3, .inr (7, [.null, .null, .null, .null, .null, .int 0]))] := hD
    refine lv_dup (pc := 16) hx hb dX0_limited_16 rfl ?_
    have hFc := awF (Lc := [q3]) hD hS hA [0] rfl
    refine kV (pc := 17) (va_runI (As := []) (rest := [.ref q3]) ⟨hx, hb, hml, hown, hts⟩ (m_lim l za q3 H (hP.sub (ws' := [(q3, .inr (7, [.null, .null, .null, .null, .null, .int 0]))]) [0] rfl) (ninL aza (fun q h => hFc q (Or.inl h)))) (cwI 0 hts (lw_meth q315) rfl rfl rfl (hts _ q32) (hts _ q313) (hts _ q314) rfl (by decide +kernel) ⟨Nat.le_of_ble_eq_true rfl, Nat.le_of_ble_eq_true rfl⟩) (preSZ hK (hZ.kept (hS.2.1 _ hZ.lt aza))) rfl rfl hl.1 rfl (lv_room (Nat.le_of_ble_eq_true rfl)) dX0_limited_17 ⟨Nat.le_of_ble_eq_true rfl, Nat.le_of_ble_eq_true rfl⟩) hS hFc (fun H locs hp9 hz1 hk1 hS => ?_)
    obtain ⟨fs1, hP1⟩ := hp9
    obtain ⟨hP, hD⟩ := jn (wr := []) (w1 := [(q3, .inr (7, fs1))]) hP hD [0] [] rfl rfl (by decide) (by decide) hk1 hFc hP1 (d1 (Or.inl (by simp)))
    have hP : va_P D vwCl [(q3, .inr (7, fs1))] H := hP
    have hD : va_D (fun q => s.heap.size ≤ q) [(q3, .inr (7, fs1))] := hD
    refine vx_athrow hx hb dX0_limited_20 ?_
    obtain ⟨ce, hce, hcv, hcl⟩ := xcell hK hP 0 rfl rfl
    exact vx_out (fun x hx9 => (htab x hx9).elim) hlocks hce hcv hcl (fun t ht hvm => ⟨rfl, hnl, hS.F ht⟩) hS.2.2 (Nat.le_refl _) (Nat.le_refl _)

abbrev rm_m_positive : Room := ({ frames := 5, cells := 1, slots := 6, locals := 101 })
set_option maxHeartbeats 4000000 in
set_option maxRecDepth 100000 in
theorem m_positive (l : Launch) {D : va_G} {g : Nat → ClassId} (za : Nat) (a : Int64) (H : Heap) : vx_Met l yX2_positive (ws_ yX2_positive cX2_positive 2 (some .int)) rm_m_positive (va_Pc [.long a] (PZ D g za H)) (QI (fun r H1 => H1 = H ∧ (lim (if 0 < a then a else 0) ∧ r = (if 0 < a then a else 0 : Int64).toInt32)) (fun q => H.size ≤ q)) (XL (¬ lim (if 0 < a then a else 0))) 1 6 (fun q => H.size ≤ q) := by
  refine vx_ofW (cc := cX2_positive) (maxL := 2) (ret := (some .int)) (by decide) rfl ?_
  intro p e s m args below meth c s₁ B hml htab hv
  obtain ⟨rfl, hH, hK, hZ⟩ := hv
  subst hH
  have hx := B.exec
  have hb := B.bytes
  have hr := B.returns
  have hts := atoms_spec (ws := ws_ yX2_positive cX2_positive 2 (some .int)) B.pre
  have hts : ∀ w ∈ lw_all, w.before _ s = true := fun w h => hts w (List.mem_cons_of_mem _ h)
  have hown : s.vm.findClass RX2 = some m.cls := findClass_of_methodNamed B.named
  have hlocks := B.notSynchronized
  have hA : ∀ q, s.heap.size ≤ q → (fun q => s.heap.size ≤ q) q := fun q h => h
  have hS : va_S (fun q => s.heap.size ≤ q) s.heap s.heap [] := va_S.rf
  have hP : va_P D vwCl [] s.heap := fun k q h => by simp at h
  have hD : va_D (fun q => s.heap.size ≤ q) [] := ⟨fun i j p q h => by simp at h, fun k q h => by simp at h⟩
  have aza : ¬ (fun q => s.heap.size ≤ q) za := Nat.not_le.mpr hZ.lt
  have hl := lv_entry ([.long a]) (n := 2) (Nat.le_of_ble_eq_true rfl)
  rw [lg_entry_eq]
  generalize (lg_sl ([.long a]) ++ List.replicate (2 - (lg_sl ([.long a])).length) Slot.unset).toArray = ls at hl ⊢
  have hl : lv_has ls 2 [(0, .long a)] := hl
  refine lv_lconst (pc := 0) (v := 0) hx hb dX2_positive_0 rfl ?_
  refine lv_lload_n (pc := 1) hx hb dX2_positive_1 rfl (lv_at hl 0 rfl) ?_
  refine kLp (pc := 2) (va_runS (As := [.long 0, .long a]) (rest := []) ⟨hx, hb, hml, hown, hts⟩ (m_max l 0 a s.heap) (va_cwS 2 hts (lw_S q339 q340 q33 q341) rfl rfl rfl (by decide +kernel) ⟨Nat.le_of_ble_eq_true rfl, Nat.le_of_ble_eq_true rfl⟩) (preS hK) rfl rfl hl.1 rfl (lv_room (Nat.le_of_ble_eq_true rfl)) dX2_positive_2 ⟨Nat.le_of_ble_eq_true rfl, Nat.le_of_ble_eq_true rfl⟩) (fun r1 hr1 => ?_)
  refine xIp (pc := 5) (vx_runSN (As := [.long r1]) (rest := []) ⟨hx, hb, hml, hown, hts⟩ (m_limited l za r1 s.heap) ⟨va_cnB 1 hts (lw_meth q274) rfl rfl rfl (hK.2.1 _ nq272) (hts _ q21) (by decide +kernel) ⟨Nat.le_of_ble_eq_true rfl, Nat.le_of_ble_eq_true rfl⟩, hts _ q273, trivial⟩ (preSZ hK hZ) rfl rfl hl.1 rfl (lv_room (Nat.le_of_ble_eq_true rfl)) dX2_positive_5 ⟨Nat.le_of_ble_eq_true rfl, Nat.le_of_ble_eq_true rfl⟩) hS (fun q h => hA _ h) (fun ce q9 H1 locs1 hX hz1 hk1 hS1 hce hcv hcl => ?_) (fun r2 hr2 => ?_)
  · exact vx_out (fun x hx9 => (htab x hx9).elim) hlocks hce hcv hcl (fun t ht hvm => ⟨rfl, (by rw [← hr1]; exact hX), by rw [ht]; exact hz1, fun q h1 h2 => by rw [ht]; exact hk1 q h1⟩) hS1.2.2 (Nat.le_of_ble_eq_true rfl) (Nat.le_of_ble_eq_true rfl)
  refine vx_ret ?_
  refine W.widen (k := 1) (n := 6) (by omega) (by omega) ?_
  have hq9 : (fun r H1 => H1 = s.heap ∧ (lim (if 0 < a then a else 0) ∧ r = (if 0 < a then a else 0 : Int64).toInt32) : Int32 → Heap → Prop) r2 s.heap := ⟨rfl, by rw [← hr1]; exact hr2⟩
  exact W.iret (v := r2) hx hb hr (fun t ht hW => ⟨⟨_, rfl, by rw [ht]; exact hq9⟩, hS.F ht⟩) hS.2.2 dX2_positive_8
