abbrev rm_m2_init : Room := ({ frames := 1, cells := 0, slots := 0, locals := 12 })
set_option maxHeartbeats 4000000 in
set_option maxRecDepth 100000 in
/-- Estimate() -/
theorem m2_init (l : Launch) {D : va_G} {g : Nat → ClassId} (h0 : Nat) (H : Heap) (hP : va_P D vwCl [(h0, .inr (2, [.int 0, .int 0, .int 0, .int 0, .int 0, .int 0, .int 0, .int 0]))] H) : Met l yX2_init (ws_ yX2_init cX2_init 1 none) rm_m2_init (va_Pc [.ref h0] (PH D g H)) (QV (fun H1 => va_P D vwCl [(h0, .inr (2, [.int 0, .int 0, .int 4096, .int 0, .int 4096, .int (-2000000001), .int (-2000000001), .int (-2000000001)]))] H1) (Aw [h0] H.size)) 0 0 (Aw [h0] H.size) := by
  refine Met.ofW (cc := cX2_init) (maxL := 1) (ret := none) (by decide) rfl ?_
  intro p e s m args below meth c s₁ B hml hv
  obtain ⟨rfl, hH, hK⟩ := hv
  subst hH
  have hx := B.exec
  have hb := B.bytes
  have hr := B.returns
  have hts := atoms_spec (ws := ws_ yX2_init cX2_init 1 none) B.pre
  have hts : ∀ w ∈ lw_all, w.before _ s = true := fun w h => hts w (List.mem_cons_of_mem _ h)
  have hown : s.vm.findClass RX2 = some m.cls := findClass_of_methodNamed B.named
  have hlocks := B.notSynchronized
  have hin : meth.name = "<init>" := (name_of_methodNamed B.named B.method).1
  have hA : ∀ q, s.heap.size ≤ q → (Aw [h0] s.heap.size) q := fun q h => Or.inr h
  have hS : va_S (Aw [h0] s.heap.size) s.heap s.heap [] := va_S.rf
  have hD : va_D (Aw [h0] s.heap.size) [(h0, .inr (2, [.int 0, .int 0, .int 0, .int 0, .int 0, .int 0, .int 0, .int 0]))] := d1 (Or.inl (by simp))
  have hl := lv_entry ([.ref h0]) (n := 1) (Nat.le_of_ble_eq_true rfl)
  rw [lg_entry_eq]
  generalize (lg_sl ([.ref h0]) ++ List.replicate (1 - (lg_sl ([.ref h0])).length) Slot.unset).toArray = ls at hl ⊢
  have hl : lv_has ls 1 [(0, .ref h0)] := hl
  refine lv_aload_n (pc := 0) hx hb dX2_init_0 rfl (lv_at hl 0 rfl) ?_
  refine W.objInit hx hb hown (hts _ q54) (hts _ q41) (hts _ q42) rfl (by rw [hml]; exact hl.1) rfl dX2_init_1 (Nat.le_of_ble_eq_true rfl) (Nat.le_of_ble_eq_true rfl) ?_
  refine W.eq (g2 := F0 m 4 ls []) rfl ?_
  refine lv_aload_n (pc := 4) hx hb dX2_init_4 rfl (lv_at hl 0 rfl) ?_
  refine lv_sipush (pc := 5) (v := 4096) hx hb dX2_init_5 (by decide) ?_
  refine va_put (pc := 8) (D := D) (ci := 2) (v := .int 4096) (ty := .int) (C := RX2) (T := TX2) (N := 8) hx hb hts in_X2 tyX2 tyX2_ok nmX2 hown hK.1 hP hD hS 0 rfl rfl 2 (by decide) (hts _ q61) (fun _ h9 => h9) rfl (by decide +kernel) rfl rfl (Nat.le_of_ble_eq_true rfl) dX2_init_8 (fun H locs hP hD hS => ?_)
  have hP : va_P D vwCl [(h0, .inr (2, [.int 0, .int 0, .int 4096, .int 0, .int 0, .int 0, .int 0, .int 0]))] H := hP
  have hD : va_D (Aw [h0] s.heap.size) [(h0, .inr (2, [.int 0, .int 0, .int 4096, .int 0, .int 0, .int 0, .int 0, .int 0]))] := hD
  refine lv_aload_n (pc := 11) hx hb dX2_init_11 rfl (lv_at hl 0 rfl) ?_
  refine lv_sipush (pc := 12) (v := 4096) hx hb dX2_init_12 (by decide) ?_
  refine va_put (pc := 15) (D := D) (ci := 2) (v := .int 4096) (ty := .int) (C := RX2) (T := TX2) (N := 8) hx hb hts in_X2 tyX2 tyX2_ok nmX2 hown hK.1 hP hD hS 0 rfl rfl 4 (by decide) (hts _ q65) (fun _ h9 => h9) rfl (by decide +kernel) rfl rfl (Nat.le_of_ble_eq_true rfl) dX2_init_15 (fun H locs hP hD hS => ?_)
  have hP : va_P D vwCl [(h0, .inr (2, [.int 0, .int 0, .int 4096, .int 0, .int 4096, .int 0, .int 0, .int 0]))] H := hP
  have hD : va_D (Aw [h0] s.heap.size) [(h0, .inr (2, [.int 0, .int 0, .int 4096, .int 0, .int 4096, .int 0, .int 0, .int 0]))] := hD
  refine lv_aload_n (pc := 18) hx hb dX2_init_18 rfl (lv_at hl 0 rfl) ?_
  refine lv_ldc (pc := 19) (v := (-2000000001)) hx hb hown (hts _ q55) dX2_init_19 ?_
  refine va_put (pc := 21) (D := D) (ci := 2) (v := .int (-2000000001)) (ty := .int) (C := RX2) (T := TX2) (N := 8) hx hb hts in_X2 tyX2 tyX2_ok nmX2 hown hK.1 hP hD hS 0 rfl rfl 5 (by decide) (hts _ q67) (fun _ h9 => h9) rfl (by decide +kernel) rfl rfl (Nat.le_of_ble_eq_true rfl) dX2_init_21 (fun H locs hP hD hS => ?_)
  have hP : va_P D vwCl [(h0, .inr (2, [.int 0, .int 0, .int 4096, .int 0, .int 4096, .int (-2000000001), .int 0, .int 0]))] H := hP
  have hD : va_D (Aw [h0] s.heap.size) [(h0, .inr (2, [.int 0, .int 0, .int 4096, .int 0, .int 4096, .int (-2000000001), .int 0, .int 0]))] := hD
  refine lv_aload_n (pc := 24) hx hb dX2_init_24 rfl (lv_at hl 0 rfl) ?_
  refine lv_ldc (pc := 25) (v := (-2000000001)) hx hb hown (hts _ q55) dX2_init_25 ?_
  refine va_put (pc := 27) (D := D) (ci := 2) (v := .int (-2000000001)) (ty := .int) (C := RX2) (T := TX2) (N := 8) hx hb hts in_X2 tyX2 tyX2_ok nmX2 hown hK.1 hP hD hS 0 rfl rfl 6 (by decide) (hts _ q70) (fun _ h9 => h9) rfl (by decide +kernel) rfl rfl (Nat.le_of_ble_eq_true rfl) dX2_init_27 (fun H locs hP hD hS => ?_)
  have hP : va_P D vwCl [(h0, .inr (2, [.int 0, .int 0, .int 4096, .int 0, .int 4096, .int (-2000000001), .int (-2000000001), .int 0]))] H := hP
  have hD : va_D (Aw [h0] s.heap.size) [(h0, .inr (2, [.int 0, .int 0, .int 4096, .int 0, .int 4096, .int (-2000000001), .int (-2000000001), .int 0]))] := hD
  refine lv_aload_n (pc := 30) hx hb dX2_init_30 rfl (lv_at hl 0 rfl) ?_
  refine lv_ldc (pc := 31) (v := (-2000000001)) hx hb hown (hts _ q55) dX2_init_31 ?_
  refine va_put (pc := 33) (D := D) (ci := 2) (v := .int (-2000000001)) (ty := .int) (C := RX2) (T := TX2) (N := 8) hx hb hts in_X2 tyX2 tyX2_ok nmX2 hown hK.1 hP hD hS 0 rfl rfl 7 (by decide) (hts _ q73) (fun _ h9 => h9) rfl (by decide +kernel) rfl rfl (Nat.le_of_ble_eq_true rfl) dX2_init_33 (fun H locs hP hD hS => ?_)
  have hP : va_P D vwCl [(h0, .inr (2, [.int 0, .int 0, .int 4096, .int 0, .int 4096, .int (-2000000001), .int (-2000000001), .int (-2000000001)]))] H := hP
  have hD : va_D (Aw [h0] s.heap.size) [(h0, .inr (2, [.int 0, .int 0, .int 4096, .int 0, .int 4096, .int (-2000000001), .int (-2000000001), .int (-2000000001)]))] := hD
  have hq9 : (fun H1 => va_P D vwCl [(h0, .inr (2, [.int 0, .int 0, .int 4096, .int 0, .int 4096, .int (-2000000001), .int (-2000000001), .int (-2000000001)]))] H1 : Heap → Prop) H := hP
  exact W.vret hx hb hr (fun t ht hW => ⟨⟨rfl, by rw [ht]; exact hq9⟩, hS.F ht⟩) hS.2.2 dX2_init_36

abbrev rm_m2_copyFrom : Room := ({ frames := 0, cells := 0, slots := 0, locals := 0 })
set_option maxHeartbeats 4000000 in
set_option maxRecDepth 100000 in
theorem m2_copyFrom (l : Launch) {D : va_G} {g : Nat → ClassId} (h0 h1 : Nat) (u o : Nat → Int32) (H : Heap) (hP : va_P D vwCl [(h0, .inr (2, [.int (u 0), .int (u 1), .int (u 2), .int (u 3), .int (u 4), .int (u 5), .int (u 6), .int (u 7)]))] H) (ho : va_P D vwCl [(h1, .inr (2, [.int (o 0), .int (o 1), .int (o 2), .int (o 3), .int (o 4), .int (o 5), .int (o 6), .int (o 7)]))] H) (nho : h1 ∉ [h0]) : Met l yX2_copyFrom (ws_ yX2_copyFrom cX2_copyFrom 2 none) rm_m2_copyFrom (va_Pc [.ref h0, .ref h1] (PH D g H)) (QV (fun H1 => va_P D vwCl [(h0, .inr (2, [.int (o 0), .int (o 1), .int (o 2), .int (o 3), .int (o 4), .int (o 5), .int (o 6), .int (o 7)]))] H1) (Aw [h0] H.size)) 0 0 (Aw [h0] H.size) := by
  refine Met.ofW (cc := cX2_copyFrom) (maxL := 2) (ret := none) (by decide) rfl ?_
  intro p e s m args below meth c s₁ B hml hv
  obtain ⟨rfl, hH, hK⟩ := hv
  subst hH
  have hx := B.exec
  have hb := B.bytes
  have hr := B.returns
  have hts := atoms_spec (ws := ws_ yX2_copyFrom cX2_copyFrom 2 none) B.pre
  have hts : ∀ w ∈ lw_all, w.before _ s = true := fun w h => hts w (List.mem_cons_of_mem _ h)
  have hown : s.vm.findClass RX2 = some m.cls := findClass_of_methodNamed B.named
  have hlocks := B.notSynchronized
  have hA : ∀ q, s.heap.size ≤ q → (Aw [h0] s.heap.size) q := fun q h => Or.inr h
  have hS : va_S (Aw [h0] s.heap.size) s.heap s.heap [] := va_S.rf
  have hD : va_D (Aw [h0] s.heap.size) [(h0, .inr (2, [.int (u 0), .int (u 1), .int (u 2), .int (u 3), .int (u 4), .int (u 5), .int (u 6), .int (u 7)]))] := d1 (Or.inl (by simp))
  have aho : ¬ (Aw [h0] s.heap.size) h1 := naw nho (ho 0 _ rfl).lt
  have hl := lv_entry ([.ref h0, .ref h1]) (n := 2) (Nat.le_of_ble_eq_true rfl)
  rw [lg_entry_eq]
  generalize (lg_sl ([.ref h0, .ref h1]) ++ List.replicate (2 - (lg_sl ([.ref h0, .ref h1])).length) Slot.unset).toArray = ls at hl ⊢
  have hl : lv_has ls 2 [(0, .ref h0), (1, .ref h1)] := hl
  refine lv_aload_n (pc := 0) hx hb dX2_copyFrom_0 rfl (lv_at hl 0 rfl) ?_
  refine lv_aload_n (pc := 1) hx hb dX2_copyFrom_1 rfl (lv_at hl 1 rfl) ?_
  refine va_get (pc := 2) (D := D) (ci := 2) (v := .int (o 0)) (C := RX2) (T := TX2) (N := 8) hx hb hts in_X2 hown hK.1 ho 0 rfl rfl 0 (by decide) (hts _ q56) (fun _ h9 => h9) rfl dX2_copyFrom_2 ?_
  refine va_put (pc := 5) (D := D) (ci := 2) (v := .int (o 0)) (ty := .int) (C := RX2) (T := TX2) (N := 8) hx hb hts in_X2 tyX2 tyX2_ok nmX2 hown hK.1 hP hD hS 0 rfl rfl 0 (by decide) (hts _ q56) (fun _ h9 => h9) rfl (by decide +kernel) rfl rfl (Nat.le_of_ble_eq_true rfl) dX2_copyFrom_5 (fun H locs hP hD hS => ?_)
  have hP : va_P D vwCl [(h0, .inr (2, [.int (o 0), .int (u 1), .int (u 2), .int (u 3), .int (u 4), .int (u 5), .int (u 6), .int (u 7)]))] H := hP
  have hD : va_D (Aw [h0] s.heap.size) [(h0, .inr (2, [.int (o 0), .int (u 1), .int (u 2), .int (u 3), .int (u 4), .int (u 5), .int (u 6), .int (u 7)]))] := hD
  refine lv_aload_n (pc := 8) hx hb dX2_copyFrom_8 rfl (lv_at hl 0 rfl) ?_
  refine lv_aload_n (pc := 9) hx hb dX2_copyFrom_9 rfl (lv_at hl 1 rfl) ?_
  refine va_get (pc := 10) (D := D) (ci := 2) (v := .int (o 1)) (C := RX2) (T := TX2) (N := 8) hx hb hts in_X2 hown hK.1 (ro_at hS ho aho) 0 rfl rfl 1 (by decide) (hts _ q59) (fun _ h9 => h9) rfl dX2_copyFrom_10 ?_
  refine va_put (pc := 13) (D := D) (ci := 2) (v := .int (o 1)) (ty := .int) (C := RX2) (T := TX2) (N := 8) hx hb hts in_X2 tyX2 tyX2_ok nmX2 hown hK.1 hP hD hS 0 rfl rfl 1 (by decide) (hts _ q59) (fun _ h9 => h9) rfl (by decide +kernel) rfl rfl (Nat.le_of_ble_eq_true rfl) dX2_copyFrom_13 (fun H locs hP hD hS => ?_)
  have hP : va_P D vwCl [(h0, .inr (2, [.int (o 0), .int (o 1), .int (u 2), .int (u 3), .int (u 4), .int (u 5), .int (u 6), .int (u 7)]))] H := hP
  have hD : va_D (Aw [h0] s.heap.size) [(h0, .inr (2, [.int (o 0), .int (o 1), .int (u 2), .int (u 3), .int (u 4), .int (u 5), .int (u 6), .int (u 7)]))] := hD
  refine lv_aload_n (pc := 16) hx hb dX2_copyFrom_16 rfl (lv_at hl 0 rfl) ?_
  refine lv_aload_n (pc := 17) hx hb dX2_copyFrom_17 rfl (lv_at hl 1 rfl) ?_
  refine va_get (pc := 18) (D := D) (ci := 2) (v := .int (o 2)) (C := RX2) (T := TX2) (N := 8) hx hb hts in_X2 hown hK.1 (ro_at hS ho aho) 0 rfl rfl 2 (by decide) (hts _ q61) (fun _ h9 => h9) rfl dX2_copyFrom_18 ?_
  refine va_put (pc := 21) (D := D) (ci := 2) (v := .int (o 2)) (ty := .int) (C := RX2) (T := TX2) (N := 8) hx hb hts in_X2 tyX2 tyX2_ok nmX2 hown hK.1 hP hD hS 0 rfl rfl 2 (by decide) (hts _ q61) (fun _ h9 => h9) rfl (by decide +kernel) rfl rfl (Nat.le_of_ble_eq_true rfl) dX2_copyFrom_21 (fun H locs hP hD hS => ?_)
  have hP : va_P D vwCl [(h0, .inr (2, [.int (o 0), .int (o 1), .int (o 2), .int (u 3), .int (u 4), .int (u 5), .int (u 6), .int (u 7)]))] H := hP
  have hD : va_D (Aw [h0] s.heap.size) [(h0, .inr (2, [.int (o 0), .int (o 1), .int (o 2), .int (u 3), .int (u 4), .int (u 5), .int (u 6), .int (u 7)]))] := hD
  refine lv_aload_n (pc := 24) hx hb dX2_copyFrom_24 rfl (lv_at hl 0 rfl) ?_
  refine lv_aload_n (pc := 25) hx hb dX2_copyFrom_25 rfl (lv_at hl 1 rfl) ?_
  refine va_get (pc := 26) (D := D) (ci := 2) (v := .int (o 3)) (C := RX2) (T := TX2) (N := 8) hx hb hts in_X2 hown hK.1 (ro_at hS ho aho) 0 rfl rfl 3 (by decide) (hts _ q63) (fun _ h9 => h9) rfl dX2_copyFrom_26 ?_
  refine va_put (pc := 29) (D := D) (ci := 2) (v := .int (o 3)) (ty := .int) (C := RX2) (T := TX2) (N := 8) hx hb hts in_X2 tyX2 tyX2_ok nmX2 hown hK.1 hP hD hS 0 rfl rfl 3 (by decide) (hts _ q63) (fun _ h9 => h9) rfl (by decide +kernel) rfl rfl (Nat.le_of_ble_eq_true rfl) dX2_copyFrom_29 (fun H locs hP hD hS => ?_)
  have hP : va_P D vwCl [(h0, .inr (2, [.int (o 0), .int (o 1), .int (o 2), .int (o 3), .int (u 4), .int (u 5), .int (u 6), .int (u 7)]))] H := hP
  have hD : va_D (Aw [h0] s.heap.size) [(h0, .inr (2, [.int (o 0), .int (o 1), .int (o 2), .int (o 3), .int (u 4), .int (u 5), .int (u 6), .int (u 7)]))] := hD
  refine lv_aload_n (pc := 32) hx hb dX2_copyFrom_32 rfl (lv_at hl 0 rfl) ?_
  refine lv_aload_n (pc := 33) hx hb dX2_copyFrom_33 rfl (lv_at hl 1 rfl) ?_
  refine va_get (pc := 34) (D := D) (ci := 2) (v := .int (o 4)) (C := RX2) (T := TX2) (N := 8) hx hb hts in_X2 hown hK.1 (ro_at hS ho aho) 0 rfl rfl 4 (by decide) (hts _ q65) (fun _ h9 => h9) rfl dX2_copyFrom_34 ?_
  refine va_put (pc := 37) (D := D) (ci := 2) (v := .int (o 4)) (ty := .int) (C := RX2) (T := TX2) (N := 8) hx hb hts in_X2 tyX2 tyX2_ok nmX2 hown hK.1 hP hD hS 0 rfl rfl 4 (by decide) (hts _ q65) (fun _ h9 => h9) rfl (by decide +kernel) rfl rfl (Nat.le_of_ble_eq_true rfl) dX2_copyFrom_37 (fun H locs hP hD hS => ?_)
  have hP : va_P D vwCl [(h0, .inr (2, [.int (o 0), .int (o 1), .int (o 2), .int (o 3), .int (o 4), .int (u 5), .int (u 6), .int (u 7)]))] H := hP
  have hD : va_D (Aw [h0] s.heap.size) [(h0, .inr (2, [.int (o 0), .int (o 1), .int (o 2), .int (o 3), .int (o 4), .int (u 5), .int (u 6), .int (u 7)]))] := hD
  refine lv_aload_n (pc := 40) hx hb dX2_copyFrom_40 rfl (lv_at hl 0 rfl) ?_
  refine lv_aload_n (pc := 41) hx hb dX2_copyFrom_41 rfl (lv_at hl 1 rfl) ?_
  refine va_get (pc := 42) (D := D) (ci := 2) (v := .int (o 5)) (C := RX2) (T := TX2) (N := 8) hx hb hts in_X2 hown hK.1 (ro_at hS ho aho) 0 rfl rfl 5 (by decide) (hts _ q67) (fun _ h9 => h9) rfl dX2_copyFrom_42 ?_
  refine va_put (pc := 45) (D := D) (ci := 2) (v := .int (o 5)) (ty := .int) (C := RX2) (T := TX2) (N := 8) hx hb hts in_X2 tyX2 tyX2_ok nmX2 hown hK.1 hP hD hS 0 rfl rfl 5 (by decide) (hts _ q67) (fun _ h9 => h9) rfl (by decide +kernel) rfl rfl (Nat.le_of_ble_eq_true rfl) dX2_copyFrom_45 (fun H locs hP hD hS => ?_)
  have hP : va_P D vwCl [(h0, .inr (2, [.int (o 0), .int (o 1), .int (o 2), .int (o 3), .int (o 4), .int (o 5), .int (u 6), .int (u 7)]))] H := hP
  have hD : va_D (Aw [h0] s.heap.size) [(h0, .inr (2, [.int (o 0), .int (o 1), .int (o 2), .int (o 3), .int (o 4), .int (o 5), .int (u 6), .int (u 7)]))] := hD
  refine lv_aload_n (pc := 48) hx hb dX2_copyFrom_48 rfl (lv_at hl 0 rfl) ?_
  refine lv_aload_n (pc := 49) hx hb dX2_copyFrom_49 rfl (lv_at hl 1 rfl) ?_
  refine va_get (pc := 50) (D := D) (ci := 2) (v := .int (o 6)) (C := RX2) (T := TX2) (N := 8) hx hb hts in_X2 hown hK.1 (ro_at hS ho aho) 0 rfl rfl 6 (by decide) (hts _ q70) (fun _ h9 => h9) rfl dX2_copyFrom_50 ?_
  refine va_put (pc := 53) (D := D) (ci := 2) (v := .int (o 6)) (ty := .int) (C := RX2) (T := TX2) (N := 8) hx hb hts in_X2 tyX2 tyX2_ok nmX2 hown hK.1 hP hD hS 0 rfl rfl 6 (by decide) (hts _ q70) (fun _ h9 => h9) rfl (by decide +kernel) rfl rfl (Nat.le_of_ble_eq_true rfl) dX2_copyFrom_53 (fun H locs hP hD hS => ?_)
  have hP : va_P D vwCl [(h0, .inr (2, [.int (o 0), .int (o 1), .int (o 2), .int (o 3), .int (o 4), .int (o 5), .int (o 6), .int (u 7)]))] H := hP
  have hD : va_D (Aw [h0] s.heap.size) [(h0, .inr (2, [.int (o 0), .int (o 1), .int (o 2), .int (o 3), .int (o 4), .int (o 5), .int (o 6), .int (u 7)]))] := hD
  refine lv_aload_n (pc := 56) hx hb dX2_copyFrom_56 rfl (lv_at hl 0 rfl) ?_
  refine lv_aload_n (pc := 57) hx hb dX2_copyFrom_57 rfl (lv_at hl 1 rfl) ?_
  refine va_get (pc := 58) (D := D) (ci := 2) (v := .int (o 7)) (C := RX2) (T := TX2) (N := 8) hx hb hts in_X2 hown hK.1 (ro_at hS ho aho) 0 rfl rfl 7 (by decide) (hts _ q73) (fun _ h9 => h9) rfl dX2_copyFrom_58 ?_
  refine va_put (pc := 61) (D := D) (ci := 2) (v := .int (o 7)) (ty := .int) (C := RX2) (T := TX2) (N := 8) hx hb hts in_X2 tyX2 tyX2_ok nmX2 hown hK.1 hP hD hS 0 rfl rfl 7 (by decide) (hts _ q73) (fun _ h9 => h9) rfl (by decide +kernel) rfl rfl (Nat.le_of_ble_eq_true rfl) dX2_copyFrom_61 (fun H locs hP hD hS => ?_)
  have hP : va_P D vwCl [(h0, .inr (2, [.int (o 0), .int (o 1), .int (o 2), .int (o 3), .int (o 4), .int (o 5), .int (o 6), .int (o 7)]))] H := hP
  have hD : va_D (Aw [h0] s.heap.size) [(h0, .inr (2, [.int (o 0), .int (o 1), .int (o 2), .int (o 3), .int (o 4), .int (o 5), .int (o 6), .int (o 7)]))] := hD
  have hq9 : (fun H1 => va_P D vwCl [(h0, .inr (2, [.int (o 0), .int (o 1), .int (o 2), .int (o 3), .int (o 4), .int (o 5), .int (o 6), .int (o 7)]))] H1 : Heap → Prop) H := hP
  exact W.vret hx hb hr (fun t ht hW => ⟨⟨rfl, by rw [ht]; exact hq9⟩, hS.F ht⟩) hS.2.2 dX2_copyFrom_64

abbrev rm_m2_predict : Room := ({ frames := 6, cells := 1, slots := 6, locals := 122 })
set_option maxHeartbeats 4000000 in
set_option maxRecDepth 100000 in
/-- Estimate.predict -/
theorem m2_predict (l : Launch) {D : va_G} {g : Nat → ClassId} (za : Nat) (h0 : Nat) (u : Nat → Int32) (i q w : Int32) (H : Heap) (hP : va_P D vwCl [(h0, .inr (2, [.int (u 0), .int (u 1), .int (u 2), .int (u 3), .int (u 4), .int (u 5), .int (u 6), .int (u 7)]))] H) (hzn : za ∉ [h0]) : vx_Met l yX2_predict (ws_ yX2_predict cX2_predict 8 none) rm_m2_predict (va_Pc [.ref h0, .int i, .int q, .int w] (PZ D g za H)) (QV (fun H1 => pOK (e64 u) i.toInt64 q.toInt64 w.toInt64 ∧ va_P D vwCl [(h0, .inr (2, [.int (pE u i q w 0), .int (pE u i q w 1), .int (pE u i q w 2), .int (pE u i q w 3), .int (pE u i q w 4), .int (pE u i q w 5), .int (pE u i q w 6), .int (pE u i q w 7)]))] H1) (Aw [h0] H.size)) (XL (¬ pOK (e64 u) i.toInt64 q.toInt64 w.toInt64)) 1 6 (Aw [h0] H.size) := by
  refine vx_ofW (cc := cX2_predict) (maxL := 8) (ret := none) (by decide) rfl ?_
  intro p e s m args below meth c s₁ B hml htab hv
  obtain ⟨rfl, hH, hK, hZ⟩ := hv
  subst hH
  have hx := B.exec
  have hb := B.bytes
  have hr := B.returns
  have hts := atoms_spec (ws := ws_ yX2_predict cX2_predict 8 none) B.pre
  have hts : ∀ w ∈ lw_all, w.before _ s = true := fun w h => hts w (List.mem_cons_of_mem _ h)
  have hown : s.vm.findClass RX2 = some m.cls := findClass_of_methodNamed B.named
  have hlocks := B.notSynchronized
  have hA : ∀ q, s.heap.size ≤ q → (Aw [h0] s.heap.size) q := fun q h => Or.inr h
  have hS : va_S (Aw [h0] s.heap.size) s.heap s.heap [] := va_S.rf
  have hD : va_D (Aw [h0] s.heap.size) [(h0, .inr (2, [.int (u 0), .int (u 1), .int (u 2), .int (u 3), .int (u 4), .int (u 5), .int (u 6), .int (u 7)]))] := d1 (Or.inl (by simp))
  have aza : ¬ (Aw [h0] s.heap.size) za := naw hzn hZ.lt
  have hl := lv_entry ([.ref h0, .int i, .int q, .int w]) (n := 8) (Nat.le_of_ble_eq_true rfl)
  rw [lg_entry_eq]
  generalize (lg_sl ([.ref h0, .int i, .int q, .int w]) ++ List.replicate (8 - (lg_sl ([.ref h0, .int i, .int q, .int w])).length) Slot.unset).toArray = ls at hl ⊢
  have hl : lv_has ls 8 [(0, .ref h0), (1, .int i), (2, .int q), (3, .int w)] := hl
  refine lv_aload_n (pc := 0) hx hb dX2_predict_0 rfl (lv_at hl 0 rfl) ?_
  refine va_get (pc := 1) (D := D) (ci := 2) (v := .int (u 0)) (C := RX2) (T := TX2) (N := 8) hx hb hts in_X2 hown hK.1 hP 0 rfl rfl 0 (by decide) (hts _ q56) (fun _ h9 => h9) rfl dX2_predict_1 ?_
  refine lv_i2l (pc := 4) hx hb dX2_predict_4 rfl ?_
  refine lv_aload_n (pc := 5) hx hb dX2_predict_5 rfl (lv_at hl 0 rfl) ?_
  refine va_get (pc := 6) (D := D) (ci := 2) (v := .int (u 1)) (C := RX2) (T := TX2) (N := 8) hx hb hts in_X2 hown hK.1 hP 0 rfl rfl 1 (by decide) (hts _ q59) (fun _ h9 => h9) rfl dX2_predict_6 ?_
  refine lv_i2l (pc := 9) hx hb dX2_predict_9 rfl ?_
  refine lv_ladd (pc := 10) hx hb dX2_predict_10 ?_
  refine lv_iload_n (pc := 11) hx hb dX2_predict_11 rfl (lv_at hl 1 rfl) ?_
  refine lv_i2l (pc := 12) hx hb dX2_predict_12 rfl ?_
  refine lv_ladd (pc := 13) hx hb dX2_predict_13 ?_
  refine xIp (pc := 14) (vx_runSN (As := [.long (((Int32.toInt64 (u 0)) + (Int32.toInt64 (u 1))) + (Int32.toInt64 i))]) (rest := []) ⟨hx, hb, hml, hown, hts⟩ (m_limited l za (((Int32.toInt64 (u 0)) + (Int32.toInt64 (u 1))) + (Int32.toInt64 i)) s.heap) ⟨va_cnB 1 hts (lw_meth q274) rfl rfl rfl (hK.2.1 _ nq272) (hts _ q21) (by decide +kernel) ⟨Nat.le_of_ble_eq_true rfl, Nat.le_of_ble_eq_true rfl⟩, hts _ q273, trivial⟩ (preSZ hK hZ) rfl rfl hl.1 rfl (lv_room (Nat.le_of_ble_eq_true rfl)) dX2_predict_14 ⟨Nat.le_of_ble_eq_true rfl, Nat.le_of_ble_eq_true rfl⟩) hS (fun q h => hA _ h) (fun ce q9 H1 locs1 hX hz1 hk1 hS1 hce hcv hcl => ?_) (fun r1 hr1 => ?_)
  · exact vx_out (fun x hx9 => (htab x hx9).elim) hlocks hce hcv hcl (fun t ht hvm => ⟨rfl, (fun h => hX h.1), by rw [ht]; exact hz1, fun q h1 h2 => by rw [ht]; exact hk1 q h1⟩) hS1.2.2 (Nat.le_of_ble_eq_true rfl) (Nat.le_of_ble_eq_true rfl)
  refine lv_istore (pc := 17) (lv' := [(4, .int r1), (0, .ref h0), (1, .int i), (2, .int q), (3, .int w)]) hx hb dX2_predict_17 hl (by decide) rfl (fun ls hl => ?_)
  refine lv_aload_n (pc := 19) hx hb dX2_predict_19 rfl (lv_at hl 1 rfl) ?_
  refine va_get (pc := 20) (D := D) (ci := 2) (v := .int (u 2)) (C := RX2) (T := TX2) (N := 8) hx hb hts in_X2 hown hK.1 hP 0 rfl rfl 2 (by decide) (hts _ q61) (fun _ h9 => h9) rfl dX2_predict_20 ?_
  refine lv_i2l (pc := 23) hx hb dX2_predict_23 rfl ?_
  refine lv_ldc2 (pc := 24) (v := 2) hx hb hown (hts _ q335) dX2_predict_24 ?_
  refine lv_aload_n (pc := 27) hx hb dX2_predict_27 rfl (lv_at hl 1 rfl) ?_
  refine va_get (pc := 28) (D := D) (ci := 2) (v := .int (u 3)) (C := RX2) (T := TX2) (N := 8) hx hb hts in_X2 hown hK.1 hP 0 rfl rfl 3 (by decide) (hts _ q63) (fun _ h9 => h9) rfl dX2_predict_28 ?_
  refine lv_i2l (pc := 31) hx hb dX2_predict_31 rfl ?_
  refine lv_lmul (pc := 32) hx hb dX2_predict_32 ?_
  refine lv_ladd (pc := 33) hx hb dX2_predict_33 ?_
  refine lv_aload_n (pc := 34) hx hb dX2_predict_34 rfl (lv_at hl 1 rfl) ?_
  refine va_get (pc := 35) (D := D) (ci := 2) (v := .int (u 4)) (C := RX2) (T := TX2) (N := 8) hx hb hts in_X2 hown hK.1 hP 0 rfl rfl 4 (by decide) (hts _ q65) (fun _ h9 => h9) rfl dX2_predict_35 ?_
  refine lv_i2l (pc := 38) hx hb dX2_predict_38 rfl ?_
  refine lv_ladd (pc := 39) hx hb dX2_predict_39 ?_
  refine lv_iload_n (pc := 40) hx hb dX2_predict_40 rfl (lv_at hl 3 rfl) ?_
  refine lv_i2l (pc := 41) hx hb dX2_predict_41 rfl ?_
  refine lv_ladd (pc := 42) hx hb dX2_predict_42 ?_
  refine xIp (pc := 43) (vx_runS (As := [.long ((((Int32.toInt64 (u 2)) + (2 * (Int32.toInt64 (u 3)))) + (Int32.toInt64 (u 4))) + (Int32.toInt64 q))]) (rest := []) ⟨hx, hb, hml, hown, hts⟩ (m_positive l za ((((Int32.toInt64 (u 2)) + (2 * (Int32.toInt64 (u 3)))) + (Int32.toInt64 (u 4))) + (Int32.toInt64 q)) s.heap) (va_cwS 1 hts (lw_S q336 q337 q23 q338) rfl rfl rfl (by decide +kernel) ⟨Nat.le_of_ble_eq_true rfl, Nat.le_of_ble_eq_true rfl⟩) (preSZ hK hZ) rfl rfl hl.1 rfl (lv_room (Nat.le_of_ble_eq_true rfl)) dX2_predict_43 ⟨Nat.le_of_ble_eq_true rfl, Nat.le_of_ble_eq_true rfl⟩) hS (fun q h => hA _ h) (fun ce q9 H1 locs1 hX hz1 hk1 hS1 hce hcv hcl => ?_) (fun r2 hr2 => ?_)
  · exact vx_out (fun x hx9 => (htab x hx9).elim) hlocks hce hcv hcl (fun t ht hvm => ⟨rfl, (fun h => hX h.2.1), by rw [ht]; exact hz1, fun q h1 h2 => by rw [ht]; exact hk1 q h1⟩) hS1.2.2 (Nat.le_of_ble_eq_true rfl) (Nat.le_of_ble_eq_true rfl)
  refine lv_istore (pc := 46) (lv' := [(5, .int r2), (4, .int r1), (0, .ref h0), (1, .int i), (2, .int q), (3, .int w)]) hx hb dX2_predict_46 hl (by decide) rfl (fun ls hl => ?_)
  refine lv_aload_n (pc := 48) hx hb dX2_predict_48 rfl (lv_at hl 2 rfl) ?_
  refine va_get (pc := 49) (D := D) (ci := 2) (v := .int (u 3)) (C := RX2) (T := TX2) (N := 8) hx hb hts in_X2 hown hK.1 hP 0 rfl rfl 3 (by decide) (hts _ q63) (fun _ h9 => h9) rfl dX2_predict_49 ?_
  refine lv_i2l (pc := 52) hx hb dX2_predict_52 rfl ?_
  refine lv_aload_n (pc := 53) hx hb dX2_predict_53 rfl (lv_at hl 2 rfl) ?_
  refine va_get (pc := 54) (D := D) (ci := 2) (v := .int (u 4)) (C := RX2) (T := TX2) (N := 8) hx hb hts in_X2 hown hK.1 hP 0 rfl rfl 4 (by decide) (hts _ q65) (fun _ h9 => h9) rfl dX2_predict_54 ?_
  refine lv_i2l (pc := 57) hx hb dX2_predict_57 rfl ?_
  refine lv_ladd (pc := 58) hx hb dX2_predict_58 ?_
  refine xIp (pc := 59) (vx_runSN (As := [.long ((Int32.toInt64 (u 3)) + (Int32.toInt64 (u 4)))]) (rest := []) ⟨hx, hb, hml, hown, hts⟩ (m_limited l za ((Int32.toInt64 (u 3)) + (Int32.toInt64 (u 4))) s.heap) ⟨va_cnB 1 hts (lw_meth q274) rfl rfl rfl (hK.2.1 _ nq272) (hts _ q21) (by decide +kernel) ⟨Nat.le_of_ble_eq_true rfl, Nat.le_of_ble_eq_true rfl⟩, hts _ q273, trivial⟩ (preSZ hK hZ) rfl rfl hl.1 rfl (lv_room (Nat.le_of_ble_eq_true rfl)) dX2_predict_59 ⟨Nat.le_of_ble_eq_true rfl, Nat.le_of_ble_eq_true rfl⟩) hS (fun q h => hA _ h) (fun ce q9 H1 locs1 hX hz1 hk1 hS1 hce hcv hcl => ?_) (fun r3 hr3 => ?_)
  · exact vx_out (fun x hx9 => (htab x hx9).elim) hlocks hce hcv hcl (fun t ht hvm => ⟨rfl, (fun h => hX h.2.2.1), by rw [ht]; exact hz1, fun q h1 h2 => by rw [ht]; exact hk1 q h1⟩) hS1.2.2 (Nat.le_of_ble_eq_true rfl) (Nat.le_of_ble_eq_true rfl)
  refine lv_istore (pc := 62) (lv' := [(6, .int r3), (5, .int r2), (4, .int r1), (0, .ref h0), (1, .int i), (2, .int q), (3, .int w)]) hx hb dX2_predict_62 hl (by decide) rfl (fun ls hl => ?_)
  refine lv_aload_n (pc := 64) hx hb dX2_predict_64 rfl (lv_at hl 3 rfl) ?_
  refine va_get (pc := 65) (D := D) (ci := 2) (v := .int (u 4)) (C := RX2) (T := TX2) (N := 8) hx hb hts in_X2 hown hK.1 hP 0 rfl rfl 4 (by decide) (hts _ q65) (fun _ h9 => h9) rfl dX2_predict_65 ?_
  refine lv_i2l (pc := 68) hx hb dX2_predict_68 rfl ?_
  refine lv_iload_n (pc := 69) hx hb dX2_predict_69 rfl (lv_at hl 6 rfl) ?_
  refine lv_i2l (pc := 70) hx hb dX2_predict_70 rfl ?_
  refine lv_ladd (pc := 71) hx hb dX2_predict_71 ?_
  refine xIp (pc := 72) (vx_runSN (As := [.long ((Int32.toInt64 (u 4)) + (Int32.toInt64 w))]) (rest := []) ⟨hx, hb, hml, hown, hts⟩ (m_limited l za ((Int32.toInt64 (u 4)) + (Int32.toInt64 w)) s.heap) ⟨va_cnB 1 hts (lw_meth q274) rfl rfl rfl (hK.2.1 _ nq272) (hts _ q21) (by decide +kernel) ⟨Nat.le_of_ble_eq_true rfl, Nat.le_of_ble_eq_true rfl⟩, hts _ q273, trivial⟩ (preSZ hK hZ) rfl rfl hl.1 rfl (lv_room (Nat.le_of_ble_eq_true rfl)) dX2_predict_72 ⟨Nat.le_of_ble_eq_true rfl, Nat.le_of_ble_eq_true rfl⟩) hS (fun q h => hA _ h) (fun ce q9 H1 locs1 hX hz1 hk1 hS1 hce hcv hcl => ?_) (fun r4 hr4 => ?_)
  · exact vx_out (fun x hx9 => (htab x hx9).elim) hlocks hce hcv hcl (fun t ht hvm => ⟨rfl, (fun h => hX h.2.2.2), by rw [ht]; exact hz1, fun q h1 h2 => by rw [ht]; exact hk1 q h1⟩) hS1.2.2 (Nat.le_of_ble_eq_true rfl) (Nat.le_of_ble_eq_true rfl)
  refine lv_istore (pc := 75) (lv' := [(7, .int r4), (6, .int r3), (5, .int r2), (4, .int r1), (0, .ref h0), (1, .int i), (2, .int q), (3, .int w)]) hx hb dX2_predict_75 hl (by decide) rfl (fun ls hl => ?_)
  refine lv_aload_n (pc := 77) hx hb dX2_predict_77 rfl (lv_at hl 4 rfl) ?_
  refine lv_iload (pc := 78) hx hb dX2_predict_78 (lv_at hl 3 rfl) ?_
  refine va_put (pc := 80) (D := D) (ci := 2) (v := .int r1) (ty := .int) (C := RX2) (T := TX2) (N := 8) hx hb hts in_X2 tyX2 tyX2_ok nmX2 hown hK.1 hP hD hS 0 rfl rfl 0 (by decide) (hts _ q56) (fun _ h9 => h9) rfl (by decide +kernel) rfl rfl (Nat.le_of_ble_eq_true rfl) dX2_predict_80 (fun H locs hP hD hS => ?_)
  have hP : va_P D vwCl [(h0, .inr (2, [.int r1, .int (u 1), .int (u 2), .int (u 3), .int (u 4), .int (u 5), .int (u 6), .int (u 7)]))] H := hP
  have hD : va_D (Aw [h0] s.heap.size) [(h0, .inr (2, [.int r1, .int (u 1), .int (u 2), .int (u 3), .int (u 4), .int (u 5), .int (u 6), .int (u 7)]))] := hD
  refine lv_aload_n (pc := 83) hx hb dX2_predict_83 rfl (lv_at hl 4 rfl) ?_
  refine lv_iload (pc := 84) hx hb dX2_predict_84 (lv_at hl 2 rfl) ?_
  refine va_put (pc := 86) (D := D) (ci := 2) (v := .int r2) (ty := .int) (C := RX2) (T := TX2) (N := 8) hx hb hts in_X2 tyX2 tyX2_ok nmX2 hown hK.1 hP hD hS 0 rfl rfl 2 (by decide) (hts _ q61) (fun _ h9 => h9) rfl (by decide +kernel) rfl rfl (Nat.le_of_ble_eq_true rfl) dX2_predict_86 (fun H locs hP hD hS => ?_)
  have hP : va_P D vwCl [(h0, .inr (2, [.int r1, .int (u 1), .int r2, .int (u 3), .int (u 4), .int (u 5), .int (u 6), .int (u 7)]))] H := hP
  have hD : va_D (Aw [h0] s.heap.size) [(h0, .inr (2, [.int r1, .int (u 1), .int r2, .int (u 3), .int (u 4), .int (u 5), .int (u 6), .int (u 7)]))] := hD
  refine lv_aload_n (pc := 89) hx hb dX2_predict_89 rfl (lv_at hl 4 rfl) ?_
  refine lv_iload (pc := 90) hx hb dX2_predict_90 (lv_at hl 1 rfl) ?_
  refine va_put (pc := 92) (D := D) (ci := 2) (v := .int r3) (ty := .int) (C := RX2) (T := TX2) (N := 8) hx hb hts in_X2 tyX2 tyX2_ok nmX2 hown hK.1 hP hD hS 0 rfl rfl 3 (by decide) (hts _ q63) (fun _ h9 => h9) rfl (by decide +kernel) rfl rfl (Nat.le_of_ble_eq_true rfl) dX2_predict_92 (fun H locs hP hD hS => ?_)
  have hP : va_P D vwCl [(h0, .inr (2, [.int r1, .int (u 1), .int r2, .int r3, .int (u 4), .int (u 5), .int (u 6), .int (u 7)]))] H := hP
  have hD : va_D (Aw [h0] s.heap.size) [(h0, .inr (2, [.int r1, .int (u 1), .int r2, .int r3, .int (u 4), .int (u 5), .int (u 6), .int (u 7)]))] := hD
  refine lv_aload_n (pc := 95) hx hb dX2_predict_95 rfl (lv_at hl 4 rfl) ?_
  refine lv_iload (pc := 96) hx hb dX2_predict_96 (lv_at hl 0 rfl) ?_
  refine va_put (pc := 98) (D := D) (ci := 2) (v := .int r4) (ty := .int) (C := RX2) (T := TX2) (N := 8) hx hb hts in_X2 tyX2 tyX2_ok nmX2 hown hK.1 hP hD hS 0 rfl rfl 4 (by decide) (hts _ q65) (fun _ h9 => h9) rfl (by decide +kernel) rfl rfl (Nat.le_of_ble_eq_true rfl) dX2_predict_98 (fun H locs hP hD hS => ?_)
  have hP : va_P D vwCl [(h0, .inr (2, [.int r1, .int (u 1), .int r2, .int r3, .int r4, .int (u 5), .int (u 6), .int (u 7)]))] H := hP
  have hD : va_D (Aw [h0] s.heap.size) [(h0, .inr (2, [.int r1, .int (u 1), .int r2, .int r3, .int r4, .int (u 5), .int (u 6), .int (u 7)]))] := hD
  refine vx_ret ?_
  refine W.widen (k := 1) (n := 6) (by omega) (by omega) ?_
  have hq9 : (fun H1 => pOK (e64 u) i.toInt64 q.toInt64 w.toInt64 ∧ va_P D vwCl [(h0, .inr (2, [.int (pE u i q w 0), .int (pE u i q w 1), .int (pE u i q w 2), .int (pE u i q w 3), .int (pE u i q w 4), .int (pE u i q w 5), .int (pE u i q w 6), .int (pE u i q w 7)]))] H1 : Heap → Prop) H := by
      obtain ⟨a1, b1⟩ := hr1
      obtain ⟨a2, b2⟩ := hr2
      obtain ⟨a3, b3⟩ := hr3
      obtain ⟨a4, b4⟩ := hr4
      subst b1; subst b2; subst b3; subst b4
      exact ⟨⟨a1, a2, a3, a4⟩, hP⟩
  exact W.vret hx hb hr (fun t ht hW => ⟨⟨rfl, by rw [ht]; exact hq9⟩, hS.F ht⟩) hS.2.2 dX2_predict_101

abbrev rm_m2_measured : Room := ({ frames := 0, cells := 0, slots := 0, locals := 0 })
set_option maxHeartbeats 4000000 in
set_option maxRecDepth 100000 in
theorem m2_measured (l : Launch) {D : va_G} {g : Nat → ClassId} (h0 h1 : Nat) (u : Nat → Int32) (kd va : Int32) (H : Heap) (hp0 : va_P D vwCl [(h0, .inr (2, [.int (u 0), .int (u 1), .int (u 2), .int (u 3), .int (u 4), .int (u 5), .int (u 6), .int (u 7)]))] H) (hp1 : va_P D vwCl [(h1, .inr (4, [.int kd, .int va]))] H) : Met l yX2_measured (ws_ yX2_measured cX2_measured 2 (some .int)) rm_m2_measured (va_Pc [.ref h0, .ref h1] (PH D g H)) (QI (fun r H1 => H1 = H ∧ r = if kd = 0 then u 0 else u 1) (fun _ => False)) 0 0 (fun _ => False) := by
  refine Met.ofW (cc := cX2_measured) (maxL := 2) (ret := (some .int)) (by decide) rfl ?_
  intro p e s m args below meth c s₁ B hml hv
  obtain ⟨rfl, hH, hK⟩ := hv
  subst hH
  have hx := B.exec
  have hb := B.bytes
  have hr := B.returns
  have hts := atoms_spec (ws := ws_ yX2_measured cX2_measured 2 (some .int)) B.pre
  have hts : ∀ w ∈ lw_all, w.before _ s = true := fun w h => hts w (List.mem_cons_of_mem _ h)
  have hown : s.vm.findClass RX2 = some m.cls := findClass_of_methodNamed B.named
  have hlocks := B.notSynchronized
  have hS : va_S (fun _ => False) s.heap s.heap [] := va_S.rf
  have hl := lv_entry ([.ref h0, .ref h1]) (n := 2) (Nat.le_of_ble_eq_true rfl)
  rw [lg_entry_eq]
  generalize (lg_sl ([.ref h0, .ref h1]) ++ List.replicate (2 - (lg_sl ([.ref h0, .ref h1])).length) Slot.unset).toArray = ls at hl ⊢
  have hl : lv_has ls 2 [(0, .ref h0), (1, .ref h1)] := hl
  refine lv_aload_n (pc := 0) hx hb dX2_measured_0 rfl (lv_at hl 1 rfl) ?_
  refine va_getN (pc := 1) (D := D) (ci := 4) (v := .int kd) (C := RX4) (T := TX4) (N := 2) hx hb hts in_X4 hown hK.1 hp1 0 rfl rfl 0 (by decide) (hK.n nq118) (fun _ h9 => h9) rfl dX2_measured_1 ?_
  refine lv_if_ne (pc := 4) (tgt := 14) hx hb dX2_measured_4 (by decide) (fun cd1 => ?_) (fun cd1 => ?_)
  · refine lv_aload_n (pc := 14) hx hb dX2_measured_14 rfl (lv_at hl 0 rfl) ?_
    refine va_get (pc := 15) (D := D) (ci := 2) (v := .int (u 1)) (C := RX2) (T := TX2) (N := 8) hx hb hts in_X2 hown hK.1 hp0 0 rfl rfl 1 (by decide) (hts _ q59) (fun _ h9 => h9) rfl dX2_measured_15 ?_
    have hq9 : (fun r H1 => H1 = s.heap ∧ r = if kd = 0 then u 0 else u 1 : Int32 → Heap → Prop) (u 1) s.heap := ⟨rfl, by rw [if_neg cd1]⟩
    exact W.iret (v := u 1) hx hb hr (fun t ht hW => ⟨⟨_, rfl, by rw [ht]; exact hq9⟩, hS.F ht⟩) hS.2.2 dX2_measured_18
  · refine lv_aload_n (pc := 7) hx hb dX2_measured_7 rfl (lv_at hl 0 rfl) ?_
    refine va_get (pc := 8) (D := D) (ci := 2) (v := .int (u 0)) (C := RX2) (T := TX2) (N := 8) hx hb hts in_X2 hown hK.1 hp0 0 rfl rfl 0 (by decide) (hts _ q56) (fun _ h9 => h9) rfl dX2_measured_8 ?_
    refine lv_goto (pc := 11) (tgt := 18) hx hb dX2_measured_11 (by decide) ?_
    have hq9 : (fun r H1 => H1 = s.heap ∧ r = if kd = 0 then u 0 else u 1 : Int32 → Heap → Prop) (u 0) s.heap := ⟨rfl, by rw [if_pos cd1]⟩
    exact W.iret (v := u 0) hx hb hr (fun t ht hW => ⟨⟨_, rfl, by rw [ht]; exact hq9⟩, hS.F ht⟩) hS.2.2 dX2_measured_18

abbrev rm_m2_hasCov : Room := ({ frames := 0, cells := 0, slots := 0, locals := 0 })
set_option maxHeartbeats 4000000 in
set_option maxRecDepth 100000 in
theorem m2_hasCov (l : Launch) {D : va_G} {g : Nat → ClassId} (h0 h1 : Nat) (u o : Nat → Int32) (H : Heap) (hp0 : va_P D vwCl [(h0, .inr (2, [.int (u 0), .int (u 1), .int (u 2), .int (u 3), .int (u 4), .int (u 5), .int (u 6), .int (u 7)]))] H) (hp1 : va_P D vwCl [(h1, .inr (2, [.int (o 0), .int (o 1), .int (o 2), .int (o 3), .int (o 4), .int (o 5), .int (o 6), .int (o 7)]))] H) : Met l yX2_hasCovariances (ws_ yX2_hasCovariances cX2_hasCovariances 2 (some .boolean)) rm_m2_hasCov (va_Pc [.ref h0, .ref h1] (PH D g H)) (QI (fun r H1 => H1 = H ∧ r = bI (u 2 = o 2 ∧ u 3 = o 3 ∧ u 4 = o 4)) (fun _ => False)) 0 0 (fun _ => False) := by
  refine Met.ofW (cc := cX2_hasCovariances) (maxL := 2) (ret := (some .boolean)) (by decide) rfl ?_
  intro p e s m args below meth c s₁ B hml hv
  obtain ⟨rfl, hH, hK⟩ := hv
  subst hH
  have hx := B.exec
  have hb := B.bytes
  have hr := B.returns
  have hts := atoms_spec (ws := ws_ yX2_hasCovariances cX2_hasCovariances 2 (some .boolean)) B.pre
  have hts : ∀ w ∈ lw_all, w.before _ s = true := fun w h => hts w (List.mem_cons_of_mem _ h)
  have hown : s.vm.findClass RX2 = some m.cls := findClass_of_methodNamed B.named
  have hlocks := B.notSynchronized
  have hS : va_S (fun _ => False) s.heap s.heap [] := va_S.rf
  have hl := lv_entry ([.ref h0, .ref h1]) (n := 2) (Nat.le_of_ble_eq_true rfl)
  rw [lg_entry_eq]
  generalize (lg_sl ([.ref h0, .ref h1]) ++ List.replicate (2 - (lg_sl ([.ref h0, .ref h1])).length) Slot.unset).toArray = ls at hl ⊢
  have hl : lv_has ls 2 [(0, .ref h0), (1, .ref h1)] := hl
  refine lv_aload_n (pc := 0) hx hb dX2_hasCovariances_0 rfl (lv_at hl 0 rfl) ?_
  refine va_get (pc := 1) (D := D) (ci := 2) (v := .int (u 2)) (C := RX2) (T := TX2) (N := 8) hx hb hts in_X2 hown hK.1 hp0 0 rfl rfl 2 (by decide) (hts _ q61) (fun _ h9 => h9) rfl dX2_hasCovariances_1 ?_
  refine lv_aload_n (pc := 4) hx hb dX2_hasCovariances_4 rfl (lv_at hl 1 rfl) ?_
  refine va_get (pc := 5) (D := D) (ci := 2) (v := .int (o 2)) (C := RX2) (T := TX2) (N := 8) hx hb hts in_X2 hown hK.1 hp1 0 rfl rfl 2 (by decide) (hts _ q61) (fun _ h9 => h9) rfl dX2_hasCovariances_5 ?_
  refine lv_icmp_ne (pc := 8) (tgt := 37) hx hb dX2_hasCovariances_8 (by decide) (fun cd1 => ?_) (fun cd1 => ?_)
  · refine lv_iconst (pc := 37) (v := 0) hx hb dX2_hasCovariances_37 (by decide) ?_
    have hq9 : (fun r H1 => H1 = s.heap ∧ r = bI (u 2 = o 2 ∧ u 3 = o 3 ∧ u 4 = o 4) : Int32 → Heap → Prop) 0 s.heap := ⟨rfl, (bI_f fun h => cd1 h.1).symm⟩
    exact W.zret (v := 0) hx hb hr rfl (fun t ht hW => ⟨⟨_, rfl, by rw [ht]; exact hq9⟩, hS.F ht⟩) hS.2.2 dX2_hasCovariances_38
  · refine lv_aload_n (pc := 11) hx hb dX2_hasCovariances_11 rfl (lv_at hl 0 rfl) ?_
    refine va_get (pc := 12) (D := D) (ci := 2) (v := .int (u 3)) (C := RX2) (T := TX2) (N := 8) hx hb hts in_X2 hown hK.1 hp0 0 rfl rfl 3 (by decide) (hts _ q63) (fun _ h9 => h9) rfl dX2_hasCovariances_12 ?_
    refine lv_aload_n (pc := 15) hx hb dX2_hasCovariances_15 rfl (lv_at hl 1 rfl) ?_
    refine va_get (pc := 16) (D := D) (ci := 2) (v := .int (o 3)) (C := RX2) (T := TX2) (N := 8) hx hb hts in_X2 hown hK.1 hp1 0 rfl rfl 3 (by decide) (hts _ q63) (fun _ h9 => h9) rfl dX2_hasCovariances_16 ?_
    refine lv_icmp_ne (pc := 19) (tgt := 37) hx hb dX2_hasCovariances_19 (by decide) (fun cd2 => ?_) (fun cd2 => ?_)
    · refine lv_iconst (pc := 37) (v := 0) hx hb dX2_hasCovariances_37 (by decide) ?_
      have hq9 : (fun r H1 => H1 = s.heap ∧ r = bI (u 2 = o 2 ∧ u 3 = o 3 ∧ u 4 = o 4) : Int32 → Heap → Prop) 0 s.heap := ⟨rfl, (bI_f fun h => cd2 h.2.1).symm⟩
      exact W.zret (v := 0) hx hb hr rfl (fun t ht hW => ⟨⟨_, rfl, by rw [ht]; exact hq9⟩, hS.F ht⟩) hS.2.2 dX2_hasCovariances_38
    · refine lv_aload_n (pc := 22) hx hb dX2_hasCovariances_22 rfl (lv_at hl 0 rfl) ?_
      refine va_get (pc := 23) (D := D) (ci := 2) (v := .int (u 4)) (C := RX2) (T := TX2) (N := 8) hx hb hts in_X2 hown hK.1 hp0 0 rfl rfl 4 (by decide) (hts _ q65) (fun _ h9 => h9) rfl dX2_hasCovariances_23 ?_
      refine lv_aload_n (pc := 26) hx hb dX2_hasCovariances_26 rfl (lv_at hl 1 rfl) ?_
      refine va_get (pc := 27) (D := D) (ci := 2) (v := .int (o 4)) (C := RX2) (T := TX2) (N := 8) hx hb hts in_X2 hown hK.1 hp1 0 rfl rfl 4 (by decide) (hts _ q65) (fun _ h9 => h9) rfl dX2_hasCovariances_27 ?_
      refine lv_icmp_ne (pc := 30) (tgt := 37) hx hb dX2_hasCovariances_30 (by decide) (fun cd3 => ?_) (fun cd3 => ?_)
      · refine lv_iconst (pc := 37) (v := 0) hx hb dX2_hasCovariances_37 (by decide) ?_
        have hq9 : (fun r H1 => H1 = s.heap ∧ r = bI (u 2 = o 2 ∧ u 3 = o 3 ∧ u 4 = o 4) : Int32 → Heap → Prop) 0 s.heap := ⟨rfl, (bI_f fun h => cd3 h.2.2).symm⟩
        exact W.zret (v := 0) hx hb hr rfl (fun t ht hW => ⟨⟨_, rfl, by rw [ht]; exact hq9⟩, hS.F ht⟩) hS.2.2 dX2_hasCovariances_38
      · refine lv_iconst (pc := 33) (v := 1) hx hb dX2_hasCovariances_33 (by decide) ?_
        refine lv_goto (pc := 34) (tgt := 38) hx hb dX2_hasCovariances_34 (by decide) ?_
        have hq9 : (fun r H1 => H1 = s.heap ∧ r = bI (u 2 = o 2 ∧ u 3 = o 3 ∧ u 4 = o 4) : Int32 → Heap → Prop) 1 s.heap := ⟨rfl, (bI_t ⟨cd1, cd2, cd3⟩).symm⟩
        exact W.zret (v := 1) hx hb hr rfl (fun t ht hW => ⟨⟨_, rfl, by rw [ht]; exact hq9⟩, hS.F ht⟩) hS.2.2 dX2_hasCovariances_38

abbrev rm_m2_correct : Room := ({ frames := 6, cells := 1, slots := 6, locals := 122 })
set_option maxHeartbeats 4000000 in
set_option maxRecDepth 100000 in
/-- Estimate.correct -/
theorem m2_correct (l : Launch) {D : va_G} {g : Nat → ClassId} (za : Nat) (h0 h1 : Nat) (u : Nat → Int32) (kd va rd gt : Int32) (H : Heap) (hP : va_P D vwCl [(h0, .inr (2, [.int (u 0), .int (u 1), .int (u 2), .int (u 3), .int (u 4), .int (u 5), .int (u 6), .int (u 7)]))] H) (hse : va_P D vwCl [(h1, .inr (4, [.int kd, .int va]))] H) (nhse : h1 ∉ [h0]) (hzn : za ∉ [h0]) (hs0 : ¬ cS (e64 u) kd va.toInt64 = 0) : vx_Met l yX2_correct (ws_ yX2_correct cX2_correct 18 (some .boolean)) rm_m2_correct (va_Pc [.ref h0, .ref h1, .int rd, .int gt] (PZ D g za H)) (QI (fun r H1 => (cRej (e64 u) kd va.toInt64 rd.toInt64 gt ∧ r = 0 ∧ va_P D vwCl [(h0, .inr (2, [.int (cF u kd rd 0), .int (cF u kd rd 1), .int (cF u kd rd 2), .int (cF u kd rd 3), .int (cF u kd rd 4), .int (cF u kd rd 5), .int (cF u kd rd 6), .int (cF u kd rd 7)]))] H1) ∨ (¬ cRej (e64 u) kd va.toInt64 rd.toInt64 gt ∧ cOK (e64 u) kd va.toInt64 rd.toInt64 ∧ r = 1 ∧ va_P D vwCl [(h0, .inr (2, [.int (cE u kd va rd 0), .int (cE u kd va rd 1), .int (cE u kd va rd 2), .int (cE u kd va rd 3), .int (cE u kd va rd 4), .int (cE u kd va rd 5), .int (cE u kd va rd 6), .int (cE u kd va rd 7)]))] H1)) (Aw [h0] H.size)) (XL (¬ cRej (e64 u) kd va.toInt64 rd.toInt64 gt ∧ ¬ cOK (e64 u) kd va.toInt64 rd.toInt64)) 1 6 (Aw [h0] H.size) := by
  refine vx_ofW (cc := cX2_correct) (maxL := 18) (ret := (some .boolean)) (by decide) rfl ?_
  intro p e s m args below meth c s₁ B hml htab hv
  obtain ⟨rfl, hH, hK, hZ⟩ := hv
  subst hH
  have hx := B.exec
  have hb := B.bytes
  have hr := B.returns
  have hts := atoms_spec (ws := ws_ yX2_correct cX2_correct 18 (some .boolean)) B.pre
  have hts : ∀ w ∈ lw_all, w.before _ s = true := fun w h => hts w (List.mem_cons_of_mem _ h)
  have hown : s.vm.findClass RX2 = some m.cls := findClass_of_methodNamed B.named
  have hlocks := B.notSynchronized
  have hA : ∀ q, s.heap.size ≤ q → (Aw [h0] s.heap.size) q := fun q h => Or.inr h
  have hS : va_S (Aw [h0] s.heap.size) s.heap s.heap [] := va_S.rf
  have hD : va_D (Aw [h0] s.heap.size) [(h0, .inr (2, [.int (u 0), .int (u 1), .int (u 2), .int (u 3), .int (u 4), .int (u 5), .int (u 6), .int (u 7)]))] := d1 (Or.inl (by simp))
  have ahse : ¬ (Aw [h0] s.heap.size) h1 := naw nhse (hse 0 _ rfl).lt
  have aza : ¬ (Aw [h0] s.heap.size) za := naw hzn hZ.lt
  have hl := lv_entry ([.ref h0, .ref h1, .int rd, .int gt]) (n := 18) (Nat.le_of_ble_eq_true rfl)
  rw [lg_entry_eq]
  generalize (lg_sl ([.ref h0, .ref h1, .int rd, .int gt]) ++ List.replicate (18 - (lg_sl ([.ref h0, .ref h1, .int rd, .int gt])).length) Slot.unset).toArray = ls at hl ⊢
  have hl : lv_has ls 18 [(0, .ref h0), (1, .ref h1), (2, .int rd), (3, .int gt)] := hl
  refine lv_aload_n (pc := 0) hx hb dX2_correct_0 rfl (lv_at hl 1 rfl) ?_
  refine va_getN (pc := 1) (D := D) (ci := 4) (v := .int kd) (C := RX4) (T := TX4) (N := 2) hx hb hts in_X4 hown hK.1 hse 0 rfl rfl 0 (by decide) (hK.n nq118) (fun _ h9 => h9) rfl dX2_correct_1 ?_
  refine lv_if_ne (pc := 4) (tgt := 11) hx hb dX2_correct_4 (by decide) (fun cd1 => ?_) (fun cd1 => ?_)
  · refine lv_iconst (pc := 11) (v := 0) hx hb dX2_correct_11 (by decide) ?_
    refine lv_istore (pc := 12) (lv' := [(4, .int 0), (0, .ref h0), (1, .ref h1), (2, .int rd), (3, .int gt)]) hx hb dX2_correct_12 hl (by decide) rfl (fun ls hl => ?_)
    refine lv_iload (pc := 14) hx hb dX2_correct_14 (lv_at hl 0 rfl) ?_
    refine lv_if_eq (pc := 16) (tgt := 26) hx hb dX2_correct_16 (by decide) (fun cd2 => ?_) (fun cd2 => absurd cd2 (by decide))
    refine lv_aload_n (pc := 26) hx hb dX2_correct_26 rfl (lv_at hl 1 rfl) ?_
    refine va_get (pc := 27) (D := D) (ci := 2) (v := .int (u 4)) (C := RX2) (T := TX2) (N := 8) hx hb hts in_X2 hown hK.1 hP 0 rfl rfl 4 (by decide) (hts _ q65) (fun _ h9 => h9) rfl dX2_correct_27 ?_
    refine lv_i2l (pc := 30) hx hb dX2_correct_30 rfl ?_
    refine lv_aload_n (pc := 31) hx hb dX2_correct_31 rfl (lv_at hl 2 rfl) ?_
    refine va_getN (pc := 32) (D := D) (ci := 4) (v := .int va) (C := RX4) (T := TX4) (N := 2) hx hb hts in_X4 hown hK.1 hse 0 rfl rfl 1 (by decide) (hK.n nq121) (fun _ h9 => h9) rfl dX2_correct_32 ?_
    refine lv_i2l (pc := 35) hx hb dX2_correct_35 rfl ?_
    refine lv_ladd (pc := 36) hx hb dX2_correct_36 ?_
    refine lv_topl (fun z3 ez3 => ?_)
    refine lv_lstore (pc := 37) (lv' := [(5, .long z3), (4, .int 0), (0, .ref h0), (1, .ref h1), (2, .int rd), (3, .int gt)]) hx hb dX2_correct_37 hl (by decide) rfl (fun ls hl => ?_)
    have hsv : z3 = cS (e64 u) kd va.toInt64 := by rw [ez3]; unfold cS; rw [if_neg cd1]; rfl
    refine lv_iload_n (pc := 39) hx hb dX2_correct_39 rfl (lv_at hl 4 rfl) ?_
    refine lv_i2l (pc := 40) hx hb dX2_correct_40 rfl ?_
    refine lv_aload_n (pc := 41) hx hb dX2_correct_41 rfl (lv_at hl 2 rfl) ?_
    refine lv_aload_n (pc := 42) hx hb dX2_correct_42 rfl (lv_at hl 3 rfl) ?_
    refine kIp (pc := 43) (va_runV (As := [.ref h1]) (rest := [.long (Int32.toInt64 rd)]) ⟨hx, hb, hml, hown, hts⟩ (m2_measured l h0 h1 u kd va s.heap (hP.sub (ws' := [(h0, .inr (2, [.int (u 0), .int (u 1), .int (u 2), .int (u 3), .int (u 4), .int (u 5), .int (u 6), .int (u 7)]))]) [0] rfl) hse) (cwV 1 hts (lw_V q369 q371 qs4 q23 q372) rfl rfl rfl (by decide +kernel) ⟨Nat.le_of_ble_eq_true rfl, Nat.le_of_ble_eq_true rfl⟩) (preV hK (rcv hK hP 0 rfl rfl)) rfl rfl hl.1 rfl (lv_room (Nat.le_of_ble_eq_true rfl)) dX2_correct_43 ⟨Nat.le_of_ble_eq_true rfl, Nat.le_of_ble_eq_true rfl⟩) (fun r4 hr4 => ?_)
    refine lv_i2l (pc := 46) hx hb dX2_correct_46 rfl ?_
    refine lv_lsub (pc := 47) hx hb dX2_correct_47 ?_
    refine lv_topl (fun z5 ez5 => ?_)
    refine lv_lstore (pc := 48) (lv' := [(7, .long z5), (5, .long z3), (4, .int 0), (0, .ref h0), (1, .ref h1), (2, .int rd), (3, .int gt)]) hx hb dX2_correct_48 hl (by decide) rfl (fun ls hl => ?_)
    have hyv : z5 = cY (e64 u) kd rd.toInt64 := by rw [ez5, hr4]; unfold cY; rw [if_neg cd1, if_neg cd1]; rfl
    refine lv_iload_n (pc := 50) hx hb dX2_correct_50 rfl (lv_at hl 6 rfl) ?_
    refine lv_if_eq (pc := 51) (tgt := 81) hx hb dX2_correct_51 (by decide) (fun cd6 => ?_) (fun cd6 => ?_)
    · have hrj : ¬ cRej (e64 u) kd va.toInt64 rd.toInt64 gt := fun h => h.1 cd6
      refine lv_iload (pc := 81) hx hb dX2_correct_81 (lv_at hl 2 rfl) ?_
      refine lv_if_eq (pc := 83) (tgt := 94) hx hb dX2_correct_83 (by decide) (fun cd7 => ?_) (fun cd7 => absurd cd7 (by decide))
      refine lv_aload_n (pc := 94) hx hb dX2_correct_94 rfl (lv_at hl 3 rfl) ?_
      refine va_get (pc := 95) (D := D) (ci := 2) (v := .int (u 3)) (C := RX2) (T := TX2) (N := 8) hx hb hts in_X2 hown hK.1 hP 0 rfl rfl 3 (by decide) (hts _ q63) (fun _ h9 => h9) rfl dX2_correct_95 ?_
      refine lv_i2l (pc := 98) hx hb dX2_correct_98 rfl ?_
      refine lv_lload (pc := 99) hx hb dX2_correct_99 (lv_at hl 1 rfl) ?_
      refine kLp (pc := 101) (va_runSN (As := [.long (Int32.toInt64 (u 3)), .long z3]) (rest := []) ⟨hx, hb, hml, hown, hts⟩ (m_div l (Int32.toInt64 (u 3)) z3 s.heap (by rw [hsv]; exact hs0)) ⟨va_cnB 2 hts (lw_meth q376) rfl rfl rfl (hK.2.1 _ nq374) (hts _ q21) (by decide +kernel) ⟨Nat.le_of_ble_eq_true rfl, Nat.le_of_ble_eq_true rfl⟩, hts _ q375, trivial⟩ (preS hK) rfl rfl hl.1 rfl (lv_room (Nat.le_of_ble_eq_true rfl)) dX2_correct_101 ⟨Nat.le_of_ble_eq_true rfl, Nat.le_of_ble_eq_true rfl⟩) (fun r8 hr8 => ?_)
      have hm104 : r8 = cK (e64 u) kd va.toInt64 := by rw [hr8, hsv]; unfold cK; rw [if_neg cd1]; rfl
      refine xIp (pc := 104) (vx_runSN (As := [.long r8]) (rest := []) ⟨hx, hb, hml, hown, hts⟩ (m_limited l za r8 s.heap) ⟨va_cnB 1 hts (lw_meth q274) rfl rfl rfl (hK.2.1 _ nq272) (hts _ q21) (by decide +kernel) ⟨Nat.le_of_ble_eq_true rfl, Nat.le_of_ble_eq_true rfl⟩, hts _ q273, trivial⟩ (preSZ hK hZ) rfl rfl hl.1 rfl (lv_room (Nat.le_of_ble_eq_true rfl)) dX2_correct_104 ⟨Nat.le_of_ble_eq_true rfl, Nat.le_of_ble_eq_true rfl⟩) hS (fun q h => hA _ h) (fun ce q9 H1 locs1 hX hz1 hk1 hS1 hce hcv hcl => ?_) (fun r9 hr9 => ?_)
      · exact vx_out (fun x hx9 => (htab x hx9).elim) hlocks hce hcv hcl (fun t ht hvm => ⟨rfl, ⟨hrj, fun h => hX (by rw [hm104]; exact h.1)⟩, by rw [ht]; exact hz1, fun q h1 h2 => by rw [ht]; exact hk1 q h1⟩) hS1.2.2 (Nat.le_of_ble_eq_true rfl) (Nat.le_of_ble_eq_true rfl)
      have hv104 : r9 = (cK (e64 u) kd va.toInt64).toInt32 := by rw [← hm104]; exact hr9.2
      have hi104 : lim (cK (e64 u) kd va.toInt64) := by rw [← hm104]; exact hr9.1
      refine lv_i2l (pc := 107) hx hb dX2_correct_107 rfl ?_
      refine lv_topl (fun z10 ez10 => ?_)
      refine lv_lstore (pc := 108) (lv' := [(9, .long z10), (7, .long z5), (5, .long z3), (4, .int 0), (0, .ref h0), (1, .ref h1), (2, .int rd), (3, .int gt)]) hx hb dX2_correct_108 hl (by decide) rfl (fun ls hl => ?_)
      have hkv : z10 = cK (e64 u) kd va.toInt64 := by rw [ez10, hv104]; exact lim_back hi104
      refine lv_iload (pc := 110) hx hb dX2_correct_110 (lv_at hl 3 rfl) ?_
      refine lv_if_eq (pc := 112) (tgt := 123) hx hb dX2_correct_112 (by decide) (fun cd11 => ?_) (fun cd11 => absurd cd11 (by decide))
      refine lv_aload_n (pc := 123) hx hb dX2_correct_123 rfl (lv_at hl 4 rfl) ?_
      refine va_get (pc := 124) (D := D) (ci := 2) (v := .int (u 4)) (C := RX2) (T := TX2) (N := 8) hx hb hts in_X2 hown hK.1 hP 0 rfl rfl 4 (by decide) (hts _ q65) (fun _ h9 => h9) rfl dX2_correct_124 ?_
      refine lv_i2l (pc := 127) hx hb dX2_correct_127 rfl ?_
      refine lv_lload (pc := 128) hx hb dX2_correct_128 (lv_at hl 2 rfl) ?_
      refine kLp (pc := 130) (va_runSN (As := [.long (Int32.toInt64 (u 4)), .long z3]) (rest := []) ⟨hx, hb, hml, hown, hts⟩ (m_div l (Int32.toInt64 (u 4)) z3 s.heap (by rw [hsv]; exact hs0)) ⟨va_cnB 2 hts (lw_meth q376) rfl rfl rfl (hK.2.1 _ nq374) (hts _ q21) (by decide +kernel) ⟨Nat.le_of_ble_eq_true rfl, Nat.le_of_ble_eq_true rfl⟩, hts _ q375, trivial⟩ (preS hK) rfl rfl hl.1 rfl (lv_room (Nat.le_of_ble_eq_true rfl)) dX2_correct_130 ⟨Nat.le_of_ble_eq_true rfl, Nat.le_of_ble_eq_true rfl⟩) (fun r12 hr12 => ?_)
      have hm133 : r12 = cL (e64 u) kd va.toInt64 := by rw [hr12, hsv]; unfold cL; rw [if_neg cd1]; rfl
      refine xIp (pc := 133) (vx_runSN (As := [.long r12]) (rest := []) ⟨hx, hb, hml, hown, hts⟩ (m_limited l za r12 s.heap) ⟨va_cnB 1 hts (lw_meth q274) rfl rfl rfl (hK.2.1 _ nq272) (hts _ q21) (by decide +kernel) ⟨Nat.le_of_ble_eq_true rfl, Nat.le_of_ble_eq_true rfl⟩, hts _ q273, trivial⟩ (preSZ hK hZ) rfl rfl hl.1 rfl (lv_room (Nat.le_of_ble_eq_true rfl)) dX2_correct_133 ⟨Nat.le_of_ble_eq_true rfl, Nat.le_of_ble_eq_true rfl⟩) hS (fun q h => hA _ h) (fun ce q9 H1 locs1 hX hz1 hk1 hS1 hce hcv hcl => ?_) (fun r13 hr13 => ?_)
      · exact vx_out (fun x hx9 => (htab x hx9).elim) hlocks hce hcv hcl (fun t ht hvm => ⟨rfl, ⟨hrj, fun h => hX (by rw [hm133]; exact h.2.1)⟩, by rw [ht]; exact hz1, fun q h1 h2 => by rw [ht]; exact hk1 q h1⟩) hS1.2.2 (Nat.le_of_ble_eq_true rfl) (Nat.le_of_ble_eq_true rfl)
      have hv133 : r13 = (cL (e64 u) kd va.toInt64).toInt32 := by rw [← hm133]; exact hr13.2
      have hi133 : lim (cL (e64 u) kd va.toInt64) := by rw [← hm133]; exact hr13.1
      refine lv_i2l (pc := 136) hx hb dX2_correct_136 rfl ?_
      refine lv_topl (fun z14 ez14 => ?_)
      refine lv_lstore (pc := 137) (lv' := [(11, .long z14), (9, .long z10), (7, .long z5), (5, .long z3), (4, .int 0), (0, .ref h0), (1, .ref h1), (2, .int rd), (3, .int gt)]) hx hb dX2_correct_137 hl (by decide) rfl (fun ls hl => ?_)
      have hlv : z14 = cL (e64 u) kd va.toInt64 := by rw [ez14, hv133]; exact lim_back hi133
      refine lv_aload_n (pc := 139) hx hb dX2_correct_139 rfl (lv_at hl 5 rfl) ?_
      refine va_get (pc := 140) (D := D) (ci := 2) (v := .int (u 0)) (C := RX2) (T := TX2) (N := 8) hx hb hts in_X2 hown hK.1 hP 0 rfl rfl 0 (by decide) (hts _ q56) (fun _ h9 => h9) rfl dX2_correct_140 ?_
      refine lv_i2l (pc := 143) hx hb dX2_correct_143 rfl ?_
      refine lv_lload (pc := 144) hx hb dX2_correct_144 (lv_at hl 1 rfl) ?_
      refine lv_lload (pc := 146) hx hb dX2_correct_146 (lv_at hl 2 rfl) ?_
      refine kLp (pc := 148) (va_runSN (As := [.long z10, .long z5]) (rest := [.long (Int32.toInt64 (u 0))]) ⟨hx, hb, hml, hown, hts⟩ (m_mul l z10 z5 s.heap) ⟨va_cnB 2 hts (lw_meth q384) rfl rfl rfl (hK.2.1 _ nq382) (hts _ q21) (by decide +kernel) ⟨Nat.le_of_ble_eq_true rfl, Nat.le_of_ble_eq_true rfl⟩, hts _ q383, trivial⟩ (preS hK) rfl rfl hl.1 rfl (lv_room (Nat.le_of_ble_eq_true rfl)) dX2_correct_148 ⟨Nat.le_of_ble_eq_true rfl, Nat.le_of_ble_eq_true rfl⟩) (fun r15 hr15 => ?_)
      refine lv_ladd (pc := 151) hx hb dX2_correct_151 ?_
      have hm152 : (Int32.toInt64 (u 0)) + r15 = c0 (e64 u) kd va.toInt64 rd.toInt64 := by rw [hr15, hyv, hkv]; rfl
      refine xIp (pc := 152) (vx_runSN (As := [.long ((Int32.toInt64 (u 0)) + r15)]) (rest := []) ⟨hx, hb, hml, hown, hts⟩ (m_limited l za ((Int32.toInt64 (u 0)) + r15) s.heap) ⟨va_cnB 1 hts (lw_meth q274) rfl rfl rfl (hK.2.1 _ nq272) (hts _ q21) (by decide +kernel) ⟨Nat.le_of_ble_eq_true rfl, Nat.le_of_ble_eq_true rfl⟩, hts _ q273, trivial⟩ (preSZ hK hZ) rfl rfl hl.1 rfl (lv_room (Nat.le_of_ble_eq_true rfl)) dX2_correct_152 ⟨Nat.le_of_ble_eq_true rfl, Nat.le_of_ble_eq_true rfl⟩) hS (fun q h => hA _ h) (fun ce q9 H1 locs1 hX hz1 hk1 hS1 hce hcv hcl => ?_) (fun r16 hr16 => ?_)
      · exact vx_out (fun x hx9 => (htab x hx9).elim) hlocks hce hcv hcl (fun t ht hvm => ⟨rfl, ⟨hrj, fun h => hX (by rw [hm152]; exact h.2.2.1)⟩, by rw [ht]; exact hz1, fun q h1 h2 => by rw [ht]; exact hk1 q h1⟩) hS1.2.2 (Nat.le_of_ble_eq_true rfl) (Nat.le_of_ble_eq_true rfl)
      have hv152 : r16 = (c0 (e64 u) kd va.toInt64 rd.toInt64).toInt32 := by rw [← hm152]; exact hr16.2
      have hi152 : lim (c0 (e64 u) kd va.toInt64 rd.toInt64) := by rw [← hm152]; exact hr16.1
      refine lv_istore (pc := 155) (lv' := [(13, .int r16), (11, .long z14), (9, .long z10), (7, .long z5), (5, .long z3), (4, .int 0), (0, .ref h0), (1, .ref h1), (2, .int rd), (3, .int gt)]) hx hb dX2_correct_155 hl (by decide) rfl (fun ls hl => ?_)
      refine lv_aload_n (pc := 157) hx hb dX2_correct_157 rfl (lv_at hl 6 rfl) ?_
      refine va_get (pc := 158) (D := D) (ci := 2) (v := .int (u 1)) (C := RX2) (T := TX2) (N := 8) hx hb hts in_X2 hown hK.1 hP 0 rfl rfl 1 (by decide) (hts _ q59) (fun _ h9 => h9) rfl dX2_correct_158 ?_
      refine lv_i2l (pc := 161) hx hb dX2_correct_161 rfl ?_
      refine lv_lload (pc := 162) hx hb dX2_correct_162 (lv_at hl 1 rfl) ?_
      refine lv_lload (pc := 164) hx hb dX2_correct_164 (lv_at hl 3 rfl) ?_
      refine kLp (pc := 166) (va_runSN (As := [.long z14, .long z5]) (rest := [.long (Int32.toInt64 (u 1))]) ⟨hx, hb, hml, hown, hts⟩ (m_mul l z14 z5 s.heap) ⟨va_cnB 2 hts (lw_meth q384) rfl rfl rfl (hK.2.1 _ nq382) (hts _ q21) (by decide +kernel) ⟨Nat.le_of_ble_eq_true rfl, Nat.le_of_ble_eq_true rfl⟩, hts _ q383, trivial⟩ (preS hK) rfl rfl hl.1 rfl (lv_room (Nat.le_of_ble_eq_true rfl)) dX2_correct_166 ⟨Nat.le_of_ble_eq_true rfl, Nat.le_of_ble_eq_true rfl⟩) (fun r17 hr17 => ?_)
      refine lv_ladd (pc := 169) hx hb dX2_correct_169 ?_
      have hm170 : (Int32.toInt64 (u 1)) + r17 = c1 (e64 u) kd va.toInt64 rd.toInt64 := by rw [hr17, hyv, hlv]; rfl
      refine xIp (pc := 170) (vx_runSN (As := [.long ((Int32.toInt64 (u 1)) + r17)]) (rest := []) ⟨hx, hb, hml, hown, hts⟩ (m_limited l za ((Int32.toInt64 (u 1)) + r17) s.heap) ⟨va_cnB 1 hts (lw_meth q274) rfl rfl rfl (hK.2.1 _ nq272) (hts _ q21) (by decide +kernel) ⟨Nat.le_of_ble_eq_true rfl, Nat.le_of_ble_eq_true rfl⟩, hts _ q273, trivial⟩ (preSZ hK hZ) rfl rfl hl.1 rfl (lv_room (Nat.le_of_ble_eq_true rfl)) dX2_correct_170 ⟨Nat.le_of_ble_eq_true rfl, Nat.le_of_ble_eq_true rfl⟩) hS (fun q h => hA _ h) (fun ce q9 H1 locs1 hX hz1 hk1 hS1 hce hcv hcl => ?_) (fun r18 hr18 => ?_)
      · exact vx_out (fun x hx9 => (htab x hx9).elim) hlocks hce hcv hcl (fun t ht hvm => ⟨rfl, ⟨hrj, fun h => hX (by rw [hm170]; exact h.2.2.2.1)⟩, by rw [ht]; exact hz1, fun q h1 h2 => by rw [ht]; exact hk1 q h1⟩) hS1.2.2 (Nat.le_of_ble_eq_true rfl) (Nat.le_of_ble_eq_true rfl)
      have hv170 : r18 = (c1 (e64 u) kd va.toInt64 rd.toInt64).toInt32 := by rw [← hm170]; exact hr18.2
      have hi170 : lim (c1 (e64 u) kd va.toInt64 rd.toInt64) := by rw [← hm170]; exact hr18.1
      refine lv_istore (pc := 173) (lv' := [(14, .int r18), (13, .int r16), (11, .long z14), (9, .long z10), (7, .long z5), (5, .long z3), (4, .int 0), (0, .ref h0), (1, .ref h1), (2, .int rd), (3, .int gt)]) hx hb dX2_correct_173 hl (by decide) rfl (fun ls hl => ?_)
      refine lv_aload_n (pc := 175) hx hb dX2_correct_175 rfl (lv_at hl 7 rfl) ?_
      refine va_get (pc := 176) (D := D) (ci := 2) (v := .int (u 2)) (C := RX2) (T := TX2) (N := 8) hx hb hts in_X2 hown hK.1 hP 0 rfl rfl 2 (by decide) (hts _ q61) (fun _ h9 => h9) rfl dX2_correct_176 ?_
      refine lv_i2l (pc := 179) hx hb dX2_correct_179 rfl ?_
      refine lv_lload (pc := 180) hx hb dX2_correct_180 (lv_at hl 3 rfl) ?_
      refine lv_iload (pc := 182) hx hb dX2_correct_182 (lv_at hl 6 rfl) ?_
      refine lv_if_eq (pc := 184) (tgt := 195) hx hb dX2_correct_184 (by decide) (fun cd19 => ?_) (fun cd19 => absurd cd19 (by decide))
      refine lv_aload_n (pc := 195) hx hb dX2_correct_195 rfl (lv_at hl 7 rfl) ?_
      refine va_get (pc := 196) (D := D) (ci := 2) (v := .int (u 3)) (C := RX2) (T := TX2) (N := 8) hx hb hts in_X2 hown hK.1 hP 0 rfl rfl 3 (by decide) (hts _ q63) (fun _ h9 => h9) rfl dX2_correct_196 ?_
      refine lv_i2l (pc := 199) hx hb dX2_correct_199 rfl ?_
      refine kLp (pc := 200) (va_runSN (As := [.long z10, .long (Int32.toInt64 (u 3))]) (rest := [.long (Int32.toInt64 (u 2))]) ⟨hx, hb, hml, hown, hts⟩ (m_mul l z10 (Int32.toInt64 (u 3)) s.heap) ⟨va_cnB 2 hts (lw_meth q384) rfl rfl rfl (hK.2.1 _ nq382) (hts _ q21) (by decide +kernel) ⟨Nat.le_of_ble_eq_true rfl, Nat.le_of_ble_eq_true rfl⟩, hts _ q383, trivial⟩ (preS hK) rfl rfl hl.1 rfl (lv_room (Nat.le_of_ble_eq_true rfl)) dX2_correct_200 ⟨Nat.le_of_ble_eq_true rfl, Nat.le_of_ble_eq_true rfl⟩) (fun r20 hr20 => ?_)
      refine lv_lsub (pc := 203) hx hb dX2_correct_203 ?_
      have hm204 : pos ((Int32.toInt64 (u 2)) - r20) = c2 (e64 u) kd va.toInt64 := by rw [hr20, hkv]; unfold c2; rw [if_neg cd1]; rfl
      refine xIp (pc := 204) (vx_runS (As := [.long ((Int32.toInt64 (u 2)) - r20)]) (rest := []) ⟨hx, hb, hml, hown, hts⟩ (m_positive l za ((Int32.toInt64 (u 2)) - r20) s.heap) (va_cwS 1 hts (lw_S q336 q337 q23 q338) rfl rfl rfl (by decide +kernel) ⟨Nat.le_of_ble_eq_true rfl, Nat.le_of_ble_eq_true rfl⟩) (preSZ hK hZ) rfl rfl hl.1 rfl (lv_room (Nat.le_of_ble_eq_true rfl)) dX2_correct_204 ⟨Nat.le_of_ble_eq_true rfl, Nat.le_of_ble_eq_true rfl⟩) hS (fun q h => hA _ h) (fun ce q9 H1 locs1 hX hz1 hk1 hS1 hce hcv hcl => ?_) (fun r21 hr21 => ?_)
      · exact vx_out (fun x hx9 => (htab x hx9).elim) hlocks hce hcv hcl (fun t ht hvm => ⟨rfl, ⟨hrj, fun h => hX (by show lim (pos _); rw [hm204]; exact h.2.2.2.2.1)⟩, by rw [ht]; exact hz1, fun q h1 h2 => by rw [ht]; exact hk1 q h1⟩) hS1.2.2 (Nat.le_of_ble_eq_true rfl) (Nat.le_of_ble_eq_true rfl)
      have hv204 : r21 = (c2 (e64 u) kd va.toInt64).toInt32 := by rw [← hm204]; exact hr21.2
      have hi204 : lim (c2 (e64 u) kd va.toInt64) := by rw [← hm204]; exact hr21.1
      refine lv_istore (pc := 207) (lv' := [(15, .int r21), (14, .int r18), (13, .int r16), (11, .long z14), (9, .long z10), (7, .long z5), (5, .long z3), (4, .int 0), (0, .ref h0), (1, .ref h1), (2, .int rd), (3, .int gt)]) hx hb dX2_correct_207 hl (by decide) rfl (fun ls hl => ?_)
      refine lv_aload_n (pc := 209) hx hb dX2_correct_209 rfl (lv_at hl 8 rfl) ?_
      refine va_get (pc := 210) (D := D) (ci := 2) (v := .int (u 3)) (C := RX2) (T := TX2) (N := 8) hx hb hts in_X2 hown hK.1 hP 0 rfl rfl 3 (by decide) (hts _ q63) (fun _ h9 => h9) rfl dX2_correct_210 ?_
      refine lv_i2l (pc := 213) hx hb dX2_correct_213 rfl ?_
      refine lv_lload (pc := 214) hx hb dX2_correct_214 (lv_at hl 4 rfl) ?_
      refine lv_iload (pc := 216) hx hb dX2_correct_216 (lv_at hl 7 rfl) ?_
      refine lv_if_eq (pc := 218) (tgt := 229) hx hb dX2_correct_218 (by decide) (fun cd22 => ?_) (fun cd22 => absurd cd22 (by decide))
      refine lv_aload_n (pc := 229) hx hb dX2_correct_229 rfl (lv_at hl 8 rfl) ?_
      refine va_get (pc := 230) (D := D) (ci := 2) (v := .int (u 4)) (C := RX2) (T := TX2) (N := 8) hx hb hts in_X2 hown hK.1 hP 0 rfl rfl 4 (by decide) (hts _ q65) (fun _ h9 => h9) rfl dX2_correct_230 ?_
      refine lv_i2l (pc := 233) hx hb dX2_correct_233 rfl ?_
      refine kLp (pc := 234) (va_runSN (As := [.long z10, .long (Int32.toInt64 (u 4))]) (rest := [.long (Int32.toInt64 (u 3))]) ⟨hx, hb, hml, hown, hts⟩ (m_mul l z10 (Int32.toInt64 (u 4)) s.heap) ⟨va_cnB 2 hts (lw_meth q384) rfl rfl rfl (hK.2.1 _ nq382) (hts _ q21) (by decide +kernel) ⟨Nat.le_of_ble_eq_true rfl, Nat.le_of_ble_eq_true rfl⟩, hts _ q383, trivial⟩ (preS hK) rfl rfl hl.1 rfl (lv_room (Nat.le_of_ble_eq_true rfl)) dX2_correct_234 ⟨Nat.le_of_ble_eq_true rfl, Nat.le_of_ble_eq_true rfl⟩) (fun r23 hr23 => ?_)
      refine lv_lsub (pc := 237) hx hb dX2_correct_237 ?_
      have hm238 : (Int32.toInt64 (u 3)) - r23 = c3 (e64 u) kd va.toInt64 := by rw [hr23, hkv]; unfold c3; rw [if_neg cd1]; rfl
      refine xIp (pc := 238) (vx_runSN (As := [.long ((Int32.toInt64 (u 3)) - r23)]) (rest := []) ⟨hx, hb, hml, hown, hts⟩ (m_limited l za ((Int32.toInt64 (u 3)) - r23) s.heap) ⟨va_cnB 1 hts (lw_meth q274) rfl rfl rfl (hK.2.1 _ nq272) (hts _ q21) (by decide +kernel) ⟨Nat.le_of_ble_eq_true rfl, Nat.le_of_ble_eq_true rfl⟩, hts _ q273, trivial⟩ (preSZ hK hZ) rfl rfl hl.1 rfl (lv_room (Nat.le_of_ble_eq_true rfl)) dX2_correct_238 ⟨Nat.le_of_ble_eq_true rfl, Nat.le_of_ble_eq_true rfl⟩) hS (fun q h => hA _ h) (fun ce q9 H1 locs1 hX hz1 hk1 hS1 hce hcv hcl => ?_) (fun r24 hr24 => ?_)
      · exact vx_out (fun x hx9 => (htab x hx9).elim) hlocks hce hcv hcl (fun t ht hvm => ⟨rfl, ⟨hrj, fun h => hX (by rw [hm238]; exact h.2.2.2.2.2.1)⟩, by rw [ht]; exact hz1, fun q h1 h2 => by rw [ht]; exact hk1 q h1⟩) hS1.2.2 (Nat.le_of_ble_eq_true rfl) (Nat.le_of_ble_eq_true rfl)
      have hv238 : r24 = (c3 (e64 u) kd va.toInt64).toInt32 := by rw [← hm238]; exact hr24.2
      have hi238 : lim (c3 (e64 u) kd va.toInt64) := by rw [← hm238]; exact hr24.1
      refine lv_istore (pc := 241) (lv' := [(16, .int r24), (15, .int r21), (14, .int r18), (13, .int r16), (11, .long z14), (9, .long z10), (7, .long z5), (5, .long z3), (4, .int 0), (0, .ref h0), (1, .ref h1), (2, .int rd), (3, .int gt)]) hx hb dX2_correct_241 hl (by decide) rfl (fun ls hl => ?_)
      refine lv_aload_n (pc := 243) hx hb dX2_correct_243 rfl (lv_at hl 9 rfl) ?_
      refine va_get (pc := 244) (D := D) (ci := 2) (v := .int (u 4)) (C := RX2) (T := TX2) (N := 8) hx hb hts in_X2 hown hK.1 hP 0 rfl rfl 4 (by decide) (hts _ q65) (fun _ h9 => h9) rfl dX2_correct_244 ?_
      refine lv_i2l (pc := 247) hx hb dX2_correct_247 rfl ?_
      refine lv_lload (pc := 248) hx hb dX2_correct_248 (lv_at hl 4 rfl) ?_
      refine lv_iload (pc := 250) hx hb dX2_correct_250 (lv_at hl 8 rfl) ?_
      refine lv_if_eq (pc := 252) (tgt := 263) hx hb dX2_correct_252 (by decide) (fun cd25 => ?_) (fun cd25 => absurd cd25 (by decide))
      refine lv_aload_n (pc := 263) hx hb dX2_correct_263 rfl (lv_at hl 9 rfl) ?_
      refine va_get (pc := 264) (D := D) (ci := 2) (v := .int (u 4)) (C := RX2) (T := TX2) (N := 8) hx hb hts in_X2 hown hK.1 hP 0 rfl rfl 4 (by decide) (hts _ q65) (fun _ h9 => h9) rfl dX2_correct_264 ?_
      refine lv_i2l (pc := 267) hx hb dX2_correct_267 rfl ?_
      refine kLp (pc := 268) (va_runSN (As := [.long z14, .long (Int32.toInt64 (u 4))]) (rest := [.long (Int32.toInt64 (u 4))]) ⟨hx, hb, hml, hown, hts⟩ (m_mul l z14 (Int32.toInt64 (u 4)) s.heap) ⟨va_cnB 2 hts (lw_meth q384) rfl rfl rfl (hK.2.1 _ nq382) (hts _ q21) (by decide +kernel) ⟨Nat.le_of_ble_eq_true rfl, Nat.le_of_ble_eq_true rfl⟩, hts _ q383, trivial⟩ (preS hK) rfl rfl hl.1 rfl (lv_room (Nat.le_of_ble_eq_true rfl)) dX2_correct_268 ⟨Nat.le_of_ble_eq_true rfl, Nat.le_of_ble_eq_true rfl⟩) (fun r26 hr26 => ?_)
      refine lv_lsub (pc := 271) hx hb dX2_correct_271 ?_
      have hm272 : pos ((Int32.toInt64 (u 4)) - r26) = c4 (e64 u) kd va.toInt64 := by rw [hr26, hlv]; unfold c4; rw [if_neg cd1]; rfl
      refine xIp (pc := 272) (vx_runS (As := [.long ((Int32.toInt64 (u 4)) - r26)]) (rest := []) ⟨hx, hb, hml, hown, hts⟩ (m_positive l za ((Int32.toInt64 (u 4)) - r26) s.heap) (va_cwS 1 hts (lw_S q336 q337 q23 q338) rfl rfl rfl (by decide +kernel) ⟨Nat.le_of_ble_eq_true rfl, Nat.le_of_ble_eq_true rfl⟩) (preSZ hK hZ) rfl rfl hl.1 rfl (lv_room (Nat.le_of_ble_eq_true rfl)) dX2_correct_272 ⟨Nat.le_of_ble_eq_true rfl, Nat.le_of_ble_eq_true rfl⟩) hS (fun q h => hA _ h) (fun ce q9 H1 locs1 hX hz1 hk1 hS1 hce hcv hcl => ?_) (fun r27 hr27 => ?_)
      · exact vx_out (fun x hx9 => (htab x hx9).elim) hlocks hce hcv hcl (fun t ht hvm => ⟨rfl, ⟨hrj, fun h => hX (by show lim (pos _); rw [hm272]; exact h.2.2.2.2.2.2)⟩, by rw [ht]; exact hz1, fun q h1 h2 => by rw [ht]; exact hk1 q h1⟩) hS1.2.2 (Nat.le_of_ble_eq_true rfl) (Nat.le_of_ble_eq_true rfl)
      have hv272 : r27 = (c4 (e64 u) kd va.toInt64).toInt32 := by rw [← hm272]; exact hr27.2
      have hi272 : lim (c4 (e64 u) kd va.toInt64) := by rw [← hm272]; exact hr27.1
      refine lv_istore (pc := 275) (lv' := [(17, .int r27), (16, .int r24), (15, .int r21), (14, .int r18), (13, .int r16), (11, .long z14), (9, .long z10), (7, .long z5), (5, .long z3), (4, .int 0), (0, .ref h0), (1, .ref h1), (2, .int rd), (3, .int gt)]) hx hb dX2_correct_275 hl (by decide) rfl (fun ls hl => ?_)
      refine lv_aload_n (pc := 277) hx hb dX2_correct_277 rfl (lv_at hl 10 rfl) ?_
      refine lv_iload (pc := 278) hx hb dX2_correct_278 (lv_at hl 4 rfl) ?_
      refine va_put (pc := 280) (D := D) (ci := 2) (v := .int r16) (ty := .int) (C := RX2) (T := TX2) (N := 8) hx hb hts in_X2 tyX2 tyX2_ok nmX2 hown hK.1 hP hD hS 0 rfl rfl 0 (by decide) (hts _ q56) (fun _ h9 => h9) rfl (by decide +kernel) rfl rfl (Nat.le_of_ble_eq_true rfl) dX2_correct_280 (fun H locs hP hD hS => ?_)
      have hP : va_P D vwCl [(h0, .inr (2, [.int r16, .int (u 1), .int (u 2), .int (u 3), .int (u 4), .int (u 5), .int (u 6), .int (u 7)]))] H := hP
      have hD : va_D (Aw [h0] s.heap.size) [(h0, .inr (2, [.int r16, .int (u 1), .int (u 2), .int (u 3), .int (u 4), .int (u 5), .int (u 6), .int (u 7)]))] := hD
      refine lv_aload_n (pc := 283) hx hb dX2_correct_283 rfl (lv_at hl 10 rfl) ?_
      refine lv_iload (pc := 284) hx hb dX2_correct_284 (lv_at hl 3 rfl) ?_
      refine va_put (pc := 286) (D := D) (ci := 2) (v := .int r18) (ty := .int) (C := RX2) (T := TX2) (N := 8) hx hb hts in_X2 tyX2 tyX2_ok nmX2 hown hK.1 hP hD hS 0 rfl rfl 1 (by decide) (hts _ q59) (fun _ h9 => h9) rfl (by decide +kernel) rfl rfl (Nat.le_of_ble_eq_true rfl) dX2_correct_286 (fun H locs hP hD hS => ?_)
      have hP : va_P D vwCl [(h0, .inr (2, [.int r16, .int r18, .int (u 2), .int (u 3), .int (u 4), .int (u 5), .int (u 6), .int (u 7)]))] H := hP
      have hD : va_D (Aw [h0] s.heap.size) [(h0, .inr (2, [.int r16, .int r18, .int (u 2), .int (u 3), .int (u 4), .int (u 5), .int (u 6), .int (u 7)]))] := hD
      refine lv_aload_n (pc := 289) hx hb dX2_correct_289 rfl (lv_at hl 10 rfl) ?_
      refine lv_iload (pc := 290) hx hb dX2_correct_290 (lv_at hl 2 rfl) ?_
      refine va_put (pc := 292) (D := D) (ci := 2) (v := .int r21) (ty := .int) (C := RX2) (T := TX2) (N := 8) hx hb hts in_X2 tyX2 tyX2_ok nmX2 hown hK.1 hP hD hS 0 rfl rfl 2 (by decide) (hts _ q61) (fun _ h9 => h9) rfl (by decide +kernel) rfl rfl (Nat.le_of_ble_eq_true rfl) dX2_correct_292 (fun H locs hP hD hS => ?_)
      have hP : va_P D vwCl [(h0, .inr (2, [.int r16, .int r18, .int r21, .int (u 3), .int (u 4), .int (u 5), .int (u 6), .int (u 7)]))] H := hP
      have hD : va_D (Aw [h0] s.heap.size) [(h0, .inr (2, [.int r16, .int r18, .int r21, .int (u 3), .int (u 4), .int (u 5), .int (u 6), .int (u 7)]))] := hD
      refine lv_aload_n (pc := 295) hx hb dX2_correct_295 rfl (lv_at hl 10 rfl) ?_
      refine lv_iload (pc := 296) hx hb dX2_correct_296 (lv_at hl 1 rfl) ?_
      refine va_put (pc := 298) (D := D) (ci := 2) (v := .int r24) (ty := .int) (C := RX2) (T := TX2) (N := 8) hx hb hts in_X2 tyX2 tyX2_ok nmX2 hown hK.1 hP hD hS 0 rfl rfl 3 (by decide) (hts _ q63) (fun _ h9 => h9) rfl (by decide +kernel) rfl rfl (Nat.le_of_ble_eq_true rfl) dX2_correct_298 (fun H locs hP hD hS => ?_)
      have hP : va_P D vwCl [(h0, .inr (2, [.int r16, .int r18, .int r21, .int r24, .int (u 4), .int (u 5), .int (u 6), .int (u 7)]))] H := hP
      have hD : va_D (Aw [h0] s.heap.size) [(h0, .inr (2, [.int r16, .int r18, .int r21, .int r24, .int (u 4), .int (u 5), .int (u 6), .int (u 7)]))] := hD
      refine lv_aload_n (pc := 301) hx hb dX2_correct_301 rfl (lv_at hl 10 rfl) ?_
      refine lv_iload (pc := 302) hx hb dX2_correct_302 (lv_at hl 0 rfl) ?_
      refine va_put (pc := 304) (D := D) (ci := 2) (v := .int r27) (ty := .int) (C := RX2) (T := TX2) (N := 8) hx hb hts in_X2 tyX2 tyX2_ok nmX2 hown hK.1 hP hD hS 0 rfl rfl 4 (by decide) (hts _ q65) (fun _ h9 => h9) rfl (by decide +kernel) rfl rfl (Nat.le_of_ble_eq_true rfl) dX2_correct_304 (fun H locs hP hD hS => ?_)
      have hP : va_P D vwCl [(h0, .inr (2, [.int r16, .int r18, .int r21, .int r24, .int r27, .int (u 5), .int (u 6), .int (u 7)]))] H := hP
      have hD : va_D (Aw [h0] s.heap.size) [(h0, .inr (2, [.int r16, .int r18, .int r21, .int r24, .int r27, .int (u 5), .int (u 6), .int (u 7)]))] := hD
      refine lv_aload_n (pc := 307) hx hb dX2_correct_307 rfl (lv_at hl 10 rfl) ?_
      refine lv_lload (pc := 308) hx hb dX2_correct_308 (lv_at hl 7 rfl) ?_
      refine lv_l2i (pc := 310) hx hb dX2_correct_310 rfl ?_
      refine lv_topi (fun z28 ez28 => ?_)
      refine va_put (pc := 311) (D := D) (ci := 2) (v := .int z28) (ty := .int) (C := RX2) (T := TX2) (N := 8) hx hb hts in_X2 tyX2 tyX2_ok nmX2 hown hK.1 hP hD hS 0 rfl rfl 5 (by decide) (hts _ q67) (fun _ h9 => h9) rfl (by decide +kernel) rfl rfl (Nat.le_of_ble_eq_true rfl) dX2_correct_311 (fun H locs hP hD hS => ?_)
      have hP : va_P D vwCl [(h0, .inr (2, [.int r16, .int r18, .int r21, .int r24, .int r27, .int z28, .int (u 6), .int (u 7)]))] H := hP
      have hD : va_D (Aw [h0] s.heap.size) [(h0, .inr (2, [.int r16, .int r18, .int r21, .int r24, .int r27, .int z28, .int (u 6), .int (u 7)]))] := hD
      refine lv_aload_n (pc := 314) hx hb dX2_correct_314 rfl (lv_at hl 10 rfl) ?_
      refine lv_lload (pc := 315) hx hb dX2_correct_315 (lv_at hl 6 rfl) ?_
      refine lv_l2i (pc := 317) hx hb dX2_correct_317 rfl ?_
      refine lv_topi (fun z29 ez29 => ?_)
      refine va_put (pc := 318) (D := D) (ci := 2) (v := .int z29) (ty := .int) (C := RX2) (T := TX2) (N := 8) hx hb hts in_X2 tyX2 tyX2_ok nmX2 hown hK.1 hP hD hS 0 rfl rfl 6 (by decide) (hts _ q70) (fun _ h9 => h9) rfl (by decide +kernel) rfl rfl (Nat.le_of_ble_eq_true rfl) dX2_correct_318 (fun H locs hP hD hS => ?_)
      have hP : va_P D vwCl [(h0, .inr (2, [.int r16, .int r18, .int r21, .int r24, .int r27, .int z28, .int z29, .int (u 7)]))] H := hP
      have hD : va_D (Aw [h0] s.heap.size) [(h0, .inr (2, [.int r16, .int r18, .int r21, .int r24, .int r27, .int z28, .int z29, .int (u 7)]))] := hD
      refine lv_aload_n (pc := 321) hx hb dX2_correct_321 rfl (lv_at hl 10 rfl) ?_
      refine lv_lload (pc := 322) hx hb dX2_correct_322 (lv_at hl 5 rfl) ?_
      refine lv_l2i (pc := 324) hx hb dX2_correct_324 rfl ?_
      refine lv_topi (fun z30 ez30 => ?_)
      refine va_put (pc := 325) (D := D) (ci := 2) (v := .int z30) (ty := .int) (C := RX2) (T := TX2) (N := 8) hx hb hts in_X2 tyX2 tyX2_ok nmX2 hown hK.1 hP hD hS 0 rfl rfl 7 (by decide) (hts _ q73) (fun _ h9 => h9) rfl (by decide +kernel) rfl rfl (Nat.le_of_ble_eq_true rfl) dX2_correct_325 (fun H locs hP hD hS => ?_)
      have hP : va_P D vwCl [(h0, .inr (2, [.int r16, .int r18, .int r21, .int r24, .int r27, .int z28, .int z29, .int z30]))] H := hP
      have hD : va_D (Aw [h0] s.heap.size) [(h0, .inr (2, [.int r16, .int r18, .int r21, .int r24, .int r27, .int z28, .int z29, .int z30]))] := hD
      refine lv_iconst (pc := 328) (v := 1) hx hb dX2_correct_328 (by decide) ?_
      refine vx_ret ?_
      refine W.widen (k := 1) (n := 6) (by omega) (by omega) ?_
      have hq9 : (fun r H1 => (cRej (e64 u) kd va.toInt64 rd.toInt64 gt ∧ r = 0 ∧ va_P D vwCl [(h0, .inr (2, [.int (cF u kd rd 0), .int (cF u kd rd 1), .int (cF u kd rd 2), .int (cF u kd rd 3), .int (cF u kd rd 4), .int (cF u kd rd 5), .int (cF u kd rd 6), .int (cF u kd rd 7)]))] H1) ∨ (¬ cRej (e64 u) kd va.toInt64 rd.toInt64 gt ∧ cOK (e64 u) kd va.toInt64 rd.toInt64 ∧ r = 1 ∧ va_P D vwCl [(h0, .inr (2, [.int (cE u kd va rd 0), .int (cE u kd va rd 1), .int (cE u kd va rd 2), .int (cE u kd va rd 3), .int (cE u kd va rd 4), .int (cE u kd va rd 5), .int (cE u kd va rd 6), .int (cE u kd va rd 7)]))] H1) : Int32 → Heap → Prop) 1 H := Or.inr ⟨hrj, ⟨hi104, hi133, hi152, hi170, hi204, hi238, hi272⟩, rfl, by rw [hv152, hv170, hv204, hv238, hv272, ez28, ez29, ez30, hyv, hkv, hlv] at hP; exact hP⟩
      exact W.zret (v := 1) hx hb hr rfl (fun t ht hW => ⟨⟨_, rfl, by rw [ht]; exact hq9⟩, hS.F ht⟩) hS.2.2 dX2_correct_329
    · refine lv_lload (pc := 54) hx hb dX2_correct_54 (lv_at hl 0 rfl) ?_
      refine lv_lload (pc := 56) hx hb dX2_correct_56 (lv_at hl 0 rfl) ?_
      refine lv_lmul (pc := 58) hx hb dX2_correct_58 ?_
      refine lv_iload_n (pc := 59) hx hb dX2_correct_59 rfl (lv_at hl 6 rfl) ?_
      refine lv_i2l (pc := 60) hx hb dX2_correct_60 rfl ?_
      refine lv_lload (pc := 61) hx hb dX2_correct_61 (lv_at hl 1 rfl) ?_
      refine lv_lmul (pc := 63) hx hb dX2_correct_63 ?_
      refine lv_ldc2 (pc := 64) (v := 4096) hx hb hown (hts _ q373) dX2_correct_64 ?_
      refine lv_lmul (pc := 67) hx hb dX2_correct_67 ?_
      refine lq_le (pc := 68) (tgt := 81) hx hb dX2_correct_68 dX2_correct_69 (by decide) (fun cd31 => ?_) (fun cd31 => ?_)
      · have hrj : ¬ cRej (e64 u) kd va.toInt64 rd.toInt64 gt := fun h => h.2 (by rw [← hyv, ← hsv]; exact cd31)
        refine lv_iload (pc := 81) hx hb dX2_correct_81 (lv_at hl 2 rfl) ?_
        refine lv_if_eq (pc := 83) (tgt := 94) hx hb dX2_correct_83 (by decide) (fun cd32 => ?_) (fun cd32 => absurd cd32 (by decide))
        refine lv_aload_n (pc := 94) hx hb dX2_correct_94 rfl (lv_at hl 3 rfl) ?_
        refine va_get (pc := 95) (D := D) (ci := 2) (v := .int (u 3)) (C := RX2) (T := TX2) (N := 8) hx hb hts in_X2 hown hK.1 hP 0 rfl rfl 3 (by decide) (hts _ q63) (fun _ h9 => h9) rfl dX2_correct_95 ?_
        refine lv_i2l (pc := 98) hx hb dX2_correct_98 rfl ?_
        refine lv_lload (pc := 99) hx hb dX2_correct_99 (lv_at hl 1 rfl) ?_
        refine kLp (pc := 101) (va_runSN (As := [.long (Int32.toInt64 (u 3)), .long z3]) (rest := []) ⟨hx, hb, hml, hown, hts⟩ (m_div l (Int32.toInt64 (u 3)) z3 s.heap (by rw [hsv]; exact hs0)) ⟨va_cnB 2 hts (lw_meth q376) rfl rfl rfl (hK.2.1 _ nq374) (hts _ q21) (by decide +kernel) ⟨Nat.le_of_ble_eq_true rfl, Nat.le_of_ble_eq_true rfl⟩, hts _ q375, trivial⟩ (preS hK) rfl rfl hl.1 rfl (lv_room (Nat.le_of_ble_eq_true rfl)) dX2_correct_101 ⟨Nat.le_of_ble_eq_true rfl, Nat.le_of_ble_eq_true rfl⟩) (fun r33 hr33 => ?_)
        have hm104 : r33 = cK (e64 u) kd va.toInt64 := by rw [hr33, hsv]; unfold cK; rw [if_neg cd1]; rfl
        refine xIp (pc := 104) (vx_runSN (As := [.long r33]) (rest := []) ⟨hx, hb, hml, hown, hts⟩ (m_limited l za r33 s.heap) ⟨va_cnB 1 hts (lw_meth q274) rfl rfl rfl (hK.2.1 _ nq272) (hts _ q21) (by decide +kernel) ⟨Nat.le_of_ble_eq_true rfl, Nat.le_of_ble_eq_true rfl⟩, hts _ q273, trivial⟩ (preSZ hK hZ) rfl rfl hl.1 rfl (lv_room (Nat.le_of_ble_eq_true rfl)) dX2_correct_104 ⟨Nat.le_of_ble_eq_true rfl, Nat.le_of_ble_eq_true rfl⟩) hS (fun q h => hA _ h) (fun ce q9 H1 locs1 hX hz1 hk1 hS1 hce hcv hcl => ?_) (fun r34 hr34 => ?_)
        · exact vx_out (fun x hx9 => (htab x hx9).elim) hlocks hce hcv hcl (fun t ht hvm => ⟨rfl, ⟨hrj, fun h => hX (by rw [hm104]; exact h.1)⟩, by rw [ht]; exact hz1, fun q h1 h2 => by rw [ht]; exact hk1 q h1⟩) hS1.2.2 (Nat.le_of_ble_eq_true rfl) (Nat.le_of_ble_eq_true rfl)
        have hv104 : r34 = (cK (e64 u) kd va.toInt64).toInt32 := by rw [← hm104]; exact hr34.2
        have hi104 : lim (cK (e64 u) kd va.toInt64) := by rw [← hm104]; exact hr34.1
        refine lv_i2l (pc := 107) hx hb dX2_correct_107 rfl ?_
        refine lv_topl (fun z35 ez35 => ?_)
        refine lv_lstore (pc := 108) (lv' := [(9, .long z35), (7, .long z5), (5, .long z3), (4, .int 0), (0, .ref h0), (1, .ref h1), (2, .int rd), (3, .int gt)]) hx hb dX2_correct_108 hl (by decide) rfl (fun ls hl => ?_)
        have hkv : z35 = cK (e64 u) kd va.toInt64 := by rw [ez35, hv104]; exact lim_back hi104
        refine lv_iload (pc := 110) hx hb dX2_correct_110 (lv_at hl 3 rfl) ?_
        refine lv_if_eq (pc := 112) (tgt := 123) hx hb dX2_correct_112 (by decide) (fun cd36 => ?_) (fun cd36 => absurd cd36 (by decide))
        refine lv_aload_n (pc := 123) hx hb dX2_correct_123 rfl (lv_at hl 4 rfl) ?_
        refine va_get (pc := 124) (D := D) (ci := 2) (v := .int (u 4)) (C := RX2) (T := TX2) (N := 8) hx hb hts in_X2 hown hK.1 hP 0 rfl rfl 4 (by decide) (hts _ q65) (fun _ h9 => h9) rfl dX2_correct_124 ?_
        refine lv_i2l (pc := 127) hx hb dX2_correct_127 rfl ?_
        refine lv_lload (pc := 128) hx hb dX2_correct_128 (lv_at hl 2 rfl) ?_
        refine kLp (pc := 130) (va_runSN (As := [.long (Int32.toInt64 (u 4)), .long z3]) (rest := []) ⟨hx, hb, hml, hown, hts⟩ (m_div l (Int32.toInt64 (u 4)) z3 s.heap (by rw [hsv]; exact hs0)) ⟨va_cnB 2 hts (lw_meth q376) rfl rfl rfl (hK.2.1 _ nq374) (hts _ q21) (by decide +kernel) ⟨Nat.le_of_ble_eq_true rfl, Nat.le_of_ble_eq_true rfl⟩, hts _ q375, trivial⟩ (preS hK) rfl rfl hl.1 rfl (lv_room (Nat.le_of_ble_eq_true rfl)) dX2_correct_130 ⟨Nat.le_of_ble_eq_true rfl, Nat.le_of_ble_eq_true rfl⟩) (fun r37 hr37 => ?_)
        have hm133 : r37 = cL (e64 u) kd va.toInt64 := by rw [hr37, hsv]; unfold cL; rw [if_neg cd1]; rfl
        refine xIp (pc := 133) (vx_runSN (As := [.long r37]) (rest := []) ⟨hx, hb, hml, hown, hts⟩ (m_limited l za r37 s.heap) ⟨va_cnB 1 hts (lw_meth q274) rfl rfl rfl (hK.2.1 _ nq272) (hts _ q21) (by decide +kernel) ⟨Nat.le_of_ble_eq_true rfl, Nat.le_of_ble_eq_true rfl⟩, hts _ q273, trivial⟩ (preSZ hK hZ) rfl rfl hl.1 rfl (lv_room (Nat.le_of_ble_eq_true rfl)) dX2_correct_133 ⟨Nat.le_of_ble_eq_true rfl, Nat.le_of_ble_eq_true rfl⟩) hS (fun q h => hA _ h) (fun ce q9 H1 locs1 hX hz1 hk1 hS1 hce hcv hcl => ?_) (fun r38 hr38 => ?_)
        · exact vx_out (fun x hx9 => (htab x hx9).elim) hlocks hce hcv hcl (fun t ht hvm => ⟨rfl, ⟨hrj, fun h => hX (by rw [hm133]; exact h.2.1)⟩, by rw [ht]; exact hz1, fun q h1 h2 => by rw [ht]; exact hk1 q h1⟩) hS1.2.2 (Nat.le_of_ble_eq_true rfl) (Nat.le_of_ble_eq_true rfl)
        have hv133 : r38 = (cL (e64 u) kd va.toInt64).toInt32 := by rw [← hm133]; exact hr38.2
        have hi133 : lim (cL (e64 u) kd va.toInt64) := by rw [← hm133]; exact hr38.1
        refine lv_i2l (pc := 136) hx hb dX2_correct_136 rfl ?_
        refine lv_topl (fun z39 ez39 => ?_)
        refine lv_lstore (pc := 137) (lv' := [(11, .long z39), (9, .long z35), (7, .long z5), (5, .long z3), (4, .int 0), (0, .ref h0), (1, .ref h1), (2, .int rd), (3, .int gt)]) hx hb dX2_correct_137 hl (by decide) rfl (fun ls hl => ?_)
        have hlv : z39 = cL (e64 u) kd va.toInt64 := by rw [ez39, hv133]; exact lim_back hi133
        refine lv_aload_n (pc := 139) hx hb dX2_correct_139 rfl (lv_at hl 5 rfl) ?_
        refine va_get (pc := 140) (D := D) (ci := 2) (v := .int (u 0)) (C := RX2) (T := TX2) (N := 8) hx hb hts in_X2 hown hK.1 hP 0 rfl rfl 0 (by decide) (hts _ q56) (fun _ h9 => h9) rfl dX2_correct_140 ?_
        refine lv_i2l (pc := 143) hx hb dX2_correct_143 rfl ?_
        refine lv_lload (pc := 144) hx hb dX2_correct_144 (lv_at hl 1 rfl) ?_
        refine lv_lload (pc := 146) hx hb dX2_correct_146 (lv_at hl 2 rfl) ?_
        refine kLp (pc := 148) (va_runSN (As := [.long z35, .long z5]) (rest := [.long (Int32.toInt64 (u 0))]) ⟨hx, hb, hml, hown, hts⟩ (m_mul l z35 z5 s.heap) ⟨va_cnB 2 hts (lw_meth q384) rfl rfl rfl (hK.2.1 _ nq382) (hts _ q21) (by decide +kernel) ⟨Nat.le_of_ble_eq_true rfl, Nat.le_of_ble_eq_true rfl⟩, hts _ q383, trivial⟩ (preS hK) rfl rfl hl.1 rfl (lv_room (Nat.le_of_ble_eq_true rfl)) dX2_correct_148 ⟨Nat.le_of_ble_eq_true rfl, Nat.le_of_ble_eq_true rfl⟩) (fun r40 hr40 => ?_)
        refine lv_ladd (pc := 151) hx hb dX2_correct_151 ?_
        have hm152 : (Int32.toInt64 (u 0)) + r40 = c0 (e64 u) kd va.toInt64 rd.toInt64 := by rw [hr40, hyv, hkv]; rfl
        refine xIp (pc := 152) (vx_runSN (As := [.long ((Int32.toInt64 (u 0)) + r40)]) (rest := []) ⟨hx, hb, hml, hown, hts⟩ (m_limited l za ((Int32.toInt64 (u 0)) + r40) s.heap) ⟨va_cnB 1 hts (lw_meth q274) rfl rfl rfl (hK.2.1 _ nq272) (hts _ q21) (by decide +kernel) ⟨Nat.le_of_ble_eq_true rfl, Nat.le_of_ble_eq_true rfl⟩, hts _ q273, trivial⟩ (preSZ hK hZ) rfl rfl hl.1 rfl (lv_room (Nat.le_of_ble_eq_true rfl)) dX2_correct_152 ⟨Nat.le_of_ble_eq_true rfl, Nat.le_of_ble_eq_true rfl⟩) hS (fun q h => hA _ h) (fun ce q9 H1 locs1 hX hz1 hk1 hS1 hce hcv hcl => ?_) (fun r41 hr41 => ?_)
        · exact vx_out (fun x hx9 => (htab x hx9).elim) hlocks hce hcv hcl (fun t ht hvm => ⟨rfl, ⟨hrj, fun h => hX (by rw [hm152]; exact h.2.2.1)⟩, by rw [ht]; exact hz1, fun q h1 h2 => by rw [ht]; exact hk1 q h1⟩) hS1.2.2 (Nat.le_of_ble_eq_true rfl) (Nat.le_of_ble_eq_true rfl)
        have hv152 : r41 = (c0 (e64 u) kd va.toInt64 rd.toInt64).toInt32 := by rw [← hm152]; exact hr41.2
        have hi152 : lim (c0 (e64 u) kd va.toInt64 rd.toInt64) := by rw [← hm152]; exact hr41.1
        refine lv_istore (pc := 155) (lv' := [(13, .int r41), (11, .long z39), (9, .long z35), (7, .long z5), (5, .long z3), (4, .int 0), (0, .ref h0), (1, .ref h1), (2, .int rd), (3, .int gt)]) hx hb dX2_correct_155 hl (by decide) rfl (fun ls hl => ?_)
        refine lv_aload_n (pc := 157) hx hb dX2_correct_157 rfl (lv_at hl 6 rfl) ?_
        refine va_get (pc := 158) (D := D) (ci := 2) (v := .int (u 1)) (C := RX2) (T := TX2) (N := 8) hx hb hts in_X2 hown hK.1 hP 0 rfl rfl 1 (by decide) (hts _ q59) (fun _ h9 => h9) rfl dX2_correct_158 ?_
        refine lv_i2l (pc := 161) hx hb dX2_correct_161 rfl ?_
        refine lv_lload (pc := 162) hx hb dX2_correct_162 (lv_at hl 1 rfl) ?_
        refine lv_lload (pc := 164) hx hb dX2_correct_164 (lv_at hl 3 rfl) ?_
        refine kLp (pc := 166) (va_runSN (As := [.long z39, .long z5]) (rest := [.long (Int32.toInt64 (u 1))]) ⟨hx, hb, hml, hown, hts⟩ (m_mul l z39 z5 s.heap) ⟨va_cnB 2 hts (lw_meth q384) rfl rfl rfl (hK.2.1 _ nq382) (hts _ q21) (by decide +kernel) ⟨Nat.le_of_ble_eq_true rfl, Nat.le_of_ble_eq_true rfl⟩, hts _ q383, trivial⟩ (preS hK) rfl rfl hl.1 rfl (lv_room (Nat.le_of_ble_eq_true rfl)) dX2_correct_166 ⟨Nat.le_of_ble_eq_true rfl, Nat.le_of_ble_eq_true rfl⟩) (fun r42 hr42 => ?_)
        refine lv_ladd (pc := 169) hx hb dX2_correct_169 ?_
        have hm170 : (Int32.toInt64 (u 1)) + r42 = c1 (e64 u) kd va.toInt64 rd.toInt64 := by rw [hr42, hyv, hlv]; rfl
        refine xIp (pc := 170) (vx_runSN (As := [.long ((Int32.toInt64 (u 1)) + r42)]) (rest := []) ⟨hx, hb, hml, hown, hts⟩ (m_limited l za ((Int32.toInt64 (u 1)) + r42) s.heap) ⟨va_cnB 1 hts (lw_meth q274) rfl rfl rfl (hK.2.1 _ nq272) (hts _ q21) (by decide +kernel) ⟨Nat.le_of_ble_eq_true rfl, Nat.le_of_ble_eq_true rfl⟩, hts _ q273, trivial⟩ (preSZ hK hZ) rfl rfl hl.1 rfl (lv_room (Nat.le_of_ble_eq_true rfl)) dX2_correct_170 ⟨Nat.le_of_ble_eq_true rfl, Nat.le_of_ble_eq_true rfl⟩) hS (fun q h => hA _ h) (fun ce q9 H1 locs1 hX hz1 hk1 hS1 hce hcv hcl => ?_) (fun r43 hr43 => ?_)
        · exact vx_out (fun x hx9 => (htab x hx9).elim) hlocks hce hcv hcl (fun t ht hvm => ⟨rfl, ⟨hrj, fun h => hX (by rw [hm170]; exact h.2.2.2.1)⟩, by rw [ht]; exact hz1, fun q h1 h2 => by rw [ht]; exact hk1 q h1⟩) hS1.2.2 (Nat.le_of_ble_eq_true rfl) (Nat.le_of_ble_eq_true rfl)
        have hv170 : r43 = (c1 (e64 u) kd va.toInt64 rd.toInt64).toInt32 := by rw [← hm170]; exact hr43.2
        have hi170 : lim (c1 (e64 u) kd va.toInt64 rd.toInt64) := by rw [← hm170]; exact hr43.1
        refine lv_istore (pc := 173) (lv' := [(14, .int r43), (13, .int r41), (11, .long z39), (9, .long z35), (7, .long z5), (5, .long z3), (4, .int 0), (0, .ref h0), (1, .ref h1), (2, .int rd), (3, .int gt)]) hx hb dX2_correct_173 hl (by decide) rfl (fun ls hl => ?_)
        refine lv_aload_n (pc := 175) hx hb dX2_correct_175 rfl (lv_at hl 7 rfl) ?_
        refine va_get (pc := 176) (D := D) (ci := 2) (v := .int (u 2)) (C := RX2) (T := TX2) (N := 8) hx hb hts in_X2 hown hK.1 hP 0 rfl rfl 2 (by decide) (hts _ q61) (fun _ h9 => h9) rfl dX2_correct_176 ?_
        refine lv_i2l (pc := 179) hx hb dX2_correct_179 rfl ?_
        refine lv_lload (pc := 180) hx hb dX2_correct_180 (lv_at hl 3 rfl) ?_
        refine lv_iload (pc := 182) hx hb dX2_correct_182 (lv_at hl 6 rfl) ?_
        refine lv_if_eq (pc := 184) (tgt := 195) hx hb dX2_correct_184 (by decide) (fun cd44 => ?_) (fun cd44 => absurd cd44 (by decide))
        refine lv_aload_n (pc := 195) hx hb dX2_correct_195 rfl (lv_at hl 7 rfl) ?_
        refine va_get (pc := 196) (D := D) (ci := 2) (v := .int (u 3)) (C := RX2) (T := TX2) (N := 8) hx hb hts in_X2 hown hK.1 hP 0 rfl rfl 3 (by decide) (hts _ q63) (fun _ h9 => h9) rfl dX2_correct_196 ?_
        refine lv_i2l (pc := 199) hx hb dX2_correct_199 rfl ?_
        refine kLp (pc := 200) (va_runSN (As := [.long z35, .long (Int32.toInt64 (u 3))]) (rest := [.long (Int32.toInt64 (u 2))]) ⟨hx, hb, hml, hown, hts⟩ (m_mul l z35 (Int32.toInt64 (u 3)) s.heap) ⟨va_cnB 2 hts (lw_meth q384) rfl rfl rfl (hK.2.1 _ nq382) (hts _ q21) (by decide +kernel) ⟨Nat.le_of_ble_eq_true rfl, Nat.le_of_ble_eq_true rfl⟩, hts _ q383, trivial⟩ (preS hK) rfl rfl hl.1 rfl (lv_room (Nat.le_of_ble_eq_true rfl)) dX2_correct_200 ⟨Nat.le_of_ble_eq_true rfl, Nat.le_of_ble_eq_true rfl⟩) (fun r45 hr45 => ?_)
        refine lv_lsub (pc := 203) hx hb dX2_correct_203 ?_
        have hm204 : pos ((Int32.toInt64 (u 2)) - r45) = c2 (e64 u) kd va.toInt64 := by rw [hr45, hkv]; unfold c2; rw [if_neg cd1]; rfl
        refine xIp (pc := 204) (vx_runS (As := [.long ((Int32.toInt64 (u 2)) - r45)]) (rest := []) ⟨hx, hb, hml, hown, hts⟩ (m_positive l za ((Int32.toInt64 (u 2)) - r45) s.heap) (va_cwS 1 hts (lw_S q336 q337 q23 q338) rfl rfl rfl (by decide +kernel) ⟨Nat.le_of_ble_eq_true rfl, Nat.le_of_ble_eq_true rfl⟩) (preSZ hK hZ) rfl rfl hl.1 rfl (lv_room (Nat.le_of_ble_eq_true rfl)) dX2_correct_204 ⟨Nat.le_of_ble_eq_true rfl, Nat.le_of_ble_eq_true rfl⟩) hS (fun q h => hA _ h) (fun ce q9 H1 locs1 hX hz1 hk1 hS1 hce hcv hcl => ?_) (fun r46 hr46 => ?_)
        · exact vx_out (fun x hx9 => (htab x hx9).elim) hlocks hce hcv hcl (fun t ht hvm => ⟨rfl, ⟨hrj, fun h => hX (by show lim (pos _); rw [hm204]; exact h.2.2.2.2.1)⟩, by rw [ht]; exact hz1, fun q h1 h2 => by rw [ht]; exact hk1 q h1⟩) hS1.2.2 (Nat.le_of_ble_eq_true rfl) (Nat.le_of_ble_eq_true rfl)
        have hv204 : r46 = (c2 (e64 u) kd va.toInt64).toInt32 := by rw [← hm204]; exact hr46.2
        have hi204 : lim (c2 (e64 u) kd va.toInt64) := by rw [← hm204]; exact hr46.1
        refine lv_istore (pc := 207) (lv' := [(15, .int r46), (14, .int r43), (13, .int r41), (11, .long z39), (9, .long z35), (7, .long z5), (5, .long z3), (4, .int 0), (0, .ref h0), (1, .ref h1), (2, .int rd), (3, .int gt)]) hx hb dX2_correct_207 hl (by decide) rfl (fun ls hl => ?_)
        refine lv_aload_n (pc := 209) hx hb dX2_correct_209 rfl (lv_at hl 8 rfl) ?_
        refine va_get (pc := 210) (D := D) (ci := 2) (v := .int (u 3)) (C := RX2) (T := TX2) (N := 8) hx hb hts in_X2 hown hK.1 hP 0 rfl rfl 3 (by decide) (hts _ q63) (fun _ h9 => h9) rfl dX2_correct_210 ?_
        refine lv_i2l (pc := 213) hx hb dX2_correct_213 rfl ?_
        refine lv_lload (pc := 214) hx hb dX2_correct_214 (lv_at hl 4 rfl) ?_
        refine lv_iload (pc := 216) hx hb dX2_correct_216 (lv_at hl 7 rfl) ?_
        refine lv_if_eq (pc := 218) (tgt := 229) hx hb dX2_correct_218 (by decide) (fun cd47 => ?_) (fun cd47 => absurd cd47 (by decide))
        refine lv_aload_n (pc := 229) hx hb dX2_correct_229 rfl (lv_at hl 8 rfl) ?_
        refine va_get (pc := 230) (D := D) (ci := 2) (v := .int (u 4)) (C := RX2) (T := TX2) (N := 8) hx hb hts in_X2 hown hK.1 hP 0 rfl rfl 4 (by decide) (hts _ q65) (fun _ h9 => h9) rfl dX2_correct_230 ?_
        refine lv_i2l (pc := 233) hx hb dX2_correct_233 rfl ?_
        refine kLp (pc := 234) (va_runSN (As := [.long z35, .long (Int32.toInt64 (u 4))]) (rest := [.long (Int32.toInt64 (u 3))]) ⟨hx, hb, hml, hown, hts⟩ (m_mul l z35 (Int32.toInt64 (u 4)) s.heap) ⟨va_cnB 2 hts (lw_meth q384) rfl rfl rfl (hK.2.1 _ nq382) (hts _ q21) (by decide +kernel) ⟨Nat.le_of_ble_eq_true rfl, Nat.le_of_ble_eq_true rfl⟩, hts _ q383, trivial⟩ (preS hK) rfl rfl hl.1 rfl (lv_room (Nat.le_of_ble_eq_true rfl)) dX2_correct_234 ⟨Nat.le_of_ble_eq_true rfl, Nat.le_of_ble_eq_true rfl⟩) (fun r48 hr48 => ?_)
        refine lv_lsub (pc := 237) hx hb dX2_correct_237 ?_
        have hm238 : (Int32.toInt64 (u 3)) - r48 = c3 (e64 u) kd va.toInt64 := by rw [hr48, hkv]; unfold c3; rw [if_neg cd1]; rfl
        refine xIp (pc := 238) (vx_runSN (As := [.long ((Int32.toInt64 (u 3)) - r48)]) (rest := []) ⟨hx, hb, hml, hown, hts⟩ (m_limited l za ((Int32.toInt64 (u 3)) - r48) s.heap) ⟨va_cnB 1 hts (lw_meth q274) rfl rfl rfl (hK.2.1 _ nq272) (hts _ q21) (by decide +kernel) ⟨Nat.le_of_ble_eq_true rfl, Nat.le_of_ble_eq_true rfl⟩, hts _ q273, trivial⟩ (preSZ hK hZ) rfl rfl hl.1 rfl (lv_room (Nat.le_of_ble_eq_true rfl)) dX2_correct_238 ⟨Nat.le_of_ble_eq_true rfl, Nat.le_of_ble_eq_true rfl⟩) hS (fun q h => hA _ h) (fun ce q9 H1 locs1 hX hz1 hk1 hS1 hce hcv hcl => ?_) (fun r49 hr49 => ?_)
        · exact vx_out (fun x hx9 => (htab x hx9).elim) hlocks hce hcv hcl (fun t ht hvm => ⟨rfl, ⟨hrj, fun h => hX (by rw [hm238]; exact h.2.2.2.2.2.1)⟩, by rw [ht]; exact hz1, fun q h1 h2 => by rw [ht]; exact hk1 q h1⟩) hS1.2.2 (Nat.le_of_ble_eq_true rfl) (Nat.le_of_ble_eq_true rfl)
        have hv238 : r49 = (c3 (e64 u) kd va.toInt64).toInt32 := by rw [← hm238]; exact hr49.2
        have hi238 : lim (c3 (e64 u) kd va.toInt64) := by rw [← hm238]; exact hr49.1
        refine lv_istore (pc := 241) (lv' := [(16, .int r49), (15, .int r46), (14, .int r43), (13, .int r41), (11, .long z39), (9, .long z35), (7, .long z5), (5, .long z3), (4, .int 0), (0, .ref h0), (1, .ref h1), (2, .int rd), (3, .int gt)]) hx hb dX2_correct_241 hl (by decide) rfl (fun ls hl => ?_)
        refine lv_aload_n (pc := 243) hx hb dX2_correct_243 rfl (lv_at hl 9 rfl) ?_
        refine va_get (pc := 244) (D := D) (ci := 2) (v := .int (u 4)) (C := RX2) (T := TX2) (N := 8) hx hb hts in_X2 hown hK.1 hP 0 rfl rfl 4 (by decide) (hts _ q65) (fun _ h9 => h9) rfl dX2_correct_244 ?_
        refine lv_i2l (pc := 247) hx hb dX2_correct_247 rfl ?_
        refine lv_lload (pc := 248) hx hb dX2_correct_248 (lv_at hl 4 rfl) ?_
        refine lv_iload (pc := 250) hx hb dX2_correct_250 (lv_at hl 8 rfl) ?_
        refine lv_if_eq (pc := 252) (tgt := 263) hx hb dX2_correct_252 (by decide) (fun cd50 => ?_) (fun cd50 => absurd cd50 (by decide))
        refine lv_aload_n (pc := 263) hx hb dX2_correct_263 rfl (lv_at hl 9 rfl) ?_
        refine va_get (pc := 264) (D := D) (ci := 2) (v := .int (u 4)) (C := RX2) (T := TX2) (N := 8) hx hb hts in_X2 hown hK.1 hP 0 rfl rfl 4 (by decide) (hts _ q65) (fun _ h9 => h9) rfl dX2_correct_264 ?_
        refine lv_i2l (pc := 267) hx hb dX2_correct_267 rfl ?_
        refine kLp (pc := 268) (va_runSN (As := [.long z39, .long (Int32.toInt64 (u 4))]) (rest := [.long (Int32.toInt64 (u 4))]) ⟨hx, hb, hml, hown, hts⟩ (m_mul l z39 (Int32.toInt64 (u 4)) s.heap) ⟨va_cnB 2 hts (lw_meth q384) rfl rfl rfl (hK.2.1 _ nq382) (hts _ q21) (by decide +kernel) ⟨Nat.le_of_ble_eq_true rfl, Nat.le_of_ble_eq_true rfl⟩, hts _ q383, trivial⟩ (preS hK) rfl rfl hl.1 rfl (lv_room (Nat.le_of_ble_eq_true rfl)) dX2_correct_268 ⟨Nat.le_of_ble_eq_true rfl, Nat.le_of_ble_eq_true rfl⟩) (fun r51 hr51 => ?_)
        refine lv_lsub (pc := 271) hx hb dX2_correct_271 ?_
        have hm272 : pos ((Int32.toInt64 (u 4)) - r51) = c4 (e64 u) kd va.toInt64 := by rw [hr51, hlv]; unfold c4; rw [if_neg cd1]; rfl
        refine xIp (pc := 272) (vx_runS (As := [.long ((Int32.toInt64 (u 4)) - r51)]) (rest := []) ⟨hx, hb, hml, hown, hts⟩ (m_positive l za ((Int32.toInt64 (u 4)) - r51) s.heap) (va_cwS 1 hts (lw_S q336 q337 q23 q338) rfl rfl rfl (by decide +kernel) ⟨Nat.le_of_ble_eq_true rfl, Nat.le_of_ble_eq_true rfl⟩) (preSZ hK hZ) rfl rfl hl.1 rfl (lv_room (Nat.le_of_ble_eq_true rfl)) dX2_correct_272 ⟨Nat.le_of_ble_eq_true rfl, Nat.le_of_ble_eq_true rfl⟩) hS (fun q h => hA _ h) (fun ce q9 H1 locs1 hX hz1 hk1 hS1 hce hcv hcl => ?_) (fun r52 hr52 => ?_)
        · exact vx_out (fun x hx9 => (htab x hx9).elim) hlocks hce hcv hcl (fun t ht hvm => ⟨rfl, ⟨hrj, fun h => hX (by show lim (pos _); rw [hm272]; exact h.2.2.2.2.2.2)⟩, by rw [ht]; exact hz1, fun q h1 h2 => by rw [ht]; exact hk1 q h1⟩) hS1.2.2 (Nat.le_of_ble_eq_true rfl) (Nat.le_of_ble_eq_true rfl)
        have hv272 : r52 = (c4 (e64 u) kd va.toInt64).toInt32 := by rw [← hm272]; exact hr52.2
        have hi272 : lim (c4 (e64 u) kd va.toInt64) := by rw [← hm272]; exact hr52.1
        refine lv_istore (pc := 275) (lv' := [(17, .int r52), (16, .int r49), (15, .int r46), (14, .int r43), (13, .int r41), (11, .long z39), (9, .long z35), (7, .long z5), (5, .long z3), (4, .int 0), (0, .ref h0), (1, .ref h1), (2, .int rd), (3, .int gt)]) hx hb dX2_correct_275 hl (by decide) rfl (fun ls hl => ?_)
        refine lv_aload_n (pc := 277) hx hb dX2_correct_277 rfl (lv_at hl 10 rfl) ?_
        refine lv_iload (pc := 278) hx hb dX2_correct_278 (lv_at hl 4 rfl) ?_
        refine va_put (pc := 280) (D := D) (ci := 2) (v := .int r41) (ty := .int) (C := RX2) (T := TX2) (N := 8) hx hb hts in_X2 tyX2 tyX2_ok nmX2 hown hK.1 hP hD hS 0 rfl rfl 0 (by decide) (hts _ q56) (fun _ h9 => h9) rfl (by decide +kernel) rfl rfl (Nat.le_of_ble_eq_true rfl) dX2_correct_280 (fun H locs hP hD hS => ?_)
        have hP : va_P D vwCl [(h0, .inr (2, [.int r41, .int (u 1), .int (u 2), .int (u 3), .int (u 4), .int (u 5), .int (u 6), .int (u 7)]))] H := hP
        have hD : va_D (Aw [h0] s.heap.size) [(h0, .inr (2, [.int r41, .int (u 1), .int (u 2), .int (u 3), .int (u 4), .int (u 5), .int (u 6), .int (u 7)]))] := hD
        refine lv_aload_n (pc := 283) hx hb dX2_correct_283 rfl (lv_at hl 10 rfl) ?_
        refine lv_iload (pc := 284) hx hb dX2_correct_284 (lv_at hl 3 rfl) ?_
        refine va_put (pc := 286) (D := D) (ci := 2) (v := .int r43) (ty := .int) (C := RX2) (T := TX2) (N := 8) hx hb hts in_X2 tyX2 tyX2_ok nmX2 hown hK.1 hP hD hS 0 rfl rfl 1 (by decide) (hts _ q59) (fun _ h9 => h9) rfl (by decide +kernel) rfl rfl (Nat.le_of_ble_eq_true rfl) dX2_correct_286 (fun H locs hP hD hS => ?_)
        have hP : va_P D vwCl [(h0, .inr (2, [.int r41, .int r43, .int (u 2), .int (u 3), .int (u 4), .int (u 5), .int (u 6), .int (u 7)]))] H := hP
        have hD : va_D (Aw [h0] s.heap.size) [(h0, .inr (2, [.int r41, .int r43, .int (u 2), .int (u 3), .int (u 4), .int (u 5), .int (u 6), .int (u 7)]))] := hD
        refine lv_aload_n (pc := 289) hx hb dX2_correct_289 rfl (lv_at hl 10 rfl) ?_
        refine lv_iload (pc := 290) hx hb dX2_correct_290 (lv_at hl 2 rfl) ?_
        refine va_put (pc := 292) (D := D) (ci := 2) (v := .int r46) (ty := .int) (C := RX2) (T := TX2) (N := 8) hx hb hts in_X2 tyX2 tyX2_ok nmX2 hown hK.1 hP hD hS 0 rfl rfl 2 (by decide) (hts _ q61) (fun _ h9 => h9) rfl (by decide +kernel) rfl rfl (Nat.le_of_ble_eq_true rfl) dX2_correct_292 (fun H locs hP hD hS => ?_)
        have hP : va_P D vwCl [(h0, .inr (2, [.int r41, .int r43, .int r46, .int (u 3), .int (u 4), .int (u 5), .int (u 6), .int (u 7)]))] H := hP
        have hD : va_D (Aw [h0] s.heap.size) [(h0, .inr (2, [.int r41, .int r43, .int r46, .int (u 3), .int (u 4), .int (u 5), .int (u 6), .int (u 7)]))] := hD
        refine lv_aload_n (pc := 295) hx hb dX2_correct_295 rfl (lv_at hl 10 rfl) ?_
        refine lv_iload (pc := 296) hx hb dX2_correct_296 (lv_at hl 1 rfl) ?_
        refine va_put (pc := 298) (D := D) (ci := 2) (v := .int r49) (ty := .int) (C := RX2) (T := TX2) (N := 8) hx hb hts in_X2 tyX2 tyX2_ok nmX2 hown hK.1 hP hD hS 0 rfl rfl 3 (by decide) (hts _ q63) (fun _ h9 => h9) rfl (by decide +kernel) rfl rfl (Nat.le_of_ble_eq_true rfl) dX2_correct_298 (fun H locs hP hD hS => ?_)
        have hP : va_P D vwCl [(h0, .inr (2, [.int r41, .int r43, .int r46, .int r49, .int (u 4), .int (u 5), .int (u 6), .int (u 7)]))] H := hP
        have hD : va_D (Aw [h0] s.heap.size) [(h0, .inr (2, [.int r41, .int r43, .int r46, .int r49, .int (u 4), .int (u 5), .int (u 6), .int (u 7)]))] := hD
        refine lv_aload_n (pc := 301) hx hb dX2_correct_301 rfl (lv_at hl 10 rfl) ?_
        refine lv_iload (pc := 302) hx hb dX2_correct_302 (lv_at hl 0 rfl) ?_
        refine va_put (pc := 304) (D := D) (ci := 2) (v := .int r52) (ty := .int) (C := RX2) (T := TX2) (N := 8) hx hb hts in_X2 tyX2 tyX2_ok nmX2 hown hK.1 hP hD hS 0 rfl rfl 4 (by decide) (hts _ q65) (fun _ h9 => h9) rfl (by decide +kernel) rfl rfl (Nat.le_of_ble_eq_true rfl) dX2_correct_304 (fun H locs hP hD hS => ?_)
        have hP : va_P D vwCl [(h0, .inr (2, [.int r41, .int r43, .int r46, .int r49, .int r52, .int (u 5), .int (u 6), .int (u 7)]))] H := hP
        have hD : va_D (Aw [h0] s.heap.size) [(h0, .inr (2, [.int r41, .int r43, .int r46, .int r49, .int r52, .int (u 5), .int (u 6), .int (u 7)]))] := hD
        refine lv_aload_n (pc := 307) hx hb dX2_correct_307 rfl (lv_at hl 10 rfl) ?_
        refine lv_lload (pc := 308) hx hb dX2_correct_308 (lv_at hl 7 rfl) ?_
        refine lv_l2i (pc := 310) hx hb dX2_correct_310 rfl ?_
        refine lv_topi (fun z53 ez53 => ?_)
        refine va_put (pc := 311) (D := D) (ci := 2) (v := .int z53) (ty := .int) (C := RX2) (T := TX2) (N := 8) hx hb hts in_X2 tyX2 tyX2_ok nmX2 hown hK.1 hP hD hS 0 rfl rfl 5 (by decide) (hts _ q67) (fun _ h9 => h9) rfl (by decide +kernel) rfl rfl (Nat.le_of_ble_eq_true rfl) dX2_correct_311 (fun H locs hP hD hS => ?_)
        have hP : va_P D vwCl [(h0, .inr (2, [.int r41, .int r43, .int r46, .int r49, .int r52, .int z53, .int (u 6), .int (u 7)]))] H := hP
        have hD : va_D (Aw [h0] s.heap.size) [(h0, .inr (2, [.int r41, .int r43, .int r46, .int r49, .int r52, .int z53, .int (u 6), .int (u 7)]))] := hD
        refine lv_aload_n (pc := 314) hx hb dX2_correct_314 rfl (lv_at hl 10 rfl) ?_
        refine lv_lload (pc := 315) hx hb dX2_correct_315 (lv_at hl 6 rfl) ?_
        refine lv_l2i (pc := 317) hx hb dX2_correct_317 rfl ?_
        refine lv_topi (fun z54 ez54 => ?_)
        refine va_put (pc := 318) (D := D) (ci := 2) (v := .int z54) (ty := .int) (C := RX2) (T := TX2) (N := 8) hx hb hts in_X2 tyX2 tyX2_ok nmX2 hown hK.1 hP hD hS 0 rfl rfl 6 (by decide) (hts _ q70) (fun _ h9 => h9) rfl (by decide +kernel) rfl rfl (Nat.le_of_ble_eq_true rfl) dX2_correct_318 (fun H locs hP hD hS => ?_)
        have hP : va_P D vwCl [(h0, .inr (2, [.int r41, .int r43, .int r46, .int r49, .int r52, .int z53, .int z54, .int (u 7)]))] H := hP
        have hD : va_D (Aw [h0] s.heap.size) [(h0, .inr (2, [.int r41, .int r43, .int r46, .int r49, .int r52, .int z53, .int z54, .int (u 7)]))] := hD
        refine lv_aload_n (pc := 321) hx hb dX2_correct_321 rfl (lv_at hl 10 rfl) ?_
        refine lv_lload (pc := 322) hx hb dX2_correct_322 (lv_at hl 5 rfl) ?_
        refine lv_l2i (pc := 324) hx hb dX2_correct_324 rfl ?_
        refine lv_topi (fun z55 ez55 => ?_)
        refine va_put (pc := 325) (D := D) (ci := 2) (v := .int z55) (ty := .int) (C := RX2) (T := TX2) (N := 8) hx hb hts in_X2 tyX2 tyX2_ok nmX2 hown hK.1 hP hD hS 0 rfl rfl 7 (by decide) (hts _ q73) (fun _ h9 => h9) rfl (by decide +kernel) rfl rfl (Nat.le_of_ble_eq_true rfl) dX2_correct_325 (fun H locs hP hD hS => ?_)
        have hP : va_P D vwCl [(h0, .inr (2, [.int r41, .int r43, .int r46, .int r49, .int r52, .int z53, .int z54, .int z55]))] H := hP
        have hD : va_D (Aw [h0] s.heap.size) [(h0, .inr (2, [.int r41, .int r43, .int r46, .int r49, .int r52, .int z53, .int z54, .int z55]))] := hD
        refine lv_iconst (pc := 328) (v := 1) hx hb dX2_correct_328 (by decide) ?_
        refine vx_ret ?_
        refine W.widen (k := 1) (n := 6) (by omega) (by omega) ?_
        have hq9 : (fun r H1 => (cRej (e64 u) kd va.toInt64 rd.toInt64 gt ∧ r = 0 ∧ va_P D vwCl [(h0, .inr (2, [.int (cF u kd rd 0), .int (cF u kd rd 1), .int (cF u kd rd 2), .int (cF u kd rd 3), .int (cF u kd rd 4), .int (cF u kd rd 5), .int (cF u kd rd 6), .int (cF u kd rd 7)]))] H1) ∨ (¬ cRej (e64 u) kd va.toInt64 rd.toInt64 gt ∧ cOK (e64 u) kd va.toInt64 rd.toInt64 ∧ r = 1 ∧ va_P D vwCl [(h0, .inr (2, [.int (cE u kd va rd 0), .int (cE u kd va rd 1), .int (cE u kd va rd 2), .int (cE u kd va rd 3), .int (cE u kd va rd 4), .int (cE u kd va rd 5), .int (cE u kd va rd 6), .int (cE u kd va rd 7)]))] H1) : Int32 → Heap → Prop) 1 H := Or.inr ⟨hrj, ⟨hi104, hi133, hi152, hi170, hi204, hi238, hi272⟩, rfl, by rw [hv152, hv170, hv204, hv238, hv272, ez53, ez54, ez55, hyv, hkv, hlv] at hP; exact hP⟩
        exact W.zret (v := 1) hx hb hr rfl (fun t ht hW => ⟨⟨_, rfl, by rw [ht]; exact hq9⟩, hS.F ht⟩) hS.2.2 dX2_correct_329
      · have hrj : cRej (e64 u) kd va.toInt64 rd.toInt64 gt := ⟨cd6, by rw [← hyv, ← hsv]; exact cd31⟩
        refine lv_aload_n (pc := 72) hx hb dX2_correct_72 rfl (lv_at hl 3 rfl) ?_
        refine lv_lload (pc := 73) hx hb dX2_correct_73 (lv_at hl 0 rfl) ?_
        refine lv_l2i (pc := 75) hx hb dX2_correct_75 rfl ?_
        refine lv_topi (fun z56 ez56 => ?_)
        refine va_put (pc := 76) (D := D) (ci := 2) (v := .int z56) (ty := .int) (C := RX2) (T := TX2) (N := 8) hx hb hts in_X2 tyX2 tyX2_ok nmX2 hown hK.1 hP hD hS 0 rfl rfl 5 (by decide) (hts _ q67) (fun _ h9 => h9) rfl (by decide +kernel) rfl rfl (Nat.le_of_ble_eq_true rfl) dX2_correct_76 (fun H locs hP hD hS => ?_)
        have hP : va_P D vwCl [(h0, .inr (2, [.int (u 0), .int (u 1), .int (u 2), .int (u 3), .int (u 4), .int z56, .int (u 6), .int (u 7)]))] H := hP
        have hD : va_D (Aw [h0] s.heap.size) [(h0, .inr (2, [.int (u 0), .int (u 1), .int (u 2), .int (u 3), .int (u 4), .int z56, .int (u 6), .int (u 7)]))] := hD
        refine lv_iconst (pc := 79) (v := 0) hx hb dX2_correct_79 (by decide) ?_
        refine vx_ret ?_
        refine W.widen (k := 1) (n := 6) (by omega) (by omega) ?_
        have hq9 : (fun r H1 => (cRej (e64 u) kd va.toInt64 rd.toInt64 gt ∧ r = 0 ∧ va_P D vwCl [(h0, .inr (2, [.int (cF u kd rd 0), .int (cF u kd rd 1), .int (cF u kd rd 2), .int (cF u kd rd 3), .int (cF u kd rd 4), .int (cF u kd rd 5), .int (cF u kd rd 6), .int (cF u kd rd 7)]))] H1) ∨ (¬ cRej (e64 u) kd va.toInt64 rd.toInt64 gt ∧ cOK (e64 u) kd va.toInt64 rd.toInt64 ∧ r = 1 ∧ va_P D vwCl [(h0, .inr (2, [.int (cE u kd va rd 0), .int (cE u kd va rd 1), .int (cE u kd va rd 2), .int (cE u kd va rd 3), .int (cE u kd va rd 4), .int (cE u kd va rd 5), .int (cE u kd va rd 6), .int (cE u kd va rd 7)]))] H1) : Int32 → Heap → Prop) 0 H := Or.inl ⟨hrj, rfl, by rw [ez56, hyv] at hP; exact hP⟩
        exact W.zret (v := 0) hx hb hr rfl (fun t ht hW => ⟨⟨_, rfl, by rw [ht]; exact hq9⟩, hS.F ht⟩) hS.2.2 dX2_correct_80
  · refine lv_iconst (pc := 7) (v := 1) hx hb dX2_correct_7 (by decide) ?_
    refine lv_goto (pc := 8) (tgt := 12) hx hb dX2_correct_8 (by decide) ?_
    refine lv_istore (pc := 12) (lv' := [(4, .int 1), (0, .ref h0), (1, .ref h1), (2, .int rd), (3, .int gt)]) hx hb dX2_correct_12 hl (by decide) rfl (fun ls hl => ?_)
    refine lv_iload (pc := 14) hx hb dX2_correct_14 (lv_at hl 0 rfl) ?_
    refine lv_if_eq (pc := 16) (tgt := 26) hx hb dX2_correct_16 (by decide) (fun cd57 => absurd cd57 (by decide)) (fun cd57 => ?_)
    refine lv_aload_n (pc := 19) hx hb dX2_correct_19 rfl (lv_at hl 1 rfl) ?_
    refine va_get (pc := 20) (D := D) (ci := 2) (v := .int (u 2)) (C := RX2) (T := TX2) (N := 8) hx hb hts in_X2 hown hK.1 hP 0 rfl rfl 2 (by decide) (hts _ q61) (fun _ h9 => h9) rfl dX2_correct_20 ?_
    refine lv_goto (pc := 23) (tgt := 30) hx hb dX2_correct_23 (by decide) ?_
    refine lv_i2l (pc := 30) hx hb dX2_correct_30 rfl ?_
    refine lv_aload_n (pc := 31) hx hb dX2_correct_31 rfl (lv_at hl 2 rfl) ?_
    refine va_getN (pc := 32) (D := D) (ci := 4) (v := .int va) (C := RX4) (T := TX4) (N := 2) hx hb hts in_X4 hown hK.1 hse 0 rfl rfl 1 (by decide) (hK.n nq121) (fun _ h9 => h9) rfl dX2_correct_32 ?_
    refine lv_i2l (pc := 35) hx hb dX2_correct_35 rfl ?_
    refine lv_ladd (pc := 36) hx hb dX2_correct_36 ?_
    refine lv_topl (fun z58 ez58 => ?_)
    refine lv_lstore (pc := 37) (lv' := [(5, .long z58), (4, .int 1), (0, .ref h0), (1, .ref h1), (2, .int rd), (3, .int gt)]) hx hb dX2_correct_37 hl (by decide) rfl (fun ls hl => ?_)
    have hsv : z58 = cS (e64 u) kd va.toInt64 := by rw [ez58]; unfold cS; rw [if_pos cd1]; rfl
    refine lv_iload_n (pc := 39) hx hb dX2_correct_39 rfl (lv_at hl 4 rfl) ?_
    refine lv_i2l (pc := 40) hx hb dX2_correct_40 rfl ?_
    refine lv_aload_n (pc := 41) hx hb dX2_correct_41 rfl (lv_at hl 2 rfl) ?_
    refine lv_aload_n (pc := 42) hx hb dX2_correct_42 rfl (lv_at hl 3 rfl) ?_
    refine kIp (pc := 43) (va_runV (As := [.ref h1]) (rest := [.long (Int32.toInt64 rd)]) ⟨hx, hb, hml, hown, hts⟩ (m2_measured l h0 h1 u kd va s.heap (hP.sub (ws' := [(h0, .inr (2, [.int (u 0), .int (u 1), .int (u 2), .int (u 3), .int (u 4), .int (u 5), .int (u 6), .int (u 7)]))]) [0] rfl) hse) (cwV 1 hts (lw_V q369 q371 qs4 q23 q372) rfl rfl rfl (by decide +kernel) ⟨Nat.le_of_ble_eq_true rfl, Nat.le_of_ble_eq_true rfl⟩) (preV hK (rcv hK hP 0 rfl rfl)) rfl rfl hl.1 rfl (lv_room (Nat.le_of_ble_eq_true rfl)) dX2_correct_43 ⟨Nat.le_of_ble_eq_true rfl, Nat.le_of_ble_eq_true rfl⟩) (fun r59 hr59 => ?_)
    refine lv_i2l (pc := 46) hx hb dX2_correct_46 rfl ?_
    refine lv_lsub (pc := 47) hx hb dX2_correct_47 ?_
    refine lv_topl (fun z60 ez60 => ?_)
    refine lv_lstore (pc := 48) (lv' := [(7, .long z60), (5, .long z58), (4, .int 1), (0, .ref h0), (1, .ref h1), (2, .int rd), (3, .int gt)]) hx hb dX2_correct_48 hl (by decide) rfl (fun ls hl => ?_)
    have hyv : z60 = cY (e64 u) kd rd.toInt64 := by rw [ez60, hr59]; unfold cY; rw [if_pos cd1, if_pos cd1]; rfl
    refine lv_iload_n (pc := 50) hx hb dX2_correct_50 rfl (lv_at hl 6 rfl) ?_
    refine lv_if_eq (pc := 51) (tgt := 81) hx hb dX2_correct_51 (by decide) (fun cd61 => ?_) (fun cd61 => ?_)
    · have hrj : ¬ cRej (e64 u) kd va.toInt64 rd.toInt64 gt := fun h => h.1 cd61
      refine lv_iload (pc := 81) hx hb dX2_correct_81 (lv_at hl 2 rfl) ?_
      refine lv_if_eq (pc := 83) (tgt := 94) hx hb dX2_correct_83 (by decide) (fun cd62 => absurd cd62 (by decide)) (fun cd62 => ?_)
      refine lv_aload_n (pc := 86) hx hb dX2_correct_86 rfl (lv_at hl 3 rfl) ?_
      refine va_get (pc := 87) (D := D) (ci := 2) (v := .int (u 2)) (C := RX2) (T := TX2) (N := 8) hx hb hts in_X2 hown hK.1 hP 0 rfl rfl 2 (by decide) (hts _ q61) (fun _ h9 => h9) rfl dX2_correct_87 ?_
      refine lv_i2l (pc := 90) hx hb dX2_correct_90 rfl ?_
      refine lv_goto (pc := 91) (tgt := 99) hx hb dX2_correct_91 (by decide) ?_
      refine lv_lload (pc := 99) hx hb dX2_correct_99 (lv_at hl 1 rfl) ?_
      refine kLp (pc := 101) (va_runSN (As := [.long (Int32.toInt64 (u 2)), .long z58]) (rest := []) ⟨hx, hb, hml, hown, hts⟩ (m_div l (Int32.toInt64 (u 2)) z58 s.heap (by rw [hsv]; exact hs0)) ⟨va_cnB 2 hts (lw_meth q376) rfl rfl rfl (hK.2.1 _ nq374) (hts _ q21) (by decide +kernel) ⟨Nat.le_of_ble_eq_true rfl, Nat.le_of_ble_eq_true rfl⟩, hts _ q375, trivial⟩ (preS hK) rfl rfl hl.1 rfl (lv_room (Nat.le_of_ble_eq_true rfl)) dX2_correct_101 ⟨Nat.le_of_ble_eq_true rfl, Nat.le_of_ble_eq_true rfl⟩) (fun r63 hr63 => ?_)
      have hm104 : r63 = cK (e64 u) kd va.toInt64 := by rw [hr63, hsv]; unfold cK; rw [if_pos cd1]; rfl
      refine xIp (pc := 104) (vx_runSN (As := [.long r63]) (rest := []) ⟨hx, hb, hml, hown, hts⟩ (m_limited l za r63 s.heap) ⟨va_cnB 1 hts (lw_meth q274) rfl rfl rfl (hK.2.1 _ nq272) (hts _ q21) (by decide +kernel) ⟨Nat.le_of_ble_eq_true rfl, Nat.le_of_ble_eq_true rfl⟩, hts _ q273, trivial⟩ (preSZ hK hZ) rfl rfl hl.1 rfl (lv_room (Nat.le_of_ble_eq_true rfl)) dX2_correct_104 ⟨Nat.le_of_ble_eq_true rfl, Nat.le_of_ble_eq_true rfl⟩) hS (fun q h => hA _ h) (fun ce q9 H1 locs1 hX hz1 hk1 hS1 hce hcv hcl => ?_) (fun r64 hr64 => ?_)
      · exact vx_out (fun x hx9 => (htab x hx9).elim) hlocks hce hcv hcl (fun t ht hvm => ⟨rfl, ⟨hrj, fun h => hX (by rw [hm104]; exact h.1)⟩, by rw [ht]; exact hz1, fun q h1 h2 => by rw [ht]; exact hk1 q h1⟩) hS1.2.2 (Nat.le_of_ble_eq_true rfl) (Nat.le_of_ble_eq_true rfl)
      have hv104 : r64 = (cK (e64 u) kd va.toInt64).toInt32 := by rw [← hm104]; exact hr64.2
      have hi104 : lim (cK (e64 u) kd va.toInt64) := by rw [← hm104]; exact hr64.1
      refine lv_i2l (pc := 107) hx hb dX2_correct_107 rfl ?_
      refine lv_topl (fun z65 ez65 => ?_)
      refine lv_lstore (pc := 108) (lv' := [(9, .long z65), (7, .long z60), (5, .long z58), (4, .int 1), (0, .ref h0), (1, .ref h1), (2, .int rd), (3, .int gt)]) hx hb dX2_correct_108 hl (by decide) rfl (fun ls hl => ?_)
      have hkv : z65 = cK (e64 u) kd va.toInt64 := by rw [ez65, hv104]; exact lim_back hi104
      refine lv_iload (pc := 110) hx hb dX2_correct_110 (lv_at hl 3 rfl) ?_
      refine lv_if_eq (pc := 112) (tgt := 123) hx hb dX2_correct_112 (by decide) (fun cd66 => absurd cd66 (by decide)) (fun cd66 => ?_)
      refine lv_aload_n (pc := 115) hx hb dX2_correct_115 rfl (lv_at hl 4 rfl) ?_
      refine va_get (pc := 116) (D := D) (ci := 2) (v := .int (u 3)) (C := RX2) (T := TX2) (N := 8) hx hb hts in_X2 hown hK.1 hP 0 rfl rfl 3 (by decide) (hts _ q63) (fun _ h9 => h9) rfl dX2_correct_116 ?_
      refine lv_i2l (pc := 119) hx hb dX2_correct_119 rfl ?_
      refine lv_goto (pc := 120) (tgt := 128) hx hb dX2_correct_120 (by decide) ?_
      refine lv_lload (pc := 128) hx hb dX2_correct_128 (lv_at hl 2 rfl) ?_
      refine kLp (pc := 130) (va_runSN (As := [.long (Int32.toInt64 (u 3)), .long z58]) (rest := []) ⟨hx, hb, hml, hown, hts⟩ (m_div l (Int32.toInt64 (u 3)) z58 s.heap (by rw [hsv]; exact hs0)) ⟨va_cnB 2 hts (lw_meth q376) rfl rfl rfl (hK.2.1 _ nq374) (hts _ q21) (by decide +kernel) ⟨Nat.le_of_ble_eq_true rfl, Nat.le_of_ble_eq_true rfl⟩, hts _ q375, trivial⟩ (preS hK) rfl rfl hl.1 rfl (lv_room (Nat.le_of_ble_eq_true rfl)) dX2_correct_130 ⟨Nat.le_of_ble_eq_true rfl, Nat.le_of_ble_eq_true rfl⟩) (fun r67 hr67 => ?_)
      have hm133 : r67 = cL (e64 u) kd va.toInt64 := by rw [hr67, hsv]; unfold cL; rw [if_pos cd1]; rfl
      refine xIp (pc := 133) (vx_runSN (As := [.long r67]) (rest := []) ⟨hx, hb, hml, hown, hts⟩ (m_limited l za r67 s.heap) ⟨va_cnB 1 hts (lw_meth q274) rfl rfl rfl (hK.2.1 _ nq272) (hts _ q21) (by decide +kernel) ⟨Nat.le_of_ble_eq_true rfl, Nat.le_of_ble_eq_true rfl⟩, hts _ q273, trivial⟩ (preSZ hK hZ) rfl rfl hl.1 rfl (lv_room (Nat.le_of_ble_eq_true rfl)) dX2_correct_133 ⟨Nat.le_of_ble_eq_true rfl, Nat.le_of_ble_eq_true rfl⟩) hS (fun q h => hA _ h) (fun ce q9 H1 locs1 hX hz1 hk1 hS1 hce hcv hcl => ?_) (fun r68 hr68 => ?_)
      · exact vx_out (fun x hx9 => (htab x hx9).elim) hlocks hce hcv hcl (fun t ht hvm => ⟨rfl, ⟨hrj, fun h => hX (by rw [hm133]; exact h.2.1)⟩, by rw [ht]; exact hz1, fun q h1 h2 => by rw [ht]; exact hk1 q h1⟩) hS1.2.2 (Nat.le_of_ble_eq_true rfl) (Nat.le_of_ble_eq_true rfl)
      have hv133 : r68 = (cL (e64 u) kd va.toInt64).toInt32 := by rw [← hm133]; exact hr68.2
      have hi133 : lim (cL (e64 u) kd va.toInt64) := by rw [← hm133]; exact hr68.1
      refine lv_i2l (pc := 136) hx hb dX2_correct_136 rfl ?_
      refine lv_topl (fun z69 ez69 => ?_)
      refine lv_lstore (pc := 137) (lv' := [(11, .long z69), (9, .long z65), (7, .long z60), (5, .long z58), (4, .int 1), (0, .ref h0), (1, .ref h1), (2, .int rd), (3, .int gt)]) hx hb dX2_correct_137 hl (by decide) rfl (fun ls hl => ?_)
      have hlv : z69 = cL (e64 u) kd va.toInt64 := by rw [ez69, hv133]; exact lim_back hi133
      refine lv_aload_n (pc := 139) hx hb dX2_correct_139 rfl (lv_at hl 5 rfl) ?_
      refine va_get (pc := 140) (D := D) (ci := 2) (v := .int (u 0)) (C := RX2) (T := TX2) (N := 8) hx hb hts in_X2 hown hK.1 hP 0 rfl rfl 0 (by decide) (hts _ q56) (fun _ h9 => h9) rfl dX2_correct_140 ?_
      refine lv_i2l (pc := 143) hx hb dX2_correct_143 rfl ?_
      refine lv_lload (pc := 144) hx hb dX2_correct_144 (lv_at hl 1 rfl) ?_
      refine lv_lload (pc := 146) hx hb dX2_correct_146 (lv_at hl 2 rfl) ?_
      refine kLp (pc := 148) (va_runSN (As := [.long z65, .long z60]) (rest := [.long (Int32.toInt64 (u 0))]) ⟨hx, hb, hml, hown, hts⟩ (m_mul l z65 z60 s.heap) ⟨va_cnB 2 hts (lw_meth q384) rfl rfl rfl (hK.2.1 _ nq382) (hts _ q21) (by decide +kernel) ⟨Nat.le_of_ble_eq_true rfl, Nat.le_of_ble_eq_true rfl⟩, hts _ q383, trivial⟩ (preS hK) rfl rfl hl.1 rfl (lv_room (Nat.le_of_ble_eq_true rfl)) dX2_correct_148 ⟨Nat.le_of_ble_eq_true rfl, Nat.le_of_ble_eq_true rfl⟩) (fun r70 hr70 => ?_)
      refine lv_ladd (pc := 151) hx hb dX2_correct_151 ?_
      have hm152 : (Int32.toInt64 (u 0)) + r70 = c0 (e64 u) kd va.toInt64 rd.toInt64 := by rw [hr70, hyv, hkv]; rfl
      refine xIp (pc := 152) (vx_runSN (As := [.long ((Int32.toInt64 (u 0)) + r70)]) (rest := []) ⟨hx, hb, hml, hown, hts⟩ (m_limited l za ((Int32.toInt64 (u 0)) + r70) s.heap) ⟨va_cnB 1 hts (lw_meth q274) rfl rfl rfl (hK.2.1 _ nq272) (hts _ q21) (by decide +kernel) ⟨Nat.le_of_ble_eq_true rfl, Nat.le_of_ble_eq_true rfl⟩, hts _ q273, trivial⟩ (preSZ hK hZ) rfl rfl hl.1 rfl (lv_room (Nat.le_of_ble_eq_true rfl)) dX2_correct_152 ⟨Nat.le_of_ble_eq_true rfl, Nat.le_of_ble_eq_true rfl⟩) hS (fun q h => hA _ h) (fun ce q9 H1 locs1 hX hz1 hk1 hS1 hce hcv hcl => ?_) (fun r71 hr71 => ?_)
      · exact vx_out (fun x hx9 => (htab x hx9).elim) hlocks hce hcv hcl (fun t ht hvm => ⟨rfl, ⟨hrj, fun h => hX (by rw [hm152]; exact h.2.2.1)⟩, by rw [ht]; exact hz1, fun q h1 h2 => by rw [ht]; exact hk1 q h1⟩) hS1.2.2 (Nat.le_of_ble_eq_true rfl) (Nat.le_of_ble_eq_true rfl)
      have hv152 : r71 = (c0 (e64 u) kd va.toInt64 rd.toInt64).toInt32 := by rw [← hm152]; exact hr71.2
      have hi152 : lim (c0 (e64 u) kd va.toInt64 rd.toInt64) := by rw [← hm152]; exact hr71.1
      refine lv_istore (pc := 155) (lv' := [(13, .int r71), (11, .long z69), (9, .long z65), (7, .long z60), (5, .long z58), (4, .int 1), (0, .ref h0), (1, .ref h1), (2, .int rd), (3, .int gt)]) hx hb dX2_correct_155 hl (by decide) rfl (fun ls hl => ?_)
      refine lv_aload_n (pc := 157) hx hb dX2_correct_157 rfl (lv_at hl 6 rfl) ?_
      refine va_get (pc := 158) (D := D) (ci := 2) (v := .int (u 1)) (C := RX2) (T := TX2) (N := 8) hx hb hts in_X2 hown hK.1 hP 0 rfl rfl 1 (by decide) (hts _ q59) (fun _ h9 => h9) rfl dX2_correct_158 ?_
      refine lv_i2l (pc := 161) hx hb dX2_correct_161 rfl ?_
      refine lv_lload (pc := 162) hx hb dX2_correct_162 (lv_at hl 1 rfl) ?_
      refine lv_lload (pc := 164) hx hb dX2_correct_164 (lv_at hl 3 rfl) ?_
      refine kLp (pc := 166) (va_runSN (As := [.long z69, .long z60]) (rest := [.long (Int32.toInt64 (u 1))]) ⟨hx, hb, hml, hown, hts⟩ (m_mul l z69 z60 s.heap) ⟨va_cnB 2 hts (lw_meth q384) rfl rfl rfl (hK.2.1 _ nq382) (hts _ q21) (by decide +kernel) ⟨Nat.le_of_ble_eq_true rfl, Nat.le_of_ble_eq_true rfl⟩, hts _ q383, trivial⟩ (preS hK) rfl rfl hl.1 rfl (lv_room (Nat.le_of_ble_eq_true rfl)) dX2_correct_166 ⟨Nat.le_of_ble_eq_true rfl, Nat.le_of_ble_eq_true rfl⟩) (fun r72 hr72 => ?_)
      refine lv_ladd (pc := 169) hx hb dX2_correct_169 ?_
      have hm170 : (Int32.toInt64 (u 1)) + r72 = c1 (e64 u) kd va.toInt64 rd.toInt64 := by rw [hr72, hyv, hlv]; rfl
      refine xIp (pc := 170) (vx_runSN (As := [.long ((Int32.toInt64 (u 1)) + r72)]) (rest := []) ⟨hx, hb, hml, hown, hts⟩ (m_limited l za ((Int32.toInt64 (u 1)) + r72) s.heap) ⟨va_cnB 1 hts (lw_meth q274) rfl rfl rfl (hK.2.1 _ nq272) (hts _ q21) (by decide +kernel) ⟨Nat.le_of_ble_eq_true rfl, Nat.le_of_ble_eq_true rfl⟩, hts _ q273, trivial⟩ (preSZ hK hZ) rfl rfl hl.1 rfl (lv_room (Nat.le_of_ble_eq_true rfl)) dX2_correct_170 ⟨Nat.le_of_ble_eq_true rfl, Nat.le_of_ble_eq_true rfl⟩) hS (fun q h => hA _ h) (fun ce q9 H1 locs1 hX hz1 hk1 hS1 hce hcv hcl => ?_) (fun r73 hr73 => ?_)
      · exact vx_out (fun x hx9 => (htab x hx9).elim) hlocks hce hcv hcl (fun t ht hvm => ⟨rfl, ⟨hrj, fun h => hX (by rw [hm170]; exact h.2.2.2.1)⟩, by rw [ht]; exact hz1, fun q h1 h2 => by rw [ht]; exact hk1 q h1⟩) hS1.2.2 (Nat.le_of_ble_eq_true rfl) (Nat.le_of_ble_eq_true rfl)
      have hv170 : r73 = (c1 (e64 u) kd va.toInt64 rd.toInt64).toInt32 := by rw [← hm170]; exact hr73.2
      have hi170 : lim (c1 (e64 u) kd va.toInt64 rd.toInt64) := by rw [← hm170]; exact hr73.1
      refine lv_istore (pc := 173) (lv' := [(14, .int r73), (13, .int r71), (11, .long z69), (9, .long z65), (7, .long z60), (5, .long z58), (4, .int 1), (0, .ref h0), (1, .ref h1), (2, .int rd), (3, .int gt)]) hx hb dX2_correct_173 hl (by decide) rfl (fun ls hl => ?_)
      refine lv_aload_n (pc := 175) hx hb dX2_correct_175 rfl (lv_at hl 7 rfl) ?_
      refine va_get (pc := 176) (D := D) (ci := 2) (v := .int (u 2)) (C := RX2) (T := TX2) (N := 8) hx hb hts in_X2 hown hK.1 hP 0 rfl rfl 2 (by decide) (hts _ q61) (fun _ h9 => h9) rfl dX2_correct_176 ?_
      refine lv_i2l (pc := 179) hx hb dX2_correct_179 rfl ?_
      refine lv_lload (pc := 180) hx hb dX2_correct_180 (lv_at hl 3 rfl) ?_
      refine lv_iload (pc := 182) hx hb dX2_correct_182 (lv_at hl 6 rfl) ?_
      refine lv_if_eq (pc := 184) (tgt := 195) hx hb dX2_correct_184 (by decide) (fun cd74 => absurd cd74 (by decide)) (fun cd74 => ?_)
      refine lv_aload_n (pc := 187) hx hb dX2_correct_187 rfl (lv_at hl 7 rfl) ?_
      refine va_get (pc := 188) (D := D) (ci := 2) (v := .int (u 2)) (C := RX2) (T := TX2) (N := 8) hx hb hts in_X2 hown hK.1 hP 0 rfl rfl 2 (by decide) (hts _ q61) (fun _ h9 => h9) rfl dX2_correct_188 ?_
      refine lv_i2l (pc := 191) hx hb dX2_correct_191 rfl ?_
      refine lv_goto (pc := 192) (tgt := 200) hx hb dX2_correct_192 (by decide) ?_
      refine kLp (pc := 200) (va_runSN (As := [.long z65, .long (Int32.toInt64 (u 2))]) (rest := [.long (Int32.toInt64 (u 2))]) ⟨hx, hb, hml, hown, hts⟩ (m_mul l z65 (Int32.toInt64 (u 2)) s.heap) ⟨va_cnB 2 hts (lw_meth q384) rfl rfl rfl (hK.2.1 _ nq382) (hts _ q21) (by decide +kernel) ⟨Nat.le_of_ble_eq_true rfl, Nat.le_of_ble_eq_true rfl⟩, hts _ q383, trivial⟩ (preS hK) rfl rfl hl.1 rfl (lv_room (Nat.le_of_ble_eq_true rfl)) dX2_correct_200 ⟨Nat.le_of_ble_eq_true rfl, Nat.le_of_ble_eq_true rfl⟩) (fun r75 hr75 => ?_)
      refine lv_lsub (pc := 203) hx hb dX2_correct_203 ?_
      have hm204 : pos ((Int32.toInt64 (u 2)) - r75) = c2 (e64 u) kd va.toInt64 := by rw [hr75, hkv]; unfold c2; rw [if_pos cd1]; rfl
      refine xIp (pc := 204) (vx_runS (As := [.long ((Int32.toInt64 (u 2)) - r75)]) (rest := []) ⟨hx, hb, hml, hown, hts⟩ (m_positive l za ((Int32.toInt64 (u 2)) - r75) s.heap) (va_cwS 1 hts (lw_S q336 q337 q23 q338) rfl rfl rfl (by decide +kernel) ⟨Nat.le_of_ble_eq_true rfl, Nat.le_of_ble_eq_true rfl⟩) (preSZ hK hZ) rfl rfl hl.1 rfl (lv_room (Nat.le_of_ble_eq_true rfl)) dX2_correct_204 ⟨Nat.le_of_ble_eq_true rfl, Nat.le_of_ble_eq_true rfl⟩) hS (fun q h => hA _ h) (fun ce q9 H1 locs1 hX hz1 hk1 hS1 hce hcv hcl => ?_) (fun r76 hr76 => ?_)
      · exact vx_out (fun x hx9 => (htab x hx9).elim) hlocks hce hcv hcl (fun t ht hvm => ⟨rfl, ⟨hrj, fun h => hX (by show lim (pos _); rw [hm204]; exact h.2.2.2.2.1)⟩, by rw [ht]; exact hz1, fun q h1 h2 => by rw [ht]; exact hk1 q h1⟩) hS1.2.2 (Nat.le_of_ble_eq_true rfl) (Nat.le_of_ble_eq_true rfl)
      have hv204 : r76 = (c2 (e64 u) kd va.toInt64).toInt32 := by rw [← hm204]; exact hr76.2
      have hi204 : lim (c2 (e64 u) kd va.toInt64) := by rw [← hm204]; exact hr76.1
      refine lv_istore (pc := 207) (lv' := [(15, .int r76), (14, .int r73), (13, .int r71), (11, .long z69), (9, .long z65), (7, .long z60), (5, .long z58), (4, .int 1), (0, .ref h0), (1, .ref h1), (2, .int rd), (3, .int gt)]) hx hb dX2_correct_207 hl (by decide) rfl (fun ls hl => ?_)
      refine lv_aload_n (pc := 209) hx hb dX2_correct_209 rfl (lv_at hl 8 rfl) ?_
      refine va_get (pc := 210) (D := D) (ci := 2) (v := .int (u 3)) (C := RX2) (T := TX2) (N := 8) hx hb hts in_X2 hown hK.1 hP 0 rfl rfl 3 (by decide) (hts _ q63) (fun _ h9 => h9) rfl dX2_correct_210 ?_
      refine lv_i2l (pc := 213) hx hb dX2_correct_213 rfl ?_
      refine lv_lload (pc := 214) hx hb dX2_correct_214 (lv_at hl 4 rfl) ?_
      refine lv_iload (pc := 216) hx hb dX2_correct_216 (lv_at hl 7 rfl) ?_
      refine lv_if_eq (pc := 218) (tgt := 229) hx hb dX2_correct_218 (by decide) (fun cd77 => absurd cd77 (by decide)) (fun cd77 => ?_)
      refine lv_aload_n (pc := 221) hx hb dX2_correct_221 rfl (lv_at hl 8 rfl) ?_
      refine va_get (pc := 222) (D := D) (ci := 2) (v := .int (u 3)) (C := RX2) (T := TX2) (N := 8) hx hb hts in_X2 hown hK.1 hP 0 rfl rfl 3 (by decide) (hts _ q63) (fun _ h9 => h9) rfl dX2_correct_222 ?_
      refine lv_i2l (pc := 225) hx hb dX2_correct_225 rfl ?_
      refine lv_goto (pc := 226) (tgt := 234) hx hb dX2_correct_226 (by decide) ?_
      refine kLp (pc := 234) (va_runSN (As := [.long z65, .long (Int32.toInt64 (u 3))]) (rest := [.long (Int32.toInt64 (u 3))]) ⟨hx, hb, hml, hown, hts⟩ (m_mul l z65 (Int32.toInt64 (u 3)) s.heap) ⟨va_cnB 2 hts (lw_meth q384) rfl rfl rfl (hK.2.1 _ nq382) (hts _ q21) (by decide +kernel) ⟨Nat.le_of_ble_eq_true rfl, Nat.le_of_ble_eq_true rfl⟩, hts _ q383, trivial⟩ (preS hK) rfl rfl hl.1 rfl (lv_room (Nat.le_of_ble_eq_true rfl)) dX2_correct_234 ⟨Nat.le_of_ble_eq_true rfl, Nat.le_of_ble_eq_true rfl⟩) (fun r78 hr78 => ?_)
      refine lv_lsub (pc := 237) hx hb dX2_correct_237 ?_
      have hm238 : (Int32.toInt64 (u 3)) - r78 = c3 (e64 u) kd va.toInt64 := by rw [hr78, hkv]; unfold c3; rw [if_pos cd1]; rfl
      refine xIp (pc := 238) (vx_runSN (As := [.long ((Int32.toInt64 (u 3)) - r78)]) (rest := []) ⟨hx, hb, hml, hown, hts⟩ (m_limited l za ((Int32.toInt64 (u 3)) - r78) s.heap) ⟨va_cnB 1 hts (lw_meth q274) rfl rfl rfl (hK.2.1 _ nq272) (hts _ q21) (by decide +kernel) ⟨Nat.le_of_ble_eq_true rfl, Nat.le_of_ble_eq_true rfl⟩, hts _ q273, trivial⟩ (preSZ hK hZ) rfl rfl hl.1 rfl (lv_room (Nat.le_of_ble_eq_true rfl)) dX2_correct_238 ⟨Nat.le_of_ble_eq_true rfl, Nat.le_of_ble_eq_true rfl⟩) hS (fun q h => hA _ h) (fun ce q9 H1 locs1 hX hz1 hk1 hS1 hce hcv hcl => ?_) (fun r79 hr79 => ?_)
      · exact vx_out (fun x hx9 => (htab x hx9).elim) hlocks hce hcv hcl (fun t ht hvm => ⟨rfl, ⟨hrj, fun h => hX (by rw [hm238]; exact h.2.2.2.2.2.1)⟩, by rw [ht]; exact hz1, fun q h1 h2 => by rw [ht]; exact hk1 q h1⟩) hS1.2.2 (Nat.le_of_ble_eq_true rfl) (Nat.le_of_ble_eq_true rfl)
      have hv238 : r79 = (c3 (e64 u) kd va.toInt64).toInt32 := by rw [← hm238]; exact hr79.2
      have hi238 : lim (c3 (e64 u) kd va.toInt64) := by rw [← hm238]; exact hr79.1
      refine lv_istore (pc := 241) (lv' := [(16, .int r79), (15, .int r76), (14, .int r73), (13, .int r71), (11, .long z69), (9, .long z65), (7, .long z60), (5, .long z58), (4, .int 1), (0, .ref h0), (1, .ref h1), (2, .int rd), (3, .int gt)]) hx hb dX2_correct_241 hl (by decide) rfl (fun ls hl => ?_)
      refine lv_aload_n (pc := 243) hx hb dX2_correct_243 rfl (lv_at hl 9 rfl) ?_
      refine va_get (pc := 244) (D := D) (ci := 2) (v := .int (u 4)) (C := RX2) (T := TX2) (N := 8) hx hb hts in_X2 hown hK.1 hP 0 rfl rfl 4 (by decide) (hts _ q65) (fun _ h9 => h9) rfl dX2_correct_244 ?_
      refine lv_i2l (pc := 247) hx hb dX2_correct_247 rfl ?_
      refine lv_lload (pc := 248) hx hb dX2_correct_248 (lv_at hl 4 rfl) ?_
      refine lv_iload (pc := 250) hx hb dX2_correct_250 (lv_at hl 8 rfl) ?_
      refine lv_if_eq (pc := 252) (tgt := 263) hx hb dX2_correct_252 (by decide) (fun cd80 => absurd cd80 (by decide)) (fun cd80 => ?_)
      refine lv_aload_n (pc := 255) hx hb dX2_correct_255 rfl (lv_at hl 9 rfl) ?_
      refine va_get (pc := 256) (D := D) (ci := 2) (v := .int (u 3)) (C := RX2) (T := TX2) (N := 8) hx hb hts in_X2 hown hK.1 hP 0 rfl rfl 3 (by decide) (hts _ q63) (fun _ h9 => h9) rfl dX2_correct_256 ?_
      refine lv_i2l (pc := 259) hx hb dX2_correct_259 rfl ?_
      refine lv_goto (pc := 260) (tgt := 268) hx hb dX2_correct_260 (by decide) ?_
      refine kLp (pc := 268) (va_runSN (As := [.long z69, .long (Int32.toInt64 (u 3))]) (rest := [.long (Int32.toInt64 (u 4))]) ⟨hx, hb, hml, hown, hts⟩ (m_mul l z69 (Int32.toInt64 (u 3)) s.heap) ⟨va_cnB 2 hts (lw_meth q384) rfl rfl rfl (hK.2.1 _ nq382) (hts _ q21) (by decide +kernel) ⟨Nat.le_of_ble_eq_true rfl, Nat.le_of_ble_eq_true rfl⟩, hts _ q383, trivial⟩ (preS hK) rfl rfl hl.1 rfl (lv_room (Nat.le_of_ble_eq_true rfl)) dX2_correct_268 ⟨Nat.le_of_ble_eq_true rfl, Nat.le_of_ble_eq_true rfl⟩) (fun r81 hr81 => ?_)
      refine lv_lsub (pc := 271) hx hb dX2_correct_271 ?_
      have hm272 : pos ((Int32.toInt64 (u 4)) - r81) = c4 (e64 u) kd va.toInt64 := by rw [hr81, hlv]; unfold c4; rw [if_pos cd1]; rfl
      refine xIp (pc := 272) (vx_runS (As := [.long ((Int32.toInt64 (u 4)) - r81)]) (rest := []) ⟨hx, hb, hml, hown, hts⟩ (m_positive l za ((Int32.toInt64 (u 4)) - r81) s.heap) (va_cwS 1 hts (lw_S q336 q337 q23 q338) rfl rfl rfl (by decide +kernel) ⟨Nat.le_of_ble_eq_true rfl, Nat.le_of_ble_eq_true rfl⟩) (preSZ hK hZ) rfl rfl hl.1 rfl (lv_room (Nat.le_of_ble_eq_true rfl)) dX2_correct_272 ⟨Nat.le_of_ble_eq_true rfl, Nat.le_of_ble_eq_true rfl⟩) hS (fun q h => hA _ h) (fun ce q9 H1 locs1 hX hz1 hk1 hS1 hce hcv hcl => ?_) (fun r82 hr82 => ?_)
      · exact vx_out (fun x hx9 => (htab x hx9).elim) hlocks hce hcv hcl (fun t ht hvm => ⟨rfl, ⟨hrj, fun h => hX (by show lim (pos _); rw [hm272]; exact h.2.2.2.2.2.2)⟩, by rw [ht]; exact hz1, fun q h1 h2 => by rw [ht]; exact hk1 q h1⟩) hS1.2.2 (Nat.le_of_ble_eq_true rfl) (Nat.le_of_ble_eq_true rfl)
      have hv272 : r82 = (c4 (e64 u) kd va.toInt64).toInt32 := by rw [← hm272]; exact hr82.2
      have hi272 : lim (c4 (e64 u) kd va.toInt64) := by rw [← hm272]; exact hr82.1
      refine lv_istore (pc := 275) (lv' := [(17, .int r82), (16, .int r79), (15, .int r76), (14, .int r73), (13, .int r71), (11, .long z69), (9, .long z65), (7, .long z60), (5, .long z58), (4, .int 1), (0, .ref h0), (1, .ref h1), (2, .int rd), (3, .int gt)]) hx hb dX2_correct_275 hl (by decide) rfl (fun ls hl => ?_)
      refine lv_aload_n (pc := 277) hx hb dX2_correct_277 rfl (lv_at hl 10 rfl) ?_
      refine lv_iload (pc := 278) hx hb dX2_correct_278 (lv_at hl 4 rfl) ?_
      refine va_put (pc := 280) (D := D) (ci := 2) (v := .int r71) (ty := .int) (C := RX2) (T := TX2) (N := 8) hx hb hts in_X2 tyX2 tyX2_ok nmX2 hown hK.1 hP hD hS 0 rfl rfl 0 (by decide) (hts _ q56) (fun _ h9 => h9) rfl (by decide +kernel) rfl rfl (Nat.le_of_ble_eq_true rfl) dX2_correct_280 (fun H locs hP hD hS => ?_)
      have hP : va_P D vwCl [(h0, .inr (2, [.int r71, .int (u 1), .int (u 2), .int (u 3), .int (u 4), .int (u 5), .int (u 6), .int (u 7)]))] H := hP
      have hD : va_D (Aw [h0] s.heap.size) [(h0, .inr (2, [.int r71, .int (u 1), .int (u 2), .int (u 3), .int (u 4), .int (u 5), .int (u 6), .int (u 7)]))] := hD
      refine lv_aload_n (pc := 283) hx hb dX2_correct_283 rfl (lv_at hl 10 rfl) ?_
      refine lv_iload (pc := 284) hx hb dX2_correct_284 (lv_at hl 3 rfl) ?_
      refine va_put (pc := 286) (D := D) (ci := 2) (v := .int r73) (ty := .int) (C := RX2) (T := TX2) (N := 8) hx hb hts in_X2 tyX2 tyX2_ok nmX2 hown hK.1 hP hD hS 0 rfl rfl 1 (by decide) (hts _ q59) (fun _ h9 => h9) rfl (by decide +kernel) rfl rfl (Nat.le_of_ble_eq_true rfl) dX2_correct_286 (fun H locs hP hD hS => ?_)
      have hP : va_P D vwCl [(h0, .inr (2, [.int r71, .int r73, .int (u 2), .int (u 3), .int (u 4), .int (u 5), .int (u 6), .int (u 7)]))] H := hP
      have hD : va_D (Aw [h0] s.heap.size) [(h0, .inr (2, [.int r71, .int r73, .int (u 2), .int (u 3), .int (u 4), .int (u 5), .int (u 6), .int (u 7)]))] := hD
      refine lv_aload_n (pc := 289) hx hb dX2_correct_289 rfl (lv_at hl 10 rfl) ?_
      refine lv_iload (pc := 290) hx hb dX2_correct_290 (lv_at hl 2 rfl) ?_
      refine va_put (pc := 292) (D := D) (ci := 2) (v := .int r76) (ty := .int) (C := RX2) (T := TX2) (N := 8) hx hb hts in_X2 tyX2 tyX2_ok nmX2 hown hK.1 hP hD hS 0 rfl rfl 2 (by decide) (hts _ q61) (fun _ h9 => h9) rfl (by decide +kernel) rfl rfl (Nat.le_of_ble_eq_true rfl) dX2_correct_292 (fun H locs hP hD hS => ?_)
      have hP : va_P D vwCl [(h0, .inr (2, [.int r71, .int r73, .int r76, .int (u 3), .int (u 4), .int (u 5), .int (u 6), .int (u 7)]))] H := hP
      have hD : va_D (Aw [h0] s.heap.size) [(h0, .inr (2, [.int r71, .int r73, .int r76, .int (u 3), .int (u 4), .int (u 5), .int (u 6), .int (u 7)]))] := hD
      refine lv_aload_n (pc := 295) hx hb dX2_correct_295 rfl (lv_at hl 10 rfl) ?_
      refine lv_iload (pc := 296) hx hb dX2_correct_296 (lv_at hl 1 rfl) ?_
      refine va_put (pc := 298) (D := D) (ci := 2) (v := .int r79) (ty := .int) (C := RX2) (T := TX2) (N := 8) hx hb hts in_X2 tyX2 tyX2_ok nmX2 hown hK.1 hP hD hS 0 rfl rfl 3 (by decide) (hts _ q63) (fun _ h9 => h9) rfl (by decide +kernel) rfl rfl (Nat.le_of_ble_eq_true rfl) dX2_correct_298 (fun H locs hP hD hS => ?_)
      have hP : va_P D vwCl [(h0, .inr (2, [.int r71, .int r73, .int r76, .int r79, .int (u 4), .int (u 5), .int (u 6), .int (u 7)]))] H := hP
      have hD : va_D (Aw [h0] s.heap.size) [(h0, .inr (2, [.int r71, .int r73, .int r76, .int r79, .int (u 4), .int (u 5), .int (u 6), .int (u 7)]))] := hD
      refine lv_aload_n (pc := 301) hx hb dX2_correct_301 rfl (lv_at hl 10 rfl) ?_
      refine lv_iload (pc := 302) hx hb dX2_correct_302 (lv_at hl 0 rfl) ?_
      refine va_put (pc := 304) (D := D) (ci := 2) (v := .int r82) (ty := .int) (C := RX2) (T := TX2) (N := 8) hx hb hts in_X2 tyX2 tyX2_ok nmX2 hown hK.1 hP hD hS 0 rfl rfl 4 (by decide) (hts _ q65) (fun _ h9 => h9) rfl (by decide +kernel) rfl rfl (Nat.le_of_ble_eq_true rfl) dX2_correct_304 (fun H locs hP hD hS => ?_)
      have hP : va_P D vwCl [(h0, .inr (2, [.int r71, .int r73, .int r76, .int r79, .int r82, .int (u 5), .int (u 6), .int (u 7)]))] H := hP
      have hD : va_D (Aw [h0] s.heap.size) [(h0, .inr (2, [.int r71, .int r73, .int r76, .int r79, .int r82, .int (u 5), .int (u 6), .int (u 7)]))] := hD
      refine lv_aload_n (pc := 307) hx hb dX2_correct_307 rfl (lv_at hl 10 rfl) ?_
      refine lv_lload (pc := 308) hx hb dX2_correct_308 (lv_at hl 7 rfl) ?_
      refine lv_l2i (pc := 310) hx hb dX2_correct_310 rfl ?_
      refine lv_topi (fun z83 ez83 => ?_)
      refine va_put (pc := 311) (D := D) (ci := 2) (v := .int z83) (ty := .int) (C := RX2) (T := TX2) (N := 8) hx hb hts in_X2 tyX2 tyX2_ok nmX2 hown hK.1 hP hD hS 0 rfl rfl 5 (by decide) (hts _ q67) (fun _ h9 => h9) rfl (by decide +kernel) rfl rfl (Nat.le_of_ble_eq_true rfl) dX2_correct_311 (fun H locs hP hD hS => ?_)
      have hP : va_P D vwCl [(h0, .inr (2, [.int r71, .int r73, .int r76, .int r79, .int r82, .int z83, .int (u 6), .int (u 7)]))] H := hP
      have hD : va_D (Aw [h0] s.heap.size) [(h0, .inr (2, [.int r71, .int r73, .int r76, .int r79, .int r82, .int z83, .int (u 6), .int (u 7)]))] := hD
      refine lv_aload_n (pc := 314) hx hb dX2_correct_314 rfl (lv_at hl 10 rfl) ?_
      refine lv_lload (pc := 315) hx hb dX2_correct_315 (lv_at hl 6 rfl) ?_
      refine lv_l2i (pc := 317) hx hb dX2_correct_317 rfl ?_
      refine lv_topi (fun z84 ez84 => ?_)
      refine va_put (pc := 318) (D := D) (ci := 2) (v := .int z84) (ty := .int) (C := RX2) (T := TX2) (N := 8) hx hb hts in_X2 tyX2 tyX2_ok nmX2 hown hK.1 hP hD hS 0 rfl rfl 6 (by decide) (hts _ q70) (fun _ h9 => h9) rfl (by decide +kernel) rfl rfl (Nat.le_of_ble_eq_true rfl) dX2_correct_318 (fun H locs hP hD hS => ?_)
      have hP : va_P D vwCl [(h0, .inr (2, [.int r71, .int r73, .int r76, .int r79, .int r82, .int z83, .int z84, .int (u 7)]))] H := hP
      have hD : va_D (Aw [h0] s.heap.size) [(h0, .inr (2, [.int r71, .int r73, .int r76, .int r79, .int r82, .int z83, .int z84, .int (u 7)]))] := hD
      refine lv_aload_n (pc := 321) hx hb dX2_correct_321 rfl (lv_at hl 10 rfl) ?_
      refine lv_lload (pc := 322) hx hb dX2_correct_322 (lv_at hl 5 rfl) ?_
      refine lv_l2i (pc := 324) hx hb dX2_correct_324 rfl ?_
      refine lv_topi (fun z85 ez85 => ?_)
      refine va_put (pc := 325) (D := D) (ci := 2) (v := .int z85) (ty := .int) (C := RX2) (T := TX2) (N := 8) hx hb hts in_X2 tyX2 tyX2_ok nmX2 hown hK.1 hP hD hS 0 rfl rfl 7 (by decide) (hts _ q73) (fun _ h9 => h9) rfl (by decide +kernel) rfl rfl (Nat.le_of_ble_eq_true rfl) dX2_correct_325 (fun H locs hP hD hS => ?_)
      have hP : va_P D vwCl [(h0, .inr (2, [.int r71, .int r73, .int r76, .int r79, .int r82, .int z83, .int z84, .int z85]))] H := hP
      have hD : va_D (Aw [h0] s.heap.size) [(h0, .inr (2, [.int r71, .int r73, .int r76, .int r79, .int r82, .int z83, .int z84, .int z85]))] := hD
      refine lv_iconst (pc := 328) (v := 1) hx hb dX2_correct_328 (by decide) ?_
      refine vx_ret ?_
      refine W.widen (k := 1) (n := 6) (by omega) (by omega) ?_
      have hq9 : (fun r H1 => (cRej (e64 u) kd va.toInt64 rd.toInt64 gt ∧ r = 0 ∧ va_P D vwCl [(h0, .inr (2, [.int (cF u kd rd 0), .int (cF u kd rd 1), .int (cF u kd rd 2), .int (cF u kd rd 3), .int (cF u kd rd 4), .int (cF u kd rd 5), .int (cF u kd rd 6), .int (cF u kd rd 7)]))] H1) ∨ (¬ cRej (e64 u) kd va.toInt64 rd.toInt64 gt ∧ cOK (e64 u) kd va.toInt64 rd.toInt64 ∧ r = 1 ∧ va_P D vwCl [(h0, .inr (2, [.int (cE u kd va rd 0), .int (cE u kd va rd 1), .int (cE u kd va rd 2), .int (cE u kd va rd 3), .int (cE u kd va rd 4), .int (cE u kd va rd 5), .int (cE u kd va rd 6), .int (cE u kd va rd 7)]))] H1) : Int32 → Heap → Prop) 1 H := Or.inr ⟨hrj, ⟨hi104, hi133, hi152, hi170, hi204, hi238, hi272⟩, rfl, by rw [hv152, hv170, hv204, hv238, hv272, ez83, ez84, ez85, hyv, hkv, hlv] at hP; exact hP⟩
      exact W.zret (v := 1) hx hb hr rfl (fun t ht hW => ⟨⟨_, rfl, by rw [ht]; exact hq9⟩, hS.F ht⟩) hS.2.2 dX2_correct_329
    · refine lv_lload (pc := 54) hx hb dX2_correct_54 (lv_at hl 0 rfl) ?_
      refine lv_lload (pc := 56) hx hb dX2_correct_56 (lv_at hl 0 rfl) ?_
      refine lv_lmul (pc := 58) hx hb dX2_correct_58 ?_
      refine lv_iload_n (pc := 59) hx hb dX2_correct_59 rfl (lv_at hl 6 rfl) ?_
      refine lv_i2l (pc := 60) hx hb dX2_correct_60 rfl ?_
      refine lv_lload (pc := 61) hx hb dX2_correct_61 (lv_at hl 1 rfl) ?_
      refine lv_lmul (pc := 63) hx hb dX2_correct_63 ?_
      refine lv_ldc2 (pc := 64) (v := 4096) hx hb hown (hts _ q373) dX2_correct_64 ?_
      refine lv_lmul (pc := 67) hx hb dX2_correct_67 ?_
      refine lq_le (pc := 68) (tgt := 81) hx hb dX2_correct_68 dX2_correct_69 (by decide) (fun cd86 => ?_) (fun cd86 => ?_)
      · have hrj : ¬ cRej (e64 u) kd va.toInt64 rd.toInt64 gt := fun h => h.2 (by rw [← hyv, ← hsv]; exact cd86)
        refine lv_iload (pc := 81) hx hb dX2_correct_81 (lv_at hl 2 rfl) ?_
        refine lv_if_eq (pc := 83) (tgt := 94) hx hb dX2_correct_83 (by decide) (fun cd87 => absurd cd87 (by decide)) (fun cd87 => ?_)
        refine lv_aload_n (pc := 86) hx hb dX2_correct_86 rfl (lv_at hl 3 rfl) ?_
        refine va_get (pc := 87) (D := D) (ci := 2) (v := .int (u 2)) (C := RX2) (T := TX2) (N := 8) hx hb hts in_X2 hown hK.1 hP 0 rfl rfl 2 (by decide) (hts _ q61) (fun _ h9 => h9) rfl dX2_correct_87 ?_
        refine lv_i2l (pc := 90) hx hb dX2_correct_90 rfl ?_
        refine lv_goto (pc := 91) (tgt := 99) hx hb dX2_correct_91 (by decide) ?_
        refine lv_lload (pc := 99) hx hb dX2_correct_99 (lv_at hl 1 rfl) ?_
        refine kLp (pc := 101) (va_runSN (As := [.long (Int32.toInt64 (u 2)), .long z58]) (rest := []) ⟨hx, hb, hml, hown, hts⟩ (m_div l (Int32.toInt64 (u 2)) z58 s.heap (by rw [hsv]; exact hs0)) ⟨va_cnB 2 hts (lw_meth q376) rfl rfl rfl (hK.2.1 _ nq374) (hts _ q21) (by decide +kernel) ⟨Nat.le_of_ble_eq_true rfl, Nat.le_of_ble_eq_true rfl⟩, hts _ q375, trivial⟩ (preS hK) rfl rfl hl.1 rfl (lv_room (Nat.le_of_ble_eq_true rfl)) dX2_correct_101 ⟨Nat.le_of_ble_eq_true rfl, Nat.le_of_ble_eq_true rfl⟩) (fun r88 hr88 => ?_)
        have hm104 : r88 = cK (e64 u) kd va.toInt64 := by rw [hr88, hsv]; unfold cK; rw [if_pos cd1]; rfl
        refine xIp (pc := 104) (vx_runSN (As := [.long r88]) (rest := []) ⟨hx, hb, hml, hown, hts⟩ (m_limited l za r88 s.heap) ⟨va_cnB 1 hts (lw_meth q274) rfl rfl rfl (hK.2.1 _ nq272) (hts _ q21) (by decide +kernel) ⟨Nat.le_of_ble_eq_true rfl, Nat.le_of_ble_eq_true rfl⟩, hts _ q273, trivial⟩ (preSZ hK hZ) rfl rfl hl.1 rfl (lv_room (Nat.le_of_ble_eq_true rfl)) dX2_correct_104 ⟨Nat.le_of_ble_eq_true rfl, Nat.le_of_ble_eq_true rfl⟩) hS (fun q h => hA _ h) (fun ce q9 H1 locs1 hX hz1 hk1 hS1 hce hcv hcl => ?_) (fun r89 hr89 => ?_)
        · exact vx_out (fun x hx9 => (htab x hx9).elim) hlocks hce hcv hcl (fun t ht hvm => ⟨rfl, ⟨hrj, fun h => hX (by rw [hm104]; exact h.1)⟩, by rw [ht]; exact hz1, fun q h1 h2 => by rw [ht]; exact hk1 q h1⟩) hS1.2.2 (Nat.le_of_ble_eq_true rfl) (Nat.le_of_ble_eq_true rfl)
        have hv104 : r89 = (cK (e64 u) kd va.toInt64).toInt32 := by rw [← hm104]; exact hr89.2
        have hi104 : lim (cK (e64 u) kd va.toInt64) := by rw [← hm104]; exact hr89.1
        refine lv_i2l (pc := 107) hx hb dX2_correct_107 rfl ?_
        refine lv_topl (fun z90 ez90 => ?_)
        refine lv_lstore (pc := 108) (lv' := [(9, .long z90), (7, .long z60), (5, .long z58), (4, .int 1), (0, .ref h0), (1, .ref h1), (2, .int rd), (3, .int gt)]) hx hb dX2_correct_108 hl (by decide) rfl (fun ls hl => ?_)
        have hkv : z90 = cK (e64 u) kd va.toInt64 := by rw [ez90, hv104]; exact lim_back hi104
        refine lv_iload (pc := 110) hx hb dX2_correct_110 (lv_at hl 3 rfl) ?_
        refine lv_if_eq (pc := 112) (tgt := 123) hx hb dX2_correct_112 (by decide) (fun cd91 => absurd cd91 (by decide)) (fun cd91 => ?_)
        refine lv_aload_n (pc := 115) hx hb dX2_correct_115 rfl (lv_at hl 4 rfl) ?_
        refine va_get (pc := 116) (D := D) (ci := 2) (v := .int (u 3)) (C := RX2) (T := TX2) (N := 8) hx hb hts in_X2 hown hK.1 hP 0 rfl rfl 3 (by decide) (hts _ q63) (fun _ h9 => h9) rfl dX2_correct_116 ?_
        refine lv_i2l (pc := 119) hx hb dX2_correct_119 rfl ?_
        refine lv_goto (pc := 120) (tgt := 128) hx hb dX2_correct_120 (by decide) ?_
        refine lv_lload (pc := 128) hx hb dX2_correct_128 (lv_at hl 2 rfl) ?_
        refine kLp (pc := 130) (va_runSN (As := [.long (Int32.toInt64 (u 3)), .long z58]) (rest := []) ⟨hx, hb, hml, hown, hts⟩ (m_div l (Int32.toInt64 (u 3)) z58 s.heap (by rw [hsv]; exact hs0)) ⟨va_cnB 2 hts (lw_meth q376) rfl rfl rfl (hK.2.1 _ nq374) (hts _ q21) (by decide +kernel) ⟨Nat.le_of_ble_eq_true rfl, Nat.le_of_ble_eq_true rfl⟩, hts _ q375, trivial⟩ (preS hK) rfl rfl hl.1 rfl (lv_room (Nat.le_of_ble_eq_true rfl)) dX2_correct_130 ⟨Nat.le_of_ble_eq_true rfl, Nat.le_of_ble_eq_true rfl⟩) (fun r92 hr92 => ?_)
        have hm133 : r92 = cL (e64 u) kd va.toInt64 := by rw [hr92, hsv]; unfold cL; rw [if_pos cd1]; rfl
        refine xIp (pc := 133) (vx_runSN (As := [.long r92]) (rest := []) ⟨hx, hb, hml, hown, hts⟩ (m_limited l za r92 s.heap) ⟨va_cnB 1 hts (lw_meth q274) rfl rfl rfl (hK.2.1 _ nq272) (hts _ q21) (by decide +kernel) ⟨Nat.le_of_ble_eq_true rfl, Nat.le_of_ble_eq_true rfl⟩, hts _ q273, trivial⟩ (preSZ hK hZ) rfl rfl hl.1 rfl (lv_room (Nat.le_of_ble_eq_true rfl)) dX2_correct_133 ⟨Nat.le_of_ble_eq_true rfl, Nat.le_of_ble_eq_true rfl⟩) hS (fun q h => hA _ h) (fun ce q9 H1 locs1 hX hz1 hk1 hS1 hce hcv hcl => ?_) (fun r93 hr93 => ?_)
        · exact vx_out (fun x hx9 => (htab x hx9).elim) hlocks hce hcv hcl (fun t ht hvm => ⟨rfl, ⟨hrj, fun h => hX (by rw [hm133]; exact h.2.1)⟩, by rw [ht]; exact hz1, fun q h1 h2 => by rw [ht]; exact hk1 q h1⟩) hS1.2.2 (Nat.le_of_ble_eq_true rfl) (Nat.le_of_ble_eq_true rfl)
        have hv133 : r93 = (cL (e64 u) kd va.toInt64).toInt32 := by rw [← hm133]; exact hr93.2
        have hi133 : lim (cL (e64 u) kd va.toInt64) := by rw [← hm133]; exact hr93.1
        refine lv_i2l (pc := 136) hx hb dX2_correct_136 rfl ?_
        refine lv_topl (fun z94 ez94 => ?_)
        refine lv_lstore (pc := 137) (lv' := [(11, .long z94), (9, .long z90), (7, .long z60), (5, .long z58), (4, .int 1), (0, .ref h0), (1, .ref h1), (2, .int rd), (3, .int gt)]) hx hb dX2_correct_137 hl (by decide) rfl (fun ls hl => ?_)
        have hlv : z94 = cL (e64 u) kd va.toInt64 := by rw [ez94, hv133]; exact lim_back hi133
        refine lv_aload_n (pc := 139) hx hb dX2_correct_139 rfl (lv_at hl 5 rfl) ?_
        refine va_get (pc := 140) (D := D) (ci := 2) (v := .int (u 0)) (C := RX2) (T := TX2) (N := 8) hx hb hts in_X2 hown hK.1 hP 0 rfl rfl 0 (by decide) (hts _ q56) (fun _ h9 => h9) rfl dX2_correct_140 ?_
        refine lv_i2l (pc := 143) hx hb dX2_correct_143 rfl ?_
        refine lv_lload (pc := 144) hx hb dX2_correct_144 (lv_at hl 1 rfl) ?_
        refine lv_lload (pc := 146) hx hb dX2_correct_146 (lv_at hl 2 rfl) ?_
        refine kLp (pc := 148) (va_runSN (As := [.long z90, .long z60]) (rest := [.long (Int32.toInt64 (u 0))]) ⟨hx, hb, hml, hown, hts⟩ (m_mul l z90 z60 s.heap) ⟨va_cnB 2 hts (lw_meth q384) rfl rfl rfl (hK.2.1 _ nq382) (hts _ q21) (by decide +kernel) ⟨Nat.le_of_ble_eq_true rfl, Nat.le_of_ble_eq_true rfl⟩, hts _ q383, trivial⟩ (preS hK) rfl rfl hl.1 rfl (lv_room (Nat.le_of_ble_eq_true rfl)) dX2_correct_148 ⟨Nat.le_of_ble_eq_true rfl, Nat.le_of_ble_eq_true rfl⟩) (fun r95 hr95 => ?_)
        refine lv_ladd (pc := 151) hx hb dX2_correct_151 ?_
        have hm152 : (Int32.toInt64 (u 0)) + r95 = c0 (e64 u) kd va.toInt64 rd.toInt64 := by rw [hr95, hyv, hkv]; rfl
        refine xIp (pc := 152) (vx_runSN (As := [.long ((Int32.toInt64 (u 0)) + r95)]) (rest := []) ⟨hx, hb, hml, hown, hts⟩ (m_limited l za ((Int32.toInt64 (u 0)) + r95) s.heap) ⟨va_cnB 1 hts (lw_meth q274) rfl rfl rfl (hK.2.1 _ nq272) (hts _ q21) (by decide +kernel) ⟨Nat.le_of_ble_eq_true rfl, Nat.le_of_ble_eq_true rfl⟩, hts _ q273, trivial⟩ (preSZ hK hZ) rfl rfl hl.1 rfl (lv_room (Nat.le_of_ble_eq_true rfl)) dX2_correct_152 ⟨Nat.le_of_ble_eq_true rfl, Nat.le_of_ble_eq_true rfl⟩) hS (fun q h => hA _ h) (fun ce q9 H1 locs1 hX hz1 hk1 hS1 hce hcv hcl => ?_) (fun r96 hr96 => ?_)
        · exact vx_out (fun x hx9 => (htab x hx9).elim) hlocks hce hcv hcl (fun t ht hvm => ⟨rfl, ⟨hrj, fun h => hX (by rw [hm152]; exact h.2.2.1)⟩, by rw [ht]; exact hz1, fun q h1 h2 => by rw [ht]; exact hk1 q h1⟩) hS1.2.2 (Nat.le_of_ble_eq_true rfl) (Nat.le_of_ble_eq_true rfl)
        have hv152 : r96 = (c0 (e64 u) kd va.toInt64 rd.toInt64).toInt32 := by rw [← hm152]; exact hr96.2
        have hi152 : lim (c0 (e64 u) kd va.toInt64 rd.toInt64) := by rw [← hm152]; exact hr96.1
        refine lv_istore (pc := 155) (lv' := [(13, .int r96), (11, .long z94), (9, .long z90), (7, .long z60), (5, .long z58), (4, .int 1), (0, .ref h0), (1, .ref h1), (2, .int rd), (3, .int gt)]) hx hb dX2_correct_155 hl (by decide) rfl (fun ls hl => ?_)
        refine lv_aload_n (pc := 157) hx hb dX2_correct_157 rfl (lv_at hl 6 rfl) ?_
        refine va_get (pc := 158) (D := D) (ci := 2) (v := .int (u 1)) (C := RX2) (T := TX2) (N := 8) hx hb hts in_X2 hown hK.1 hP 0 rfl rfl 1 (by decide) (hts _ q59) (fun _ h9 => h9) rfl dX2_correct_158 ?_
        refine lv_i2l (pc := 161) hx hb dX2_correct_161 rfl ?_
        refine lv_lload (pc := 162) hx hb dX2_correct_162 (lv_at hl 1 rfl) ?_
        refine lv_lload (pc := 164) hx hb dX2_correct_164 (lv_at hl 3 rfl) ?_
        refine kLp (pc := 166) (va_runSN (As := [.long z94, .long z60]) (rest := [.long (Int32.toInt64 (u 1))]) ⟨hx, hb, hml, hown, hts⟩ (m_mul l z94 z60 s.heap) ⟨va_cnB 2 hts (lw_meth q384) rfl rfl rfl (hK.2.1 _ nq382) (hts _ q21) (by decide +kernel) ⟨Nat.le_of_ble_eq_true rfl, Nat.le_of_ble_eq_true rfl⟩, hts _ q383, trivial⟩ (preS hK) rfl rfl hl.1 rfl (lv_room (Nat.le_of_ble_eq_true rfl)) dX2_correct_166 ⟨Nat.le_of_ble_eq_true rfl, Nat.le_of_ble_eq_true rfl⟩) (fun r97 hr97 => ?_)
        refine lv_ladd (pc := 169) hx hb dX2_correct_169 ?_
        have hm170 : (Int32.toInt64 (u 1)) + r97 = c1 (e64 u) kd va.toInt64 rd.toInt64 := by rw [hr97, hyv, hlv]; rfl
        refine xIp (pc := 170) (vx_runSN (As := [.long ((Int32.toInt64 (u 1)) + r97)]) (rest := []) ⟨hx, hb, hml, hown, hts⟩ (m_limited l za ((Int32.toInt64 (u 1)) + r97) s.heap) ⟨va_cnB 1 hts (lw_meth q274) rfl rfl rfl (hK.2.1 _ nq272) (hts _ q21) (by decide +kernel) ⟨Nat.le_of_ble_eq_true rfl, Nat.le_of_ble_eq_true rfl⟩, hts _ q273, trivial⟩ (preSZ hK hZ) rfl rfl hl.1 rfl (lv_room (Nat.le_of_ble_eq_true rfl)) dX2_correct_170 ⟨Nat.le_of_ble_eq_true rfl, Nat.le_of_ble_eq_true rfl⟩) hS (fun q h => hA _ h) (fun ce q9 H1 locs1 hX hz1 hk1 hS1 hce hcv hcl => ?_) (fun r98 hr98 => ?_)
        · exact vx_out (fun x hx9 => (htab x hx9).elim) hlocks hce hcv hcl (fun t ht hvm => ⟨rfl, ⟨hrj, fun h => hX (by rw [hm170]; exact h.2.2.2.1)⟩, by rw [ht]; exact hz1, fun q h1 h2 => by rw [ht]; exact hk1 q h1⟩) hS1.2.2 (Nat.le_of_ble_eq_true rfl) (Nat.le_of_ble_eq_true rfl)
        have hv170 : r98 = (c1 (e64 u) kd va.toInt64 rd.toInt64).toInt32 := by rw [← hm170]; exact hr98.2
        have hi170 : lim (c1 (e64 u) kd va.toInt64 rd.toInt64) := by rw [← hm170]; exact hr98.1
        refine lv_istore (pc := 173) (lv' := [(14, .int r98), (13, .int r96), (11, .long z94), (9, .long z90), (7, .long z60), (5, .long z58), (4, .int 1), (0, .ref h0), (1, .ref h1), (2, .int rd), (3, .int gt)]) hx hb dX2_correct_173 hl (by decide) rfl (fun ls hl => ?_)
        refine lv_aload_n (pc := 175) hx hb dX2_correct_175 rfl (lv_at hl 7 rfl) ?_
        refine va_get (pc := 176) (D := D) (ci := 2) (v := .int (u 2)) (C := RX2) (T := TX2) (N := 8) hx hb hts in_X2 hown hK.1 hP 0 rfl rfl 2 (by decide) (hts _ q61) (fun _ h9 => h9) rfl dX2_correct_176 ?_
        refine lv_i2l (pc := 179) hx hb dX2_correct_179 rfl ?_
        refine lv_lload (pc := 180) hx hb dX2_correct_180 (lv_at hl 3 rfl) ?_
        refine lv_iload (pc := 182) hx hb dX2_correct_182 (lv_at hl 6 rfl) ?_
        refine lv_if_eq (pc := 184) (tgt := 195) hx hb dX2_correct_184 (by decide) (fun cd99 => absurd cd99 (by decide)) (fun cd99 => ?_)
        refine lv_aload_n (pc := 187) hx hb dX2_correct_187 rfl (lv_at hl 7 rfl) ?_
        refine va_get (pc := 188) (D := D) (ci := 2) (v := .int (u 2)) (C := RX2) (T := TX2) (N := 8) hx hb hts in_X2 hown hK.1 hP 0 rfl rfl 2 (by decide) (hts _ q61) (fun _ h9 => h9) rfl dX2_correct_188 ?_
        refine lv_i2l (pc := 191) hx hb dX2_correct_191 rfl ?_
        refine lv_goto (pc := 192) (tgt := 200) hx hb dX2_correct_192 (by decide) ?_
        refine kLp (pc := 200) (va_runSN (As := [.long z90, .long (Int32.toInt64 (u 2))]) (rest := [.long (Int32.toInt64 (u 2))]) ⟨hx, hb, hml, hown, hts⟩ (m_mul l z90 (Int32.toInt64 (u 2)) s.heap) ⟨va_cnB 2 hts (lw_meth q384) rfl rfl rfl (hK.2.1 _ nq382) (hts _ q21) (by decide +kernel) ⟨Nat.le_of_ble_eq_true rfl, Nat.le_of_ble_eq_true rfl⟩, hts _ q383, trivial⟩ (preS hK) rfl rfl hl.1 rfl (lv_room (Nat.le_of_ble_eq_true rfl)) dX2_correct_200 ⟨Nat.le_of_ble_eq_true rfl, Nat.le_of_ble_eq_true rfl⟩) (fun r100 hr100 => ?_)
        refine lv_lsub (pc := 203) hx hb dX2_correct_203 ?_
        have hm204 : pos ((Int32.toInt64 (u 2)) - r100) = c2 (e64 u) kd va.toInt64 := by rw [hr100, hkv]; unfold c2; rw [if_pos cd1]; rfl
        refine xIp (pc := 204) (vx_runS (As := [.long ((Int32.toInt64 (u 2)) - r100)]) (rest := []) ⟨hx, hb, hml, hown, hts⟩ (m_positive l za ((Int32.toInt64 (u 2)) - r100) s.heap) (va_cwS 1 hts (lw_S q336 q337 q23 q338) rfl rfl rfl (by decide +kernel) ⟨Nat.le_of_ble_eq_true rfl, Nat.le_of_ble_eq_true rfl⟩) (preSZ hK hZ) rfl rfl hl.1 rfl (lv_room (Nat.le_of_ble_eq_true rfl)) dX2_correct_204 ⟨Nat.le_of_ble_eq_true rfl, Nat.le_of_ble_eq_true rfl⟩) hS (fun q h => hA _ h) (fun ce q9 H1 locs1 hX hz1 hk1 hS1 hce hcv hcl => ?_) (fun r101 hr101 => ?_)
        · exact vx_out (fun x hx9 => (htab x hx9).elim) hlocks hce hcv hcl (fun t ht hvm => ⟨rfl, ⟨hrj, fun h => hX (by show lim (pos _); rw [hm204]; exact h.2.2.2.2.1)⟩, by rw [ht]; exact hz1, fun q h1 h2 => by rw [ht]; exact hk1 q h1⟩) hS1.2.2 (Nat.le_of_ble_eq_true rfl) (Nat.le_of_ble_eq_true rfl)
        have hv204 : r101 = (c2 (e64 u) kd va.toInt64).toInt32 := by rw [← hm204]; exact hr101.2
        have hi204 : lim (c2 (e64 u) kd va.toInt64) := by rw [← hm204]; exact hr101.1
        refine lv_istore (pc := 207) (lv' := [(15, .int r101), (14, .int r98), (13, .int r96), (11, .long z94), (9, .long z90), (7, .long z60), (5, .long z58), (4, .int 1), (0, .ref h0), (1, .ref h1), (2, .int rd), (3, .int gt)]) hx hb dX2_correct_207 hl (by decide) rfl (fun ls hl => ?_)
        refine lv_aload_n (pc := 209) hx hb dX2_correct_209 rfl (lv_at hl 8 rfl) ?_
        refine va_get (pc := 210) (D := D) (ci := 2) (v := .int (u 3)) (C := RX2) (T := TX2) (N := 8) hx hb hts in_X2 hown hK.1 hP 0 rfl rfl 3 (by decide) (hts _ q63) (fun _ h9 => h9) rfl dX2_correct_210 ?_
        refine lv_i2l (pc := 213) hx hb dX2_correct_213 rfl ?_
        refine lv_lload (pc := 214) hx hb dX2_correct_214 (lv_at hl 4 rfl) ?_
        refine lv_iload (pc := 216) hx hb dX2_correct_216 (lv_at hl 7 rfl) ?_
        refine lv_if_eq (pc := 218) (tgt := 229) hx hb dX2_correct_218 (by decide) (fun cd102 => absurd cd102 (by decide)) (fun cd102 => ?_)
        refine lv_aload_n (pc := 221) hx hb dX2_correct_221 rfl (lv_at hl 8 rfl) ?_
        refine va_get (pc := 222) (D := D) (ci := 2) (v := .int (u 3)) (C := RX2) (T := TX2) (N := 8) hx hb hts in_X2 hown hK.1 hP 0 rfl rfl 3 (by decide) (hts _ q63) (fun _ h9 => h9) rfl dX2_correct_222 ?_
        refine lv_i2l (pc := 225) hx hb dX2_correct_225 rfl ?_
        refine lv_goto (pc := 226) (tgt := 234) hx hb dX2_correct_226 (by decide) ?_
        refine kLp (pc := 234) (va_runSN (As := [.long z90, .long (Int32.toInt64 (u 3))]) (rest := [.long (Int32.toInt64 (u 3))]) ⟨hx, hb, hml, hown, hts⟩ (m_mul l z90 (Int32.toInt64 (u 3)) s.heap) ⟨va_cnB 2 hts (lw_meth q384) rfl rfl rfl (hK.2.1 _ nq382) (hts _ q21) (by decide +kernel) ⟨Nat.le_of_ble_eq_true rfl, Nat.le_of_ble_eq_true rfl⟩, hts _ q383, trivial⟩ (preS hK) rfl rfl hl.1 rfl (lv_room (Nat.le_of_ble_eq_true rfl)) dX2_correct_234 ⟨Nat.le_of_ble_eq_true rfl, Nat.le_of_ble_eq_true rfl⟩) (fun r103 hr103 => ?_)
        refine lv_lsub (pc := 237) hx hb dX2_correct_237 ?_
        have hm238 : (Int32.toInt64 (u 3)) - r103 = c3 (e64 u) kd va.toInt64 := by rw [hr103, hkv]; unfold c3; rw [if_pos cd1]; rfl
        refine xIp (pc := 238) (vx_runSN (As := [.long ((Int32.toInt64 (u 3)) - r103)]) (rest := []) ⟨hx, hb, hml, hown, hts⟩ (m_limited l za ((Int32.toInt64 (u 3)) - r103) s.heap) ⟨va_cnB 1 hts (lw_meth q274) rfl rfl rfl (hK.2.1 _ nq272) (hts _ q21) (by decide +kernel) ⟨Nat.le_of_ble_eq_true rfl, Nat.le_of_ble_eq_true rfl⟩, hts _ q273, trivial⟩ (preSZ hK hZ) rfl rfl hl.1 rfl (lv_room (Nat.le_of_ble_eq_true rfl)) dX2_correct_238 ⟨Nat.le_of_ble_eq_true rfl, Nat.le_of_ble_eq_true rfl⟩) hS (fun q h => hA _ h) (fun ce q9 H1 locs1 hX hz1 hk1 hS1 hce hcv hcl => ?_) (fun r104 hr104 => ?_)
        · exact vx_out (fun x hx9 => (htab x hx9).elim) hlocks hce hcv hcl (fun t ht hvm => ⟨rfl, ⟨hrj, fun h => hX (by rw [hm238]; exact h.2.2.2.2.2.1)⟩, by rw [ht]; exact hz1, fun q h1 h2 => by rw [ht]; exact hk1 q h1⟩) hS1.2.2 (Nat.le_of_ble_eq_true rfl) (Nat.le_of_ble_eq_true rfl)
        have hv238 : r104 = (c3 (e64 u) kd va.toInt64).toInt32 := by rw [← hm238]; exact hr104.2
        have hi238 : lim (c3 (e64 u) kd va.toInt64) := by rw [← hm238]; exact hr104.1
        refine lv_istore (pc := 241) (lv' := [(16, .int r104), (15, .int r101), (14, .int r98), (13, .int r96), (11, .long z94), (9, .long z90), (7, .long z60), (5, .long z58), (4, .int 1), (0, .ref h0), (1, .ref h1), (2, .int rd), (3, .int gt)]) hx hb dX2_correct_241 hl (by decide) rfl (fun ls hl => ?_)
        refine lv_aload_n (pc := 243) hx hb dX2_correct_243 rfl (lv_at hl 9 rfl) ?_
        refine va_get (pc := 244) (D := D) (ci := 2) (v := .int (u 4)) (C := RX2) (T := TX2) (N := 8) hx hb hts in_X2 hown hK.1 hP 0 rfl rfl 4 (by decide) (hts _ q65) (fun _ h9 => h9) rfl dX2_correct_244 ?_
        refine lv_i2l (pc := 247) hx hb dX2_correct_247 rfl ?_
        refine lv_lload (pc := 248) hx hb dX2_correct_248 (lv_at hl 4 rfl) ?_
        refine lv_iload (pc := 250) hx hb dX2_correct_250 (lv_at hl 8 rfl) ?_
        refine lv_if_eq (pc := 252) (tgt := 263) hx hb dX2_correct_252 (by decide) (fun cd105 => absurd cd105 (by decide)) (fun cd105 => ?_)
        refine lv_aload_n (pc := 255) hx hb dX2_correct_255 rfl (lv_at hl 9 rfl) ?_
        refine va_get (pc := 256) (D := D) (ci := 2) (v := .int (u 3)) (C := RX2) (T := TX2) (N := 8) hx hb hts in_X2 hown hK.1 hP 0 rfl rfl 3 (by decide) (hts _ q63) (fun _ h9 => h9) rfl dX2_correct_256 ?_
        refine lv_i2l (pc := 259) hx hb dX2_correct_259 rfl ?_
        refine lv_goto (pc := 260) (tgt := 268) hx hb dX2_correct_260 (by decide) ?_
        refine kLp (pc := 268) (va_runSN (As := [.long z94, .long (Int32.toInt64 (u 3))]) (rest := [.long (Int32.toInt64 (u 4))]) ⟨hx, hb, hml, hown, hts⟩ (m_mul l z94 (Int32.toInt64 (u 3)) s.heap) ⟨va_cnB 2 hts (lw_meth q384) rfl rfl rfl (hK.2.1 _ nq382) (hts _ q21) (by decide +kernel) ⟨Nat.le_of_ble_eq_true rfl, Nat.le_of_ble_eq_true rfl⟩, hts _ q383, trivial⟩ (preS hK) rfl rfl hl.1 rfl (lv_room (Nat.le_of_ble_eq_true rfl)) dX2_correct_268 ⟨Nat.le_of_ble_eq_true rfl, Nat.le_of_ble_eq_true rfl⟩) (fun r106 hr106 => ?_)
        refine lv_lsub (pc := 271) hx hb dX2_correct_271 ?_
        have hm272 : pos ((Int32.toInt64 (u 4)) - r106) = c4 (e64 u) kd va.toInt64 := by rw [hr106, hlv]; unfold c4; rw [if_pos cd1]; rfl
        refine xIp (pc := 272) (vx_runS (As := [.long ((Int32.toInt64 (u 4)) - r106)]) (rest := []) ⟨hx, hb, hml, hown, hts⟩ (m_positive l za ((Int32.toInt64 (u 4)) - r106) s.heap) (va_cwS 1 hts (lw_S q336 q337 q23 q338) rfl rfl rfl (by decide +kernel) ⟨Nat.le_of_ble_eq_true rfl, Nat.le_of_ble_eq_true rfl⟩) (preSZ hK hZ) rfl rfl hl.1 rfl (lv_room (Nat.le_of_ble_eq_true rfl)) dX2_correct_272 ⟨Nat.le_of_ble_eq_true rfl, Nat.le_of_ble_eq_true rfl⟩) hS (fun q h => hA _ h) (fun ce q9 H1 locs1 hX hz1 hk1 hS1 hce hcv hcl => ?_) (fun r107 hr107 => ?_)
        · exact vx_out (fun x hx9 => (htab x hx9).elim) hlocks hce hcv hcl (fun t ht hvm => ⟨rfl, ⟨hrj, fun h => hX (by show lim (pos _); rw [hm272]; exact h.2.2.2.2.2.2)⟩, by rw [ht]; exact hz1, fun q h1 h2 => by rw [ht]; exact hk1 q h1⟩) hS1.2.2 (Nat.le_of_ble_eq_true rfl) (Nat.le_of_ble_eq_true rfl)
        have hv272 : r107 = (c4 (e64 u) kd va.toInt64).toInt32 := by rw [← hm272]; exact hr107.2
        have hi272 : lim (c4 (e64 u) kd va.toInt64) := by rw [← hm272]; exact hr107.1
        refine lv_istore (pc := 275) (lv' := [(17, .int r107), (16, .int r104), (15, .int r101), (14, .int r98), (13, .int r96), (11, .long z94), (9, .long z90), (7, .long z60), (5, .long z58), (4, .int 1), (0, .ref h0), (1, .ref h1), (2, .int rd), (3, .int gt)]) hx hb dX2_correct_275 hl (by decide) rfl (fun ls hl => ?_)
        refine lv_aload_n (pc := 277) hx hb dX2_correct_277 rfl (lv_at hl 10 rfl) ?_
        refine lv_iload (pc := 278) hx hb dX2_correct_278 (lv_at hl 4 rfl) ?_
        refine va_put (pc := 280) (D := D) (ci := 2) (v := .int r96) (ty := .int) (C := RX2) (T := TX2) (N := 8) hx hb hts in_X2 tyX2 tyX2_ok nmX2 hown hK.1 hP hD hS 0 rfl rfl 0 (by decide) (hts _ q56) (fun _ h9 => h9) rfl (by decide +kernel) rfl rfl (Nat.le_of_ble_eq_true rfl) dX2_correct_280 (fun H locs hP hD hS => ?_)
        have hP : va_P D vwCl [(h0, .inr (2, [.int r96, .int (u 1), .int (u 2), .int (u 3), .int (u 4), .int (u 5), .int (u 6), .int (u 7)]))] H := hP
        have hD : va_D (Aw [h0] s.heap.size) [(h0, .inr (2, [.int r96, .int (u 1), .int (u 2), .int (u 3), .int (u 4), .int (u 5), .int (u 6), .int (u 7)]))] := hD
        refine lv_aload_n (pc := 283) hx hb dX2_correct_283 rfl (lv_at hl 10 rfl) ?_
        refine lv_iload (pc := 284) hx hb dX2_correct_284 (lv_at hl 3 rfl) ?_
        refine va_put (pc := 286) (D := D) (ci := 2) (v := .int r98) (ty := .int) (C := RX2) (T := TX2) (N := 8) hx hb hts in_X2 tyX2 tyX2_ok nmX2 hown hK.1 hP hD hS 0 rfl rfl 1 (by decide) (hts _ q59) (fun _ h9 => h9) rfl (by decide +kernel) rfl rfl (Nat.le_of_ble_eq_true rfl) dX2_correct_286 (fun H locs hP hD hS => ?_)
        have hP : va_P D vwCl [(h0, .inr (2, [.int r96, .int r98, .int (u 2), .int (u 3), .int (u 4), .int (u 5), .int (u 6), .int (u 7)]))] H := hP
        have hD : va_D (Aw [h0] s.heap.size) [(h0, .inr (2, [.int r96, .int r98, .int (u 2), .int (u 3), .int (u 4), .int (u 5), .int (u 6), .int (u 7)]))] := hD
        refine lv_aload_n (pc := 289) hx hb dX2_correct_289 rfl (lv_at hl 10 rfl) ?_
        refine lv_iload (pc := 290) hx hb dX2_correct_290 (lv_at hl 2 rfl) ?_
        refine va_put (pc := 292) (D := D) (ci := 2) (v := .int r101) (ty := .int) (C := RX2) (T := TX2) (N := 8) hx hb hts in_X2 tyX2 tyX2_ok nmX2 hown hK.1 hP hD hS 0 rfl rfl 2 (by decide) (hts _ q61) (fun _ h9 => h9) rfl (by decide +kernel) rfl rfl (Nat.le_of_ble_eq_true rfl) dX2_correct_292 (fun H locs hP hD hS => ?_)
        have hP : va_P D vwCl [(h0, .inr (2, [.int r96, .int r98, .int r101, .int (u 3), .int (u 4), .int (u 5), .int (u 6), .int (u 7)]))] H := hP
        have hD : va_D (Aw [h0] s.heap.size) [(h0, .inr (2, [.int r96, .int r98, .int r101, .int (u 3), .int (u 4), .int (u 5), .int (u 6), .int (u 7)]))] := hD
        refine lv_aload_n (pc := 295) hx hb dX2_correct_295 rfl (lv_at hl 10 rfl) ?_
        refine lv_iload (pc := 296) hx hb dX2_correct_296 (lv_at hl 1 rfl) ?_
        refine va_put (pc := 298) (D := D) (ci := 2) (v := .int r104) (ty := .int) (C := RX2) (T := TX2) (N := 8) hx hb hts in_X2 tyX2 tyX2_ok nmX2 hown hK.1 hP hD hS 0 rfl rfl 3 (by decide) (hts _ q63) (fun _ h9 => h9) rfl (by decide +kernel) rfl rfl (Nat.le_of_ble_eq_true rfl) dX2_correct_298 (fun H locs hP hD hS => ?_)
        have hP : va_P D vwCl [(h0, .inr (2, [.int r96, .int r98, .int r101, .int r104, .int (u 4), .int (u 5), .int (u 6), .int (u 7)]))] H := hP
        have hD : va_D (Aw [h0] s.heap.size) [(h0, .inr (2, [.int r96, .int r98, .int r101, .int r104, .int (u 4), .int (u 5), .int (u 6), .int (u 7)]))] := hD
        refine lv_aload_n (pc := 301) hx hb dX2_correct_301 rfl (lv_at hl 10 rfl) ?_
        refine lv_iload (pc := 302) hx hb dX2_correct_302 (lv_at hl 0 rfl) ?_
        refine va_put (pc := 304) (D := D) (ci := 2) (v := .int r107) (ty := .int) (C := RX2) (T := TX2) (N := 8) hx hb hts in_X2 tyX2 tyX2_ok nmX2 hown hK.1 hP hD hS 0 rfl rfl 4 (by decide) (hts _ q65) (fun _ h9 => h9) rfl (by decide +kernel) rfl rfl (Nat.le_of_ble_eq_true rfl) dX2_correct_304 (fun H locs hP hD hS => ?_)
        have hP : va_P D vwCl [(h0, .inr (2, [.int r96, .int r98, .int r101, .int r104, .int r107, .int (u 5), .int (u 6), .int (u 7)]))] H := hP
        have hD : va_D (Aw [h0] s.heap.size) [(h0, .inr (2, [.int r96, .int r98, .int r101, .int r104, .int r107, .int (u 5), .int (u 6), .int (u 7)]))] := hD
        refine lv_aload_n (pc := 307) hx hb dX2_correct_307 rfl (lv_at hl 10 rfl) ?_
        refine lv_lload (pc := 308) hx hb dX2_correct_308 (lv_at hl 7 rfl) ?_
        refine lv_l2i (pc := 310) hx hb dX2_correct_310 rfl ?_
        refine lv_topi (fun z108 ez108 => ?_)
        refine va_put (pc := 311) (D := D) (ci := 2) (v := .int z108) (ty := .int) (C := RX2) (T := TX2) (N := 8) hx hb hts in_X2 tyX2 tyX2_ok nmX2 hown hK.1 hP hD hS 0 rfl rfl 5 (by decide) (hts _ q67) (fun _ h9 => h9) rfl (by decide +kernel) rfl rfl (Nat.le_of_ble_eq_true rfl) dX2_correct_311 (fun H locs hP hD hS => ?_)
        have hP : va_P D vwCl [(h0, .inr (2, [.int r96, .int r98, .int r101, .int r104, .int r107, .int z108, .int (u 6), .int (u 7)]))] H := hP
        have hD : va_D (Aw [h0] s.heap.size) [(h0, .inr (2, [.int r96, .int r98, .int r101, .int r104, .int r107, .int z108, .int (u 6), .int (u 7)]))] := hD
        refine lv_aload_n (pc := 314) hx hb dX2_correct_314 rfl (lv_at hl 10 rfl) ?_
        refine lv_lload (pc := 315) hx hb dX2_correct_315 (lv_at hl 6 rfl) ?_
        refine lv_l2i (pc := 317) hx hb dX2_correct_317 rfl ?_
        refine lv_topi (fun z109 ez109 => ?_)
        refine va_put (pc := 318) (D := D) (ci := 2) (v := .int z109) (ty := .int) (C := RX2) (T := TX2) (N := 8) hx hb hts in_X2 tyX2 tyX2_ok nmX2 hown hK.1 hP hD hS 0 rfl rfl 6 (by decide) (hts _ q70) (fun _ h9 => h9) rfl (by decide +kernel) rfl rfl (Nat.le_of_ble_eq_true rfl) dX2_correct_318 (fun H locs hP hD hS => ?_)
        have hP : va_P D vwCl [(h0, .inr (2, [.int r96, .int r98, .int r101, .int r104, .int r107, .int z108, .int z109, .int (u 7)]))] H := hP
        have hD : va_D (Aw [h0] s.heap.size) [(h0, .inr (2, [.int r96, .int r98, .int r101, .int r104, .int r107, .int z108, .int z109, .int (u 7)]))] := hD
        refine lv_aload_n (pc := 321) hx hb dX2_correct_321 rfl (lv_at hl 10 rfl) ?_
        refine lv_lload (pc := 322) hx hb dX2_correct_322 (lv_at hl 5 rfl) ?_
        refine lv_l2i (pc := 324) hx hb dX2_correct_324 rfl ?_
        refine lv_topi (fun z110 ez110 => ?_)
        refine va_put (pc := 325) (D := D) (ci := 2) (v := .int z110) (ty := .int) (C := RX2) (T := TX2) (N := 8) hx hb hts in_X2 tyX2 tyX2_ok nmX2 hown hK.1 hP hD hS 0 rfl rfl 7 (by decide) (hts _ q73) (fun _ h9 => h9) rfl (by decide +kernel) rfl rfl (Nat.le_of_ble_eq_true rfl) dX2_correct_325 (fun H locs hP hD hS => ?_)
        have hP : va_P D vwCl [(h0, .inr (2, [.int r96, .int r98, .int r101, .int r104, .int r107, .int z108, .int z109, .int z110]))] H := hP
        have hD : va_D (Aw [h0] s.heap.size) [(h0, .inr (2, [.int r96, .int r98, .int r101, .int r104, .int r107, .int z108, .int z109, .int z110]))] := hD
        refine lv_iconst (pc := 328) (v := 1) hx hb dX2_correct_328 (by decide) ?_
        refine vx_ret ?_
        refine W.widen (k := 1) (n := 6) (by omega) (by omega) ?_
        have hq9 : (fun r H1 => (cRej (e64 u) kd va.toInt64 rd.toInt64 gt ∧ r = 0 ∧ va_P D vwCl [(h0, .inr (2, [.int (cF u kd rd 0), .int (cF u kd rd 1), .int (cF u kd rd 2), .int (cF u kd rd 3), .int (cF u kd rd 4), .int (cF u kd rd 5), .int (cF u kd rd 6), .int (cF u kd rd 7)]))] H1) ∨ (¬ cRej (e64 u) kd va.toInt64 rd.toInt64 gt ∧ cOK (e64 u) kd va.toInt64 rd.toInt64 ∧ r = 1 ∧ va_P D vwCl [(h0, .inr (2, [.int (cE u kd va rd 0), .int (cE u kd va rd 1), .int (cE u kd va rd 2), .int (cE u kd va rd 3), .int (cE u kd va rd 4), .int (cE u kd va rd 5), .int (cE u kd va rd 6), .int (cE u kd va rd 7)]))] H1) : Int32 → Heap → Prop) 1 H := Or.inr ⟨hrj, ⟨hi104, hi133, hi152, hi170, hi204, hi238, hi272⟩, rfl, by rw [hv152, hv170, hv204, hv238, hv272, ez108, ez109, ez110, hyv, hkv, hlv] at hP; exact hP⟩
        exact W.zret (v := 1) hx hb hr rfl (fun t ht hW => ⟨⟨_, rfl, by rw [ht]; exact hq9⟩, hS.F ht⟩) hS.2.2 dX2_correct_329
      · have hrj : cRej (e64 u) kd va.toInt64 rd.toInt64 gt := ⟨cd61, by rw [← hyv, ← hsv]; exact cd86⟩
        refine lv_aload_n (pc := 72) hx hb dX2_correct_72 rfl (lv_at hl 3 rfl) ?_
        refine lv_lload (pc := 73) hx hb dX2_correct_73 (lv_at hl 0 rfl) ?_
        refine lv_l2i (pc := 75) hx hb dX2_correct_75 rfl ?_
        refine lv_topi (fun z111 ez111 => ?_)
        refine va_put (pc := 76) (D := D) (ci := 2) (v := .int z111) (ty := .int) (C := RX2) (T := TX2) (N := 8) hx hb hts in_X2 tyX2 tyX2_ok nmX2 hown hK.1 hP hD hS 0 rfl rfl 5 (by decide) (hts _ q67) (fun _ h9 => h9) rfl (by decide +kernel) rfl rfl (Nat.le_of_ble_eq_true rfl) dX2_correct_76 (fun H locs hP hD hS => ?_)
        have hP : va_P D vwCl [(h0, .inr (2, [.int (u 0), .int (u 1), .int (u 2), .int (u 3), .int (u 4), .int z111, .int (u 6), .int (u 7)]))] H := hP
        have hD : va_D (Aw [h0] s.heap.size) [(h0, .inr (2, [.int (u 0), .int (u 1), .int (u 2), .int (u 3), .int (u 4), .int z111, .int (u 6), .int (u 7)]))] := hD
        refine lv_iconst (pc := 79) (v := 0) hx hb dX2_correct_79 (by decide) ?_
        refine vx_ret ?_
        refine W.widen (k := 1) (n := 6) (by omega) (by omega) ?_
        have hq9 : (fun r H1 => (cRej (e64 u) kd va.toInt64 rd.toInt64 gt ∧ r = 0 ∧ va_P D vwCl [(h0, .inr (2, [.int (cF u kd rd 0), .int (cF u kd rd 1), .int (cF u kd rd 2), .int (cF u kd rd 3), .int (cF u kd rd 4), .int (cF u kd rd 5), .int (cF u kd rd 6), .int (cF u kd rd 7)]))] H1) ∨ (¬ cRej (e64 u) kd va.toInt64 rd.toInt64 gt ∧ cOK (e64 u) kd va.toInt64 rd.toInt64 ∧ r = 1 ∧ va_P D vwCl [(h0, .inr (2, [.int (cE u kd va rd 0), .int (cE u kd va rd 1), .int (cE u kd va rd 2), .int (cE u kd va rd 3), .int (cE u kd va rd 4), .int (cE u kd va rd 5), .int (cE u kd va rd 6), .int (cE u kd va rd 7)]))] H1) : Int32 → Heap → Prop) 0 H := Or.inl ⟨hrj, rfl, by rw [ez111, hyv] at hP; exact hP⟩
        exact W.zret (v := 0) hx hb hr rfl (fun t ht hW => ⟨⟨_, rfl, by rw [ht]; exact hq9⟩, hS.F ht⟩) hS.2.2 dX2_correct_80
