abbrev rm_m4_init : Room := ({ frames := 1, cells := 0, slots := 0, locals := 12 })
set_option maxHeartbeats 4000000 in
set_option maxRecDepth 100000 in
theorem m4_init (l : Launch) {D : va_G} {g : Nat → ClassId} (h0 : Nat) (a b : Int32) (H : Heap) (hP : va_P D vwCl [(h0, .inr (4, [.int 0, .int 0]))] H) : Met l yX4_init (ws_ yX4_init cX4_init 3 none) rm_m4_init (va_Pc [.ref h0, .int a, .int b] (PH D g H)) (QV (fun H1 => va_P D vwCl [(h0, .inr (4, [.int a, .int b]))] H1) (Aw [h0] H.size)) 0 0 (Aw [h0] H.size) := by
  refine Met.ofW (cc := cX4_init) (maxL := 3) (ret := none) (by decide) rfl ?_
  intro p e s m args below meth c s₁ B hml hv
  obtain ⟨rfl, hH, hK⟩ := hv
  subst hH
  have hx := B.exec
  have hb := B.bytes
  have hr := B.returns
  have hts := atoms_spec (ws := ws_ yX4_init cX4_init 3 none) B.pre
  have hts : ∀ w ∈ lw_all, w.before _ s = true := fun w h => hts w (List.mem_cons_of_mem _ h)
  have hown : s.vm.findClass RX4 = some m.cls := findClass_of_methodNamed B.named
  have hlocks := B.notSynchronized
  have hin : meth.name = "<init>" := (name_of_methodNamed B.named B.method).1
  have hA : ∀ q, s.heap.size ≤ q → (Aw [h0] s.heap.size) q := fun q h => Or.inr h
  have hS : va_S (Aw [h0] s.heap.size) s.heap s.heap [] := va_S.rf
  have hD : va_D (Aw [h0] s.heap.size) [(h0, .inr (4, [.int 0, .int 0]))] := d1 (Or.inl (by simp))
  have hl := lv_entry ([.ref h0, .int a, .int b]) (n := 3) (Nat.le_of_ble_eq_true rfl)
  rw [lg_entry_eq]
  generalize (lg_sl ([.ref h0, .int a, .int b]) ++ List.replicate (3 - (lg_sl ([.ref h0, .int a, .int b])).length) Slot.unset).toArray = ls at hl ⊢
  have hl : lv_has ls 3 [(0, .ref h0), (1, .int a), (2, .int b)] := hl
  refine lv_aload_n (pc := 0) hx hb dX4_init_0 rfl (lv_at hl 0 rfl) ?_
  refine W.objInit hx hb hown (hts _ q116) (hts _ q41) (hts _ q42) rfl (by rw [hml]; exact hl.1) rfl dX4_init_1 (Nat.le_of_ble_eq_true rfl) (Nat.le_of_ble_eq_true rfl) ?_
  refine W.eq (g2 := F0 m 4 ls []) rfl ?_
  refine lv_aload_n (pc := 4) hx hb dX4_init_4 rfl (lv_at hl 0 rfl) ?_
  refine lv_iload_n (pc := 5) hx hb dX4_init_5 rfl (lv_at hl 1 rfl) ?_
  refine va_putF (pc := 6) (D := D) (ci := 4) (v := .int a) (ty := .int) (C := RX4) (T := TX4) (N := 2) hx hb hts in_X4 tyX4 tyX4_ok nmX4 hown hK.1 hP hD hS 0 rfl rfl 0 (by decide) (hts _ q117) (fun _ h9 => h9) rfl hin rfl (by decide +kernel) rfl rfl (Nat.le_of_ble_eq_true rfl) dX4_init_6 (fun H locs hP hD hS => ?_)
  have hP : va_P D vwCl [(h0, .inr (4, [.int a, .int 0]))] H := hP
  have hD : va_D (Aw [h0] s.heap.size) [(h0, .inr (4, [.int a, .int 0]))] := hD
  refine lv_aload_n (pc := 9) hx hb dX4_init_9 rfl (lv_at hl 0 rfl) ?_
  refine lv_iload_n (pc := 10) hx hb dX4_init_10 rfl (lv_at hl 2 rfl) ?_
  refine va_putF (pc := 11) (D := D) (ci := 4) (v := .int b) (ty := .int) (C := RX4) (T := TX4) (N := 2) hx hb hts in_X4 tyX4 tyX4_ok nmX4 hown hK.1 hP hD hS 0 rfl rfl 1 (by decide) (hts _ q120) (fun _ h9 => h9) rfl hin rfl (by decide +kernel) rfl rfl (Nat.le_of_ble_eq_true rfl) dX4_init_11 (fun H locs hP hD hS => ?_)
  have hP : va_P D vwCl [(h0, .inr (4, [.int a, .int b]))] H := hP
  have hD : va_D (Aw [h0] s.heap.size) [(h0, .inr (4, [.int a, .int b]))] := hD
  have hq9 : (fun H1 => va_P D vwCl [(h0, .inr (4, [.int a, .int b]))] H1 : Heap → Prop) H := hP
  exact W.vret hx hb hr (fun t ht hW => ⟨⟨rfl, by rw [ht]; exact hq9⟩, hS.F ht⟩) hS.2.2 dX4_init_14

abbrev rm_m8_init : Room := ({ frames := 1, cells := 0, slots := 0, locals := 12 })
set_option maxHeartbeats 4000000 in
set_option maxRecDepth 100000 in
theorem m8_init (l : Launch) {D : va_G} {g : Nat → ClassId} (h0 : Nat) (a b : Int32) (H : Heap) (hP : va_P D vwCl [(h0, .inr (8, [.int 0, .int 0]))] H) : Met l yX8_init (ws_ yX8_init cX8_init 3 none) rm_m8_init (va_Pc [.ref h0, .int a, .int b] (PH D g H)) (QV (fun H1 => va_P D vwCl [(h0, .inr (8, [.int a, .int b]))] H1) (Aw [h0] H.size)) 0 0 (Aw [h0] H.size) := by
  refine Met.ofW (cc := cX8_init) (maxL := 3) (ret := none) (by decide) rfl ?_
  intro p e s m args below meth c s₁ B hml hv
  obtain ⟨rfl, hH, hK⟩ := hv
  subst hH
  have hx := B.exec
  have hb := B.bytes
  have hr := B.returns
  have hts := atoms_spec (ws := ws_ yX8_init cX8_init 3 none) B.pre
  have hts : ∀ w ∈ lw_all, w.before _ s = true := fun w h => hts w (List.mem_cons_of_mem _ h)
  have hown : s.vm.findClass RX8 = some m.cls := findClass_of_methodNamed B.named
  have hlocks := B.notSynchronized
  have hin : meth.name = "<init>" := (name_of_methodNamed B.named B.method).1
  have hA : ∀ q, s.heap.size ≤ q → (Aw [h0] s.heap.size) q := fun q h => Or.inr h
  have hS : va_S (Aw [h0] s.heap.size) s.heap s.heap [] := va_S.rf
  have hD : va_D (Aw [h0] s.heap.size) [(h0, .inr (8, [.int 0, .int 0]))] := d1 (Or.inl (by simp))
  have hl := lv_entry ([.ref h0, .int a, .int b]) (n := 3) (Nat.le_of_ble_eq_true rfl)
  rw [lg_entry_eq]
  generalize (lg_sl ([.ref h0, .int a, .int b]) ++ List.replicate (3 - (lg_sl ([.ref h0, .int a, .int b])).length) Slot.unset).toArray = ls at hl ⊢
  have hl : lv_has ls 3 [(0, .ref h0), (1, .int a), (2, .int b)] := hl
  refine lv_aload_n (pc := 0) hx hb dX8_init_0 rfl (lv_at hl 0 rfl) ?_
  refine W.objInit hx hb hown (hts _ q348) (hts _ q41) (hts _ q42) rfl (by rw [hml]; exact hl.1) rfl dX8_init_1 (Nat.le_of_ble_eq_true rfl) (Nat.le_of_ble_eq_true rfl) ?_
  refine W.eq (g2 := F0 m 4 ls []) rfl ?_
  refine lv_aload_n (pc := 4) hx hb dX8_init_4 rfl (lv_at hl 0 rfl) ?_
  refine lv_iload_n (pc := 5) hx hb dX8_init_5 rfl (lv_at hl 1 rfl) ?_
  refine va_putF (pc := 6) (D := D) (ci := 8) (v := .int a) (ty := .int) (C := RX8) (T := TX8) (N := 2) hx hb hts in_X8 tyX8 tyX8_ok nmX8 hown hK.1 hP hD hS 0 rfl rfl 0 (by decide) (hts _ q349) (fun _ h9 => h9) rfl hin rfl (by decide +kernel) rfl rfl (Nat.le_of_ble_eq_true rfl) dX8_init_6 (fun H locs hP hD hS => ?_)
  have hP : va_P D vwCl [(h0, .inr (8, [.int a, .int 0]))] H := hP
  have hD : va_D (Aw [h0] s.heap.size) [(h0, .inr (8, [.int a, .int 0]))] := hD
  refine lv_aload_n (pc := 9) hx hb dX8_init_9 rfl (lv_at hl 0 rfl) ?_
  refine lv_iload_n (pc := 10) hx hb dX8_init_10 rfl (lv_at hl 2 rfl) ?_
  refine va_putF (pc := 11) (D := D) (ci := 8) (v := .int b) (ty := .int) (C := RX8) (T := TX8) (N := 2) hx hb hts in_X8 tyX8 tyX8_ok nmX8 hown hK.1 hP hD hS 0 rfl rfl 1 (by decide) (hts _ q352) (fun _ h9 => h9) rfl hin rfl (by decide +kernel) rfl rfl (Nat.le_of_ble_eq_true rfl) dX8_init_11 (fun H locs hP hD hS => ?_)
  have hP : va_P D vwCl [(h0, .inr (8, [.int a, .int b]))] H := hP
  have hD : va_D (Aw [h0] s.heap.size) [(h0, .inr (8, [.int a, .int b]))] := hD
  have hq9 : (fun H1 => va_P D vwCl [(h0, .inr (8, [.int a, .int b]))] H1 : Heap → Prop) H := hP
  exact W.vret hx hb hr (fun t ht hW => ⟨⟨rfl, by rw [ht]; exact hq9⟩, hS.F ht⟩) hS.2.2 dX8_init_14

abbrev rm_m5_init : Room := ({ frames := 1, cells := 0, slots := 0, locals := 12 })
set_option maxHeartbeats 4000000 in
set_option maxRecDepth 100000 in
theorem m5_init (l : Launch) {D : va_G} {g : Nat → ClassId} (h0 : Nat) (H : Heap) (hP : va_P D vwCl [(h0, .inr (5, []))] H) : Met l yX5_init (ws_ yX5_init cX5_init 1 none) rm_m5_init (va_Pc [.ref h0] (PH D g H)) (QV (fun H1 => va_P D vwCl [(h0, .inr (5, []))] H1) (Aw [h0] H.size)) 0 0 (Aw [h0] H.size) := by
  refine Met.ofW (cc := cX5_init) (maxL := 1) (ret := none) (by decide) rfl ?_
  intro p e s m args below meth c s₁ B hml hv
  obtain ⟨rfl, hH, hK⟩ := hv
  subst hH
  have hx := B.exec
  have hb := B.bytes
  have hr := B.returns
  have hts := atoms_spec (ws := ws_ yX5_init cX5_init 1 none) B.pre
  have hts : ∀ w ∈ lw_all, w.before _ s = true := fun w h => hts w (List.mem_cons_of_mem _ h)
  have hown : s.vm.findClass RX5 = some m.cls := findClass_of_methodNamed B.named
  have hlocks := B.notSynchronized
  have hin : meth.name = "<init>" := (name_of_methodNamed B.named B.method).1
  have hA : ∀ q, s.heap.size ≤ q → (Aw [h0] s.heap.size) q := fun q h => Or.inr h
  have hS : va_S (Aw [h0] s.heap.size) s.heap s.heap [] := va_S.rf
  have hD : va_D (Aw [h0] s.heap.size) [(h0, .inr (5, []))] := d1 (Or.inl (by simp))
  have hl := lv_entry ([.ref h0]) (n := 1) (Nat.le_of_ble_eq_true rfl)
  rw [lg_entry_eq]
  generalize (lg_sl ([.ref h0]) ++ List.replicate (1 - (lg_sl ([.ref h0])).length) Slot.unset).toArray = ls at hl ⊢
  have hl : lv_has ls 1 [(0, .ref h0)] := hl
  refine lv_aload_n (pc := 0) hx hb dX5_init_0 rfl (lv_at hl 0 rfl) ?_
  refine W.objInit hx hb hown (hts _ q176) (hts _ q41) (hts _ q42) rfl (by rw [hml]; exact hl.1) rfl dX5_init_1 (Nat.le_of_ble_eq_true rfl) (Nat.le_of_ble_eq_true rfl) ?_
  refine W.eq (g2 := F0 m 4 ls []) rfl ?_
  have hq9 : (fun H1 => va_P D vwCl [(h0, .inr (5, []))] H1 : Heap → Prop) s.heap := hP
  exact W.vret hx hb hr (fun t ht hW => ⟨⟨rfl, by rw [ht]; exact hq9⟩, hS.F ht⟩) hS.2.2 dX5_init_4

abbrev rm_m8_isReading : Room := ({ frames := 0, cells := 0, slots := 0, locals := 0 })
set_option maxHeartbeats 4000000 in
set_option maxRecDepth 100000 in
theorem m8_isReading (l : Launch) {D : va_G} {g : Nat → ClassId} (h0 : Nat) (a b : Int32) (H : Heap) (hp0 : va_P D vwCl [(h0, .inr (8, [.int a, .int b]))] H) : Met l yX8_isReading (ws_ yX8_isReading cX8_isReading 1 (some .boolean)) rm_m8_isReading (va_Pc [.ref h0] (PH D g H)) (QI (fun r H1 => H1 = H ∧ r = bI (0 ≤ a)) (fun _ => False)) 0 0 (fun _ => False) := by
  refine Met.ofW (cc := cX8_isReading) (maxL := 1) (ret := (some .boolean)) (by decide) rfl ?_
  intro p e s m args below meth c s₁ B hml hv
  obtain ⟨rfl, hH, hK⟩ := hv
  subst hH
  have hx := B.exec
  have hb := B.bytes
  have hr := B.returns
  have hts := atoms_spec (ws := ws_ yX8_isReading cX8_isReading 1 (some .boolean)) B.pre
  have hts : ∀ w ∈ lw_all, w.before _ s = true := fun w h => hts w (List.mem_cons_of_mem _ h)
  have hown : s.vm.findClass RX8 = some m.cls := findClass_of_methodNamed B.named
  have hlocks := B.notSynchronized
  have hS : va_S (fun _ => False) s.heap s.heap [] := va_S.rf
  have hl := lv_entry ([.ref h0]) (n := 1) (Nat.le_of_ble_eq_true rfl)
  rw [lg_entry_eq]
  generalize (lg_sl ([.ref h0]) ++ List.replicate (1 - (lg_sl ([.ref h0])).length) Slot.unset).toArray = ls at hl ⊢
  have hl : lv_has ls 1 [(0, .ref h0)] := hl
  refine lv_aload_n (pc := 0) hx hb dX8_isReading_0 rfl (lv_at hl 0 rfl) ?_
  refine va_get (pc := 1) (D := D) (ci := 8) (v := .int a) (C := RX8) (T := TX8) (N := 2) hx hb hts in_X8 hown hK.1 hp0 0 rfl rfl 0 (by decide) (hts _ q349) (fun _ h9 => h9) rfl dX8_isReading_1 ?_
  refine lv_if_lt (pc := 4) (tgt := 11) hx hb dX8_isReading_4 (by decide) (fun cd1 => ?_) (fun cd1 => ?_)
  · refine lv_iconst (pc := 11) (v := 0) hx hb dX8_isReading_11 (by decide) ?_
    have hq9 : (fun r H1 => H1 = s.heap ∧ r = bI (0 ≤ a) : Int32 → Heap → Prop) 0 s.heap := ⟨rfl, (bI_f fun h => absurd h (Int32.not_le.mpr cd1)).symm⟩
    exact W.zret (v := 0) hx hb hr rfl (fun t ht hW => ⟨⟨_, rfl, by rw [ht]; exact hq9⟩, hS.F ht⟩) hS.2.2 dX8_isReading_12
  · refine lv_iconst (pc := 7) (v := 1) hx hb dX8_isReading_7 (by decide) ?_
    refine lv_goto (pc := 8) (tgt := 12) hx hb dX8_isReading_8 (by decide) ?_
    have hq9 : (fun r H1 => H1 = s.heap ∧ r = bI (0 ≤ a) : Int32 → Heap → Prop) 1 s.heap := ⟨rfl, (bI_t (Int32.not_lt.mp cd1)).symm⟩
    exact W.zret (v := 1) hx hb hr rfl (fun t ht hW => ⟨⟨_, rfl, by rw [ht]; exact hq9⟩, hS.F ht⟩) hS.2.2 dX8_isReading_12

abbrev rm_m5_passes2 : Room := ({ frames := 1, cells := 0, slots := 0, locals := 20 })
set_option maxHeartbeats 4000000 in
set_option maxRecDepth 100000 in
theorem m5_passes2 (l : Launch) {D : va_G} {g : Nat → ClassId} (h0 h1 : Nat) (a b : Int32) (H : Heap) (hp1 : va_P D vwCl [(h1, .inr (8, [.int a, .int b]))] H) : Met l yX5_passes_2 (ws_ yX5_passes_2 cX5_passes_2 2 (some .boolean)) rm_m5_passes2 (va_Pc [.ref h0, .ref h1] (PH D g H)) (QI (fun r H1 => H1 = H ∧ r = bI (0 ≤ a)) (fun _ => False)) 0 0 (fun _ => False) := by
  refine Met.ofW (cc := cX5_passes_2) (maxL := 2) (ret := (some .boolean)) (by decide) rfl ?_
  intro p e s m args below meth c s₁ B hml hv
  obtain ⟨rfl, hH, hK⟩ := hv
  subst hH
  have hx := B.exec
  have hb := B.bytes
  have hr := B.returns
  have hts := atoms_spec (ws := ws_ yX5_passes_2 cX5_passes_2 2 (some .boolean)) B.pre
  have hts : ∀ w ∈ lw_all, w.before _ s = true := fun w h => hts w (List.mem_cons_of_mem _ h)
  have hown : s.vm.findClass RX5 = some m.cls := findClass_of_methodNamed B.named
  have hlocks := B.notSynchronized
  have hS : va_S (fun _ => False) s.heap s.heap [] := va_S.rf
  have hl := lv_entry ([.ref h0, .ref h1]) (n := 2) (Nat.le_of_ble_eq_true rfl)
  rw [lg_entry_eq]
  generalize (lg_sl ([.ref h0, .ref h1]) ++ List.replicate (2 - (lg_sl ([.ref h0, .ref h1])).length) Slot.unset).toArray = ls at hl ⊢
  have hl : lv_has ls 2 [(0, .ref h0), (1, .ref h1)] := hl
  refine lv_aload_n (pc := 0) hx hb dX5_passes_2_0 rfl (lv_at hl 1 rfl) ?_
  refine kIp (pc := 1) (va_runV (As := []) (rest := []) ⟨hx, hb, hml, hown, hts⟩ (m8_isReading l h1 a b s.heap hp1) (cwV 0 hts (lw_V q508 q509 q510 q34 q511) rfl rfl rfl (by decide +kernel) ⟨Nat.le_of_ble_eq_true rfl, Nat.le_of_ble_eq_true rfl⟩) (preV hK (rcv hK hp1 0 rfl rfl)) rfl rfl hl.1 rfl (lv_room (Nat.le_of_ble_eq_true rfl)) dX5_passes_2_1 ⟨Nat.le_of_ble_eq_true rfl, Nat.le_of_ble_eq_true rfl⟩) (fun r1 hr1 => ?_)
  have hq9 : (fun r H1 => H1 = s.heap ∧ r = bI (0 ≤ a) : Int32 → Heap → Prop) r1 s.heap := ⟨rfl, hr1⟩
  exact W.zret (v := r1) hx hb hr (by rw [hr1]; exact bI_nar _) (fun t ht hW => ⟨⟨_, rfl, by rw [ht]; exact hq9⟩, hS.F ht⟩) hS.2.2 dX5_passes_2_4

abbrev rm_m5_passes : Room := ({ frames := 2, cells := 0, slots := 0, locals := 41 })
set_option maxHeartbeats 4000000 in
set_option maxRecDepth 100000 in
theorem m5_passes (l : Launch) {D : va_G} {g : Nat → ClassId} (h0 h1 : Nat) (a b : Int32) (H : Heap) (hp0 : va_P D vwCl [(h0, .inr (5, []))] H) (hp1 : va_P D vwCl [(h1, .inr (8, [.int a, .int b]))] H) : Met l yX5_passes (ws_ yX5_passes cX5_passes 2 (some .boolean)) rm_m5_passes (va_Pc [.ref h0, .ref h1] (PH D g H)) (QI (fun r H1 => H1 = H ∧ r = bI (0 ≤ a)) (fun _ => False)) 0 0 (fun _ => False) := by
  refine Met.ofW (cc := cX5_passes) (maxL := 2) (ret := (some .boolean)) (by decide) rfl ?_
  intro p e s m args below meth c s₁ B hml hv
  obtain ⟨rfl, hH, hK⟩ := hv
  subst hH
  have hx := B.exec
  have hb := B.bytes
  have hr := B.returns
  have hts := atoms_spec (ws := ws_ yX5_passes cX5_passes 2 (some .boolean)) B.pre
  have hts : ∀ w ∈ lw_all, w.before _ s = true := fun w h => hts w (List.mem_cons_of_mem _ h)
  have hown : s.vm.findClass RX5 = some m.cls := findClass_of_methodNamed B.named
  have hlocks := B.notSynchronized
  have hS : va_S (fun _ => False) s.heap s.heap [] := va_S.rf
  have hl := lv_entry ([.ref h0, .ref h1]) (n := 2) (Nat.le_of_ble_eq_true rfl)
  rw [lg_entry_eq]
  generalize (lg_sl ([.ref h0, .ref h1]) ++ List.replicate (2 - (lg_sl ([.ref h0, .ref h1])).length) Slot.unset).toArray = ls at hl ⊢
  have hl : lv_has ls 2 [(0, .ref h0), (1, .ref h1)] := hl
  refine lv_aload_n (pc := 0) hx hb dX5_passes_0 rfl (lv_at hl 0 rfl) ?_
  refine lv_aload_n (pc := 1) hx hb dX5_passes_1 rfl (lv_at hl 1 rfl) ?_
  refine va_castS (pc := 2) hx hb hown (hts _ q503) (hK.1.1 8 _ rfl).2 (rcv hK hp1 0 rfl rfl) dX5_passes_2 ?_
  refine kIp (pc := 5) (va_runV (As := [.ref h1]) (rest := []) ⟨hx, hb, hml, hown, hts⟩ (m5_passes2 l h0 h1 a b s.heap hp1) (cwV 1 hts (lw_V q504 q505 q506 q27 q507) rfl rfl rfl (by decide +kernel) ⟨Nat.le_of_ble_eq_true rfl, Nat.le_of_ble_eq_true rfl⟩) (preV hK (rcv hK hp0 0 rfl rfl)) rfl rfl hl.1 rfl (lv_room (Nat.le_of_ble_eq_true rfl)) dX5_passes_5 ⟨Nat.le_of_ble_eq_true rfl, Nat.le_of_ble_eq_true rfl⟩) (fun r1 hr1 => ?_)
  have hq9 : (fun r H1 => H1 = s.heap ∧ r = bI (0 ≤ a) : Int32 → Heap → Prop) r1 s.heap := ⟨rfl, hr1⟩
  exact W.zret (v := r1) hx hb hr (by rw [hr1]; exact bI_nar _) (fun t ht hW => ⟨⟨_, rfl, by rw [ht]; exact hq9⟩, hS.F ht⟩) hS.2.2 dX5_passes_8

abbrev rm_m3_initS : Room := ({ frames := 1, cells := 0, slots := 0, locals := 12 })
set_option maxHeartbeats 4000000 in
set_option maxRecDepth 100000 in
theorem m3_initS (l : Launch) {D : va_G} {g : Nat → ClassId} (h0 h1 : Nat) (H : Heap) (hP : va_P D vwCl [(h0, .inr (3, [.null, .int 0]))] H) : Met l yX3_init (ws_ yX3_init cX3_init 2 none) rm_m3_initS (va_Pc [.ref h0, .ref h1] (PH D g H)) (QV (fun H1 => va_P D vwCl [(h0, .inr (3, [.ref h1, .int 0]))] H1) (Aw [h0] H.size)) 0 0 (Aw [h0] H.size) := by
  refine Met.ofW (cc := cX3_init) (maxL := 2) (ret := none) (by decide) rfl ?_
  intro p e s m args below meth c s₁ B hml hv
  obtain ⟨rfl, hH, hK⟩ := hv
  subst hH
  have hx := B.exec
  have hb := B.bytes
  have hr := B.returns
  have hts := atoms_spec (ws := ws_ yX3_init cX3_init 2 none) B.pre
  have hts : ∀ w ∈ lw_all, w.before _ s = true := fun w h => hts w (List.mem_cons_of_mem _ h)
  have hown : s.vm.findClass RX3 = some m.cls := findClass_of_methodNamed B.named
  have hlocks := B.notSynchronized
  have hin : meth.name = "<init>" := (name_of_methodNamed B.named B.method).1
  have hA : ∀ q, s.heap.size ≤ q → (Aw [h0] s.heap.size) q := fun q h => Or.inr h
  have hS : va_S (Aw [h0] s.heap.size) s.heap s.heap [] := va_S.rf
  have hD : va_D (Aw [h0] s.heap.size) [(h0, .inr (3, [.null, .int 0]))] := d1 (Or.inl (by simp))
  have hl := lv_entry ([.ref h0, .ref h1]) (n := 2) (Nat.le_of_ble_eq_true rfl)
  rw [lg_entry_eq]
  generalize (lg_sl ([.ref h0, .ref h1]) ++ List.replicate (2 - (lg_sl ([.ref h0, .ref h1])).length) Slot.unset).toArray = ls at hl ⊢
  have hl : lv_has ls 2 [(0, .ref h0), (1, .ref h1)] := hl
  refine lv_aload_n (pc := 0) hx hb dX3_init_0 rfl (lv_at hl 0 rfl) ?_
  refine W.objInit hx hb hown (hts _ q102) (hts _ q41) (hts _ q42) rfl (by rw [hml]; exact hl.1) rfl dX3_init_1 (Nat.le_of_ble_eq_true rfl) (Nat.le_of_ble_eq_true rfl) ?_
  refine W.eq (g2 := F0 m 4 ls []) rfl ?_
  refine lv_aload_n (pc := 4) hx hb dX3_init_4 rfl (lv_at hl 0 rfl) ?_
  refine lv_aload_n (pc := 5) hx hb dX3_init_5 rfl (lv_at hl 1 rfl) ?_
  refine va_putF (pc := 6) (D := D) (ci := 3) (v := .ref h1) (ty := .array (.object "java/lang/Object")) (C := RX3) (T := TX3) (N := 2) hx hb hts in_X3 tyX3 tyX3_ok nmX3 hown hK.1 hP hD hS 0 rfl rfl 0 (by decide) (hts _ q103) (fun _ h9 => h9) rfl hin rfl (by decide +kernel) rfl rfl (Nat.le_of_ble_eq_true rfl) dX3_init_6 (fun H locs hP hD hS => ?_)
  have hP : va_P D vwCl [(h0, .inr (3, [.ref h1, .int 0]))] H := hP
  have hD : va_D (Aw [h0] s.heap.size) [(h0, .inr (3, [.ref h1, .int 0]))] := hD
  have hq9 : (fun H1 => va_P D vwCl [(h0, .inr (3, [.ref h1, .int 0]))] H1 : Heap → Prop) H := hP
  exact W.vret hx hb hr (fun t ht hW => ⟨⟨rfl, by rw [ht]; exact hq9⟩, hS.F ht⟩) hS.2.2 dX3_init_9

abbrev rm_m3_addS : Room := ({ frames := 1, cells := 0, slots := 0, locals := 18 })
set_option maxHeartbeats 4000000 in
set_option maxRecDepth 100000 in
/-- Recent.add -/
theorem m3_addS (l : Launch) {D : va_G} {g : Nat → ClassId} (h0 qa h1 k : Nat) (f : Nat → Option Nat) (fs : List Value) (H : Heap) (hP : va_P D vwCl [(h0, .inr (3, [.ref qa, .int (nI k)])), (qa, .inl (g 2, 4, .inr (.inr (.inr (.inr f)))))] H) (hN : [h0, qa].Nodup) (hp1 : va_P D vwCl [(h1, .inr (1, fs))] H) (nhp1 : h1 ∉ [h0, qa]) (hk : k ≤ 4) (hel : ∀ i, i < k → ∀ y, f i = some y → ∃ fs, va_P D vwCl [(y, .inr (1, fs))] H) : Met l yX3_add (ws_ yX3_add cX3_add 2 none) rm_m3_addS (va_Pc [.ref h0, .ref h1] (PH D g H)) (QV (fun H1 => va_P D vwCl [(h0, .inr (3, [.ref qa, .int (nI (addK 4 k))])), (qa, .inl (g 2, 4, .inr (.inr (.inr (.inr (addF 4 k f h1))))))] H1) (Aw [h0, qa] H.size)) 0 0 (Aw [h0, qa] H.size) := by
  refine Met.ofW (cc := cX3_add) (maxL := 2) (ret := none) (by decide) rfl ?_
  intro p e s m args below meth c s₁ B hml hv
  obtain ⟨rfl, hH, hK⟩ := hv
  subst hH
  have hx := B.exec
  have hb := B.bytes
  have hr := B.returns
  have hts := atoms_spec (ws := ws_ yX3_add cX3_add 2 none) B.pre
  have hts : ∀ w ∈ lw_all, w.before _ s = true := fun w h => hts w (List.mem_cons_of_mem _ h)
  have hown : s.vm.findClass RX3 = some m.cls := findClass_of_methodNamed B.named
  have hlocks := B.notSynchronized
  have hA : ∀ q, s.heap.size ≤ q → (Aw [h0, qa] s.heap.size) q := fun q h => Or.inr h
  have hS : va_S (Aw [h0, qa] s.heap.size) s.heap s.heap [] := va_S.rf
  have hD : va_D (Aw [h0, qa] s.heap.size) [(h0, .inr (3, [.ref qa, .int (nI k)])), (qa, .inl (g 2, 4, .inr (.inr (.inr (.inr f)))))] := dOf hN (fun q h => Or.inl h)
  have ahp1 : ¬ (Aw [h0, qa] s.heap.size) h1 := naw nhp1 (hp1 0 _ rfl).lt
  have hl := lv_entry ([.ref h0, .ref h1]) (n := 2) (Nat.le_of_ble_eq_true rfl)
  rw [lg_entry_eq]
  generalize (lg_sl ([.ref h0, .ref h1]) ++ List.replicate (2 - (lg_sl ([.ref h0, .ref h1])).length) Slot.unset).toArray = ls at hl ⊢
  have hl : lv_has ls 2 [(0, .ref h0), (1, .ref h1)] := hl
  refine lv_aload_n (pc := 0) hx hb dX3_add_0 rfl (lv_at hl 0 rfl) ?_
  refine va_get (pc := 1) (D := D) (ci := 3) (v := .int (nI k)) (C := RX3) (T := TX3) (N := 2) hx hb hts in_X3 hown hK.1 hP 0 rfl rfl 1 (by decide) (hts _ q104) (fun _ h9 => h9) rfl dX3_add_1 ?_
  refine lv_aload_n (pc := 4) hx hb dX3_add_4 rfl (lv_at hl 0 rfl) ?_
  refine va_get (pc := 5) (D := D) (ci := 3) (v := .ref qa) (C := RX3) (T := TX3) (N := 2) hx hb hts in_X3 hown hK.1 hP 0 rfl rfl 0 (by decide) (hts _ q103) (fun _ h9 => h9) rfl dX3_add_5 ?_
  refine va_alen (pc := 8) (v := 4) hx hb hK.1 hP 1 2 rfl rfl rfl dX3_add_8 ?_
  refine lv_icmp_ne (pc := 9) (tgt := 41) hx hb dX3_add_9 (by decide) (fun cd1 => ?_) (fun cd1 => ?_)
  · have ncd1 : ¬ k = 4 := fun h => cd1 ((neq rfl (nl 4) (by omega) (by omega)).mpr h)
    refine lv_aload_n (pc := 41) hx hb dX3_add_41 rfl (lv_at hl 0 rfl) ?_
    refine va_get (pc := 42) (D := D) (ci := 3) (v := .ref qa) (C := RX3) (T := TX3) (N := 2) hx hb hts in_X3 hown hK.1 hP 0 rfl rfl 0 (by decide) (hts _ q103) (fun _ h9 => h9) rfl dX3_add_42 ?_
    refine lv_aload_n (pc := 45) hx hb dX3_add_45 rfl (lv_at hl 0 rfl) ?_
    refine va_get (pc := 46) (D := D) (ci := 3) (v := .int (nI k)) (C := RX3) (T := TX3) (N := 2) hx hb hts in_X3 hown hK.1 hP 0 rfl rfl 1 (by decide) (hts _ q104) (fun _ h9 => h9) rfl dX3_add_46 ?_
    refine lv_aload_n (pc := 49) hx hb dX3_add_49 rfl (lv_at hl 1 rfl) ?_
    refine qa_st (pc := 50) (f' := (addF 4 k f h1)) hx hb hK.1 hP hD hS 1 2 k rfl rfl (rcv hK hp1 0 rfl rfl) rfl (by omega) (Nat.le_of_ble_eq_true rfl) (fun j _ => addF_free ncd1 j) dX3_add_50 (fun H locs hP hD hS => ?_)
    have hP : va_P D vwCl [(h0, .inr (3, [.ref qa, .int (nI k)])), (qa, .inl (g 2, 4, .inr (.inr (.inr (.inr (addF 4 k f h1))))))] H := hP
    have hD : va_D (Aw [h0, qa] s.heap.size) [(h0, .inr (3, [.ref qa, .int (nI k)])), (qa, .inl (g 2, 4, .inr (.inr (.inr (.inr (addF 4 k f h1))))))] := hD
    refine lv_aload_n (pc := 51) hx hb dX3_add_51 rfl (lv_at hl 0 rfl) ?_
    refine lv_dup (pc := 52) hx hb dX3_add_52 rfl ?_
    refine va_get (pc := 53) (D := D) (ci := 3) (v := .int (nI k)) (C := RX3) (T := TX3) (N := 2) hx hb hts in_X3 hown hK.1 hP 0 rfl rfl 1 (by decide) (hts _ q104) (fun _ h9 => h9) rfl dX3_add_53 ?_
    refine lv_iconst (pc := 56) (v := 1) hx hb dX3_add_56 (by decide) ?_
    refine lv_iadd (pc := 57) hx hb dX3_add_57 ?_
    refine lv_topi (fun z2 ez2 => ?_)
    refine va_put (pc := 58) (D := D) (ci := 3) (v := .int z2) (ty := .int) (C := RX3) (T := TX3) (N := 2) hx hb hts in_X3 tyX3 tyX3_ok nmX3 hown hK.1 hP hD hS 0 rfl rfl 1 (by decide) (hts _ q104) (fun _ h9 => h9) rfl (by decide +kernel) rfl rfl (Nat.le_of_ble_eq_true rfl) dX3_add_58 (fun H locs hP hD hS => ?_)
    have hP : va_P D vwCl [(h0, .inr (3, [.ref qa, .int z2])), (qa, .inl (g 2, 4, .inr (.inr (.inr (.inr (addF 4 k f h1))))))] H := hP
    have hD : va_D (Aw [h0, qa] s.heap.size) [(h0, .inr (3, [.ref qa, .int z2])), (qa, .inl (g 2, 4, .inr (.inr (.inr (.inr (addF 4 k f h1))))))] := hD
    have hq9 : (fun H1 => va_P D vwCl [(h0, .inr (3, [.ref qa, .int (nI (addK 4 k))])), (qa, .inl (g 2, 4, .inr (.inr (.inr (.inr (addF 4 k f h1))))))] H1 : Heap → Prop) H := by rw [show z2 = nI (addK 4 k) from ((ez2.trans (nadd rfl (nl 1)))).trans (congrArg nI (by unfold addK; split <;> omega))] at hP; exact hP
    exact W.vret hx hb hr (fun t ht hW => ⟨⟨rfl, by rw [ht]; exact hq9⟩, hS.F ht⟩) hS.2.2 dX3_add_61
  · have ncd1 : k = 4 := (neq rfl (nl 4) (by omega) (by omega)).mp cd1
    refine lv_aload_n (pc := 12) hx hb dX3_add_12 rfl (lv_at hl 0 rfl) ?_
    refine va_get (pc := 13) (D := D) (ci := 3) (v := .ref qa) (C := RX3) (T := TX3) (N := 2) hx hb hts in_X3 hown hK.1 hP 0 rfl rfl 0 (by decide) (hts _ q103) (fun _ h9 => h9) rfl dX3_add_13 ?_
    refine lv_iconst (pc := 16) (v := 1) hx hb dX3_add_16 (by decide) ?_
    refine lv_aload_n (pc := 17) hx hb dX3_add_17 rfl (lv_at hl 0 rfl) ?_
    refine va_get (pc := 18) (D := D) (ci := 3) (v := .ref qa) (C := RX3) (T := TX3) (N := 2) hx hb hts in_X3 hown hK.1 hP 0 rfl rfl 0 (by decide) (hts _ q103) (fun _ h9 => h9) rfl dX3_add_18 ?_
    refine lv_iconst (pc := 21) (v := 0) hx hb dX3_add_21 (by decide) ?_
    refine lv_aload_n (pc := 22) hx hb dX3_add_22 rfl (lv_at hl 0 rfl) ?_
    refine va_get (pc := 23) (D := D) (ci := 3) (v := .int (nI k)) (C := RX3) (T := TX3) (N := 2) hx hb hts in_X3 hown hK.1 hP 0 rfl rfl 1 (by decide) (hts _ q104) (fun _ h9 => h9) rfl dX3_add_23 ?_
    refine lv_iconst (pc := 26) (v := 1) hx hb dX3_add_26 (by decide) ?_
    refine lv_isub (pc := 27) hx hb dX3_add_27 ?_
    refine qa_cpy (pc := 28) (g' := (va_cpy f f 1 0 (k - 1))) hx hb (by rw [hml]; exact hl.1.symm) hown (hts _ q232) (hts _ q227) (hts _ q226) (hts _ q29) hK.1 hP hD hS 1 2 (hP 1 _ rfl) rfl rfl 1 0 (k - 1) (nl 1) (nl 0) (nsub rfl (nl 1) (by omega)) (by omega) (by omega) (Nat.le_of_ble_eq_true rfl) (Nat.le_of_ble_eq_true rfl) (fun i hi y hy => by obtain ⟨fs9, h9⟩ := hel (1 + i) (by omega) y hy; exact rcv hK h9 0 rfl rfl) (fun _ _ => rfl) (Nat.le_of_ble_eq_true rfl) (Nat.le_of_ble_eq_true rfl) dX3_add_28 (fun H locs hP hD hS => ?_)
    have hP : va_P D vwCl [(h0, .inr (3, [.ref qa, .int (nI k)])), (qa, .inl (g 2, 4, .inr (.inr (.inr (.inr (va_cpy f f 1 0 (k - 1)))))))] H := hP
    have hD : va_D (Aw [h0, qa] s.heap.size) [(h0, .inr (3, [.ref qa, .int (nI k)])), (qa, .inl (g 2, 4, .inr (.inr (.inr (.inr (va_cpy f f 1 0 (k - 1)))))))] := hD
    refine lv_aload_n (pc := 31) hx hb dX3_add_31 rfl (lv_at hl 0 rfl) ?_
    refine lv_dup (pc := 32) hx hb dX3_add_32 rfl ?_
    refine va_get (pc := 33) (D := D) (ci := 3) (v := .int (nI k)) (C := RX3) (T := TX3) (N := 2) hx hb hts in_X3 hown hK.1 hP 0 rfl rfl 1 (by decide) (hts _ q104) (fun _ h9 => h9) rfl dX3_add_33 ?_
    refine lv_iconst (pc := 36) (v := 1) hx hb dX3_add_36 (by decide) ?_
    refine lv_isub (pc := 37) hx hb dX3_add_37 ?_
    refine lv_topi (fun z3 ez3 => ?_)
    refine va_put (pc := 38) (D := D) (ci := 3) (v := .int z3) (ty := .int) (C := RX3) (T := TX3) (N := 2) hx hb hts in_X3 tyX3 tyX3_ok nmX3 hown hK.1 hP hD hS 0 rfl rfl 1 (by decide) (hts _ q104) (fun _ h9 => h9) rfl (by decide +kernel) rfl rfl (Nat.le_of_ble_eq_true rfl) dX3_add_38 (fun H locs hP hD hS => ?_)
    have hP : va_P D vwCl [(h0, .inr (3, [.ref qa, .int z3])), (qa, .inl (g 2, 4, .inr (.inr (.inr (.inr (va_cpy f f 1 0 (k - 1)))))))] H := hP
    have hD : va_D (Aw [h0, qa] s.heap.size) [(h0, .inr (3, [.ref qa, .int z3])), (qa, .inl (g 2, 4, .inr (.inr (.inr (.inr (va_cpy f f 1 0 (k - 1)))))))] := hD
    refine lv_aload_n (pc := 41) hx hb dX3_add_41 rfl (lv_at hl 0 rfl) ?_
    refine va_get (pc := 42) (D := D) (ci := 3) (v := .ref qa) (C := RX3) (T := TX3) (N := 2) hx hb hts in_X3 hown hK.1 hP 0 rfl rfl 0 (by decide) (hts _ q103) (fun _ h9 => h9) rfl dX3_add_42 ?_
    refine lv_aload_n (pc := 45) hx hb dX3_add_45 rfl (lv_at hl 0 rfl) ?_
    refine va_get (pc := 46) (D := D) (ci := 3) (v := .int z3) (C := RX3) (T := TX3) (N := 2) hx hb hts in_X3 hown hK.1 hP 0 rfl rfl 1 (by decide) (hts _ q104) (fun _ h9 => h9) rfl dX3_add_46 ?_
    refine lv_aload_n (pc := 49) hx hb dX3_add_49 rfl (lv_at hl 1 rfl) ?_
    refine qa_st (pc := 50) (f' := (addF 4 k f h1)) hx hb hK.1 hP hD hS 1 2 (k - 1) rfl rfl (rcv hK (ro_at hS hp1 ahp1) 0 rfl rfl) (ez3.trans (nsub rfl (nl 1) (by omega))) (by omega) (Nat.le_of_ble_eq_true rfl) (fun j hj => addF_full ncd1 (by omega) j hj) dX3_add_50 (fun H locs hP hD hS => ?_)
    have hP : va_P D vwCl [(h0, .inr (3, [.ref qa, .int z3])), (qa, .inl (g 2, 4, .inr (.inr (.inr (.inr (addF 4 k f h1))))))] H := hP
    have hD : va_D (Aw [h0, qa] s.heap.size) [(h0, .inr (3, [.ref qa, .int z3])), (qa, .inl (g 2, 4, .inr (.inr (.inr (.inr (addF 4 k f h1))))))] := hD
    refine lv_aload_n (pc := 51) hx hb dX3_add_51 rfl (lv_at hl 0 rfl) ?_
    refine lv_dup (pc := 52) hx hb dX3_add_52 rfl ?_
    refine va_get (pc := 53) (D := D) (ci := 3) (v := .int z3) (C := RX3) (T := TX3) (N := 2) hx hb hts in_X3 hown hK.1 hP 0 rfl rfl 1 (by decide) (hts _ q104) (fun _ h9 => h9) rfl dX3_add_53 ?_
    refine lv_iconst (pc := 56) (v := 1) hx hb dX3_add_56 (by decide) ?_
    refine lv_iadd (pc := 57) hx hb dX3_add_57 ?_
    refine lv_topi (fun z4 ez4 => ?_)
    refine va_put (pc := 58) (D := D) (ci := 3) (v := .int z4) (ty := .int) (C := RX3) (T := TX3) (N := 2) hx hb hts in_X3 tyX3 tyX3_ok nmX3 hown hK.1 hP hD hS 0 rfl rfl 1 (by decide) (hts _ q104) (fun _ h9 => h9) rfl (by decide +kernel) rfl rfl (Nat.le_of_ble_eq_true rfl) dX3_add_58 (fun H locs hP hD hS => ?_)
    have hP : va_P D vwCl [(h0, .inr (3, [.ref qa, .int z4])), (qa, .inl (g 2, 4, .inr (.inr (.inr (.inr (addF 4 k f h1))))))] H := hP
    have hD : va_D (Aw [h0, qa] s.heap.size) [(h0, .inr (3, [.ref qa, .int z4])), (qa, .inl (g 2, 4, .inr (.inr (.inr (.inr (addF 4 k f h1))))))] := hD
    have hq9 : (fun H1 => va_P D vwCl [(h0, .inr (3, [.ref qa, .int (nI (addK 4 k))])), (qa, .inl (g 2, 4, .inr (.inr (.inr (.inr (addF 4 k f h1))))))] H1 : Heap → Prop) H := by rw [show z4 = nI (addK 4 k) from ((ez4.trans (nadd (ez3.trans (nsub rfl (nl 1) (by omega))) (nl 1)))).trans (congrArg nI (by unfold addK; split <;> omega))] at hP; exact hP
    exact W.vret hx hb hr (fun t ht hW => ⟨⟨rfl, by rw [ht]; exact hq9⟩, hS.F ht⟩) hS.2.2 dX3_add_61

abbrev rm_m3_getS : Room := ({ frames := 0, cells := 0, slots := 0, locals := 0 })
set_option maxHeartbeats 4000000 in
set_option maxRecDepth 100000 in
theorem m3_getS (l : Launch) {D : va_G} {g : Nat → ClassId} (h0 qa k y : Nat) (sz : Int32) (f : Nat → Option Nat) (H : Heap) (hp0 : va_P D vwCl [(h0, .inr (3, [.ref qa, .int sz]))] H) (hp1 : va_P D vwCl [(qa, .inl (g 2, 4, .inr (.inr (.inr (.inr f)))))] H) (hk : k < 4) (hy : f k = some y) : Met l yX3_get (ws_ yX3_get cX3_get 2 (some (.object "java/lang/Object"))) rm_m3_getS (va_Pc [.ref h0, .int (nI k)] (PH D g H)) (QR (fun r H1 => H1 = H ∧ r = y) (fun _ => False)) 0 0 (fun _ => False) := by
  refine Met.ofW (cc := cX3_get) (maxL := 2) (ret := (some (.object "java/lang/Object"))) (by decide) rfl ?_
  intro p e s m args below meth c s₁ B hml hv
  obtain ⟨rfl, hH, hK⟩ := hv
  subst hH
  have hx := B.exec
  have hb := B.bytes
  have hr := B.returns
  have hts := atoms_spec (ws := ws_ yX3_get cX3_get 2 (some (.object "java/lang/Object"))) B.pre
  have hts : ∀ w ∈ lw_all, w.before _ s = true := fun w h => hts w (List.mem_cons_of_mem _ h)
  have hown : s.vm.findClass RX3 = some m.cls := findClass_of_methodNamed B.named
  have hlocks := B.notSynchronized
  have hS : va_S (fun _ => False) s.heap s.heap [] := va_S.rf
  have hl := lv_entry ([.ref h0, .int (nI k)]) (n := 2) (Nat.le_of_ble_eq_true rfl)
  rw [lg_entry_eq]
  generalize (lg_sl ([.ref h0, .int (nI k)]) ++ List.replicate (2 - (lg_sl ([.ref h0, .int (nI k)])).length) Slot.unset).toArray = ls at hl ⊢
  have hl : lv_has ls 2 [(0, .ref h0), (1, .int (nI k))] := hl
  refine lv_aload_n (pc := 0) hx hb dX3_get_0 rfl (lv_at hl 0 rfl) ?_
  refine va_get (pc := 1) (D := D) (ci := 3) (v := .ref qa) (C := RX3) (T := TX3) (N := 2) hx hb hts in_X3 hown hK.1 hp0 0 rfl rfl 0 (by decide) (hts _ q103) (fun _ h9 => h9) rfl dX3_get_1 ?_
  refine lv_iload_n (pc := 4) hx hb dX3_get_4 rfl (lv_at hl 1 rfl) ?_
  refine qa_ld (pc := 5) (y := y) hx hb hK.1 hp1 0 2 k rfl rfl rfl hk (Nat.le_of_ble_eq_true rfl) hy dX3_get_5 ?_
  have hq9 : (fun r H1 => H1 = s.heap ∧ r = y : Nat → Heap → Prop) y s.heap := ⟨rfl, rfl⟩
  exact W.aret (v := .ref y) hx hb hr (Or.inl ⟨_, rfl⟩) (Or.inr ⟨_, rfl⟩) (fun t ht hW => ⟨⟨_, rfl, by rw [ht]; exact hq9⟩, hS.F ht⟩) hS.2.2 dX3_get_6

abbrev rm_m3_addE : Room := ({ frames := 1, cells := 0, slots := 0, locals := 18 })
set_option maxHeartbeats 4000000 in
set_option maxRecDepth 100000 in
/-- Recent.add -/
theorem m3_addE (l : Launch) {D : va_G} {g : Nat → ClassId} (h0 qa h1 k : Nat) (f : Nat → Option Nat) (fs : List Value) (H : Heap) (hP : va_P D vwCl [(h0, .inr (3, [.ref qa, .int (nI k)])), (qa, .inl (g 3, 24, .inr (.inr (.inr (.inr f)))))] H) (hN : [h0, qa].Nodup) (hp1 : va_P D vwCl [(h1, .inr (8, fs))] H) (nhp1 : h1 ∉ [h0, qa]) (hk : k ≤ 24) (hel : ∀ i, i < k → ∀ y, f i = some y → ∃ fs, va_P D vwCl [(y, .inr (8, fs))] H) : Met l yX3_add (ws_ yX3_add cX3_add 2 none) rm_m3_addE (va_Pc [.ref h0, .ref h1] (PH D g H)) (QV (fun H1 => va_P D vwCl [(h0, .inr (3, [.ref qa, .int (nI (addK 24 k))])), (qa, .inl (g 3, 24, .inr (.inr (.inr (.inr (addF 24 k f h1))))))] H1) (Aw [h0, qa] H.size)) 0 0 (Aw [h0, qa] H.size) := by
  refine Met.ofW (cc := cX3_add) (maxL := 2) (ret := none) (by decide) rfl ?_
  intro p e s m args below meth c s₁ B hml hv
  obtain ⟨rfl, hH, hK⟩ := hv
  subst hH
  have hx := B.exec
  have hb := B.bytes
  have hr := B.returns
  have hts := atoms_spec (ws := ws_ yX3_add cX3_add 2 none) B.pre
  have hts : ∀ w ∈ lw_all, w.before _ s = true := fun w h => hts w (List.mem_cons_of_mem _ h)
  have hown : s.vm.findClass RX3 = some m.cls := findClass_of_methodNamed B.named
  have hlocks := B.notSynchronized
  have hA : ∀ q, s.heap.size ≤ q → (Aw [h0, qa] s.heap.size) q := fun q h => Or.inr h
  have hS : va_S (Aw [h0, qa] s.heap.size) s.heap s.heap [] := va_S.rf
  have hD : va_D (Aw [h0, qa] s.heap.size) [(h0, .inr (3, [.ref qa, .int (nI k)])), (qa, .inl (g 3, 24, .inr (.inr (.inr (.inr f)))))] := dOf hN (fun q h => Or.inl h)
  have ahp1 : ¬ (Aw [h0, qa] s.heap.size) h1 := naw nhp1 (hp1 0 _ rfl).lt
  have hl := lv_entry ([.ref h0, .ref h1]) (n := 2) (Nat.le_of_ble_eq_true rfl)
  rw [lg_entry_eq]
  generalize (lg_sl ([.ref h0, .ref h1]) ++ List.replicate (2 - (lg_sl ([.ref h0, .ref h1])).length) Slot.unset).toArray = ls at hl ⊢
  have hl : lv_has ls 2 [(0, .ref h0), (1, .ref h1)] := hl
  refine lv_aload_n (pc := 0) hx hb dX3_add_0 rfl (lv_at hl 0 rfl) ?_
  refine va_get (pc := 1) (D := D) (ci := 3) (v := .int (nI k)) (C := RX3) (T := TX3) (N := 2) hx hb hts in_X3 hown hK.1 hP 0 rfl rfl 1 (by decide) (hts _ q104) (fun _ h9 => h9) rfl dX3_add_1 ?_
  refine lv_aload_n (pc := 4) hx hb dX3_add_4 rfl (lv_at hl 0 rfl) ?_
  refine va_get (pc := 5) (D := D) (ci := 3) (v := .ref qa) (C := RX3) (T := TX3) (N := 2) hx hb hts in_X3 hown hK.1 hP 0 rfl rfl 0 (by decide) (hts _ q103) (fun _ h9 => h9) rfl dX3_add_5 ?_
  refine va_alen (pc := 8) (v := 24) hx hb hK.1 hP 1 3 rfl rfl rfl dX3_add_8 ?_
  refine lv_icmp_ne (pc := 9) (tgt := 41) hx hb dX3_add_9 (by decide) (fun cd1 => ?_) (fun cd1 => ?_)
  · have ncd1 : ¬ k = 24 := fun h => cd1 ((neq rfl (nl 24) (by omega) (by omega)).mpr h)
    refine lv_aload_n (pc := 41) hx hb dX3_add_41 rfl (lv_at hl 0 rfl) ?_
    refine va_get (pc := 42) (D := D) (ci := 3) (v := .ref qa) (C := RX3) (T := TX3) (N := 2) hx hb hts in_X3 hown hK.1 hP 0 rfl rfl 0 (by decide) (hts _ q103) (fun _ h9 => h9) rfl dX3_add_42 ?_
    refine lv_aload_n (pc := 45) hx hb dX3_add_45 rfl (lv_at hl 0 rfl) ?_
    refine va_get (pc := 46) (D := D) (ci := 3) (v := .int (nI k)) (C := RX3) (T := TX3) (N := 2) hx hb hts in_X3 hown hK.1 hP 0 rfl rfl 1 (by decide) (hts _ q104) (fun _ h9 => h9) rfl dX3_add_46 ?_
    refine lv_aload_n (pc := 49) hx hb dX3_add_49 rfl (lv_at hl 1 rfl) ?_
    refine qa_st (pc := 50) (f' := (addF 24 k f h1)) hx hb hK.1 hP hD hS 1 3 k rfl rfl (rcv hK hp1 0 rfl rfl) rfl (by omega) (Nat.le_of_ble_eq_true rfl) (fun j _ => addF_free ncd1 j) dX3_add_50 (fun H locs hP hD hS => ?_)
    have hP : va_P D vwCl [(h0, .inr (3, [.ref qa, .int (nI k)])), (qa, .inl (g 3, 24, .inr (.inr (.inr (.inr (addF 24 k f h1))))))] H := hP
    have hD : va_D (Aw [h0, qa] s.heap.size) [(h0, .inr (3, [.ref qa, .int (nI k)])), (qa, .inl (g 3, 24, .inr (.inr (.inr (.inr (addF 24 k f h1))))))] := hD
    refine lv_aload_n (pc := 51) hx hb dX3_add_51 rfl (lv_at hl 0 rfl) ?_
    refine lv_dup (pc := 52) hx hb dX3_add_52 rfl ?_
    refine va_get (pc := 53) (D := D) (ci := 3) (v := .int (nI k)) (C := RX3) (T := TX3) (N := 2) hx hb hts in_X3 hown hK.1 hP 0 rfl rfl 1 (by decide) (hts _ q104) (fun _ h9 => h9) rfl dX3_add_53 ?_
    refine lv_iconst (pc := 56) (v := 1) hx hb dX3_add_56 (by decide) ?_
    refine lv_iadd (pc := 57) hx hb dX3_add_57 ?_
    refine lv_topi (fun z2 ez2 => ?_)
    refine va_put (pc := 58) (D := D) (ci := 3) (v := .int z2) (ty := .int) (C := RX3) (T := TX3) (N := 2) hx hb hts in_X3 tyX3 tyX3_ok nmX3 hown hK.1 hP hD hS 0 rfl rfl 1 (by decide) (hts _ q104) (fun _ h9 => h9) rfl (by decide +kernel) rfl rfl (Nat.le_of_ble_eq_true rfl) dX3_add_58 (fun H locs hP hD hS => ?_)
    have hP : va_P D vwCl [(h0, .inr (3, [.ref qa, .int z2])), (qa, .inl (g 3, 24, .inr (.inr (.inr (.inr (addF 24 k f h1))))))] H := hP
    have hD : va_D (Aw [h0, qa] s.heap.size) [(h0, .inr (3, [.ref qa, .int z2])), (qa, .inl (g 3, 24, .inr (.inr (.inr (.inr (addF 24 k f h1))))))] := hD
    have hq9 : (fun H1 => va_P D vwCl [(h0, .inr (3, [.ref qa, .int (nI (addK 24 k))])), (qa, .inl (g 3, 24, .inr (.inr (.inr (.inr (addF 24 k f h1))))))] H1 : Heap → Prop) H := by rw [show z2 = nI (addK 24 k) from ((ez2.trans (nadd rfl (nl 1)))).trans (congrArg nI (by unfold addK; split <;> omega))] at hP; exact hP
    exact W.vret hx hb hr (fun t ht hW => ⟨⟨rfl, by rw [ht]; exact hq9⟩, hS.F ht⟩) hS.2.2 dX3_add_61
  · have ncd1 : k = 24 := (neq rfl (nl 24) (by omega) (by omega)).mp cd1
    refine lv_aload_n (pc := 12) hx hb dX3_add_12 rfl (lv_at hl 0 rfl) ?_
    refine va_get (pc := 13) (D := D) (ci := 3) (v := .ref qa) (C := RX3) (T := TX3) (N := 2) hx hb hts in_X3 hown hK.1 hP 0 rfl rfl 0 (by decide) (hts _ q103) (fun _ h9 => h9) rfl dX3_add_13 ?_
    refine lv_iconst (pc := 16) (v := 1) hx hb dX3_add_16 (by decide) ?_
    refine lv_aload_n (pc := 17) hx hb dX3_add_17 rfl (lv_at hl 0 rfl) ?_
    refine va_get (pc := 18) (D := D) (ci := 3) (v := .ref qa) (C := RX3) (T := TX3) (N := 2) hx hb hts in_X3 hown hK.1 hP 0 rfl rfl 0 (by decide) (hts _ q103) (fun _ h9 => h9) rfl dX3_add_18 ?_
    refine lv_iconst (pc := 21) (v := 0) hx hb dX3_add_21 (by decide) ?_
    refine lv_aload_n (pc := 22) hx hb dX3_add_22 rfl (lv_at hl 0 rfl) ?_
    refine va_get (pc := 23) (D := D) (ci := 3) (v := .int (nI k)) (C := RX3) (T := TX3) (N := 2) hx hb hts in_X3 hown hK.1 hP 0 rfl rfl 1 (by decide) (hts _ q104) (fun _ h9 => h9) rfl dX3_add_23 ?_
    refine lv_iconst (pc := 26) (v := 1) hx hb dX3_add_26 (by decide) ?_
    refine lv_isub (pc := 27) hx hb dX3_add_27 ?_
    refine qa_cpy (pc := 28) (g' := (va_cpy f f 1 0 (k - 1))) hx hb (by rw [hml]; exact hl.1.symm) hown (hts _ q232) (hts _ q227) (hts _ q226) (hts _ q29) hK.1 hP hD hS 1 3 (hP 1 _ rfl) rfl rfl 1 0 (k - 1) (nl 1) (nl 0) (nsub rfl (nl 1) (by omega)) (by omega) (by omega) (Nat.le_of_ble_eq_true rfl) (Nat.le_of_ble_eq_true rfl) (fun i hi y hy => by obtain ⟨fs9, h9⟩ := hel (1 + i) (by omega) y hy; exact rcv hK h9 0 rfl rfl) (fun _ _ => rfl) (Nat.le_of_ble_eq_true rfl) (Nat.le_of_ble_eq_true rfl) dX3_add_28 (fun H locs hP hD hS => ?_)
    have hP : va_P D vwCl [(h0, .inr (3, [.ref qa, .int (nI k)])), (qa, .inl (g 3, 24, .inr (.inr (.inr (.inr (va_cpy f f 1 0 (k - 1)))))))] H := hP
    have hD : va_D (Aw [h0, qa] s.heap.size) [(h0, .inr (3, [.ref qa, .int (nI k)])), (qa, .inl (g 3, 24, .inr (.inr (.inr (.inr (va_cpy f f 1 0 (k - 1)))))))] := hD
    refine lv_aload_n (pc := 31) hx hb dX3_add_31 rfl (lv_at hl 0 rfl) ?_
    refine lv_dup (pc := 32) hx hb dX3_add_32 rfl ?_
    refine va_get (pc := 33) (D := D) (ci := 3) (v := .int (nI k)) (C := RX3) (T := TX3) (N := 2) hx hb hts in_X3 hown hK.1 hP 0 rfl rfl 1 (by decide) (hts _ q104) (fun _ h9 => h9) rfl dX3_add_33 ?_
    refine lv_iconst (pc := 36) (v := 1) hx hb dX3_add_36 (by decide) ?_
    refine lv_isub (pc := 37) hx hb dX3_add_37 ?_
    refine lv_topi (fun z3 ez3 => ?_)
    refine va_put (pc := 38) (D := D) (ci := 3) (v := .int z3) (ty := .int) (C := RX3) (T := TX3) (N := 2) hx hb hts in_X3 tyX3 tyX3_ok nmX3 hown hK.1 hP hD hS 0 rfl rfl 1 (by decide) (hts _ q104) (fun _ h9 => h9) rfl (by decide +kernel) rfl rfl (Nat.le_of_ble_eq_true rfl) dX3_add_38 (fun H locs hP hD hS => ?_)
    have hP : va_P D vwCl [(h0, .inr (3, [.ref qa, .int z3])), (qa, .inl (g 3, 24, .inr (.inr (.inr (.inr (va_cpy f f 1 0 (k - 1)))))))] H := hP
    have hD : va_D (Aw [h0, qa] s.heap.size) [(h0, .inr (3, [.ref qa, .int z3])), (qa, .inl (g 3, 24, .inr (.inr (.inr (.inr (va_cpy f f 1 0 (k - 1)))))))] := hD
    refine lv_aload_n (pc := 41) hx hb dX3_add_41 rfl (lv_at hl 0 rfl) ?_
    refine va_get (pc := 42) (D := D) (ci := 3) (v := .ref qa) (C := RX3) (T := TX3) (N := 2) hx hb hts in_X3 hown hK.1 hP 0 rfl rfl 0 (by decide) (hts _ q103) (fun _ h9 => h9) rfl dX3_add_42 ?_
    refine lv_aload_n (pc := 45) hx hb dX3_add_45 rfl (lv_at hl 0 rfl) ?_
    refine va_get (pc := 46) (D := D) (ci := 3) (v := .int z3) (C := RX3) (T := TX3) (N := 2) hx hb hts in_X3 hown hK.1 hP 0 rfl rfl 1 (by decide) (hts _ q104) (fun _ h9 => h9) rfl dX3_add_46 ?_
    refine lv_aload_n (pc := 49) hx hb dX3_add_49 rfl (lv_at hl 1 rfl) ?_
    refine qa_st (pc := 50) (f' := (addF 24 k f h1)) hx hb hK.1 hP hD hS 1 3 (k - 1) rfl rfl (rcv hK (ro_at hS hp1 ahp1) 0 rfl rfl) (ez3.trans (nsub rfl (nl 1) (by omega))) (by omega) (Nat.le_of_ble_eq_true rfl) (fun j hj => addF_full ncd1 (by omega) j hj) dX3_add_50 (fun H locs hP hD hS => ?_)
    have hP : va_P D vwCl [(h0, .inr (3, [.ref qa, .int z3])), (qa, .inl (g 3, 24, .inr (.inr (.inr (.inr (addF 24 k f h1))))))] H := hP
    have hD : va_D (Aw [h0, qa] s.heap.size) [(h0, .inr (3, [.ref qa, .int z3])), (qa, .inl (g 3, 24, .inr (.inr (.inr (.inr (addF 24 k f h1))))))] := hD
    refine lv_aload_n (pc := 51) hx hb dX3_add_51 rfl (lv_at hl 0 rfl) ?_
    refine lv_dup (pc := 52) hx hb dX3_add_52 rfl ?_
    refine va_get (pc := 53) (D := D) (ci := 3) (v := .int z3) (C := RX3) (T := TX3) (N := 2) hx hb hts in_X3 hown hK.1 hP 0 rfl rfl 1 (by decide) (hts _ q104) (fun _ h9 => h9) rfl dX3_add_53 ?_
    refine lv_iconst (pc := 56) (v := 1) hx hb dX3_add_56 (by decide) ?_
    refine lv_iadd (pc := 57) hx hb dX3_add_57 ?_
    refine lv_topi (fun z4 ez4 => ?_)
    refine va_put (pc := 58) (D := D) (ci := 3) (v := .int z4) (ty := .int) (C := RX3) (T := TX3) (N := 2) hx hb hts in_X3 tyX3 tyX3_ok nmX3 hown hK.1 hP hD hS 0 rfl rfl 1 (by decide) (hts _ q104) (fun _ h9 => h9) rfl (by decide +kernel) rfl rfl (Nat.le_of_ble_eq_true rfl) dX3_add_58 (fun H locs hP hD hS => ?_)
    have hP : va_P D vwCl [(h0, .inr (3, [.ref qa, .int z4])), (qa, .inl (g 3, 24, .inr (.inr (.inr (.inr (addF 24 k f h1))))))] H := hP
    have hD : va_D (Aw [h0, qa] s.heap.size) [(h0, .inr (3, [.ref qa, .int z4])), (qa, .inl (g 3, 24, .inr (.inr (.inr (.inr (addF 24 k f h1))))))] := hD
    have hq9 : (fun H1 => va_P D vwCl [(h0, .inr (3, [.ref qa, .int (nI (addK 24 k))])), (qa, .inl (g 3, 24, .inr (.inr (.inr (.inr (addF 24 k f h1))))))] H1 : Heap → Prop) H := by rw [show z4 = nI (addK 24 k) from ((ez4.trans (nadd (ez3.trans (nsub rfl (nl 1) (by omega))) (nl 1)))).trans (congrArg nI (by unfold addK; split <;> omega))] at hP; exact hP
    exact W.vret hx hb hr (fun t ht hW => ⟨⟨rfl, by rw [ht]; exact hq9⟩, hS.F ht⟩) hS.2.2 dX3_add_61

abbrev rm_m3_getE : Room := ({ frames := 0, cells := 0, slots := 0, locals := 0 })
set_option maxHeartbeats 4000000 in
set_option maxRecDepth 100000 in
theorem m3_getE (l : Launch) {D : va_G} {g : Nat → ClassId} (h0 qa k y : Nat) (sz : Int32) (f : Nat → Option Nat) (H : Heap) (hp0 : va_P D vwCl [(h0, .inr (3, [.ref qa, .int sz]))] H) (hp1 : va_P D vwCl [(qa, .inl (g 3, 24, .inr (.inr (.inr (.inr f)))))] H) (hk : k < 24) (hy : f k = some y) : Met l yX3_get (ws_ yX3_get cX3_get 2 (some (.object "java/lang/Object"))) rm_m3_getE (va_Pc [.ref h0, .int (nI k)] (PH D g H)) (QR (fun r H1 => H1 = H ∧ r = y) (fun _ => False)) 0 0 (fun _ => False) := by
  refine Met.ofW (cc := cX3_get) (maxL := 2) (ret := (some (.object "java/lang/Object"))) (by decide) rfl ?_
  intro p e s m args below meth c s₁ B hml hv
  obtain ⟨rfl, hH, hK⟩ := hv
  subst hH
  have hx := B.exec
  have hb := B.bytes
  have hr := B.returns
  have hts := atoms_spec (ws := ws_ yX3_get cX3_get 2 (some (.object "java/lang/Object"))) B.pre
  have hts : ∀ w ∈ lw_all, w.before _ s = true := fun w h => hts w (List.mem_cons_of_mem _ h)
  have hown : s.vm.findClass RX3 = some m.cls := findClass_of_methodNamed B.named
  have hlocks := B.notSynchronized
  have hS : va_S (fun _ => False) s.heap s.heap [] := va_S.rf
  have hl := lv_entry ([.ref h0, .int (nI k)]) (n := 2) (Nat.le_of_ble_eq_true rfl)
  rw [lg_entry_eq]
  generalize (lg_sl ([.ref h0, .int (nI k)]) ++ List.replicate (2 - (lg_sl ([.ref h0, .int (nI k)])).length) Slot.unset).toArray = ls at hl ⊢
  have hl : lv_has ls 2 [(0, .ref h0), (1, .int (nI k))] := hl
  refine lv_aload_n (pc := 0) hx hb dX3_get_0 rfl (lv_at hl 0 rfl) ?_
  refine va_get (pc := 1) (D := D) (ci := 3) (v := .ref qa) (C := RX3) (T := TX3) (N := 2) hx hb hts in_X3 hown hK.1 hp0 0 rfl rfl 0 (by decide) (hts _ q103) (fun _ h9 => h9) rfl dX3_get_1 ?_
  refine lv_iload_n (pc := 4) hx hb dX3_get_4 rfl (lv_at hl 1 rfl) ?_
  refine qa_ld (pc := 5) (y := y) hx hb hK.1 hp1 0 3 k rfl rfl rfl hk (Nat.le_of_ble_eq_true rfl) hy dX3_get_5 ?_
  have hq9 : (fun r H1 => H1 = s.heap ∧ r = y : Nat → Heap → Prop) y s.heap := ⟨rfl, rfl⟩
  exact W.aret (v := .ref y) hx hb hr (Or.inl ⟨_, rfl⟩) (Or.inr ⟨_, rfl⟩) (fun t ht hW => ⟨⟨_, rfl, by rw [ht]; exact hq9⟩, hS.F ht⟩) hS.2.2 dX3_get_6

abbrev rm_m3_removeLast : Room := ({ frames := 0, cells := 0, slots := 0, locals := 0 })
set_option maxHeartbeats 4000000 in
set_option maxRecDepth 100000 in
theorem m3_removeLast (l : Launch) {D : va_G} {g : Nat → ClassId} (h0 qa k y : Nat) (f : Nat → Option Nat) (H : Heap) (hP : va_P D vwCl [(h0, .inr (3, [.ref qa, .int (nI (k + 1))]))] H) (hp1 : va_P D vwCl [(qa, .inl (g 2, 4, .inr (.inr (.inr (.inr f)))))] H) (nhp1 : qa ∉ [h0]) (hk : k < 4) (hy : f k = some y) : Met l yX3_removeLast (ws_ yX3_removeLast cX3_removeLast 1 (some (.object "java/lang/Object"))) rm_m3_removeLast (va_Pc [.ref h0] (PH D g H)) (QR (fun r H1 => r = y ∧ va_P D vwCl [(h0, .inr (3, [.ref qa, .int (nI k)]))] H1) (Aw [h0] H.size)) 0 0 (Aw [h0] H.size) := by
  refine Met.ofW (cc := cX3_removeLast) (maxL := 1) (ret := (some (.object "java/lang/Object"))) (by decide) rfl ?_
  intro p e s m args below meth c s₁ B hml hv
  obtain ⟨rfl, hH, hK⟩ := hv
  subst hH
  have hx := B.exec
  have hb := B.bytes
  have hr := B.returns
  have hts := atoms_spec (ws := ws_ yX3_removeLast cX3_removeLast 1 (some (.object "java/lang/Object"))) B.pre
  have hts : ∀ w ∈ lw_all, w.before _ s = true := fun w h => hts w (List.mem_cons_of_mem _ h)
  have hown : s.vm.findClass RX3 = some m.cls := findClass_of_methodNamed B.named
  have hlocks := B.notSynchronized
  have hA : ∀ q, s.heap.size ≤ q → (Aw [h0] s.heap.size) q := fun q h => Or.inr h
  have hS : va_S (Aw [h0] s.heap.size) s.heap s.heap [] := va_S.rf
  have hD : va_D (Aw [h0] s.heap.size) [(h0, .inr (3, [.ref qa, .int (nI (k + 1))]))] := d1 (Or.inl (by simp))
  have ahp1 : ¬ (Aw [h0] s.heap.size) qa := naw nhp1 (hp1 0 _ rfl).lt
  have hl := lv_entry ([.ref h0]) (n := 1) (Nat.le_of_ble_eq_true rfl)
  rw [lg_entry_eq]
  generalize (lg_sl ([.ref h0]) ++ List.replicate (1 - (lg_sl ([.ref h0])).length) Slot.unset).toArray = ls at hl ⊢
  have hl : lv_has ls 1 [(0, .ref h0)] := hl
  refine lv_aload_n (pc := 0) hx hb dX3_removeLast_0 rfl (lv_at hl 0 rfl) ?_
  refine lv_dup (pc := 1) hx hb dX3_removeLast_1 rfl ?_
  refine va_get (pc := 2) (D := D) (ci := 3) (v := .int (nI (k + 1))) (C := RX3) (T := TX3) (N := 2) hx hb hts in_X3 hown hK.1 hP 0 rfl rfl 1 (by decide) (hts _ q104) (fun _ h9 => h9) rfl dX3_removeLast_2 ?_
  refine lv_iconst (pc := 5) (v := 1) hx hb dX3_removeLast_5 (by decide) ?_
  refine lv_isub (pc := 6) hx hb dX3_removeLast_6 ?_
  refine lv_topi (fun z1 ez1 => ?_)
  refine va_put (pc := 7) (D := D) (ci := 3) (v := .int z1) (ty := .int) (C := RX3) (T := TX3) (N := 2) hx hb hts in_X3 tyX3 tyX3_ok nmX3 hown hK.1 hP hD hS 0 rfl rfl 1 (by decide) (hts _ q104) (fun _ h9 => h9) rfl (by decide +kernel) rfl rfl (Nat.le_of_ble_eq_true rfl) dX3_removeLast_7 (fun H locs hP hD hS => ?_)
  have hP : va_P D vwCl [(h0, .inr (3, [.ref qa, .int z1]))] H := hP
  have hD : va_D (Aw [h0] s.heap.size) [(h0, .inr (3, [.ref qa, .int z1]))] := hD
  refine lv_aload_n (pc := 10) hx hb dX3_removeLast_10 rfl (lv_at hl 0 rfl) ?_
  refine va_get (pc := 11) (D := D) (ci := 3) (v := .ref qa) (C := RX3) (T := TX3) (N := 2) hx hb hts in_X3 hown hK.1 hP 0 rfl rfl 0 (by decide) (hts _ q103) (fun _ h9 => h9) rfl dX3_removeLast_11 ?_
  refine lv_aload_n (pc := 14) hx hb dX3_removeLast_14 rfl (lv_at hl 0 rfl) ?_
  refine va_get (pc := 15) (D := D) (ci := 3) (v := .int z1) (C := RX3) (T := TX3) (N := 2) hx hb hts in_X3 hown hK.1 hP 0 rfl rfl 1 (by decide) (hts _ q104) (fun _ h9 => h9) rfl dX3_removeLast_15 ?_
  refine qa_ld (pc := 18) (y := y) hx hb hK.1 (ro_at hS hp1 ahp1) 0 2 ((k + 1) - 1) rfl rfl (ez1.trans (nsub rfl (nl 1) (by omega))) (by omega) (Nat.le_of_ble_eq_true rfl) (by rw [show k + 1 - 1 = k by omega]; exact hy) dX3_removeLast_18 ?_
  have hq9 : (fun r H1 => r = y ∧ va_P D vwCl [(h0, .inr (3, [.ref qa, .int (nI k)]))] H1 : Nat → Heap → Prop) y H := ⟨rfl, by rw [show z1 = nI k from ((ez1.trans (nsub rfl (nl 1) (by omega)))).trans (congrArg nI (by omega))] at hP; exact hP⟩
  exact W.aret (v := .ref y) hx hb hr (Or.inl ⟨_, rfl⟩) (Or.inr ⟨_, rfl⟩) (fun t ht hW => ⟨⟨_, rfl, by rw [ht]; exact hq9⟩, hS.F ht⟩) hS.2.2 dX3_removeLast_19

abbrev rm_m3_copyFrom : Room := ({ frames := 1, cells := 0, slots := 0, locals := 18 })
set_option maxHeartbeats 4000000 in
set_option maxRecDepth 100000 in
theorem m3_copyFrom (l : Launch) {D : va_G} {g : Nat → ClassId} (h0 qa h1 qb k : Nat) (sz : Int32) (f o : Nat → Option Nat) (H : Heap) (hP : va_P D vwCl [(h0, .inr (3, [.ref qa, .int sz])), (qa, .inl (g 3, 24, .inr (.inr (.inr (.inr f)))))] H) (hN : [h0, qa].Nodup) (hp1 : va_P D vwCl [(h1, .inr (3, [.ref qb, .int (nI k)]))] H) (nhp1 : h1 ∉ [h0, qa]) (hp2 : va_P D vwCl [(qb, .inl (g 3, 24, .inr (.inr (.inr (.inr o)))))] H) (nhp2 : qb ∉ [h0, qa]) (hk : k ≤ 24) (hel : ∀ i, i < k → ∀ y, o i = some y → ∃ fs, va_P D vwCl [(y, .inr (8, fs))] H) : Met l yX3_copyFrom (ws_ yX3_copyFrom cX3_copyFrom 2 none) rm_m3_copyFrom (va_Pc [.ref h0, .ref h1] (PH D g H)) (QV (fun H1 => va_P D vwCl [(h0, .inr (3, [.ref qa, .int (nI k)])), (qa, .inl (g 3, 24, .inr (.inr (.inr (.inr (cpyF k o f))))))] H1) (Aw [h0, qa] H.size)) 0 0 (Aw [h0, qa] H.size) := by
  refine Met.ofW (cc := cX3_copyFrom) (maxL := 2) (ret := none) (by decide) rfl ?_
  intro p e s m args below meth c s₁ B hml hv
  obtain ⟨rfl, hH, hK⟩ := hv
  subst hH
  have hx := B.exec
  have hb := B.bytes
  have hr := B.returns
  have hts := atoms_spec (ws := ws_ yX3_copyFrom cX3_copyFrom 2 none) B.pre
  have hts : ∀ w ∈ lw_all, w.before _ s = true := fun w h => hts w (List.mem_cons_of_mem _ h)
  have hown : s.vm.findClass RX3 = some m.cls := findClass_of_methodNamed B.named
  have hlocks := B.notSynchronized
  have hA : ∀ q, s.heap.size ≤ q → (Aw [h0, qa] s.heap.size) q := fun q h => Or.inr h
  have hS : va_S (Aw [h0, qa] s.heap.size) s.heap s.heap [] := va_S.rf
  have hD : va_D (Aw [h0, qa] s.heap.size) [(h0, .inr (3, [.ref qa, .int sz])), (qa, .inl (g 3, 24, .inr (.inr (.inr (.inr f)))))] := dOf hN (fun q h => Or.inl h)
  have ahp1 : ¬ (Aw [h0, qa] s.heap.size) h1 := naw nhp1 (hp1 0 _ rfl).lt
  have ahp2 : ¬ (Aw [h0, qa] s.heap.size) qb := naw nhp2 (hp2 0 _ rfl).lt
  have hl := lv_entry ([.ref h0, .ref h1]) (n := 2) (Nat.le_of_ble_eq_true rfl)
  rw [lg_entry_eq]
  generalize (lg_sl ([.ref h0, .ref h1]) ++ List.replicate (2 - (lg_sl ([.ref h0, .ref h1])).length) Slot.unset).toArray = ls at hl ⊢
  have hl : lv_has ls 2 [(0, .ref h0), (1, .ref h1)] := hl
  refine lv_aload_n (pc := 0) hx hb dX3_copyFrom_0 rfl (lv_at hl 1 rfl) ?_
  refine va_get (pc := 1) (D := D) (ci := 3) (v := .ref qb) (C := RX3) (T := TX3) (N := 2) hx hb hts in_X3 hown hK.1 hp1 0 rfl rfl 0 (by decide) (hts _ q103) (fun _ h9 => h9) rfl dX3_copyFrom_1 ?_
  refine lv_iconst (pc := 4) (v := 0) hx hb dX3_copyFrom_4 (by decide) ?_
  refine lv_aload_n (pc := 5) hx hb dX3_copyFrom_5 rfl (lv_at hl 0 rfl) ?_
  refine va_get (pc := 6) (D := D) (ci := 3) (v := .ref qa) (C := RX3) (T := TX3) (N := 2) hx hb hts in_X3 hown hK.1 hP 0 rfl rfl 0 (by decide) (hts _ q103) (fun _ h9 => h9) rfl dX3_copyFrom_6 ?_
  refine lv_iconst (pc := 9) (v := 0) hx hb dX3_copyFrom_9 (by decide) ?_
  refine lv_aload_n (pc := 10) hx hb dX3_copyFrom_10 rfl (lv_at hl 1 rfl) ?_
  refine va_get (pc := 11) (D := D) (ci := 3) (v := .int (nI k)) (C := RX3) (T := TX3) (N := 2) hx hb hts in_X3 hown hK.1 hp1 0 rfl rfl 1 (by decide) (hts _ q104) (fun _ h9 => h9) rfl dX3_copyFrom_11 ?_
  refine qa_cpy (pc := 14) (g' := (cpyF k o f)) hx hb (by rw [hml]; exact hl.1.symm) hown (hts _ q232) (hts _ q227) (hts _ q226) (hts _ q29) hK.1 hP hD hS 1 3 (hp2 0 _ rfl) rfl rfl 0 0 k (nl 0) (nl 0) rfl (by omega) (by omega) (Nat.le_of_ble_eq_true rfl) (Nat.le_of_ble_eq_true rfl) (fun i hi y hy => by obtain ⟨fs9, h9⟩ := hel i hi y (by rw [← hy]; congr 1; omega); exact rcv hK h9 0 rfl rfl) (fun j _ => cpyF_eq j) (Nat.le_of_ble_eq_true rfl) (Nat.le_of_ble_eq_true rfl) dX3_copyFrom_14 (fun H locs hP hD hS => ?_)
  have hP : va_P D vwCl [(h0, .inr (3, [.ref qa, .int sz])), (qa, .inl (g 3, 24, .inr (.inr (.inr (.inr (cpyF k o f))))))] H := hP
  have hD : va_D (Aw [h0, qa] s.heap.size) [(h0, .inr (3, [.ref qa, .int sz])), (qa, .inl (g 3, 24, .inr (.inr (.inr (.inr (cpyF k o f))))))] := hD
  refine lv_aload_n (pc := 17) hx hb dX3_copyFrom_17 rfl (lv_at hl 0 rfl) ?_
  refine lv_aload_n (pc := 18) hx hb dX3_copyFrom_18 rfl (lv_at hl 1 rfl) ?_
  refine va_get (pc := 19) (D := D) (ci := 3) (v := .int (nI k)) (C := RX3) (T := TX3) (N := 2) hx hb hts in_X3 hown hK.1 (ro_at hS hp1 ahp1) 0 rfl rfl 1 (by decide) (hts _ q104) (fun _ h9 => h9) rfl dX3_copyFrom_19 ?_
  refine va_put (pc := 22) (D := D) (ci := 3) (v := .int (nI k)) (ty := .int) (C := RX3) (T := TX3) (N := 2) hx hb hts in_X3 tyX3 tyX3_ok nmX3 hown hK.1 hP hD hS 0 rfl rfl 1 (by decide) (hts _ q104) (fun _ h9 => h9) rfl (by decide +kernel) rfl rfl (Nat.le_of_ble_eq_true rfl) dX3_copyFrom_22 (fun H locs hP hD hS => ?_)
  have hP : va_P D vwCl [(h0, .inr (3, [.ref qa, .int (nI k)])), (qa, .inl (g 3, 24, .inr (.inr (.inr (.inr (cpyF k o f))))))] H := hP
  have hD : va_D (Aw [h0, qa] s.heap.size) [(h0, .inr (3, [.ref qa, .int (nI k)])), (qa, .inl (g 3, 24, .inr (.inr (.inr (.inr (cpyF k o f))))))] := hD
  have hq9 : (fun H1 => va_P D vwCl [(h0, .inr (3, [.ref qa, .int (nI k)])), (qa, .inl (g 3, 24, .inr (.inr (.inr (.inr (cpyF k o f))))))] H1 : Heap → Prop) H := hP
  exact W.vret hx hb hr (fun t ht hW => ⟨⟨rfl, by rw [ht]; exact hq9⟩, hS.F ht⟩) hS.2.2 dX3_copyFrom_25

abbrev rm_m3_any : Room := ({ frames := 3, cells := 0, slots := 0, locals := 62 })
set_option maxHeartbeats 4000000 in
set_option maxRecDepth 100000 in
/-- Recent.any(readings) -/
theorem m3_any (l : Launch) {D : va_G} {g : Nat → ClassId} (h0 qa h1 k : Nat) (o : Nat → Option Nat) (f : Nat → Int32) (M : Nat → Prop) (H : Heap) (hp0 : va_P D vwCl [(h0, .inr (3, [.ref qa, .int (nI k)]))] H) (hp1 : va_P D vwCl [(qa, .inl (g 3, 24, .inr (.inr (.inr (.inr o)))))] H) (hp2 : va_P D vwCl [(h1, .inr (5, []))] H) (hk : k ≤ 24) (hev : EvAt D M H o k f) : Met l yX3_any (ws_ yX3_any cX3_any 4 (some .boolean)) rm_m3_any (va_Pc [.ref h0, .ref h1] (PH D g H)) (QI (fun r H1 => H1 = H ∧ r = bI (hasR f k)) (fun _ => False)) 0 0 (fun _ => False) := by
  refine Met.ofW (cc := cX3_any) (maxL := 4) (ret := (some .boolean)) (by decide) rfl ?_
  intro p e s m args below meth c s₁ B hml hv
  obtain ⟨rfl, hH, hK⟩ := hv
  subst hH
  have hx := B.exec
  have hb := B.bytes
  have hr := B.returns
  have hts := atoms_spec (ws := ws_ yX3_any cX3_any 4 (some .boolean)) B.pre
  have hts : ∀ w ∈ lw_all, w.before _ s = true := fun w h => hts w (List.mem_cons_of_mem _ h)
  have hown : s.vm.findClass RX3 = some m.cls := findClass_of_methodNamed B.named
  have hlocks := B.notSynchronized
  have hS : va_S (fun _ => False) s.heap s.heap [] := va_S.rf
  have hl := lv_entry ([.ref h0, .ref h1]) (n := 4) (Nat.le_of_ble_eq_true rfl)
  rw [lg_entry_eq]
  generalize (lg_sl ([.ref h0, .ref h1]) ++ List.replicate (4 - (lg_sl ([.ref h0, .ref h1])).length) Slot.unset).toArray = ls at hl ⊢
  have hl : lv_has ls 4 [(0, .ref h0), (1, .ref h1)] := hl
  refine lv_iconst (pc := 0) (v := 0) hx hb dX3_any_0 (by decide) ?_
  refine lv_istore_n (pc := 1) (lv' := [(2, .int 0), (0, .ref h0), (1, .ref h1)]) hx hb dX3_any_1 rfl hl (by decide) rfl (fun ls hl => ?_)
  refine lv_iconst (pc := 2) (v := 0) hx hb dX3_any_2 (by decide) ?_
  refine lv_istore_n (pc := 3) (lv' := [(3, .int 0), (2, .int 0), (0, .ref h0), (1, .ref h1)]) hx hb dX3_any_3 rfl hl (by decide) rfl (fun ls hl => ?_)
  have loop : ∀ (n : Nat) (i : Nat) (x : Int32), (i ≤ k) → (k + 1 ≤ i + n) → (x = bI (hasR f i)) → ∀ (ls : Array Slot), lv_has ls 4 [(0, .ref h0), (1, .ref h1), (2, .int x), (3, .int (nI i))] → W p l e (headSpec (ws_ yX3_any cX3_any 4 (some .boolean)) rm_m3_any).room s m ([.ref h0, .ref h1] : List Value).toArray below meth c s.heap [] 0 0 (MQ below (QI (fun r H1 => H1 = s.heap ∧ r = bI (hasR f k)) (fun _ => False)) ([.ref h0, .ref h1] : List Value).toArray s 0 0 (fun _ => False)) (F0 m 4 ls []) := by
    intro n
    induction n with
    | zero =>
      intro i x hi hf hx2
      exact absurd (show _ by assumption) (by omega)
    | succ n ih =>
      intro i x hi hf hx2 ls hl
      refine lv_iload_n (pc := 4) hx hb dX3_any_4 rfl (lv_at hl 3 rfl) ?_
      refine lv_aload_n (pc := 5) hx hb dX3_any_5 rfl (lv_at hl 0 rfl) ?_
      refine va_get (pc := 6) (D := D) (ci := 3) (v := .int (nI k)) (C := RX3) (T := TX3) (N := 2) hx hb hts in_X3 hown hK.1 hp0 0 rfl rfl 1 (by decide) (hts _ q104) (fun _ h9 => h9) rfl dX3_any_6 ?_
      refine lv_icmp_ge (pc := 9) (tgt := 43) hx hb dX3_any_9 (by decide) (fun cd1 => ?_) (fun cd1 => ?_)
      · have ncd1 : k ≤ i := (nle rfl rfl (by omega) (by omega)).mp cd1
        refine lv_iload_n (pc := 43) hx hb dX3_any_43 rfl (lv_at hl 2 rfl) ?_
        have hq9 : (fun r H1 => H1 = s.heap ∧ r = bI (hasR f k) : Int32 → Heap → Prop) x s.heap := ⟨rfl, by rw [hx2, show i = k by omega]⟩
        exact W.zret (v := x) hx hb hr (by rw [hx2]; exact bI_nar _) (fun t ht hW => ⟨⟨_, rfl, by rw [ht]; exact hq9⟩, hS.F ht⟩) hS.2.2 dX3_any_44
      · have ncd1 : ¬ k ≤ i := fun h => cd1 ((nle rfl rfl (by omega) (by omega)).mpr h)
        obtain ⟨y, a, hy, _, hfa, hyE⟩ := hev i (by omega)
        refine lv_iload_n (pc := 12) hx hb dX3_any_12 rfl (lv_at hl 2 rfl) ?_
        refine lv_if_ne (pc := 13) (tgt := 31) hx hb dX3_any_13 (by decide) (fun cd2 => ?_) (fun cd2 => ?_)
        · refine lv_iconst (pc := 31) (v := 1) hx hb dX3_any_31 (by decide) ?_
          refine lv_goto (pc := 32) (tgt := 36) hx hb dX3_any_32 (by decide) ?_
          refine lv_istore_n (pc := 36) (lv' := [(2, .int 1), (0, .ref h0), (1, .ref h1), (3, .int (nI i))]) hx hb dX3_any_36 rfl hl (by decide) rfl (fun ls hl => ?_)
          obtain ⟨x3, ex3⟩ : ∃ y : Int32, y = (nI i) + 1 := ⟨_, rfl⟩
          refine lv_iinc (pc := 37) (v := x3) (lv' := [(3, .int x3), (2, .int 1), (0, .ref h0), (1, .ref h1)]) hx hb dX3_any_37 hl (k := 3) rfl (by rw [ex3]; rfl) (by decide) rfl (fun ls hl => ?_)
          refine lv_goto (pc := 40) (tgt := 4) hx hb dX3_any_40 (by decide) ?_
          rw [show x3 = nI (i + 1) from (ex3.trans (nadd rfl (nl 1)))] at hl
          exact ih  (i + 1) 1 (by omega) (by omega) (bI_t (by obtain ⟨j, h1, h2⟩ := bI_ne (fun e => cd2 (hx2.trans e)); exact ⟨j, by omega, h2⟩)).symm ls (lv_sub hl [2, 3, 1, 0] rfl)
        · refine lv_aload_n (pc := 16) hx hb dX3_any_16 rfl (lv_at hl 1 rfl) ?_
          refine lv_aload_n (pc := 17) hx hb dX3_any_17 rfl (lv_at hl 0 rfl) ?_
          refine va_get (pc := 18) (D := D) (ci := 3) (v := .ref qa) (C := RX3) (T := TX3) (N := 2) hx hb hts in_X3 hown hK.1 hp0 0 rfl rfl 0 (by decide) (hts _ q103) (fun _ h9 => h9) rfl dX3_any_18 ?_
          refine lv_iload_n (pc := 21) hx hb dX3_any_21 rfl (lv_at hl 3 rfl) ?_
          refine qa_ld (pc := 22) (y := y) hx hb hK.1 hp1 0 3 i rfl rfl rfl (by omega) (Nat.le_of_ble_eq_true rfl) hy dX3_any_22 ?_
          refine k5Ip (pc := 23) (va_runF (C := RX5) (As := [.ref y]) (rest := []) (hK.1.1 5 _ rfl).2 ⟨hx, hb, hml, hown, hts⟩ (m5_passes l h1 y a (f (24 + 2 * i)) s.heap hp2 hyE) (va_cwF 1 hts (lw_app (List.forall_mem_cons.mpr ⟨q494, List.forall_mem_cons.mpr ⟨q498, List.forall_mem_cons.mpr ⟨q500, List.forall_mem_cons.mpr ⟨q27, fun _ h => absurd h List.not_mem_nil⟩⟩⟩⟩) (lw_meth q502)) rfl rfl rfl hK.2.2.2.2.2 (by decide +kernel) ⟨Nat.le_of_ble_eq_true rfl, Nat.le_of_ble_eq_true rfl⟩) (preV hK (rcv hK hp2 0 rfl rfl)) rfl rfl hl.1 rfl (lv_room (Nat.le_of_ble_eq_true rfl)) dX3_any_23 ⟨Nat.le_of_ble_eq_true rfl, Nat.le_of_ble_eq_true rfl⟩) (fun r4 hr4 => ?_)
          refine lv_if_eq (pc := 28) (tgt := 35) hx hb dX3_any_28 (by decide) (fun cd5 => ?_) (fun cd5 => ?_)
          · refine lv_iconst (pc := 35) (v := 0) hx hb dX3_any_35 (by decide) ?_
            refine lv_istore_n (pc := 36) (lv' := [(2, .int 0), (0, .ref h0), (1, .ref h1), (3, .int (nI i))]) hx hb dX3_any_36 rfl hl (by decide) rfl (fun ls hl => ?_)
            obtain ⟨x6, ex6⟩ : ∃ y : Int32, y = (nI i) + 1 := ⟨_, rfl⟩
            refine lv_iinc (pc := 37) (v := x6) (lv' := [(3, .int x6), (2, .int 0), (0, .ref h0), (1, .ref h1)]) hx hb dX3_any_37 hl (k := 3) rfl (by rw [ex6]; rfl) (by decide) rfl (fun ls hl => ?_)
            refine lv_goto (pc := 40) (tgt := 4) hx hb dX3_any_40 (by decide) ?_
            rw [show x6 = nI (i + 1) from (ex6.trans (nadd rfl (nl 1)))] at hl
            exact ih  (i + 1) 0 (by omega) (by omega) (bI_f (fun h => by obtain ⟨j, h1, h2⟩ := h; rcases Nat.lt_or_ge j i with h3 | h3; exact bI_eq (hx2.symm.trans cd2) ⟨j, h3, h2⟩; exact bI_eq (hr4.symm.trans cd5) (evw_iff.mpr (by rw [← hfa, ← (show j = i by omega)]; exact h2)))).symm ls (lv_sub hl [2, 3, 1, 0] rfl)
          · refine lv_iconst (pc := 31) (v := 1) hx hb dX3_any_31 (by decide) ?_
            refine lv_goto (pc := 32) (tgt := 36) hx hb dX3_any_32 (by decide) ?_
            refine lv_istore_n (pc := 36) (lv' := [(2, .int 1), (0, .ref h0), (1, .ref h1), (3, .int (nI i))]) hx hb dX3_any_36 rfl hl (by decide) rfl (fun ls hl => ?_)
            obtain ⟨x7, ex7⟩ : ∃ y : Int32, y = (nI i) + 1 := ⟨_, rfl⟩
            refine lv_iinc (pc := 37) (v := x7) (lv' := [(3, .int x7), (2, .int 1), (0, .ref h0), (1, .ref h1)]) hx hb dX3_any_37 hl (k := 3) rfl (by rw [ex7]; rfl) (by decide) rfl (fun ls hl => ?_)
            refine lv_goto (pc := 40) (tgt := 4) hx hb dX3_any_40 (by decide) ?_
            rw [show x7 = nI (i + 1) from (ex7.trans (nadd rfl (nl 1)))] at hl
            exact ih  (i + 1) 1 (by omega) (by omega) (bI_t ⟨i, by omega, by rw [hfa]; exact evw_iff.mp (bI_ne (fun e => cd5 (hr4.trans e)))⟩).symm ls (lv_sub hl [2, 3, 1, 0] rfl)
  exact loop (k + 1) 0 0 (Nat.zero_le _) (by omega) (bI_f (fun h => by obtain ⟨j, h1, _⟩ := h; omega)).symm ls (lv_sub hl [2, 3, 1, 0] rfl)

abbrev rm_m_fill : Room := ({ frames := 0, cells := 0, slots := 0, locals := 0 })
set_option maxHeartbeats 4000000 in
set_option maxRecDepth 100000 in
/-- Arrays.fill(sensors, x) -/
theorem m_fill (l : Launch) {D : va_G} {g : Nat → ClassId} (h0 h1 : Nat) (f : Nat → Option Nat) (fs : List Value) (H : Heap) (hP : va_P D vwCl [(h0, .inl (g 4, 4, .inr (.inr (.inr (.inr f)))))] H) (hp1 : va_P D vwCl [(h1, .inr (4, fs))] H) (nhp1 : h1 ∉ [h0]) : Met l yJ0_fill (ws_ yJ0_fill cJ0_fill 4 none) rm_m_fill (va_Pc [.ref h0, .ref h1] (PH D g H)) (QV (fun H1 => va_P D vwCl [(h0, .inl (g 4, 4, .inr (.inr (.inr (.inr (fun _ => some h1))))))] H1) (Aw [h0] H.size)) 0 0 (Aw [h0] H.size) := by
  refine Met.ofW (cc := cJ0_fill) (maxL := 4) (ret := none) (by decide) rfl ?_
  intro p e s m args below meth c s₁ B hml hv
  obtain ⟨rfl, hH, hK⟩ := hv
  subst hH
  have hx := B.exec
  have hb := B.bytes
  have hr := B.returns
  have hts := atoms_spec (ws := ws_ yJ0_fill cJ0_fill 4 none) B.pre
  have hts : ∀ w ∈ lw_all, w.before _ s = true := fun w h => hts w (List.mem_cons_of_mem _ h)
  have hown : s.vm.findClass RJ0 = some m.cls := findClass_of_methodNamed B.named
  have hlocks := B.notSynchronized
  have hA : ∀ q, s.heap.size ≤ q → (Aw [h0] s.heap.size) q := fun q h => Or.inr h
  have hS : va_S (Aw [h0] s.heap.size) s.heap s.heap [] := va_S.rf
  have hD : va_D (Aw [h0] s.heap.size) [(h0, .inl (g 4, 4, .inr (.inr (.inr (.inr f)))))] := d1 (Or.inl (by simp))
  have ahp1 : ¬ (Aw [h0] s.heap.size) h1 := naw nhp1 (hp1 0 _ rfl).lt
  have hl := lv_entry ([.ref h0, .ref h1]) (n := 4) (Nat.le_of_ble_eq_true rfl)
  rw [lg_entry_eq]
  generalize (lg_sl ([.ref h0, .ref h1]) ++ List.replicate (4 - (lg_sl ([.ref h0, .ref h1])).length) Slot.unset).toArray = ls at hl ⊢
  have hl : lv_has ls 4 [(0, .ref h0), (1, .ref h1)] := hl
  refine lv_iconst (pc := 0) (v := 0) hx hb dJ0_fill_0 (by decide) ?_
  refine lv_istore_n (pc := 1) (lv' := [(2, .int 0), (0, .ref h0), (1, .ref h1)]) hx hb dJ0_fill_1 rfl hl (by decide) rfl (fun ls hl => ?_)
  refine lv_aload_n (pc := 2) hx hb dJ0_fill_2 rfl (lv_at hl 1 rfl) ?_
  refine va_alen (pc := 3) (v := 4) hx hb hK.1 hP 0 4 rfl rfl rfl dJ0_fill_3 ?_
  refine lv_istore_n (pc := 4) (lv' := [(3, .int 4), (2, .int 0), (0, .ref h0), (1, .ref h1)]) hx hb dJ0_fill_4 rfl hl (by decide) rfl (fun ls hl => ?_)
  have loop : ∀ (n : Nat) (i : Nat) (f : Nat → Option Nat), (i ≤ 4) → (5 ≤ i + n) → (∀ j, j < i → f j = some h1) → ∀ (H : Heap) (locs : List Loc), va_P D vwCl [(h0, .inl (g 4, 4, .inr (.inr (.inr (.inr f)))))] H → va_D (Aw [h0] s.heap.size) [(h0, .inl (g 4, 4, .inr (.inr (.inr (.inr f)))))] → va_S (Aw [h0] s.heap.size) s.heap H locs → ∀ (ls : Array Slot), lv_has ls 4 [(0, .ref h0), (1, .ref h1), (2, .int (nI i)), (3, .int 4)] → W p l e (headSpec (ws_ yJ0_fill cJ0_fill 4 none) rm_m_fill).room s m ([.ref h0, .ref h1] : List Value).toArray below meth c H locs 0 0 (MQ below (QV (fun H1 => va_P D vwCl [(h0, .inl (g 4, 4, .inr (.inr (.inr (.inr (fun _ => some h1))))))] H1) (Aw [h0] s.heap.size)) ([.ref h0, .ref h1] : List Value).toArray s 0 0 (Aw [h0] s.heap.size)) (F0 m 5 ls []) := by
    intro n
    induction n with
    | zero =>
      intro i f hi hf hfi
      exact absurd (show _ by assumption) (by omega)
    | succ n ih =>
      intro i f hi hf hfi H locs hP hD hS ls hl
      refine lv_iload_n (pc := 5) hx hb dJ0_fill_5 rfl (lv_at hl 2 rfl) ?_
      refine lv_iload_n (pc := 6) hx hb dJ0_fill_6 rfl (lv_at hl 3 rfl) ?_
      refine lv_icmp_ge (pc := 7) (tgt := 20) hx hb dJ0_fill_7 (by decide) (fun cd1 => ?_) (fun cd1 => ?_)
      · have ncd1 : 4 ≤ i := (nle (nl 4) rfl (by omega) (by omega)).mp cd1
        have hq9 : (fun H1 => va_P D vwCl [(h0, .inl (g 4, 4, .inr (.inr (.inr (.inr (fun _ => some h1))))))] H1 : Heap → Prop) H := fun k q hk => by
                rcases k with _ | k
                · cases hk
                  exact ((hP 0 _ rfl).trans (congrArg some (cell_q (g 4) 4 (fun j hj => hfi j (by omega)))))
                · simp at hk
        exact W.vret hx hb hr (fun t ht hW => ⟨⟨rfl, by rw [ht]; exact hq9⟩, hS.F ht⟩) hS.2.2 dJ0_fill_20
      · have ncd1 : ¬ 4 ≤ i := fun h => cd1 ((nle (nl 4) rfl (by omega) (by omega)).mpr h)
        refine lv_aload_n (pc := 10) hx hb dJ0_fill_10 rfl (lv_at hl 0 rfl) ?_
        refine lv_iload_n (pc := 11) hx hb dJ0_fill_11 rfl (lv_at hl 2 rfl) ?_
        refine lv_aload_n (pc := 12) hx hb dJ0_fill_12 rfl (lv_at hl 1 rfl) ?_
        refine qa_st (pc := 13) (f' := (va_up f i (some h1))) hx hb hK.1 hP hD hS 0 4 i rfl rfl (rcv hK (ro_at hS hp1 ahp1) 0 rfl rfl) rfl (by omega) (Nat.le_of_ble_eq_true rfl) (fun _ _ => rfl) dJ0_fill_13 (fun H locs hP hD hS => ?_)
        have hP : va_P D vwCl [(h0, .inl (g 4, 4, .inr (.inr (.inr (.inr (va_up f i (some h1)))))))] H := hP
        have hD : va_D (Aw [h0] s.heap.size) [(h0, .inl (g 4, 4, .inr (.inr (.inr (.inr (va_up f i (some h1)))))))] := hD
        obtain ⟨x2, ex2⟩ : ∃ y : Int32, y = (nI i) + 1 := ⟨_, rfl⟩
        refine lv_iinc (pc := 14) (v := x2) (lv' := [(2, .int x2), (0, .ref h0), (1, .ref h1), (3, .int 4)]) hx hb dJ0_fill_14 hl (k := 2) rfl (by rw [ex2]; rfl) (by decide) rfl (fun ls hl => ?_)
        refine lv_goto (pc := 17) (tgt := 5) hx hb dJ0_fill_17 (by decide) ?_
        rw [show x2 = nI (i + 1) from (ex2.trans (nadd rfl (nl 1)))] at hl
        exact ih  (i + 1) (va_up f i (some h1)) (by omega) (by omega) (fun j h => by unfold va_up; split; rfl; exact hfi j (by omega)) _ _ hP hD hS ls (lv_sub hl [1, 2, 0, 3] rfl)
  exact loop 5 0 f (Nat.zero_le _) (by omega) (fun j h => absurd h (Nat.not_lt_zero j)) _ _ hP hD hS ls (lv_sub hl [2, 3, 1, 0] rfl)
