abbrev rm_m6_level : Room := ({ frames := 0, cells := 0, slots := 0, locals := 0 })
set_option maxHeartbeats 4000000 in
set_option maxRecDepth 100000 in
theorem m6_level (l : Launch) {D : va_G} {g : Nat → ClassId} (mo ms mp me mn np : Nat) (iv lg fg hv : Int64) (f : Nat → Int32) (H : Heap) (hmo : va_P D vwCl [(mo, .inr (6, [.ref ms, .ref mp, .int (nI np), .ref me, .ref mn, .long iv, .long lg, .long fg, .long hv]))] H) (hms : va_P D vwCl [(ms, .inl (g 0, 71, .inl f))] H) : Met l yX6_level (ws_ yX6_level cX6_level 1 (some .int)) rm_m6_level (va_Pc [.ref mo] (PH D g H)) (QI (fun r H1 => H1 = H ∧ r = f 0) (fun _ => False)) 0 0 (fun _ => False) := by
  refine Met.ofW (cc := cX6_level) (maxL := 1) (ret := (some .int)) (by decide) rfl ?_
  intro p e s m args below meth c s₁ B hml hv
  obtain ⟨rfl, hH, hK⟩ := hv
  subst hH
  have hx := B.exec
  have hb := B.bytes
  have hr := B.returns
  have hts := atoms_spec (ws := ws_ yX6_level cX6_level 1 (some .int)) B.pre
  have hts : ∀ w ∈ lw_all, w.before _ s = true := fun w h => hts w (List.mem_cons_of_mem _ h)
  have hown : s.vm.findClass RX6 = some m.cls := findClass_of_methodNamed B.named
  have hlocks := B.notSynchronized
  have hS : va_S (fun _ => False) s.heap s.heap [] := va_S.rf
  have hl := lv_entry ([.ref mo]) (n := 1) (Nat.le_of_ble_eq_true rfl)
  rw [lg_entry_eq]
  generalize (lg_sl ([.ref mo]) ++ List.replicate (1 - (lg_sl ([.ref mo])).length) Slot.unset).toArray = ls at hl ⊢
  have hl : lv_has ls 1 [(0, .ref mo)] := hl
  refine lv_aload_n (pc := 0) hx hb dX6_level_0 rfl (lv_at hl 0 rfl) ?_
  refine va_get (pc := 1) (D := D) (ci := 6) (v := .ref ms) (C := RX6) (T := TX6) (N := 9) hx hb hts in_X6 hown hK.1 hmo 0 rfl rfl 0 (by decide) (hts _ q574) (fun _ h9 => h9) rfl dX6_level_1 ?_
  refine lv_iconst (pc := 4) (v := 0) hx hb dX6_level_4 (by decide) ?_
  refine ia_ld (pc := 5) hx hb hK.1 hms 0 0 0 rfl rfl (nl 0) (Nat.le_of_ble_eq_true rfl) (Nat.le_of_ble_eq_true rfl) dX6_level_5 ?_
  have hq9 : (fun r H1 => H1 = s.heap ∧ r = f 0 : Int32 → Heap → Prop) (f 0) s.heap := ⟨rfl, rfl⟩
  exact W.iret (v := f 0) hx hb hr (fun t ht hW => ⟨⟨_, rfl, by rw [ht]; exact hq9⟩, hS.F ht⟩) hS.2.2 dX6_level_6

abbrev rm_m6_flow : Room := ({ frames := 0, cells := 0, slots := 0, locals := 0 })
set_option maxHeartbeats 4000000 in
set_option maxRecDepth 100000 in
theorem m6_flow (l : Launch) {D : va_G} {g : Nat → ClassId} (mo ms mp me mn np : Nat) (iv lg fg hv : Int64) (f : Nat → Int32) (H : Heap) (hmo : va_P D vwCl [(mo, .inr (6, [.ref ms, .ref mp, .int (nI np), .ref me, .ref mn, .long iv, .long lg, .long fg, .long hv]))] H) (hms : va_P D vwCl [(ms, .inl (g 0, 71, .inl f))] H) : Met l yX6_flow (ws_ yX6_flow cX6_flow 1 (some .int)) rm_m6_flow (va_Pc [.ref mo] (PH D g H)) (QI (fun r H1 => H1 = H ∧ r = f 1) (fun _ => False)) 0 0 (fun _ => False) := by
  refine Met.ofW (cc := cX6_flow) (maxL := 1) (ret := (some .int)) (by decide) rfl ?_
  intro p e s m args below meth c s₁ B hml hv
  obtain ⟨rfl, hH, hK⟩ := hv
  subst hH
  have hx := B.exec
  have hb := B.bytes
  have hr := B.returns
  have hts := atoms_spec (ws := ws_ yX6_flow cX6_flow 1 (some .int)) B.pre
  have hts : ∀ w ∈ lw_all, w.before _ s = true := fun w h => hts w (List.mem_cons_of_mem _ h)
  have hown : s.vm.findClass RX6 = some m.cls := findClass_of_methodNamed B.named
  have hlocks := B.notSynchronized
  have hS : va_S (fun _ => False) s.heap s.heap [] := va_S.rf
  have hl := lv_entry ([.ref mo]) (n := 1) (Nat.le_of_ble_eq_true rfl)
  rw [lg_entry_eq]
  generalize (lg_sl ([.ref mo]) ++ List.replicate (1 - (lg_sl ([.ref mo])).length) Slot.unset).toArray = ls at hl ⊢
  have hl : lv_has ls 1 [(0, .ref mo)] := hl
  refine lv_aload_n (pc := 0) hx hb dX6_flow_0 rfl (lv_at hl 0 rfl) ?_
  refine va_get (pc := 1) (D := D) (ci := 6) (v := .ref ms) (C := RX6) (T := TX6) (N := 9) hx hb hts in_X6 hown hK.1 hmo 0 rfl rfl 0 (by decide) (hts _ q574) (fun _ h9 => h9) rfl dX6_flow_1 ?_
  refine lv_iconst (pc := 4) (v := 1) hx hb dX6_flow_4 (by decide) ?_
  refine ia_ld (pc := 5) hx hb hK.1 hms 0 0 1 rfl rfl (nl 1) (Nat.le_of_ble_eq_true rfl) (Nat.le_of_ble_eq_true rfl) dX6_flow_5 ?_
  have hq9 : (fun r H1 => H1 = s.heap ∧ r = f 1 : Int32 → Heap → Prop) (f 1) s.heap := ⟨rfl, rfl⟩
  exact W.iret (v := f 1) hx hb hr (fun t ht hW => ⟨⟨_, rfl, by rw [ht]; exact hq9⟩, hS.F ht⟩) hS.2.2 dX6_flow_6

abbrev rm_m6_levelVariance : Room := ({ frames := 0, cells := 0, slots := 0, locals := 0 })
set_option maxHeartbeats 4000000 in
set_option maxRecDepth 100000 in
theorem m6_levelVariance (l : Launch) {D : va_G} {g : Nat → ClassId} (mo ms mp me mn np : Nat) (iv lg fg hv : Int64) (f : Nat → Int32) (H : Heap) (hmo : va_P D vwCl [(mo, .inr (6, [.ref ms, .ref mp, .int (nI np), .ref me, .ref mn, .long iv, .long lg, .long fg, .long hv]))] H) (hms : va_P D vwCl [(ms, .inl (g 0, 71, .inl f))] H) : Met l yX6_levelVariance (ws_ yX6_levelVariance cX6_levelVariance 1 (some .int)) rm_m6_levelVariance (va_Pc [.ref mo] (PH D g H)) (QI (fun r H1 => H1 = H ∧ r = f 2) (fun _ => False)) 0 0 (fun _ => False) := by
  refine Met.ofW (cc := cX6_levelVariance) (maxL := 1) (ret := (some .int)) (by decide) rfl ?_
  intro p e s m args below meth c s₁ B hml hv
  obtain ⟨rfl, hH, hK⟩ := hv
  subst hH
  have hx := B.exec
  have hb := B.bytes
  have hr := B.returns
  have hts := atoms_spec (ws := ws_ yX6_levelVariance cX6_levelVariance 1 (some .int)) B.pre
  have hts : ∀ w ∈ lw_all, w.before _ s = true := fun w h => hts w (List.mem_cons_of_mem _ h)
  have hown : s.vm.findClass RX6 = some m.cls := findClass_of_methodNamed B.named
  have hlocks := B.notSynchronized
  have hS : va_S (fun _ => False) s.heap s.heap [] := va_S.rf
  have hl := lv_entry ([.ref mo]) (n := 1) (Nat.le_of_ble_eq_true rfl)
  rw [lg_entry_eq]
  generalize (lg_sl ([.ref mo]) ++ List.replicate (1 - (lg_sl ([.ref mo])).length) Slot.unset).toArray = ls at hl ⊢
  have hl : lv_has ls 1 [(0, .ref mo)] := hl
  refine lv_aload_n (pc := 0) hx hb dX6_levelVariance_0 rfl (lv_at hl 0 rfl) ?_
  refine va_get (pc := 1) (D := D) (ci := 6) (v := .ref ms) (C := RX6) (T := TX6) (N := 9) hx hb hts in_X6 hown hK.1 hmo 0 rfl rfl 0 (by decide) (hts _ q574) (fun _ h9 => h9) rfl dX6_levelVariance_1 ?_
  refine lv_iconst (pc := 4) (v := 2) hx hb dX6_levelVariance_4 (by decide) ?_
  refine ia_ld (pc := 5) hx hb hK.1 hms 0 0 2 rfl rfl (nl 2) (Nat.le_of_ble_eq_true rfl) (Nat.le_of_ble_eq_true rfl) dX6_levelVariance_5 ?_
  have hq9 : (fun r H1 => H1 = s.heap ∧ r = f 2 : Int32 → Heap → Prop) (f 2) s.heap := ⟨rfl, rfl⟩
  exact W.iret (v := f 2) hx hb hr (fun t ht hW => ⟨⟨_, rfl, by rw [ht]; exact hq9⟩, hS.F ht⟩) hS.2.2 dX6_levelVariance_6

abbrev rm_m6_covariance : Room := ({ frames := 0, cells := 0, slots := 0, locals := 0 })
set_option maxHeartbeats 4000000 in
set_option maxRecDepth 100000 in
theorem m6_covariance (l : Launch) {D : va_G} {g : Nat → ClassId} (mo ms mp me mn np : Nat) (iv lg fg hv : Int64) (f : Nat → Int32) (H : Heap) (hmo : va_P D vwCl [(mo, .inr (6, [.ref ms, .ref mp, .int (nI np), .ref me, .ref mn, .long iv, .long lg, .long fg, .long hv]))] H) (hms : va_P D vwCl [(ms, .inl (g 0, 71, .inl f))] H) : Met l yX6_covariance (ws_ yX6_covariance cX6_covariance 1 (some .int)) rm_m6_covariance (va_Pc [.ref mo] (PH D g H)) (QI (fun r H1 => H1 = H ∧ r = f 3) (fun _ => False)) 0 0 (fun _ => False) := by
  refine Met.ofW (cc := cX6_covariance) (maxL := 1) (ret := (some .int)) (by decide) rfl ?_
  intro p e s m args below meth c s₁ B hml hv
  obtain ⟨rfl, hH, hK⟩ := hv
  subst hH
  have hx := B.exec
  have hb := B.bytes
  have hr := B.returns
  have hts := atoms_spec (ws := ws_ yX6_covariance cX6_covariance 1 (some .int)) B.pre
  have hts : ∀ w ∈ lw_all, w.before _ s = true := fun w h => hts w (List.mem_cons_of_mem _ h)
  have hown : s.vm.findClass RX6 = some m.cls := findClass_of_methodNamed B.named
  have hlocks := B.notSynchronized
  have hS : va_S (fun _ => False) s.heap s.heap [] := va_S.rf
  have hl := lv_entry ([.ref mo]) (n := 1) (Nat.le_of_ble_eq_true rfl)
  rw [lg_entry_eq]
  generalize (lg_sl ([.ref mo]) ++ List.replicate (1 - (lg_sl ([.ref mo])).length) Slot.unset).toArray = ls at hl ⊢
  have hl : lv_has ls 1 [(0, .ref mo)] := hl
  refine lv_aload_n (pc := 0) hx hb dX6_covariance_0 rfl (lv_at hl 0 rfl) ?_
  refine va_get (pc := 1) (D := D) (ci := 6) (v := .ref ms) (C := RX6) (T := TX6) (N := 9) hx hb hts in_X6 hown hK.1 hmo 0 rfl rfl 0 (by decide) (hts _ q574) (fun _ h9 => h9) rfl dX6_covariance_1 ?_
  refine lv_iconst (pc := 4) (v := 3) hx hb dX6_covariance_4 (by decide) ?_
  refine ia_ld (pc := 5) hx hb hK.1 hms 0 0 3 rfl rfl (nl 3) (Nat.le_of_ble_eq_true rfl) (Nat.le_of_ble_eq_true rfl) dX6_covariance_5 ?_
  have hq9 : (fun r H1 => H1 = s.heap ∧ r = f 3 : Int32 → Heap → Prop) (f 3) s.heap := ⟨rfl, rfl⟩
  exact W.iret (v := f 3) hx hb hr (fun t ht hW => ⟨⟨_, rfl, by rw [ht]; exact hq9⟩, hS.F ht⟩) hS.2.2 dX6_covariance_6

abbrev rm_m6_flowVariance : Room := ({ frames := 0, cells := 0, slots := 0, locals := 0 })
set_option maxHeartbeats 4000000 in
set_option maxRecDepth 100000 in
theorem m6_flowVariance (l : Launch) {D : va_G} {g : Nat → ClassId} (mo ms mp me mn np : Nat) (iv lg fg hv : Int64) (f : Nat → Int32) (H : Heap) (hmo : va_P D vwCl [(mo, .inr (6, [.ref ms, .ref mp, .int (nI np), .ref me, .ref mn, .long iv, .long lg, .long fg, .long hv]))] H) (hms : va_P D vwCl [(ms, .inl (g 0, 71, .inl f))] H) : Met l yX6_flowVariance (ws_ yX6_flowVariance cX6_flowVariance 1 (some .int)) rm_m6_flowVariance (va_Pc [.ref mo] (PH D g H)) (QI (fun r H1 => H1 = H ∧ r = f 4) (fun _ => False)) 0 0 (fun _ => False) := by
  refine Met.ofW (cc := cX6_flowVariance) (maxL := 1) (ret := (some .int)) (by decide) rfl ?_
  intro p e s m args below meth c s₁ B hml hv
  obtain ⟨rfl, hH, hK⟩ := hv
  subst hH
  have hx := B.exec
  have hb := B.bytes
  have hr := B.returns
  have hts := atoms_spec (ws := ws_ yX6_flowVariance cX6_flowVariance 1 (some .int)) B.pre
  have hts : ∀ w ∈ lw_all, w.before _ s = true := fun w h => hts w (List.mem_cons_of_mem _ h)
  have hown : s.vm.findClass RX6 = some m.cls := findClass_of_methodNamed B.named
  have hlocks := B.notSynchronized
  have hS : va_S (fun _ => False) s.heap s.heap [] := va_S.rf
  have hl := lv_entry ([.ref mo]) (n := 1) (Nat.le_of_ble_eq_true rfl)
  rw [lg_entry_eq]
  generalize (lg_sl ([.ref mo]) ++ List.replicate (1 - (lg_sl ([.ref mo])).length) Slot.unset).toArray = ls at hl ⊢
  have hl : lv_has ls 1 [(0, .ref mo)] := hl
  refine lv_aload_n (pc := 0) hx hb dX6_flowVariance_0 rfl (lv_at hl 0 rfl) ?_
  refine va_get (pc := 1) (D := D) (ci := 6) (v := .ref ms) (C := RX6) (T := TX6) (N := 9) hx hb hts in_X6 hown hK.1 hmo 0 rfl rfl 0 (by decide) (hts _ q574) (fun _ h9 => h9) rfl dX6_flowVariance_1 ?_
  refine lv_iconst (pc := 4) (v := 4) hx hb dX6_flowVariance_4 (by decide) ?_
  refine ia_ld (pc := 5) hx hb hK.1 hms 0 0 4 rfl rfl (nl 4) (Nat.le_of_ble_eq_true rfl) (Nat.le_of_ble_eq_true rfl) dX6_flowVariance_5 ?_
  have hq9 : (fun r H1 => H1 = s.heap ∧ r = f 4 : Int32 → Heap → Prop) (f 4) s.heap := ⟨rfl, rfl⟩
  exact W.iret (v := f 4) hx hb hr (fun t ht hW => ⟨⟨_, rfl, by rw [ht]; exact hq9⟩, hS.F ht⟩) hS.2.2 dX6_flowVariance_6

abbrev rm_m6_innovation : Room := ({ frames := 0, cells := 0, slots := 0, locals := 0 })
set_option maxHeartbeats 4000000 in
set_option maxRecDepth 100000 in
theorem m6_innovation (l : Launch) {D : va_G} {g : Nat → ClassId} (mo ms mp me mn np : Nat) (iv lg fg hv : Int64) (f : Nat → Int32) (H : Heap) (hmo : va_P D vwCl [(mo, .inr (6, [.ref ms, .ref mp, .int (nI np), .ref me, .ref mn, .long iv, .long lg, .long fg, .long hv]))] H) (hms : va_P D vwCl [(ms, .inl (g 0, 71, .inl f))] H) : Met l yX6_innovation (ws_ yX6_innovation cX6_innovation 1 (some .int)) rm_m6_innovation (va_Pc [.ref mo] (PH D g H)) (QI (fun r H1 => H1 = H ∧ r = f 16) (fun _ => False)) 0 0 (fun _ => False) := by
  refine Met.ofW (cc := cX6_innovation) (maxL := 1) (ret := (some .int)) (by decide) rfl ?_
  intro p e s m args below meth c s₁ B hml hv
  obtain ⟨rfl, hH, hK⟩ := hv
  subst hH
  have hx := B.exec
  have hb := B.bytes
  have hr := B.returns
  have hts := atoms_spec (ws := ws_ yX6_innovation cX6_innovation 1 (some .int)) B.pre
  have hts : ∀ w ∈ lw_all, w.before _ s = true := fun w h => hts w (List.mem_cons_of_mem _ h)
  have hown : s.vm.findClass RX6 = some m.cls := findClass_of_methodNamed B.named
  have hlocks := B.notSynchronized
  have hS : va_S (fun _ => False) s.heap s.heap [] := va_S.rf
  have hl := lv_entry ([.ref mo]) (n := 1) (Nat.le_of_ble_eq_true rfl)
  rw [lg_entry_eq]
  generalize (lg_sl ([.ref mo]) ++ List.replicate (1 - (lg_sl ([.ref mo])).length) Slot.unset).toArray = ls at hl ⊢
  have hl : lv_has ls 1 [(0, .ref mo)] := hl
  refine lv_aload_n (pc := 0) hx hb dX6_innovation_0 rfl (lv_at hl 0 rfl) ?_
  refine va_get (pc := 1) (D := D) (ci := 6) (v := .ref ms) (C := RX6) (T := TX6) (N := 9) hx hb hts in_X6 hown hK.1 hmo 0 rfl rfl 0 (by decide) (hts _ q574) (fun _ h9 => h9) rfl dX6_innovation_1 ?_
  refine lv_bipush (pc := 4) (v := 16) hx hb dX6_innovation_4 (by decide) ?_
  refine ia_ld (pc := 6) hx hb hK.1 hms 0 0 16 rfl rfl (nl 16) (Nat.le_of_ble_eq_true rfl) (Nat.le_of_ble_eq_true rfl) dX6_innovation_6 ?_
  have hq9 : (fun r H1 => H1 = s.heap ∧ r = f 16 : Int32 → Heap → Prop) (f 16) s.heap := ⟨rfl, rfl⟩
  exact W.iret (v := f 16) hx hb hr (fun t ht hW => ⟨⟨_, rfl, by rw [ht]; exact hq9⟩, hS.F ht⟩) hS.2.2 dX6_innovation_7

abbrev rm_m6_levelGain : Room := ({ frames := 0, cells := 0, slots := 0, locals := 0 })
set_option maxHeartbeats 4000000 in
set_option maxRecDepth 100000 in
theorem m6_levelGain (l : Launch) {D : va_G} {g : Nat → ClassId} (mo ms mp me mn np : Nat) (iv lg fg hv : Int64) (f : Nat → Int32) (H : Heap) (hmo : va_P D vwCl [(mo, .inr (6, [.ref ms, .ref mp, .int (nI np), .ref me, .ref mn, .long iv, .long lg, .long fg, .long hv]))] H) (hms : va_P D vwCl [(ms, .inl (g 0, 71, .inl f))] H) : Met l yX6_levelGain (ws_ yX6_levelGain cX6_levelGain 1 (some .int)) rm_m6_levelGain (va_Pc [.ref mo] (PH D g H)) (QI (fun r H1 => H1 = H ∧ r = f 17) (fun _ => False)) 0 0 (fun _ => False) := by
  refine Met.ofW (cc := cX6_levelGain) (maxL := 1) (ret := (some .int)) (by decide) rfl ?_
  intro p e s m args below meth c s₁ B hml hv
  obtain ⟨rfl, hH, hK⟩ := hv
  subst hH
  have hx := B.exec
  have hb := B.bytes
  have hr := B.returns
  have hts := atoms_spec (ws := ws_ yX6_levelGain cX6_levelGain 1 (some .int)) B.pre
  have hts : ∀ w ∈ lw_all, w.before _ s = true := fun w h => hts w (List.mem_cons_of_mem _ h)
  have hown : s.vm.findClass RX6 = some m.cls := findClass_of_methodNamed B.named
  have hlocks := B.notSynchronized
  have hS : va_S (fun _ => False) s.heap s.heap [] := va_S.rf
  have hl := lv_entry ([.ref mo]) (n := 1) (Nat.le_of_ble_eq_true rfl)
  rw [lg_entry_eq]
  generalize (lg_sl ([.ref mo]) ++ List.replicate (1 - (lg_sl ([.ref mo])).length) Slot.unset).toArray = ls at hl ⊢
  have hl : lv_has ls 1 [(0, .ref mo)] := hl
  refine lv_aload_n (pc := 0) hx hb dX6_levelGain_0 rfl (lv_at hl 0 rfl) ?_
  refine va_get (pc := 1) (D := D) (ci := 6) (v := .ref ms) (C := RX6) (T := TX6) (N := 9) hx hb hts in_X6 hown hK.1 hmo 0 rfl rfl 0 (by decide) (hts _ q574) (fun _ h9 => h9) rfl dX6_levelGain_1 ?_
  refine lv_bipush (pc := 4) (v := 17) hx hb dX6_levelGain_4 (by decide) ?_
  refine ia_ld (pc := 6) hx hb hK.1 hms 0 0 17 rfl rfl (nl 17) (Nat.le_of_ble_eq_true rfl) (Nat.le_of_ble_eq_true rfl) dX6_levelGain_6 ?_
  have hq9 : (fun r H1 => H1 = s.heap ∧ r = f 17 : Int32 → Heap → Prop) (f 17) s.heap := ⟨rfl, rfl⟩
  exact W.iret (v := f 17) hx hb hr (fun t ht hW => ⟨⟨_, rfl, by rw [ht]; exact hq9⟩, hS.F ht⟩) hS.2.2 dX6_levelGain_7

abbrev rm_m6_flowGain : Room := ({ frames := 0, cells := 0, slots := 0, locals := 0 })
set_option maxHeartbeats 4000000 in
set_option maxRecDepth 100000 in
theorem m6_flowGain (l : Launch) {D : va_G} {g : Nat → ClassId} (mo ms mp me mn np : Nat) (iv lg fg hv : Int64) (f : Nat → Int32) (H : Heap) (hmo : va_P D vwCl [(mo, .inr (6, [.ref ms, .ref mp, .int (nI np), .ref me, .ref mn, .long iv, .long lg, .long fg, .long hv]))] H) (hms : va_P D vwCl [(ms, .inl (g 0, 71, .inl f))] H) : Met l yX6_flowGain (ws_ yX6_flowGain cX6_flowGain 1 (some .int)) rm_m6_flowGain (va_Pc [.ref mo] (PH D g H)) (QI (fun r H1 => H1 = H ∧ r = f 18) (fun _ => False)) 0 0 (fun _ => False) := by
  refine Met.ofW (cc := cX6_flowGain) (maxL := 1) (ret := (some .int)) (by decide) rfl ?_
  intro p e s m args below meth c s₁ B hml hv
  obtain ⟨rfl, hH, hK⟩ := hv
  subst hH
  have hx := B.exec
  have hb := B.bytes
  have hr := B.returns
  have hts := atoms_spec (ws := ws_ yX6_flowGain cX6_flowGain 1 (some .int)) B.pre
  have hts : ∀ w ∈ lw_all, w.before _ s = true := fun w h => hts w (List.mem_cons_of_mem _ h)
  have hown : s.vm.findClass RX6 = some m.cls := findClass_of_methodNamed B.named
  have hlocks := B.notSynchronized
  have hS : va_S (fun _ => False) s.heap s.heap [] := va_S.rf
  have hl := lv_entry ([.ref mo]) (n := 1) (Nat.le_of_ble_eq_true rfl)
  rw [lg_entry_eq]
  generalize (lg_sl ([.ref mo]) ++ List.replicate (1 - (lg_sl ([.ref mo])).length) Slot.unset).toArray = ls at hl ⊢
  have hl : lv_has ls 1 [(0, .ref mo)] := hl
  refine lv_aload_n (pc := 0) hx hb dX6_flowGain_0 rfl (lv_at hl 0 rfl) ?_
  refine va_get (pc := 1) (D := D) (ci := 6) (v := .ref ms) (C := RX6) (T := TX6) (N := 9) hx hb hts in_X6 hown hK.1 hmo 0 rfl rfl 0 (by decide) (hts _ q574) (fun _ h9 => h9) rfl dX6_flowGain_1 ?_
  refine lv_bipush (pc := 4) (v := 18) hx hb dX6_flowGain_4 (by decide) ?_
  refine ia_ld (pc := 6) hx hb hK.1 hms 0 0 18 rfl rfl (nl 18) (Nat.le_of_ble_eq_true rfl) (Nat.le_of_ble_eq_true rfl) dX6_flowGain_6 ?_
  have hq9 : (fun r H1 => H1 = s.heap ∧ r = f 18 : Int32 → Heap → Prop) (f 18) s.heap := ⟨rfl, rfl⟩
  exact W.iret (v := f 18) hx hb hr (fun t ht hW => ⟨⟨_, rfl, by rw [ht]; exact hq9⟩, hS.F ht⟩) hS.2.2 dX6_flowGain_7

abbrev rm_m6_accepted : Room := ({ frames := 0, cells := 0, slots := 0, locals := 0 })
set_option maxHeartbeats 4000000 in
set_option maxRecDepth 100000 in
theorem m6_accepted (l : Launch) {D : va_G} {g : Nat → ClassId} (mo ms mp me mn np : Nat) (iv lg fg hv : Int64) (f : Nat → Int32) (H : Heap) (hmo : va_P D vwCl [(mo, .inr (6, [.ref ms, .ref mp, .int (nI np), .ref me, .ref mn, .long iv, .long lg, .long fg, .long hv]))] H) (hms : va_P D vwCl [(ms, .inl (g 0, 71, .inl f))] H) : Met l yX6_accepted (ws_ yX6_accepted cX6_accepted 1 (some .int)) rm_m6_accepted (va_Pc [.ref mo] (PH D g H)) (QI (fun r H1 => H1 = H ∧ r = f 19) (fun _ => False)) 0 0 (fun _ => False) := by
  refine Met.ofW (cc := cX6_accepted) (maxL := 1) (ret := (some .int)) (by decide) rfl ?_
  intro p e s m args below meth c s₁ B hml hv
  obtain ⟨rfl, hH, hK⟩ := hv
  subst hH
  have hx := B.exec
  have hb := B.bytes
  have hr := B.returns
  have hts := atoms_spec (ws := ws_ yX6_accepted cX6_accepted 1 (some .int)) B.pre
  have hts : ∀ w ∈ lw_all, w.before _ s = true := fun w h => hts w (List.mem_cons_of_mem _ h)
  have hown : s.vm.findClass RX6 = some m.cls := findClass_of_methodNamed B.named
  have hlocks := B.notSynchronized
  have hS : va_S (fun _ => False) s.heap s.heap [] := va_S.rf
  have hl := lv_entry ([.ref mo]) (n := 1) (Nat.le_of_ble_eq_true rfl)
  rw [lg_entry_eq]
  generalize (lg_sl ([.ref mo]) ++ List.replicate (1 - (lg_sl ([.ref mo])).length) Slot.unset).toArray = ls at hl ⊢
  have hl : lv_has ls 1 [(0, .ref mo)] := hl
  refine lv_aload_n (pc := 0) hx hb dX6_accepted_0 rfl (lv_at hl 0 rfl) ?_
  refine va_get (pc := 1) (D := D) (ci := 6) (v := .ref ms) (C := RX6) (T := TX6) (N := 9) hx hb hts in_X6 hown hK.1 hmo 0 rfl rfl 0 (by decide) (hts _ q574) (fun _ h9 => h9) rfl dX6_accepted_1 ?_
  refine lv_bipush (pc := 4) (v := 19) hx hb dX6_accepted_4 (by decide) ?_
  refine ia_ld (pc := 6) hx hb hK.1 hms 0 0 19 rfl rfl (nl 19) (Nat.le_of_ble_eq_true rfl) (Nat.le_of_ble_eq_true rfl) dX6_accepted_6 ?_
  have hq9 : (fun r H1 => H1 = s.heap ∧ r = f 19 : Int32 → Heap → Prop) (f 19) s.heap := ⟨rfl, rfl⟩
  exact W.iret (v := f 19) hx hb hr (fun t ht hW => ⟨⟨_, rfl, by rw [ht]; exact hq9⟩, hS.F ht⟩) hS.2.2 dX6_accepted_7

abbrev rm_m6_rejected : Room := ({ frames := 0, cells := 0, slots := 0, locals := 0 })
set_option maxHeartbeats 4000000 in
set_option maxRecDepth 100000 in
theorem m6_rejected (l : Launch) {D : va_G} {g : Nat → ClassId} (mo ms mp me mn np : Nat) (iv lg fg hv : Int64) (f : Nat → Int32) (H : Heap) (hmo : va_P D vwCl [(mo, .inr (6, [.ref ms, .ref mp, .int (nI np), .ref me, .ref mn, .long iv, .long lg, .long fg, .long hv]))] H) (hms : va_P D vwCl [(ms, .inl (g 0, 71, .inl f))] H) : Met l yX6_rejected (ws_ yX6_rejected cX6_rejected 1 (some .int)) rm_m6_rejected (va_Pc [.ref mo] (PH D g H)) (QI (fun r H1 => H1 = H ∧ r = f 20) (fun _ => False)) 0 0 (fun _ => False) := by
  refine Met.ofW (cc := cX6_rejected) (maxL := 1) (ret := (some .int)) (by decide) rfl ?_
  intro p e s m args below meth c s₁ B hml hv
  obtain ⟨rfl, hH, hK⟩ := hv
  subst hH
  have hx := B.exec
  have hb := B.bytes
  have hr := B.returns
  have hts := atoms_spec (ws := ws_ yX6_rejected cX6_rejected 1 (some .int)) B.pre
  have hts : ∀ w ∈ lw_all, w.before _ s = true := fun w h => hts w (List.mem_cons_of_mem _ h)
  have hown : s.vm.findClass RX6 = some m.cls := findClass_of_methodNamed B.named
  have hlocks := B.notSynchronized
  have hS : va_S (fun _ => False) s.heap s.heap [] := va_S.rf
  have hl := lv_entry ([.ref mo]) (n := 1) (Nat.le_of_ble_eq_true rfl)
  rw [lg_entry_eq]
  generalize (lg_sl ([.ref mo]) ++ List.replicate (1 - (lg_sl ([.ref mo])).length) Slot.unset).toArray = ls at hl ⊢
  have hl : lv_has ls 1 [(0, .ref mo)] := hl
  refine lv_aload_n (pc := 0) hx hb dX6_rejected_0 rfl (lv_at hl 0 rfl) ?_
  refine va_get (pc := 1) (D := D) (ci := 6) (v := .ref ms) (C := RX6) (T := TX6) (N := 9) hx hb hts in_X6 hown hK.1 hmo 0 rfl rfl 0 (by decide) (hts _ q574) (fun _ h9 => h9) rfl dX6_rejected_1 ?_
  refine lv_bipush (pc := 4) (v := 20) hx hb dX6_rejected_4 (by decide) ?_
  refine ia_ld (pc := 6) hx hb hK.1 hms 0 0 20 rfl rfl (nl 20) (Nat.le_of_ble_eq_true rfl) (Nat.le_of_ble_eq_true rfl) dX6_rejected_6 ?_
  have hq9 : (fun r H1 => H1 = s.heap ∧ r = f 20 : Int32 → Heap → Prop) (f 20) s.heap := ⟨rfl, rfl⟩
  exact W.iret (v := f 20) hx hb hr (fun t ht hW => ⟨⟨_, rfl, by rw [ht]; exact hq9⟩, hS.F ht⟩) hS.2.2 dX6_rejected_7

abbrev rm_m6_missed : Room := ({ frames := 0, cells := 0, slots := 0, locals := 0 })
set_option maxHeartbeats 4000000 in
set_option maxRecDepth 100000 in
theorem m6_missed (l : Launch) {D : va_G} {g : Nat → ClassId} (mo ms mp me mn np : Nat) (iv lg fg hv : Int64) (f : Nat → Int32) (H : Heap) (hmo : va_P D vwCl [(mo, .inr (6, [.ref ms, .ref mp, .int (nI np), .ref me, .ref mn, .long iv, .long lg, .long fg, .long hv]))] H) (hms : va_P D vwCl [(ms, .inl (g 0, 71, .inl f))] H) : Met l yX6_missed (ws_ yX6_missed cX6_missed 1 (some .int)) rm_m6_missed (va_Pc [.ref mo] (PH D g H)) (QI (fun r H1 => H1 = H ∧ r = f 21) (fun _ => False)) 0 0 (fun _ => False) := by
  refine Met.ofW (cc := cX6_missed) (maxL := 1) (ret := (some .int)) (by decide) rfl ?_
  intro p e s m args below meth c s₁ B hml hv
  obtain ⟨rfl, hH, hK⟩ := hv
  subst hH
  have hx := B.exec
  have hb := B.bytes
  have hr := B.returns
  have hts := atoms_spec (ws := ws_ yX6_missed cX6_missed 1 (some .int)) B.pre
  have hts : ∀ w ∈ lw_all, w.before _ s = true := fun w h => hts w (List.mem_cons_of_mem _ h)
  have hown : s.vm.findClass RX6 = some m.cls := findClass_of_methodNamed B.named
  have hlocks := B.notSynchronized
  have hS : va_S (fun _ => False) s.heap s.heap [] := va_S.rf
  have hl := lv_entry ([.ref mo]) (n := 1) (Nat.le_of_ble_eq_true rfl)
  rw [lg_entry_eq]
  generalize (lg_sl ([.ref mo]) ++ List.replicate (1 - (lg_sl ([.ref mo])).length) Slot.unset).toArray = ls at hl ⊢
  have hl : lv_has ls 1 [(0, .ref mo)] := hl
  refine lv_aload_n (pc := 0) hx hb dX6_missed_0 rfl (lv_at hl 0 rfl) ?_
  refine va_get (pc := 1) (D := D) (ci := 6) (v := .ref ms) (C := RX6) (T := TX6) (N := 9) hx hb hts in_X6 hown hK.1 hmo 0 rfl rfl 0 (by decide) (hts _ q574) (fun _ h9 => h9) rfl dX6_missed_1 ?_
  refine lv_bipush (pc := 4) (v := 21) hx hb dX6_missed_4 (by decide) ?_
  refine ia_ld (pc := 6) hx hb hK.1 hms 0 0 21 rfl rfl (nl 21) (Nat.le_of_ble_eq_true rfl) (Nat.le_of_ble_eq_true rfl) dX6_missed_6 ?_
  have hq9 : (fun r H1 => H1 = s.heap ∧ r = f 21 : Int32 → Heap → Prop) (f 21) s.heap := ⟨rfl, rfl⟩
  exact W.iret (v := f 21) hx hb hr (fun t ht hW => ⟨⟨_, rfl, by rw [ht]; exact hq9⟩, hS.F ht⟩) hS.2.2 dX6_missed_7

abbrev rm_m6_historyLength : Room := ({ frames := 0, cells := 0, slots := 0, locals := 0 })
set_option maxHeartbeats 4000000 in
set_option maxRecDepth 100000 in
theorem m6_historyLength (l : Launch) {D : va_G} {g : Nat → ClassId} (mo ms mp me mn np : Nat) (iv lg fg hv : Int64) (f : Nat → Int32) (H : Heap) (hmo : va_P D vwCl [(mo, .inr (6, [.ref ms, .ref mp, .int (nI np), .ref me, .ref mn, .long iv, .long lg, .long fg, .long hv]))] H) (hms : va_P D vwCl [(ms, .inl (g 0, 71, .inl f))] H) : Met l yX6_historyLength (ws_ yX6_historyLength cX6_historyLength 1 (some .int)) rm_m6_historyLength (va_Pc [.ref mo] (PH D g H)) (QI (fun r H1 => H1 = H ∧ r = f 22) (fun _ => False)) 0 0 (fun _ => False) := by
  refine Met.ofW (cc := cX6_historyLength) (maxL := 1) (ret := (some .int)) (by decide) rfl ?_
  intro p e s m args below meth c s₁ B hml hv
  obtain ⟨rfl, hH, hK⟩ := hv
  subst hH
  have hx := B.exec
  have hb := B.bytes
  have hr := B.returns
  have hts := atoms_spec (ws := ws_ yX6_historyLength cX6_historyLength 1 (some .int)) B.pre
  have hts : ∀ w ∈ lw_all, w.before _ s = true := fun w h => hts w (List.mem_cons_of_mem _ h)
  have hown : s.vm.findClass RX6 = some m.cls := findClass_of_methodNamed B.named
  have hlocks := B.notSynchronized
  have hS : va_S (fun _ => False) s.heap s.heap [] := va_S.rf
  have hl := lv_entry ([.ref mo]) (n := 1) (Nat.le_of_ble_eq_true rfl)
  rw [lg_entry_eq]
  generalize (lg_sl ([.ref mo]) ++ List.replicate (1 - (lg_sl ([.ref mo])).length) Slot.unset).toArray = ls at hl ⊢
  have hl : lv_has ls 1 [(0, .ref mo)] := hl
  refine lv_aload_n (pc := 0) hx hb dX6_historyLength_0 rfl (lv_at hl 0 rfl) ?_
  refine va_get (pc := 1) (D := D) (ci := 6) (v := .ref ms) (C := RX6) (T := TX6) (N := 9) hx hb hts in_X6 hown hK.1 hmo 0 rfl rfl 0 (by decide) (hts _ q574) (fun _ h9 => h9) rfl dX6_historyLength_1 ?_
  refine lv_bipush (pc := 4) (v := 22) hx hb dX6_historyLength_4 (by decide) ?_
  refine ia_ld (pc := 6) hx hb hK.1 hms 0 0 22 rfl rfl (nl 22) (Nat.le_of_ble_eq_true rfl) (Nat.le_of_ble_eq_true rfl) dX6_historyLength_6 ?_
  have hq9 : (fun r H1 => H1 = s.heap ∧ r = f 22 : Int32 → Heap → Prop) (f 22) s.heap := ⟨rfl, rfl⟩
  exact W.iret (v := f 22) hx hb hr (fun t ht hW => ⟨⟨_, rfl, by rw [ht]; exact hq9⟩, hS.F ht⟩) hS.2.2 dX6_historyLength_7

abbrev rm_m6_reset : Room := ({ frames := 1, cells := 0, slots := 0, locals := 22 })
set_option maxHeartbeats 4000000 in
set_option maxRecDepth 100000 in
theorem m6_reset (l : Launch) {D : va_G} {g : Nat → ClassId} (mo ms mp me mn np : Nat) (iv lg fg hv : Int64) (ef f pa : Nat → Int32) (nw : Nat → Int64) (lv fl va vc : Int32) (H : Heap) (hP : va_P D vwCl [(mo, .inr (6, [.ref ms, .ref mp, .int (nI np), .ref me, .ref mn, .long iv, .long lg, .long fg, .long hv])), (ms, .inl (g 0, 71, .inl f)), (mp, .inl (g 0, 284, .inl pa)), (me, .inl (g 0, 3, .inl ef)), (mn, .inl (g 1, 5, .inr (.inl nw)))] H) (hN : [mo, ms, mp, me, mn].Nodup) (hnp : np ≤ 4) (hro : RowOK f) : Met l yX6_reset (ws_ yX6_reset cX6_reset 6 (some .int)) rm_m6_reset (va_Pc [.ref mo, .int lv, .int fl, .int va, .int vc] (PH D g H)) (QI (fun r H1 => ((inR (-40960000) 40960000 lv ∧ inR (-4096000) 4096000 fl ∧ inR 0 40960000 va ∧ inR 0 40960000 vc) ∧ r = f 22 ∧ MDI D g H1 mo ms mp me mn (addK 4 np) ef (rsF f lv fl va vc) (ntF np pa f)) ∨ (¬ (inR (-40960000) 40960000 lv ∧ inR (-4096000) 4096000 fl ∧ inR 0 40960000 va ∧ inR 0 40960000 vc) ∧ r = -2000000002 ∧ MDI D g H1 mo ms mp me mn np (upd ef 0 (ef 0 + 1)) f pa)) (Aw [mo, ms, mp, me, mn] H.size)) 0 0 (Aw [mo, ms, mp, me, mn] H.size) := by
  refine Met.ofW (cc := cX6_reset) (maxL := 6) (ret := (some .int)) (by decide) rfl ?_
  intro p e s m args below meth c s₁ B hml hv
  obtain ⟨rfl, hH, hK⟩ := hv
  subst hH
  have hx := B.exec
  have hb := B.bytes
  have hr := B.returns
  have hts := atoms_spec (ws := ws_ yX6_reset cX6_reset 6 (some .int)) B.pre
  have hts : ∀ w ∈ lw_all, w.before _ s = true := fun w h => hts w (List.mem_cons_of_mem _ h)
  have hown : s.vm.findClass RX6 = some m.cls := findClass_of_methodNamed B.named
  have hlocks := B.notSynchronized
  have hA : ∀ q, s.heap.size ≤ q → (Aw [mo, ms, mp, me, mn] s.heap.size) q := fun q h => Or.inr h
  have hS : va_S (Aw [mo, ms, mp, me, mn] s.heap.size) s.heap s.heap [] := va_S.rf
  have hD : va_D (Aw [mo, ms, mp, me, mn] s.heap.size) [(mo, .inr (6, [.ref ms, .ref mp, .int (nI np), .ref me, .ref mn, .long iv, .long lg, .long fg, .long hv])), (ms, .inl (g 0, 71, .inl f)), (mp, .inl (g 0, 284, .inl pa)), (me, .inl (g 0, 3, .inl ef)), (mn, .inl (g 1, 5, .inr (.inl nw)))] := dOf hN (fun q h => Or.inl h)
  have hl := lv_entry ([.ref mo, .int lv, .int fl, .int va, .int vc]) (n := 6) (Nat.le_of_ble_eq_true rfl)
  rw [lg_entry_eq]
  generalize (lg_sl ([.ref mo, .int lv, .int fl, .int va, .int vc]) ++ List.replicate (6 - (lg_sl ([.ref mo, .int lv, .int fl, .int va, .int vc])).length) Slot.unset).toArray = ls at hl ⊢
  have hl : lv_has ls 6 [(0, .ref mo), (1, .int lv), (2, .int fl), (3, .int va), (4, .int vc)] := hl
  refine lv_iload_n (pc := 0) hx hb dX6_reset_0 rfl (lv_at hl 1 rfl) ?_
  refine lv_ldc (pc := 1) (v := (-40960000)) hx hb hown (hts _ q607) dX6_reset_1 ?_
  refine lv_ldc (pc := 3) (v := 40960000) hx hb hown (hts _ q608) dX6_reset_3 ?_
  refine kIp (pc := 5) (va_runS (As := [.int lv, .int (-40960000), .int 40960000]) (rest := []) ⟨hx, hb, hml, hown, hts⟩ (m6_in l lv (-40960000) 40960000 s.heap) (va_cwS 3 hts (lw_S q609 q610 q28 q611) rfl rfl rfl (by decide +kernel) ⟨Nat.le_of_ble_eq_true rfl, Nat.le_of_ble_eq_true rfl⟩) (preS hK) rfl rfl hl.1 rfl (lv_room (Nat.le_of_ble_eq_true rfl)) dX6_reset_5 ⟨Nat.le_of_ble_eq_true rfl, Nat.le_of_ble_eq_true rfl⟩) (fun r1 hr1 => ?_)
  refine lv_if_eq (pc := 8) (tgt := 43) hx hb dX6_reset_8 (by decide) (fun cd2 => ?_) (fun cd2 => ?_)
  · have hnk : ¬ (inR (-40960000) 40960000 lv ∧ inR (-4096000) 4096000 fl ∧ inR 0 40960000 va ∧ inR 0 40960000 vc) := fun h => (bI_eq (hr1.symm.trans cd2)) h.1
    refine lv_aload_n (pc := 43) hx hb dX6_reset_43 rfl (lv_at hl 0 rfl) ?_
    refine lv_ldc (pc := 44) (v := (-2000000002)) hx hb hown (hts _ q614) dX6_reset_44 ?_
    have hFc := awF (Lc := [me]) hD hS hA [3] rfl
    refine kI (pc := 46) (va_runV (As := [.int (-2000000002)]) (rest := []) ⟨hx, hb, hml, hown, hts⟩ (m6_fail l mo ms mp me mn np iv lg fg hv 0 ef (-2000000002) s.heap (hP.sub (ws' := [(me, .inl (g 0, 3, .inl ef))]) [3] rfl) (hP.sub (ws' := [(mo, .inr (6, [.ref ms, .ref mp, .int (nI np), .ref me, .ref mn, .long iv, .long lg, .long fg, .long hv]))]) [0] rfl) (ninW hD 0 [3] rfl rfl (by decide)) (by decide) (by decide)) (cwV 1 hts (lw_V q615 q617 qs8 q28 q618) rfl rfl rfl (by decide +kernel) ⟨Nat.le_of_ble_eq_true rfl, Nat.le_of_ble_eq_true rfl⟩) (preV hK (rcv hK hP 0 rfl rfl)) rfl rfl hl.1 rfl (lv_room (Nat.le_of_ble_eq_true rfl)) dX6_reset_46 ⟨Nat.le_of_ble_eq_true rfl, Nat.le_of_ble_eq_true rfl⟩) hS hFc (fun r3 H locs hp9 hz1 hk1 hS => ?_)
    obtain ⟨hrc, hP1⟩ := hp9
    obtain ⟨hP, hD⟩ := jn (wr := [(mo, .inr (6, [.ref ms, .ref mp, .int (nI np), .ref me, .ref mn, .long iv, .long lg, .long fg, .long hv])), (ms, .inl (g 0, 71, .inl f)), (mp, .inl (g 0, 284, .inl pa)), (mn, .inl (g 1, 5, .inr (.inl nw)))]) (w1 := [(me, .inl (g 0, 3, .inl (upd ef 0 (ef 0 + 1))))]) hP hD [3] [0, 1, 2, 4] rfl rfl (by decide) (by decide) hk1 hFc hP1 (d1 (Or.inl (by simp)))
    have hP : va_P D vwCl [(mo, .inr (6, [.ref ms, .ref mp, .int (nI np), .ref me, .ref mn, .long iv, .long lg, .long fg, .long hv])), (ms, .inl (g 0, 71, .inl f)), (mp, .inl (g 0, 284, .inl pa)), (mn, .inl (g 1, 5, .inr (.inl nw))), (me, .inl (g 0, 3, .inl (upd ef 0 (ef 0 + 1))))] H := hP
    have hD : va_D (Aw [mo, ms, mp, me, mn] s.heap.size) [(mo, .inr (6, [.ref ms, .ref mp, .int (nI np), .ref me, .ref mn, .long iv, .long lg, .long fg, .long hv])), (ms, .inl (g 0, 71, .inl f)), (mp, .inl (g 0, 284, .inl pa)), (mn, .inl (g 1, 5, .inr (.inl nw))), (me, .inl (g 0, 3, .inl (upd ef 0 (ef 0 + 1))))] := hD
    have hq9 : (fun r H1 => ((inR (-40960000) 40960000 lv ∧ inR (-4096000) 4096000 fl ∧ inR 0 40960000 va ∧ inR 0 40960000 vc) ∧ r = f 22 ∧ MDI D g H1 mo ms mp me mn (addK 4 np) ef (rsF f lv fl va vc) (ntF np pa f)) ∨ (¬ (inR (-40960000) 40960000 lv ∧ inR (-4096000) 4096000 fl ∧ inR 0 40960000 va ∧ inR 0 40960000 vc) ∧ r = -2000000002 ∧ MDI D g H1 mo ms mp me mn np (upd ef 0 (ef 0 + 1)) f pa) : Int32 → Heap → Prop) r3 H := Or.inr ⟨hnk, hrc, ⟨_, _, _, _, _, hP.sub [0, 1, 2, 4, 3] rfl⟩⟩
    exact W.iret (v := r3) hx hb hr (fun t ht hW => ⟨⟨_, rfl, by rw [ht]; exact hq9⟩, hS.F ht⟩) hS.2.2 dX6_reset_49
  · have hck8 : inR (-40960000) (40960000) lv := bI_ne (fun e => cd2 (hr1.trans e))
    refine lv_iload_n (pc := 11) hx hb dX6_reset_11 rfl (lv_at hl 2 rfl) ?_
    refine lv_ldc (pc := 12) (v := (-4096000)) hx hb hown (hts _ q612) dX6_reset_12 ?_
    refine lv_ldc (pc := 14) (v := 4096000) hx hb hown (hts _ q613) dX6_reset_14 ?_
    refine kIp (pc := 16) (va_runS (As := [.int fl, .int (-4096000), .int 4096000]) (rest := []) ⟨hx, hb, hml, hown, hts⟩ (m6_in l fl (-4096000) 4096000 s.heap) (va_cwS 3 hts (lw_S q609 q610 q28 q611) rfl rfl rfl (by decide +kernel) ⟨Nat.le_of_ble_eq_true rfl, Nat.le_of_ble_eq_true rfl⟩) (preS hK) rfl rfl hl.1 rfl (lv_room (Nat.le_of_ble_eq_true rfl)) dX6_reset_16 ⟨Nat.le_of_ble_eq_true rfl, Nat.le_of_ble_eq_true rfl⟩) (fun r4 hr4 => ?_)
    refine lv_if_eq (pc := 19) (tgt := 43) hx hb dX6_reset_19 (by decide) (fun cd5 => ?_) (fun cd5 => ?_)
    · have hnk : ¬ (inR (-40960000) 40960000 lv ∧ inR (-4096000) 4096000 fl ∧ inR 0 40960000 va ∧ inR 0 40960000 vc) := fun h => (bI_eq (hr4.symm.trans cd5)) h.2.1
      refine lv_aload_n (pc := 43) hx hb dX6_reset_43 rfl (lv_at hl 0 rfl) ?_
      refine lv_ldc (pc := 44) (v := (-2000000002)) hx hb hown (hts _ q614) dX6_reset_44 ?_
      have hFc := awF (Lc := [me]) hD hS hA [3] rfl
      refine kI (pc := 46) (va_runV (As := [.int (-2000000002)]) (rest := []) ⟨hx, hb, hml, hown, hts⟩ (m6_fail l mo ms mp me mn np iv lg fg hv 0 ef (-2000000002) s.heap (hP.sub (ws' := [(me, .inl (g 0, 3, .inl ef))]) [3] rfl) (hP.sub (ws' := [(mo, .inr (6, [.ref ms, .ref mp, .int (nI np), .ref me, .ref mn, .long iv, .long lg, .long fg, .long hv]))]) [0] rfl) (ninW hD 0 [3] rfl rfl (by decide)) (by decide) (by decide)) (cwV 1 hts (lw_V q615 q617 qs8 q28 q618) rfl rfl rfl (by decide +kernel) ⟨Nat.le_of_ble_eq_true rfl, Nat.le_of_ble_eq_true rfl⟩) (preV hK (rcv hK hP 0 rfl rfl)) rfl rfl hl.1 rfl (lv_room (Nat.le_of_ble_eq_true rfl)) dX6_reset_46 ⟨Nat.le_of_ble_eq_true rfl, Nat.le_of_ble_eq_true rfl⟩) hS hFc (fun r6 H locs hp9 hz1 hk1 hS => ?_)
      obtain ⟨hrc, hP1⟩ := hp9
      obtain ⟨hP, hD⟩ := jn (wr := [(mo, .inr (6, [.ref ms, .ref mp, .int (nI np), .ref me, .ref mn, .long iv, .long lg, .long fg, .long hv])), (ms, .inl (g 0, 71, .inl f)), (mp, .inl (g 0, 284, .inl pa)), (mn, .inl (g 1, 5, .inr (.inl nw)))]) (w1 := [(me, .inl (g 0, 3, .inl (upd ef 0 (ef 0 + 1))))]) hP hD [3] [0, 1, 2, 4] rfl rfl (by decide) (by decide) hk1 hFc hP1 (d1 (Or.inl (by simp)))
      have hP : va_P D vwCl [(mo, .inr (6, [.ref ms, .ref mp, .int (nI np), .ref me, .ref mn, .long iv, .long lg, .long fg, .long hv])), (ms, .inl (g 0, 71, .inl f)), (mp, .inl (g 0, 284, .inl pa)), (mn, .inl (g 1, 5, .inr (.inl nw))), (me, .inl (g 0, 3, .inl (upd ef 0 (ef 0 + 1))))] H := hP
      have hD : va_D (Aw [mo, ms, mp, me, mn] s.heap.size) [(mo, .inr (6, [.ref ms, .ref mp, .int (nI np), .ref me, .ref mn, .long iv, .long lg, .long fg, .long hv])), (ms, .inl (g 0, 71, .inl f)), (mp, .inl (g 0, 284, .inl pa)), (mn, .inl (g 1, 5, .inr (.inl nw))), (me, .inl (g 0, 3, .inl (upd ef 0 (ef 0 + 1))))] := hD
      have hq9 : (fun r H1 => ((inR (-40960000) 40960000 lv ∧ inR (-4096000) 4096000 fl ∧ inR 0 40960000 va ∧ inR 0 40960000 vc) ∧ r = f 22 ∧ MDI D g H1 mo ms mp me mn (addK 4 np) ef (rsF f lv fl va vc) (ntF np pa f)) ∨ (¬ (inR (-40960000) 40960000 lv ∧ inR (-4096000) 4096000 fl ∧ inR 0 40960000 va ∧ inR 0 40960000 vc) ∧ r = -2000000002 ∧ MDI D g H1 mo ms mp me mn np (upd ef 0 (ef 0 + 1)) f pa) : Int32 → Heap → Prop) r6 H := Or.inr ⟨hnk, hrc, ⟨_, _, _, _, _, hP.sub [0, 1, 2, 4, 3] rfl⟩⟩
      exact W.iret (v := r6) hx hb hr (fun t ht hW => ⟨⟨_, rfl, by rw [ht]; exact hq9⟩, hS.F ht⟩) hS.2.2 dX6_reset_49
    · have hck19 : inR (-4096000) (4096000) fl := bI_ne (fun e => cd5 (hr4.trans e))
      refine lv_iload_n (pc := 22) hx hb dX6_reset_22 rfl (lv_at hl 3 rfl) ?_
      refine lv_iconst (pc := 23) (v := 0) hx hb dX6_reset_23 (by decide) ?_
      refine lv_ldc (pc := 24) (v := 40960000) hx hb hown (hts _ q608) dX6_reset_24 ?_
      refine kIp (pc := 26) (va_runS (As := [.int va, .int 0, .int 40960000]) (rest := []) ⟨hx, hb, hml, hown, hts⟩ (m6_in l va 0 40960000 s.heap) (va_cwS 3 hts (lw_S q609 q610 q28 q611) rfl rfl rfl (by decide +kernel) ⟨Nat.le_of_ble_eq_true rfl, Nat.le_of_ble_eq_true rfl⟩) (preS hK) rfl rfl hl.1 rfl (lv_room (Nat.le_of_ble_eq_true rfl)) dX6_reset_26 ⟨Nat.le_of_ble_eq_true rfl, Nat.le_of_ble_eq_true rfl⟩) (fun r7 hr7 => ?_)
      refine lv_if_eq (pc := 29) (tgt := 43) hx hb dX6_reset_29 (by decide) (fun cd8 => ?_) (fun cd8 => ?_)
      · have hnk : ¬ (inR (-40960000) 40960000 lv ∧ inR (-4096000) 4096000 fl ∧ inR 0 40960000 va ∧ inR 0 40960000 vc) := fun h => (bI_eq (hr7.symm.trans cd8)) h.2.2.1
        refine lv_aload_n (pc := 43) hx hb dX6_reset_43 rfl (lv_at hl 0 rfl) ?_
        refine lv_ldc (pc := 44) (v := (-2000000002)) hx hb hown (hts _ q614) dX6_reset_44 ?_
        have hFc := awF (Lc := [me]) hD hS hA [3] rfl
        refine kI (pc := 46) (va_runV (As := [.int (-2000000002)]) (rest := []) ⟨hx, hb, hml, hown, hts⟩ (m6_fail l mo ms mp me mn np iv lg fg hv 0 ef (-2000000002) s.heap (hP.sub (ws' := [(me, .inl (g 0, 3, .inl ef))]) [3] rfl) (hP.sub (ws' := [(mo, .inr (6, [.ref ms, .ref mp, .int (nI np), .ref me, .ref mn, .long iv, .long lg, .long fg, .long hv]))]) [0] rfl) (ninW hD 0 [3] rfl rfl (by decide)) (by decide) (by decide)) (cwV 1 hts (lw_V q615 q617 qs8 q28 q618) rfl rfl rfl (by decide +kernel) ⟨Nat.le_of_ble_eq_true rfl, Nat.le_of_ble_eq_true rfl⟩) (preV hK (rcv hK hP 0 rfl rfl)) rfl rfl hl.1 rfl (lv_room (Nat.le_of_ble_eq_true rfl)) dX6_reset_46 ⟨Nat.le_of_ble_eq_true rfl, Nat.le_of_ble_eq_true rfl⟩) hS hFc (fun r9 H locs hp9 hz1 hk1 hS => ?_)
        obtain ⟨hrc, hP1⟩ := hp9
        obtain ⟨hP, hD⟩ := jn (wr := [(mo, .inr (6, [.ref ms, .ref mp, .int (nI np), .ref me, .ref mn, .long iv, .long lg, .long fg, .long hv])), (ms, .inl (g 0, 71, .inl f)), (mp, .inl (g 0, 284, .inl pa)), (mn, .inl (g 1, 5, .inr (.inl nw)))]) (w1 := [(me, .inl (g 0, 3, .inl (upd ef 0 (ef 0 + 1))))]) hP hD [3] [0, 1, 2, 4] rfl rfl (by decide) (by decide) hk1 hFc hP1 (d1 (Or.inl (by simp)))
        have hP : va_P D vwCl [(mo, .inr (6, [.ref ms, .ref mp, .int (nI np), .ref me, .ref mn, .long iv, .long lg, .long fg, .long hv])), (ms, .inl (g 0, 71, .inl f)), (mp, .inl (g 0, 284, .inl pa)), (mn, .inl (g 1, 5, .inr (.inl nw))), (me, .inl (g 0, 3, .inl (upd ef 0 (ef 0 + 1))))] H := hP
        have hD : va_D (Aw [mo, ms, mp, me, mn] s.heap.size) [(mo, .inr (6, [.ref ms, .ref mp, .int (nI np), .ref me, .ref mn, .long iv, .long lg, .long fg, .long hv])), (ms, .inl (g 0, 71, .inl f)), (mp, .inl (g 0, 284, .inl pa)), (mn, .inl (g 1, 5, .inr (.inl nw))), (me, .inl (g 0, 3, .inl (upd ef 0 (ef 0 + 1))))] := hD
        have hq9 : (fun r H1 => ((inR (-40960000) 40960000 lv ∧ inR (-4096000) 4096000 fl ∧ inR 0 40960000 va ∧ inR 0 40960000 vc) ∧ r = f 22 ∧ MDI D g H1 mo ms mp me mn (addK 4 np) ef (rsF f lv fl va vc) (ntF np pa f)) ∨ (¬ (inR (-40960000) 40960000 lv ∧ inR (-4096000) 4096000 fl ∧ inR 0 40960000 va ∧ inR 0 40960000 vc) ∧ r = -2000000002 ∧ MDI D g H1 mo ms mp me mn np (upd ef 0 (ef 0 + 1)) f pa) : Int32 → Heap → Prop) r9 H := Or.inr ⟨hnk, hrc, ⟨_, _, _, _, _, hP.sub [0, 1, 2, 4, 3] rfl⟩⟩
        exact W.iret (v := r9) hx hb hr (fun t ht hW => ⟨⟨_, rfl, by rw [ht]; exact hq9⟩, hS.F ht⟩) hS.2.2 dX6_reset_49
      · have hck29 : inR (0) (40960000) va := bI_ne (fun e => cd8 (hr7.trans e))
        refine lv_iload (pc := 32) hx hb dX6_reset_32 (lv_at hl 4 rfl) ?_
        refine lv_iconst (pc := 34) (v := 0) hx hb dX6_reset_34 (by decide) ?_
        refine lv_ldc (pc := 35) (v := 40960000) hx hb hown (hts _ q608) dX6_reset_35 ?_
        refine kIp (pc := 37) (va_runS (As := [.int vc, .int 0, .int 40960000]) (rest := []) ⟨hx, hb, hml, hown, hts⟩ (m6_in l vc 0 40960000 s.heap) (va_cwS 3 hts (lw_S q609 q610 q28 q611) rfl rfl rfl (by decide +kernel) ⟨Nat.le_of_ble_eq_true rfl, Nat.le_of_ble_eq_true rfl⟩) (preS hK) rfl rfl hl.1 rfl (lv_room (Nat.le_of_ble_eq_true rfl)) dX6_reset_37 ⟨Nat.le_of_ble_eq_true rfl, Nat.le_of_ble_eq_true rfl⟩) (fun r10 hr10 => ?_)
        refine lv_if_ne (pc := 40) (tgt := 50) hx hb dX6_reset_40 (by decide) (fun cd11 => ?_) (fun cd11 => ?_)
        · have hck40 : inR (0) (40960000) vc := bI_ne (fun e => cd11 (hr10.trans e))
          refine lv_aload_n (pc := 50) hx hb dX6_reset_50 rfl (lv_at hl 0 rfl) ?_
          have hFc := awF (Lc := [mo, mp]) hD hS hA [0, 2] rfl
          refine kV (pc := 51) (va_runV (As := []) (rest := []) ⟨hx, hb, hml, hown, hts⟩ (m6_note l mo ms mp me mn np iv lg fg hv f pa s.heap (hP.sub (ws' := [(mo, .inr (6, [.ref ms, .ref mp, .int (nI np), .ref me, .ref mn, .long iv, .long lg, .long fg, .long hv])), (mp, .inl (g 0, 284, .inl pa))]) [0, 2] rfl) (nodupW hD [0, 2] rfl (by decide)) (hP.sub (ws' := [(ms, .inl (g 0, 71, .inl f))]) [1] rfl) (ninW hD 1 [0, 2] rfl rfl (by decide)) hnp) (cwV 0 hts (lw_V q619 q621 qs9 q28 q622) rfl rfl rfl (by decide +kernel) ⟨Nat.le_of_ble_eq_true rfl, Nat.le_of_ble_eq_true rfl⟩) (preV hK (rcv hK hP 0 rfl rfl)) rfl rfl hl.1 rfl (lv_room (Nat.le_of_ble_eq_true rfl)) dX6_reset_51 ⟨Nat.le_of_ble_eq_true rfl, Nat.le_of_ble_eq_true rfl⟩) hS hFc (fun H locs hp9 hz1 hk1 hS => ?_)
          have hP1 := hp9
          obtain ⟨hP, hD⟩ := jn (wr := [(ms, .inl (g 0, 71, .inl f)), (me, .inl (g 0, 3, .inl ef)), (mn, .inl (g 1, 5, .inr (.inl nw)))]) (w1 := [(mo, .inr (6, [.ref ms, .ref mp, .int (nI (addK 4 np)), .ref me, .ref mn, .long iv, .long lg, .long fg, .long hv])), (mp, .inl (g 0, 284, .inl (ntF np pa f)))]) hP hD [0, 2] [1, 3, 4] rfl rfl (by decide) (by decide) hk1 hFc hP1 (dOf (nodupW hD [0, 2] rfl (by decide)) (fun q h => Or.inl h))
          have hP : va_P D vwCl [(ms, .inl (g 0, 71, .inl f)), (me, .inl (g 0, 3, .inl ef)), (mn, .inl (g 1, 5, .inr (.inl nw))), (mo, .inr (6, [.ref ms, .ref mp, .int (nI (addK 4 np)), .ref me, .ref mn, .long iv, .long lg, .long fg, .long hv])), (mp, .inl (g 0, 284, .inl (ntF np pa f)))] H := hP
          have hD : va_D (Aw [mo, ms, mp, me, mn] s.heap.size) [(ms, .inl (g 0, 71, .inl f)), (me, .inl (g 0, 3, .inl ef)), (mn, .inl (g 1, 5, .inr (.inl nw))), (mo, .inr (6, [.ref ms, .ref mp, .int (nI (addK 4 np)), .ref me, .ref mn, .long iv, .long lg, .long fg, .long hv])), (mp, .inl (g 0, 284, .inl (ntF np pa f)))] := hD
          refine lv_aload_n (pc := 54) hx hb dX6_reset_54 rfl (lv_at hl 0 rfl) ?_
          refine va_get (pc := 55) (D := D) (ci := 6) (v := .ref ms) (C := RX6) (T := TX6) (N := 9) hx hb hts in_X6 hown hK.1 hP 3 rfl rfl 0 (by decide) (hts _ q574) (fun _ h9 => h9) rfl dX6_reset_55 ?_
          refine lv_bipush (pc := 58) (v := 22) hx hb dX6_reset_58 (by decide) ?_
          refine ia_ld (pc := 60) hx hb hK.1 hP 0 0 22 rfl rfl (nl 22) (Nat.le_of_ble_eq_true rfl) (Nat.le_of_ble_eq_true rfl) dX6_reset_60 ?_
          refine lv_istore (pc := 61) (lv' := [(5, .int (f 22)), (0, .ref mo), (1, .int lv), (2, .int fl), (3, .int va), (4, .int vc)]) hx hb dX6_reset_61 hl (by decide) rfl (fun ls hl => ?_)
          refine lv_aload_n (pc := 63) hx hb dX6_reset_63 rfl (lv_at hl 1 rfl) ?_
          refine va_get (pc := 64) (D := D) (ci := 6) (v := .ref ms) (C := RX6) (T := TX6) (N := 9) hx hb hts in_X6 hown hK.1 hP 3 rfl rfl 0 (by decide) (hts _ q574) (fun _ h9 => h9) rfl dX6_reset_64 ?_
          refine lv_iconst (pc := 67) (v := 0) hx hb dX6_reset_67 (by decide) ?_
          refine lv_iload_n (pc := 68) hx hb dX6_reset_68 rfl (lv_at hl 2 rfl) ?_
          refine ia_st (pc := 69) (f' := (upd f 0 lv)) hx hb hK.1 hP hD hS 0 0 0 rfl rfl (nl 0) (Nat.le_of_ble_eq_true rfl) (Nat.le_of_ble_eq_true rfl) (fun _ _ => rfl) dX6_reset_69 (fun H locs hP hD hS => ?_)
          have hP : va_P D vwCl [(ms, .inl (g 0, 71, .inl (upd f 0 lv))), (me, .inl (g 0, 3, .inl ef)), (mn, .inl (g 1, 5, .inr (.inl nw))), (mo, .inr (6, [.ref ms, .ref mp, .int (nI (addK 4 np)), .ref me, .ref mn, .long iv, .long lg, .long fg, .long hv])), (mp, .inl (g 0, 284, .inl (ntF np pa f)))] H := hP
          have hD : va_D (Aw [mo, ms, mp, me, mn] s.heap.size) [(ms, .inl (g 0, 71, .inl (upd f 0 lv))), (me, .inl (g 0, 3, .inl ef)), (mn, .inl (g 1, 5, .inr (.inl nw))), (mo, .inr (6, [.ref ms, .ref mp, .int (nI (addK 4 np)), .ref me, .ref mn, .long iv, .long lg, .long fg, .long hv])), (mp, .inl (g 0, 284, .inl (ntF np pa f)))] := hD
          refine lv_aload_n (pc := 70) hx hb dX6_reset_70 rfl (lv_at hl 1 rfl) ?_
          refine va_get (pc := 71) (D := D) (ci := 6) (v := .ref ms) (C := RX6) (T := TX6) (N := 9) hx hb hts in_X6 hown hK.1 hP 3 rfl rfl 0 (by decide) (hts _ q574) (fun _ h9 => h9) rfl dX6_reset_71 ?_
          refine lv_iconst (pc := 74) (v := 1) hx hb dX6_reset_74 (by decide) ?_
          refine lv_iload_n (pc := 75) hx hb dX6_reset_75 rfl (lv_at hl 3 rfl) ?_
          refine ia_st (pc := 76) (f' := (upd (upd f 0 lv) 1 fl)) hx hb hK.1 hP hD hS 0 0 1 rfl rfl (nl 1) (Nat.le_of_ble_eq_true rfl) (Nat.le_of_ble_eq_true rfl) (fun _ _ => rfl) dX6_reset_76 (fun H locs hP hD hS => ?_)
          have hP : va_P D vwCl [(ms, .inl (g 0, 71, .inl (upd (upd f 0 lv) 1 fl))), (me, .inl (g 0, 3, .inl ef)), (mn, .inl (g 1, 5, .inr (.inl nw))), (mo, .inr (6, [.ref ms, .ref mp, .int (nI (addK 4 np)), .ref me, .ref mn, .long iv, .long lg, .long fg, .long hv])), (mp, .inl (g 0, 284, .inl (ntF np pa f)))] H := hP
          have hD : va_D (Aw [mo, ms, mp, me, mn] s.heap.size) [(ms, .inl (g 0, 71, .inl (upd (upd f 0 lv) 1 fl))), (me, .inl (g 0, 3, .inl ef)), (mn, .inl (g 1, 5, .inr (.inl nw))), (mo, .inr (6, [.ref ms, .ref mp, .int (nI (addK 4 np)), .ref me, .ref mn, .long iv, .long lg, .long fg, .long hv])), (mp, .inl (g 0, 284, .inl (ntF np pa f)))] := hD
          refine lv_aload_n (pc := 77) hx hb dX6_reset_77 rfl (lv_at hl 1 rfl) ?_
          refine va_get (pc := 78) (D := D) (ci := 6) (v := .ref ms) (C := RX6) (T := TX6) (N := 9) hx hb hts in_X6 hown hK.1 hP 3 rfl rfl 0 (by decide) (hts _ q574) (fun _ h9 => h9) rfl dX6_reset_78 ?_
          refine lv_iconst (pc := 81) (v := 2) hx hb dX6_reset_81 (by decide) ?_
          refine lv_iload_n (pc := 82) hx hb dX6_reset_82 rfl (lv_at hl 4 rfl) ?_
          refine ia_st (pc := 83) (f' := (upd (upd (upd f 0 lv) 1 fl) 2 va)) hx hb hK.1 hP hD hS 0 0 2 rfl rfl (nl 2) (Nat.le_of_ble_eq_true rfl) (Nat.le_of_ble_eq_true rfl) (fun _ _ => rfl) dX6_reset_83 (fun H locs hP hD hS => ?_)
          have hP : va_P D vwCl [(ms, .inl (g 0, 71, .inl (upd (upd (upd f 0 lv) 1 fl) 2 va))), (me, .inl (g 0, 3, .inl ef)), (mn, .inl (g 1, 5, .inr (.inl nw))), (mo, .inr (6, [.ref ms, .ref mp, .int (nI (addK 4 np)), .ref me, .ref mn, .long iv, .long lg, .long fg, .long hv])), (mp, .inl (g 0, 284, .inl (ntF np pa f)))] H := hP
          have hD : va_D (Aw [mo, ms, mp, me, mn] s.heap.size) [(ms, .inl (g 0, 71, .inl (upd (upd (upd f 0 lv) 1 fl) 2 va))), (me, .inl (g 0, 3, .inl ef)), (mn, .inl (g 1, 5, .inr (.inl nw))), (mo, .inr (6, [.ref ms, .ref mp, .int (nI (addK 4 np)), .ref me, .ref mn, .long iv, .long lg, .long fg, .long hv])), (mp, .inl (g 0, 284, .inl (ntF np pa f)))] := hD
          refine lv_aload_n (pc := 84) hx hb dX6_reset_84 rfl (lv_at hl 1 rfl) ?_
          refine va_get (pc := 85) (D := D) (ci := 6) (v := .ref ms) (C := RX6) (T := TX6) (N := 9) hx hb hts in_X6 hown hK.1 hP 3 rfl rfl 0 (by decide) (hts _ q574) (fun _ h9 => h9) rfl dX6_reset_85 ?_
          refine lv_iconst (pc := 88) (v := 3) hx hb dX6_reset_88 (by decide) ?_
          refine lv_iconst (pc := 89) (v := 0) hx hb dX6_reset_89 (by decide) ?_
          refine ia_st (pc := 90) (f' := (upd (upd (upd (upd f 0 lv) 1 fl) 2 va) 3 0)) hx hb hK.1 hP hD hS 0 0 3 rfl rfl (nl 3) (Nat.le_of_ble_eq_true rfl) (Nat.le_of_ble_eq_true rfl) (fun _ _ => rfl) dX6_reset_90 (fun H locs hP hD hS => ?_)
          have hP : va_P D vwCl [(ms, .inl (g 0, 71, .inl (upd (upd (upd (upd f 0 lv) 1 fl) 2 va) 3 0))), (me, .inl (g 0, 3, .inl ef)), (mn, .inl (g 1, 5, .inr (.inl nw))), (mo, .inr (6, [.ref ms, .ref mp, .int (nI (addK 4 np)), .ref me, .ref mn, .long iv, .long lg, .long fg, .long hv])), (mp, .inl (g 0, 284, .inl (ntF np pa f)))] H := hP
          have hD : va_D (Aw [mo, ms, mp, me, mn] s.heap.size) [(ms, .inl (g 0, 71, .inl (upd (upd (upd (upd f 0 lv) 1 fl) 2 va) 3 0))), (me, .inl (g 0, 3, .inl ef)), (mn, .inl (g 1, 5, .inr (.inl nw))), (mo, .inr (6, [.ref ms, .ref mp, .int (nI (addK 4 np)), .ref me, .ref mn, .long iv, .long lg, .long fg, .long hv])), (mp, .inl (g 0, 284, .inl (ntF np pa f)))] := hD
          refine lv_aload_n (pc := 91) hx hb dX6_reset_91 rfl (lv_at hl 1 rfl) ?_
          refine va_get (pc := 92) (D := D) (ci := 6) (v := .ref ms) (C := RX6) (T := TX6) (N := 9) hx hb hts in_X6 hown hK.1 hP 3 rfl rfl 0 (by decide) (hts _ q574) (fun _ h9 => h9) rfl dX6_reset_92 ?_
          refine lv_iconst (pc := 95) (v := 4) hx hb dX6_reset_95 (by decide) ?_
          refine lv_iload (pc := 96) hx hb dX6_reset_96 (lv_at hl 5 rfl) ?_
          refine ia_st (pc := 98) (f' := (upd (upd (upd (upd (upd f 0 lv) 1 fl) 2 va) 3 0) 4 vc)) hx hb hK.1 hP hD hS 0 0 4 rfl rfl (nl 4) (Nat.le_of_ble_eq_true rfl) (Nat.le_of_ble_eq_true rfl) (fun _ _ => rfl) dX6_reset_98 (fun H locs hP hD hS => ?_)
          have hP : va_P D vwCl [(ms, .inl (g 0, 71, .inl (upd (upd (upd (upd (upd f 0 lv) 1 fl) 2 va) 3 0) 4 vc))), (me, .inl (g 0, 3, .inl ef)), (mn, .inl (g 1, 5, .inr (.inl nw))), (mo, .inr (6, [.ref ms, .ref mp, .int (nI (addK 4 np)), .ref me, .ref mn, .long iv, .long lg, .long fg, .long hv])), (mp, .inl (g 0, 284, .inl (ntF np pa f)))] H := hP
          have hD : va_D (Aw [mo, ms, mp, me, mn] s.heap.size) [(ms, .inl (g 0, 71, .inl (upd (upd (upd (upd (upd f 0 lv) 1 fl) 2 va) 3 0) 4 vc))), (me, .inl (g 0, 3, .inl ef)), (mn, .inl (g 1, 5, .inr (.inl nw))), (mo, .inr (6, [.ref ms, .ref mp, .int (nI (addK 4 np)), .ref me, .ref mn, .long iv, .long lg, .long fg, .long hv])), (mp, .inl (g 0, 284, .inl (ntF np pa f)))] := hD
          refine lv_aload_n (pc := 99) hx hb dX6_reset_99 rfl (lv_at hl 1 rfl) ?_
          have hFc := awF (Lc := [ms]) hD hS hA [0] rfl
          refine kV (pc := 100) (va_runV (As := []) (rest := []) ⟨hx, hb, hml, hown, hts⟩ (m6_forget l mo ms mp me mn (addK 4 np) iv lg fg hv (upd (upd (upd (upd (upd f 0 lv) 1 fl) 2 va) 3 0) 4 vc) H (hP.sub (ws' := [(ms, .inl (g 0, 71, .inl (upd (upd (upd (upd (upd f 0 lv) 1 fl) 2 va) 3 0) 4 vc)))]) [0] rfl) (hP.sub (ws' := [(mo, .inr (6, [.ref ms, .ref mp, .int (nI (addK 4 np)), .ref me, .ref mn, .long iv, .long lg, .long fg, .long hv]))]) [3] rfl) (ninW hD 3 [0] rfl rfl (by decide))) (cwV 0 hts (lw_V q569 q571 qs7 q28 q572) rfl rfl rfl (by decide +kernel) ⟨Nat.le_of_ble_eq_true rfl, Nat.le_of_ble_eq_true rfl⟩) (preV hK (rcv hK hP 3 rfl rfl)) rfl rfl hl.1 rfl (lv_room (Nat.le_of_ble_eq_true rfl)) dX6_reset_100 ⟨Nat.le_of_ble_eq_true rfl, Nat.le_of_ble_eq_true rfl⟩) hS hFc (fun H locs hp9 hz1 hk1 hS => ?_)
          have hP1 := hp9
          obtain ⟨hP, hD⟩ := jn (wr := [(me, .inl (g 0, 3, .inl ef)), (mn, .inl (g 1, 5, .inr (.inl nw))), (mo, .inr (6, [.ref ms, .ref mp, .int (nI (addK 4 np)), .ref me, .ref mn, .long iv, .long lg, .long fg, .long hv])), (mp, .inl (g 0, 284, .inl (ntF np pa f)))]) (w1 := [(ms, .inl (g 0, 71, .inl (fgK (upd (upd (upd (upd (upd f 0 lv) 1 fl) 2 va) 3 0) 4 vc) 71)))]) hP hD [0] [1, 2, 3, 4] rfl rfl (by decide) (by decide) hk1 hFc hP1 (d1 (Or.inl (by simp)))
          have hP : va_P D vwCl [(me, .inl (g 0, 3, .inl ef)), (mn, .inl (g 1, 5, .inr (.inl nw))), (mo, .inr (6, [.ref ms, .ref mp, .int (nI (addK 4 np)), .ref me, .ref mn, .long iv, .long lg, .long fg, .long hv])), (mp, .inl (g 0, 284, .inl (ntF np pa f))), (ms, .inl (g 0, 71, .inl (fgK (upd (upd (upd (upd (upd f 0 lv) 1 fl) 2 va) 3 0) 4 vc) 71)))] H := hP
          have hD : va_D (Aw [mo, ms, mp, me, mn] s.heap.size) [(me, .inl (g 0, 3, .inl ef)), (mn, .inl (g 1, 5, .inr (.inl nw))), (mo, .inr (6, [.ref ms, .ref mp, .int (nI (addK 4 np)), .ref me, .ref mn, .long iv, .long lg, .long fg, .long hv])), (mp, .inl (g 0, 284, .inl (ntF np pa f))), (ms, .inl (g 0, 71, .inl (fgK (upd (upd (upd (upd (upd f 0 lv) 1 fl) 2 va) 3 0) 4 vc) 71)))] := hD
          refine lv_iload (pc := 103) hx hb dX6_reset_103 (lv_at hl 0 rfl) ?_
          have hq9 : (fun r H1 => ((inR (-40960000) 40960000 lv ∧ inR (-4096000) 4096000 fl ∧ inR 0 40960000 va ∧ inR 0 40960000 vc) ∧ r = f 22 ∧ MDI D g H1 mo ms mp me mn (addK 4 np) ef (rsF f lv fl va vc) (ntF np pa f)) ∨ (¬ (inR (-40960000) 40960000 lv ∧ inR (-4096000) 4096000 fl ∧ inR 0 40960000 va ∧ inR 0 40960000 vc) ∧ r = -2000000002 ∧ MDI D g H1 mo ms mp me mn np (upd ef 0 (ef 0 + 1)) f pa) : Int32 → Heap → Prop) (f 22) H := Or.inl ⟨⟨hck8, hck19, hck29, hck40⟩, rfl, MDI.to (f := (fgK (upd (upd (upd (upd (upd f 0 lv) 1 fl) 2 va) 3 0) 4 vc) 71)) ⟨_, _, _, _, _, hP.sub [2, 4, 3, 0, 1] rfl⟩ (fun j hj => rs_eq hj)⟩
          exact W.iret (v := f 22) hx hb hr (fun t ht hW => ⟨⟨_, rfl, by rw [ht]; exact hq9⟩, hS.F ht⟩) hS.2.2 dX6_reset_105
        · have hnk : ¬ (inR (-40960000) 40960000 lv ∧ inR (-4096000) 4096000 fl ∧ inR 0 40960000 va ∧ inR 0 40960000 vc) := fun h => (bI_eq (hr10.symm.trans cd11)) h.2.2.2
          refine lv_aload_n (pc := 43) hx hb dX6_reset_43 rfl (lv_at hl 0 rfl) ?_
          refine lv_ldc (pc := 44) (v := (-2000000002)) hx hb hown (hts _ q614) dX6_reset_44 ?_
          have hFc := awF (Lc := [me]) hD hS hA [3] rfl
          refine kI (pc := 46) (va_runV (As := [.int (-2000000002)]) (rest := []) ⟨hx, hb, hml, hown, hts⟩ (m6_fail l mo ms mp me mn np iv lg fg hv 0 ef (-2000000002) s.heap (hP.sub (ws' := [(me, .inl (g 0, 3, .inl ef))]) [3] rfl) (hP.sub (ws' := [(mo, .inr (6, [.ref ms, .ref mp, .int (nI np), .ref me, .ref mn, .long iv, .long lg, .long fg, .long hv]))]) [0] rfl) (ninW hD 0 [3] rfl rfl (by decide)) (by decide) (by decide)) (cwV 1 hts (lw_V q615 q617 qs8 q28 q618) rfl rfl rfl (by decide +kernel) ⟨Nat.le_of_ble_eq_true rfl, Nat.le_of_ble_eq_true rfl⟩) (preV hK (rcv hK hP 0 rfl rfl)) rfl rfl hl.1 rfl (lv_room (Nat.le_of_ble_eq_true rfl)) dX6_reset_46 ⟨Nat.le_of_ble_eq_true rfl, Nat.le_of_ble_eq_true rfl⟩) hS hFc (fun r14 H locs hp9 hz1 hk1 hS => ?_)
          obtain ⟨hrc, hP1⟩ := hp9
          obtain ⟨hP, hD⟩ := jn (wr := [(mo, .inr (6, [.ref ms, .ref mp, .int (nI np), .ref me, .ref mn, .long iv, .long lg, .long fg, .long hv])), (ms, .inl (g 0, 71, .inl f)), (mp, .inl (g 0, 284, .inl pa)), (mn, .inl (g 1, 5, .inr (.inl nw)))]) (w1 := [(me, .inl (g 0, 3, .inl (upd ef 0 (ef 0 + 1))))]) hP hD [3] [0, 1, 2, 4] rfl rfl (by decide) (by decide) hk1 hFc hP1 (d1 (Or.inl (by simp)))
          have hP : va_P D vwCl [(mo, .inr (6, [.ref ms, .ref mp, .int (nI np), .ref me, .ref mn, .long iv, .long lg, .long fg, .long hv])), (ms, .inl (g 0, 71, .inl f)), (mp, .inl (g 0, 284, .inl pa)), (mn, .inl (g 1, 5, .inr (.inl nw))), (me, .inl (g 0, 3, .inl (upd ef 0 (ef 0 + 1))))] H := hP
          have hD : va_D (Aw [mo, ms, mp, me, mn] s.heap.size) [(mo, .inr (6, [.ref ms, .ref mp, .int (nI np), .ref me, .ref mn, .long iv, .long lg, .long fg, .long hv])), (ms, .inl (g 0, 71, .inl f)), (mp, .inl (g 0, 284, .inl pa)), (mn, .inl (g 1, 5, .inr (.inl nw))), (me, .inl (g 0, 3, .inl (upd ef 0 (ef 0 + 1))))] := hD
          have hq9 : (fun r H1 => ((inR (-40960000) 40960000 lv ∧ inR (-4096000) 4096000 fl ∧ inR 0 40960000 va ∧ inR 0 40960000 vc) ∧ r = f 22 ∧ MDI D g H1 mo ms mp me mn (addK 4 np) ef (rsF f lv fl va vc) (ntF np pa f)) ∨ (¬ (inR (-40960000) 40960000 lv ∧ inR (-4096000) 4096000 fl ∧ inR 0 40960000 va ∧ inR 0 40960000 vc) ∧ r = -2000000002 ∧ MDI D g H1 mo ms mp me mn np (upd ef 0 (ef 0 + 1)) f pa) : Int32 → Heap → Prop) r14 H := Or.inr ⟨hnk, hrc, ⟨_, _, _, _, _, hP.sub [0, 1, 2, 4, 3] rfl⟩⟩
          exact W.iret (v := r14) hx hb hr (fun t ht hW => ⟨⟨_, rfl, by rw [ht]; exact hq9⟩, hS.F ht⟩) hS.2.2 dX6_reset_49

abbrev rm_m6_setNoise : Room := ({ frames := 1, cells := 0, slots := 0, locals := 22 })
set_option maxHeartbeats 4000000 in
set_option maxRecDepth 100000 in
theorem m6_setNoise (l : Launch) {D : va_G} {g : Nat → ClassId} (mo ms mp me mn np : Nat) (iv lg fg hv : Int64) (ef f pa : Nat → Int32) (nw : Nat → Int64) (q w : Int32) (H : Heap) (hP : va_P D vwCl [(mo, .inr (6, [.ref ms, .ref mp, .int (nI np), .ref me, .ref mn, .long iv, .long lg, .long fg, .long hv])), (ms, .inl (g 0, 71, .inl f)), (mp, .inl (g 0, 284, .inl pa)), (me, .inl (g 0, 3, .inl ef)), (mn, .inl (g 1, 5, .inr (.inl nw)))] H) (hN : [mo, ms, mp, me, mn].Nodup) (hnp : np ≤ 4) (hro : RowOK f) : Met l yX6_setProcessNoise (ws_ yX6_setProcessNoise cX6_setProcessNoise 4 (some .int)) rm_m6_setNoise (va_Pc [.ref mo, .int q, .int w] (PH D g H)) (QI (fun r H1 => ((inR 0 4096000 q ∧ inR 0 4096000 w) ∧ r = f 6 ∧ MDI D g H1 mo ms mp me mn (addK 4 np) ef (upd (upd f 5 q) 6 w) (ntF np pa f)) ∨ (¬ (inR 0 4096000 q ∧ inR 0 4096000 w) ∧ r = -2000000002 ∧ MDI D g H1 mo ms mp me mn np (upd ef 0 (ef 0 + 1)) f pa)) (Aw [mo, ms, mp, me, mn] H.size)) 0 0 (Aw [mo, ms, mp, me, mn] H.size) := by
  refine Met.ofW (cc := cX6_setProcessNoise) (maxL := 4) (ret := (some .int)) (by decide) rfl ?_
  intro p e s m args below meth c s₁ B hml hv
  obtain ⟨rfl, hH, hK⟩ := hv
  subst hH
  have hx := B.exec
  have hb := B.bytes
  have hr := B.returns
  have hts := atoms_spec (ws := ws_ yX6_setProcessNoise cX6_setProcessNoise 4 (some .int)) B.pre
  have hts : ∀ w ∈ lw_all, w.before _ s = true := fun w h => hts w (List.mem_cons_of_mem _ h)
  have hown : s.vm.findClass RX6 = some m.cls := findClass_of_methodNamed B.named
  have hlocks := B.notSynchronized
  have hA : ∀ q, s.heap.size ≤ q → (Aw [mo, ms, mp, me, mn] s.heap.size) q := fun q h => Or.inr h
  have hS : va_S (Aw [mo, ms, mp, me, mn] s.heap.size) s.heap s.heap [] := va_S.rf
  have hD : va_D (Aw [mo, ms, mp, me, mn] s.heap.size) [(mo, .inr (6, [.ref ms, .ref mp, .int (nI np), .ref me, .ref mn, .long iv, .long lg, .long fg, .long hv])), (ms, .inl (g 0, 71, .inl f)), (mp, .inl (g 0, 284, .inl pa)), (me, .inl (g 0, 3, .inl ef)), (mn, .inl (g 1, 5, .inr (.inl nw)))] := dOf hN (fun q h => Or.inl h)
  have hl := lv_entry ([.ref mo, .int q, .int w]) (n := 4) (Nat.le_of_ble_eq_true rfl)
  rw [lg_entry_eq]
  generalize (lg_sl ([.ref mo, .int q, .int w]) ++ List.replicate (4 - (lg_sl ([.ref mo, .int q, .int w])).length) Slot.unset).toArray = ls at hl ⊢
  have hl : lv_has ls 4 [(0, .ref mo), (1, .int q), (2, .int w)] := hl
  refine lv_iload_n (pc := 0) hx hb dX6_setProcessNoise_0 rfl (lv_at hl 1 rfl) ?_
  refine lv_iconst (pc := 1) (v := 0) hx hb dX6_setProcessNoise_1 (by decide) ?_
  refine lv_ldc (pc := 2) (v := 4096000) hx hb hown (hts _ q613) dX6_setProcessNoise_2 ?_
  refine kIp (pc := 4) (va_runS (As := [.int q, .int 0, .int 4096000]) (rest := []) ⟨hx, hb, hml, hown, hts⟩ (m6_in l q 0 4096000 s.heap) (va_cwS 3 hts (lw_S q609 q610 q28 q611) rfl rfl rfl (by decide +kernel) ⟨Nat.le_of_ble_eq_true rfl, Nat.le_of_ble_eq_true rfl⟩) (preS hK) rfl rfl hl.1 rfl (lv_room (Nat.le_of_ble_eq_true rfl)) dX6_setProcessNoise_4 ⟨Nat.le_of_ble_eq_true rfl, Nat.le_of_ble_eq_true rfl⟩) (fun r1 hr1 => ?_)
  refine lv_if_eq (pc := 7) (tgt := 20) hx hb dX6_setProcessNoise_7 (by decide) (fun cd2 => ?_) (fun cd2 => ?_)
  · have hnk : ¬ (inR 0 4096000 q ∧ inR 0 4096000 w) := fun h => (bI_eq (hr1.symm.trans cd2)) h.1
    refine lv_aload_n (pc := 20) hx hb dX6_setProcessNoise_20 rfl (lv_at hl 0 rfl) ?_
    refine lv_ldc (pc := 21) (v := (-2000000002)) hx hb hown (hts _ q614) dX6_setProcessNoise_21 ?_
    have hFc := awF (Lc := [me]) hD hS hA [3] rfl
    refine kI (pc := 23) (va_runV (As := [.int (-2000000002)]) (rest := []) ⟨hx, hb, hml, hown, hts⟩ (m6_fail l mo ms mp me mn np iv lg fg hv 0 ef (-2000000002) s.heap (hP.sub (ws' := [(me, .inl (g 0, 3, .inl ef))]) [3] rfl) (hP.sub (ws' := [(mo, .inr (6, [.ref ms, .ref mp, .int (nI np), .ref me, .ref mn, .long iv, .long lg, .long fg, .long hv]))]) [0] rfl) (ninW hD 0 [3] rfl rfl (by decide)) (by decide) (by decide)) (cwV 1 hts (lw_V q615 q617 qs8 q28 q618) rfl rfl rfl (by decide +kernel) ⟨Nat.le_of_ble_eq_true rfl, Nat.le_of_ble_eq_true rfl⟩) (preV hK (rcv hK hP 0 rfl rfl)) rfl rfl hl.1 rfl (lv_room (Nat.le_of_ble_eq_true rfl)) dX6_setProcessNoise_23 ⟨Nat.le_of_ble_eq_true rfl, Nat.le_of_ble_eq_true rfl⟩) hS hFc (fun r3 H locs hp9 hz1 hk1 hS => ?_)
    obtain ⟨hrc, hP1⟩ := hp9
    obtain ⟨hP, hD⟩ := jn (wr := [(mo, .inr (6, [.ref ms, .ref mp, .int (nI np), .ref me, .ref mn, .long iv, .long lg, .long fg, .long hv])), (ms, .inl (g 0, 71, .inl f)), (mp, .inl (g 0, 284, .inl pa)), (mn, .inl (g 1, 5, .inr (.inl nw)))]) (w1 := [(me, .inl (g 0, 3, .inl (upd ef 0 (ef 0 + 1))))]) hP hD [3] [0, 1, 2, 4] rfl rfl (by decide) (by decide) hk1 hFc hP1 (d1 (Or.inl (by simp)))
    have hP : va_P D vwCl [(mo, .inr (6, [.ref ms, .ref mp, .int (nI np), .ref me, .ref mn, .long iv, .long lg, .long fg, .long hv])), (ms, .inl (g 0, 71, .inl f)), (mp, .inl (g 0, 284, .inl pa)), (mn, .inl (g 1, 5, .inr (.inl nw))), (me, .inl (g 0, 3, .inl (upd ef 0 (ef 0 + 1))))] H := hP
    have hD : va_D (Aw [mo, ms, mp, me, mn] s.heap.size) [(mo, .inr (6, [.ref ms, .ref mp, .int (nI np), .ref me, .ref mn, .long iv, .long lg, .long fg, .long hv])), (ms, .inl (g 0, 71, .inl f)), (mp, .inl (g 0, 284, .inl pa)), (mn, .inl (g 1, 5, .inr (.inl nw))), (me, .inl (g 0, 3, .inl (upd ef 0 (ef 0 + 1))))] := hD
    have hq9 : (fun r H1 => ((inR 0 4096000 q ∧ inR 0 4096000 w) ∧ r = f 6 ∧ MDI D g H1 mo ms mp me mn (addK 4 np) ef (upd (upd f 5 q) 6 w) (ntF np pa f)) ∨ (¬ (inR 0 4096000 q ∧ inR 0 4096000 w) ∧ r = -2000000002 ∧ MDI D g H1 mo ms mp me mn np (upd ef 0 (ef 0 + 1)) f pa) : Int32 → Heap → Prop) r3 H := Or.inr ⟨hnk, hrc, ⟨_, _, _, _, _, hP.sub [0, 1, 2, 4, 3] rfl⟩⟩
    exact W.iret (v := r3) hx hb hr (fun t ht hW => ⟨⟨_, rfl, by rw [ht]; exact hq9⟩, hS.F ht⟩) hS.2.2 dX6_setProcessNoise_26
  · have hck7 : inR (0) (4096000) q := bI_ne (fun e => cd2 (hr1.trans e))
    refine lv_iload_n (pc := 10) hx hb dX6_setProcessNoise_10 rfl (lv_at hl 2 rfl) ?_
    refine lv_iconst (pc := 11) (v := 0) hx hb dX6_setProcessNoise_11 (by decide) ?_
    refine lv_ldc (pc := 12) (v := 4096000) hx hb hown (hts _ q613) dX6_setProcessNoise_12 ?_
    refine kIp (pc := 14) (va_runS (As := [.int w, .int 0, .int 4096000]) (rest := []) ⟨hx, hb, hml, hown, hts⟩ (m6_in l w 0 4096000 s.heap) (va_cwS 3 hts (lw_S q609 q610 q28 q611) rfl rfl rfl (by decide +kernel) ⟨Nat.le_of_ble_eq_true rfl, Nat.le_of_ble_eq_true rfl⟩) (preS hK) rfl rfl hl.1 rfl (lv_room (Nat.le_of_ble_eq_true rfl)) dX6_setProcessNoise_14 ⟨Nat.le_of_ble_eq_true rfl, Nat.le_of_ble_eq_true rfl⟩) (fun r4 hr4 => ?_)
    refine lv_if_ne (pc := 17) (tgt := 27) hx hb dX6_setProcessNoise_17 (by decide) (fun cd5 => ?_) (fun cd5 => ?_)
    · have hck17 : inR (0) (4096000) w := bI_ne (fun e => cd5 (hr4.trans e))
      refine lv_aload_n (pc := 27) hx hb dX6_setProcessNoise_27 rfl (lv_at hl 0 rfl) ?_
      have hFc := awF (Lc := [mo, mp]) hD hS hA [0, 2] rfl
      refine kV (pc := 28) (va_runV (As := []) (rest := []) ⟨hx, hb, hml, hown, hts⟩ (m6_note l mo ms mp me mn np iv lg fg hv f pa s.heap (hP.sub (ws' := [(mo, .inr (6, [.ref ms, .ref mp, .int (nI np), .ref me, .ref mn, .long iv, .long lg, .long fg, .long hv])), (mp, .inl (g 0, 284, .inl pa))]) [0, 2] rfl) (nodupW hD [0, 2] rfl (by decide)) (hP.sub (ws' := [(ms, .inl (g 0, 71, .inl f))]) [1] rfl) (ninW hD 1 [0, 2] rfl rfl (by decide)) hnp) (cwV 0 hts (lw_V q619 q621 qs9 q28 q622) rfl rfl rfl (by decide +kernel) ⟨Nat.le_of_ble_eq_true rfl, Nat.le_of_ble_eq_true rfl⟩) (preV hK (rcv hK hP 0 rfl rfl)) rfl rfl hl.1 rfl (lv_room (Nat.le_of_ble_eq_true rfl)) dX6_setProcessNoise_28 ⟨Nat.le_of_ble_eq_true rfl, Nat.le_of_ble_eq_true rfl⟩) hS hFc (fun H locs hp9 hz1 hk1 hS => ?_)
      have hP1 := hp9
      obtain ⟨hP, hD⟩ := jn (wr := [(ms, .inl (g 0, 71, .inl f)), (me, .inl (g 0, 3, .inl ef)), (mn, .inl (g 1, 5, .inr (.inl nw)))]) (w1 := [(mo, .inr (6, [.ref ms, .ref mp, .int (nI (addK 4 np)), .ref me, .ref mn, .long iv, .long lg, .long fg, .long hv])), (mp, .inl (g 0, 284, .inl (ntF np pa f)))]) hP hD [0, 2] [1, 3, 4] rfl rfl (by decide) (by decide) hk1 hFc hP1 (dOf (nodupW hD [0, 2] rfl (by decide)) (fun q h => Or.inl h))
      have hP : va_P D vwCl [(ms, .inl (g 0, 71, .inl f)), (me, .inl (g 0, 3, .inl ef)), (mn, .inl (g 1, 5, .inr (.inl nw))), (mo, .inr (6, [.ref ms, .ref mp, .int (nI (addK 4 np)), .ref me, .ref mn, .long iv, .long lg, .long fg, .long hv])), (mp, .inl (g 0, 284, .inl (ntF np pa f)))] H := hP
      have hD : va_D (Aw [mo, ms, mp, me, mn] s.heap.size) [(ms, .inl (g 0, 71, .inl f)), (me, .inl (g 0, 3, .inl ef)), (mn, .inl (g 1, 5, .inr (.inl nw))), (mo, .inr (6, [.ref ms, .ref mp, .int (nI (addK 4 np)), .ref me, .ref mn, .long iv, .long lg, .long fg, .long hv])), (mp, .inl (g 0, 284, .inl (ntF np pa f)))] := hD
      refine lv_aload_n (pc := 31) hx hb dX6_setProcessNoise_31 rfl (lv_at hl 0 rfl) ?_
      refine va_get (pc := 32) (D := D) (ci := 6) (v := .ref ms) (C := RX6) (T := TX6) (N := 9) hx hb hts in_X6 hown hK.1 hP 3 rfl rfl 0 (by decide) (hts _ q574) (fun _ h9 => h9) rfl dX6_setProcessNoise_32 ?_
      refine lv_bipush (pc := 35) (v := 6) hx hb dX6_setProcessNoise_35 (by decide) ?_
      refine ia_ld (pc := 37) hx hb hK.1 hP 0 0 6 rfl rfl (nl 6) (Nat.le_of_ble_eq_true rfl) (Nat.le_of_ble_eq_true rfl) dX6_setProcessNoise_37 ?_
      refine lv_istore_n (pc := 38) (lv' := [(3, .int (f 6)), (0, .ref mo), (1, .int q), (2, .int w)]) hx hb dX6_setProcessNoise_38 rfl hl (by decide) rfl (fun ls hl => ?_)
      refine lv_aload_n (pc := 39) hx hb dX6_setProcessNoise_39 rfl (lv_at hl 1 rfl) ?_
      refine va_get (pc := 40) (D := D) (ci := 6) (v := .ref ms) (C := RX6) (T := TX6) (N := 9) hx hb hts in_X6 hown hK.1 hP 3 rfl rfl 0 (by decide) (hts _ q574) (fun _ h9 => h9) rfl dX6_setProcessNoise_40 ?_
      refine lv_iconst (pc := 43) (v := 5) hx hb dX6_setProcessNoise_43 (by decide) ?_
      refine lv_iload_n (pc := 44) hx hb dX6_setProcessNoise_44 rfl (lv_at hl 2 rfl) ?_
      refine ia_st (pc := 45) (f' := (upd f 5 q)) hx hb hK.1 hP hD hS 0 0 5 rfl rfl (nl 5) (Nat.le_of_ble_eq_true rfl) (Nat.le_of_ble_eq_true rfl) (fun _ _ => rfl) dX6_setProcessNoise_45 (fun H locs hP hD hS => ?_)
      have hP : va_P D vwCl [(ms, .inl (g 0, 71, .inl (upd f 5 q))), (me, .inl (g 0, 3, .inl ef)), (mn, .inl (g 1, 5, .inr (.inl nw))), (mo, .inr (6, [.ref ms, .ref mp, .int (nI (addK 4 np)), .ref me, .ref mn, .long iv, .long lg, .long fg, .long hv])), (mp, .inl (g 0, 284, .inl (ntF np pa f)))] H := hP
      have hD : va_D (Aw [mo, ms, mp, me, mn] s.heap.size) [(ms, .inl (g 0, 71, .inl (upd f 5 q))), (me, .inl (g 0, 3, .inl ef)), (mn, .inl (g 1, 5, .inr (.inl nw))), (mo, .inr (6, [.ref ms, .ref mp, .int (nI (addK 4 np)), .ref me, .ref mn, .long iv, .long lg, .long fg, .long hv])), (mp, .inl (g 0, 284, .inl (ntF np pa f)))] := hD
      refine lv_aload_n (pc := 46) hx hb dX6_setProcessNoise_46 rfl (lv_at hl 1 rfl) ?_
      refine va_get (pc := 47) (D := D) (ci := 6) (v := .ref ms) (C := RX6) (T := TX6) (N := 9) hx hb hts in_X6 hown hK.1 hP 3 rfl rfl 0 (by decide) (hts _ q574) (fun _ h9 => h9) rfl dX6_setProcessNoise_47 ?_
      refine lv_bipush (pc := 50) (v := 6) hx hb dX6_setProcessNoise_50 (by decide) ?_
      refine lv_iload_n (pc := 52) hx hb dX6_setProcessNoise_52 rfl (lv_at hl 3 rfl) ?_
      refine ia_st (pc := 53) (f' := (upd (upd f 5 q) 6 w)) hx hb hK.1 hP hD hS 0 0 6 rfl rfl (nl 6) (Nat.le_of_ble_eq_true rfl) (Nat.le_of_ble_eq_true rfl) (fun _ _ => rfl) dX6_setProcessNoise_53 (fun H locs hP hD hS => ?_)
      have hP : va_P D vwCl [(ms, .inl (g 0, 71, .inl (upd (upd f 5 q) 6 w))), (me, .inl (g 0, 3, .inl ef)), (mn, .inl (g 1, 5, .inr (.inl nw))), (mo, .inr (6, [.ref ms, .ref mp, .int (nI (addK 4 np)), .ref me, .ref mn, .long iv, .long lg, .long fg, .long hv])), (mp, .inl (g 0, 284, .inl (ntF np pa f)))] H := hP
      have hD : va_D (Aw [mo, ms, mp, me, mn] s.heap.size) [(ms, .inl (g 0, 71, .inl (upd (upd f 5 q) 6 w))), (me, .inl (g 0, 3, .inl ef)), (mn, .inl (g 1, 5, .inr (.inl nw))), (mo, .inr (6, [.ref ms, .ref mp, .int (nI (addK 4 np)), .ref me, .ref mn, .long iv, .long lg, .long fg, .long hv])), (mp, .inl (g 0, 284, .inl (ntF np pa f)))] := hD
      refine lv_iload_n (pc := 54) hx hb dX6_setProcessNoise_54 rfl (lv_at hl 0 rfl) ?_
      have hq9 : (fun r H1 => ((inR 0 4096000 q ∧ inR 0 4096000 w) ∧ r = f 6 ∧ MDI D g H1 mo ms mp me mn (addK 4 np) ef (upd (upd f 5 q) 6 w) (ntF np pa f)) ∨ (¬ (inR 0 4096000 q ∧ inR 0 4096000 w) ∧ r = -2000000002 ∧ MDI D g H1 mo ms mp me mn np (upd ef 0 (ef 0 + 1)) f pa) : Int32 → Heap → Prop) (f 6) H := Or.inl ⟨⟨hck7, hck17⟩, rfl, ⟨_, _, _, _, _, hP.sub [3, 0, 4, 1, 2] rfl⟩⟩
      exact W.iret (v := f 6) hx hb hr (fun t ht hW => ⟨⟨_, rfl, by rw [ht]; exact hq9⟩, hS.F ht⟩) hS.2.2 dX6_setProcessNoise_55
    · have hnk : ¬ (inR 0 4096000 q ∧ inR 0 4096000 w) := fun h => (bI_eq (hr4.symm.trans cd5)) h.2
      refine lv_aload_n (pc := 20) hx hb dX6_setProcessNoise_20 rfl (lv_at hl 0 rfl) ?_
      refine lv_ldc (pc := 21) (v := (-2000000002)) hx hb hown (hts _ q614) dX6_setProcessNoise_21 ?_
      have hFc := awF (Lc := [me]) hD hS hA [3] rfl
      refine kI (pc := 23) (va_runV (As := [.int (-2000000002)]) (rest := []) ⟨hx, hb, hml, hown, hts⟩ (m6_fail l mo ms mp me mn np iv lg fg hv 0 ef (-2000000002) s.heap (hP.sub (ws' := [(me, .inl (g 0, 3, .inl ef))]) [3] rfl) (hP.sub (ws' := [(mo, .inr (6, [.ref ms, .ref mp, .int (nI np), .ref me, .ref mn, .long iv, .long lg, .long fg, .long hv]))]) [0] rfl) (ninW hD 0 [3] rfl rfl (by decide)) (by decide) (by decide)) (cwV 1 hts (lw_V q615 q617 qs8 q28 q618) rfl rfl rfl (by decide +kernel) ⟨Nat.le_of_ble_eq_true rfl, Nat.le_of_ble_eq_true rfl⟩) (preV hK (rcv hK hP 0 rfl rfl)) rfl rfl hl.1 rfl (lv_room (Nat.le_of_ble_eq_true rfl)) dX6_setProcessNoise_23 ⟨Nat.le_of_ble_eq_true rfl, Nat.le_of_ble_eq_true rfl⟩) hS hFc (fun r7 H locs hp9 hz1 hk1 hS => ?_)
      obtain ⟨hrc, hP1⟩ := hp9
      obtain ⟨hP, hD⟩ := jn (wr := [(mo, .inr (6, [.ref ms, .ref mp, .int (nI np), .ref me, .ref mn, .long iv, .long lg, .long fg, .long hv])), (ms, .inl (g 0, 71, .inl f)), (mp, .inl (g 0, 284, .inl pa)), (mn, .inl (g 1, 5, .inr (.inl nw)))]) (w1 := [(me, .inl (g 0, 3, .inl (upd ef 0 (ef 0 + 1))))]) hP hD [3] [0, 1, 2, 4] rfl rfl (by decide) (by decide) hk1 hFc hP1 (d1 (Or.inl (by simp)))
      have hP : va_P D vwCl [(mo, .inr (6, [.ref ms, .ref mp, .int (nI np), .ref me, .ref mn, .long iv, .long lg, .long fg, .long hv])), (ms, .inl (g 0, 71, .inl f)), (mp, .inl (g 0, 284, .inl pa)), (mn, .inl (g 1, 5, .inr (.inl nw))), (me, .inl (g 0, 3, .inl (upd ef 0 (ef 0 + 1))))] H := hP
      have hD : va_D (Aw [mo, ms, mp, me, mn] s.heap.size) [(mo, .inr (6, [.ref ms, .ref mp, .int (nI np), .ref me, .ref mn, .long iv, .long lg, .long fg, .long hv])), (ms, .inl (g 0, 71, .inl f)), (mp, .inl (g 0, 284, .inl pa)), (mn, .inl (g 1, 5, .inr (.inl nw))), (me, .inl (g 0, 3, .inl (upd ef 0 (ef 0 + 1))))] := hD
      have hq9 : (fun r H1 => ((inR 0 4096000 q ∧ inR 0 4096000 w) ∧ r = f 6 ∧ MDI D g H1 mo ms mp me mn (addK 4 np) ef (upd (upd f 5 q) 6 w) (ntF np pa f)) ∨ (¬ (inR 0 4096000 q ∧ inR 0 4096000 w) ∧ r = -2000000002 ∧ MDI D g H1 mo ms mp me mn np (upd ef 0 (ef 0 + 1)) f pa) : Int32 → Heap → Prop) r7 H := Or.inr ⟨hnk, hrc, ⟨_, _, _, _, _, hP.sub [0, 1, 2, 4, 3] rfl⟩⟩
      exact W.iret (v := r7) hx hb hr (fun t ht hW => ⟨⟨_, rfl, by rw [ht]; exact hq9⟩, hS.F ht⟩) hS.2.2 dX6_setProcessNoise_26

abbrev rm_m6_setGate : Room := ({ frames := 1, cells := 0, slots := 0, locals := 22 })
set_option maxHeartbeats 4000000 in
set_option maxRecDepth 100000 in
theorem m6_setGate (l : Launch) {D : va_G} {g : Nat → ClassId} (mo ms mp me mn np : Nat) (iv lg fg hv : Int64) (ef f pa : Nat → Int32) (nw : Nat → Int64) (gt : Int32) (H : Heap) (hP : va_P D vwCl [(mo, .inr (6, [.ref ms, .ref mp, .int (nI np), .ref me, .ref mn, .long iv, .long lg, .long fg, .long hv])), (ms, .inl (g 0, 71, .inl f)), (mp, .inl (g 0, 284, .inl pa)), (me, .inl (g 0, 3, .inl ef)), (mn, .inl (g 1, 5, .inr (.inl nw)))] H) (hN : [mo, ms, mp, me, mn].Nodup) (hnp : np ≤ 4) (hro : RowOK f) : Met l yX6_setGate (ws_ yX6_setGate cX6_setGate 3 (some .int)) rm_m6_setGate (va_Pc [.ref mo, .int gt] (PH D g H)) (QI (fun r H1 => ((inR 0 25 gt) ∧ r = f 7 ∧ MDI D g H1 mo ms mp me mn (addK 4 np) ef (upd f 7 gt) (ntF np pa f)) ∨ (¬ (inR 0 25 gt) ∧ r = -2000000002 ∧ MDI D g H1 mo ms mp me mn np (upd ef 0 (ef 0 + 1)) f pa)) (Aw [mo, ms, mp, me, mn] H.size)) 0 0 (Aw [mo, ms, mp, me, mn] H.size) := by
  refine Met.ofW (cc := cX6_setGate) (maxL := 3) (ret := (some .int)) (by decide) rfl ?_
  intro p e s m args below meth c s₁ B hml hv
  obtain ⟨rfl, hH, hK⟩ := hv
  subst hH
  have hx := B.exec
  have hb := B.bytes
  have hr := B.returns
  have hts := atoms_spec (ws := ws_ yX6_setGate cX6_setGate 3 (some .int)) B.pre
  have hts : ∀ w ∈ lw_all, w.before _ s = true := fun w h => hts w (List.mem_cons_of_mem _ h)
  have hown : s.vm.findClass RX6 = some m.cls := findClass_of_methodNamed B.named
  have hlocks := B.notSynchronized
  have hA : ∀ q, s.heap.size ≤ q → (Aw [mo, ms, mp, me, mn] s.heap.size) q := fun q h => Or.inr h
  have hS : va_S (Aw [mo, ms, mp, me, mn] s.heap.size) s.heap s.heap [] := va_S.rf
  have hD : va_D (Aw [mo, ms, mp, me, mn] s.heap.size) [(mo, .inr (6, [.ref ms, .ref mp, .int (nI np), .ref me, .ref mn, .long iv, .long lg, .long fg, .long hv])), (ms, .inl (g 0, 71, .inl f)), (mp, .inl (g 0, 284, .inl pa)), (me, .inl (g 0, 3, .inl ef)), (mn, .inl (g 1, 5, .inr (.inl nw)))] := dOf hN (fun q h => Or.inl h)
  have hl := lv_entry ([.ref mo, .int gt]) (n := 3) (Nat.le_of_ble_eq_true rfl)
  rw [lg_entry_eq]
  generalize (lg_sl ([.ref mo, .int gt]) ++ List.replicate (3 - (lg_sl ([.ref mo, .int gt])).length) Slot.unset).toArray = ls at hl ⊢
  have hl : lv_has ls 3 [(0, .ref mo), (1, .int gt)] := hl
  refine lv_iload_n (pc := 0) hx hb dX6_setGate_0 rfl (lv_at hl 1 rfl) ?_
  refine lv_iconst (pc := 1) (v := 0) hx hb dX6_setGate_1 (by decide) ?_
  refine lv_bipush (pc := 2) (v := 25) hx hb dX6_setGate_2 (by decide) ?_
  refine kIp (pc := 4) (va_runS (As := [.int gt, .int 0, .int 25]) (rest := []) ⟨hx, hb, hml, hown, hts⟩ (m6_in l gt 0 25 s.heap) (va_cwS 3 hts (lw_S q609 q610 q28 q611) rfl rfl rfl (by decide +kernel) ⟨Nat.le_of_ble_eq_true rfl, Nat.le_of_ble_eq_true rfl⟩) (preS hK) rfl rfl hl.1 rfl (lv_room (Nat.le_of_ble_eq_true rfl)) dX6_setGate_4 ⟨Nat.le_of_ble_eq_true rfl, Nat.le_of_ble_eq_true rfl⟩) (fun r1 hr1 => ?_)
  refine lv_if_ne (pc := 7) (tgt := 17) hx hb dX6_setGate_7 (by decide) (fun cd2 => ?_) (fun cd2 => ?_)
  · have hck7 : inR (0) (25) gt := bI_ne (fun e => cd2 (hr1.trans e))
    refine lv_aload_n (pc := 17) hx hb dX6_setGate_17 rfl (lv_at hl 0 rfl) ?_
    have hFc := awF (Lc := [mo, mp]) hD hS hA [0, 2] rfl
    refine kV (pc := 18) (va_runV (As := []) (rest := []) ⟨hx, hb, hml, hown, hts⟩ (m6_note l mo ms mp me mn np iv lg fg hv f pa s.heap (hP.sub (ws' := [(mo, .inr (6, [.ref ms, .ref mp, .int (nI np), .ref me, .ref mn, .long iv, .long lg, .long fg, .long hv])), (mp, .inl (g 0, 284, .inl pa))]) [0, 2] rfl) (nodupW hD [0, 2] rfl (by decide)) (hP.sub (ws' := [(ms, .inl (g 0, 71, .inl f))]) [1] rfl) (ninW hD 1 [0, 2] rfl rfl (by decide)) hnp) (cwV 0 hts (lw_V q619 q621 qs9 q28 q622) rfl rfl rfl (by decide +kernel) ⟨Nat.le_of_ble_eq_true rfl, Nat.le_of_ble_eq_true rfl⟩) (preV hK (rcv hK hP 0 rfl rfl)) rfl rfl hl.1 rfl (lv_room (Nat.le_of_ble_eq_true rfl)) dX6_setGate_18 ⟨Nat.le_of_ble_eq_true rfl, Nat.le_of_ble_eq_true rfl⟩) hS hFc (fun H locs hp9 hz1 hk1 hS => ?_)
    have hP1 := hp9
    obtain ⟨hP, hD⟩ := jn (wr := [(ms, .inl (g 0, 71, .inl f)), (me, .inl (g 0, 3, .inl ef)), (mn, .inl (g 1, 5, .inr (.inl nw)))]) (w1 := [(mo, .inr (6, [.ref ms, .ref mp, .int (nI (addK 4 np)), .ref me, .ref mn, .long iv, .long lg, .long fg, .long hv])), (mp, .inl (g 0, 284, .inl (ntF np pa f)))]) hP hD [0, 2] [1, 3, 4] rfl rfl (by decide) (by decide) hk1 hFc hP1 (dOf (nodupW hD [0, 2] rfl (by decide)) (fun q h => Or.inl h))
    have hP : va_P D vwCl [(ms, .inl (g 0, 71, .inl f)), (me, .inl (g 0, 3, .inl ef)), (mn, .inl (g 1, 5, .inr (.inl nw))), (mo, .inr (6, [.ref ms, .ref mp, .int (nI (addK 4 np)), .ref me, .ref mn, .long iv, .long lg, .long fg, .long hv])), (mp, .inl (g 0, 284, .inl (ntF np pa f)))] H := hP
    have hD : va_D (Aw [mo, ms, mp, me, mn] s.heap.size) [(ms, .inl (g 0, 71, .inl f)), (me, .inl (g 0, 3, .inl ef)), (mn, .inl (g 1, 5, .inr (.inl nw))), (mo, .inr (6, [.ref ms, .ref mp, .int (nI (addK 4 np)), .ref me, .ref mn, .long iv, .long lg, .long fg, .long hv])), (mp, .inl (g 0, 284, .inl (ntF np pa f)))] := hD
    refine lv_aload_n (pc := 21) hx hb dX6_setGate_21 rfl (lv_at hl 0 rfl) ?_
    refine va_get (pc := 22) (D := D) (ci := 6) (v := .ref ms) (C := RX6) (T := TX6) (N := 9) hx hb hts in_X6 hown hK.1 hP 3 rfl rfl 0 (by decide) (hts _ q574) (fun _ h9 => h9) rfl dX6_setGate_22 ?_
    refine lv_bipush (pc := 25) (v := 7) hx hb dX6_setGate_25 (by decide) ?_
    refine ia_ld (pc := 27) hx hb hK.1 hP 0 0 7 rfl rfl (nl 7) (Nat.le_of_ble_eq_true rfl) (Nat.le_of_ble_eq_true rfl) dX6_setGate_27 ?_
    refine lv_istore_n (pc := 28) (lv' := [(2, .int (f 7)), (0, .ref mo), (1, .int gt)]) hx hb dX6_setGate_28 rfl hl (by decide) rfl (fun ls hl => ?_)
    refine lv_aload_n (pc := 29) hx hb dX6_setGate_29 rfl (lv_at hl 1 rfl) ?_
    refine va_get (pc := 30) (D := D) (ci := 6) (v := .ref ms) (C := RX6) (T := TX6) (N := 9) hx hb hts in_X6 hown hK.1 hP 3 rfl rfl 0 (by decide) (hts _ q574) (fun _ h9 => h9) rfl dX6_setGate_30 ?_
    refine lv_bipush (pc := 33) (v := 7) hx hb dX6_setGate_33 (by decide) ?_
    refine lv_iload_n (pc := 35) hx hb dX6_setGate_35 rfl (lv_at hl 2 rfl) ?_
    refine ia_st (pc := 36) (f' := (upd f 7 gt)) hx hb hK.1 hP hD hS 0 0 7 rfl rfl (nl 7) (Nat.le_of_ble_eq_true rfl) (Nat.le_of_ble_eq_true rfl) (fun _ _ => rfl) dX6_setGate_36 (fun H locs hP hD hS => ?_)
    have hP : va_P D vwCl [(ms, .inl (g 0, 71, .inl (upd f 7 gt))), (me, .inl (g 0, 3, .inl ef)), (mn, .inl (g 1, 5, .inr (.inl nw))), (mo, .inr (6, [.ref ms, .ref mp, .int (nI (addK 4 np)), .ref me, .ref mn, .long iv, .long lg, .long fg, .long hv])), (mp, .inl (g 0, 284, .inl (ntF np pa f)))] H := hP
    have hD : va_D (Aw [mo, ms, mp, me, mn] s.heap.size) [(ms, .inl (g 0, 71, .inl (upd f 7 gt))), (me, .inl (g 0, 3, .inl ef)), (mn, .inl (g 1, 5, .inr (.inl nw))), (mo, .inr (6, [.ref ms, .ref mp, .int (nI (addK 4 np)), .ref me, .ref mn, .long iv, .long lg, .long fg, .long hv])), (mp, .inl (g 0, 284, .inl (ntF np pa f)))] := hD
    refine lv_iload_n (pc := 37) hx hb dX6_setGate_37 rfl (lv_at hl 0 rfl) ?_
    have hq9 : (fun r H1 => ((inR 0 25 gt) ∧ r = f 7 ∧ MDI D g H1 mo ms mp me mn (addK 4 np) ef (upd f 7 gt) (ntF np pa f)) ∨ (¬ (inR 0 25 gt) ∧ r = -2000000002 ∧ MDI D g H1 mo ms mp me mn np (upd ef 0 (ef 0 + 1)) f pa) : Int32 → Heap → Prop) (f 7) H := Or.inl ⟨hck7, rfl, ⟨_, _, _, _, _, hP.sub [3, 0, 4, 1, 2] rfl⟩⟩
    exact W.iret (v := f 7) hx hb hr (fun t ht hW => ⟨⟨_, rfl, by rw [ht]; exact hq9⟩, hS.F ht⟩) hS.2.2 dX6_setGate_38
  · have hnk : ¬ (inR 0 25 gt) := fun h => (bI_eq (hr1.symm.trans cd2)) h
    refine lv_aload_n (pc := 10) hx hb dX6_setGate_10 rfl (lv_at hl 0 rfl) ?_
    refine lv_ldc (pc := 11) (v := (-2000000002)) hx hb hown (hts _ q614) dX6_setGate_11 ?_
    have hFc := awF (Lc := [me]) hD hS hA [3] rfl
    refine kI (pc := 13) (va_runV (As := [.int (-2000000002)]) (rest := []) ⟨hx, hb, hml, hown, hts⟩ (m6_fail l mo ms mp me mn np iv lg fg hv 0 ef (-2000000002) s.heap (hP.sub (ws' := [(me, .inl (g 0, 3, .inl ef))]) [3] rfl) (hP.sub (ws' := [(mo, .inr (6, [.ref ms, .ref mp, .int (nI np), .ref me, .ref mn, .long iv, .long lg, .long fg, .long hv]))]) [0] rfl) (ninW hD 0 [3] rfl rfl (by decide)) (by decide) (by decide)) (cwV 1 hts (lw_V q615 q617 qs8 q28 q618) rfl rfl rfl (by decide +kernel) ⟨Nat.le_of_ble_eq_true rfl, Nat.le_of_ble_eq_true rfl⟩) (preV hK (rcv hK hP 0 rfl rfl)) rfl rfl hl.1 rfl (lv_room (Nat.le_of_ble_eq_true rfl)) dX6_setGate_13 ⟨Nat.le_of_ble_eq_true rfl, Nat.le_of_ble_eq_true rfl⟩) hS hFc (fun r4 H locs hp9 hz1 hk1 hS => ?_)
    obtain ⟨hrc, hP1⟩ := hp9
    obtain ⟨hP, hD⟩ := jn (wr := [(mo, .inr (6, [.ref ms, .ref mp, .int (nI np), .ref me, .ref mn, .long iv, .long lg, .long fg, .long hv])), (ms, .inl (g 0, 71, .inl f)), (mp, .inl (g 0, 284, .inl pa)), (mn, .inl (g 1, 5, .inr (.inl nw)))]) (w1 := [(me, .inl (g 0, 3, .inl (upd ef 0 (ef 0 + 1))))]) hP hD [3] [0, 1, 2, 4] rfl rfl (by decide) (by decide) hk1 hFc hP1 (d1 (Or.inl (by simp)))
    have hP : va_P D vwCl [(mo, .inr (6, [.ref ms, .ref mp, .int (nI np), .ref me, .ref mn, .long iv, .long lg, .long fg, .long hv])), (ms, .inl (g 0, 71, .inl f)), (mp, .inl (g 0, 284, .inl pa)), (mn, .inl (g 1, 5, .inr (.inl nw))), (me, .inl (g 0, 3, .inl (upd ef 0 (ef 0 + 1))))] H := hP
    have hD : va_D (Aw [mo, ms, mp, me, mn] s.heap.size) [(mo, .inr (6, [.ref ms, .ref mp, .int (nI np), .ref me, .ref mn, .long iv, .long lg, .long fg, .long hv])), (ms, .inl (g 0, 71, .inl f)), (mp, .inl (g 0, 284, .inl pa)), (mn, .inl (g 1, 5, .inr (.inl nw))), (me, .inl (g 0, 3, .inl (upd ef 0 (ef 0 + 1))))] := hD
    have hq9 : (fun r H1 => ((inR 0 25 gt) ∧ r = f 7 ∧ MDI D g H1 mo ms mp me mn (addK 4 np) ef (upd f 7 gt) (ntF np pa f)) ∨ (¬ (inR 0 25 gt) ∧ r = -2000000002 ∧ MDI D g H1 mo ms mp me mn np (upd ef 0 (ef 0 + 1)) f pa) : Int32 → Heap → Prop) r4 H := Or.inr ⟨hnk, hrc, ⟨_, _, _, _, _, hP.sub [0, 1, 2, 4, 3] rfl⟩⟩
    exact W.iret (v := r4) hx hb hr (fun t ht hW => ⟨⟨_, rfl, by rw [ht]; exact hq9⟩, hS.F ht⟩) hS.2.2 dX6_setGate_16

abbrev rm_m6_miss : Room := ({ frames := 2, cells := 0, slots := 0, locals := 42 })
set_option maxHeartbeats 4000000 in
set_option maxRecDepth 100000 in
theorem m6_miss (l : Launch) {D : va_G} {g : Nat → ClassId} (mo ms mp me mn np : Nat) (iv lg fg hv : Int64) (ef f pa : Nat → Int32) (nw : Nat → Int64) (sx : Int32) (H : Heap) (hP : va_P D vwCl [(mo, .inr (6, [.ref ms, .ref mp, .int (nI np), .ref me, .ref mn, .long iv, .long lg, .long fg, .long hv])), (ms, .inl (g 0, 71, .inl f)), (mp, .inl (g 0, 284, .inl pa)), (me, .inl (g 0, 3, .inl ef)), (mn, .inl (g 1, 5, .inr (.inl nw)))] H) (hN : [mo, ms, mp, me, mn].Nodup) (hnp : np ≤ 4) (hro : RowOK f) : Met l yX6_miss (ws_ yX6_miss cX6_miss 2 (some .int)) rm_m6_miss (va_Pc [.ref mo, .int sx] (PH D g H)) (QI (fun r H1 => ((inR 0 3 sx) ∧ r = f 21 + 1 ∧ MDI D g H1 mo ms mp me mn (addK 4 np) ef (upd f 21 (f 21 + 1)) (ntF np pa f)) ∨ (¬ (inR 0 3 sx) ∧ r = -2000000002 ∧ MDI D g H1 mo ms mp me mn np (upd ef 0 (ef 0 + 1)) f pa)) (Aw [mo, ms, mp, me, mn] H.size)) 0 0 (Aw [mo, ms, mp, me, mn] H.size) := by
  refine Met.ofW (cc := cX6_miss) (maxL := 2) (ret := (some .int)) (by decide) rfl ?_
  intro p e s m args below meth c s₁ B hml hv
  obtain ⟨rfl, hH, hK⟩ := hv
  subst hH
  have hx := B.exec
  have hb := B.bytes
  have hr := B.returns
  have hts := atoms_spec (ws := ws_ yX6_miss cX6_miss 2 (some .int)) B.pre
  have hts : ∀ w ∈ lw_all, w.before _ s = true := fun w h => hts w (List.mem_cons_of_mem _ h)
  have hown : s.vm.findClass RX6 = some m.cls := findClass_of_methodNamed B.named
  have hlocks := B.notSynchronized
  have hA : ∀ q, s.heap.size ≤ q → (Aw [mo, ms, mp, me, mn] s.heap.size) q := fun q h => Or.inr h
  have hS : va_S (Aw [mo, ms, mp, me, mn] s.heap.size) s.heap s.heap [] := va_S.rf
  have hD : va_D (Aw [mo, ms, mp, me, mn] s.heap.size) [(mo, .inr (6, [.ref ms, .ref mp, .int (nI np), .ref me, .ref mn, .long iv, .long lg, .long fg, .long hv])), (ms, .inl (g 0, 71, .inl f)), (mp, .inl (g 0, 284, .inl pa)), (me, .inl (g 0, 3, .inl ef)), (mn, .inl (g 1, 5, .inr (.inl nw)))] := dOf hN (fun q h => Or.inl h)
  have hl := lv_entry ([.ref mo, .int sx]) (n := 2) (Nat.le_of_ble_eq_true rfl)
  rw [lg_entry_eq]
  generalize (lg_sl ([.ref mo, .int sx]) ++ List.replicate (2 - (lg_sl ([.ref mo, .int sx])).length) Slot.unset).toArray = ls at hl ⊢
  have hl : lv_has ls 2 [(0, .ref mo), (1, .int sx)] := hl
  refine lv_iload_n (pc := 0) hx hb dX6_miss_0 rfl (lv_at hl 1 rfl) ?_
  refine kIp (pc := 1) (va_runS (As := [.int sx]) (rest := []) ⟨hx, hb, hml, hown, hts⟩ (m6_isSensor l sx s.heap) (va_cwS 1 hts (lw_S q631 q632 q28 q633) rfl rfl rfl (by decide +kernel) ⟨Nat.le_of_ble_eq_true rfl, Nat.le_of_ble_eq_true rfl⟩) (preS hK) rfl rfl hl.1 rfl (lv_room (Nat.le_of_ble_eq_true rfl)) dX6_miss_1 ⟨Nat.le_of_ble_eq_true rfl, Nat.le_of_ble_eq_true rfl⟩) (fun r1 hr1 => ?_)
  refine lv_if_ne (pc := 4) (tgt := 14) hx hb dX6_miss_4 (by decide) (fun cd2 => ?_) (fun cd2 => ?_)
  · have hck4 : inR (0) (3) sx := bI_ne (fun e => cd2 (hr1.trans e))
    refine lv_aload_n (pc := 14) hx hb dX6_miss_14 rfl (lv_at hl 0 rfl) ?_
    have hFc := awF (Lc := [mo, mp]) hD hS hA [0, 2] rfl
    refine kV (pc := 15) (va_runV (As := []) (rest := []) ⟨hx, hb, hml, hown, hts⟩ (m6_note l mo ms mp me mn np iv lg fg hv f pa s.heap (hP.sub (ws' := [(mo, .inr (6, [.ref ms, .ref mp, .int (nI np), .ref me, .ref mn, .long iv, .long lg, .long fg, .long hv])), (mp, .inl (g 0, 284, .inl pa))]) [0, 2] rfl) (nodupW hD [0, 2] rfl (by decide)) (hP.sub (ws' := [(ms, .inl (g 0, 71, .inl f))]) [1] rfl) (ninW hD 1 [0, 2] rfl rfl (by decide)) hnp) (cwV 0 hts (lw_V q619 q621 qs9 q28 q622) rfl rfl rfl (by decide +kernel) ⟨Nat.le_of_ble_eq_true rfl, Nat.le_of_ble_eq_true rfl⟩) (preV hK (rcv hK hP 0 rfl rfl)) rfl rfl hl.1 rfl (lv_room (Nat.le_of_ble_eq_true rfl)) dX6_miss_15 ⟨Nat.le_of_ble_eq_true rfl, Nat.le_of_ble_eq_true rfl⟩) hS hFc (fun H locs hp9 hz1 hk1 hS => ?_)
    have hP1 := hp9
    obtain ⟨hP, hD⟩ := jn (wr := [(ms, .inl (g 0, 71, .inl f)), (me, .inl (g 0, 3, .inl ef)), (mn, .inl (g 1, 5, .inr (.inl nw)))]) (w1 := [(mo, .inr (6, [.ref ms, .ref mp, .int (nI (addK 4 np)), .ref me, .ref mn, .long iv, .long lg, .long fg, .long hv])), (mp, .inl (g 0, 284, .inl (ntF np pa f)))]) hP hD [0, 2] [1, 3, 4] rfl rfl (by decide) (by decide) hk1 hFc hP1 (dOf (nodupW hD [0, 2] rfl (by decide)) (fun q h => Or.inl h))
    have hP : va_P D vwCl [(ms, .inl (g 0, 71, .inl f)), (me, .inl (g 0, 3, .inl ef)), (mn, .inl (g 1, 5, .inr (.inl nw))), (mo, .inr (6, [.ref ms, .ref mp, .int (nI (addK 4 np)), .ref me, .ref mn, .long iv, .long lg, .long fg, .long hv])), (mp, .inl (g 0, 284, .inl (ntF np pa f)))] H := hP
    have hD : va_D (Aw [mo, ms, mp, me, mn] s.heap.size) [(ms, .inl (g 0, 71, .inl f)), (me, .inl (g 0, 3, .inl ef)), (mn, .inl (g 1, 5, .inr (.inl nw))), (mo, .inr (6, [.ref ms, .ref mp, .int (nI (addK 4 np)), .ref me, .ref mn, .long iv, .long lg, .long fg, .long hv])), (mp, .inl (g 0, 284, .inl (ntF np pa f)))] := hD
    refine lv_aload_n (pc := 18) hx hb dX6_miss_18 rfl (lv_at hl 0 rfl) ?_
    refine va_get (pc := 19) (D := D) (ci := 6) (v := .ref ms) (C := RX6) (T := TX6) (N := 9) hx hb hts in_X6 hown hK.1 hP 3 rfl rfl 0 (by decide) (hts _ q574) (fun _ h9 => h9) rfl dX6_miss_19 ?_
    refine lv_bipush (pc := 22) (v := 21) hx hb dX6_miss_22 (by decide) ?_
    refine lv_dup2_11 (pc := 24) hx hb dX6_miss_24 rfl rfl ?_
    refine ia_ld (pc := 25) hx hb hK.1 hP 0 0 21 rfl rfl (nl 21) (Nat.le_of_ble_eq_true rfl) (Nat.le_of_ble_eq_true rfl) dX6_miss_25 ?_
    refine lv_iconst (pc := 26) (v := 1) hx hb dX6_miss_26 (by decide) ?_
    refine lv_iadd (pc := 27) hx hb dX6_miss_27 ?_
    refine lv_topi (fun z4 ez4 => ?_)
    refine ia_st (pc := 28) (f' := (upd f 21 (f 21 + 1))) hx hb hK.1 hP hD hS 0 0 21 rfl rfl (nl 21) (Nat.le_of_ble_eq_true rfl) (Nat.le_of_ble_eq_true rfl) (fun _ _ => by rw [ez4]) dX6_miss_28 (fun H locs hP hD hS => ?_)
    have hP : va_P D vwCl [(ms, .inl (g 0, 71, .inl (upd f 21 (f 21 + 1)))), (me, .inl (g 0, 3, .inl ef)), (mn, .inl (g 1, 5, .inr (.inl nw))), (mo, .inr (6, [.ref ms, .ref mp, .int (nI (addK 4 np)), .ref me, .ref mn, .long iv, .long lg, .long fg, .long hv])), (mp, .inl (g 0, 284, .inl (ntF np pa f)))] H := hP
    have hD : va_D (Aw [mo, ms, mp, me, mn] s.heap.size) [(ms, .inl (g 0, 71, .inl (upd f 21 (f 21 + 1)))), (me, .inl (g 0, 3, .inl ef)), (mn, .inl (g 1, 5, .inr (.inl nw))), (mo, .inr (6, [.ref ms, .ref mp, .int (nI (addK 4 np)), .ref me, .ref mn, .long iv, .long lg, .long fg, .long hv])), (mp, .inl (g 0, 284, .inl (ntF np pa f)))] := hD
    refine lv_aload_n (pc := 29) hx hb dX6_miss_29 rfl (lv_at hl 0 rfl) ?_
    refine va_get (pc := 30) (D := D) (ci := 6) (v := .ref ms) (C := RX6) (T := TX6) (N := 9) hx hb hts in_X6 hown hK.1 hP 3 rfl rfl 0 (by decide) (hts _ q574) (fun _ h9 => h9) rfl dX6_miss_30 ?_
    refine lv_bipush (pc := 33) (v := 21) hx hb dX6_miss_33 (by decide) ?_
    refine ia_ld (pc := 35) hx hb hK.1 hP 0 0 21 rfl rfl (nl 21) (Nat.le_of_ble_eq_true rfl) (Nat.le_of_ble_eq_true rfl) dX6_miss_35 ?_
    have hq9 : (fun r H1 => ((inR 0 3 sx) ∧ r = f 21 + 1 ∧ MDI D g H1 mo ms mp me mn (addK 4 np) ef (upd f 21 (f 21 + 1)) (ntF np pa f)) ∨ (¬ (inR 0 3 sx) ∧ r = -2000000002 ∧ MDI D g H1 mo ms mp me mn np (upd ef 0 (ef 0 + 1)) f pa) : Int32 → Heap → Prop) ((upd f 21 (f 21 + 1)) 21) H := Or.inl ⟨hck4, rfl, ⟨_, _, _, _, _, hP.sub [3, 0, 4, 1, 2] rfl⟩⟩
    exact W.iret (v := (upd f 21 (f 21 + 1)) 21) hx hb hr (fun t ht hW => ⟨⟨_, rfl, by rw [ht]; exact hq9⟩, hS.F ht⟩) hS.2.2 dX6_miss_36
  · have hnk : ¬ (inR 0 3 sx) := fun h => (bI_eq (hr1.symm.trans cd2)) h
    refine lv_aload_n (pc := 7) hx hb dX6_miss_7 rfl (lv_at hl 0 rfl) ?_
    refine lv_ldc (pc := 8) (v := (-2000000002)) hx hb hown (hts _ q614) dX6_miss_8 ?_
    have hFc := awF (Lc := [me]) hD hS hA [3] rfl
    refine kI (pc := 10) (va_runV (As := [.int (-2000000002)]) (rest := []) ⟨hx, hb, hml, hown, hts⟩ (m6_fail l mo ms mp me mn np iv lg fg hv 0 ef (-2000000002) s.heap (hP.sub (ws' := [(me, .inl (g 0, 3, .inl ef))]) [3] rfl) (hP.sub (ws' := [(mo, .inr (6, [.ref ms, .ref mp, .int (nI np), .ref me, .ref mn, .long iv, .long lg, .long fg, .long hv]))]) [0] rfl) (ninW hD 0 [3] rfl rfl (by decide)) (by decide) (by decide)) (cwV 1 hts (lw_V q615 q617 qs8 q28 q618) rfl rfl rfl (by decide +kernel) ⟨Nat.le_of_ble_eq_true rfl, Nat.le_of_ble_eq_true rfl⟩) (preV hK (rcv hK hP 0 rfl rfl)) rfl rfl hl.1 rfl (lv_room (Nat.le_of_ble_eq_true rfl)) dX6_miss_10 ⟨Nat.le_of_ble_eq_true rfl, Nat.le_of_ble_eq_true rfl⟩) hS hFc (fun r5 H locs hp9 hz1 hk1 hS => ?_)
    obtain ⟨hrc, hP1⟩ := hp9
    obtain ⟨hP, hD⟩ := jn (wr := [(mo, .inr (6, [.ref ms, .ref mp, .int (nI np), .ref me, .ref mn, .long iv, .long lg, .long fg, .long hv])), (ms, .inl (g 0, 71, .inl f)), (mp, .inl (g 0, 284, .inl pa)), (mn, .inl (g 1, 5, .inr (.inl nw)))]) (w1 := [(me, .inl (g 0, 3, .inl (upd ef 0 (ef 0 + 1))))]) hP hD [3] [0, 1, 2, 4] rfl rfl (by decide) (by decide) hk1 hFc hP1 (d1 (Or.inl (by simp)))
    have hP : va_P D vwCl [(mo, .inr (6, [.ref ms, .ref mp, .int (nI np), .ref me, .ref mn, .long iv, .long lg, .long fg, .long hv])), (ms, .inl (g 0, 71, .inl f)), (mp, .inl (g 0, 284, .inl pa)), (mn, .inl (g 1, 5, .inr (.inl nw))), (me, .inl (g 0, 3, .inl (upd ef 0 (ef 0 + 1))))] H := hP
    have hD : va_D (Aw [mo, ms, mp, me, mn] s.heap.size) [(mo, .inr (6, [.ref ms, .ref mp, .int (nI np), .ref me, .ref mn, .long iv, .long lg, .long fg, .long hv])), (ms, .inl (g 0, 71, .inl f)), (mp, .inl (g 0, 284, .inl pa)), (mn, .inl (g 1, 5, .inr (.inl nw))), (me, .inl (g 0, 3, .inl (upd ef 0 (ef 0 + 1))))] := hD
    have hq9 : (fun r H1 => ((inR 0 3 sx) ∧ r = f 21 + 1 ∧ MDI D g H1 mo ms mp me mn (addK 4 np) ef (upd f 21 (f 21 + 1)) (ntF np pa f)) ∨ (¬ (inR 0 3 sx) ∧ r = -2000000002 ∧ MDI D g H1 mo ms mp me mn np (upd ef 0 (ef 0 + 1)) f pa) : Int32 → Heap → Prop) r5 H := Or.inr ⟨hnk, hrc, ⟨_, _, _, _, _, hP.sub [0, 1, 2, 4, 3] rfl⟩⟩
    exact W.iret (v := r5) hx hb hr (fun t ht hW => ⟨⟨_, rfl, by rw [ht]; exact hq9⟩, hS.F ht⟩) hS.2.2 dX6_miss_13

abbrev rm_m6_setSensor : Room := ({ frames := 2, cells := 0, slots := 0, locals := 42 })
set_option maxHeartbeats 4000000 in
set_option maxRecDepth 100000 in
theorem m6_setSensor (l : Launch) {D : va_G} {g : Nat → ClassId} (mo ms mp me mn np : Nat) (iv lg fg hv : Int64) (ef f pa : Nat → Int32) (nw : Nat → Int64) (sx kd va : Int32) (H : Heap) (hP : va_P D vwCl [(mo, .inr (6, [.ref ms, .ref mp, .int (nI np), .ref me, .ref mn, .long iv, .long lg, .long fg, .long hv])), (ms, .inl (g 0, 71, .inl f)), (mp, .inl (g 0, 284, .inl pa)), (me, .inl (g 0, 3, .inl ef)), (mn, .inl (g 1, 5, .inr (.inl nw)))] H) (hN : [mo, ms, mp, me, mn].Nodup) (hnp : np ≤ 4) (hro : RowOK f) : Met l yX6_setSensor (ws_ yX6_setSensor cX6_setSensor 5 (some .int)) rm_m6_setSensor (va_Pc [.ref mo, .int sx, .int kd, .int va] (PH D g H)) (QI (fun r H1 => ((inR 0 3 sx ∧ inR 0 1 kd ∧ inR 1 40960000 va) ∧ r = f (12 + sx.toNatClampNeg) ∧ MDI D g H1 mo ms mp me mn (addK 4 np) ef (upd (upd f (8 + sx.toNatClampNeg) kd) (12 + sx.toNatClampNeg) va) (ntF np pa f)) ∨ (¬ (inR 0 3 sx ∧ inR 0 1 kd ∧ inR 1 40960000 va) ∧ r = -2000000002 ∧ MDI D g H1 mo ms mp me mn np (upd ef 0 (ef 0 + 1)) f pa)) (Aw [mo, ms, mp, me, mn] H.size)) 0 0 (Aw [mo, ms, mp, me, mn] H.size) := by
  refine Met.ofW (cc := cX6_setSensor) (maxL := 5) (ret := (some .int)) (by decide) rfl ?_
  intro p e s m args below meth c s₁ B hml hv
  obtain ⟨rfl, hH, hK⟩ := hv
  subst hH
  have hx := B.exec
  have hb := B.bytes
  have hr := B.returns
  have hts := atoms_spec (ws := ws_ yX6_setSensor cX6_setSensor 5 (some .int)) B.pre
  have hts : ∀ w ∈ lw_all, w.before _ s = true := fun w h => hts w (List.mem_cons_of_mem _ h)
  have hown : s.vm.findClass RX6 = some m.cls := findClass_of_methodNamed B.named
  have hlocks := B.notSynchronized
  have hA : ∀ q, s.heap.size ≤ q → (Aw [mo, ms, mp, me, mn] s.heap.size) q := fun q h => Or.inr h
  have hS : va_S (Aw [mo, ms, mp, me, mn] s.heap.size) s.heap s.heap [] := va_S.rf
  have hD : va_D (Aw [mo, ms, mp, me, mn] s.heap.size) [(mo, .inr (6, [.ref ms, .ref mp, .int (nI np), .ref me, .ref mn, .long iv, .long lg, .long fg, .long hv])), (ms, .inl (g 0, 71, .inl f)), (mp, .inl (g 0, 284, .inl pa)), (me, .inl (g 0, 3, .inl ef)), (mn, .inl (g 1, 5, .inr (.inl nw)))] := dOf hN (fun q h => Or.inl h)
  have hl := lv_entry ([.ref mo, .int sx, .int kd, .int va]) (n := 5) (Nat.le_of_ble_eq_true rfl)
  rw [lg_entry_eq]
  generalize (lg_sl ([.ref mo, .int sx, .int kd, .int va]) ++ List.replicate (5 - (lg_sl ([.ref mo, .int sx, .int kd, .int va])).length) Slot.unset).toArray = ls at hl ⊢
  have hl : lv_has ls 5 [(0, .ref mo), (1, .int sx), (2, .int kd), (3, .int va)] := hl
  refine lv_iload_n (pc := 0) hx hb dX6_setSensor_0 rfl (lv_at hl 1 rfl) ?_
  refine kIp (pc := 1) (va_runS (As := [.int sx]) (rest := []) ⟨hx, hb, hml, hown, hts⟩ (m6_isSensor l sx s.heap) (va_cwS 1 hts (lw_S q631 q632 q28 q633) rfl rfl rfl (by decide +kernel) ⟨Nat.le_of_ble_eq_true rfl, Nat.le_of_ble_eq_true rfl⟩) (preS hK) rfl rfl hl.1 rfl (lv_room (Nat.le_of_ble_eq_true rfl)) dX6_setSensor_1 ⟨Nat.le_of_ble_eq_true rfl, Nat.le_of_ble_eq_true rfl⟩) (fun r1 hr1 => ?_)
  refine lv_if_eq (pc := 4) (tgt := 26) hx hb dX6_setSensor_4 (by decide) (fun cd2 => ?_) (fun cd2 => ?_)
  · have hnk : ¬ (inR 0 3 sx ∧ inR 0 1 kd ∧ inR 1 40960000 va) := fun h => (bI_eq (hr1.symm.trans cd2)) h.1
    refine lv_aload_n (pc := 26) hx hb dX6_setSensor_26 rfl (lv_at hl 0 rfl) ?_
    refine lv_ldc (pc := 27) (v := (-2000000002)) hx hb hown (hts _ q614) dX6_setSensor_27 ?_
    have hFc := awF (Lc := [me]) hD hS hA [3] rfl
    refine kI (pc := 29) (va_runV (As := [.int (-2000000002)]) (rest := []) ⟨hx, hb, hml, hown, hts⟩ (m6_fail l mo ms mp me mn np iv lg fg hv 0 ef (-2000000002) s.heap (hP.sub (ws' := [(me, .inl (g 0, 3, .inl ef))]) [3] rfl) (hP.sub (ws' := [(mo, .inr (6, [.ref ms, .ref mp, .int (nI np), .ref me, .ref mn, .long iv, .long lg, .long fg, .long hv]))]) [0] rfl) (ninW hD 0 [3] rfl rfl (by decide)) (by decide) (by decide)) (cwV 1 hts (lw_V q615 q617 qs8 q28 q618) rfl rfl rfl (by decide +kernel) ⟨Nat.le_of_ble_eq_true rfl, Nat.le_of_ble_eq_true rfl⟩) (preV hK (rcv hK hP 0 rfl rfl)) rfl rfl hl.1 rfl (lv_room (Nat.le_of_ble_eq_true rfl)) dX6_setSensor_29 ⟨Nat.le_of_ble_eq_true rfl, Nat.le_of_ble_eq_true rfl⟩) hS hFc (fun r3 H locs hp9 hz1 hk1 hS => ?_)
    obtain ⟨hrc, hP1⟩ := hp9
    obtain ⟨hP, hD⟩ := jn (wr := [(mo, .inr (6, [.ref ms, .ref mp, .int (nI np), .ref me, .ref mn, .long iv, .long lg, .long fg, .long hv])), (ms, .inl (g 0, 71, .inl f)), (mp, .inl (g 0, 284, .inl pa)), (mn, .inl (g 1, 5, .inr (.inl nw)))]) (w1 := [(me, .inl (g 0, 3, .inl (upd ef 0 (ef 0 + 1))))]) hP hD [3] [0, 1, 2, 4] rfl rfl (by decide) (by decide) hk1 hFc hP1 (d1 (Or.inl (by simp)))
    have hP : va_P D vwCl [(mo, .inr (6, [.ref ms, .ref mp, .int (nI np), .ref me, .ref mn, .long iv, .long lg, .long fg, .long hv])), (ms, .inl (g 0, 71, .inl f)), (mp, .inl (g 0, 284, .inl pa)), (mn, .inl (g 1, 5, .inr (.inl nw))), (me, .inl (g 0, 3, .inl (upd ef 0 (ef 0 + 1))))] H := hP
    have hD : va_D (Aw [mo, ms, mp, me, mn] s.heap.size) [(mo, .inr (6, [.ref ms, .ref mp, .int (nI np), .ref me, .ref mn, .long iv, .long lg, .long fg, .long hv])), (ms, .inl (g 0, 71, .inl f)), (mp, .inl (g 0, 284, .inl pa)), (mn, .inl (g 1, 5, .inr (.inl nw))), (me, .inl (g 0, 3, .inl (upd ef 0 (ef 0 + 1))))] := hD
    have hq9 : (fun r H1 => ((inR 0 3 sx ∧ inR 0 1 kd ∧ inR 1 40960000 va) ∧ r = f (12 + sx.toNatClampNeg) ∧ MDI D g H1 mo ms mp me mn (addK 4 np) ef (upd (upd f (8 + sx.toNatClampNeg) kd) (12 + sx.toNatClampNeg) va) (ntF np pa f)) ∨ (¬ (inR 0 3 sx ∧ inR 0 1 kd ∧ inR 1 40960000 va) ∧ r = -2000000002 ∧ MDI D g H1 mo ms mp me mn np (upd ef 0 (ef 0 + 1)) f pa) : Int32 → Heap → Prop) r3 H := Or.inr ⟨hnk, hrc, ⟨_, _, _, _, _, hP.sub [0, 1, 2, 4, 3] rfl⟩⟩
    exact W.iret (v := r3) hx hb hr (fun t ht hW => ⟨⟨_, rfl, by rw [ht]; exact hq9⟩, hS.F ht⟩) hS.2.2 dX6_setSensor_32
  · have hck4 : inR (0) (3) sx := bI_ne (fun e => cd2 (hr1.trans e))
    obtain ⟨se, hse3, hsx⟩ := inR_nat (n := 3) (by decide) hck4
    have hse : se < 4 := by omega
    have hcl9 : sx.toNatClampNeg = se := by rw [hsx]; exact nI_clamp (by omega)
    refine lv_iload_n (pc := 7) hx hb dX6_setSensor_7 rfl (lv_at hl 2 rfl) ?_
    refine lv_iconst (pc := 8) (v := 0) hx hb dX6_setSensor_8 (by decide) ?_
    refine lv_iconst (pc := 9) (v := 1) hx hb dX6_setSensor_9 (by decide) ?_
    refine kIp (pc := 10) (va_runS (As := [.int kd, .int 0, .int 1]) (rest := []) ⟨hx, hb, hml, hown, hts⟩ (m6_in l kd 0 1 s.heap) (va_cwS 3 hts (lw_S q609 q610 q28 q611) rfl rfl rfl (by decide +kernel) ⟨Nat.le_of_ble_eq_true rfl, Nat.le_of_ble_eq_true rfl⟩) (preS hK) rfl rfl hl.1 rfl (lv_room (Nat.le_of_ble_eq_true rfl)) dX6_setSensor_10 ⟨Nat.le_of_ble_eq_true rfl, Nat.le_of_ble_eq_true rfl⟩) (fun r4 hr4 => ?_)
    refine lv_if_eq (pc := 13) (tgt := 26) hx hb dX6_setSensor_13 (by decide) (fun cd5 => ?_) (fun cd5 => ?_)
    · have hnk : ¬ (inR 0 3 sx ∧ inR 0 1 kd ∧ inR 1 40960000 va) := fun h => (bI_eq (hr4.symm.trans cd5)) h.2.1
      refine lv_aload_n (pc := 26) hx hb dX6_setSensor_26 rfl (lv_at hl 0 rfl) ?_
      refine lv_ldc (pc := 27) (v := (-2000000002)) hx hb hown (hts _ q614) dX6_setSensor_27 ?_
      have hFc := awF (Lc := [me]) hD hS hA [3] rfl
      refine kI (pc := 29) (va_runV (As := [.int (-2000000002)]) (rest := []) ⟨hx, hb, hml, hown, hts⟩ (m6_fail l mo ms mp me mn np iv lg fg hv 0 ef (-2000000002) s.heap (hP.sub (ws' := [(me, .inl (g 0, 3, .inl ef))]) [3] rfl) (hP.sub (ws' := [(mo, .inr (6, [.ref ms, .ref mp, .int (nI np), .ref me, .ref mn, .long iv, .long lg, .long fg, .long hv]))]) [0] rfl) (ninW hD 0 [3] rfl rfl (by decide)) (by decide) (by decide)) (cwV 1 hts (lw_V q615 q617 qs8 q28 q618) rfl rfl rfl (by decide +kernel) ⟨Nat.le_of_ble_eq_true rfl, Nat.le_of_ble_eq_true rfl⟩) (preV hK (rcv hK hP 0 rfl rfl)) rfl rfl hl.1 rfl (lv_room (Nat.le_of_ble_eq_true rfl)) dX6_setSensor_29 ⟨Nat.le_of_ble_eq_true rfl, Nat.le_of_ble_eq_true rfl⟩) hS hFc (fun r6 H locs hp9 hz1 hk1 hS => ?_)
      obtain ⟨hrc, hP1⟩ := hp9
      obtain ⟨hP, hD⟩ := jn (wr := [(mo, .inr (6, [.ref ms, .ref mp, .int (nI np), .ref me, .ref mn, .long iv, .long lg, .long fg, .long hv])), (ms, .inl (g 0, 71, .inl f)), (mp, .inl (g 0, 284, .inl pa)), (mn, .inl (g 1, 5, .inr (.inl nw)))]) (w1 := [(me, .inl (g 0, 3, .inl (upd ef 0 (ef 0 + 1))))]) hP hD [3] [0, 1, 2, 4] rfl rfl (by decide) (by decide) hk1 hFc hP1 (d1 (Or.inl (by simp)))
      have hP : va_P D vwCl [(mo, .inr (6, [.ref ms, .ref mp, .int (nI np), .ref me, .ref mn, .long iv, .long lg, .long fg, .long hv])), (ms, .inl (g 0, 71, .inl f)), (mp, .inl (g 0, 284, .inl pa)), (mn, .inl (g 1, 5, .inr (.inl nw))), (me, .inl (g 0, 3, .inl (upd ef 0 (ef 0 + 1))))] H := hP
      have hD : va_D (Aw [mo, ms, mp, me, mn] s.heap.size) [(mo, .inr (6, [.ref ms, .ref mp, .int (nI np), .ref me, .ref mn, .long iv, .long lg, .long fg, .long hv])), (ms, .inl (g 0, 71, .inl f)), (mp, .inl (g 0, 284, .inl pa)), (mn, .inl (g 1, 5, .inr (.inl nw))), (me, .inl (g 0, 3, .inl (upd ef 0 (ef 0 + 1))))] := hD
      have hq9 : (fun r H1 => ((inR 0 3 sx ∧ inR 0 1 kd ∧ inR 1 40960000 va) ∧ r = f (12 + sx.toNatClampNeg) ∧ MDI D g H1 mo ms mp me mn (addK 4 np) ef (upd (upd f (8 + sx.toNatClampNeg) kd) (12 + sx.toNatClampNeg) va) (ntF np pa f)) ∨ (¬ (inR 0 3 sx ∧ inR 0 1 kd ∧ inR 1 40960000 va) ∧ r = -2000000002 ∧ MDI D g H1 mo ms mp me mn np (upd ef 0 (ef 0 + 1)) f pa) : Int32 → Heap → Prop) r6 H := Or.inr ⟨hnk, hrc, ⟨_, _, _, _, _, hP.sub [0, 1, 2, 4, 3] rfl⟩⟩
      exact W.iret (v := r6) hx hb hr (fun t ht hW => ⟨⟨_, rfl, by rw [ht]; exact hq9⟩, hS.F ht⟩) hS.2.2 dX6_setSensor_32
    · have hck13 : inR (0) (1) kd := bI_ne (fun e => cd5 (hr4.trans e))
      refine lv_iload_n (pc := 16) hx hb dX6_setSensor_16 rfl (lv_at hl 3 rfl) ?_
      refine lv_iconst (pc := 17) (v := 1) hx hb dX6_setSensor_17 (by decide) ?_
      refine lv_ldc (pc := 18) (v := 40960000) hx hb hown (hts _ q608) dX6_setSensor_18 ?_
      refine kIp (pc := 20) (va_runS (As := [.int va, .int 1, .int 40960000]) (rest := []) ⟨hx, hb, hml, hown, hts⟩ (m6_in l va 1 40960000 s.heap) (va_cwS 3 hts (lw_S q609 q610 q28 q611) rfl rfl rfl (by decide +kernel) ⟨Nat.le_of_ble_eq_true rfl, Nat.le_of_ble_eq_true rfl⟩) (preS hK) rfl rfl hl.1 rfl (lv_room (Nat.le_of_ble_eq_true rfl)) dX6_setSensor_20 ⟨Nat.le_of_ble_eq_true rfl, Nat.le_of_ble_eq_true rfl⟩) (fun r7 hr7 => ?_)
      refine lv_if_ne (pc := 23) (tgt := 33) hx hb dX6_setSensor_23 (by decide) (fun cd8 => ?_) (fun cd8 => ?_)
      · have hck23 : inR (1) (40960000) va := bI_ne (fun e => cd8 (hr7.trans e))
        refine lv_aload_n (pc := 33) hx hb dX6_setSensor_33 rfl (lv_at hl 0 rfl) ?_
        have hFc := awF (Lc := [mo, mp]) hD hS hA [0, 2] rfl
        refine kV (pc := 34) (va_runV (As := []) (rest := []) ⟨hx, hb, hml, hown, hts⟩ (m6_note l mo ms mp me mn np iv lg fg hv f pa s.heap (hP.sub (ws' := [(mo, .inr (6, [.ref ms, .ref mp, .int (nI np), .ref me, .ref mn, .long iv, .long lg, .long fg, .long hv])), (mp, .inl (g 0, 284, .inl pa))]) [0, 2] rfl) (nodupW hD [0, 2] rfl (by decide)) (hP.sub (ws' := [(ms, .inl (g 0, 71, .inl f))]) [1] rfl) (ninW hD 1 [0, 2] rfl rfl (by decide)) hnp) (cwV 0 hts (lw_V q619 q621 qs9 q28 q622) rfl rfl rfl (by decide +kernel) ⟨Nat.le_of_ble_eq_true rfl, Nat.le_of_ble_eq_true rfl⟩) (preV hK (rcv hK hP 0 rfl rfl)) rfl rfl hl.1 rfl (lv_room (Nat.le_of_ble_eq_true rfl)) dX6_setSensor_34 ⟨Nat.le_of_ble_eq_true rfl, Nat.le_of_ble_eq_true rfl⟩) hS hFc (fun H locs hp9 hz1 hk1 hS => ?_)
        have hP1 := hp9
        obtain ⟨hP, hD⟩ := jn (wr := [(ms, .inl (g 0, 71, .inl f)), (me, .inl (g 0, 3, .inl ef)), (mn, .inl (g 1, 5, .inr (.inl nw)))]) (w1 := [(mo, .inr (6, [.ref ms, .ref mp, .int (nI (addK 4 np)), .ref me, .ref mn, .long iv, .long lg, .long fg, .long hv])), (mp, .inl (g 0, 284, .inl (ntF np pa f)))]) hP hD [0, 2] [1, 3, 4] rfl rfl (by decide) (by decide) hk1 hFc hP1 (dOf (nodupW hD [0, 2] rfl (by decide)) (fun q h => Or.inl h))
        have hP : va_P D vwCl [(ms, .inl (g 0, 71, .inl f)), (me, .inl (g 0, 3, .inl ef)), (mn, .inl (g 1, 5, .inr (.inl nw))), (mo, .inr (6, [.ref ms, .ref mp, .int (nI (addK 4 np)), .ref me, .ref mn, .long iv, .long lg, .long fg, .long hv])), (mp, .inl (g 0, 284, .inl (ntF np pa f)))] H := hP
        have hD : va_D (Aw [mo, ms, mp, me, mn] s.heap.size) [(ms, .inl (g 0, 71, .inl f)), (me, .inl (g 0, 3, .inl ef)), (mn, .inl (g 1, 5, .inr (.inl nw))), (mo, .inr (6, [.ref ms, .ref mp, .int (nI (addK 4 np)), .ref me, .ref mn, .long iv, .long lg, .long fg, .long hv])), (mp, .inl (g 0, 284, .inl (ntF np pa f)))] := hD
        refine lv_aload_n (pc := 37) hx hb dX6_setSensor_37 rfl (lv_at hl 0 rfl) ?_
        refine va_get (pc := 38) (D := D) (ci := 6) (v := .ref ms) (C := RX6) (T := TX6) (N := 9) hx hb hts in_X6 hown hK.1 hP 3 rfl rfl 0 (by decide) (hts _ q574) (fun _ h9 => h9) rfl dX6_setSensor_38 ?_
        refine lv_bipush (pc := 41) (v := 12) hx hb dX6_setSensor_41 (by decide) ?_
        refine lv_iload_n (pc := 43) hx hb dX6_setSensor_43 rfl (lv_at hl 1 rfl) ?_
        refine lv_iadd (pc := 44) hx hb dX6_setSensor_44 ?_
        refine ia_ld (pc := 45) hx hb hK.1 hP 0 0 (12 + se) rfl rfl (nadd (nl 12) hsx) (by omega) (Nat.le_of_ble_eq_true rfl) dX6_setSensor_45 ?_
        refine lv_topi (fun z10 ez10 => ?_)
        refine lv_istore (pc := 46) (lv' := [(4, .int z10), (0, .ref mo), (1, .int sx), (2, .int kd), (3, .int va)]) hx hb dX6_setSensor_46 hl (by decide) rfl (fun ls hl => ?_)
        refine lv_aload_n (pc := 48) hx hb dX6_setSensor_48 rfl (lv_at hl 1 rfl) ?_
        refine va_get (pc := 49) (D := D) (ci := 6) (v := .ref ms) (C := RX6) (T := TX6) (N := 9) hx hb hts in_X6 hown hK.1 hP 3 rfl rfl 0 (by decide) (hts _ q574) (fun _ h9 => h9) rfl dX6_setSensor_49 ?_
        refine lv_bipush (pc := 52) (v := 8) hx hb dX6_setSensor_52 (by decide) ?_
        refine lv_iload_n (pc := 54) hx hb dX6_setSensor_54 rfl (lv_at hl 2 rfl) ?_
        refine lv_iadd (pc := 55) hx hb dX6_setSensor_55 ?_
        refine lv_iload_n (pc := 56) hx hb dX6_setSensor_56 rfl (lv_at hl 3 rfl) ?_
        refine ia_st (pc := 57) (f' := (upd f (8 + se) kd)) hx hb hK.1 hP hD hS 0 0 (8 + se) rfl rfl (nadd (nl 8) hsx) (by omega) (Nat.le_of_ble_eq_true rfl) (fun _ _ => rfl) dX6_setSensor_57 (fun H locs hP hD hS => ?_)
        have hP : va_P D vwCl [(ms, .inl (g 0, 71, .inl (upd f (8 + se) kd))), (me, .inl (g 0, 3, .inl ef)), (mn, .inl (g 1, 5, .inr (.inl nw))), (mo, .inr (6, [.ref ms, .ref mp, .int (nI (addK 4 np)), .ref me, .ref mn, .long iv, .long lg, .long fg, .long hv])), (mp, .inl (g 0, 284, .inl (ntF np pa f)))] H := hP
        have hD : va_D (Aw [mo, ms, mp, me, mn] s.heap.size) [(ms, .inl (g 0, 71, .inl (upd f (8 + se) kd))), (me, .inl (g 0, 3, .inl ef)), (mn, .inl (g 1, 5, .inr (.inl nw))), (mo, .inr (6, [.ref ms, .ref mp, .int (nI (addK 4 np)), .ref me, .ref mn, .long iv, .long lg, .long fg, .long hv])), (mp, .inl (g 0, 284, .inl (ntF np pa f)))] := hD
        refine lv_aload_n (pc := 58) hx hb dX6_setSensor_58 rfl (lv_at hl 1 rfl) ?_
        refine va_get (pc := 59) (D := D) (ci := 6) (v := .ref ms) (C := RX6) (T := TX6) (N := 9) hx hb hts in_X6 hown hK.1 hP 3 rfl rfl 0 (by decide) (hts _ q574) (fun _ h9 => h9) rfl dX6_setSensor_59 ?_
        refine lv_bipush (pc := 62) (v := 12) hx hb dX6_setSensor_62 (by decide) ?_
        refine lv_iload_n (pc := 64) hx hb dX6_setSensor_64 rfl (lv_at hl 2 rfl) ?_
        refine lv_iadd (pc := 65) hx hb dX6_setSensor_65 ?_
        refine lv_iload_n (pc := 66) hx hb dX6_setSensor_66 rfl (lv_at hl 4 rfl) ?_
        refine ia_st (pc := 67) (f' := (upd (upd f (8 + se) kd) (12 + se) va)) hx hb hK.1 hP hD hS 0 0 (12 + se) rfl rfl (nadd (nl 12) hsx) (by omega) (Nat.le_of_ble_eq_true rfl) (fun _ _ => rfl) dX6_setSensor_67 (fun H locs hP hD hS => ?_)
        have hP : va_P D vwCl [(ms, .inl (g 0, 71, .inl (upd (upd f (8 + se) kd) (12 + se) va))), (me, .inl (g 0, 3, .inl ef)), (mn, .inl (g 1, 5, .inr (.inl nw))), (mo, .inr (6, [.ref ms, .ref mp, .int (nI (addK 4 np)), .ref me, .ref mn, .long iv, .long lg, .long fg, .long hv])), (mp, .inl (g 0, 284, .inl (ntF np pa f)))] H := hP
        have hD : va_D (Aw [mo, ms, mp, me, mn] s.heap.size) [(ms, .inl (g 0, 71, .inl (upd (upd f (8 + se) kd) (12 + se) va))), (me, .inl (g 0, 3, .inl ef)), (mn, .inl (g 1, 5, .inr (.inl nw))), (mo, .inr (6, [.ref ms, .ref mp, .int (nI (addK 4 np)), .ref me, .ref mn, .long iv, .long lg, .long fg, .long hv])), (mp, .inl (g 0, 284, .inl (ntF np pa f)))] := hD
        refine lv_iload (pc := 68) hx hb dX6_setSensor_68 (lv_at hl 0 rfl) ?_
        have hq9 : (fun r H1 => ((inR 0 3 sx ∧ inR 0 1 kd ∧ inR 1 40960000 va) ∧ r = f (12 + sx.toNatClampNeg) ∧ MDI D g H1 mo ms mp me mn (addK 4 np) ef (upd (upd f (8 + sx.toNatClampNeg) kd) (12 + sx.toNatClampNeg) va) (ntF np pa f)) ∨ (¬ (inR 0 3 sx ∧ inR 0 1 kd ∧ inR 1 40960000 va) ∧ r = -2000000002 ∧ MDI D g H1 mo ms mp me mn np (upd ef 0 (ef 0 + 1)) f pa) : Int32 → Heap → Prop) z10 H := Or.inl ⟨⟨hck4, hck13, hck23⟩, by rw [hcl9]; exact ez10, by rw [hcl9]; exact ⟨_, _, _, _, _, hP.sub [3, 0, 4, 1, 2] rfl⟩⟩
        exact W.iret (v := z10) hx hb hr (fun t ht hW => ⟨⟨_, rfl, by rw [ht]; exact hq9⟩, hS.F ht⟩) hS.2.2 dX6_setSensor_70
      · have hnk : ¬ (inR 0 3 sx ∧ inR 0 1 kd ∧ inR 1 40960000 va) := fun h => (bI_eq (hr7.symm.trans cd8)) h.2.2
        refine lv_aload_n (pc := 26) hx hb dX6_setSensor_26 rfl (lv_at hl 0 rfl) ?_
        refine lv_ldc (pc := 27) (v := (-2000000002)) hx hb hown (hts _ q614) dX6_setSensor_27 ?_
        have hFc := awF (Lc := [me]) hD hS hA [3] rfl
        refine kI (pc := 29) (va_runV (As := [.int (-2000000002)]) (rest := []) ⟨hx, hb, hml, hown, hts⟩ (m6_fail l mo ms mp me mn np iv lg fg hv 0 ef (-2000000002) s.heap (hP.sub (ws' := [(me, .inl (g 0, 3, .inl ef))]) [3] rfl) (hP.sub (ws' := [(mo, .inr (6, [.ref ms, .ref mp, .int (nI np), .ref me, .ref mn, .long iv, .long lg, .long fg, .long hv]))]) [0] rfl) (ninW hD 0 [3] rfl rfl (by decide)) (by decide) (by decide)) (cwV 1 hts (lw_V q615 q617 qs8 q28 q618) rfl rfl rfl (by decide +kernel) ⟨Nat.le_of_ble_eq_true rfl, Nat.le_of_ble_eq_true rfl⟩) (preV hK (rcv hK hP 0 rfl rfl)) rfl rfl hl.1 rfl (lv_room (Nat.le_of_ble_eq_true rfl)) dX6_setSensor_29 ⟨Nat.le_of_ble_eq_true rfl, Nat.le_of_ble_eq_true rfl⟩) hS hFc (fun r11 H locs hp9 hz1 hk1 hS => ?_)
        obtain ⟨hrc, hP1⟩ := hp9
        obtain ⟨hP, hD⟩ := jn (wr := [(mo, .inr (6, [.ref ms, .ref mp, .int (nI np), .ref me, .ref mn, .long iv, .long lg, .long fg, .long hv])), (ms, .inl (g 0, 71, .inl f)), (mp, .inl (g 0, 284, .inl pa)), (mn, .inl (g 1, 5, .inr (.inl nw)))]) (w1 := [(me, .inl (g 0, 3, .inl (upd ef 0 (ef 0 + 1))))]) hP hD [3] [0, 1, 2, 4] rfl rfl (by decide) (by decide) hk1 hFc hP1 (d1 (Or.inl (by simp)))
        have hP : va_P D vwCl [(mo, .inr (6, [.ref ms, .ref mp, .int (nI np), .ref me, .ref mn, .long iv, .long lg, .long fg, .long hv])), (ms, .inl (g 0, 71, .inl f)), (mp, .inl (g 0, 284, .inl pa)), (mn, .inl (g 1, 5, .inr (.inl nw))), (me, .inl (g 0, 3, .inl (upd ef 0 (ef 0 + 1))))] H := hP
        have hD : va_D (Aw [mo, ms, mp, me, mn] s.heap.size) [(mo, .inr (6, [.ref ms, .ref mp, .int (nI np), .ref me, .ref mn, .long iv, .long lg, .long fg, .long hv])), (ms, .inl (g 0, 71, .inl f)), (mp, .inl (g 0, 284, .inl pa)), (mn, .inl (g 1, 5, .inr (.inl nw))), (me, .inl (g 0, 3, .inl (upd ef 0 (ef 0 + 1))))] := hD
        have hq9 : (fun r H1 => ((inR 0 3 sx ∧ inR 0 1 kd ∧ inR 1 40960000 va) ∧ r = f (12 + sx.toNatClampNeg) ∧ MDI D g H1 mo ms mp me mn (addK 4 np) ef (upd (upd f (8 + sx.toNatClampNeg) kd) (12 + sx.toNatClampNeg) va) (ntF np pa f)) ∨ (¬ (inR 0 3 sx ∧ inR 0 1 kd ∧ inR 1 40960000 va) ∧ r = -2000000002 ∧ MDI D g H1 mo ms mp me mn np (upd ef 0 (ef 0 + 1)) f pa) : Int32 → Heap → Prop) r11 H := Or.inr ⟨hnk, hrc, ⟨_, _, _, _, _, hP.sub [0, 1, 2, 4, 3] rfl⟩⟩
        exact W.iret (v := r11) hx hb hr (fun t ht hW => ⟨⟨_, rfl, by rw [ht]; exact hq9⟩, hS.F ht⟩) hS.2.2 dX6_setSensor_32

abbrev rm_m6_errorCount : Room := ({ frames := 1, cells := 0, slots := 0, locals := 22 })
set_option maxHeartbeats 4000000 in
set_option maxRecDepth 100000 in
theorem m6_errorCount (l : Launch) {D : va_G} {g : Nat → ClassId} (mo ms mp me mn np : Nat) (iv lg fg hv : Int64) (ef f pa : Nat → Int32) (nw : Nat → Int64) (kx : Int32) (H : Heap) (hP : va_P D vwCl [(mo, .inr (6, [.ref ms, .ref mp, .int (nI np), .ref me, .ref mn, .long iv, .long lg, .long fg, .long hv])), (ms, .inl (g 0, 71, .inl f)), (mp, .inl (g 0, 284, .inl pa)), (me, .inl (g 0, 3, .inl ef)), (mn, .inl (g 1, 5, .inr (.inl nw)))] H) (hN : [mo, ms, mp, me, mn].Nodup) (hnp : np ≤ 4) (hro : RowOK f) : Met l yX6_errorCount (ws_ yX6_errorCount cX6_errorCount 2 (some .int)) rm_m6_errorCount (va_Pc [.ref mo, .int kx] (PH D g H)) (QI (fun r H1 => ((inR 0 2 kx) ∧ r = ef kx.toNatClampNeg ∧ MDI D g H1 mo ms mp me mn np ef f pa) ∨ (¬ (inR 0 2 kx) ∧ r = -2000000002 ∧ MDI D g H1 mo ms mp me mn np (upd ef 0 (ef 0 + 1)) f pa)) (Aw [mo, ms, mp, me, mn] H.size)) 0 0 (Aw [mo, ms, mp, me, mn] H.size) := by
  refine Met.ofW (cc := cX6_errorCount) (maxL := 2) (ret := (some .int)) (by decide) rfl ?_
  intro p e s m args below meth c s₁ B hml hv
  obtain ⟨rfl, hH, hK⟩ := hv
  subst hH
  have hx := B.exec
  have hb := B.bytes
  have hr := B.returns
  have hts := atoms_spec (ws := ws_ yX6_errorCount cX6_errorCount 2 (some .int)) B.pre
  have hts : ∀ w ∈ lw_all, w.before _ s = true := fun w h => hts w (List.mem_cons_of_mem _ h)
  have hown : s.vm.findClass RX6 = some m.cls := findClass_of_methodNamed B.named
  have hlocks := B.notSynchronized
  have hA : ∀ q, s.heap.size ≤ q → (Aw [mo, ms, mp, me, mn] s.heap.size) q := fun q h => Or.inr h
  have hS : va_S (Aw [mo, ms, mp, me, mn] s.heap.size) s.heap s.heap [] := va_S.rf
  have hD : va_D (Aw [mo, ms, mp, me, mn] s.heap.size) [(mo, .inr (6, [.ref ms, .ref mp, .int (nI np), .ref me, .ref mn, .long iv, .long lg, .long fg, .long hv])), (ms, .inl (g 0, 71, .inl f)), (mp, .inl (g 0, 284, .inl pa)), (me, .inl (g 0, 3, .inl ef)), (mn, .inl (g 1, 5, .inr (.inl nw)))] := dOf hN (fun q h => Or.inl h)
  have hl := lv_entry ([.ref mo, .int kx]) (n := 2) (Nat.le_of_ble_eq_true rfl)
  rw [lg_entry_eq]
  generalize (lg_sl ([.ref mo, .int kx]) ++ List.replicate (2 - (lg_sl ([.ref mo, .int kx])).length) Slot.unset).toArray = ls at hl ⊢
  have hl : lv_has ls 2 [(0, .ref mo), (1, .int kx)] := hl
  refine lv_iload_n (pc := 0) hx hb dX6_errorCount_0 rfl (lv_at hl 1 rfl) ?_
  refine lv_iconst (pc := 1) (v := 0) hx hb dX6_errorCount_1 (by decide) ?_
  refine lv_iconst (pc := 2) (v := 2) hx hb dX6_errorCount_2 (by decide) ?_
  refine kIp (pc := 3) (va_runS (As := [.int kx, .int 0, .int 2]) (rest := []) ⟨hx, hb, hml, hown, hts⟩ (m6_in l kx 0 2 s.heap) (va_cwS 3 hts (lw_S q609 q610 q28 q611) rfl rfl rfl (by decide +kernel) ⟨Nat.le_of_ble_eq_true rfl, Nat.le_of_ble_eq_true rfl⟩) (preS hK) rfl rfl hl.1 rfl (lv_room (Nat.le_of_ble_eq_true rfl)) dX6_errorCount_3 ⟨Nat.le_of_ble_eq_true rfl, Nat.le_of_ble_eq_true rfl⟩) (fun r1 hr1 => ?_)
  refine lv_if_eq (pc := 6) (tgt := 18) hx hb dX6_errorCount_6 (by decide) (fun cd2 => ?_) (fun cd2 => ?_)
  · have hnk : ¬ (inR 0 2 kx) := fun h => (bI_eq (hr1.symm.trans cd2)) h
    refine lv_aload_n (pc := 18) hx hb dX6_errorCount_18 rfl (lv_at hl 0 rfl) ?_
    refine lv_ldc (pc := 19) (v := (-2000000002)) hx hb hown (hts _ q614) dX6_errorCount_19 ?_
    have hFc := awF (Lc := [me]) hD hS hA [3] rfl
    refine kI (pc := 21) (va_runV (As := [.int (-2000000002)]) (rest := []) ⟨hx, hb, hml, hown, hts⟩ (m6_fail l mo ms mp me mn np iv lg fg hv 0 ef (-2000000002) s.heap (hP.sub (ws' := [(me, .inl (g 0, 3, .inl ef))]) [3] rfl) (hP.sub (ws' := [(mo, .inr (6, [.ref ms, .ref mp, .int (nI np), .ref me, .ref mn, .long iv, .long lg, .long fg, .long hv]))]) [0] rfl) (ninW hD 0 [3] rfl rfl (by decide)) (by decide) (by decide)) (cwV 1 hts (lw_V q615 q617 qs8 q28 q618) rfl rfl rfl (by decide +kernel) ⟨Nat.le_of_ble_eq_true rfl, Nat.le_of_ble_eq_true rfl⟩) (preV hK (rcv hK hP 0 rfl rfl)) rfl rfl hl.1 rfl (lv_room (Nat.le_of_ble_eq_true rfl)) dX6_errorCount_21 ⟨Nat.le_of_ble_eq_true rfl, Nat.le_of_ble_eq_true rfl⟩) hS hFc (fun r3 H locs hp9 hz1 hk1 hS => ?_)
    obtain ⟨hrc, hP1⟩ := hp9
    obtain ⟨hP, hD⟩ := jn (wr := [(mo, .inr (6, [.ref ms, .ref mp, .int (nI np), .ref me, .ref mn, .long iv, .long lg, .long fg, .long hv])), (ms, .inl (g 0, 71, .inl f)), (mp, .inl (g 0, 284, .inl pa)), (mn, .inl (g 1, 5, .inr (.inl nw)))]) (w1 := [(me, .inl (g 0, 3, .inl (upd ef 0 (ef 0 + 1))))]) hP hD [3] [0, 1, 2, 4] rfl rfl (by decide) (by decide) hk1 hFc hP1 (d1 (Or.inl (by simp)))
    have hP : va_P D vwCl [(mo, .inr (6, [.ref ms, .ref mp, .int (nI np), .ref me, .ref mn, .long iv, .long lg, .long fg, .long hv])), (ms, .inl (g 0, 71, .inl f)), (mp, .inl (g 0, 284, .inl pa)), (mn, .inl (g 1, 5, .inr (.inl nw))), (me, .inl (g 0, 3, .inl (upd ef 0 (ef 0 + 1))))] H := hP
    have hD : va_D (Aw [mo, ms, mp, me, mn] s.heap.size) [(mo, .inr (6, [.ref ms, .ref mp, .int (nI np), .ref me, .ref mn, .long iv, .long lg, .long fg, .long hv])), (ms, .inl (g 0, 71, .inl f)), (mp, .inl (g 0, 284, .inl pa)), (mn, .inl (g 1, 5, .inr (.inl nw))), (me, .inl (g 0, 3, .inl (upd ef 0 (ef 0 + 1))))] := hD
    have hq9 : (fun r H1 => ((inR 0 2 kx) ∧ r = ef kx.toNatClampNeg ∧ MDI D g H1 mo ms mp me mn np ef f pa) ∨ (¬ (inR 0 2 kx) ∧ r = -2000000002 ∧ MDI D g H1 mo ms mp me mn np (upd ef 0 (ef 0 + 1)) f pa) : Int32 → Heap → Prop) r3 H := Or.inr ⟨hnk, hrc, ⟨_, _, _, _, _, hP.sub [0, 1, 2, 4, 3] rfl⟩⟩
    exact W.iret (v := r3) hx hb hr (fun t ht hW => ⟨⟨_, rfl, by rw [ht]; exact hq9⟩, hS.F ht⟩) hS.2.2 dX6_errorCount_24
  · have hck6 : inR (0) (2) kx := bI_ne (fun e => cd2 (hr1.trans e))
    obtain ⟨se, hse3, hsx⟩ := inR_nat (n := 2) (by decide) hck6
    have hse : se < 3 := by omega
    have hcl9 : kx.toNatClampNeg = se := by rw [hsx]; exact nI_clamp (by omega)
    refine lv_aload_n (pc := 9) hx hb dX6_errorCount_9 rfl (lv_at hl 0 rfl) ?_
    refine va_get (pc := 10) (D := D) (ci := 6) (v := .ref me) (C := RX6) (T := TX6) (N := 9) hx hb hts in_X6 hown hK.1 hP 0 rfl rfl 3 (by decide) (hts _ q577) (fun _ h9 => h9) rfl dX6_errorCount_10 ?_
    refine lv_iload_n (pc := 13) hx hb dX6_errorCount_13 rfl (lv_at hl 1 rfl) ?_
    refine ia_ld (pc := 14) hx hb hK.1 hP 3 0 se rfl rfl hsx (by omega) (Nat.le_of_ble_eq_true rfl) dX6_errorCount_14 ?_
    refine lv_goto (pc := 15) (tgt := 24) hx hb dX6_errorCount_15 (by decide) ?_
    have hq9 : (fun r H1 => ((inR 0 2 kx) ∧ r = ef kx.toNatClampNeg ∧ MDI D g H1 mo ms mp me mn np ef f pa) ∨ (¬ (inR 0 2 kx) ∧ r = -2000000002 ∧ MDI D g H1 mo ms mp me mn np (upd ef 0 (ef 0 + 1)) f pa) : Int32 → Heap → Prop) (ef se) s.heap := Or.inl ⟨hck6, by rw [hcl9], ⟨_, _, _, _, _, hP.sub [0, 1, 2, 3, 4] rfl⟩⟩
    exact W.iret (v := ef se) hx hb hr (fun t ht hW => ⟨⟨_, rfl, by rw [ht]; exact hq9⟩, hS.F ht⟩) hS.2.2 dX6_errorCount_24

abbrev rm_m6_undo : Room := ({ frames := 1, cells := 0, slots := 0, locals := 21 })
set_option maxHeartbeats 4000000 in
set_option maxRecDepth 100000 in
theorem m6_undo (l : Launch) {D : va_G} {g : Nat → ClassId} (mo ms mp me mn np : Nat) (iv lg fg hv : Int64) (ef f pa : Nat → Int32) (nw : Nat → Int64)  (H : Heap) (hP : va_P D vwCl [(mo, .inr (6, [.ref ms, .ref mp, .int (nI np), .ref me, .ref mn, .long iv, .long lg, .long fg, .long hv])), (ms, .inl (g 0, 71, .inl f)), (mp, .inl (g 0, 284, .inl pa)), (me, .inl (g 0, 3, .inl ef)), (mn, .inl (g 1, 5, .inr (.inl nw)))] H) (hN : [mo, ms, mp, me, mn].Nodup) (hnp : np ≤ 4) (hro : RowOK f) : Met l yX6_undo (ws_ yX6_undo cX6_undo 2 (some .int)) rm_m6_undo (va_Pc [.ref mo] (PH D g H)) (QI (fun r H1 => (np = 0 ∧ r = -2000000003 ∧ MDI D g H1 mo ms mp me mn np (upd ef 1 (ef 1 + 1)) f pa) ∨ (¬ np = 0 ∧ r = nI (np - 1) ∧ MDI D g H1 mo ms mp me mn (np - 1) ef (fun k => pa (71 * (np - 1) + k)) pa)) (Aw [mo, ms, mp, me, mn] H.size)) 0 0 (Aw [mo, ms, mp, me, mn] H.size) := by
  refine Met.ofW (cc := cX6_undo) (maxL := 2) (ret := (some .int)) (by decide) rfl ?_
  intro p e s m args below meth c s₁ B hml hv
  obtain ⟨rfl, hH, hK⟩ := hv
  subst hH
  have hx := B.exec
  have hb := B.bytes
  have hr := B.returns
  have hts := atoms_spec (ws := ws_ yX6_undo cX6_undo 2 (some .int)) B.pre
  have hts : ∀ w ∈ lw_all, w.before _ s = true := fun w h => hts w (List.mem_cons_of_mem _ h)
  have hown : s.vm.findClass RX6 = some m.cls := findClass_of_methodNamed B.named
  have hlocks := B.notSynchronized
  have hA : ∀ q, s.heap.size ≤ q → (Aw [mo, ms, mp, me, mn] s.heap.size) q := fun q h => Or.inr h
  have hS : va_S (Aw [mo, ms, mp, me, mn] s.heap.size) s.heap s.heap [] := va_S.rf
  have hD : va_D (Aw [mo, ms, mp, me, mn] s.heap.size) [(mo, .inr (6, [.ref ms, .ref mp, .int (nI np), .ref me, .ref mn, .long iv, .long lg, .long fg, .long hv])), (ms, .inl (g 0, 71, .inl f)), (mp, .inl (g 0, 284, .inl pa)), (me, .inl (g 0, 3, .inl ef)), (mn, .inl (g 1, 5, .inr (.inl nw)))] := dOf hN (fun q h => Or.inl h)
  have hl := lv_entry ([.ref mo]) (n := 2) (Nat.le_of_ble_eq_true rfl)
  rw [lg_entry_eq]
  generalize (lg_sl ([.ref mo]) ++ List.replicate (2 - (lg_sl ([.ref mo])).length) Slot.unset).toArray = ls at hl ⊢
  have hl : lv_has ls 2 [(0, .ref mo)] := hl
  refine lv_aload_n (pc := 0) hx hb dX6_undo_0 rfl (lv_at hl 0 rfl) ?_
  refine va_get (pc := 1) (D := D) (ci := 6) (v := .int (nI np)) (C := RX6) (T := TX6) (N := 9) hx hb hts in_X6 hown hK.1 hP 0 rfl rfl 2 (by decide) (hts _ q576) (fun _ h9 => h9) rfl dX6_undo_1 ?_
  refine lv_if_ne (pc := 4) (tgt := 14) hx hb dX6_undo_4 (by decide) (fun cd1 => ?_) (fun cd1 => ?_)
  · have ncd1 : ¬ np = 0 := fun h => cd1 ((neq rfl (nl 0) (by omega) (by omega)).mpr h)
    refine lv_aload_n (pc := 14) hx hb dX6_undo_14 rfl (lv_at hl 0 rfl) ?_
    refine lv_dup (pc := 15) hx hb dX6_undo_15 rfl ?_
    refine va_get (pc := 16) (D := D) (ci := 6) (v := .int (nI np)) (C := RX6) (T := TX6) (N := 9) hx hb hts in_X6 hown hK.1 hP 0 rfl rfl 2 (by decide) (hts _ q576) (fun _ h9 => h9) rfl dX6_undo_16 ?_
    refine lv_iconst (pc := 19) (v := 1) hx hb dX6_undo_19 (by decide) ?_
    refine lv_isub (pc := 20) hx hb dX6_undo_20 ?_
    refine lv_topi (fun z2 ez2 => ?_)
    refine va_put (pc := 21) (D := D) (ci := 6) (v := .int z2) (ty := .int) (C := RX6) (T := TX6) (N := 9) hx hb hts in_X6 tyX6 tyX6_ok nmX6 hown hK.1 hP hD hS 0 rfl rfl 2 (by decide) (hts _ q576) (fun _ h9 => h9) rfl (by decide +kernel) rfl rfl (Nat.le_of_ble_eq_true rfl) dX6_undo_21 (fun H locs hP hD hS => ?_)
    have hP : va_P D vwCl [(mo, .inr (6, [.ref ms, .ref mp, .int z2, .ref me, .ref mn, .long iv, .long lg, .long fg, .long hv])), (ms, .inl (g 0, 71, .inl f)), (mp, .inl (g 0, 284, .inl pa)), (me, .inl (g 0, 3, .inl ef)), (mn, .inl (g 1, 5, .inr (.inl nw)))] H := hP
    have hD : va_D (Aw [mo, ms, mp, me, mn] s.heap.size) [(mo, .inr (6, [.ref ms, .ref mp, .int z2, .ref me, .ref mn, .long iv, .long lg, .long fg, .long hv])), (ms, .inl (g 0, 71, .inl f)), (mp, .inl (g 0, 284, .inl pa)), (me, .inl (g 0, 3, .inl ef)), (mn, .inl (g 1, 5, .inr (.inl nw)))] := hD
    have hz9 : z2 = nI (np - 1) := (ez2.trans (nsub rfl (nl 1) (by omega)))
    subst hz9
    refine lv_iconst (pc := 24) (v := 0) hx hb dX6_undo_24 (by decide) ?_
    refine lv_istore_n (pc := 25) (lv' := [(1, .int 0), (0, .ref mo)]) hx hb dX6_undo_25 rfl hl (by decide) rfl (fun ls hl => ?_)
    have loop : ∀ (n : Nat) (i : Nat), (i ≤ 71) → (72 ≤ i + n) → ∀ (H : Heap) (locs : List Loc), va_P D vwCl [(mo, .inr (6, [.ref ms, .ref mp, .int (nI (np - 1)), .ref me, .ref mn, .long iv, .long lg, .long fg, .long hv])), (ms, .inl (g 0, 71, .inl (p5F f (fun k => pa (71 * (np - 1) + k)) i))), (mp, .inl (g 0, 284, .inl pa)), (me, .inl (g 0, 3, .inl ef)), (mn, .inl (g 1, 5, .inr (.inl nw)))] H → va_D (Aw [mo, ms, mp, me, mn] s.heap.size) [(mo, .inr (6, [.ref ms, .ref mp, .int (nI (np - 1)), .ref me, .ref mn, .long iv, .long lg, .long fg, .long hv])), (ms, .inl (g 0, 71, .inl (p5F f (fun k => pa (71 * (np - 1) + k)) i))), (mp, .inl (g 0, 284, .inl pa)), (me, .inl (g 0, 3, .inl ef)), (mn, .inl (g 1, 5, .inr (.inl nw)))] → va_S (Aw [mo, ms, mp, me, mn] s.heap.size) s.heap H locs → ∀ (ls : Array Slot), lv_has ls 2 [(0, .ref mo), (1, .int (nI i))] → W p l e (headSpec (ws_ yX6_undo cX6_undo 2 (some .int)) rm_m6_undo).room s m ([.ref mo] : List Value).toArray below meth c H locs 0 0 (MQ below (QI (fun r H1 => (np = 0 ∧ r = -2000000003 ∧ MDI D g H1 mo ms mp me mn np (upd ef 1 (ef 1 + 1)) f pa) ∨ (¬ np = 0 ∧ r = nI (np - 1) ∧ MDI D g H1 mo ms mp me mn (np - 1) ef (fun k => pa (71 * (np - 1) + k)) pa)) (Aw [mo, ms, mp, me, mn] s.heap.size)) ([.ref mo] : List Value).toArray s 0 0 (Aw [mo, ms, mp, me, mn] s.heap.size)) (F0 m 26 ls []) := by
      intro n
      induction n with
      | zero =>
        intro i hi hfu
        exact absurd (show _ by assumption) (by omega)
      | succ n ih =>
        intro i hi hfu H locs hP hD hS ls hl
        refine lv_iload_n (pc := 26) hx hb dX6_undo_26 rfl (lv_at hl 1 rfl) ?_
        refine lv_bipush (pc := 27) (v := 71) hx hb dX6_undo_27 (by decide) ?_
        refine lv_icmp_ge (pc := 29) (tgt := 58) hx hb dX6_undo_29 (by decide) (fun cd3 => ?_) (fun cd3 => ?_)
        · have ncd3 : 71 ≤ i := (nle (nl 71) rfl (by omega) (by omega)).mp cd3
          refine lv_aload_n (pc := 58) hx hb dX6_undo_58 rfl (lv_at hl 0 rfl) ?_
          refine va_get (pc := 59) (D := D) (ci := 6) (v := .int (nI (np - 1))) (C := RX6) (T := TX6) (N := 9) hx hb hts in_X6 hown hK.1 hP 0 rfl rfl 2 (by decide) (hts _ q576) (fun _ h9 => h9) rfl dX6_undo_59 ?_
          have hq9 : (fun r H1 => (np = 0 ∧ r = -2000000003 ∧ MDI D g H1 mo ms mp me mn np (upd ef 1 (ef 1 + 1)) f pa) ∨ (¬ np = 0 ∧ r = nI (np - 1) ∧ MDI D g H1 mo ms mp me mn (np - 1) ef (fun k => pa (71 * (np - 1) + k)) pa) : Int32 → Heap → Prop) (nI (np - 1)) H := Or.inr ⟨ncd1, rfl, MDI.to (f := (p5F f (fun k => pa (71 * (np - 1) + k)) i)) ⟨_, _, _, _, _, hP.sub [0, 1, 2, 3, 4] rfl⟩ (fun j hj => (by rw [show i = 71 by omega]; exact p5_lo hj))⟩
          exact W.iret (v := nI (np - 1)) hx hb hr (fun t ht hW => ⟨⟨_, rfl, by rw [ht]; exact hq9⟩, hS.F ht⟩) hS.2.2 dX6_undo_62
        · have ncd3 : ¬ 71 ≤ i := fun h => cd3 ((nle (nl 71) rfl (by omega) (by omega)).mpr h)
          refine lv_aload_n (pc := 32) hx hb dX6_undo_32 rfl (lv_at hl 0 rfl) ?_
          refine va_get (pc := 33) (D := D) (ci := 6) (v := .ref ms) (C := RX6) (T := TX6) (N := 9) hx hb hts in_X6 hown hK.1 hP 0 rfl rfl 0 (by decide) (hts _ q574) (fun _ h9 => h9) rfl dX6_undo_33 ?_
          refine lv_iload_n (pc := 36) hx hb dX6_undo_36 rfl (lv_at hl 1 rfl) ?_
          refine lv_aload_n (pc := 37) hx hb dX6_undo_37 rfl (lv_at hl 0 rfl) ?_
          refine va_get (pc := 38) (D := D) (ci := 6) (v := .ref mp) (C := RX6) (T := TX6) (N := 9) hx hb hts in_X6 hown hK.1 hP 0 rfl rfl 1 (by decide) (hts _ q575) (fun _ h9 => h9) rfl dX6_undo_38 ?_
          refine lv_bipush (pc := 41) (v := 71) hx hb dX6_undo_41 (by decide) ?_
          refine lv_aload_n (pc := 43) hx hb dX6_undo_43 rfl (lv_at hl 0 rfl) ?_
          refine va_get (pc := 44) (D := D) (ci := 6) (v := .int (nI (np - 1))) (C := RX6) (T := TX6) (N := 9) hx hb hts in_X6 hown hK.1 hP 0 rfl rfl 2 (by decide) (hts _ q576) (fun _ h9 => h9) rfl dX6_undo_44 ?_
          refine lv_imul (pc := 47) hx hb dX6_undo_47 ?_
          refine lv_iload_n (pc := 48) hx hb dX6_undo_48 rfl (lv_at hl 1 rfl) ?_
          refine lv_iadd (pc := 49) hx hb dX6_undo_49 ?_
          refine ia_ld (pc := 50) hx hb hK.1 hP 2 0 ((71 * (np - 1)) + i) rfl rfl (nadd (nmul (nl 71) rfl) rfl) (by omega) (Nat.le_of_ble_eq_true rfl) dX6_undo_50 ?_
          refine lv_topi (fun z4 ez4 => ?_)
          refine ia_st (pc := 51) (f' := (p5F f (fun k => pa (71 * (np - 1) + k)) (i + 1))) hx hb hK.1 hP hD hS 1 0 i rfl rfl rfl (by omega) (Nat.le_of_ble_eq_true rfl) (fun j _ => by rw [ez4]; exact p5_stepu) dX6_undo_51 (fun H locs hP hD hS => ?_)
          have hP : va_P D vwCl [(mo, .inr (6, [.ref ms, .ref mp, .int (nI (np - 1)), .ref me, .ref mn, .long iv, .long lg, .long fg, .long hv])), (ms, .inl (g 0, 71, .inl (p5F f (fun k => pa (71 * (np - 1) + k)) (i + 1)))), (mp, .inl (g 0, 284, .inl pa)), (me, .inl (g 0, 3, .inl ef)), (mn, .inl (g 1, 5, .inr (.inl nw)))] H := hP
          have hD : va_D (Aw [mo, ms, mp, me, mn] s.heap.size) [(mo, .inr (6, [.ref ms, .ref mp, .int (nI (np - 1)), .ref me, .ref mn, .long iv, .long lg, .long fg, .long hv])), (ms, .inl (g 0, 71, .inl (p5F f (fun k => pa (71 * (np - 1) + k)) (i + 1)))), (mp, .inl (g 0, 284, .inl pa)), (me, .inl (g 0, 3, .inl ef)), (mn, .inl (g 1, 5, .inr (.inl nw)))] := hD
          obtain ⟨x5, ex5⟩ : ∃ y : Int32, y = (nI i) + 1 := ⟨_, rfl⟩
          refine lv_iinc (pc := 52) (v := x5) (lv' := [(1, .int x5), (0, .ref mo)]) hx hb dX6_undo_52 hl (k := 1) rfl (by rw [ex5]; rfl) (by decide) rfl (fun ls hl => ?_)
          refine lv_goto (pc := 55) (tgt := 26) hx hb dX6_undo_55 (by decide) ?_
          rw [show x5 = nI (i + 1) from (ex5.trans (nadd rfl (nl 1)))] at hl
          exact ih  (i + 1) (by omega) (by omega) _ _ hP hD hS ls (lv_sub hl [1, 0] rfl)
    have hq0 : f = p5F f (fun k => pa (71 * (np - 1) + k)) 0 := p5_0
    rw [hq0] at hP hD
    exact loop 72 0 (by omega) (by omega) _ _ hP hD hS ls (lv_sub hl [1, 0] rfl)
  · have ncd1 : np = 0 := (neq rfl (nl 0) (by omega) (by omega)).mp cd1
    refine lv_aload_n (pc := 7) hx hb dX6_undo_7 rfl (lv_at hl 0 rfl) ?_
    refine lv_ldc (pc := 8) (v := (-2000000003)) hx hb hown (hts _ q772) dX6_undo_8 ?_
    have hFc := awF (Lc := [me]) hD hS hA [3] rfl
    refine kI (pc := 10) (va_runV (As := [.int (-2000000003)]) (rest := []) ⟨hx, hb, hml, hown, hts⟩ (m6_fail l mo ms mp me mn np iv lg fg hv 1 ef (-2000000003) s.heap (hP.sub (ws' := [(me, .inl (g 0, 3, .inl ef))]) [3] rfl) (hP.sub (ws' := [(mo, .inr (6, [.ref ms, .ref mp, .int (nI np), .ref me, .ref mn, .long iv, .long lg, .long fg, .long hv]))]) [0] rfl) (ninW hD 0 [3] rfl rfl (by decide)) (by decide) (by decide)) (cwV 1 hts (lw_V q615 q617 qs8 q28 q618) rfl rfl rfl (by decide +kernel) ⟨Nat.le_of_ble_eq_true rfl, Nat.le_of_ble_eq_true rfl⟩) (preV hK (rcv hK hP 0 rfl rfl)) rfl rfl hl.1 rfl (lv_room (Nat.le_of_ble_eq_true rfl)) dX6_undo_10 ⟨Nat.le_of_ble_eq_true rfl, Nat.le_of_ble_eq_true rfl⟩) hS hFc (fun r6 H locs hp9 hz1 hk1 hS => ?_)
    obtain ⟨hrc, hP1⟩ := hp9
    obtain ⟨hP, hD⟩ := jn (wr := [(mo, .inr (6, [.ref ms, .ref mp, .int (nI np), .ref me, .ref mn, .long iv, .long lg, .long fg, .long hv])), (ms, .inl (g 0, 71, .inl f)), (mp, .inl (g 0, 284, .inl pa)), (mn, .inl (g 1, 5, .inr (.inl nw)))]) (w1 := [(me, .inl (g 0, 3, .inl (upd ef 1 (ef 1 + 1))))]) hP hD [3] [0, 1, 2, 4] rfl rfl (by decide) (by decide) hk1 hFc hP1 (d1 (Or.inl (by simp)))
    have hP : va_P D vwCl [(mo, .inr (6, [.ref ms, .ref mp, .int (nI np), .ref me, .ref mn, .long iv, .long lg, .long fg, .long hv])), (ms, .inl (g 0, 71, .inl f)), (mp, .inl (g 0, 284, .inl pa)), (mn, .inl (g 1, 5, .inr (.inl nw))), (me, .inl (g 0, 3, .inl (upd ef 1 (ef 1 + 1))))] H := hP
    have hD : va_D (Aw [mo, ms, mp, me, mn] s.heap.size) [(mo, .inr (6, [.ref ms, .ref mp, .int (nI np), .ref me, .ref mn, .long iv, .long lg, .long fg, .long hv])), (ms, .inl (g 0, 71, .inl f)), (mp, .inl (g 0, 284, .inl pa)), (mn, .inl (g 1, 5, .inr (.inl nw))), (me, .inl (g 0, 3, .inl (upd ef 1 (ef 1 + 1))))] := hD
    have hq9 : (fun r H1 => (np = 0 ∧ r = -2000000003 ∧ MDI D g H1 mo ms mp me mn np (upd ef 1 (ef 1 + 1)) f pa) ∨ (¬ np = 0 ∧ r = nI (np - 1) ∧ MDI D g H1 mo ms mp me mn (np - 1) ef (fun k => pa (71 * (np - 1) + k)) pa) : Int32 → Heap → Prop) r6 H := Or.inl ⟨ncd1, hrc, ⟨_, _, _, _, _, hP.sub [0, 1, 2, 4, 3] rfl⟩⟩
    exact W.iret (v := r6) hx hb hr (fun t ht hW => ⟨⟨_, rfl, by rw [ht]; exact hq9⟩, hS.F ht⟩) hS.2.2 dX6_undo_13

abbrev rm_m6_predict : Room := ({ frames := 2, cells := 0, slots := 0, locals := 51 })
set_option maxHeartbeats 4000000 in
set_option maxRecDepth 100000 in
theorem m6_predict (l : Launch) {D : va_G} {g : Nat → ClassId} (mo ms mp me mn np : Nat) (iv lg fg hv : Int64) (ef f pa : Nat → Int32) (nw : Nat → Int64) (i : Int32) (H : Heap) (hP : va_P D vwCl [(mo, .inr (6, [.ref ms, .ref mp, .int (nI np), .ref me, .ref mn, .long iv, .long lg, .long fg, .long hv])), (ms, .inl (g 0, 71, .inl f)), (mp, .inl (g 0, 284, .inl pa)), (me, .inl (g 0, 3, .inl ef)), (mn, .inl (g 1, 5, .inr (.inl nw)))] H) (hN : [mo, ms, mp, me, mn].Nodup) (hnp : np ≤ 4) (hro : RowOK f) : Met l yX6_predict (ws_ yX6_predict cX6_predict 2 (some .int)) rm_m6_predict (va_Pc [.ref mo, .int i] (PH D g H)) (QI (fun r H1 => (inR (-4096000) 4096000 i ∧ pOK (e64 (eR f)) i.toInt64 (f 5).toInt64 (f 6).toInt64 ∧ r = pE (eR f) i (f 5) (f 6) 0 ∧ MDI D g H1 mo ms mp me mn (addK 4 np) ef (prF f i) (ntF np pa f)) ∨ (inR (-4096000) 4096000 i ∧ ¬ (pOK (e64 (eR f)) i.toInt64 (f 5).toInt64 (f 6).toInt64) ∧ r = -2000000004 ∧ MDI D g H1 mo ms mp me mn np (upd ef 2 (ef 2 + 1)) f pa) ∨ (¬ (inR (-4096000) 4096000 i) ∧ r = -2000000002 ∧ MDI D g H1 mo ms mp me mn np (upd ef 0 (ef 0 + 1)) f pa)) (Aw [mo, ms, mp, me, mn] H.size)) 0 0 (Aw [mo, ms, mp, me, mn] H.size) := by
  refine Met.ofW (cc := cX6_predict) (maxL := 2) (ret := (some .int)) (by decide) rfl ?_
  intro p e s m args below meth c s₁ B hml hv
  obtain ⟨rfl, hH, hK⟩ := hv
  subst hH
  have hx := B.exec
  have hb := B.bytes
  have hr := B.returns
  have hts := atoms_spec (ws := ws_ yX6_predict cX6_predict 2 (some .int)) B.pre
  have hts : ∀ w ∈ lw_all, w.before _ s = true := fun w h => hts w (List.mem_cons_of_mem _ h)
  have hown : s.vm.findClass RX6 = some m.cls := findClass_of_methodNamed B.named
  have hlocks := B.notSynchronized
  have hA : ∀ q, s.heap.size ≤ q → (Aw [mo, ms, mp, me, mn] s.heap.size) q := fun q h => Or.inr h
  have hS : va_S (Aw [mo, ms, mp, me, mn] s.heap.size) s.heap s.heap [] := va_S.rf
  have hD : va_D (Aw [mo, ms, mp, me, mn] s.heap.size) [(mo, .inr (6, [.ref ms, .ref mp, .int (nI np), .ref me, .ref mn, .long iv, .long lg, .long fg, .long hv])), (ms, .inl (g 0, 71, .inl f)), (mp, .inl (g 0, 284, .inl pa)), (me, .inl (g 0, 3, .inl ef)), (mn, .inl (g 1, 5, .inr (.inl nw)))] := dOf hN (fun q h => Or.inl h)
  have hl := lv_entry ([.ref mo, .int i]) (n := 2) (Nat.le_of_ble_eq_true rfl)
  rw [lg_entry_eq]
  generalize (lg_sl ([.ref mo, .int i]) ++ List.replicate (2 - (lg_sl ([.ref mo, .int i])).length) Slot.unset).toArray = ls at hl ⊢
  have hl : lv_has ls 2 [(0, .ref mo), (1, .int i)] := hl
  obtain ⟨k, hk, hkf, hev9⟩ := hro.2.2.2.2.2
  refine lv_iload_n (pc := 0) hx hb dX6_predict_0 rfl (lv_at hl 1 rfl) ?_
  refine lv_ldc (pc := 1) (v := (-4096000)) hx hb hown (hts _ q612) dX6_predict_1 ?_
  refine lv_ldc (pc := 3) (v := 4096000) hx hb hown (hts _ q613) dX6_predict_3 ?_
  refine kIp (pc := 5) (va_runS (As := [.int i, .int (-4096000), .int 4096000]) (rest := []) ⟨hx, hb, hml, hown, hts⟩ (m6_in l i (-4096000) 4096000 s.heap) (va_cwS 3 hts (lw_S q609 q610 q28 q611) rfl rfl rfl (by decide +kernel) ⟨Nat.le_of_ble_eq_true rfl, Nat.le_of_ble_eq_true rfl⟩) (preS hK) rfl rfl hl.1 rfl (lv_room (Nat.le_of_ble_eq_true rfl)) dX6_predict_5 ⟨Nat.le_of_ble_eq_true rfl, Nat.le_of_ble_eq_true rfl⟩) (fun r1 hr1 => ?_)
  refine lv_if_ne (pc := 8) (tgt := 18) hx hb dX6_predict_8 (by decide) (fun cd2 => ?_) (fun cd2 => ?_)
  · have hck8 : inR (-4096000) (4096000) i := bI_ne (fun e => cd2 (hr1.trans e))
    refine lv_aload_n (pc := 18) hx hb dX6_predict_18 rfl (lv_at hl 0 rfl) ?_
    have hFc := awF (Lc := [mn]) hD hS hA [4] rfl
    refine kV (pc := 19) (va_runV (As := []) (rest := []) ⟨hx, hb, hml, hown, hts⟩ (m6_take l mo ms mp me mn np iv lg fg hv f nw s.heap (hP.sub (ws' := [(mn, .inl (g 1, 5, .inr (.inl nw)))]) [4] rfl) (hP.sub (ws' := [(mo, .inr (6, [.ref ms, .ref mp, .int (nI np), .ref me, .ref mn, .long iv, .long lg, .long fg, .long hv]))]) [0] rfl) (ninW hD 0 [4] rfl rfl (by decide)) (hP.sub (ws' := [(ms, .inl (g 0, 71, .inl f))]) [1] rfl) (ninW hD 1 [4] rfl rfl (by decide))) (cwV 0 hts (lw_V q642 q644 qs10 q28 q645) rfl rfl rfl (by decide +kernel) ⟨Nat.le_of_ble_eq_true rfl, Nat.le_of_ble_eq_true rfl⟩) (preV hK (rcv hK hP 0 rfl rfl)) rfl rfl hl.1 rfl (lv_room (Nat.le_of_ble_eq_true rfl)) dX6_predict_19 ⟨Nat.le_of_ble_eq_true rfl, Nat.le_of_ble_eq_true rfl⟩) hS hFc (fun H locs hp9 hz1 hk1 hS => ?_)
    have hP1 := hp9
    obtain ⟨hP, hD⟩ := jn (wr := [(mo, .inr (6, [.ref ms, .ref mp, .int (nI np), .ref me, .ref mn, .long iv, .long lg, .long fg, .long hv])), (ms, .inl (g 0, 71, .inl f)), (mp, .inl (g 0, 284, .inl pa)), (me, .inl (g 0, 3, .inl ef))]) (w1 := [(mn, .inl (g 1, 5, .inr (.inl (e64 (eR f)))))]) hP hD [4] [0, 1, 2, 3] rfl rfl (by decide) (by decide) hk1 hFc hP1 (d1 (Or.inl (by simp)))
    have hP : va_P D vwCl [(mo, .inr (6, [.ref ms, .ref mp, .int (nI np), .ref me, .ref mn, .long iv, .long lg, .long fg, .long hv])), (ms, .inl (g 0, 71, .inl f)), (mp, .inl (g 0, 284, .inl pa)), (me, .inl (g 0, 3, .inl ef)), (mn, .inl (g 1, 5, .inr (.inl (e64 (eR f)))))] H := hP
    have hD : va_D (Aw [mo, ms, mp, me, mn] s.heap.size) [(mo, .inr (6, [.ref ms, .ref mp, .int (nI np), .ref me, .ref mn, .long iv, .long lg, .long fg, .long hv])), (ms, .inl (g 0, 71, .inl f)), (mp, .inl (g 0, 284, .inl pa)), (me, .inl (g 0, 3, .inl ef)), (mn, .inl (g 1, 5, .inr (.inl (e64 (eR f)))))] := hD
    refine lv_aload_n (pc := 22) hx hb dX6_predict_22 rfl (lv_at hl 0 rfl) ?_
    refine lv_iload_n (pc := 23) hx hb dX6_predict_23 rfl (lv_at hl 1 rfl) ?_
    refine lv_aload_n (pc := 24) hx hb dX6_predict_24 rfl (lv_at hl 0 rfl) ?_
    refine va_get (pc := 25) (D := D) (ci := 6) (v := .ref ms) (C := RX6) (T := TX6) (N := 9) hx hb hts in_X6 hown hK.1 hP 0 rfl rfl 0 (by decide) (hts _ q574) (fun _ h9 => h9) rfl dX6_predict_25 ?_
    refine lv_bipush (pc := 28) (v := 6) hx hb dX6_predict_28 (by decide) ?_
    refine ia_ld (pc := 30) hx hb hK.1 hP 1 0 6 rfl rfl (nl 6) (Nat.le_of_ble_eq_true rfl) (Nat.le_of_ble_eq_true rfl) dX6_predict_30 ?_
    have hFc := awF (Lc := [mn]) hD hS hA [4] rfl
    refine kI (pc := 31) (va_runV (As := [.int i, .int (f 6)]) (rest := []) ⟨hx, hb, hml, hown, hts⟩ (m6_predicts l mo ms mp me mn np iv lg fg hv f (eR f) i (f 6) H (hP.sub (ws' := [(mn, .inl (g 1, 5, .inr (.inl (e64 (eR f)))))]) [4] rfl) (hP.sub (ws' := [(mo, .inr (6, [.ref ms, .ref mp, .int (nI np), .ref me, .ref mn, .long iv, .long lg, .long fg, .long hv]))]) [0] rfl) (ninW hD 0 [4] rfl rfl (by decide)) (hP.sub (ws' := [(ms, .inl (g 0, 71, .inl f))]) [1] rfl) (ninW hD 1 [4] rfl rfl (by decide))) (cwV 2 hts (lw_V q646 q648 qs11 q28 q649) rfl rfl rfl (by decide +kernel) ⟨Nat.le_of_ble_eq_true rfl, Nat.le_of_ble_eq_true rfl⟩) (preV hK (rcv hK hP 0 rfl rfl)) rfl rfl hl.1 rfl (lv_room (Nat.le_of_ble_eq_true rfl)) dX6_predict_31 ⟨Nat.le_of_ble_eq_true rfl, Nat.le_of_ble_eq_true rfl⟩) hS hFc (fun r4 H locs hp9 hz1 hk1 hS => ?_)
    rcases hp9 with ⟨hok, hr9, hP1⟩ | ⟨hnok, hr9, hP1⟩
    · subst hr9
      obtain ⟨hP, hD⟩ := jn (wr := [(mo, .inr (6, [.ref ms, .ref mp, .int (nI np), .ref me, .ref mn, .long iv, .long lg, .long fg, .long hv])), (ms, .inl (g 0, 71, .inl f)), (mp, .inl (g 0, 284, .inl pa)), (me, .inl (g 0, 3, .inl ef))]) (w1 := [(mn, .inl (g 1, 5, .inr (.inl (e64 (pE (eR f) i (f 5) (f 6))))))]) hP hD [4] [0, 1, 2, 3] rfl rfl (by decide) (by decide) hk1 hFc hP1 (d1 (Or.inl (by simp)))
      have hP : va_P D vwCl [(mo, .inr (6, [.ref ms, .ref mp, .int (nI np), .ref me, .ref mn, .long iv, .long lg, .long fg, .long hv])), (ms, .inl (g 0, 71, .inl f)), (mp, .inl (g 0, 284, .inl pa)), (me, .inl (g 0, 3, .inl ef)), (mn, .inl (g 1, 5, .inr (.inl (e64 (pE (eR f) i (f 5) (f 6))))))] H := hP
      have hD : va_D (Aw [mo, ms, mp, me, mn] s.heap.size) [(mo, .inr (6, [.ref ms, .ref mp, .int (nI np), .ref me, .ref mn, .long iv, .long lg, .long fg, .long hv])), (ms, .inl (g 0, 71, .inl f)), (mp, .inl (g 0, 284, .inl pa)), (me, .inl (g 0, 3, .inl ef)), (mn, .inl (g 1, 5, .inr (.inl (e64 (pE (eR f) i (f 5) (f 6))))))] := hD
      refine lv_if_ne (pc := 34) (tgt := 44) hx hb dX6_predict_34 (by decide) (fun cd5 => ?_) (fun cd5 => absurd cd5 (by decide))
      refine lv_aload_n (pc := 44) hx hb dX6_predict_44 rfl (lv_at hl 0 rfl) ?_
      have hFc := awF (Lc := [mo, mp]) hD hS hA [0, 2] rfl
      refine kV (pc := 45) (va_runV (As := []) (rest := []) ⟨hx, hb, hml, hown, hts⟩ (m6_note l mo ms mp me mn np iv lg fg hv f pa H (hP.sub (ws' := [(mo, .inr (6, [.ref ms, .ref mp, .int (nI np), .ref me, .ref mn, .long iv, .long lg, .long fg, .long hv])), (mp, .inl (g 0, 284, .inl pa))]) [0, 2] rfl) (nodupW hD [0, 2] rfl (by decide)) (hP.sub (ws' := [(ms, .inl (g 0, 71, .inl f))]) [1] rfl) (ninW hD 1 [0, 2] rfl rfl (by decide)) hnp) (cwV 0 hts (lw_V q619 q621 qs9 q28 q622) rfl rfl rfl (by decide +kernel) ⟨Nat.le_of_ble_eq_true rfl, Nat.le_of_ble_eq_true rfl⟩) (preV hK (rcv hK hP 0 rfl rfl)) rfl rfl hl.1 rfl (lv_room (Nat.le_of_ble_eq_true rfl)) dX6_predict_45 ⟨Nat.le_of_ble_eq_true rfl, Nat.le_of_ble_eq_true rfl⟩) hS hFc (fun H locs hp9 hz1 hk1 hS => ?_)
      have hP1 := hp9
      obtain ⟨hP, hD⟩ := jn (wr := [(ms, .inl (g 0, 71, .inl f)), (me, .inl (g 0, 3, .inl ef)), (mn, .inl (g 1, 5, .inr (.inl (e64 (pE (eR f) i (f 5) (f 6))))))]) (w1 := [(mo, .inr (6, [.ref ms, .ref mp, .int (nI (addK 4 np)), .ref me, .ref mn, .long iv, .long lg, .long fg, .long hv])), (mp, .inl (g 0, 284, .inl (ntF np pa f)))]) hP hD [0, 2] [1, 3, 4] rfl rfl (by decide) (by decide) hk1 hFc hP1 (dOf (nodupW hD [0, 2] rfl (by decide)) (fun q h => Or.inl h))
      have hP : va_P D vwCl [(ms, .inl (g 0, 71, .inl f)), (me, .inl (g 0, 3, .inl ef)), (mn, .inl (g 1, 5, .inr (.inl (e64 (pE (eR f) i (f 5) (f 6)))))), (mo, .inr (6, [.ref ms, .ref mp, .int (nI (addK 4 np)), .ref me, .ref mn, .long iv, .long lg, .long fg, .long hv])), (mp, .inl (g 0, 284, .inl (ntF np pa f)))] H := hP
      have hD : va_D (Aw [mo, ms, mp, me, mn] s.heap.size) [(ms, .inl (g 0, 71, .inl f)), (me, .inl (g 0, 3, .inl ef)), (mn, .inl (g 1, 5, .inr (.inl (e64 (pE (eR f) i (f 5) (f 6)))))), (mo, .inr (6, [.ref ms, .ref mp, .int (nI (addK 4 np)), .ref me, .ref mn, .long iv, .long lg, .long fg, .long hv])), (mp, .inl (g 0, 284, .inl (ntF np pa f)))] := hD
      refine lv_aload_n (pc := 48) hx hb dX6_predict_48 rfl (lv_at hl 0 rfl) ?_
      have hFc := awF (Lc := [ms]) hD hS hA [0] rfl
      refine kV (pc := 49) (va_runV (As := []) (rest := []) ⟨hx, hb, hml, hown, hts⟩ (m6_put l mo ms mp me mn (addK 4 np) iv lg fg hv f (pE (eR f) i (f 5) (f 6)) H (hP.sub (ws' := [(ms, .inl (g 0, 71, .inl f))]) [0] rfl) (hP.sub (ws' := [(mo, .inr (6, [.ref ms, .ref mp, .int (nI (addK 4 np)), .ref me, .ref mn, .long iv, .long lg, .long fg, .long hv]))]) [3] rfl) (ninW hD 3 [0] rfl rfl (by decide)) (hP.sub (ws' := [(mn, .inl (g 1, 5, .inr (.inl (e64 (pE (eR f) i (f 5) (f 6))))))]) [2] rfl) (ninW hD 2 [0] rfl rfl (by decide))) (cwV 0 hts (lw_V q657 q659 qs12 q28 q660) rfl rfl rfl (by decide +kernel) ⟨Nat.le_of_ble_eq_true rfl, Nat.le_of_ble_eq_true rfl⟩) (preV hK (rcv hK hP 3 rfl rfl)) rfl rfl hl.1 rfl (lv_room (Nat.le_of_ble_eq_true rfl)) dX6_predict_49 ⟨Nat.le_of_ble_eq_true rfl, Nat.le_of_ble_eq_true rfl⟩) hS hFc (fun H locs hp9 hz1 hk1 hS => ?_)
      have hP1 := hp9
      obtain ⟨hP, hD⟩ := jn (wr := [(me, .inl (g 0, 3, .inl ef)), (mn, .inl (g 1, 5, .inr (.inl (e64 (pE (eR f) i (f 5) (f 6)))))), (mo, .inr (6, [.ref ms, .ref mp, .int (nI (addK 4 np)), .ref me, .ref mn, .long iv, .long lg, .long fg, .long hv])), (mp, .inl (g 0, 284, .inl (ntF np pa f)))]) (w1 := [(ms, .inl (g 0, 71, .inl (p5F f (pE (eR f) i (f 5) (f 6)) 5)))]) hP hD [0] [1, 2, 3, 4] rfl rfl (by decide) (by decide) hk1 hFc hP1 (d1 (Or.inl (by simp)))
      have hP : va_P D vwCl [(me, .inl (g 0, 3, .inl ef)), (mn, .inl (g 1, 5, .inr (.inl (e64 (pE (eR f) i (f 5) (f 6)))))), (mo, .inr (6, [.ref ms, .ref mp, .int (nI (addK 4 np)), .ref me, .ref mn, .long iv, .long lg, .long fg, .long hv])), (mp, .inl (g 0, 284, .inl (ntF np pa f))), (ms, .inl (g 0, 71, .inl (p5F f (pE (eR f) i (f 5) (f 6)) 5)))] H := hP
      have hD : va_D (Aw [mo, ms, mp, me, mn] s.heap.size) [(me, .inl (g 0, 3, .inl ef)), (mn, .inl (g 1, 5, .inr (.inl (e64 (pE (eR f) i (f 5) (f 6)))))), (mo, .inr (6, [.ref ms, .ref mp, .int (nI (addK 4 np)), .ref me, .ref mn, .long iv, .long lg, .long fg, .long hv])), (mp, .inl (g 0, 284, .inl (ntF np pa f))), (ms, .inl (g 0, 71, .inl (p5F f (pE (eR f) i (f 5) (f 6)) 5)))] := hD
      refine lv_aload_n (pc := 52) hx hb dX6_predict_52 rfl (lv_at hl 0 rfl) ?_
      refine lv_iconst (pc := 53) (v := (-1)) hx hb dX6_predict_53 (by decide) ?_
      refine lv_iload_n (pc := 54) hx hb dX6_predict_54 rfl (lv_at hl 1 rfl) ?_
      have hFc := awF (Lc := [ms]) hD hS hA [4] rfl
      refine kV (pc := 55) (va_runV (As := [.int (-1), .int i]) (rest := []) ⟨hx, hb, hml, hown, hts⟩ (m6_record l mo ms mp me mn (addK 4 np) iv lg fg hv k (p5F f (pE (eR f) i (f 5) (f 6)) 5) (-1) i H (hP.sub (ws' := [(ms, .inl (g 0, 71, .inl (p5F f (pE (eR f) i (f 5) (f 6)) 5)))]) [4] rfl) (hP.sub (ws' := [(mo, .inr (6, [.ref ms, .ref mp, .int (nI (addK 4 np)), .ref me, .ref mn, .long iv, .long lg, .long fg, .long hv]))]) [2] rfl) (ninW hD 2 [4] rfl rfl (by decide)) hk ((p5_hi (by decide)).trans hkf)) (cwV 2 hts (lw_V q661 q663 qs13 q28 q664) rfl rfl rfl (by decide +kernel) ⟨Nat.le_of_ble_eq_true rfl, Nat.le_of_ble_eq_true rfl⟩) (preV hK (rcv hK hP 2 rfl rfl)) rfl rfl hl.1 rfl (lv_room (Nat.le_of_ble_eq_true rfl)) dX6_predict_55 ⟨Nat.le_of_ble_eq_true rfl, Nat.le_of_ble_eq_true rfl⟩) hS hFc (fun H locs hp9 hz1 hk1 hS => ?_)
      have hP1 := hp9
      obtain ⟨hP, hD⟩ := jn (wr := [(me, .inl (g 0, 3, .inl ef)), (mn, .inl (g 1, 5, .inr (.inl (e64 (pE (eR f) i (f 5) (f 6)))))), (mo, .inr (6, [.ref ms, .ref mp, .int (nI (addK 4 np)), .ref me, .ref mn, .long iv, .long lg, .long fg, .long hv])), (mp, .inl (g 0, 284, .inl (ntF np pa f)))]) (w1 := [(ms, .inl (g 0, 71, .inl (rcF (p5F f (pE (eR f) i (f 5) (f 6)) 5) k (-1) i)))]) hP hD [4] [0, 1, 2, 3] rfl rfl (by decide) (by decide) hk1 hFc hP1 (d1 (Or.inl (by simp)))
      have hP : va_P D vwCl [(me, .inl (g 0, 3, .inl ef)), (mn, .inl (g 1, 5, .inr (.inl (e64 (pE (eR f) i (f 5) (f 6)))))), (mo, .inr (6, [.ref ms, .ref mp, .int (nI (addK 4 np)), .ref me, .ref mn, .long iv, .long lg, .long fg, .long hv])), (mp, .inl (g 0, 284, .inl (ntF np pa f))), (ms, .inl (g 0, 71, .inl (rcF (p5F f (pE (eR f) i (f 5) (f 6)) 5) k (-1) i)))] H := hP
      have hD : va_D (Aw [mo, ms, mp, me, mn] s.heap.size) [(me, .inl (g 0, 3, .inl ef)), (mn, .inl (g 1, 5, .inr (.inl (e64 (pE (eR f) i (f 5) (f 6)))))), (mo, .inr (6, [.ref ms, .ref mp, .int (nI (addK 4 np)), .ref me, .ref mn, .long iv, .long lg, .long fg, .long hv])), (mp, .inl (g 0, 284, .inl (ntF np pa f))), (ms, .inl (g 0, 71, .inl (rcF (p5F f (pE (eR f) i (f 5) (f 6)) 5) k (-1) i)))] := hD
      refine lv_aload_n (pc := 58) hx hb dX6_predict_58 rfl (lv_at hl 0 rfl) ?_
      refine va_get (pc := 59) (D := D) (ci := 6) (v := .ref ms) (C := RX6) (T := TX6) (N := 9) hx hb hts in_X6 hown hK.1 hP 2 rfl rfl 0 (by decide) (hts _ q574) (fun _ h9 => h9) rfl dX6_predict_59 ?_
      refine lv_iconst (pc := 62) (v := 0) hx hb dX6_predict_62 (by decide) ?_
      refine ia_ld (pc := 63) hx hb hK.1 hP 4 0 0 rfl rfl (nl 0) (Nat.le_of_ble_eq_true rfl) (Nat.le_of_ble_eq_true rfl) dX6_predict_63 ?_
      have hq9 : (fun r H1 => (inR (-4096000) 4096000 i ∧ pOK (e64 (eR f)) i.toInt64 (f 5).toInt64 (f 6).toInt64 ∧ r = pE (eR f) i (f 5) (f 6) 0 ∧ MDI D g H1 mo ms mp me mn (addK 4 np) ef (prF f i) (ntF np pa f)) ∨ (inR (-4096000) 4096000 i ∧ ¬ (pOK (e64 (eR f)) i.toInt64 (f 5).toInt64 (f 6).toInt64) ∧ r = -2000000004 ∧ MDI D g H1 mo ms mp me mn np (upd ef 2 (ef 2 + 1)) f pa) ∨ (¬ (inR (-4096000) 4096000 i) ∧ r = -2000000002 ∧ MDI D g H1 mo ms mp me mn np (upd ef 0 (ef 0 + 1)) f pa) : Int32 → Heap → Prop) ((rcF (p5F f (pE (eR f) i (f 5) (f 6)) 5) k (-1) i) 0) H := Or.inl ⟨hck8, hok, (rcF_lo (by decide)).trans (p5_lo (by decide)), MDI.to (f := (rcF (p5F f (pE (eR f) i (f 5) (f 6)) 5) k (-1) i)) ⟨_, _, _, _, _, hP.sub [2, 4, 3, 0, 1] rfl⟩ (fun j hj => congrFun (pr_eq hk hkf) j)⟩
      exact W.iret (v := (rcF (p5F f (pE (eR f) i (f 5) (f 6)) 5) k (-1) i) 0) hx hb hr (fun t ht hW => ⟨⟨_, rfl, by rw [ht]; exact hq9⟩, hS.F ht⟩) hS.2.2 dX6_predict_64
    · subst hr9
      obtain ⟨hP, hD⟩ := jn (wr := [(mo, .inr (6, [.ref ms, .ref mp, .int (nI np), .ref me, .ref mn, .long iv, .long lg, .long fg, .long hv])), (ms, .inl (g 0, 71, .inl f)), (mp, .inl (g 0, 284, .inl pa)), (me, .inl (g 0, 3, .inl ef))]) (w1 := [(mn, .inl (g 1, 5, .inr (.inl (e64 (eR f)))))]) hP hD [4] [0, 1, 2, 3] rfl rfl (by decide) (by decide) hk1 hFc hP1 (d1 (Or.inl (by simp)))
      have hP : va_P D vwCl [(mo, .inr (6, [.ref ms, .ref mp, .int (nI np), .ref me, .ref mn, .long iv, .long lg, .long fg, .long hv])), (ms, .inl (g 0, 71, .inl f)), (mp, .inl (g 0, 284, .inl pa)), (me, .inl (g 0, 3, .inl ef)), (mn, .inl (g 1, 5, .inr (.inl (e64 (eR f)))))] H := hP
      have hD : va_D (Aw [mo, ms, mp, me, mn] s.heap.size) [(mo, .inr (6, [.ref ms, .ref mp, .int (nI np), .ref me, .ref mn, .long iv, .long lg, .long fg, .long hv])), (ms, .inl (g 0, 71, .inl f)), (mp, .inl (g 0, 284, .inl pa)), (me, .inl (g 0, 3, .inl ef)), (mn, .inl (g 1, 5, .inr (.inl (e64 (eR f)))))] := hD
      refine lv_if_ne (pc := 34) (tgt := 44) hx hb dX6_predict_34 (by decide) (fun cd9 => absurd cd9 (by decide)) (fun cd9 => ?_)
      refine lv_aload_n (pc := 37) hx hb dX6_predict_37 rfl (lv_at hl 0 rfl) ?_
      refine lv_ldc (pc := 38) (v := (-2000000004)) hx hb hown (hts _ q656) dX6_predict_38 ?_
      have hFc := awF (Lc := [me]) hD hS hA [3] rfl
      refine kI (pc := 40) (va_runV (As := [.int (-2000000004)]) (rest := []) ⟨hx, hb, hml, hown, hts⟩ (m6_fail l mo ms mp me mn np iv lg fg hv 2 ef (-2000000004) H (hP.sub (ws' := [(me, .inl (g 0, 3, .inl ef))]) [3] rfl) (hP.sub (ws' := [(mo, .inr (6, [.ref ms, .ref mp, .int (nI np), .ref me, .ref mn, .long iv, .long lg, .long fg, .long hv]))]) [0] rfl) (ninW hD 0 [3] rfl rfl (by decide)) (by decide) (by decide)) (cwV 1 hts (lw_V q615 q617 qs8 q28 q618) rfl rfl rfl (by decide +kernel) ⟨Nat.le_of_ble_eq_true rfl, Nat.le_of_ble_eq_true rfl⟩) (preV hK (rcv hK hP 0 rfl rfl)) rfl rfl hl.1 rfl (lv_room (Nat.le_of_ble_eq_true rfl)) dX6_predict_40 ⟨Nat.le_of_ble_eq_true rfl, Nat.le_of_ble_eq_true rfl⟩) hS hFc (fun r10 H locs hp9 hz1 hk1 hS => ?_)
      obtain ⟨hrc, hP1⟩ := hp9
      obtain ⟨hP, hD⟩ := jn (wr := [(mo, .inr (6, [.ref ms, .ref mp, .int (nI np), .ref me, .ref mn, .long iv, .long lg, .long fg, .long hv])), (ms, .inl (g 0, 71, .inl f)), (mp, .inl (g 0, 284, .inl pa)), (mn, .inl (g 1, 5, .inr (.inl (e64 (eR f)))))]) (w1 := [(me, .inl (g 0, 3, .inl (upd ef 2 (ef 2 + 1))))]) hP hD [3] [0, 1, 2, 4] rfl rfl (by decide) (by decide) hk1 hFc hP1 (d1 (Or.inl (by simp)))
      have hP : va_P D vwCl [(mo, .inr (6, [.ref ms, .ref mp, .int (nI np), .ref me, .ref mn, .long iv, .long lg, .long fg, .long hv])), (ms, .inl (g 0, 71, .inl f)), (mp, .inl (g 0, 284, .inl pa)), (mn, .inl (g 1, 5, .inr (.inl (e64 (eR f))))), (me, .inl (g 0, 3, .inl (upd ef 2 (ef 2 + 1))))] H := hP
      have hD : va_D (Aw [mo, ms, mp, me, mn] s.heap.size) [(mo, .inr (6, [.ref ms, .ref mp, .int (nI np), .ref me, .ref mn, .long iv, .long lg, .long fg, .long hv])), (ms, .inl (g 0, 71, .inl f)), (mp, .inl (g 0, 284, .inl pa)), (mn, .inl (g 1, 5, .inr (.inl (e64 (eR f))))), (me, .inl (g 0, 3, .inl (upd ef 2 (ef 2 + 1))))] := hD
      have hq9 : (fun r H1 => (inR (-4096000) 4096000 i ∧ pOK (e64 (eR f)) i.toInt64 (f 5).toInt64 (f 6).toInt64 ∧ r = pE (eR f) i (f 5) (f 6) 0 ∧ MDI D g H1 mo ms mp me mn (addK 4 np) ef (prF f i) (ntF np pa f)) ∨ (inR (-4096000) 4096000 i ∧ ¬ (pOK (e64 (eR f)) i.toInt64 (f 5).toInt64 (f 6).toInt64) ∧ r = -2000000004 ∧ MDI D g H1 mo ms mp me mn np (upd ef 2 (ef 2 + 1)) f pa) ∨ (¬ (inR (-4096000) 4096000 i) ∧ r = -2000000002 ∧ MDI D g H1 mo ms mp me mn np (upd ef 0 (ef 0 + 1)) f pa) : Int32 → Heap → Prop) r10 H := Or.inr (Or.inl ⟨hck8, hnok, hrc, ⟨_, _, _, _, _, hP.sub [0, 1, 2, 4, 3] rfl⟩⟩)
      exact W.iret (v := r10) hx hb hr (fun t ht hW => ⟨⟨_, rfl, by rw [ht]; exact hq9⟩, hS.F ht⟩) hS.2.2 dX6_predict_43
  · have hnk : ¬ (inR (-4096000) 4096000 i) := fun h => (bI_eq (hr1.symm.trans cd2)) h
    refine lv_aload_n (pc := 11) hx hb dX6_predict_11 rfl (lv_at hl 0 rfl) ?_
    refine lv_ldc (pc := 12) (v := (-2000000002)) hx hb hown (hts _ q614) dX6_predict_12 ?_
    have hFc := awF (Lc := [me]) hD hS hA [3] rfl
    refine kI (pc := 14) (va_runV (As := [.int (-2000000002)]) (rest := []) ⟨hx, hb, hml, hown, hts⟩ (m6_fail l mo ms mp me mn np iv lg fg hv 0 ef (-2000000002) s.heap (hP.sub (ws' := [(me, .inl (g 0, 3, .inl ef))]) [3] rfl) (hP.sub (ws' := [(mo, .inr (6, [.ref ms, .ref mp, .int (nI np), .ref me, .ref mn, .long iv, .long lg, .long fg, .long hv]))]) [0] rfl) (ninW hD 0 [3] rfl rfl (by decide)) (by decide) (by decide)) (cwV 1 hts (lw_V q615 q617 qs8 q28 q618) rfl rfl rfl (by decide +kernel) ⟨Nat.le_of_ble_eq_true rfl, Nat.le_of_ble_eq_true rfl⟩) (preV hK (rcv hK hP 0 rfl rfl)) rfl rfl hl.1 rfl (lv_room (Nat.le_of_ble_eq_true rfl)) dX6_predict_14 ⟨Nat.le_of_ble_eq_true rfl, Nat.le_of_ble_eq_true rfl⟩) hS hFc (fun r11 H locs hp9 hz1 hk1 hS => ?_)
    obtain ⟨hrc, hP1⟩ := hp9
    obtain ⟨hP, hD⟩ := jn (wr := [(mo, .inr (6, [.ref ms, .ref mp, .int (nI np), .ref me, .ref mn, .long iv, .long lg, .long fg, .long hv])), (ms, .inl (g 0, 71, .inl f)), (mp, .inl (g 0, 284, .inl pa)), (mn, .inl (g 1, 5, .inr (.inl nw)))]) (w1 := [(me, .inl (g 0, 3, .inl (upd ef 0 (ef 0 + 1))))]) hP hD [3] [0, 1, 2, 4] rfl rfl (by decide) (by decide) hk1 hFc hP1 (d1 (Or.inl (by simp)))
    have hP : va_P D vwCl [(mo, .inr (6, [.ref ms, .ref mp, .int (nI np), .ref me, .ref mn, .long iv, .long lg, .long fg, .long hv])), (ms, .inl (g 0, 71, .inl f)), (mp, .inl (g 0, 284, .inl pa)), (mn, .inl (g 1, 5, .inr (.inl nw))), (me, .inl (g 0, 3, .inl (upd ef 0 (ef 0 + 1))))] H := hP
    have hD : va_D (Aw [mo, ms, mp, me, mn] s.heap.size) [(mo, .inr (6, [.ref ms, .ref mp, .int (nI np), .ref me, .ref mn, .long iv, .long lg, .long fg, .long hv])), (ms, .inl (g 0, 71, .inl f)), (mp, .inl (g 0, 284, .inl pa)), (mn, .inl (g 1, 5, .inr (.inl nw))), (me, .inl (g 0, 3, .inl (upd ef 0 (ef 0 + 1))))] := hD
    have hq9 : (fun r H1 => (inR (-4096000) 4096000 i ∧ pOK (e64 (eR f)) i.toInt64 (f 5).toInt64 (f 6).toInt64 ∧ r = pE (eR f) i (f 5) (f 6) 0 ∧ MDI D g H1 mo ms mp me mn (addK 4 np) ef (prF f i) (ntF np pa f)) ∨ (inR (-4096000) 4096000 i ∧ ¬ (pOK (e64 (eR f)) i.toInt64 (f 5).toInt64 (f 6).toInt64) ∧ r = -2000000004 ∧ MDI D g H1 mo ms mp me mn np (upd ef 2 (ef 2 + 1)) f pa) ∨ (¬ (inR (-4096000) 4096000 i) ∧ r = -2000000002 ∧ MDI D g H1 mo ms mp me mn np (upd ef 0 (ef 0 + 1)) f pa) : Int32 → Heap → Prop) r11 H := Or.inr (Or.inr ⟨hnk, hrc, ⟨_, _, _, _, _, hP.sub [0, 1, 2, 4, 3] rfl⟩⟩)
    exact W.iret (v := r11) hx hb hr (fun t ht hW => ⟨⟨_, rfl, by rw [ht]; exact hq9⟩, hS.F ht⟩) hS.2.2 dX6_predict_17

abbrev rm_m6_correct : Room := ({ frames := 3, cells := 0, slots := 0, locals := 91 })
set_option maxHeartbeats 4000000 in
set_option maxRecDepth 100000 in
theorem m6_correct (l : Launch) {D : va_G} {g : Nat → ClassId} (mo ms mp me mn np : Nat) (iv lg fg hv : Int64) (ef f pa : Nat → Int32) (nw : Nat → Int64) (sx rv : Int32) (H : Heap) (hP : va_P D vwCl [(mo, .inr (6, [.ref ms, .ref mp, .int (nI np), .ref me, .ref mn, .long iv, .long lg, .long fg, .long hv])), (ms, .inl (g 0, 71, .inl f)), (mp, .inl (g 0, 284, .inl pa)), (me, .inl (g 0, 3, .inl ef)), (mn, .inl (g 1, 5, .inr (.inl nw)))] H) (hN : [mo, ms, mp, me, mn].Nodup) (hnp : np ≤ 4) (hro : RowOK f) : Met l yX6_correct (ws_ yX6_correct cX6_correct 4 (some .int)) rm_m6_correct (va_Pc [.ref mo, .int sx, .int rv] (PH D g H)) (QI (fun r H1 => ((inR 0 3 sx ∧ inR (-40960000) 40960000 rv) ∧ cRej (e64 (eR f)) (f (8 + sx.toNatClampNeg)) (f (12 + sx.toNatClampNeg)).toInt64 rv.toInt64 (f 7) ∧ r = 0 ∧ MDI D g H1 mo ms mp me mn (addK 4 np) ef (rjF f sx rv) (ntF np pa f)) ∨ ((inR 0 3 sx ∧ inR (-40960000) 40960000 rv) ∧ ¬ cRej (e64 (eR f)) (f (8 + sx.toNatClampNeg)) (f (12 + sx.toNatClampNeg)).toInt64 rv.toInt64 (f 7) ∧ cOK (e64 (eR f)) (f (8 + sx.toNatClampNeg)) (f (12 + sx.toNatClampNeg)).toInt64 rv.toInt64 ∧ r = 1 ∧ MDI D g H1 mo ms mp me mn (addK 4 np) ef (acF f sx rv) (ntF np pa f)) ∨ ((inR 0 3 sx ∧ inR (-40960000) 40960000 rv) ∧ ¬ cRej (e64 (eR f)) (f (8 + sx.toNatClampNeg)) (f (12 + sx.toNatClampNeg)).toInt64 rv.toInt64 (f 7) ∧ ¬ cOK (e64 (eR f)) (f (8 + sx.toNatClampNeg)) (f (12 + sx.toNatClampNeg)).toInt64 rv.toInt64 ∧ r = -2000000004 ∧ MDI D g H1 mo ms mp me mn np (upd ef 2 (ef 2 + 1)) f pa) ∨ (¬ (inR 0 3 sx ∧ inR (-40960000) 40960000 rv) ∧ r = -2000000002 ∧ MDI D g H1 mo ms mp me mn np (upd ef 0 (ef 0 + 1)) f pa)) (Aw [mo, ms, mp, me, mn] H.size)) 0 0 (Aw [mo, ms, mp, me, mn] H.size) := by
  refine Met.ofW (cc := cX6_correct) (maxL := 4) (ret := (some .int)) (by decide) rfl ?_
  intro p e s m args below meth c s₁ B hml hv
  obtain ⟨rfl, hH, hK⟩ := hv
  subst hH
  have hx := B.exec
  have hb := B.bytes
  have hr := B.returns
  have hts := atoms_spec (ws := ws_ yX6_correct cX6_correct 4 (some .int)) B.pre
  have hts : ∀ w ∈ lw_all, w.before _ s = true := fun w h => hts w (List.mem_cons_of_mem _ h)
  have hown : s.vm.findClass RX6 = some m.cls := findClass_of_methodNamed B.named
  have hlocks := B.notSynchronized
  have hA : ∀ q, s.heap.size ≤ q → (Aw [mo, ms, mp, me, mn] s.heap.size) q := fun q h => Or.inr h
  have hS : va_S (Aw [mo, ms, mp, me, mn] s.heap.size) s.heap s.heap [] := va_S.rf
  have hD : va_D (Aw [mo, ms, mp, me, mn] s.heap.size) [(mo, .inr (6, [.ref ms, .ref mp, .int (nI np), .ref me, .ref mn, .long iv, .long lg, .long fg, .long hv])), (ms, .inl (g 0, 71, .inl f)), (mp, .inl (g 0, 284, .inl pa)), (me, .inl (g 0, 3, .inl ef)), (mn, .inl (g 1, 5, .inr (.inl nw)))] := dOf hN (fun q h => Or.inl h)
  have hl := lv_entry ([.ref mo, .int sx, .int rv]) (n := 4) (Nat.le_of_ble_eq_true rfl)
  rw [lg_entry_eq]
  generalize (lg_sl ([.ref mo, .int sx, .int rv]) ++ List.replicate (4 - (lg_sl ([.ref mo, .int sx, .int rv])).length) Slot.unset).toArray = ls at hl ⊢
  have hl : lv_has ls 4 [(0, .ref mo), (1, .int sx), (2, .int rv)] := hl
  obtain ⟨k, hk, hkf, hev9⟩ := hro.2.2.2.2.2
  refine lv_iload_n (pc := 0) hx hb dX6_correct_0 rfl (lv_at hl 1 rfl) ?_
  refine kIp (pc := 1) (va_runS (As := [.int sx]) (rest := []) ⟨hx, hb, hml, hown, hts⟩ (m6_isSensor l sx s.heap) (va_cwS 1 hts (lw_S q631 q632 q28 q633) rfl rfl rfl (by decide +kernel) ⟨Nat.le_of_ble_eq_true rfl, Nat.le_of_ble_eq_true rfl⟩) (preS hK) rfl rfl hl.1 rfl (lv_room (Nat.le_of_ble_eq_true rfl)) dX6_correct_1 ⟨Nat.le_of_ble_eq_true rfl, Nat.le_of_ble_eq_true rfl⟩) (fun r1 hr1 => ?_)
  refine lv_if_eq (pc := 4) (tgt := 18) hx hb dX6_correct_4 (by decide) (fun cd2 => ?_) (fun cd2 => ?_)
  · have hnk : ¬ (inR 0 3 sx ∧ inR (-40960000) 40960000 rv) := fun h => (bI_eq (hr1.symm.trans cd2)) h.1
    refine lv_aload_n (pc := 18) hx hb dX6_correct_18 rfl (lv_at hl 0 rfl) ?_
    refine lv_ldc (pc := 19) (v := (-2000000002)) hx hb hown (hts _ q614) dX6_correct_19 ?_
    have hFc := awF (Lc := [me]) hD hS hA [3] rfl
    refine kI (pc := 21) (va_runV (As := [.int (-2000000002)]) (rest := []) ⟨hx, hb, hml, hown, hts⟩ (m6_fail l mo ms mp me mn np iv lg fg hv 0 ef (-2000000002) s.heap (hP.sub (ws' := [(me, .inl (g 0, 3, .inl ef))]) [3] rfl) (hP.sub (ws' := [(mo, .inr (6, [.ref ms, .ref mp, .int (nI np), .ref me, .ref mn, .long iv, .long lg, .long fg, .long hv]))]) [0] rfl) (ninW hD 0 [3] rfl rfl (by decide)) (by decide) (by decide)) (cwV 1 hts (lw_V q615 q617 qs8 q28 q618) rfl rfl rfl (by decide +kernel) ⟨Nat.le_of_ble_eq_true rfl, Nat.le_of_ble_eq_true rfl⟩) (preV hK (rcv hK hP 0 rfl rfl)) rfl rfl hl.1 rfl (lv_room (Nat.le_of_ble_eq_true rfl)) dX6_correct_21 ⟨Nat.le_of_ble_eq_true rfl, Nat.le_of_ble_eq_true rfl⟩) hS hFc (fun r3 H locs hp9 hz1 hk1 hS => ?_)
    obtain ⟨hrc, hP1⟩ := hp9
    obtain ⟨hP, hD⟩ := jn (wr := [(mo, .inr (6, [.ref ms, .ref mp, .int (nI np), .ref me, .ref mn, .long iv, .long lg, .long fg, .long hv])), (ms, .inl (g 0, 71, .inl f)), (mp, .inl (g 0, 284, .inl pa)), (mn, .inl (g 1, 5, .inr (.inl nw)))]) (w1 := [(me, .inl (g 0, 3, .inl (upd ef 0 (ef 0 + 1))))]) hP hD [3] [0, 1, 2, 4] rfl rfl (by decide) (by decide) hk1 hFc hP1 (d1 (Or.inl (by simp)))
    have hP : va_P D vwCl [(mo, .inr (6, [.ref ms, .ref mp, .int (nI np), .ref me, .ref mn, .long iv, .long lg, .long fg, .long hv])), (ms, .inl (g 0, 71, .inl f)), (mp, .inl (g 0, 284, .inl pa)), (mn, .inl (g 1, 5, .inr (.inl nw))), (me, .inl (g 0, 3, .inl (upd ef 0 (ef 0 + 1))))] H := hP
    have hD : va_D (Aw [mo, ms, mp, me, mn] s.heap.size) [(mo, .inr (6, [.ref ms, .ref mp, .int (nI np), .ref me, .ref mn, .long iv, .long lg, .long fg, .long hv])), (ms, .inl (g 0, 71, .inl f)), (mp, .inl (g 0, 284, .inl pa)), (mn, .inl (g 1, 5, .inr (.inl nw))), (me, .inl (g 0, 3, .inl (upd ef 0 (ef 0 + 1))))] := hD
    have hq9 : (fun r H1 => ((inR 0 3 sx ∧ inR (-40960000) 40960000 rv) ∧ cRej (e64 (eR f)) (f (8 + sx.toNatClampNeg)) (f (12 + sx.toNatClampNeg)).toInt64 rv.toInt64 (f 7) ∧ r = 0 ∧ MDI D g H1 mo ms mp me mn (addK 4 np) ef (rjF f sx rv) (ntF np pa f)) ∨ ((inR 0 3 sx ∧ inR (-40960000) 40960000 rv) ∧ ¬ cRej (e64 (eR f)) (f (8 + sx.toNatClampNeg)) (f (12 + sx.toNatClampNeg)).toInt64 rv.toInt64 (f 7) ∧ cOK (e64 (eR f)) (f (8 + sx.toNatClampNeg)) (f (12 + sx.toNatClampNeg)).toInt64 rv.toInt64 ∧ r = 1 ∧ MDI D g H1 mo ms mp me mn (addK 4 np) ef (acF f sx rv) (ntF np pa f)) ∨ ((inR 0 3 sx ∧ inR (-40960000) 40960000 rv) ∧ ¬ cRej (e64 (eR f)) (f (8 + sx.toNatClampNeg)) (f (12 + sx.toNatClampNeg)).toInt64 rv.toInt64 (f 7) ∧ ¬ cOK (e64 (eR f)) (f (8 + sx.toNatClampNeg)) (f (12 + sx.toNatClampNeg)).toInt64 rv.toInt64 ∧ r = -2000000004 ∧ MDI D g H1 mo ms mp me mn np (upd ef 2 (ef 2 + 1)) f pa) ∨ (¬ (inR 0 3 sx ∧ inR (-40960000) 40960000 rv) ∧ r = -2000000002 ∧ MDI D g H1 mo ms mp me mn np (upd ef 0 (ef 0 + 1)) f pa) : Int32 → Heap → Prop) r3 H := Or.inr (Or.inr (Or.inr ⟨hnk, hrc, ⟨_, _, _, _, _, hP.sub [0, 1, 2, 4, 3] rfl⟩⟩))
    exact W.iret (v := r3) hx hb hr (fun t ht hW => ⟨⟨_, rfl, by rw [ht]; exact hq9⟩, hS.F ht⟩) hS.2.2 dX6_correct_24
  · have hck4 : inR (0) (3) sx := bI_ne (fun e => cd2 (hr1.trans e))
    obtain ⟨se, hse3, hsx⟩ := inR_nat (n := 3) (by decide) hck4
    have hse : se < 4 := by omega
    have hcl9 : sx.toNatClampNeg = se := by rw [hsx]; exact nI_clamp (by omega)
    refine lv_iload_n (pc := 7) hx hb dX6_correct_7 rfl (lv_at hl 2 rfl) ?_
    refine lv_ldc (pc := 8) (v := (-40960000)) hx hb hown (hts _ q607) dX6_correct_8 ?_
    refine lv_ldc (pc := 10) (v := 40960000) hx hb hown (hts _ q608) dX6_correct_10 ?_
    refine kIp (pc := 12) (va_runS (As := [.int rv, .int (-40960000), .int 40960000]) (rest := []) ⟨hx, hb, hml, hown, hts⟩ (m6_in l rv (-40960000) 40960000 s.heap) (va_cwS 3 hts (lw_S q609 q610 q28 q611) rfl rfl rfl (by decide +kernel) ⟨Nat.le_of_ble_eq_true rfl, Nat.le_of_ble_eq_true rfl⟩) (preS hK) rfl rfl hl.1 rfl (lv_room (Nat.le_of_ble_eq_true rfl)) dX6_correct_12 ⟨Nat.le_of_ble_eq_true rfl, Nat.le_of_ble_eq_true rfl⟩) (fun r4 hr4 => ?_)
    refine lv_if_ne (pc := 15) (tgt := 25) hx hb dX6_correct_15 (by decide) (fun cd5 => ?_) (fun cd5 => ?_)
    · have hck15 : inR (-40960000) (40960000) rv := bI_ne (fun e => cd5 (hr4.trans e))
      refine lv_aload_n (pc := 25) hx hb dX6_correct_25 rfl (lv_at hl 0 rfl) ?_
      have hFc := awF (Lc := [mn]) hD hS hA [4] rfl
      refine kV (pc := 26) (va_runV (As := []) (rest := []) ⟨hx, hb, hml, hown, hts⟩ (m6_take l mo ms mp me mn np iv lg fg hv f nw s.heap (hP.sub (ws' := [(mn, .inl (g 1, 5, .inr (.inl nw)))]) [4] rfl) (hP.sub (ws' := [(mo, .inr (6, [.ref ms, .ref mp, .int (nI np), .ref me, .ref mn, .long iv, .long lg, .long fg, .long hv]))]) [0] rfl) (ninW hD 0 [4] rfl rfl (by decide)) (hP.sub (ws' := [(ms, .inl (g 0, 71, .inl f))]) [1] rfl) (ninW hD 1 [4] rfl rfl (by decide))) (cwV 0 hts (lw_V q642 q644 qs10 q28 q645) rfl rfl rfl (by decide +kernel) ⟨Nat.le_of_ble_eq_true rfl, Nat.le_of_ble_eq_true rfl⟩) (preV hK (rcv hK hP 0 rfl rfl)) rfl rfl hl.1 rfl (lv_room (Nat.le_of_ble_eq_true rfl)) dX6_correct_26 ⟨Nat.le_of_ble_eq_true rfl, Nat.le_of_ble_eq_true rfl⟩) hS hFc (fun H locs hp9 hz1 hk1 hS => ?_)
      have hP1 := hp9
      obtain ⟨hP, hD⟩ := jn (wr := [(mo, .inr (6, [.ref ms, .ref mp, .int (nI np), .ref me, .ref mn, .long iv, .long lg, .long fg, .long hv])), (ms, .inl (g 0, 71, .inl f)), (mp, .inl (g 0, 284, .inl pa)), (me, .inl (g 0, 3, .inl ef))]) (w1 := [(mn, .inl (g 1, 5, .inr (.inl (e64 (eR f)))))]) hP hD [4] [0, 1, 2, 3] rfl rfl (by decide) (by decide) hk1 hFc hP1 (d1 (Or.inl (by simp)))
      have hP : va_P D vwCl [(mo, .inr (6, [.ref ms, .ref mp, .int (nI np), .ref me, .ref mn, .long iv, .long lg, .long fg, .long hv])), (ms, .inl (g 0, 71, .inl f)), (mp, .inl (g 0, 284, .inl pa)), (me, .inl (g 0, 3, .inl ef)), (mn, .inl (g 1, 5, .inr (.inl (e64 (eR f)))))] H := hP
      have hD : va_D (Aw [mo, ms, mp, me, mn] s.heap.size) [(mo, .inr (6, [.ref ms, .ref mp, .int (nI np), .ref me, .ref mn, .long iv, .long lg, .long fg, .long hv])), (ms, .inl (g 0, 71, .inl f)), (mp, .inl (g 0, 284, .inl pa)), (me, .inl (g 0, 3, .inl ef)), (mn, .inl (g 1, 5, .inr (.inl (e64 (eR f)))))] := hD
      refine lv_aload_n (pc := 29) hx hb dX6_correct_29 rfl (lv_at hl 0 rfl) ?_
      refine lv_iload_n (pc := 30) hx hb dX6_correct_30 rfl (lv_at hl 1 rfl) ?_
      refine lv_iload_n (pc := 31) hx hb dX6_correct_31 rfl (lv_at hl 2 rfl) ?_
      refine lv_i2l (pc := 32) hx hb dX6_correct_32 rfl ?_
      refine lv_aload_n (pc := 33) hx hb dX6_correct_33 rfl (lv_at hl 0 rfl) ?_
      refine va_get (pc := 34) (D := D) (ci := 6) (v := .ref ms) (C := RX6) (T := TX6) (N := 9) hx hb hts in_X6 hown hK.1 hP 0 rfl rfl 0 (by decide) (hts _ q574) (fun _ h9 => h9) rfl dX6_correct_34 ?_
      refine lv_bipush (pc := 37) (v := 7) hx hb dX6_correct_37 (by decide) ?_
      refine ia_ld (pc := 39) hx hb hK.1 hP 1 0 7 rfl rfl (nl 7) (Nat.le_of_ble_eq_true rfl) (Nat.le_of_ble_eq_true rfl) dX6_correct_39 ?_
      have hFc := awF (Lc := [mo, mn]) hD hS hA [0, 4] rfl
      refine kI (pc := 40) (va_runV (As := [.int sx, .long (Int32.toInt64 rv), .int (f 7)]) (rest := []) ⟨hx, hb, hml, hown, hts⟩ (m6_corrects l mo ms mp me mn np iv lg fg hv f (eR f) se sx rv (f 7) H (hP.sub (ws' := [(mo, .inr (6, [.ref ms, .ref mp, .int (nI np), .ref me, .ref mn, .long iv, .long lg, .long fg, .long hv])), (mn, .inl (g 1, 5, .inr (.inl (e64 (eR f)))))]) [0, 4] rfl) (nodupW hD [0, 4] rfl (by decide)) (hP.sub (ws' := [(ms, .inl (g 0, 71, .inl f))]) [1] rfl) (ninW hD 1 [0, 4] rfl rfl (by decide)) hse hsx hro.1 (hro.2.2.2.2.1 se hse).2) (cwV 3 hts (lw_V q669 q671 qs14 q28 q672) rfl rfl rfl (by decide +kernel) ⟨Nat.le_of_ble_eq_true rfl, Nat.le_of_ble_eq_true rfl⟩) (preV hK (rcv hK hP 0 rfl rfl)) rfl rfl hl.1 rfl (lv_room (Nat.le_of_ble_eq_true rfl)) dX6_correct_40 ⟨Nat.le_of_ble_eq_true rfl, Nat.le_of_ble_eq_true rfl⟩) hS hFc (fun r7 H locs hp9 hz1 hk1 hS => ?_)
      rcases hp9 with ⟨hrj, hr9, hP1⟩ | ⟨hnrj, hnco, hr9, hP1⟩ | ⟨hnrj, hco, hr9, hP1⟩
      · subst hr9
        obtain ⟨hP, hD⟩ := jn (wr := [(ms, .inl (g 0, 71, .inl f)), (mp, .inl (g 0, 284, .inl pa)), (me, .inl (g 0, 3, .inl ef))]) (w1 := [(mo, .inr (6, [.ref ms, .ref mp, .int (nI np), .ref me, .ref mn, .long (cY (e64 (eR f)) (f (8 + se)) rv.toInt64), .long lg, .long fg, .long hv])), (mn, .inl (g 1, 5, .inr (.inl (e64 (eR f)))))]) hP hD [0, 4] [1, 2, 3] rfl rfl (by decide) (by decide) hk1 hFc hP1 (dOf (nodupW hD [0, 4] rfl (by decide)) (fun q h => Or.inl h))
        have hP : va_P D vwCl [(ms, .inl (g 0, 71, .inl f)), (mp, .inl (g 0, 284, .inl pa)), (me, .inl (g 0, 3, .inl ef)), (mo, .inr (6, [.ref ms, .ref mp, .int (nI np), .ref me, .ref mn, .long (cY (e64 (eR f)) (f (8 + se)) rv.toInt64), .long lg, .long fg, .long hv])), (mn, .inl (g 1, 5, .inr (.inl (e64 (eR f)))))] H := hP
        have hD : va_D (Aw [mo, ms, mp, me, mn] s.heap.size) [(ms, .inl (g 0, 71, .inl f)), (mp, .inl (g 0, 284, .inl pa)), (me, .inl (g 0, 3, .inl ef)), (mo, .inr (6, [.ref ms, .ref mp, .int (nI np), .ref me, .ref mn, .long (cY (e64 (eR f)) (f (8 + se)) rv.toInt64), .long lg, .long fg, .long hv])), (mn, .inl (g 1, 5, .inr (.inl (e64 (eR f)))))] := hD
        refine lv_istore_n (pc := 43) (lv' := [(3, .int 0), (0, .ref mo), (1, .int sx), (2, .int rv)]) hx hb dX6_correct_43 rfl hl (by decide) rfl (fun ls hl => ?_)
        refine lv_iload_n (pc := 44) hx hb dX6_correct_44 rfl (lv_at hl 0 rfl) ?_
        refine lv_if_ge (pc := 45) (tgt := 55) hx hb dX6_correct_45 (by decide) (fun cd8 => ?_) (fun cd8 => absurd cd8 (by decide))
        refine lv_aload_n (pc := 55) hx hb dX6_correct_55 rfl (lv_at hl 1 rfl) ?_
        have hFc := awF (Lc := [mo, mp]) hD hS hA [3, 1] rfl
        refine kV (pc := 56) (va_runV (As := []) (rest := []) ⟨hx, hb, hml, hown, hts⟩ (m6_note l mo ms mp me mn np (cY (e64 (eR f)) (f (8 + se)) rv.toInt64) lg fg hv f pa H (hP.sub (ws' := [(mo, .inr (6, [.ref ms, .ref mp, .int (nI np), .ref me, .ref mn, .long (cY (e64 (eR f)) (f (8 + se)) rv.toInt64), .long lg, .long fg, .long hv])), (mp, .inl (g 0, 284, .inl pa))]) [3, 1] rfl) (nodupW hD [3, 1] rfl (by decide)) (hP.sub (ws' := [(ms, .inl (g 0, 71, .inl f))]) [0] rfl) (ninW hD 0 [3, 1] rfl rfl (by decide)) hnp) (cwV 0 hts (lw_V q619 q621 qs9 q28 q622) rfl rfl rfl (by decide +kernel) ⟨Nat.le_of_ble_eq_true rfl, Nat.le_of_ble_eq_true rfl⟩) (preV hK (rcv hK hP 3 rfl rfl)) rfl rfl hl.1 rfl (lv_room (Nat.le_of_ble_eq_true rfl)) dX6_correct_56 ⟨Nat.le_of_ble_eq_true rfl, Nat.le_of_ble_eq_true rfl⟩) hS hFc (fun H locs hp9 hz1 hk1 hS => ?_)
        have hP1 := hp9
        obtain ⟨hP, hD⟩ := jn (wr := [(ms, .inl (g 0, 71, .inl f)), (me, .inl (g 0, 3, .inl ef)), (mn, .inl (g 1, 5, .inr (.inl (e64 (eR f)))))]) (w1 := [(mo, .inr (6, [.ref ms, .ref mp, .int (nI (addK 4 np)), .ref me, .ref mn, .long (cY (e64 (eR f)) (f (8 + se)) rv.toInt64), .long lg, .long fg, .long hv])), (mp, .inl (g 0, 284, .inl (ntF np pa f)))]) hP hD [3, 1] [0, 2, 4] rfl rfl (by decide) (by decide) hk1 hFc hP1 (dOf (nodupW hD [3, 1] rfl (by decide)) (fun q h => Or.inl h))
        have hP : va_P D vwCl [(ms, .inl (g 0, 71, .inl f)), (me, .inl (g 0, 3, .inl ef)), (mn, .inl (g 1, 5, .inr (.inl (e64 (eR f))))), (mo, .inr (6, [.ref ms, .ref mp, .int (nI (addK 4 np)), .ref me, .ref mn, .long (cY (e64 (eR f)) (f (8 + se)) rv.toInt64), .long lg, .long fg, .long hv])), (mp, .inl (g 0, 284, .inl (ntF np pa f)))] H := hP
        have hD : va_D (Aw [mo, ms, mp, me, mn] s.heap.size) [(ms, .inl (g 0, 71, .inl f)), (me, .inl (g 0, 3, .inl ef)), (mn, .inl (g 1, 5, .inr (.inl (e64 (eR f))))), (mo, .inr (6, [.ref ms, .ref mp, .int (nI (addK 4 np)), .ref me, .ref mn, .long (cY (e64 (eR f)) (f (8 + se)) rv.toInt64), .long lg, .long fg, .long hv])), (mp, .inl (g 0, 284, .inl (ntF np pa f)))] := hD
        refine lv_aload_n (pc := 59) hx hb dX6_correct_59 rfl (lv_at hl 1 rfl) ?_
        have hFc := awF (Lc := [ms]) hD hS hA [0] rfl
        refine kV (pc := 60) (va_runV (As := []) (rest := []) ⟨hx, hb, hml, hown, hts⟩ (m6_put l mo ms mp me mn (addK 4 np) (cY (e64 (eR f)) (f (8 + se)) rv.toInt64) lg fg hv f (eR f) H (hP.sub (ws' := [(ms, .inl (g 0, 71, .inl f))]) [0] rfl) (hP.sub (ws' := [(mo, .inr (6, [.ref ms, .ref mp, .int (nI (addK 4 np)), .ref me, .ref mn, .long (cY (e64 (eR f)) (f (8 + se)) rv.toInt64), .long lg, .long fg, .long hv]))]) [3] rfl) (ninW hD 3 [0] rfl rfl (by decide)) (hP.sub (ws' := [(mn, .inl (g 1, 5, .inr (.inl (e64 (eR f)))))]) [2] rfl) (ninW hD 2 [0] rfl rfl (by decide))) (cwV 0 hts (lw_V q657 q659 qs12 q28 q660) rfl rfl rfl (by decide +kernel) ⟨Nat.le_of_ble_eq_true rfl, Nat.le_of_ble_eq_true rfl⟩) (preV hK (rcv hK hP 3 rfl rfl)) rfl rfl hl.1 rfl (lv_room (Nat.le_of_ble_eq_true rfl)) dX6_correct_60 ⟨Nat.le_of_ble_eq_true rfl, Nat.le_of_ble_eq_true rfl⟩) hS hFc (fun H locs hp9 hz1 hk1 hS => ?_)
        have hP1 := hp9
        obtain ⟨hP, hD⟩ := jn (wr := [(me, .inl (g 0, 3, .inl ef)), (mn, .inl (g 1, 5, .inr (.inl (e64 (eR f))))), (mo, .inr (6, [.ref ms, .ref mp, .int (nI (addK 4 np)), .ref me, .ref mn, .long (cY (e64 (eR f)) (f (8 + se)) rv.toInt64), .long lg, .long fg, .long hv])), (mp, .inl (g 0, 284, .inl (ntF np pa f)))]) (w1 := [(ms, .inl (g 0, 71, .inl (p5F f (eR f) 5)))]) hP hD [0] [1, 2, 3, 4] rfl rfl (by decide) (by decide) hk1 hFc hP1 (d1 (Or.inl (by simp)))
        have hP : va_P D vwCl [(me, .inl (g 0, 3, .inl ef)), (mn, .inl (g 1, 5, .inr (.inl (e64 (eR f))))), (mo, .inr (6, [.ref ms, .ref mp, .int (nI (addK 4 np)), .ref me, .ref mn, .long (cY (e64 (eR f)) (f (8 + se)) rv.toInt64), .long lg, .long fg, .long hv])), (mp, .inl (g 0, 284, .inl (ntF np pa f))), (ms, .inl (g 0, 71, .inl (p5F f (eR f) 5)))] H := hP
        have hD : va_D (Aw [mo, ms, mp, me, mn] s.heap.size) [(me, .inl (g 0, 3, .inl ef)), (mn, .inl (g 1, 5, .inr (.inl (e64 (eR f))))), (mo, .inr (6, [.ref ms, .ref mp, .int (nI (addK 4 np)), .ref me, .ref mn, .long (cY (e64 (eR f)) (f (8 + se)) rv.toInt64), .long lg, .long fg, .long hv])), (mp, .inl (g 0, 284, .inl (ntF np pa f))), (ms, .inl (g 0, 71, .inl (p5F f (eR f) 5)))] := hD
        refine lv_aload_n (pc := 63) hx hb dX6_correct_63 rfl (lv_at hl 1 rfl) ?_
        refine lv_iload_n (pc := 64) hx hb dX6_correct_64 rfl (lv_at hl 2 rfl) ?_
        refine lv_iload_n (pc := 65) hx hb dX6_correct_65 rfl (lv_at hl 3 rfl) ?_
        have hFc := awF (Lc := [ms]) hD hS hA [4] rfl
        refine kV (pc := 66) (va_runV (As := [.int sx, .int rv]) (rest := []) ⟨hx, hb, hml, hown, hts⟩ (m6_record l mo ms mp me mn (addK 4 np) (cY (e64 (eR f)) (f (8 + se)) rv.toInt64) lg fg hv k (p5F f (eR f) 5) sx rv H (hP.sub (ws' := [(ms, .inl (g 0, 71, .inl (p5F f (eR f) 5)))]) [4] rfl) (hP.sub (ws' := [(mo, .inr (6, [.ref ms, .ref mp, .int (nI (addK 4 np)), .ref me, .ref mn, .long (cY (e64 (eR f)) (f (8 + se)) rv.toInt64), .long lg, .long fg, .long hv]))]) [2] rfl) (ninW hD 2 [4] rfl rfl (by decide)) hk ((p5_hi (by decide)).trans hkf)) (cwV 2 hts (lw_V q661 q663 qs13 q28 q664) rfl rfl rfl (by decide +kernel) ⟨Nat.le_of_ble_eq_true rfl, Nat.le_of_ble_eq_true rfl⟩) (preV hK (rcv hK hP 2 rfl rfl)) rfl rfl hl.1 rfl (lv_room (Nat.le_of_ble_eq_true rfl)) dX6_correct_66 ⟨Nat.le_of_ble_eq_true rfl, Nat.le_of_ble_eq_true rfl⟩) hS hFc (fun H locs hp9 hz1 hk1 hS => ?_)
        have hP1 := hp9
        obtain ⟨hP, hD⟩ := jn (wr := [(me, .inl (g 0, 3, .inl ef)), (mn, .inl (g 1, 5, .inr (.inl (e64 (eR f))))), (mo, .inr (6, [.ref ms, .ref mp, .int (nI (addK 4 np)), .ref me, .ref mn, .long (cY (e64 (eR f)) (f (8 + se)) rv.toInt64), .long lg, .long fg, .long hv])), (mp, .inl (g 0, 284, .inl (ntF np pa f)))]) (w1 := [(ms, .inl (g 0, 71, .inl (rcF (p5F f (eR f) 5) k sx rv)))]) hP hD [4] [0, 1, 2, 3] rfl rfl (by decide) (by decide) hk1 hFc hP1 (d1 (Or.inl (by simp)))
        have hP : va_P D vwCl [(me, .inl (g 0, 3, .inl ef)), (mn, .inl (g 1, 5, .inr (.inl (e64 (eR f))))), (mo, .inr (6, [.ref ms, .ref mp, .int (nI (addK 4 np)), .ref me, .ref mn, .long (cY (e64 (eR f)) (f (8 + se)) rv.toInt64), .long lg, .long fg, .long hv])), (mp, .inl (g 0, 284, .inl (ntF np pa f))), (ms, .inl (g 0, 71, .inl (rcF (p5F f (eR f) 5) k sx rv)))] H := hP
        have hD : va_D (Aw [mo, ms, mp, me, mn] s.heap.size) [(me, .inl (g 0, 3, .inl ef)), (mn, .inl (g 1, 5, .inr (.inl (e64 (eR f))))), (mo, .inr (6, [.ref ms, .ref mp, .int (nI (addK 4 np)), .ref me, .ref mn, .long (cY (e64 (eR f)) (f (8 + se)) rv.toInt64), .long lg, .long fg, .long hv])), (mp, .inl (g 0, 284, .inl (ntF np pa f))), (ms, .inl (g 0, 71, .inl (rcF (p5F f (eR f) 5) k sx rv)))] := hD
        refine lv_aload_n (pc := 69) hx hb dX6_correct_69 rfl (lv_at hl 1 rfl) ?_
        refine va_get (pc := 70) (D := D) (ci := 6) (v := .ref ms) (C := RX6) (T := TX6) (N := 9) hx hb hts in_X6 hown hK.1 hP 2 rfl rfl 0 (by decide) (hts _ q574) (fun _ h9 => h9) rfl dX6_correct_70 ?_
        refine lv_bipush (pc := 73) (v := 16) hx hb dX6_correct_73 (by decide) ?_
        refine lv_aload_n (pc := 75) hx hb dX6_correct_75 rfl (lv_at hl 1 rfl) ?_
        refine va_get (pc := 76) (D := D) (ci := 6) (v := .long (cY (e64 (eR f)) (f (8 + se)) rv.toInt64)) (C := RX6) (T := TX6) (N := 9) hx hb hts in_X6 hown hK.1 hP 2 rfl rfl 5 (by decide) (hts _ q579) (fun _ h9 => h9) rfl dX6_correct_76 ?_
        refine lv_l2i (pc := 79) hx hb dX6_correct_79 rfl ?_
        refine lv_topi (fun z12 ez12 => ?_)
        refine ia_st (pc := 80) (f' := (upd (rcF (p5F f (eR f) 5) k sx rv) 16 z12)) hx hb hK.1 hP hD hS 4 0 16 rfl rfl (nl 16) (Nat.le_of_ble_eq_true rfl) (Nat.le_of_ble_eq_true rfl) (fun _ _ => rfl) dX6_correct_80 (fun H locs hP hD hS => ?_)
        have hP : va_P D vwCl [(me, .inl (g 0, 3, .inl ef)), (mn, .inl (g 1, 5, .inr (.inl (e64 (eR f))))), (mo, .inr (6, [.ref ms, .ref mp, .int (nI (addK 4 np)), .ref me, .ref mn, .long (cY (e64 (eR f)) (f (8 + se)) rv.toInt64), .long lg, .long fg, .long hv])), (mp, .inl (g 0, 284, .inl (ntF np pa f))), (ms, .inl (g 0, 71, .inl (upd (rcF (p5F f (eR f) 5) k sx rv) 16 z12)))] H := hP
        have hD : va_D (Aw [mo, ms, mp, me, mn] s.heap.size) [(me, .inl (g 0, 3, .inl ef)), (mn, .inl (g 1, 5, .inr (.inl (e64 (eR f))))), (mo, .inr (6, [.ref ms, .ref mp, .int (nI (addK 4 np)), .ref me, .ref mn, .long (cY (e64 (eR f)) (f (8 + se)) rv.toInt64), .long lg, .long fg, .long hv])), (mp, .inl (g 0, 284, .inl (ntF np pa f))), (ms, .inl (g 0, 71, .inl (upd (rcF (p5F f (eR f) 5) k sx rv) 16 z12)))] := hD
        refine lv_iload_n (pc := 81) hx hb dX6_correct_81 rfl (lv_at hl 0 rfl) ?_
        refine lv_iconst (pc := 82) (v := 1) hx hb dX6_correct_82 (by decide) ?_
        refine lv_icmp_ne (pc := 83) (tgt := 124) hx hb dX6_correct_83 (by decide) (fun cd13 => ?_) (fun cd13 => absurd cd13 (by decide))
        refine lv_aload_n (pc := 124) hx hb dX6_correct_124 rfl (lv_at hl 1 rfl) ?_
        refine va_get (pc := 125) (D := D) (ci := 6) (v := .ref ms) (C := RX6) (T := TX6) (N := 9) hx hb hts in_X6 hown hK.1 hP 2 rfl rfl 0 (by decide) (hts _ q574) (fun _ h9 => h9) rfl dX6_correct_125 ?_
        refine lv_bipush (pc := 128) (v := 20) hx hb dX6_correct_128 (by decide) ?_
        refine lv_dup2_11 (pc := 130) hx hb dX6_correct_130 rfl rfl ?_
        refine ia_ld (pc := 131) hx hb hK.1 hP 4 0 20 rfl rfl (nl 20) (Nat.le_of_ble_eq_true rfl) (Nat.le_of_ble_eq_true rfl) dX6_correct_131 ?_
        refine lv_iconst (pc := 132) (v := 1) hx hb dX6_correct_132 (by decide) ?_
        refine lv_iadd (pc := 133) hx hb dX6_correct_133 ?_
        refine lv_topi (fun z14 ez14 => ?_)
        refine ia_st (pc := 134) (f' := (upd (upd (rcF (p5F f (eR f) 5) k sx rv) 16 z12) 20 z14)) hx hb hK.1 hP hD hS 4 0 20 rfl rfl (nl 20) (Nat.le_of_ble_eq_true rfl) (Nat.le_of_ble_eq_true rfl) (fun _ _ => rfl) dX6_correct_134 (fun H locs hP hD hS => ?_)
        have hP : va_P D vwCl [(me, .inl (g 0, 3, .inl ef)), (mn, .inl (g 1, 5, .inr (.inl (e64 (eR f))))), (mo, .inr (6, [.ref ms, .ref mp, .int (nI (addK 4 np)), .ref me, .ref mn, .long (cY (e64 (eR f)) (f (8 + se)) rv.toInt64), .long lg, .long fg, .long hv])), (mp, .inl (g 0, 284, .inl (ntF np pa f))), (ms, .inl (g 0, 71, .inl (upd (upd (rcF (p5F f (eR f) 5) k sx rv) 16 z12) 20 z14)))] H := hP
        have hD : va_D (Aw [mo, ms, mp, me, mn] s.heap.size) [(me, .inl (g 0, 3, .inl ef)), (mn, .inl (g 1, 5, .inr (.inl (e64 (eR f))))), (mo, .inr (6, [.ref ms, .ref mp, .int (nI (addK 4 np)), .ref me, .ref mn, .long (cY (e64 (eR f)) (f (8 + se)) rv.toInt64), .long lg, .long fg, .long hv])), (mp, .inl (g 0, 284, .inl (ntF np pa f))), (ms, .inl (g 0, 71, .inl (upd (upd (rcF (p5F f (eR f) 5) k sx rv) 16 z12) 20 z14)))] := hD
        refine lv_iload_n (pc := 135) hx hb dX6_correct_135 rfl (lv_at hl 0 rfl) ?_
        have hq9 : (fun r H1 => ((inR 0 3 sx ∧ inR (-40960000) 40960000 rv) ∧ cRej (e64 (eR f)) (f (8 + sx.toNatClampNeg)) (f (12 + sx.toNatClampNeg)).toInt64 rv.toInt64 (f 7) ∧ r = 0 ∧ MDI D g H1 mo ms mp me mn (addK 4 np) ef (rjF f sx rv) (ntF np pa f)) ∨ ((inR 0 3 sx ∧ inR (-40960000) 40960000 rv) ∧ ¬ cRej (e64 (eR f)) (f (8 + sx.toNatClampNeg)) (f (12 + sx.toNatClampNeg)).toInt64 rv.toInt64 (f 7) ∧ cOK (e64 (eR f)) (f (8 + sx.toNatClampNeg)) (f (12 + sx.toNatClampNeg)).toInt64 rv.toInt64 ∧ r = 1 ∧ MDI D g H1 mo ms mp me mn (addK 4 np) ef (acF f sx rv) (ntF np pa f)) ∨ ((inR 0 3 sx ∧ inR (-40960000) 40960000 rv) ∧ ¬ cRej (e64 (eR f)) (f (8 + sx.toNatClampNeg)) (f (12 + sx.toNatClampNeg)).toInt64 rv.toInt64 (f 7) ∧ ¬ cOK (e64 (eR f)) (f (8 + sx.toNatClampNeg)) (f (12 + sx.toNatClampNeg)).toInt64 rv.toInt64 ∧ r = -2000000004 ∧ MDI D g H1 mo ms mp me mn np (upd ef 2 (ef 2 + 1)) f pa) ∨ (¬ (inR 0 3 sx ∧ inR (-40960000) 40960000 rv) ∧ r = -2000000002 ∧ MDI D g H1 mo ms mp me mn np (upd ef 0 (ef 0 + 1)) f pa) : Int32 → Heap → Prop) 0 H := Or.inl ⟨⟨hck4, hck15⟩, by rw [hcl9]; exact hrj, rfl, MDI.to (f := (upd (upd (rcF (p5F f (eR f) 5) k sx rv) 16 z12) 20 z14)) ⟨_, _, _, _, _, hP.sub [2, 4, 3, 0, 1] rfl⟩ (fun j hj => rj_fin hk hkf hcl9 ez12 (by rw [ez14]; exact congrArg (· + 1) ((pk_un (by decide)).trans ((rcF_lo (by decide)).trans (p5_hi (by decide))))))⟩
        exact W.iret (v := 0) hx hb hr (fun t ht hW => ⟨⟨_, rfl, by rw [ht]; exact hq9⟩, hS.F ht⟩) hS.2.2 dX6_correct_136
      · subst hr9
        obtain ⟨hP, hD⟩ := jn (wr := [(ms, .inl (g 0, 71, .inl f)), (mp, .inl (g 0, 284, .inl pa)), (me, .inl (g 0, 3, .inl ef))]) (w1 := [(mo, .inr (6, [.ref ms, .ref mp, .int (nI np), .ref me, .ref mn, .long (cY (e64 (eR f)) (f (8 + se)) rv.toInt64), .long lg, .long fg, .long hv])), (mn, .inl (g 1, 5, .inr (.inl (e64 (eR f)))))]) hP hD [0, 4] [1, 2, 3] rfl rfl (by decide) (by decide) hk1 hFc hP1 (dOf (nodupW hD [0, 4] rfl (by decide)) (fun q h => Or.inl h))
        have hP : va_P D vwCl [(ms, .inl (g 0, 71, .inl f)), (mp, .inl (g 0, 284, .inl pa)), (me, .inl (g 0, 3, .inl ef)), (mo, .inr (6, [.ref ms, .ref mp, .int (nI np), .ref me, .ref mn, .long (cY (e64 (eR f)) (f (8 + se)) rv.toInt64), .long lg, .long fg, .long hv])), (mn, .inl (g 1, 5, .inr (.inl (e64 (eR f)))))] H := hP
        have hD : va_D (Aw [mo, ms, mp, me, mn] s.heap.size) [(ms, .inl (g 0, 71, .inl f)), (mp, .inl (g 0, 284, .inl pa)), (me, .inl (g 0, 3, .inl ef)), (mo, .inr (6, [.ref ms, .ref mp, .int (nI np), .ref me, .ref mn, .long (cY (e64 (eR f)) (f (8 + se)) rv.toInt64), .long lg, .long fg, .long hv])), (mn, .inl (g 1, 5, .inr (.inl (e64 (eR f)))))] := hD
        refine lv_istore_n (pc := 43) (lv' := [(3, .int (-1)), (0, .ref mo), (1, .int sx), (2, .int rv)]) hx hb dX6_correct_43 rfl hl (by decide) rfl (fun ls hl => ?_)
        refine lv_iload_n (pc := 44) hx hb dX6_correct_44 rfl (lv_at hl 0 rfl) ?_
        refine lv_if_ge (pc := 45) (tgt := 55) hx hb dX6_correct_45 (by decide) (fun cd15 => absurd cd15 (by decide)) (fun cd15 => ?_)
        refine lv_aload_n (pc := 48) hx hb dX6_correct_48 rfl (lv_at hl 1 rfl) ?_
        refine lv_ldc (pc := 49) (v := (-2000000004)) hx hb hown (hts _ q656) dX6_correct_49 ?_
        have hFc := awF (Lc := [me]) hD hS hA [2] rfl
        refine kI (pc := 51) (va_runV (As := [.int (-2000000004)]) (rest := []) ⟨hx, hb, hml, hown, hts⟩ (m6_fail l mo ms mp me mn np (cY (e64 (eR f)) (f (8 + se)) rv.toInt64) lg fg hv 2 ef (-2000000004) H (hP.sub (ws' := [(me, .inl (g 0, 3, .inl ef))]) [2] rfl) (hP.sub (ws' := [(mo, .inr (6, [.ref ms, .ref mp, .int (nI np), .ref me, .ref mn, .long (cY (e64 (eR f)) (f (8 + se)) rv.toInt64), .long lg, .long fg, .long hv]))]) [3] rfl) (ninW hD 3 [2] rfl rfl (by decide)) (by decide) (by decide)) (cwV 1 hts (lw_V q615 q617 qs8 q28 q618) rfl rfl rfl (by decide +kernel) ⟨Nat.le_of_ble_eq_true rfl, Nat.le_of_ble_eq_true rfl⟩) (preV hK (rcv hK hP 3 rfl rfl)) rfl rfl hl.1 rfl (lv_room (Nat.le_of_ble_eq_true rfl)) dX6_correct_51 ⟨Nat.le_of_ble_eq_true rfl, Nat.le_of_ble_eq_true rfl⟩) hS hFc (fun r16 H locs hp9 hz1 hk1 hS => ?_)
        obtain ⟨hrc, hP1⟩ := hp9
        obtain ⟨hP, hD⟩ := jn (wr := [(ms, .inl (g 0, 71, .inl f)), (mp, .inl (g 0, 284, .inl pa)), (mo, .inr (6, [.ref ms, .ref mp, .int (nI np), .ref me, .ref mn, .long (cY (e64 (eR f)) (f (8 + se)) rv.toInt64), .long lg, .long fg, .long hv])), (mn, .inl (g 1, 5, .inr (.inl (e64 (eR f)))))]) (w1 := [(me, .inl (g 0, 3, .inl (upd ef 2 (ef 2 + 1))))]) hP hD [2] [0, 1, 3, 4] rfl rfl (by decide) (by decide) hk1 hFc hP1 (d1 (Or.inl (by simp)))
        have hP : va_P D vwCl [(ms, .inl (g 0, 71, .inl f)), (mp, .inl (g 0, 284, .inl pa)), (mo, .inr (6, [.ref ms, .ref mp, .int (nI np), .ref me, .ref mn, .long (cY (e64 (eR f)) (f (8 + se)) rv.toInt64), .long lg, .long fg, .long hv])), (mn, .inl (g 1, 5, .inr (.inl (e64 (eR f))))), (me, .inl (g 0, 3, .inl (upd ef 2 (ef 2 + 1))))] H := hP
        have hD : va_D (Aw [mo, ms, mp, me, mn] s.heap.size) [(ms, .inl (g 0, 71, .inl f)), (mp, .inl (g 0, 284, .inl pa)), (mo, .inr (6, [.ref ms, .ref mp, .int (nI np), .ref me, .ref mn, .long (cY (e64 (eR f)) (f (8 + se)) rv.toInt64), .long lg, .long fg, .long hv])), (mn, .inl (g 1, 5, .inr (.inl (e64 (eR f))))), (me, .inl (g 0, 3, .inl (upd ef 2 (ef 2 + 1))))] := hD
        have hq9 : (fun r H1 => ((inR 0 3 sx ∧ inR (-40960000) 40960000 rv) ∧ cRej (e64 (eR f)) (f (8 + sx.toNatClampNeg)) (f (12 + sx.toNatClampNeg)).toInt64 rv.toInt64 (f 7) ∧ r = 0 ∧ MDI D g H1 mo ms mp me mn (addK 4 np) ef (rjF f sx rv) (ntF np pa f)) ∨ ((inR 0 3 sx ∧ inR (-40960000) 40960000 rv) ∧ ¬ cRej (e64 (eR f)) (f (8 + sx.toNatClampNeg)) (f (12 + sx.toNatClampNeg)).toInt64 rv.toInt64 (f 7) ∧ cOK (e64 (eR f)) (f (8 + sx.toNatClampNeg)) (f (12 + sx.toNatClampNeg)).toInt64 rv.toInt64 ∧ r = 1 ∧ MDI D g H1 mo ms mp me mn (addK 4 np) ef (acF f sx rv) (ntF np pa f)) ∨ ((inR 0 3 sx ∧ inR (-40960000) 40960000 rv) ∧ ¬ cRej (e64 (eR f)) (f (8 + sx.toNatClampNeg)) (f (12 + sx.toNatClampNeg)).toInt64 rv.toInt64 (f 7) ∧ ¬ cOK (e64 (eR f)) (f (8 + sx.toNatClampNeg)) (f (12 + sx.toNatClampNeg)).toInt64 rv.toInt64 ∧ r = -2000000004 ∧ MDI D g H1 mo ms mp me mn np (upd ef 2 (ef 2 + 1)) f pa) ∨ (¬ (inR 0 3 sx ∧ inR (-40960000) 40960000 rv) ∧ r = -2000000002 ∧ MDI D g H1 mo ms mp me mn np (upd ef 0 (ef 0 + 1)) f pa) : Int32 → Heap → Prop) r16 H := Or.inr (Or.inr (Or.inl ⟨⟨hck4, hck15⟩, by rw [hcl9]; exact hnrj, by rw [hcl9]; exact hnco, hrc, ⟨_, _, _, _, _, hP.sub [2, 0, 1, 4, 3] rfl⟩⟩))
        exact W.iret (v := r16) hx hb hr (fun t ht hW => ⟨⟨_, rfl, by rw [ht]; exact hq9⟩, hS.F ht⟩) hS.2.2 dX6_correct_54
      · subst hr9
        obtain ⟨hP, hD⟩ := jn (wr := [(ms, .inl (g 0, 71, .inl f)), (mp, .inl (g 0, 284, .inl pa)), (me, .inl (g 0, 3, .inl ef))]) (w1 := [(mo, .inr (6, [.ref ms, .ref mp, .int (nI np), .ref me, .ref mn, .long (cY (e64 (eR f)) (f (8 + se)) rv.toInt64), .long (cK (e64 (eR f)) (f (8 + se)) (f (12 + se)).toInt64), .long (cL (e64 (eR f)) (f (8 + se)) (f (12 + se)).toInt64), .long hv])), (mn, .inl (g 1, 5, .inr (.inl (e64 (cE (eR f) (f (8 + se)) (f (12 + se)) rv)))))]) hP hD [0, 4] [1, 2, 3] rfl rfl (by decide) (by decide) hk1 hFc hP1 (dOf (nodupW hD [0, 4] rfl (by decide)) (fun q h => Or.inl h))
        have hP : va_P D vwCl [(ms, .inl (g 0, 71, .inl f)), (mp, .inl (g 0, 284, .inl pa)), (me, .inl (g 0, 3, .inl ef)), (mo, .inr (6, [.ref ms, .ref mp, .int (nI np), .ref me, .ref mn, .long (cY (e64 (eR f)) (f (8 + se)) rv.toInt64), .long (cK (e64 (eR f)) (f (8 + se)) (f (12 + se)).toInt64), .long (cL (e64 (eR f)) (f (8 + se)) (f (12 + se)).toInt64), .long hv])), (mn, .inl (g 1, 5, .inr (.inl (e64 (cE (eR f) (f (8 + se)) (f (12 + se)) rv)))))] H := hP
        have hD : va_D (Aw [mo, ms, mp, me, mn] s.heap.size) [(ms, .inl (g 0, 71, .inl f)), (mp, .inl (g 0, 284, .inl pa)), (me, .inl (g 0, 3, .inl ef)), (mo, .inr (6, [.ref ms, .ref mp, .int (nI np), .ref me, .ref mn, .long (cY (e64 (eR f)) (f (8 + se)) rv.toInt64), .long (cK (e64 (eR f)) (f (8 + se)) (f (12 + se)).toInt64), .long (cL (e64 (eR f)) (f (8 + se)) (f (12 + se)).toInt64), .long hv])), (mn, .inl (g 1, 5, .inr (.inl (e64 (cE (eR f) (f (8 + se)) (f (12 + se)) rv)))))] := hD
        refine lv_istore_n (pc := 43) (lv' := [(3, .int 1), (0, .ref mo), (1, .int sx), (2, .int rv)]) hx hb dX6_correct_43 rfl hl (by decide) rfl (fun ls hl => ?_)
        refine lv_iload_n (pc := 44) hx hb dX6_correct_44 rfl (lv_at hl 0 rfl) ?_
        refine lv_if_ge (pc := 45) (tgt := 55) hx hb dX6_correct_45 (by decide) (fun cd17 => ?_) (fun cd17 => absurd cd17 (by decide))
        refine lv_aload_n (pc := 55) hx hb dX6_correct_55 rfl (lv_at hl 1 rfl) ?_
        have hFc := awF (Lc := [mo, mp]) hD hS hA [3, 1] rfl
        refine kV (pc := 56) (va_runV (As := []) (rest := []) ⟨hx, hb, hml, hown, hts⟩ (m6_note l mo ms mp me mn np (cY (e64 (eR f)) (f (8 + se)) rv.toInt64) (cK (e64 (eR f)) (f (8 + se)) (f (12 + se)).toInt64) (cL (e64 (eR f)) (f (8 + se)) (f (12 + se)).toInt64) hv f pa H (hP.sub (ws' := [(mo, .inr (6, [.ref ms, .ref mp, .int (nI np), .ref me, .ref mn, .long (cY (e64 (eR f)) (f (8 + se)) rv.toInt64), .long (cK (e64 (eR f)) (f (8 + se)) (f (12 + se)).toInt64), .long (cL (e64 (eR f)) (f (8 + se)) (f (12 + se)).toInt64), .long hv])), (mp, .inl (g 0, 284, .inl pa))]) [3, 1] rfl) (nodupW hD [3, 1] rfl (by decide)) (hP.sub (ws' := [(ms, .inl (g 0, 71, .inl f))]) [0] rfl) (ninW hD 0 [3, 1] rfl rfl (by decide)) hnp) (cwV 0 hts (lw_V q619 q621 qs9 q28 q622) rfl rfl rfl (by decide +kernel) ⟨Nat.le_of_ble_eq_true rfl, Nat.le_of_ble_eq_true rfl⟩) (preV hK (rcv hK hP 3 rfl rfl)) rfl rfl hl.1 rfl (lv_room (Nat.le_of_ble_eq_true rfl)) dX6_correct_56 ⟨Nat.le_of_ble_eq_true rfl, Nat.le_of_ble_eq_true rfl⟩) hS hFc (fun H locs hp9 hz1 hk1 hS => ?_)
        have hP1 := hp9
        obtain ⟨hP, hD⟩ := jn (wr := [(ms, .inl (g 0, 71, .inl f)), (me, .inl (g 0, 3, .inl ef)), (mn, .inl (g 1, 5, .inr (.inl (e64 (cE (eR f) (f (8 + se)) (f (12 + se)) rv)))))]) (w1 := [(mo, .inr (6, [.ref ms, .ref mp, .int (nI (addK 4 np)), .ref me, .ref mn, .long (cY (e64 (eR f)) (f (8 + se)) rv.toInt64), .long (cK (e64 (eR f)) (f (8 + se)) (f (12 + se)).toInt64), .long (cL (e64 (eR f)) (f (8 + se)) (f (12 + se)).toInt64), .long hv])), (mp, .inl (g 0, 284, .inl (ntF np pa f)))]) hP hD [3, 1] [0, 2, 4] rfl rfl (by decide) (by decide) hk1 hFc hP1 (dOf (nodupW hD [3, 1] rfl (by decide)) (fun q h => Or.inl h))
        have hP : va_P D vwCl [(ms, .inl (g 0, 71, .inl f)), (me, .inl (g 0, 3, .inl ef)), (mn, .inl (g 1, 5, .inr (.inl (e64 (cE (eR f) (f (8 + se)) (f (12 + se)) rv))))), (mo, .inr (6, [.ref ms, .ref mp, .int (nI (addK 4 np)), .ref me, .ref mn, .long (cY (e64 (eR f)) (f (8 + se)) rv.toInt64), .long (cK (e64 (eR f)) (f (8 + se)) (f (12 + se)).toInt64), .long (cL (e64 (eR f)) (f (8 + se)) (f (12 + se)).toInt64), .long hv])), (mp, .inl (g 0, 284, .inl (ntF np pa f)))] H := hP
        have hD : va_D (Aw [mo, ms, mp, me, mn] s.heap.size) [(ms, .inl (g 0, 71, .inl f)), (me, .inl (g 0, 3, .inl ef)), (mn, .inl (g 1, 5, .inr (.inl (e64 (cE (eR f) (f (8 + se)) (f (12 + se)) rv))))), (mo, .inr (6, [.ref ms, .ref mp, .int (nI (addK 4 np)), .ref me, .ref mn, .long (cY (e64 (eR f)) (f (8 + se)) rv.toInt64), .long (cK (e64 (eR f)) (f (8 + se)) (f (12 + se)).toInt64), .long (cL (e64 (eR f)) (f (8 + se)) (f (12 + se)).toInt64), .long hv])), (mp, .inl (g 0, 284, .inl (ntF np pa f)))] := hD
        refine lv_aload_n (pc := 59) hx hb dX6_correct_59 rfl (lv_at hl 1 rfl) ?_
        have hFc := awF (Lc := [ms]) hD hS hA [0] rfl
        refine kV (pc := 60) (va_runV (As := []) (rest := []) ⟨hx, hb, hml, hown, hts⟩ (m6_put l mo ms mp me mn (addK 4 np) (cY (e64 (eR f)) (f (8 + se)) rv.toInt64) (cK (e64 (eR f)) (f (8 + se)) (f (12 + se)).toInt64) (cL (e64 (eR f)) (f (8 + se)) (f (12 + se)).toInt64) hv f (cE (eR f) (f (8 + se)) (f (12 + se)) rv) H (hP.sub (ws' := [(ms, .inl (g 0, 71, .inl f))]) [0] rfl) (hP.sub (ws' := [(mo, .inr (6, [.ref ms, .ref mp, .int (nI (addK 4 np)), .ref me, .ref mn, .long (cY (e64 (eR f)) (f (8 + se)) rv.toInt64), .long (cK (e64 (eR f)) (f (8 + se)) (f (12 + se)).toInt64), .long (cL (e64 (eR f)) (f (8 + se)) (f (12 + se)).toInt64), .long hv]))]) [3] rfl) (ninW hD 3 [0] rfl rfl (by decide)) (hP.sub (ws' := [(mn, .inl (g 1, 5, .inr (.inl (e64 (cE (eR f) (f (8 + se)) (f (12 + se)) rv)))))]) [2] rfl) (ninW hD 2 [0] rfl rfl (by decide))) (cwV 0 hts (lw_V q657 q659 qs12 q28 q660) rfl rfl rfl (by decide +kernel) ⟨Nat.le_of_ble_eq_true rfl, Nat.le_of_ble_eq_true rfl⟩) (preV hK (rcv hK hP 3 rfl rfl)) rfl rfl hl.1 rfl (lv_room (Nat.le_of_ble_eq_true rfl)) dX6_correct_60 ⟨Nat.le_of_ble_eq_true rfl, Nat.le_of_ble_eq_true rfl⟩) hS hFc (fun H locs hp9 hz1 hk1 hS => ?_)
        have hP1 := hp9
        obtain ⟨hP, hD⟩ := jn (wr := [(me, .inl (g 0, 3, .inl ef)), (mn, .inl (g 1, 5, .inr (.inl (e64 (cE (eR f) (f (8 + se)) (f (12 + se)) rv))))), (mo, .inr (6, [.ref ms, .ref mp, .int (nI (addK 4 np)), .ref me, .ref mn, .long (cY (e64 (eR f)) (f (8 + se)) rv.toInt64), .long (cK (e64 (eR f)) (f (8 + se)) (f (12 + se)).toInt64), .long (cL (e64 (eR f)) (f (8 + se)) (f (12 + se)).toInt64), .long hv])), (mp, .inl (g 0, 284, .inl (ntF np pa f)))]) (w1 := [(ms, .inl (g 0, 71, .inl (p5F f (cE (eR f) (f (8 + se)) (f (12 + se)) rv) 5)))]) hP hD [0] [1, 2, 3, 4] rfl rfl (by decide) (by decide) hk1 hFc hP1 (d1 (Or.inl (by simp)))
        have hP : va_P D vwCl [(me, .inl (g 0, 3, .inl ef)), (mn, .inl (g 1, 5, .inr (.inl (e64 (cE (eR f) (f (8 + se)) (f (12 + se)) rv))))), (mo, .inr (6, [.ref ms, .ref mp, .int (nI (addK 4 np)), .ref me, .ref mn, .long (cY (e64 (eR f)) (f (8 + se)) rv.toInt64), .long (cK (e64 (eR f)) (f (8 + se)) (f (12 + se)).toInt64), .long (cL (e64 (eR f)) (f (8 + se)) (f (12 + se)).toInt64), .long hv])), (mp, .inl (g 0, 284, .inl (ntF np pa f))), (ms, .inl (g 0, 71, .inl (p5F f (cE (eR f) (f (8 + se)) (f (12 + se)) rv) 5)))] H := hP
        have hD : va_D (Aw [mo, ms, mp, me, mn] s.heap.size) [(me, .inl (g 0, 3, .inl ef)), (mn, .inl (g 1, 5, .inr (.inl (e64 (cE (eR f) (f (8 + se)) (f (12 + se)) rv))))), (mo, .inr (6, [.ref ms, .ref mp, .int (nI (addK 4 np)), .ref me, .ref mn, .long (cY (e64 (eR f)) (f (8 + se)) rv.toInt64), .long (cK (e64 (eR f)) (f (8 + se)) (f (12 + se)).toInt64), .long (cL (e64 (eR f)) (f (8 + se)) (f (12 + se)).toInt64), .long hv])), (mp, .inl (g 0, 284, .inl (ntF np pa f))), (ms, .inl (g 0, 71, .inl (p5F f (cE (eR f) (f (8 + se)) (f (12 + se)) rv) 5)))] := hD
        refine lv_aload_n (pc := 63) hx hb dX6_correct_63 rfl (lv_at hl 1 rfl) ?_
        refine lv_iload_n (pc := 64) hx hb dX6_correct_64 rfl (lv_at hl 2 rfl) ?_
        refine lv_iload_n (pc := 65) hx hb dX6_correct_65 rfl (lv_at hl 3 rfl) ?_
        have hFc := awF (Lc := [ms]) hD hS hA [4] rfl
        refine kV (pc := 66) (va_runV (As := [.int sx, .int rv]) (rest := []) ⟨hx, hb, hml, hown, hts⟩ (m6_record l mo ms mp me mn (addK 4 np) (cY (e64 (eR f)) (f (8 + se)) rv.toInt64) (cK (e64 (eR f)) (f (8 + se)) (f (12 + se)).toInt64) (cL (e64 (eR f)) (f (8 + se)) (f (12 + se)).toInt64) hv k (p5F f (cE (eR f) (f (8 + se)) (f (12 + se)) rv) 5) sx rv H (hP.sub (ws' := [(ms, .inl (g 0, 71, .inl (p5F f (cE (eR f) (f (8 + se)) (f (12 + se)) rv) 5)))]) [4] rfl) (hP.sub (ws' := [(mo, .inr (6, [.ref ms, .ref mp, .int (nI (addK 4 np)), .ref me, .ref mn, .long (cY (e64 (eR f)) (f (8 + se)) rv.toInt64), .long (cK (e64 (eR f)) (f (8 + se)) (f (12 + se)).toInt64), .long (cL (e64 (eR f)) (f (8 + se)) (f (12 + se)).toInt64), .long hv]))]) [2] rfl) (ninW hD 2 [4] rfl rfl (by decide)) hk ((p5_hi (by decide)).trans hkf)) (cwV 2 hts (lw_V q661 q663 qs13 q28 q664) rfl rfl rfl (by decide +kernel) ⟨Nat.le_of_ble_eq_true rfl, Nat.le_of_ble_eq_true rfl⟩) (preV hK (rcv hK hP 2 rfl rfl)) rfl rfl hl.1 rfl (lv_room (Nat.le_of_ble_eq_true rfl)) dX6_correct_66 ⟨Nat.le_of_ble_eq_true rfl, Nat.le_of_ble_eq_true rfl⟩) hS hFc (fun H locs hp9 hz1 hk1 hS => ?_)
        have hP1 := hp9
        obtain ⟨hP, hD⟩ := jn (wr := [(me, .inl (g 0, 3, .inl ef)), (mn, .inl (g 1, 5, .inr (.inl (e64 (cE (eR f) (f (8 + se)) (f (12 + se)) rv))))), (mo, .inr (6, [.ref ms, .ref mp, .int (nI (addK 4 np)), .ref me, .ref mn, .long (cY (e64 (eR f)) (f (8 + se)) rv.toInt64), .long (cK (e64 (eR f)) (f (8 + se)) (f (12 + se)).toInt64), .long (cL (e64 (eR f)) (f (8 + se)) (f (12 + se)).toInt64), .long hv])), (mp, .inl (g 0, 284, .inl (ntF np pa f)))]) (w1 := [(ms, .inl (g 0, 71, .inl (rcF (p5F f (cE (eR f) (f (8 + se)) (f (12 + se)) rv) 5) k sx rv)))]) hP hD [4] [0, 1, 2, 3] rfl rfl (by decide) (by decide) hk1 hFc hP1 (d1 (Or.inl (by simp)))
        have hP : va_P D vwCl [(me, .inl (g 0, 3, .inl ef)), (mn, .inl (g 1, 5, .inr (.inl (e64 (cE (eR f) (f (8 + se)) (f (12 + se)) rv))))), (mo, .inr (6, [.ref ms, .ref mp, .int (nI (addK 4 np)), .ref me, .ref mn, .long (cY (e64 (eR f)) (f (8 + se)) rv.toInt64), .long (cK (e64 (eR f)) (f (8 + se)) (f (12 + se)).toInt64), .long (cL (e64 (eR f)) (f (8 + se)) (f (12 + se)).toInt64), .long hv])), (mp, .inl (g 0, 284, .inl (ntF np pa f))), (ms, .inl (g 0, 71, .inl (rcF (p5F f (cE (eR f) (f (8 + se)) (f (12 + se)) rv) 5) k sx rv)))] H := hP
        have hD : va_D (Aw [mo, ms, mp, me, mn] s.heap.size) [(me, .inl (g 0, 3, .inl ef)), (mn, .inl (g 1, 5, .inr (.inl (e64 (cE (eR f) (f (8 + se)) (f (12 + se)) rv))))), (mo, .inr (6, [.ref ms, .ref mp, .int (nI (addK 4 np)), .ref me, .ref mn, .long (cY (e64 (eR f)) (f (8 + se)) rv.toInt64), .long (cK (e64 (eR f)) (f (8 + se)) (f (12 + se)).toInt64), .long (cL (e64 (eR f)) (f (8 + se)) (f (12 + se)).toInt64), .long hv])), (mp, .inl (g 0, 284, .inl (ntF np pa f))), (ms, .inl (g 0, 71, .inl (rcF (p5F f (cE (eR f) (f (8 + se)) (f (12 + se)) rv) 5) k sx rv)))] := hD
        refine lv_aload_n (pc := 69) hx hb dX6_correct_69 rfl (lv_at hl 1 rfl) ?_
        refine va_get (pc := 70) (D := D) (ci := 6) (v := .ref ms) (C := RX6) (T := TX6) (N := 9) hx hb hts in_X6 hown hK.1 hP 2 rfl rfl 0 (by decide) (hts _ q574) (fun _ h9 => h9) rfl dX6_correct_70 ?_
        refine lv_bipush (pc := 73) (v := 16) hx hb dX6_correct_73 (by decide) ?_
        refine lv_aload_n (pc := 75) hx hb dX6_correct_75 rfl (lv_at hl 1 rfl) ?_
        refine va_get (pc := 76) (D := D) (ci := 6) (v := .long (cY (e64 (eR f)) (f (8 + se)) rv.toInt64)) (C := RX6) (T := TX6) (N := 9) hx hb hts in_X6 hown hK.1 hP 2 rfl rfl 5 (by decide) (hts _ q579) (fun _ h9 => h9) rfl dX6_correct_76 ?_
        refine lv_l2i (pc := 79) hx hb dX6_correct_79 rfl ?_
        refine lv_topi (fun z21 ez21 => ?_)
        refine ia_st (pc := 80) (f' := (upd (rcF (p5F f (cE (eR f) (f (8 + se)) (f (12 + se)) rv) 5) k sx rv) 16 z21)) hx hb hK.1 hP hD hS 4 0 16 rfl rfl (nl 16) (Nat.le_of_ble_eq_true rfl) (Nat.le_of_ble_eq_true rfl) (fun _ _ => rfl) dX6_correct_80 (fun H locs hP hD hS => ?_)
        have hP : va_P D vwCl [(me, .inl (g 0, 3, .inl ef)), (mn, .inl (g 1, 5, .inr (.inl (e64 (cE (eR f) (f (8 + se)) (f (12 + se)) rv))))), (mo, .inr (6, [.ref ms, .ref mp, .int (nI (addK 4 np)), .ref me, .ref mn, .long (cY (e64 (eR f)) (f (8 + se)) rv.toInt64), .long (cK (e64 (eR f)) (f (8 + se)) (f (12 + se)).toInt64), .long (cL (e64 (eR f)) (f (8 + se)) (f (12 + se)).toInt64), .long hv])), (mp, .inl (g 0, 284, .inl (ntF np pa f))), (ms, .inl (g 0, 71, .inl (upd (rcF (p5F f (cE (eR f) (f (8 + se)) (f (12 + se)) rv) 5) k sx rv) 16 z21)))] H := hP
        have hD : va_D (Aw [mo, ms, mp, me, mn] s.heap.size) [(me, .inl (g 0, 3, .inl ef)), (mn, .inl (g 1, 5, .inr (.inl (e64 (cE (eR f) (f (8 + se)) (f (12 + se)) rv))))), (mo, .inr (6, [.ref ms, .ref mp, .int (nI (addK 4 np)), .ref me, .ref mn, .long (cY (e64 (eR f)) (f (8 + se)) rv.toInt64), .long (cK (e64 (eR f)) (f (8 + se)) (f (12 + se)).toInt64), .long (cL (e64 (eR f)) (f (8 + se)) (f (12 + se)).toInt64), .long hv])), (mp, .inl (g 0, 284, .inl (ntF np pa f))), (ms, .inl (g 0, 71, .inl (upd (rcF (p5F f (cE (eR f) (f (8 + se)) (f (12 + se)) rv) 5) k sx rv) 16 z21)))] := hD
        refine lv_iload_n (pc := 81) hx hb dX6_correct_81 rfl (lv_at hl 0 rfl) ?_
        refine lv_iconst (pc := 82) (v := 1) hx hb dX6_correct_82 (by decide) ?_
        refine lv_icmp_ne (pc := 83) (tgt := 124) hx hb dX6_correct_83 (by decide) (fun cd22 => absurd cd22 (by decide)) (fun cd22 => ?_)
        refine lv_aload_n (pc := 86) hx hb dX6_correct_86 rfl (lv_at hl 1 rfl) ?_
        refine va_get (pc := 87) (D := D) (ci := 6) (v := .ref ms) (C := RX6) (T := TX6) (N := 9) hx hb hts in_X6 hown hK.1 hP 2 rfl rfl 0 (by decide) (hts _ q574) (fun _ h9 => h9) rfl dX6_correct_87 ?_
        refine lv_bipush (pc := 90) (v := 17) hx hb dX6_correct_90 (by decide) ?_
        refine lv_aload_n (pc := 92) hx hb dX6_correct_92 rfl (lv_at hl 1 rfl) ?_
        refine va_get (pc := 93) (D := D) (ci := 6) (v := .long (cK (e64 (eR f)) (f (8 + se)) (f (12 + se)).toInt64)) (C := RX6) (T := TX6) (N := 9) hx hb hts in_X6 hown hK.1 hP 2 rfl rfl 6 (by decide) (hts _ q580) (fun _ h9 => h9) rfl dX6_correct_93 ?_
        refine lv_l2i (pc := 96) hx hb dX6_correct_96 rfl ?_
        refine lv_topi (fun z23 ez23 => ?_)
        refine ia_st (pc := 97) (f' := (upd (upd (rcF (p5F f (cE (eR f) (f (8 + se)) (f (12 + se)) rv) 5) k sx rv) 16 z21) 17 z23)) hx hb hK.1 hP hD hS 4 0 17 rfl rfl (nl 17) (Nat.le_of_ble_eq_true rfl) (Nat.le_of_ble_eq_true rfl) (fun _ _ => rfl) dX6_correct_97 (fun H locs hP hD hS => ?_)
        have hP : va_P D vwCl [(me, .inl (g 0, 3, .inl ef)), (mn, .inl (g 1, 5, .inr (.inl (e64 (cE (eR f) (f (8 + se)) (f (12 + se)) rv))))), (mo, .inr (6, [.ref ms, .ref mp, .int (nI (addK 4 np)), .ref me, .ref mn, .long (cY (e64 (eR f)) (f (8 + se)) rv.toInt64), .long (cK (e64 (eR f)) (f (8 + se)) (f (12 + se)).toInt64), .long (cL (e64 (eR f)) (f (8 + se)) (f (12 + se)).toInt64), .long hv])), (mp, .inl (g 0, 284, .inl (ntF np pa f))), (ms, .inl (g 0, 71, .inl (upd (upd (rcF (p5F f (cE (eR f) (f (8 + se)) (f (12 + se)) rv) 5) k sx rv) 16 z21) 17 z23)))] H := hP
        have hD : va_D (Aw [mo, ms, mp, me, mn] s.heap.size) [(me, .inl (g 0, 3, .inl ef)), (mn, .inl (g 1, 5, .inr (.inl (e64 (cE (eR f) (f (8 + se)) (f (12 + se)) rv))))), (mo, .inr (6, [.ref ms, .ref mp, .int (nI (addK 4 np)), .ref me, .ref mn, .long (cY (e64 (eR f)) (f (8 + se)) rv.toInt64), .long (cK (e64 (eR f)) (f (8 + se)) (f (12 + se)).toInt64), .long (cL (e64 (eR f)) (f (8 + se)) (f (12 + se)).toInt64), .long hv])), (mp, .inl (g 0, 284, .inl (ntF np pa f))), (ms, .inl (g 0, 71, .inl (upd (upd (rcF (p5F f (cE (eR f) (f (8 + se)) (f (12 + se)) rv) 5) k sx rv) 16 z21) 17 z23)))] := hD
        refine lv_aload_n (pc := 98) hx hb dX6_correct_98 rfl (lv_at hl 1 rfl) ?_
        refine va_get (pc := 99) (D := D) (ci := 6) (v := .ref ms) (C := RX6) (T := TX6) (N := 9) hx hb hts in_X6 hown hK.1 hP 2 rfl rfl 0 (by decide) (hts _ q574) (fun _ h9 => h9) rfl dX6_correct_99 ?_
        refine lv_bipush (pc := 102) (v := 18) hx hb dX6_correct_102 (by decide) ?_
        refine lv_aload_n (pc := 104) hx hb dX6_correct_104 rfl (lv_at hl 1 rfl) ?_
        refine va_get (pc := 105) (D := D) (ci := 6) (v := .long (cL (e64 (eR f)) (f (8 + se)) (f (12 + se)).toInt64)) (C := RX6) (T := TX6) (N := 9) hx hb hts in_X6 hown hK.1 hP 2 rfl rfl 7 (by decide) (hts _ q581) (fun _ h9 => h9) rfl dX6_correct_105 ?_
        refine lv_l2i (pc := 108) hx hb dX6_correct_108 rfl ?_
        refine lv_topi (fun z24 ez24 => ?_)
        refine ia_st (pc := 109) (f' := (upd (upd (upd (rcF (p5F f (cE (eR f) (f (8 + se)) (f (12 + se)) rv) 5) k sx rv) 16 z21) 17 z23) 18 z24)) hx hb hK.1 hP hD hS 4 0 18 rfl rfl (nl 18) (Nat.le_of_ble_eq_true rfl) (Nat.le_of_ble_eq_true rfl) (fun _ _ => rfl) dX6_correct_109 (fun H locs hP hD hS => ?_)
        have hP : va_P D vwCl [(me, .inl (g 0, 3, .inl ef)), (mn, .inl (g 1, 5, .inr (.inl (e64 (cE (eR f) (f (8 + se)) (f (12 + se)) rv))))), (mo, .inr (6, [.ref ms, .ref mp, .int (nI (addK 4 np)), .ref me, .ref mn, .long (cY (e64 (eR f)) (f (8 + se)) rv.toInt64), .long (cK (e64 (eR f)) (f (8 + se)) (f (12 + se)).toInt64), .long (cL (e64 (eR f)) (f (8 + se)) (f (12 + se)).toInt64), .long hv])), (mp, .inl (g 0, 284, .inl (ntF np pa f))), (ms, .inl (g 0, 71, .inl (upd (upd (upd (rcF (p5F f (cE (eR f) (f (8 + se)) (f (12 + se)) rv) 5) k sx rv) 16 z21) 17 z23) 18 z24)))] H := hP
        have hD : va_D (Aw [mo, ms, mp, me, mn] s.heap.size) [(me, .inl (g 0, 3, .inl ef)), (mn, .inl (g 1, 5, .inr (.inl (e64 (cE (eR f) (f (8 + se)) (f (12 + se)) rv))))), (mo, .inr (6, [.ref ms, .ref mp, .int (nI (addK 4 np)), .ref me, .ref mn, .long (cY (e64 (eR f)) (f (8 + se)) rv.toInt64), .long (cK (e64 (eR f)) (f (8 + se)) (f (12 + se)).toInt64), .long (cL (e64 (eR f)) (f (8 + se)) (f (12 + se)).toInt64), .long hv])), (mp, .inl (g 0, 284, .inl (ntF np pa f))), (ms, .inl (g 0, 71, .inl (upd (upd (upd (rcF (p5F f (cE (eR f) (f (8 + se)) (f (12 + se)) rv) 5) k sx rv) 16 z21) 17 z23) 18 z24)))] := hD
        refine lv_aload_n (pc := 110) hx hb dX6_correct_110 rfl (lv_at hl 1 rfl) ?_
        refine va_get (pc := 111) (D := D) (ci := 6) (v := .ref ms) (C := RX6) (T := TX6) (N := 9) hx hb hts in_X6 hown hK.1 hP 2 rfl rfl 0 (by decide) (hts _ q574) (fun _ h9 => h9) rfl dX6_correct_111 ?_
        refine lv_bipush (pc := 114) (v := 19) hx hb dX6_correct_114 (by decide) ?_
        refine lv_dup2_11 (pc := 116) hx hb dX6_correct_116 rfl rfl ?_
        refine ia_ld (pc := 117) hx hb hK.1 hP 4 0 19 rfl rfl (nl 19) (Nat.le_of_ble_eq_true rfl) (Nat.le_of_ble_eq_true rfl) dX6_correct_117 ?_
        refine lv_iconst (pc := 118) (v := 1) hx hb dX6_correct_118 (by decide) ?_
        refine lv_iadd (pc := 119) hx hb dX6_correct_119 ?_
        refine lv_topi (fun z25 ez25 => ?_)
        refine ia_st (pc := 120) (f' := (upd (upd (upd (upd (rcF (p5F f (cE (eR f) (f (8 + se)) (f (12 + se)) rv) 5) k sx rv) 16 z21) 17 z23) 18 z24) 19 z25)) hx hb hK.1 hP hD hS 4 0 19 rfl rfl (nl 19) (Nat.le_of_ble_eq_true rfl) (Nat.le_of_ble_eq_true rfl) (fun _ _ => rfl) dX6_correct_120 (fun H locs hP hD hS => ?_)
        have hP : va_P D vwCl [(me, .inl (g 0, 3, .inl ef)), (mn, .inl (g 1, 5, .inr (.inl (e64 (cE (eR f) (f (8 + se)) (f (12 + se)) rv))))), (mo, .inr (6, [.ref ms, .ref mp, .int (nI (addK 4 np)), .ref me, .ref mn, .long (cY (e64 (eR f)) (f (8 + se)) rv.toInt64), .long (cK (e64 (eR f)) (f (8 + se)) (f (12 + se)).toInt64), .long (cL (e64 (eR f)) (f (8 + se)) (f (12 + se)).toInt64), .long hv])), (mp, .inl (g 0, 284, .inl (ntF np pa f))), (ms, .inl (g 0, 71, .inl (upd (upd (upd (upd (rcF (p5F f (cE (eR f) (f (8 + se)) (f (12 + se)) rv) 5) k sx rv) 16 z21) 17 z23) 18 z24) 19 z25)))] H := hP
        have hD : va_D (Aw [mo, ms, mp, me, mn] s.heap.size) [(me, .inl (g 0, 3, .inl ef)), (mn, .inl (g 1, 5, .inr (.inl (e64 (cE (eR f) (f (8 + se)) (f (12 + se)) rv))))), (mo, .inr (6, [.ref ms, .ref mp, .int (nI (addK 4 np)), .ref me, .ref mn, .long (cY (e64 (eR f)) (f (8 + se)) rv.toInt64), .long (cK (e64 (eR f)) (f (8 + se)) (f (12 + se)).toInt64), .long (cL (e64 (eR f)) (f (8 + se)) (f (12 + se)).toInt64), .long hv])), (mp, .inl (g 0, 284, .inl (ntF np pa f))), (ms, .inl (g 0, 71, .inl (upd (upd (upd (upd (rcF (p5F f (cE (eR f) (f (8 + se)) (f (12 + se)) rv) 5) k sx rv) 16 z21) 17 z23) 18 z24) 19 z25)))] := hD
        refine lv_goto (pc := 121) (tgt := 135) hx hb dX6_correct_121 (by decide) ?_
        refine lv_iload_n (pc := 135) hx hb dX6_correct_135 rfl (lv_at hl 0 rfl) ?_
        have hq9 : (fun r H1 => ((inR 0 3 sx ∧ inR (-40960000) 40960000 rv) ∧ cRej (e64 (eR f)) (f (8 + sx.toNatClampNeg)) (f (12 + sx.toNatClampNeg)).toInt64 rv.toInt64 (f 7) ∧ r = 0 ∧ MDI D g H1 mo ms mp me mn (addK 4 np) ef (rjF f sx rv) (ntF np pa f)) ∨ ((inR 0 3 sx ∧ inR (-40960000) 40960000 rv) ∧ ¬ cRej (e64 (eR f)) (f (8 + sx.toNatClampNeg)) (f (12 + sx.toNatClampNeg)).toInt64 rv.toInt64 (f 7) ∧ cOK (e64 (eR f)) (f (8 + sx.toNatClampNeg)) (f (12 + sx.toNatClampNeg)).toInt64 rv.toInt64 ∧ r = 1 ∧ MDI D g H1 mo ms mp me mn (addK 4 np) ef (acF f sx rv) (ntF np pa f)) ∨ ((inR 0 3 sx ∧ inR (-40960000) 40960000 rv) ∧ ¬ cRej (e64 (eR f)) (f (8 + sx.toNatClampNeg)) (f (12 + sx.toNatClampNeg)).toInt64 rv.toInt64 (f 7) ∧ ¬ cOK (e64 (eR f)) (f (8 + sx.toNatClampNeg)) (f (12 + sx.toNatClampNeg)).toInt64 rv.toInt64 ∧ r = -2000000004 ∧ MDI D g H1 mo ms mp me mn np (upd ef 2 (ef 2 + 1)) f pa) ∨ (¬ (inR 0 3 sx ∧ inR (-40960000) 40960000 rv) ∧ r = -2000000002 ∧ MDI D g H1 mo ms mp me mn np (upd ef 0 (ef 0 + 1)) f pa) : Int32 → Heap → Prop) 1 H := Or.inr (Or.inl ⟨⟨hck4, hck15⟩, by rw [hcl9]; exact hnrj, by rw [hcl9]; exact hco, rfl, MDI.to (f := (upd (upd (upd (upd (rcF (p5F f (cE (eR f) (f (8 + se)) (f (12 + se)) rv) 5) k sx rv) 16 z21) 17 z23) 18 z24) 19 z25)) ⟨_, _, _, _, _, hP.sub [2, 4, 3, 0, 1] rfl⟩ (fun j hj => ac_fin hk hkf hcl9 ez21 ez23 ez24 (by rw [ez25]; exact congrArg (· + 1) ((pk_un (by decide)).trans ((pk_un (by decide)).trans ((pk_un (by decide)).trans ((rcF_lo (by decide)).trans (p5_hi (by decide))))))))⟩)
        exact W.iret (v := 1) hx hb hr (fun t ht hW => ⟨⟨_, rfl, by rw [ht]; exact hq9⟩, hS.F ht⟩) hS.2.2 dX6_correct_136
    · have hnk : ¬ (inR 0 3 sx ∧ inR (-40960000) 40960000 rv) := fun h => (bI_eq (hr4.symm.trans cd5)) h.2
      refine lv_aload_n (pc := 18) hx hb dX6_correct_18 rfl (lv_at hl 0 rfl) ?_
      refine lv_ldc (pc := 19) (v := (-2000000002)) hx hb hown (hts _ q614) dX6_correct_19 ?_
      have hFc := awF (Lc := [me]) hD hS hA [3] rfl
      refine kI (pc := 21) (va_runV (As := [.int (-2000000002)]) (rest := []) ⟨hx, hb, hml, hown, hts⟩ (m6_fail l mo ms mp me mn np iv lg fg hv 0 ef (-2000000002) s.heap (hP.sub (ws' := [(me, .inl (g 0, 3, .inl ef))]) [3] rfl) (hP.sub (ws' := [(mo, .inr (6, [.ref ms, .ref mp, .int (nI np), .ref me, .ref mn, .long iv, .long lg, .long fg, .long hv]))]) [0] rfl) (ninW hD 0 [3] rfl rfl (by decide)) (by decide) (by decide)) (cwV 1 hts (lw_V q615 q617 qs8 q28 q618) rfl rfl rfl (by decide +kernel) ⟨Nat.le_of_ble_eq_true rfl, Nat.le_of_ble_eq_true rfl⟩) (preV hK (rcv hK hP 0 rfl rfl)) rfl rfl hl.1 rfl (lv_room (Nat.le_of_ble_eq_true rfl)) dX6_correct_21 ⟨Nat.le_of_ble_eq_true rfl, Nat.le_of_ble_eq_true rfl⟩) hS hFc (fun r26 H locs hp9 hz1 hk1 hS => ?_)
      obtain ⟨hrc, hP1⟩ := hp9
      obtain ⟨hP, hD⟩ := jn (wr := [(mo, .inr (6, [.ref ms, .ref mp, .int (nI np), .ref me, .ref mn, .long iv, .long lg, .long fg, .long hv])), (ms, .inl (g 0, 71, .inl f)), (mp, .inl (g 0, 284, .inl pa)), (mn, .inl (g 1, 5, .inr (.inl nw)))]) (w1 := [(me, .inl (g 0, 3, .inl (upd ef 0 (ef 0 + 1))))]) hP hD [3] [0, 1, 2, 4] rfl rfl (by decide) (by decide) hk1 hFc hP1 (d1 (Or.inl (by simp)))
      have hP : va_P D vwCl [(mo, .inr (6, [.ref ms, .ref mp, .int (nI np), .ref me, .ref mn, .long iv, .long lg, .long fg, .long hv])), (ms, .inl (g 0, 71, .inl f)), (mp, .inl (g 0, 284, .inl pa)), (mn, .inl (g 1, 5, .inr (.inl nw))), (me, .inl (g 0, 3, .inl (upd ef 0 (ef 0 + 1))))] H := hP
      have hD : va_D (Aw [mo, ms, mp, me, mn] s.heap.size) [(mo, .inr (6, [.ref ms, .ref mp, .int (nI np), .ref me, .ref mn, .long iv, .long lg, .long fg, .long hv])), (ms, .inl (g 0, 71, .inl f)), (mp, .inl (g 0, 284, .inl pa)), (mn, .inl (g 1, 5, .inr (.inl nw))), (me, .inl (g 0, 3, .inl (upd ef 0 (ef 0 + 1))))] := hD
      have hq9 : (fun r H1 => ((inR 0 3 sx ∧ inR (-40960000) 40960000 rv) ∧ cRej (e64 (eR f)) (f (8 + sx.toNatClampNeg)) (f (12 + sx.toNatClampNeg)).toInt64 rv.toInt64 (f 7) ∧ r = 0 ∧ MDI D g H1 mo ms mp me mn (addK 4 np) ef (rjF f sx rv) (ntF np pa f)) ∨ ((inR 0 3 sx ∧ inR (-40960000) 40960000 rv) ∧ ¬ cRej (e64 (eR f)) (f (8 + sx.toNatClampNeg)) (f (12 + sx.toNatClampNeg)).toInt64 rv.toInt64 (f 7) ∧ cOK (e64 (eR f)) (f (8 + sx.toNatClampNeg)) (f (12 + sx.toNatClampNeg)).toInt64 rv.toInt64 ∧ r = 1 ∧ MDI D g H1 mo ms mp me mn (addK 4 np) ef (acF f sx rv) (ntF np pa f)) ∨ ((inR 0 3 sx ∧ inR (-40960000) 40960000 rv) ∧ ¬ cRej (e64 (eR f)) (f (8 + sx.toNatClampNeg)) (f (12 + sx.toNatClampNeg)).toInt64 rv.toInt64 (f 7) ∧ ¬ cOK (e64 (eR f)) (f (8 + sx.toNatClampNeg)) (f (12 + sx.toNatClampNeg)).toInt64 rv.toInt64 ∧ r = -2000000004 ∧ MDI D g H1 mo ms mp me mn np (upd ef 2 (ef 2 + 1)) f pa) ∨ (¬ (inR 0 3 sx ∧ inR (-40960000) 40960000 rv) ∧ r = -2000000002 ∧ MDI D g H1 mo ms mp me mn np (upd ef 0 (ef 0 + 1)) f pa) : Int32 → Heap → Prop) r26 H := Or.inr (Or.inr (Or.inr ⟨hnk, hrc, ⟨_, _, _, _, _, hP.sub [0, 1, 2, 4, 3] rfl⟩⟩))
      exact W.iret (v := r26) hx hb hr (fun t ht hW => ⟨⟨_, rfl, by rw [ht]; exact hq9⟩, hS.F ht⟩) hS.2.2 dX6_correct_24
