abbrev rm_m0_level : Room := ({ frames := 0, cells := 0, slots := 0, locals := 0 })
set_option maxHeartbeats 4000000 in
set_option maxRecDepth 100000 in
theorem m0_level (l : Launch) {D : va_G} {g : Nat → ClassId} (xo sv er rd cur : Nat) (f : Nat → Int32) (M : Nat → Prop) (H : Heap) (hx0 : va_P D vwCl [(xo, .inr (0, [.ref cur, .ref sv, .ref rd, .ref er]))] H) (hcur : StAt D g M H cur f) : Met l yX0_level (ws_ yX0_level cX0_level 1 (some .int)) rm_m0_level (va_Pc [.ref xo] (PH D g H)) (QI (fun r H1 => H1 = H ∧ r = f 0) (fun _ => False)) 0 0 (fun _ => False) := by
  refine Met.ofW (cc := cX0_level) (maxL := 1) (ret := (some .int)) (by decide) rfl ?_
  intro p e s m args below meth c s₁ B hml hv
  obtain ⟨rfl, hH, hK⟩ := hv
  subst hH
  have hx := B.exec
  have hb := B.bytes
  have hr := B.returns
  have hts := atoms_spec (ws := ws_ yX0_level cX0_level 1 (some .int)) B.pre
  have hts : ∀ w ∈ lw_all, w.before _ s = true := fun w h => hts w (List.mem_cons_of_mem _ h)
  have hown : s.vm.findClass RX0 = some m.cls := findClass_of_methodNamed B.named
  have hlocks := B.notSynchronized
  have hS : va_S (fun _ => False) s.heap s.heap [] := va_S.rf
  have hl := lv_entry ([.ref xo]) (n := 1) (Nat.le_of_ble_eq_true rfl)
  rw [lg_entry_eq]
  generalize (lg_sl ([.ref xo]) ++ List.replicate (1 - (lg_sl ([.ref xo])).length) Slot.unset).toArray = ls at hl ⊢
  have hl : lv_has ls 1 [(0, .ref xo)] := hl
  have hcur0 := hcur
  obtain ⟨qe, qs, qh, qa, k, gs, ge, ⟨hk, hkf⟩, ⟨m0, m1, m2, m3, m4⟩, ⟨hs0, hs1, hs2, hs3, hs4⟩, hsn, hev⟩ := hcur
  refine lv_aload_n (pc := 0) hx hb dX0_level_0 rfl (lv_at hl 0 rfl) ?_
  refine va_get (pc := 1) (D := D) (ci := 0) (v := .ref cur) (C := RX0) (T := TX0) (N := 4) hx hb hts in_X0 hown hK.1 hx0 0 rfl rfl 0 (by decide) (hts _ q178) (fun _ h9 => h9) rfl dX0_level_1 ?_
  refine va_getN (pc := 4) (D := D) (ci := 1) (v := .ref qe) (C := RX1) (T := TX1) (N := 9) hx hb hts in_X1 hown hK.1 hs0 0 rfl rfl 0 (by decide) (hK.n nq132) (fun _ h9 => h9) rfl dX0_level_4 ?_
  refine va_getN (pc := 7) (D := D) (ci := 2) (v := .int (f 0)) (C := RX2) (T := TX2) (N := 8) hx hb hts in_X2 hown hK.1 hs1 0 rfl rfl 0 (by decide) (hK.n nq58) (fun _ h9 => h9) rfl dX0_level_7 ?_
  have hq9 : (fun r H1 => H1 = s.heap ∧ r = f 0 : Int32 → Heap → Prop) (f 0) s.heap := ⟨rfl, rfl⟩
  exact W.iret (v := f 0) hx hb hr (fun t ht hW => ⟨⟨_, rfl, by rw [ht]; exact hq9⟩, hS.F ht⟩) hS.2.2 dX0_level_10

abbrev rm_m0_flow : Room := ({ frames := 0, cells := 0, slots := 0, locals := 0 })
set_option maxHeartbeats 4000000 in
set_option maxRecDepth 100000 in
theorem m0_flow (l : Launch) {D : va_G} {g : Nat → ClassId} (xo sv er rd cur : Nat) (f : Nat → Int32) (M : Nat → Prop) (H : Heap) (hx0 : va_P D vwCl [(xo, .inr (0, [.ref cur, .ref sv, .ref rd, .ref er]))] H) (hcur : StAt D g M H cur f) : Met l yX0_flow (ws_ yX0_flow cX0_flow 1 (some .int)) rm_m0_flow (va_Pc [.ref xo] (PH D g H)) (QI (fun r H1 => H1 = H ∧ r = f 1) (fun _ => False)) 0 0 (fun _ => False) := by
  refine Met.ofW (cc := cX0_flow) (maxL := 1) (ret := (some .int)) (by decide) rfl ?_
  intro p e s m args below meth c s₁ B hml hv
  obtain ⟨rfl, hH, hK⟩ := hv
  subst hH
  have hx := B.exec
  have hb := B.bytes
  have hr := B.returns
  have hts := atoms_spec (ws := ws_ yX0_flow cX0_flow 1 (some .int)) B.pre
  have hts : ∀ w ∈ lw_all, w.before _ s = true := fun w h => hts w (List.mem_cons_of_mem _ h)
  have hown : s.vm.findClass RX0 = some m.cls := findClass_of_methodNamed B.named
  have hlocks := B.notSynchronized
  have hS : va_S (fun _ => False) s.heap s.heap [] := va_S.rf
  have hl := lv_entry ([.ref xo]) (n := 1) (Nat.le_of_ble_eq_true rfl)
  rw [lg_entry_eq]
  generalize (lg_sl ([.ref xo]) ++ List.replicate (1 - (lg_sl ([.ref xo])).length) Slot.unset).toArray = ls at hl ⊢
  have hl : lv_has ls 1 [(0, .ref xo)] := hl
  have hcur0 := hcur
  obtain ⟨qe, qs, qh, qa, k, gs, ge, ⟨hk, hkf⟩, ⟨m0, m1, m2, m3, m4⟩, ⟨hs0, hs1, hs2, hs3, hs4⟩, hsn, hev⟩ := hcur
  refine lv_aload_n (pc := 0) hx hb dX0_flow_0 rfl (lv_at hl 0 rfl) ?_
  refine va_get (pc := 1) (D := D) (ci := 0) (v := .ref cur) (C := RX0) (T := TX0) (N := 4) hx hb hts in_X0 hown hK.1 hx0 0 rfl rfl 0 (by decide) (hts _ q178) (fun _ h9 => h9) rfl dX0_flow_1 ?_
  refine va_getN (pc := 4) (D := D) (ci := 1) (v := .ref qe) (C := RX1) (T := TX1) (N := 9) hx hb hts in_X1 hown hK.1 hs0 0 rfl rfl 0 (by decide) (hK.n nq132) (fun _ h9 => h9) rfl dX0_flow_4 ?_
  refine va_getN (pc := 7) (D := D) (ci := 2) (v := .int (f 1)) (C := RX2) (T := TX2) (N := 8) hx hb hts in_X2 hown hK.1 hs1 0 rfl rfl 1 (by decide) (hK.n nq60) (fun _ h9 => h9) rfl dX0_flow_7 ?_
  have hq9 : (fun r H1 => H1 = s.heap ∧ r = f 1 : Int32 → Heap → Prop) (f 1) s.heap := ⟨rfl, rfl⟩
  exact W.iret (v := f 1) hx hb hr (fun t ht hW => ⟨⟨_, rfl, by rw [ht]; exact hq9⟩, hS.F ht⟩) hS.2.2 dX0_flow_10

abbrev rm_m0_levelVariance : Room := ({ frames := 0, cells := 0, slots := 0, locals := 0 })
set_option maxHeartbeats 4000000 in
set_option maxRecDepth 100000 in
theorem m0_levelVariance (l : Launch) {D : va_G} {g : Nat → ClassId} (xo sv er rd cur : Nat) (f : Nat → Int32) (M : Nat → Prop) (H : Heap) (hx0 : va_P D vwCl [(xo, .inr (0, [.ref cur, .ref sv, .ref rd, .ref er]))] H) (hcur : StAt D g M H cur f) : Met l yX0_levelVariance (ws_ yX0_levelVariance cX0_levelVariance 1 (some .int)) rm_m0_levelVariance (va_Pc [.ref xo] (PH D g H)) (QI (fun r H1 => H1 = H ∧ r = f 2) (fun _ => False)) 0 0 (fun _ => False) := by
  refine Met.ofW (cc := cX0_levelVariance) (maxL := 1) (ret := (some .int)) (by decide) rfl ?_
  intro p e s m args below meth c s₁ B hml hv
  obtain ⟨rfl, hH, hK⟩ := hv
  subst hH
  have hx := B.exec
  have hb := B.bytes
  have hr := B.returns
  have hts := atoms_spec (ws := ws_ yX0_levelVariance cX0_levelVariance 1 (some .int)) B.pre
  have hts : ∀ w ∈ lw_all, w.before _ s = true := fun w h => hts w (List.mem_cons_of_mem _ h)
  have hown : s.vm.findClass RX0 = some m.cls := findClass_of_methodNamed B.named
  have hlocks := B.notSynchronized
  have hS : va_S (fun _ => False) s.heap s.heap [] := va_S.rf
  have hl := lv_entry ([.ref xo]) (n := 1) (Nat.le_of_ble_eq_true rfl)
  rw [lg_entry_eq]
  generalize (lg_sl ([.ref xo]) ++ List.replicate (1 - (lg_sl ([.ref xo])).length) Slot.unset).toArray = ls at hl ⊢
  have hl : lv_has ls 1 [(0, .ref xo)] := hl
  have hcur0 := hcur
  obtain ⟨qe, qs, qh, qa, k, gs, ge, ⟨hk, hkf⟩, ⟨m0, m1, m2, m3, m4⟩, ⟨hs0, hs1, hs2, hs3, hs4⟩, hsn, hev⟩ := hcur
  refine lv_aload_n (pc := 0) hx hb dX0_levelVariance_0 rfl (lv_at hl 0 rfl) ?_
  refine va_get (pc := 1) (D := D) (ci := 0) (v := .ref cur) (C := RX0) (T := TX0) (N := 4) hx hb hts in_X0 hown hK.1 hx0 0 rfl rfl 0 (by decide) (hts _ q178) (fun _ h9 => h9) rfl dX0_levelVariance_1 ?_
  refine va_getN (pc := 4) (D := D) (ci := 1) (v := .ref qe) (C := RX1) (T := TX1) (N := 9) hx hb hts in_X1 hown hK.1 hs0 0 rfl rfl 0 (by decide) (hK.n nq132) (fun _ h9 => h9) rfl dX0_levelVariance_4 ?_
  refine va_getN (pc := 7) (D := D) (ci := 2) (v := .int (f 2)) (C := RX2) (T := TX2) (N := 8) hx hb hts in_X2 hown hK.1 hs1 0 rfl rfl 2 (by decide) (hK.n nq62) (fun _ h9 => h9) rfl dX0_levelVariance_7 ?_
  have hq9 : (fun r H1 => H1 = s.heap ∧ r = f 2 : Int32 → Heap → Prop) (f 2) s.heap := ⟨rfl, rfl⟩
  exact W.iret (v := f 2) hx hb hr (fun t ht hW => ⟨⟨_, rfl, by rw [ht]; exact hq9⟩, hS.F ht⟩) hS.2.2 dX0_levelVariance_10

abbrev rm_m0_covariance : Room := ({ frames := 0, cells := 0, slots := 0, locals := 0 })
set_option maxHeartbeats 4000000 in
set_option maxRecDepth 100000 in
theorem m0_covariance (l : Launch) {D : va_G} {g : Nat → ClassId} (xo sv er rd cur : Nat) (f : Nat → Int32) (M : Nat → Prop) (H : Heap) (hx0 : va_P D vwCl [(xo, .inr (0, [.ref cur, .ref sv, .ref rd, .ref er]))] H) (hcur : StAt D g M H cur f) : Met l yX0_covariance (ws_ yX0_covariance cX0_covariance 1 (some .int)) rm_m0_covariance (va_Pc [.ref xo] (PH D g H)) (QI (fun r H1 => H1 = H ∧ r = f 3) (fun _ => False)) 0 0 (fun _ => False) := by
  refine Met.ofW (cc := cX0_covariance) (maxL := 1) (ret := (some .int)) (by decide) rfl ?_
  intro p e s m args below meth c s₁ B hml hv
  obtain ⟨rfl, hH, hK⟩ := hv
  subst hH
  have hx := B.exec
  have hb := B.bytes
  have hr := B.returns
  have hts := atoms_spec (ws := ws_ yX0_covariance cX0_covariance 1 (some .int)) B.pre
  have hts : ∀ w ∈ lw_all, w.before _ s = true := fun w h => hts w (List.mem_cons_of_mem _ h)
  have hown : s.vm.findClass RX0 = some m.cls := findClass_of_methodNamed B.named
  have hlocks := B.notSynchronized
  have hS : va_S (fun _ => False) s.heap s.heap [] := va_S.rf
  have hl := lv_entry ([.ref xo]) (n := 1) (Nat.le_of_ble_eq_true rfl)
  rw [lg_entry_eq]
  generalize (lg_sl ([.ref xo]) ++ List.replicate (1 - (lg_sl ([.ref xo])).length) Slot.unset).toArray = ls at hl ⊢
  have hl : lv_has ls 1 [(0, .ref xo)] := hl
  have hcur0 := hcur
  obtain ⟨qe, qs, qh, qa, k, gs, ge, ⟨hk, hkf⟩, ⟨m0, m1, m2, m3, m4⟩, ⟨hs0, hs1, hs2, hs3, hs4⟩, hsn, hev⟩ := hcur
  refine lv_aload_n (pc := 0) hx hb dX0_covariance_0 rfl (lv_at hl 0 rfl) ?_
  refine va_get (pc := 1) (D := D) (ci := 0) (v := .ref cur) (C := RX0) (T := TX0) (N := 4) hx hb hts in_X0 hown hK.1 hx0 0 rfl rfl 0 (by decide) (hts _ q178) (fun _ h9 => h9) rfl dX0_covariance_1 ?_
  refine va_getN (pc := 4) (D := D) (ci := 1) (v := .ref qe) (C := RX1) (T := TX1) (N := 9) hx hb hts in_X1 hown hK.1 hs0 0 rfl rfl 0 (by decide) (hK.n nq132) (fun _ h9 => h9) rfl dX0_covariance_4 ?_
  refine va_getN (pc := 7) (D := D) (ci := 2) (v := .int (f 3)) (C := RX2) (T := TX2) (N := 8) hx hb hts in_X2 hown hK.1 hs1 0 rfl rfl 3 (by decide) (hK.n nq64) (fun _ h9 => h9) rfl dX0_covariance_7 ?_
  have hq9 : (fun r H1 => H1 = s.heap ∧ r = f 3 : Int32 → Heap → Prop) (f 3) s.heap := ⟨rfl, rfl⟩
  exact W.iret (v := f 3) hx hb hr (fun t ht hW => ⟨⟨_, rfl, by rw [ht]; exact hq9⟩, hS.F ht⟩) hS.2.2 dX0_covariance_10

abbrev rm_m0_flowVariance : Room := ({ frames := 0, cells := 0, slots := 0, locals := 0 })
set_option maxHeartbeats 4000000 in
set_option maxRecDepth 100000 in
theorem m0_flowVariance (l : Launch) {D : va_G} {g : Nat → ClassId} (xo sv er rd cur : Nat) (f : Nat → Int32) (M : Nat → Prop) (H : Heap) (hx0 : va_P D vwCl [(xo, .inr (0, [.ref cur, .ref sv, .ref rd, .ref er]))] H) (hcur : StAt D g M H cur f) : Met l yX0_flowVariance (ws_ yX0_flowVariance cX0_flowVariance 1 (some .int)) rm_m0_flowVariance (va_Pc [.ref xo] (PH D g H)) (QI (fun r H1 => H1 = H ∧ r = f 4) (fun _ => False)) 0 0 (fun _ => False) := by
  refine Met.ofW (cc := cX0_flowVariance) (maxL := 1) (ret := (some .int)) (by decide) rfl ?_
  intro p e s m args below meth c s₁ B hml hv
  obtain ⟨rfl, hH, hK⟩ := hv
  subst hH
  have hx := B.exec
  have hb := B.bytes
  have hr := B.returns
  have hts := atoms_spec (ws := ws_ yX0_flowVariance cX0_flowVariance 1 (some .int)) B.pre
  have hts : ∀ w ∈ lw_all, w.before _ s = true := fun w h => hts w (List.mem_cons_of_mem _ h)
  have hown : s.vm.findClass RX0 = some m.cls := findClass_of_methodNamed B.named
  have hlocks := B.notSynchronized
  have hS : va_S (fun _ => False) s.heap s.heap [] := va_S.rf
  have hl := lv_entry ([.ref xo]) (n := 1) (Nat.le_of_ble_eq_true rfl)
  rw [lg_entry_eq]
  generalize (lg_sl ([.ref xo]) ++ List.replicate (1 - (lg_sl ([.ref xo])).length) Slot.unset).toArray = ls at hl ⊢
  have hl : lv_has ls 1 [(0, .ref xo)] := hl
  have hcur0 := hcur
  obtain ⟨qe, qs, qh, qa, k, gs, ge, ⟨hk, hkf⟩, ⟨m0, m1, m2, m3, m4⟩, ⟨hs0, hs1, hs2, hs3, hs4⟩, hsn, hev⟩ := hcur
  refine lv_aload_n (pc := 0) hx hb dX0_flowVariance_0 rfl (lv_at hl 0 rfl) ?_
  refine va_get (pc := 1) (D := D) (ci := 0) (v := .ref cur) (C := RX0) (T := TX0) (N := 4) hx hb hts in_X0 hown hK.1 hx0 0 rfl rfl 0 (by decide) (hts _ q178) (fun _ h9 => h9) rfl dX0_flowVariance_1 ?_
  refine va_getN (pc := 4) (D := D) (ci := 1) (v := .ref qe) (C := RX1) (T := TX1) (N := 9) hx hb hts in_X1 hown hK.1 hs0 0 rfl rfl 0 (by decide) (hK.n nq132) (fun _ h9 => h9) rfl dX0_flowVariance_4 ?_
  refine va_getN (pc := 7) (D := D) (ci := 2) (v := .int (f 4)) (C := RX2) (T := TX2) (N := 8) hx hb hts in_X2 hown hK.1 hs1 0 rfl rfl 4 (by decide) (hK.n nq66) (fun _ h9 => h9) rfl dX0_flowVariance_7 ?_
  have hq9 : (fun r H1 => H1 = s.heap ∧ r = f 4 : Int32 → Heap → Prop) (f 4) s.heap := ⟨rfl, rfl⟩
  exact W.iret (v := f 4) hx hb hr (fun t ht hW => ⟨⟨_, rfl, by rw [ht]; exact hq9⟩, hS.F ht⟩) hS.2.2 dX0_flowVariance_10

abbrev rm_m0_innovation : Room := ({ frames := 0, cells := 0, slots := 0, locals := 0 })
set_option maxHeartbeats 4000000 in
set_option maxRecDepth 100000 in
theorem m0_innovation (l : Launch) {D : va_G} {g : Nat → ClassId} (xo sv er rd cur : Nat) (f : Nat → Int32) (M : Nat → Prop) (H : Heap) (hx0 : va_P D vwCl [(xo, .inr (0, [.ref cur, .ref sv, .ref rd, .ref er]))] H) (hcur : StAt D g M H cur f) : Met l yX0_innovation (ws_ yX0_innovation cX0_innovation 1 (some .int)) rm_m0_innovation (va_Pc [.ref xo] (PH D g H)) (QI (fun r H1 => H1 = H ∧ r = f 16) (fun _ => False)) 0 0 (fun _ => False) := by
  refine Met.ofW (cc := cX0_innovation) (maxL := 1) (ret := (some .int)) (by decide) rfl ?_
  intro p e s m args below meth c s₁ B hml hv
  obtain ⟨rfl, hH, hK⟩ := hv
  subst hH
  have hx := B.exec
  have hb := B.bytes
  have hr := B.returns
  have hts := atoms_spec (ws := ws_ yX0_innovation cX0_innovation 1 (some .int)) B.pre
  have hts : ∀ w ∈ lw_all, w.before _ s = true := fun w h => hts w (List.mem_cons_of_mem _ h)
  have hown : s.vm.findClass RX0 = some m.cls := findClass_of_methodNamed B.named
  have hlocks := B.notSynchronized
  have hS : va_S (fun _ => False) s.heap s.heap [] := va_S.rf
  have hl := lv_entry ([.ref xo]) (n := 1) (Nat.le_of_ble_eq_true rfl)
  rw [lg_entry_eq]
  generalize (lg_sl ([.ref xo]) ++ List.replicate (1 - (lg_sl ([.ref xo])).length) Slot.unset).toArray = ls at hl ⊢
  have hl : lv_has ls 1 [(0, .ref xo)] := hl
  have hcur0 := hcur
  obtain ⟨qe, qs, qh, qa, k, gs, ge, ⟨hk, hkf⟩, ⟨m0, m1, m2, m3, m4⟩, ⟨hs0, hs1, hs2, hs3, hs4⟩, hsn, hev⟩ := hcur
  refine lv_aload_n (pc := 0) hx hb dX0_innovation_0 rfl (lv_at hl 0 rfl) ?_
  refine va_get (pc := 1) (D := D) (ci := 0) (v := .ref cur) (C := RX0) (T := TX0) (N := 4) hx hb hts in_X0 hown hK.1 hx0 0 rfl rfl 0 (by decide) (hts _ q178) (fun _ h9 => h9) rfl dX0_innovation_1 ?_
  refine va_getN (pc := 4) (D := D) (ci := 1) (v := .ref qe) (C := RX1) (T := TX1) (N := 9) hx hb hts in_X1 hown hK.1 hs0 0 rfl rfl 0 (by decide) (hK.n nq132) (fun _ h9 => h9) rfl dX0_innovation_4 ?_
  refine va_getN (pc := 7) (D := D) (ci := 2) (v := .int (f 16)) (C := RX2) (T := TX2) (N := 8) hx hb hts in_X2 hown hK.1 hs1 0 rfl rfl 5 (by decide) (hK.n nq69) (fun _ h9 => h9) rfl dX0_innovation_7 ?_
  have hq9 : (fun r H1 => H1 = s.heap ∧ r = f 16 : Int32 → Heap → Prop) (f 16) s.heap := ⟨rfl, rfl⟩
  exact W.iret (v := f 16) hx hb hr (fun t ht hW => ⟨⟨_, rfl, by rw [ht]; exact hq9⟩, hS.F ht⟩) hS.2.2 dX0_innovation_10

abbrev rm_m0_levelGain : Room := ({ frames := 0, cells := 0, slots := 0, locals := 0 })
set_option maxHeartbeats 4000000 in
set_option maxRecDepth 100000 in
theorem m0_levelGain (l : Launch) {D : va_G} {g : Nat → ClassId} (xo sv er rd cur : Nat) (f : Nat → Int32) (M : Nat → Prop) (H : Heap) (hx0 : va_P D vwCl [(xo, .inr (0, [.ref cur, .ref sv, .ref rd, .ref er]))] H) (hcur : StAt D g M H cur f) : Met l yX0_levelGain (ws_ yX0_levelGain cX0_levelGain 1 (some .int)) rm_m0_levelGain (va_Pc [.ref xo] (PH D g H)) (QI (fun r H1 => H1 = H ∧ r = f 17) (fun _ => False)) 0 0 (fun _ => False) := by
  refine Met.ofW (cc := cX0_levelGain) (maxL := 1) (ret := (some .int)) (by decide) rfl ?_
  intro p e s m args below meth c s₁ B hml hv
  obtain ⟨rfl, hH, hK⟩ := hv
  subst hH
  have hx := B.exec
  have hb := B.bytes
  have hr := B.returns
  have hts := atoms_spec (ws := ws_ yX0_levelGain cX0_levelGain 1 (some .int)) B.pre
  have hts : ∀ w ∈ lw_all, w.before _ s = true := fun w h => hts w (List.mem_cons_of_mem _ h)
  have hown : s.vm.findClass RX0 = some m.cls := findClass_of_methodNamed B.named
  have hlocks := B.notSynchronized
  have hS : va_S (fun _ => False) s.heap s.heap [] := va_S.rf
  have hl := lv_entry ([.ref xo]) (n := 1) (Nat.le_of_ble_eq_true rfl)
  rw [lg_entry_eq]
  generalize (lg_sl ([.ref xo]) ++ List.replicate (1 - (lg_sl ([.ref xo])).length) Slot.unset).toArray = ls at hl ⊢
  have hl : lv_has ls 1 [(0, .ref xo)] := hl
  have hcur0 := hcur
  obtain ⟨qe, qs, qh, qa, k, gs, ge, ⟨hk, hkf⟩, ⟨m0, m1, m2, m3, m4⟩, ⟨hs0, hs1, hs2, hs3, hs4⟩, hsn, hev⟩ := hcur
  refine lv_aload_n (pc := 0) hx hb dX0_levelGain_0 rfl (lv_at hl 0 rfl) ?_
  refine va_get (pc := 1) (D := D) (ci := 0) (v := .ref cur) (C := RX0) (T := TX0) (N := 4) hx hb hts in_X0 hown hK.1 hx0 0 rfl rfl 0 (by decide) (hts _ q178) (fun _ h9 => h9) rfl dX0_levelGain_1 ?_
  refine va_getN (pc := 4) (D := D) (ci := 1) (v := .ref qe) (C := RX1) (T := TX1) (N := 9) hx hb hts in_X1 hown hK.1 hs0 0 rfl rfl 0 (by decide) (hK.n nq132) (fun _ h9 => h9) rfl dX0_levelGain_4 ?_
  refine va_getN (pc := 7) (D := D) (ci := 2) (v := .int (f 17)) (C := RX2) (T := TX2) (N := 8) hx hb hts in_X2 hown hK.1 hs1 0 rfl rfl 6 (by decide) (hK.n nq72) (fun _ h9 => h9) rfl dX0_levelGain_7 ?_
  have hq9 : (fun r H1 => H1 = s.heap ∧ r = f 17 : Int32 → Heap → Prop) (f 17) s.heap := ⟨rfl, rfl⟩
  exact W.iret (v := f 17) hx hb hr (fun t ht hW => ⟨⟨_, rfl, by rw [ht]; exact hq9⟩, hS.F ht⟩) hS.2.2 dX0_levelGain_10

abbrev rm_m0_flowGain : Room := ({ frames := 0, cells := 0, slots := 0, locals := 0 })
set_option maxHeartbeats 4000000 in
set_option maxRecDepth 100000 in
theorem m0_flowGain (l : Launch) {D : va_G} {g : Nat → ClassId} (xo sv er rd cur : Nat) (f : Nat → Int32) (M : Nat → Prop) (H : Heap) (hx0 : va_P D vwCl [(xo, .inr (0, [.ref cur, .ref sv, .ref rd, .ref er]))] H) (hcur : StAt D g M H cur f) : Met l yX0_flowGain (ws_ yX0_flowGain cX0_flowGain 1 (some .int)) rm_m0_flowGain (va_Pc [.ref xo] (PH D g H)) (QI (fun r H1 => H1 = H ∧ r = f 18) (fun _ => False)) 0 0 (fun _ => False) := by
  refine Met.ofW (cc := cX0_flowGain) (maxL := 1) (ret := (some .int)) (by decide) rfl ?_
  intro p e s m args below meth c s₁ B hml hv
  obtain ⟨rfl, hH, hK⟩ := hv
  subst hH
  have hx := B.exec
  have hb := B.bytes
  have hr := B.returns
  have hts := atoms_spec (ws := ws_ yX0_flowGain cX0_flowGain 1 (some .int)) B.pre
  have hts : ∀ w ∈ lw_all, w.before _ s = true := fun w h => hts w (List.mem_cons_of_mem _ h)
  have hown : s.vm.findClass RX0 = some m.cls := findClass_of_methodNamed B.named
  have hlocks := B.notSynchronized
  have hS : va_S (fun _ => False) s.heap s.heap [] := va_S.rf
  have hl := lv_entry ([.ref xo]) (n := 1) (Nat.le_of_ble_eq_true rfl)
  rw [lg_entry_eq]
  generalize (lg_sl ([.ref xo]) ++ List.replicate (1 - (lg_sl ([.ref xo])).length) Slot.unset).toArray = ls at hl ⊢
  have hl : lv_has ls 1 [(0, .ref xo)] := hl
  have hcur0 := hcur
  obtain ⟨qe, qs, qh, qa, k, gs, ge, ⟨hk, hkf⟩, ⟨m0, m1, m2, m3, m4⟩, ⟨hs0, hs1, hs2, hs3, hs4⟩, hsn, hev⟩ := hcur
  refine lv_aload_n (pc := 0) hx hb dX0_flowGain_0 rfl (lv_at hl 0 rfl) ?_
  refine va_get (pc := 1) (D := D) (ci := 0) (v := .ref cur) (C := RX0) (T := TX0) (N := 4) hx hb hts in_X0 hown hK.1 hx0 0 rfl rfl 0 (by decide) (hts _ q178) (fun _ h9 => h9) rfl dX0_flowGain_1 ?_
  refine va_getN (pc := 4) (D := D) (ci := 1) (v := .ref qe) (C := RX1) (T := TX1) (N := 9) hx hb hts in_X1 hown hK.1 hs0 0 rfl rfl 0 (by decide) (hK.n nq132) (fun _ h9 => h9) rfl dX0_flowGain_4 ?_
  refine va_getN (pc := 7) (D := D) (ci := 2) (v := .int (f 18)) (C := RX2) (T := TX2) (N := 8) hx hb hts in_X2 hown hK.1 hs1 0 rfl rfl 7 (by decide) (hK.n nq75) (fun _ h9 => h9) rfl dX0_flowGain_7 ?_
  have hq9 : (fun r H1 => H1 = s.heap ∧ r = f 18 : Int32 → Heap → Prop) (f 18) s.heap := ⟨rfl, rfl⟩
  exact W.iret (v := f 18) hx hb hr (fun t ht hW => ⟨⟨_, rfl, by rw [ht]; exact hq9⟩, hS.F ht⟩) hS.2.2 dX0_flowGain_10

abbrev rm_m0_accepted : Room := ({ frames := 0, cells := 0, slots := 0, locals := 0 })
set_option maxHeartbeats 4000000 in
set_option maxRecDepth 100000 in
theorem m0_accepted (l : Launch) {D : va_G} {g : Nat → ClassId} (xo sv er rd cur : Nat) (f : Nat → Int32) (M : Nat → Prop) (H : Heap) (hx0 : va_P D vwCl [(xo, .inr (0, [.ref cur, .ref sv, .ref rd, .ref er]))] H) (hcur : StAt D g M H cur f) : Met l yX0_accepted (ws_ yX0_accepted cX0_accepted 1 (some .int)) rm_m0_accepted (va_Pc [.ref xo] (PH D g H)) (QI (fun r H1 => H1 = H ∧ r = f 19) (fun _ => False)) 0 0 (fun _ => False) := by
  refine Met.ofW (cc := cX0_accepted) (maxL := 1) (ret := (some .int)) (by decide) rfl ?_
  intro p e s m args below meth c s₁ B hml hv
  obtain ⟨rfl, hH, hK⟩ := hv
  subst hH
  have hx := B.exec
  have hb := B.bytes
  have hr := B.returns
  have hts := atoms_spec (ws := ws_ yX0_accepted cX0_accepted 1 (some .int)) B.pre
  have hts : ∀ w ∈ lw_all, w.before _ s = true := fun w h => hts w (List.mem_cons_of_mem _ h)
  have hown : s.vm.findClass RX0 = some m.cls := findClass_of_methodNamed B.named
  have hlocks := B.notSynchronized
  have hS : va_S (fun _ => False) s.heap s.heap [] := va_S.rf
  have hl := lv_entry ([.ref xo]) (n := 1) (Nat.le_of_ble_eq_true rfl)
  rw [lg_entry_eq]
  generalize (lg_sl ([.ref xo]) ++ List.replicate (1 - (lg_sl ([.ref xo])).length) Slot.unset).toArray = ls at hl ⊢
  have hl : lv_has ls 1 [(0, .ref xo)] := hl
  have hcur0 := hcur
  obtain ⟨qe, qs, qh, qa, k, gs, ge, ⟨hk, hkf⟩, ⟨m0, m1, m2, m3, m4⟩, ⟨hs0, hs1, hs2, hs3, hs4⟩, hsn, hev⟩ := hcur
  refine lv_aload_n (pc := 0) hx hb dX0_accepted_0 rfl (lv_at hl 0 rfl) ?_
  refine va_get (pc := 1) (D := D) (ci := 0) (v := .ref cur) (C := RX0) (T := TX0) (N := 4) hx hb hts in_X0 hown hK.1 hx0 0 rfl rfl 0 (by decide) (hts _ q178) (fun _ h9 => h9) rfl dX0_accepted_1 ?_
  refine va_getN (pc := 4) (D := D) (ci := 1) (v := .int (f 19)) (C := RX1) (T := TX1) (N := 9) hx hb hts in_X1 hown hK.1 hs0 0 rfl rfl 6 (by decide) (hK.n nq144) (fun _ h9 => h9) rfl dX0_accepted_4 ?_
  have hq9 : (fun r H1 => H1 = s.heap ∧ r = f 19 : Int32 → Heap → Prop) (f 19) s.heap := ⟨rfl, rfl⟩
  exact W.iret (v := f 19) hx hb hr (fun t ht hW => ⟨⟨_, rfl, by rw [ht]; exact hq9⟩, hS.F ht⟩) hS.2.2 dX0_accepted_7

abbrev rm_m0_rejected : Room := ({ frames := 0, cells := 0, slots := 0, locals := 0 })
set_option maxHeartbeats 4000000 in
set_option maxRecDepth 100000 in
theorem m0_rejected (l : Launch) {D : va_G} {g : Nat → ClassId} (xo sv er rd cur : Nat) (f : Nat → Int32) (M : Nat → Prop) (H : Heap) (hx0 : va_P D vwCl [(xo, .inr (0, [.ref cur, .ref sv, .ref rd, .ref er]))] H) (hcur : StAt D g M H cur f) : Met l yX0_rejected (ws_ yX0_rejected cX0_rejected 1 (some .int)) rm_m0_rejected (va_Pc [.ref xo] (PH D g H)) (QI (fun r H1 => H1 = H ∧ r = f 20) (fun _ => False)) 0 0 (fun _ => False) := by
  refine Met.ofW (cc := cX0_rejected) (maxL := 1) (ret := (some .int)) (by decide) rfl ?_
  intro p e s m args below meth c s₁ B hml hv
  obtain ⟨rfl, hH, hK⟩ := hv
  subst hH
  have hx := B.exec
  have hb := B.bytes
  have hr := B.returns
  have hts := atoms_spec (ws := ws_ yX0_rejected cX0_rejected 1 (some .int)) B.pre
  have hts : ∀ w ∈ lw_all, w.before _ s = true := fun w h => hts w (List.mem_cons_of_mem _ h)
  have hown : s.vm.findClass RX0 = some m.cls := findClass_of_methodNamed B.named
  have hlocks := B.notSynchronized
  have hS : va_S (fun _ => False) s.heap s.heap [] := va_S.rf
  have hl := lv_entry ([.ref xo]) (n := 1) (Nat.le_of_ble_eq_true rfl)
  rw [lg_entry_eq]
  generalize (lg_sl ([.ref xo]) ++ List.replicate (1 - (lg_sl ([.ref xo])).length) Slot.unset).toArray = ls at hl ⊢
  have hl : lv_has ls 1 [(0, .ref xo)] := hl
  have hcur0 := hcur
  obtain ⟨qe, qs, qh, qa, k, gs, ge, ⟨hk, hkf⟩, ⟨m0, m1, m2, m3, m4⟩, ⟨hs0, hs1, hs2, hs3, hs4⟩, hsn, hev⟩ := hcur
  refine lv_aload_n (pc := 0) hx hb dX0_rejected_0 rfl (lv_at hl 0 rfl) ?_
  refine va_get (pc := 1) (D := D) (ci := 0) (v := .ref cur) (C := RX0) (T := TX0) (N := 4) hx hb hts in_X0 hown hK.1 hx0 0 rfl rfl 0 (by decide) (hts _ q178) (fun _ h9 => h9) rfl dX0_rejected_1 ?_
  refine va_getN (pc := 4) (D := D) (ci := 1) (v := .int (f 20)) (C := RX1) (T := TX1) (N := 9) hx hb hts in_X1 hown hK.1 hs0 0 rfl rfl 7 (by decide) (hK.n nq146) (fun _ h9 => h9) rfl dX0_rejected_4 ?_
  have hq9 : (fun r H1 => H1 = s.heap ∧ r = f 20 : Int32 → Heap → Prop) (f 20) s.heap := ⟨rfl, rfl⟩
  exact W.iret (v := f 20) hx hb hr (fun t ht hW => ⟨⟨_, rfl, by rw [ht]; exact hq9⟩, hS.F ht⟩) hS.2.2 dX0_rejected_7

abbrev rm_m0_missed : Room := ({ frames := 0, cells := 0, slots := 0, locals := 0 })
set_option maxHeartbeats 4000000 in
set_option maxRecDepth 100000 in
theorem m0_missed (l : Launch) {D : va_G} {g : Nat → ClassId} (xo sv er rd cur : Nat) (f : Nat → Int32) (M : Nat → Prop) (H : Heap) (hx0 : va_P D vwCl [(xo, .inr (0, [.ref cur, .ref sv, .ref rd, .ref er]))] H) (hcur : StAt D g M H cur f) : Met l yX0_missed (ws_ yX0_missed cX0_missed 1 (some .int)) rm_m0_missed (va_Pc [.ref xo] (PH D g H)) (QI (fun r H1 => H1 = H ∧ r = f 21) (fun _ => False)) 0 0 (fun _ => False) := by
  refine Met.ofW (cc := cX0_missed) (maxL := 1) (ret := (some .int)) (by decide) rfl ?_
  intro p e s m args below meth c s₁ B hml hv
  obtain ⟨rfl, hH, hK⟩ := hv
  subst hH
  have hx := B.exec
  have hb := B.bytes
  have hr := B.returns
  have hts := atoms_spec (ws := ws_ yX0_missed cX0_missed 1 (some .int)) B.pre
  have hts : ∀ w ∈ lw_all, w.before _ s = true := fun w h => hts w (List.mem_cons_of_mem _ h)
  have hown : s.vm.findClass RX0 = some m.cls := findClass_of_methodNamed B.named
  have hlocks := B.notSynchronized
  have hS : va_S (fun _ => False) s.heap s.heap [] := va_S.rf
  have hl := lv_entry ([.ref xo]) (n := 1) (Nat.le_of_ble_eq_true rfl)
  rw [lg_entry_eq]
  generalize (lg_sl ([.ref xo]) ++ List.replicate (1 - (lg_sl ([.ref xo])).length) Slot.unset).toArray = ls at hl ⊢
  have hl : lv_has ls 1 [(0, .ref xo)] := hl
  have hcur0 := hcur
  obtain ⟨qe, qs, qh, qa, k, gs, ge, ⟨hk, hkf⟩, ⟨m0, m1, m2, m3, m4⟩, ⟨hs0, hs1, hs2, hs3, hs4⟩, hsn, hev⟩ := hcur
  refine lv_aload_n (pc := 0) hx hb dX0_missed_0 rfl (lv_at hl 0 rfl) ?_
  refine va_get (pc := 1) (D := D) (ci := 0) (v := .ref cur) (C := RX0) (T := TX0) (N := 4) hx hb hts in_X0 hown hK.1 hx0 0 rfl rfl 0 (by decide) (hts _ q178) (fun _ h9 => h9) rfl dX0_missed_1 ?_
  refine va_getN (pc := 4) (D := D) (ci := 1) (v := .int (f 21)) (C := RX1) (T := TX1) (N := 9) hx hb hts in_X1 hown hK.1 hs0 0 rfl rfl 8 (by decide) (hK.n nq148) (fun _ h9 => h9) rfl dX0_missed_4 ?_
  have hq9 : (fun r H1 => H1 = s.heap ∧ r = f 21 : Int32 → Heap → Prop) (f 21) s.heap := ⟨rfl, rfl⟩
  exact W.iret (v := f 21) hx hb hr (fun t ht hW => ⟨⟨_, rfl, by rw [ht]; exact hq9⟩, hS.F ht⟩) hS.2.2 dX0_missed_7

abbrev rm_m0_historyLength : Room := ({ frames := 0, cells := 0, slots := 0, locals := 0 })
set_option maxHeartbeats 4000000 in
set_option maxRecDepth 100000 in
theorem m0_historyLength (l : Launch) {D : va_G} {g : Nat → ClassId} (xo sv er rd cur : Nat) (f : Nat → Int32) (M : Nat → Prop) (H : Heap) (hx0 : va_P D vwCl [(xo, .inr (0, [.ref cur, .ref sv, .ref rd, .ref er]))] H) (hcur : StAt D g M H cur f) : Met l yX0_historyLength (ws_ yX0_historyLength cX0_historyLength 1 (some .int)) rm_m0_historyLength (va_Pc [.ref xo] (PH D g H)) (QI (fun r H1 => H1 = H ∧ r = f 22) (fun _ => False)) 0 0 (fun _ => False) := by
  refine Met.ofW (cc := cX0_historyLength) (maxL := 1) (ret := (some .int)) (by decide) rfl ?_
  intro p e s m args below meth c s₁ B hml hv
  obtain ⟨rfl, hH, hK⟩ := hv
  subst hH
  have hx := B.exec
  have hb := B.bytes
  have hr := B.returns
  have hts := atoms_spec (ws := ws_ yX0_historyLength cX0_historyLength 1 (some .int)) B.pre
  have hts : ∀ w ∈ lw_all, w.before _ s = true := fun w h => hts w (List.mem_cons_of_mem _ h)
  have hown : s.vm.findClass RX0 = some m.cls := findClass_of_methodNamed B.named
  have hlocks := B.notSynchronized
  have hS : va_S (fun _ => False) s.heap s.heap [] := va_S.rf
  have hl := lv_entry ([.ref xo]) (n := 1) (Nat.le_of_ble_eq_true rfl)
  rw [lg_entry_eq]
  generalize (lg_sl ([.ref xo]) ++ List.replicate (1 - (lg_sl ([.ref xo])).length) Slot.unset).toArray = ls at hl ⊢
  have hl : lv_has ls 1 [(0, .ref xo)] := hl
  have hcur0 := hcur
  obtain ⟨qe, qs, qh, qa, k, gs, ge, ⟨hk, hkf⟩, ⟨m0, m1, m2, m3, m4⟩, ⟨hs0, hs1, hs2, hs3, hs4⟩, hsn, hev⟩ := hcur
  refine lv_aload_n (pc := 0) hx hb dX0_historyLength_0 rfl (lv_at hl 0 rfl) ?_
  refine va_get (pc := 1) (D := D) (ci := 0) (v := .ref cur) (C := RX0) (T := TX0) (N := 4) hx hb hts in_X0 hown hK.1 hx0 0 rfl rfl 0 (by decide) (hts _ q178) (fun _ h9 => h9) rfl dX0_historyLength_1 ?_
  refine va_getN (pc := 4) (D := D) (ci := 1) (v := .ref qh) (C := RX1) (T := TX1) (N := 9) hx hb hts in_X1 hown hK.1 hs0 0 rfl rfl 5 (by decide) (hK.n nq142) (fun _ h9 => h9) rfl dX0_historyLength_4 ?_
  refine va_getN (pc := 7) (D := D) (ci := 3) (v := .int (nI k)) (C := RX3) (T := TX3) (N := 2) hx hb hts in_X3 hown hK.1 hs3 0 rfl rfl 1 (by decide) (hK.n nq106) (fun _ h9 => h9) rfl dX0_historyLength_7 ?_
  have hq9 : (fun r H1 => H1 = s.heap ∧ r = f 22 : Int32 → Heap → Prop) (nI k) s.heap := ⟨rfl, hkf.symm⟩
  exact W.iret (v := nI k) hx hb hr (fun t ht hW => ⟨⟨_, rfl, by rw [ht]; exact hq9⟩, hS.F ht⟩) hS.2.2 dX0_historyLength_10

abbrev rm_m0_error : Room := ({ frames := 0, cells := 0, slots := 0, locals := 0 })
set_option maxHeartbeats 4000000 in
set_option maxRecDepth 100000 in
/-- error(cd) -/
theorem m0_error (l : Launch) {D : va_G} {g : Nat → ClassId} (xo sv er rd cur j : Nat) (ef : Nat → Int32) (cd : Int32) (H : Heap) (hP : va_P D vwCl [(er, .inl (g 0, 3, .inl ef))] H) (hx0 : va_P D vwCl [(xo, .inr (0, [.ref cur, .ref sv, .ref rd, .ref er]))] H) (nhx0 : xo ∉ [er]) (hj : j < 3) (hc : -2000000002 - cd = nI j) : Met l yX0_error (ws_ yX0_error cX0_error 2 (some .int)) rm_m0_error (va_Pc [.ref xo, .int cd] (PH D g H)) (QI (fun r H1 => r = cd ∧ va_P D vwCl [(er, .inl (g 0, 3, .inl (upd ef j (ef j + 1))))] H1) (Aw [er] H.size)) 0 0 (Aw [er] H.size) := by
  refine Met.ofW (cc := cX0_error) (maxL := 2) (ret := (some .int)) (by decide) rfl ?_
  intro p e s m args below meth c s₁ B hml hv
  obtain ⟨rfl, hH, hK⟩ := hv
  subst hH
  have hx := B.exec
  have hb := B.bytes
  have hr := B.returns
  have hts := atoms_spec (ws := ws_ yX0_error cX0_error 2 (some .int)) B.pre
  have hts : ∀ w ∈ lw_all, w.before _ s = true := fun w h => hts w (List.mem_cons_of_mem _ h)
  have hown : s.vm.findClass RX0 = some m.cls := findClass_of_methodNamed B.named
  have hlocks := B.notSynchronized
  have hA : ∀ q, s.heap.size ≤ q → (Aw [er] s.heap.size) q := fun q h => Or.inr h
  have hS : va_S (Aw [er] s.heap.size) s.heap s.heap [] := va_S.rf
  have hD : va_D (Aw [er] s.heap.size) [(er, .inl (g 0, 3, .inl ef))] := d1 (Or.inl (by simp))
  have ahx0 : ¬ (Aw [er] s.heap.size) xo := naw nhx0 (hx0 0 _ rfl).lt
  have hl := lv_entry ([.ref xo, .int cd]) (n := 2) (Nat.le_of_ble_eq_true rfl)
  rw [lg_entry_eq]
  generalize (lg_sl ([.ref xo, .int cd]) ++ List.replicate (2 - (lg_sl ([.ref xo, .int cd])).length) Slot.unset).toArray = ls at hl ⊢
  have hl : lv_has ls 2 [(0, .ref xo), (1, .int cd)] := hl
  refine lv_aload_n (pc := 0) hx hb dX0_error_0 rfl (lv_at hl 0 rfl) ?_
  refine va_get (pc := 1) (D := D) (ci := 0) (v := .ref er) (C := RX0) (T := TX0) (N := 4) hx hb hts in_X0 hown hK.1 hx0 0 rfl rfl 3 (by decide) (hts _ q181) (fun _ h9 => h9) rfl dX0_error_1 ?_
  refine lv_ldc (pc := 4) (v := (-2000000002)) hx hb hown (hts _ q206) dX0_error_4 ?_
  refine lv_iload_n (pc := 6) hx hb dX0_error_6 rfl (lv_at hl 1 rfl) ?_
  refine lv_isub (pc := 7) hx hb dX0_error_7 ?_
  refine lv_dup2_11 (pc := 8) hx hb dX0_error_8 rfl rfl ?_
  refine ia_ld (pc := 9) hx hb hK.1 hP 0 0 j rfl rfl hc hj (Nat.le_of_ble_eq_true rfl) dX0_error_9 ?_
  refine lv_iconst (pc := 10) (v := 1) hx hb dX0_error_10 (by decide) ?_
  refine lv_iadd (pc := 11) hx hb dX0_error_11 ?_
  refine lv_topi (fun z1 ez1 => ?_)
  refine ia_st (pc := 12) (f' := (upd ef j (ef j + 1))) hx hb hK.1 hP hD hS 0 0 j rfl rfl hc hj (Nat.le_of_ble_eq_true rfl) (fun _ _ => by rw [ez1]) dX0_error_12 (fun H locs hP hD hS => ?_)
  have hP : va_P D vwCl [(er, .inl (g 0, 3, .inl (upd ef j (ef j + 1))))] H := hP
  have hD : va_D (Aw [er] s.heap.size) [(er, .inl (g 0, 3, .inl (upd ef j (ef j + 1))))] := hD
  refine lv_iload_n (pc := 13) hx hb dX0_error_13 rfl (lv_at hl 1 rfl) ?_
  have hq9 : (fun r H1 => r = cd ∧ va_P D vwCl [(er, .inl (g 0, 3, .inl (upd ef j (ef j + 1))))] H1 : Int32 → Heap → Prop) cd H := ⟨rfl, hP⟩
  exact W.iret (v := cd) hx hb hr (fun t ht hW => ⟨⟨_, rfl, by rw [ht]; exact hq9⟩, hS.F ht⟩) hS.2.2 dX0_error_14

abbrev rm_m0_commit : Room := ({ frames := 2, cells := 0, slots := 0, locals := 39 })
set_option maxHeartbeats 4000000 in
set_option maxRecDepth 100000 in
theorem m0_commit (l : Launch) {D : va_G} {g : Nat → ClassId} (xo sv sa er rd cur nx np : Nat) (fs : Nat → Option Nat) (fc : List Value) (H : Heap) (hP : va_P D vwCl [(xo, .inr (0, [.ref cur, .ref sv, .ref rd, .ref er])), (sv, .inr (3, [.ref sa, .int (nI np)])), (sa, .inl (g 2, 4, .inr (.inr (.inr (.inr fs)))))] H) (hN : [xo, sv, sa].Nodup) (hcu : va_P D vwCl [(cur, .inr (1, fc))] H) (nhcu : cur ∉ [xo, sv, sa]) (hnp : np ≤ 4) (hel : ∀ i, i < np → ∀ y, fs i = some y → ∃ fs, va_P D vwCl [(y, .inr (1, fs))] H) : Met l yX0_commit (ws_ yX0_commit cX0_commit 2 none) rm_m0_commit (va_Pc [.ref xo, .ref nx] (PH D g H)) (QV (fun H1 => va_P D vwCl [(xo, .inr (0, [.ref nx, .ref sv, .ref rd, .ref er])), (sv, .inr (3, [.ref sa, .int (nI (addK 4 np))])), (sa, .inl (g 2, 4, .inr (.inr (.inr (.inr (addF 4 np fs cur))))))] H1) (Aw [xo, sv, sa] H.size)) 0 0 (Aw [xo, sv, sa] H.size) := by
  refine Met.ofW (cc := cX0_commit) (maxL := 2) (ret := none) (by decide) rfl ?_
  intro p e s m args below meth c s₁ B hml hv
  obtain ⟨rfl, hH, hK⟩ := hv
  subst hH
  have hx := B.exec
  have hb := B.bytes
  have hr := B.returns
  have hts := atoms_spec (ws := ws_ yX0_commit cX0_commit 2 none) B.pre
  have hts : ∀ w ∈ lw_all, w.before _ s = true := fun w h => hts w (List.mem_cons_of_mem _ h)
  have hown : s.vm.findClass RX0 = some m.cls := findClass_of_methodNamed B.named
  have hlocks := B.notSynchronized
  have hA : ∀ q, s.heap.size ≤ q → (Aw [xo, sv, sa] s.heap.size) q := fun q h => Or.inr h
  have hS : va_S (Aw [xo, sv, sa] s.heap.size) s.heap s.heap [] := va_S.rf
  have hD : va_D (Aw [xo, sv, sa] s.heap.size) [(xo, .inr (0, [.ref cur, .ref sv, .ref rd, .ref er])), (sv, .inr (3, [.ref sa, .int (nI np)])), (sa, .inl (g 2, 4, .inr (.inr (.inr (.inr fs)))))] := dOf hN (fun q h => Or.inl h)
  have ahcu : ¬ (Aw [xo, sv, sa] s.heap.size) cur := naw nhcu (hcu 0 _ rfl).lt
  have hl := lv_entry ([.ref xo, .ref nx]) (n := 2) (Nat.le_of_ble_eq_true rfl)
  rw [lg_entry_eq]
  generalize (lg_sl ([.ref xo, .ref nx]) ++ List.replicate (2 - (lg_sl ([.ref xo, .ref nx])).length) Slot.unset).toArray = ls at hl ⊢
  have hl : lv_has ls 2 [(0, .ref xo), (1, .ref nx)] := hl
  refine lv_aload_n (pc := 0) hx hb dX0_commit_0 rfl (lv_at hl 0 rfl) ?_
  refine va_get (pc := 1) (D := D) (ci := 0) (v := .ref sv) (C := RX0) (T := TX0) (N := 4) hx hb hts in_X0 hown hK.1 hP 0 rfl rfl 1 (by decide) (hts _ q179) (fun _ h9 => h9) rfl dX0_commit_1 ?_
  refine lv_aload_n (pc := 4) hx hb dX0_commit_4 rfl (lv_at hl 0 rfl) ?_
  refine va_get (pc := 5) (D := D) (ci := 0) (v := .ref cur) (C := RX0) (T := TX0) (N := 4) hx hb hts in_X0 hown hK.1 hP 0 rfl rfl 0 (by decide) (hts _ q178) (fun _ h9 => h9) rfl dX0_commit_5 ?_
  have hFc := awF (Lc := [sv, sa]) hD hS hA [1, 2] rfl
  refine kV (pc := 8) (va_runV (As := [.ref cur]) (rest := []) ⟨hx, hb, hml, hown, hts⟩ (m3_addS l sv sa cur np fs fc s.heap (hP.sub (ws' := [(sv, .inr (3, [.ref sa, .int (nI np)])), (sa, .inl (g 2, 4, .inr (.inr (.inr (.inr fs)))))]) [1, 2] rfl) (nodupW hD [1, 2] rfl (by decide)) hcu (ninL ahcu (fun q h => hFc q (Or.inl h))) hnp hel) (cwV 1 hts (lw_V q237 q238 q239 q24 q240) rfl rfl rfl (by decide +kernel) ⟨Nat.le_of_ble_eq_true rfl, Nat.le_of_ble_eq_true rfl⟩) (preV hK (rcv hK hP 1 rfl rfl)) rfl rfl hl.1 rfl (lv_room (Nat.le_of_ble_eq_true rfl)) dX0_commit_8 ⟨Nat.le_of_ble_eq_true rfl, Nat.le_of_ble_eq_true rfl⟩) hS hFc (fun H locs hp9 hz1 hk1 hS => ?_)
  have hP1 := hp9
  obtain ⟨hP, hD⟩ := jn (wr := [(xo, .inr (0, [.ref cur, .ref sv, .ref rd, .ref er]))]) (w1 := [(sv, .inr (3, [.ref sa, .int (nI (addK 4 np))])), (sa, .inl (g 2, 4, .inr (.inr (.inr (.inr (addF 4 np fs cur))))))]) hP hD [1, 2] [0] rfl rfl (by decide) (by decide) hk1 hFc hP1 (dOf (nodupW hD [1, 2] rfl (by decide)) (fun q h => Or.inl h))
  have hP : va_P D vwCl [(xo, .inr (0, [.ref cur, .ref sv, .ref rd, .ref er])), (sv, .inr (3, [.ref sa, .int (nI (addK 4 np))])), (sa, .inl (g 2, 4, .inr (.inr (.inr (.inr (addF 4 np fs cur))))))] H := hP
  have hD : va_D (Aw [xo, sv, sa] s.heap.size) [(xo, .inr (0, [.ref cur, .ref sv, .ref rd, .ref er])), (sv, .inr (3, [.ref sa, .int (nI (addK 4 np))])), (sa, .inl (g 2, 4, .inr (.inr (.inr (.inr (addF 4 np fs cur))))))] := hD
  refine lv_aload_n (pc := 11) hx hb dX0_commit_11 rfl (lv_at hl 0 rfl) ?_
  refine lv_aload_n (pc := 12) hx hb dX0_commit_12 rfl (lv_at hl 1 rfl) ?_
  refine va_put (pc := 13) (D := D) (ci := 0) (v := .ref nx) (ty := .object "TankFilter$State") (C := RX0) (T := TX0) (N := 4) hx hb hts in_X0 tyX0 tyX0_ok nmX0 hown hK.1 hP hD hS 0 rfl rfl 0 (by decide) (hts _ q178) (fun _ h9 => h9) rfl (by decide +kernel) rfl rfl (Nat.le_of_ble_eq_true rfl) dX0_commit_13 (fun H locs hP hD hS => ?_)
  have hP : va_P D vwCl [(xo, .inr (0, [.ref nx, .ref sv, .ref rd, .ref er])), (sv, .inr (3, [.ref sa, .int (nI (addK 4 np))])), (sa, .inl (g 2, 4, .inr (.inr (.inr (.inr (addF 4 np fs cur))))))] H := hP
  have hD : va_D (Aw [xo, sv, sa] s.heap.size) [(xo, .inr (0, [.ref nx, .ref sv, .ref rd, .ref er])), (sv, .inr (3, [.ref sa, .int (nI (addK 4 np))])), (sa, .inl (g 2, 4, .inr (.inr (.inr (.inr (addF 4 np fs cur))))))] := hD
  have hq9 : (fun H1 => va_P D vwCl [(xo, .inr (0, [.ref nx, .ref sv, .ref rd, .ref er])), (sv, .inr (3, [.ref sa, .int (nI (addK 4 np))])), (sa, .inl (g 2, 4, .inr (.inr (.inr (.inr (addF 4 np fs cur))))))] H1 : Heap → Prop) H := hP.sub [0, 1, 2] rfl
  exact W.vret hx hb hr (fun t ht hW => ⟨⟨rfl, by rw [ht]; exact hq9⟩, hS.F ht⟩) hS.2.2 dX0_commit_16

abbrev rm_m0_change : Room := ({ frames := 4, cells := 6, slots := 49, locals := 75 })
set_option maxHeartbeats 4000000 in
set_option maxRecDepth 100000 in
/-- change() -/
theorem m0_change (l : Launch) {D : va_G} {g : Nat → ClassId} (xo sv sa er rd cur np : Nat) (fs : Nat → Option Nat) (f : Nat → Int32) (pf : Nat → Nat → Int32) (M : Nat → Prop) (qe qs qh qa k : Nat) (gs ge : Nat → Option Nat) (H : Heap) (hP : va_P D vwCl [(xo, .inr (0, [.ref cur, .ref sv, .ref rd, .ref er])), (sv, .inr (3, [.ref sa, .int (nI np)])), (sa, .inl (g 2, 4, .inr (.inr (.inr (.inr fs)))))] H) (hN : [xo, sv, sa].Nodup) (hs0 : va_P D vwCl [(cur, .inr (1, [.ref qe, .int (f 5), .int (f 6), .ref qs, .int (f 7), .ref qh, .int (f 19), .int (f 20), .int (f 21)]))] H) (nhs0 : cur ∉ [xo, sv, sa]) (hs1 : va_P D vwCl [(qe, .inr (2, [.int (f 0), .int (f 1), .int (f 2), .int (f 3), .int (f 4), .int (f 16), .int (f 17), .int (f 18)]))] H) (nhs1 : qe ∉ [xo, sv, sa]) (hs2 : va_P D vwCl [(qs, .inl (g 4, 4, .inr (.inr (.inr (.inr gs)))))] H) (nhs2 : qs ∉ [xo, sv, sa]) (hs3 : va_P D vwCl [(qh, .inr (3, [.ref qa, .int (nI k)]))] H) (nhs3 : qh ∉ [xo, sv, sa]) (hs4 : va_P D vwCl [(qa, .inl (g 3, 24, .inr (.inr (.inr (.inr ge)))))] H) (nhs4 : qa ∉ [xo, sv, sa]) (hM : M xo ∧ M sv ∧ M sa ∧ M er) (hsv : SvAt D g M H np fs pf) (hnp : np ≤ 4) (hk : k ≤ 24) (hsn : SnAt D M H gs f) (hev : EvAt D M H ge k f) : Met l yX0_change (ws_ yX0_change cX0_change 1 (some (.object "TankFilter$State"))) rm_m0_change (va_Pc [.ref xo] (PH D g H)) (QR (fun r H1 => ∃ (ze zs zh zb : Nat) (ws9 : Nat → Option Nat), va_P D vwCl [(xo, .inr (0, [.ref r, .ref sv, .ref rd, .ref er])), (sv, .inr (3, [.ref sa, .int (nI (addK 4 np))])), (sa, .inl (g 2, 4, .inr (.inr (.inr (.inr (addF 4 np fs cur)))))), (r, .inr (1, [.ref ze, .int (f 5), .int (f 6), .ref zs, .int (f 7), .ref zh, .int (f 19), .int (f 20), .int (f 21)])), (ze, .inr (2, [.int (f 0), .int (f 1), .int (f 2), .int (f 3), .int (f 4), .int (f 16), .int (f 17), .int (f 18)])), (zs, .inl (g 4, 4, .inr (.inr (.inr (.inr (cpyF 4 gs ws9)))))), (zh, .inr (3, [.ref zb, .int (nI k)])), (zb, .inl (g 3, 24, .inr (.inr (.inr (.inr (cpyF k ge (fun _ => none)))))))] H1 ∧ va_D (Aw [xo, sv, sa] H.size) [(xo, .inr (0, [.ref r, .ref sv, .ref rd, .ref er])), (sv, .inr (3, [.ref sa, .int (nI (addK 4 np))])), (sa, .inl (g 2, 4, .inr (.inr (.inr (.inr (addF 4 np fs cur)))))), (r, .inr (1, [.ref ze, .int (f 5), .int (f 6), .ref zs, .int (f 7), .ref zh, .int (f 19), .int (f 20), .int (f 21)])), (ze, .inr (2, [.int (f 0), .int (f 1), .int (f 2), .int (f 3), .int (f 4), .int (f 16), .int (f 17), .int (f 18)])), (zs, .inl (g 4, 4, .inr (.inr (.inr (.inr (cpyF 4 gs ws9)))))), (zh, .inr (3, [.ref zb, .int (nI k)])), (zb, .inl (g 3, 24, .inr (.inr (.inr (.inr (cpyF k ge (fun _ => none)))))))]) (Aw [xo, sv, sa] H.size)) 6 49 (Aw [xo, sv, sa] H.size) := by
  refine Met.ofW (cc := cX0_change) (maxL := 1) (ret := (some (.object "TankFilter$State"))) (by decide) rfl ?_
  intro p e s m args below meth c s₁ B hml hv
  obtain ⟨rfl, hH, hK⟩ := hv
  subst hH
  have hx := B.exec
  have hb := B.bytes
  have hr := B.returns
  have hts := atoms_spec (ws := ws_ yX0_change cX0_change 1 (some (.object "TankFilter$State"))) B.pre
  have hts : ∀ w ∈ lw_all, w.before _ s = true := fun w h => hts w (List.mem_cons_of_mem _ h)
  have hown : s.vm.findClass RX0 = some m.cls := findClass_of_methodNamed B.named
  have hlocks := B.notSynchronized
  have hA : ∀ q, s.heap.size ≤ q → (Aw [xo, sv, sa] s.heap.size) q := fun q h => Or.inr h
  have hS : va_S (Aw [xo, sv, sa] s.heap.size) s.heap s.heap [] := va_S.rf
  have hD : va_D (Aw [xo, sv, sa] s.heap.size) [(xo, .inr (0, [.ref cur, .ref sv, .ref rd, .ref er])), (sv, .inr (3, [.ref sa, .int (nI np)])), (sa, .inl (g 2, 4, .inr (.inr (.inr (.inr fs)))))] := dOf hN (fun q h => Or.inl h)
  have ahs0 : ¬ (Aw [xo, sv, sa] s.heap.size) cur := naw nhs0 (hs0 0 _ rfl).lt
  have ahs1 : ¬ (Aw [xo, sv, sa] s.heap.size) qe := naw nhs1 (hs1 0 _ rfl).lt
  have ahs2 : ¬ (Aw [xo, sv, sa] s.heap.size) qs := naw nhs2 (hs2 0 _ rfl).lt
  have ahs3 : ¬ (Aw [xo, sv, sa] s.heap.size) qh := naw nhs3 (hs3 0 _ rfl).lt
  have ahs4 : ¬ (Aw [xo, sv, sa] s.heap.size) qa := naw nhs4 (hs4 0 _ rfl).lt
  have hl := lv_entry ([.ref xo]) (n := 1) (Nat.le_of_ble_eq_true rfl)
  rw [lg_entry_eq]
  generalize (lg_sl ([.ref xo]) ++ List.replicate (1 - (lg_sl ([.ref xo])).length) Slot.unset).toArray = ls at hl ⊢
  have hl : lv_has ls 1 [(0, .ref xo)] := hl
  have hMA : ∀ q, q < s.heap.size → ¬ M q → ¬ (Aw [xo, sv, sa] s.heap.size) q := fun q h1 h2 => naw (nin3 hM h2) h1
  refine lv_aload_n (pc := 0) hx hb dX0_change_0 rfl (lv_at hl 0 rfl) ?_
  refine lv_aload_n (pc := 1) hx hb dX0_change_1 rfl (lv_at hl 0 rfl) ?_
  refine va_get (pc := 2) (D := D) (ci := 0) (v := .ref cur) (C := RX0) (T := TX0) (N := 4) hx hb hts in_X0 hown hK.1 hP 0 rfl rfl 0 (by decide) (hts _ q178) (fun _ h9 => h9) rfl dX0_change_2 ?_
  have hFc := awF (Lc := []) hD hS hA [] rfl
  refine kR (pc := 5) (va_runV (As := []) (rest := [.ref xo]) ⟨hx, hb, hml, hown, hts⟩ (m1_copy l cur qe qs qh qa k gs ge f M s.heap hs0 hs1 hs2 hs3 hs4 hk hsn hev) (cwV 0 hts (lw_V q215 q216 q217 q22 q218) rfl rfl rfl (by decide +kernel) ⟨Nat.le_of_ble_eq_true rfl, Nat.le_of_ble_eq_true rfl⟩) (preV hK (rcv hK hs0 0 rfl rfl)) rfl rfl hl.1 rfl (lv_room (Nat.le_of_ble_eq_true rfl)) dX0_change_5 ⟨Nat.le_of_ble_eq_true rfl, Nat.le_of_ble_eq_true rfl⟩) hS (fun q h => hA q (Nat.le_trans hS.1 h)) (fun r1 H locs hp9 hz1 hk1 hS => ?_)
  obtain ⟨ze, zs, zh, zb, ws9, hP1, hD1⟩ := hp9
  obtain ⟨hP, hD⟩ := jn (wr := [(xo, .inr (0, [.ref cur, .ref sv, .ref rd, .ref er])), (sv, .inr (3, [.ref sa, .int (nI np)])), (sa, .inl (g 2, 4, .inr (.inr (.inr (.inr fs)))))]) (w1 := [(r1, .inr (1, [.ref ze, .int (f 5), .int (f 6), .ref zs, .int (f 7), .ref zh, .int (f 19), .int (f 20), .int (f 21)])), (ze, .inr (2, [.int (f 0), .int (f 1), .int (f 2), .int (f 3), .int (f 4), .int (f 16), .int (f 17), .int (f 18)])), (zs, .inl (g 4, 4, .inr (.inr (.inr (.inr (cpyF 4 gs ws9)))))), (zh, .inr (3, [.ref zb, .int (nI k)])), (zb, .inl (g 3, 24, .inr (.inr (.inr (.inr (cpyF k ge (fun _ => none)))))))]) hP hD [] [0, 1, 2] rfl rfl (by decide) (by decide) (fun q h1 h2 => hk1 q h1 (fun h => h2 (Or.inr h))) hFc hP1 (hD1.weaken (fun _ _ _ h => Or.inr h))
  have hP : va_P D vwCl [(xo, .inr (0, [.ref cur, .ref sv, .ref rd, .ref er])), (sv, .inr (3, [.ref sa, .int (nI np)])), (sa, .inl (g 2, 4, .inr (.inr (.inr (.inr fs))))), (r1, .inr (1, [.ref ze, .int (f 5), .int (f 6), .ref zs, .int (f 7), .ref zh, .int (f 19), .int (f 20), .int (f 21)])), (ze, .inr (2, [.int (f 0), .int (f 1), .int (f 2), .int (f 3), .int (f 4), .int (f 16), .int (f 17), .int (f 18)])), (zs, .inl (g 4, 4, .inr (.inr (.inr (.inr (cpyF 4 gs ws9)))))), (zh, .inr (3, [.ref zb, .int (nI k)])), (zb, .inl (g 3, 24, .inr (.inr (.inr (.inr (cpyF k ge (fun _ => none)))))))] H := hP
  have hD : va_D (Aw [xo, sv, sa] s.heap.size) [(xo, .inr (0, [.ref cur, .ref sv, .ref rd, .ref er])), (sv, .inr (3, [.ref sa, .int (nI np)])), (sa, .inl (g 2, 4, .inr (.inr (.inr (.inr fs))))), (r1, .inr (1, [.ref ze, .int (f 5), .int (f 6), .ref zs, .int (f 7), .ref zh, .int (f 19), .int (f 20), .int (f 21)])), (ze, .inr (2, [.int (f 0), .int (f 1), .int (f 2), .int (f 3), .int (f 4), .int (f 16), .int (f 17), .int (f 18)])), (zs, .inl (g 4, 4, .inr (.inr (.inr (.inr (cpyF 4 gs ws9)))))), (zh, .inr (3, [.ref zb, .int (nI k)])), (zb, .inl (g 3, 24, .inr (.inr (.inr (.inr (cpyF k ge (fun _ => none)))))))] := hD
  have hFc := awF (Lc := [xo, sv, sa]) hD hS hA [0, 1, 2] rfl
  refine kV (pc := 8) (va_runV (As := [.ref r1]) (rest := []) ⟨hx, hb, hml, hown, hts⟩ (m0_commit l xo sv sa er rd cur r1 np fs [.ref qe, .int (f 5), .int (f 6), .ref qs, .int (f 7), .ref qh, .int (f 19), .int (f 20), .int (f 21)] H (hP.sub (ws' := [(xo, .inr (0, [.ref cur, .ref sv, .ref rd, .ref er])), (sv, .inr (3, [.ref sa, .int (nI np)])), (sa, .inl (g 2, 4, .inr (.inr (.inr (.inr fs)))))]) [0, 1, 2] rfl) (nodupW hD [0, 1, 2] rfl (by decide)) (ro_at hS hs0 ahs0) (ninL ahs0 (fun q h => hFc q (Or.inl h))) hnp (hsv.kept (fun q h1 h2 => hS.2.1 q h1 (hMA q h1 h2))).el) (cwV 1 hts (lw_V q233 q235 qs2 q21 q236) rfl rfl rfl (by decide +kernel) ⟨Nat.le_of_ble_eq_true rfl, Nat.le_of_ble_eq_true rfl⟩) (preV hK (rcv hK hP 0 rfl rfl)) rfl rfl hl.1 rfl (lv_room (Nat.le_of_ble_eq_true rfl)) dX0_change_8 ⟨Nat.le_of_ble_eq_true rfl, Nat.le_of_ble_eq_true rfl⟩) hS hFc (fun H locs hp9 hz1 hk1 hS => ?_)
  have hP1 := hp9
  obtain ⟨hP, hD⟩ := jn (wr := [(r1, .inr (1, [.ref ze, .int (f 5), .int (f 6), .ref zs, .int (f 7), .ref zh, .int (f 19), .int (f 20), .int (f 21)])), (ze, .inr (2, [.int (f 0), .int (f 1), .int (f 2), .int (f 3), .int (f 4), .int (f 16), .int (f 17), .int (f 18)])), (zs, .inl (g 4, 4, .inr (.inr (.inr (.inr (cpyF 4 gs ws9)))))), (zh, .inr (3, [.ref zb, .int (nI k)])), (zb, .inl (g 3, 24, .inr (.inr (.inr (.inr (cpyF k ge (fun _ => none)))))))]) (w1 := [(xo, .inr (0, [.ref r1, .ref sv, .ref rd, .ref er])), (sv, .inr (3, [.ref sa, .int (nI (addK 4 np))])), (sa, .inl (g 2, 4, .inr (.inr (.inr (.inr (addF 4 np fs cur))))))]) hP hD [0, 1, 2] [3, 4, 5, 6, 7] rfl rfl (by decide) (by decide) hk1 hFc hP1 (dOf (nodupW hD [0, 1, 2] rfl (by decide)) (fun q h => Or.inl h))
  have hP : va_P D vwCl [(r1, .inr (1, [.ref ze, .int (f 5), .int (f 6), .ref zs, .int (f 7), .ref zh, .int (f 19), .int (f 20), .int (f 21)])), (ze, .inr (2, [.int (f 0), .int (f 1), .int (f 2), .int (f 3), .int (f 4), .int (f 16), .int (f 17), .int (f 18)])), (zs, .inl (g 4, 4, .inr (.inr (.inr (.inr (cpyF 4 gs ws9)))))), (zh, .inr (3, [.ref zb, .int (nI k)])), (zb, .inl (g 3, 24, .inr (.inr (.inr (.inr (cpyF k ge (fun _ => none))))))), (xo, .inr (0, [.ref r1, .ref sv, .ref rd, .ref er])), (sv, .inr (3, [.ref sa, .int (nI (addK 4 np))])), (sa, .inl (g 2, 4, .inr (.inr (.inr (.inr (addF 4 np fs cur))))))] H := hP
  have hD : va_D (Aw [xo, sv, sa] s.heap.size) [(r1, .inr (1, [.ref ze, .int (f 5), .int (f 6), .ref zs, .int (f 7), .ref zh, .int (f 19), .int (f 20), .int (f 21)])), (ze, .inr (2, [.int (f 0), .int (f 1), .int (f 2), .int (f 3), .int (f 4), .int (f 16), .int (f 17), .int (f 18)])), (zs, .inl (g 4, 4, .inr (.inr (.inr (.inr (cpyF 4 gs ws9)))))), (zh, .inr (3, [.ref zb, .int (nI k)])), (zb, .inl (g 3, 24, .inr (.inr (.inr (.inr (cpyF k ge (fun _ => none))))))), (xo, .inr (0, [.ref r1, .ref sv, .ref rd, .ref er])), (sv, .inr (3, [.ref sa, .int (nI (addK 4 np))])), (sa, .inl (g 2, 4, .inr (.inr (.inr (.inr (addF 4 np fs cur))))))] := hD
  refine lv_aload_n (pc := 11) hx hb dX0_change_11 rfl (lv_at hl 0 rfl) ?_
  refine va_get (pc := 12) (D := D) (ci := 0) (v := .ref r1) (C := RX0) (T := TX0) (N := 4) hx hb hts in_X0 hown hK.1 hP 5 rfl rfl 0 (by decide) (hts _ q178) (fun _ h9 => h9) rfl dX0_change_12 ?_
  have hq9 : (fun r H1 => ∃ (ze zs zh zb : Nat) (ws9 : Nat → Option Nat), va_P D vwCl [(xo, .inr (0, [.ref r, .ref sv, .ref rd, .ref er])), (sv, .inr (3, [.ref sa, .int (nI (addK 4 np))])), (sa, .inl (g 2, 4, .inr (.inr (.inr (.inr (addF 4 np fs cur)))))), (r, .inr (1, [.ref ze, .int (f 5), .int (f 6), .ref zs, .int (f 7), .ref zh, .int (f 19), .int (f 20), .int (f 21)])), (ze, .inr (2, [.int (f 0), .int (f 1), .int (f 2), .int (f 3), .int (f 4), .int (f 16), .int (f 17), .int (f 18)])), (zs, .inl (g 4, 4, .inr (.inr (.inr (.inr (cpyF 4 gs ws9)))))), (zh, .inr (3, [.ref zb, .int (nI k)])), (zb, .inl (g 3, 24, .inr (.inr (.inr (.inr (cpyF k ge (fun _ => none)))))))] H1 ∧ va_D (Aw [xo, sv, sa] s.heap.size) [(xo, .inr (0, [.ref r, .ref sv, .ref rd, .ref er])), (sv, .inr (3, [.ref sa, .int (nI (addK 4 np))])), (sa, .inl (g 2, 4, .inr (.inr (.inr (.inr (addF 4 np fs cur)))))), (r, .inr (1, [.ref ze, .int (f 5), .int (f 6), .ref zs, .int (f 7), .ref zh, .int (f 19), .int (f 20), .int (f 21)])), (ze, .inr (2, [.int (f 0), .int (f 1), .int (f 2), .int (f 3), .int (f 4), .int (f 16), .int (f 17), .int (f 18)])), (zs, .inl (g 4, 4, .inr (.inr (.inr (.inr (cpyF 4 gs ws9)))))), (zh, .inr (3, [.ref zb, .int (nI k)])), (zb, .inl (g 3, 24, .inr (.inr (.inr (.inr (cpyF k ge (fun _ => none)))))))] : Nat → Heap → Prop) r1 H := ⟨ze, zs, zh, zb, ws9, hP.sub [5, 6, 7, 0, 1, 2, 3, 4] rfl, hD.sub [5, 6, 7, 0, 1, 2, 3, 4] (by decide) rfl⟩
  exact W.aret (v := .ref r1) hx hb hr (Or.inl ⟨_, rfl⟩) (Or.inr ⟨_, rfl⟩) (fun t ht hW => ⟨⟨_, rfl, by rw [ht]; exact hq9⟩, hS.F ht⟩) hS.2.2 dX0_change_15
