abbrev rm_m_floorDiv : Room := ({ frames := 0, cells := 0, slots := 0, locals := 0 })
set_option maxHeartbeats 4000000 in
set_option maxRecDepth 100000 in
theorem m_floorDiv (l : Launch) {D : va_G} {g : Nat → ClassId} (a b : Int64) (H : Heap) (hb0 : ¬ b = 0) : Met l yJ3_floorDiv (ws_ yJ3_floorDiv cJ3_floorDiv 6 (some .long)) rm_m_floorDiv (va_Pc [.long a, .long b] (PH D g H)) (QL (fun r H1 => H1 = H ∧ r = fdv a b) (fun _ => False)) 0 0 (fun _ => False) := by
  refine hm_ofF (cc := cJ3_floorDiv) (maxL := 6) (ret := (some .long)) pl_floorDiv rfl ?_
  intro p e s m args below meth c s₁ B hml hv
  obtain ⟨rfl, hH, hK⟩ := hv
  subst hH
  have hx := B.exec
  have hb := B.bytes
  have hr := B.returns
  have hts := atoms_spec (ws := ws_ yJ3_floorDiv cJ3_floorDiv 6 (some .long)) B.pre
  have hts : ∀ w ∈ lw_all, w.before _ s = true := fun w h => hts w (List.mem_cons_of_mem _ h)
  have hown : s.vm.findClass RJ3 = some m.cls := findClass_of_methodNamed B.named
  have hlocks := B.notSynchronized
  have hS : va_S (fun _ => False) s.heap s.heap [] := va_S.rf
  have hl := lv_entry ([.long a, .long b]) (n := 6) (Nat.le_of_ble_eq_true rfl)
  rw [lg_entry_eq]
  generalize (lg_sl ([.long a, .long b]) ++ List.replicate (6 - (lg_sl ([.long a, .long b])).length) Slot.unset).toArray = ls at hl ⊢
  have hl : lv_has ls 6 [(0, .long a), (2, .long b)] := hl
  refine lv_lload_n (pc := 0) hx hb dJ3_floorDiv_0 rfl (lv_at hl 0 rfl) ?_
  refine lv_lload_n (pc := 1) hx hb dJ3_floorDiv_1 rfl (lv_at hl 1 rfl) ?_
  refine lv_ldiv (pc := 2) hx hb dJ3_floorDiv_2 hb0 ?_
  refine lv_topl (fun z1 ez1 => ?_)
  refine lv_lstore (pc := 3) (lv' := [(4, .long z1), (0, .long a), (2, .long b)]) hx hb dJ3_floorDiv_3 hl (by decide) rfl (fun ls hl => ?_)
  refine lv_lload_n (pc := 5) hx hb dJ3_floorDiv_5 rfl (lv_at hl 1 rfl) ?_
  refine lv_lload_n (pc := 6) hx hb dJ3_floorDiv_6 rfl (lv_at hl 2 rfl) ?_
  refine lv_lxor (pc := 7) hx hb dJ3_floorDiv_7 ?_
  refine lv_lconst (pc := 8) (v := 0) hx hb dJ3_floorDiv_8 rfl ?_
  refine lq_ge (pc := 9) (tgt := 27) hx hb dJ3_floorDiv_9 dJ3_floorDiv_10 (by decide) (fun cd2 => ?_) (fun cd2 => ?_)
  · refine lv_lload (pc := 27) hx hb dJ3_floorDiv_27 (lv_at hl 0 rfl) ?_
    have hq9 : (fun r H1 => H1 = s.heap ∧ r = fdv a b : Int64 → Heap → Prop) z1 s.heap := ⟨rfl, by rw [ez1]; unfold fdv; rw [if_pos cd2]⟩
    exact W.lret (v := z1) hx hb hr (fun t ht hW => ⟨⟨_, rfl, by rw [ht]; exact hq9⟩, hS.F ht⟩) hS.2.2 dJ3_floorDiv_29
  · refine lv_lload (pc := 13) hx hb dJ3_floorDiv_13 (lv_at hl 0 rfl) ?_
    refine lv_lload_n (pc := 15) hx hb dJ3_floorDiv_15 rfl (lv_at hl 2 rfl) ?_
    refine lv_lmul (pc := 16) hx hb dJ3_floorDiv_16 ?_
    refine lv_lload_n (pc := 17) hx hb dJ3_floorDiv_17 rfl (lv_at hl 1 rfl) ?_
    refine lq_eq (pc := 18) (tgt := 27) hx hb dJ3_floorDiv_18 dJ3_floorDiv_19 (by decide) (fun cd3 => ?_) (fun cd3 => ?_)
    · refine lv_lload (pc := 27) hx hb dJ3_floorDiv_27 (lv_at hl 0 rfl) ?_
      have hq9 : (fun r H1 => H1 = s.heap ∧ r = fdv a b : Int64 → Heap → Prop) z1 s.heap := ⟨rfl, by rw [ez1] at cd3 ⊢; unfold fdv; rw [if_neg cd2, if_pos cd3]⟩
      exact W.lret (v := z1) hx hb hr (fun t ht hW => ⟨⟨_, rfl, by rw [ht]; exact hq9⟩, hS.F ht⟩) hS.2.2 dJ3_floorDiv_29
    · refine lv_lload (pc := 22) hx hb dJ3_floorDiv_22 (lv_at hl 0 rfl) ?_
      refine lv_lconst (pc := 24) (v := 1) hx hb dJ3_floorDiv_24 rfl ?_
      refine lv_lsub (pc := 25) hx hb dJ3_floorDiv_25 ?_
      have hq9 : (fun r H1 => H1 = s.heap ∧ r = fdv a b : Int64 → Heap → Prop) (z1 - 1) s.heap := ⟨rfl, by rw [ez1] at cd3 ⊢; unfold fdv; rw [if_neg cd2, if_neg cd3]⟩
      exact W.lret (v := z1 - 1) hx hb hr (fun t ht hW => ⟨⟨_, rfl, by rw [ht]; exact hq9⟩, hS.F ht⟩) hS.2.2 dJ3_floorDiv_26

abbrev rm_m_max : Room := ({ frames := 0, cells := 0, slots := 0, locals := 0 })
set_option maxHeartbeats 4000000 in
set_option maxRecDepth 100000 in
theorem m_max (l : Launch) {D : va_G} {g : Nat → ClassId} (a b : Int64) (H : Heap) : Met l yJ3_max (ws_ yJ3_max cJ3_max 4 (some .long)) rm_m_max (va_Pc [.long a, .long b] (PH D g H)) (QL (fun r H1 => H1 = H ∧ r = if a < b then b else a) (fun _ => False)) 0 0 (fun _ => False) := by
  refine hm_ofF (cc := cJ3_max) (maxL := 4) (ret := (some .long)) pl_max rfl ?_
  intro p e s m args below meth c s₁ B hml hv
  obtain ⟨rfl, hH, hK⟩ := hv
  subst hH
  have hx := B.exec
  have hb := B.bytes
  have hr := B.returns
  have hts := atoms_spec (ws := ws_ yJ3_max cJ3_max 4 (some .long)) B.pre
  have hts : ∀ w ∈ lw_all, w.before _ s = true := fun w h => hts w (List.mem_cons_of_mem _ h)
  have hown : s.vm.findClass RJ3 = some m.cls := findClass_of_methodNamed B.named
  have hlocks := B.notSynchronized
  have hS : va_S (fun _ => False) s.heap s.heap [] := va_S.rf
  have hl := lv_entry ([.long a, .long b]) (n := 4) (Nat.le_of_ble_eq_true rfl)
  rw [lg_entry_eq]
  generalize (lg_sl ([.long a, .long b]) ++ List.replicate (4 - (lg_sl ([.long a, .long b])).length) Slot.unset).toArray = ls at hl ⊢
  have hl : lv_has ls 4 [(0, .long a), (2, .long b)] := hl
  refine lv_lload_n (pc := 0) hx hb dJ3_max_0 rfl (lv_at hl 0 rfl) ?_
  refine lv_lload_n (pc := 1) hx hb dJ3_max_1 rfl (lv_at hl 1 rfl) ?_
  refine lq_lt (pc := 2) (tgt := 10) hx hb dJ3_max_2 dJ3_max_3 (by decide) (fun cd1 => ?_) (fun cd1 => ?_)
  · refine lv_lload_n (pc := 10) hx hb dJ3_max_10 rfl (lv_at hl 1 rfl) ?_
    have hq9 : (fun r H1 => H1 = s.heap ∧ r = if a < b then b else a : Int64 → Heap → Prop) b s.heap := ⟨rfl, by rw [if_pos cd1]⟩
    exact W.lret (v := b) hx hb hr (fun t ht hW => ⟨⟨_, rfl, by rw [ht]; exact hq9⟩, hS.F ht⟩) hS.2.2 dJ3_max_11
  · refine lv_lload_n (pc := 6) hx hb dJ3_max_6 rfl (lv_at hl 0 rfl) ?_
    refine lv_goto (pc := 7) (tgt := 11) hx hb dJ3_max_7 (by decide) ?_
    have hq9 : (fun r H1 => H1 = s.heap ∧ r = if a < b then b else a : Int64 → Heap → Prop) a s.heap := ⟨rfl, by rw [if_neg cd1]⟩
    exact W.lret (v := a) hx hb hr (fun t ht hW => ⟨⟨_, rfl, by rw [ht]; exact hq9⟩, hS.F ht⟩) hS.2.2 dJ3_max_11

abbrev rm_m_abs : Room := ({ frames := 0, cells := 0, slots := 0, locals := 0 })
set_option maxHeartbeats 4000000 in
set_option maxRecDepth 100000 in
theorem m_abs (l : Launch) {D : va_G} {g : Nat → ClassId} (a : Int64) (H : Heap) : Met l yJ3_abs (ws_ yJ3_abs cJ3_abs 2 (some .long)) rm_m_abs (va_Pc [.long a] (PH D g H)) (QL (fun r H1 => H1 = H ∧ r = if 0 ≤ a then a else -a) (fun _ => False)) 0 0 (fun _ => False) := by
  refine hm_ofF (cc := cJ3_abs) (maxL := 2) (ret := (some .long)) pl_abs rfl ?_
  intro p e s m args below meth c s₁ B hml hv
  obtain ⟨rfl, hH, hK⟩ := hv
  subst hH
  have hx := B.exec
  have hb := B.bytes
  have hr := B.returns
  have hts := atoms_spec (ws := ws_ yJ3_abs cJ3_abs 2 (some .long)) B.pre
  have hts : ∀ w ∈ lw_all, w.before _ s = true := fun w h => hts w (List.mem_cons_of_mem _ h)
  have hown : s.vm.findClass RJ3 = some m.cls := findClass_of_methodNamed B.named
  have hlocks := B.notSynchronized
  have hS : va_S (fun _ => False) s.heap s.heap [] := va_S.rf
  have hl := lv_entry ([.long a]) (n := 2) (Nat.le_of_ble_eq_true rfl)
  rw [lg_entry_eq]
  generalize (lg_sl ([.long a]) ++ List.replicate (2 - (lg_sl ([.long a])).length) Slot.unset).toArray = ls at hl ⊢
  have hl : lv_has ls 2 [(0, .long a)] := hl
  refine lv_lload_n (pc := 0) hx hb dJ3_abs_0 rfl (lv_at hl 0 rfl) ?_
  refine lv_lconst (pc := 1) (v := 0) hx hb dJ3_abs_1 rfl ?_
  refine lq_ge (pc := 2) (tgt := 11) hx hb dJ3_abs_2 dJ3_abs_3 (by decide) (fun cd1 => ?_) (fun cd1 => ?_)
  · refine lv_lload_n (pc := 11) hx hb dJ3_abs_11 rfl (lv_at hl 0 rfl) ?_
    have hq9 : (fun r H1 => H1 = s.heap ∧ r = if 0 ≤ a then a else -a : Int64 → Heap → Prop) a s.heap := ⟨rfl, by rw [if_pos cd1]⟩
    exact W.lret (v := a) hx hb hr (fun t ht hW => ⟨⟨_, rfl, by rw [ht]; exact hq9⟩, hS.F ht⟩) hS.2.2 dJ3_abs_12
  · refine lv_lload_n (pc := 6) hx hb dJ3_abs_6 rfl (lv_at hl 0 rfl) ?_
    refine lv_lneg (pc := 7) hx hb dJ3_abs_7 ?_
    refine lv_goto (pc := 8) (tgt := 12) hx hb dJ3_abs_8 (by decide) ?_
    have hq9 : (fun r H1 => H1 = s.heap ∧ r = if 0 ≤ a then a else -a : Int64 → Heap → Prop) (-a) s.heap := ⟨rfl, by rw [if_neg cd1]⟩
    exact W.lret (v := -a) hx hb hr (fun t ht hW => ⟨⟨_, rfl, by rw [ht]; exact hq9⟩, hS.F ht⟩) hS.2.2 dJ3_abs_12

abbrev rm_m_inRange : Room := ({ frames := 0, cells := 0, slots := 0, locals := 0 })
set_option maxHeartbeats 4000000 in
set_option maxRecDepth 100000 in
theorem m_inRange (l : Launch) {D : va_G} {g : Nat → ClassId} (a b d : Int64) (H : Heap) : Met l yX0_inRange (ws_ yX0_inRange cX0_inRange 6 (some .boolean)) rm_m_inRange (va_Pc [.long a, .long b, .long d] (PH D g H)) (QI (fun r H1 => H1 = H ∧ r = bI (b ≤ a ∧ a ≤ d)) (fun _ => False)) 0 0 (fun _ => False) := by
  refine Met.ofW (cc := cX0_inRange) (maxL := 6) (ret := (some .boolean)) (by decide) rfl ?_
  intro p e s m args below meth c s₁ B hml hv
  obtain ⟨rfl, hH, hK⟩ := hv
  subst hH
  have hx := B.exec
  have hb := B.bytes
  have hr := B.returns
  have hts := atoms_spec (ws := ws_ yX0_inRange cX0_inRange 6 (some .boolean)) B.pre
  have hts : ∀ w ∈ lw_all, w.before _ s = true := fun w h => hts w (List.mem_cons_of_mem _ h)
  have hown : s.vm.findClass RX0 = some m.cls := findClass_of_methodNamed B.named
  have hlocks := B.notSynchronized
  have hS : va_S (fun _ => False) s.heap s.heap [] := va_S.rf
  have hl := lv_entry ([.long a, .long b, .long d]) (n := 6) (Nat.le_of_ble_eq_true rfl)
  rw [lg_entry_eq]
  generalize (lg_sl ([.long a, .long b, .long d]) ++ List.replicate (6 - (lg_sl ([.long a, .long b, .long d])).length) Slot.unset).toArray = ls at hl ⊢
  have hl : lv_has ls 6 [(0, .long a), (2, .long b), (4, .long d)] := hl
  refine lv_lload_n (pc := 0) hx hb dX0_inRange_0 rfl (lv_at hl 0 rfl) ?_
  refine lv_lload_n (pc := 1) hx hb dX0_inRange_1 rfl (lv_at hl 1 rfl) ?_
  refine lq_lt (pc := 2) (tgt := 17) hx hb dX0_inRange_2 dX0_inRange_3 (by decide) (fun cd1 => ?_) (fun cd1 => ?_)
  · refine lv_iconst (pc := 17) (v := 0) hx hb dX0_inRange_17 (by decide) ?_
    have hq9 : (fun r H1 => H1 = s.heap ∧ r = bI (b ≤ a ∧ a ≤ d) : Int32 → Heap → Prop) 0 s.heap := ⟨rfl, (bI_f fun h => absurd h.1 (Int64.not_le.mpr cd1)).symm⟩
    exact W.zret (v := 0) hx hb hr rfl (fun t ht hW => ⟨⟨_, rfl, by rw [ht]; exact hq9⟩, hS.F ht⟩) hS.2.2 dX0_inRange_18
  · refine lv_lload_n (pc := 6) hx hb dX0_inRange_6 rfl (lv_at hl 0 rfl) ?_
    refine lv_lload (pc := 7) hx hb dX0_inRange_7 (lv_at hl 2 rfl) ?_
    refine lq_gt (pc := 9) (tgt := 17) hx hb dX0_inRange_9 dX0_inRange_10 (by decide) (fun cd2 => ?_) (fun cd2 => ?_)
    · refine lv_iconst (pc := 17) (v := 0) hx hb dX0_inRange_17 (by decide) ?_
      have hq9 : (fun r H1 => H1 = s.heap ∧ r = bI (b ≤ a ∧ a ≤ d) : Int32 → Heap → Prop) 0 s.heap := ⟨rfl, (bI_f fun h => absurd h.2 (Int64.not_le.mpr cd2)).symm⟩
      exact W.zret (v := 0) hx hb hr rfl (fun t ht hW => ⟨⟨_, rfl, by rw [ht]; exact hq9⟩, hS.F ht⟩) hS.2.2 dX0_inRange_18
    · refine lv_iconst (pc := 13) (v := 1) hx hb dX0_inRange_13 (by decide) ?_
      refine lv_goto (pc := 14) (tgt := 18) hx hb dX0_inRange_14 (by decide) ?_
      have hq9 : (fun r H1 => H1 = s.heap ∧ r = bI (b ≤ a ∧ a ≤ d) : Int32 → Heap → Prop) 1 s.heap := ⟨rfl, (bI_t ⟨Int64.not_lt.mp cd1, Int64.not_lt.mp cd2⟩).symm⟩
      exact W.zret (v := 1) hx hb hr rfl (fun t ht hW => ⟨⟨_, rfl, by rw [ht]; exact hq9⟩, hS.F ht⟩) hS.2.2 dX0_inRange_18

abbrev rm_m6_in : Room := ({ frames := 0, cells := 0, slots := 0, locals := 0 })
set_option maxHeartbeats 4000000 in
set_option maxRecDepth 100000 in
theorem m6_in (l : Launch) {D : va_G} {g : Nat → ClassId} (a b d : Int32) (H : Heap) : Met l yX6_in (ws_ yX6_in cX6_in 3 (some .boolean)) rm_m6_in (va_Pc [.int a, .int b, .int d] (PH D g H)) (QI (fun r H1 => H1 = H ∧ r = bI (b ≤ a ∧ a ≤ d)) (fun _ => False)) 0 0 (fun _ => False) := by
  refine Met.ofW (cc := cX6_in) (maxL := 3) (ret := (some .boolean)) (by decide) rfl ?_
  intro p e s m args below meth c s₁ B hml hv
  obtain ⟨rfl, hH, hK⟩ := hv
  subst hH
  have hx := B.exec
  have hb := B.bytes
  have hr := B.returns
  have hts := atoms_spec (ws := ws_ yX6_in cX6_in 3 (some .boolean)) B.pre
  have hts : ∀ w ∈ lw_all, w.before _ s = true := fun w h => hts w (List.mem_cons_of_mem _ h)
  have hown : s.vm.findClass RX6 = some m.cls := findClass_of_methodNamed B.named
  have hlocks := B.notSynchronized
  have hS : va_S (fun _ => False) s.heap s.heap [] := va_S.rf
  have hl := lv_entry ([.int a, .int b, .int d]) (n := 3) (Nat.le_of_ble_eq_true rfl)
  rw [lg_entry_eq]
  generalize (lg_sl ([.int a, .int b, .int d]) ++ List.replicate (3 - (lg_sl ([.int a, .int b, .int d])).length) Slot.unset).toArray = ls at hl ⊢
  have hl : lv_has ls 3 [(0, .int a), (1, .int b), (2, .int d)] := hl
  refine lv_iload_n (pc := 0) hx hb dX6_in_0 rfl (lv_at hl 0 rfl) ?_
  refine lv_iload_n (pc := 1) hx hb dX6_in_1 rfl (lv_at hl 1 rfl) ?_
  refine lv_icmp_lt (pc := 2) (tgt := 14) hx hb dX6_in_2 (by decide) (fun cd1 => ?_) (fun cd1 => ?_)
  · refine lv_iconst (pc := 14) (v := 0) hx hb dX6_in_14 (by decide) ?_
    have hq9 : (fun r H1 => H1 = s.heap ∧ r = bI (b ≤ a ∧ a ≤ d) : Int32 → Heap → Prop) 0 s.heap := ⟨rfl, (bI_f fun h => absurd h.1 (Int32.not_le.mpr cd1)).symm⟩
    exact W.zret (v := 0) hx hb hr rfl (fun t ht hW => ⟨⟨_, rfl, by rw [ht]; exact hq9⟩, hS.F ht⟩) hS.2.2 dX6_in_15
  · refine lv_iload_n (pc := 5) hx hb dX6_in_5 rfl (lv_at hl 0 rfl) ?_
    refine lv_iload_n (pc := 6) hx hb dX6_in_6 rfl (lv_at hl 2 rfl) ?_
    refine lv_icmp_gt (pc := 7) (tgt := 14) hx hb dX6_in_7 (by decide) (fun cd2 => ?_) (fun cd2 => ?_)
    · refine lv_iconst (pc := 14) (v := 0) hx hb dX6_in_14 (by decide) ?_
      have hq9 : (fun r H1 => H1 = s.heap ∧ r = bI (b ≤ a ∧ a ≤ d) : Int32 → Heap → Prop) 0 s.heap := ⟨rfl, (bI_f fun h => absurd h.2 (Int32.not_le.mpr cd2)).symm⟩
      exact W.zret (v := 0) hx hb hr rfl (fun t ht hW => ⟨⟨_, rfl, by rw [ht]; exact hq9⟩, hS.F ht⟩) hS.2.2 dX6_in_15
    · refine lv_iconst (pc := 10) (v := 1) hx hb dX6_in_10 (by decide) ?_
      refine lv_goto (pc := 11) (tgt := 15) hx hb dX6_in_11 (by decide) ?_
      have hq9 : (fun r H1 => H1 = s.heap ∧ r = bI (b ≤ a ∧ a ≤ d) : Int32 → Heap → Prop) 1 s.heap := ⟨rfl, (bI_t ⟨Int32.not_lt.mp cd1, Int32.not_lt.mp cd2⟩).symm⟩
      exact W.zret (v := 1) hx hb hr rfl (fun t ht hW => ⟨⟨_, rfl, by rw [ht]; exact hq9⟩, hS.F ht⟩) hS.2.2 dX6_in_15

abbrev rm_m6_isIn : Room := ({ frames := 0, cells := 0, slots := 0, locals := 0 })
set_option maxHeartbeats 4000000 in
set_option maxRecDepth 100000 in
theorem m6_isIn (l : Launch) {D : va_G} {g : Nat → ClassId} (a : Int64) (H : Heap) : Met l yX6_isIn (ws_ yX6_isIn cX6_isIn 2 (some .boolean)) rm_m6_isIn (va_Pc [.long a] (PH D g H)) (QI (fun r H1 => H1 = H ∧ r = bI (lim a)) (fun _ => False)) 0 0 (fun _ => False) := by
  refine Met.ofW (cc := cX6_isIn) (maxL := 2) (ret := (some .boolean)) (by decide) rfl ?_
  intro p e s m args below meth c s₁ B hml hv
  obtain ⟨rfl, hH, hK⟩ := hv
  subst hH
  have hx := B.exec
  have hb := B.bytes
  have hr := B.returns
  have hts := atoms_spec (ws := ws_ yX6_isIn cX6_isIn 2 (some .boolean)) B.pre
  have hts : ∀ w ∈ lw_all, w.before _ s = true := fun w h => hts w (List.mem_cons_of_mem _ h)
  have hown : s.vm.findClass RX6 = some m.cls := findClass_of_methodNamed B.named
  have hlocks := B.notSynchronized
  have hS : va_S (fun _ => False) s.heap s.heap [] := va_S.rf
  have hl := lv_entry ([.long a]) (n := 2) (Nat.le_of_ble_eq_true rfl)
  rw [lg_entry_eq]
  generalize (lg_sl ([.long a]) ++ List.replicate (2 - (lg_sl ([.long a])).length) Slot.unset).toArray = ls at hl ⊢
  have hl : lv_has ls 2 [(0, .long a)] := hl
  refine lv_lload_n (pc := 0) hx hb dX6_isIn_0 rfl (lv_at hl 0 rfl) ?_
  refine lv_ldc2 (pc := 1) (v := (-1000000000)) hx hb hown (hts _ q654) dX6_isIn_1 ?_
  refine lq_lt (pc := 4) (tgt := 20) hx hb dX6_isIn_4 dX6_isIn_5 (by decide) (fun cd1 => ?_) (fun cd1 => ?_)
  · refine lv_iconst (pc := 20) (v := 0) hx hb dX6_isIn_20 (by decide) ?_
    have hq9 : (fun r H1 => H1 = s.heap ∧ r = bI (lim a) : Int32 → Heap → Prop) 0 s.heap := ⟨rfl, (bI_f fun h => absurd h.1 (Int64.not_le.mpr cd1)).symm⟩
    exact W.zret (v := 0) hx hb hr rfl (fun t ht hW => ⟨⟨_, rfl, by rw [ht]; exact hq9⟩, hS.F ht⟩) hS.2.2 dX6_isIn_21
  · refine lv_lload_n (pc := 8) hx hb dX6_isIn_8 rfl (lv_at hl 0 rfl) ?_
    refine lv_ldc2 (pc := 9) (v := 1000000000) hx hb hown (hts _ q655) dX6_isIn_9 ?_
    refine lq_gt (pc := 12) (tgt := 20) hx hb dX6_isIn_12 dX6_isIn_13 (by decide) (fun cd2 => ?_) (fun cd2 => ?_)
    · refine lv_iconst (pc := 20) (v := 0) hx hb dX6_isIn_20 (by decide) ?_
      have hq9 : (fun r H1 => H1 = s.heap ∧ r = bI (lim a) : Int32 → Heap → Prop) 0 s.heap := ⟨rfl, (bI_f fun h => absurd h.2 (Int64.not_le.mpr cd2)).symm⟩
      exact W.zret (v := 0) hx hb hr rfl (fun t ht hW => ⟨⟨_, rfl, by rw [ht]; exact hq9⟩, hS.F ht⟩) hS.2.2 dX6_isIn_21
    · refine lv_iconst (pc := 16) (v := 1) hx hb dX6_isIn_16 (by decide) ?_
      refine lv_goto (pc := 17) (tgt := 21) hx hb dX6_isIn_17 (by decide) ?_
      have hq9 : (fun r H1 => H1 = s.heap ∧ r = bI (lim a) : Int32 → Heap → Prop) 1 s.heap := ⟨rfl, (bI_t ⟨Int64.not_lt.mp cd1, Int64.not_lt.mp cd2⟩).symm⟩
      exact W.zret (v := 1) hx hb hr rfl (fun t ht hW => ⟨⟨_, rfl, by rw [ht]; exact hq9⟩, hS.F ht⟩) hS.2.2 dX6_isIn_21

abbrev rm_m_isSensor : Room := ({ frames := 1, cells := 0, slots := 0, locals := 25 })
set_option maxHeartbeats 4000000 in
set_option maxRecDepth 100000 in
theorem m_isSensor (l : Launch) {D : va_G} {g : Nat → ClassId} (a : Int32) (H : Heap) : Met l yX0_isSensor (ws_ yX0_isSensor cX0_isSensor 1 (some .boolean)) rm_m_isSensor (va_Pc [.int a] (PH D g H)) (QI (fun r H1 => H1 = H ∧ r = bI (0 ≤ a.toInt64 ∧ a.toInt64 ≤ 3)) (fun _ => False)) 0 0 (fun _ => False) := by
  refine Met.ofW (cc := cX0_isSensor) (maxL := 1) (ret := (some .boolean)) (by decide) rfl ?_
  intro p e s m args below meth c s₁ B hml hv
  obtain ⟨rfl, hH, hK⟩ := hv
  subst hH
  have hx := B.exec
  have hb := B.bytes
  have hr := B.returns
  have hts := atoms_spec (ws := ws_ yX0_isSensor cX0_isSensor 1 (some .boolean)) B.pre
  have hts : ∀ w ∈ lw_all, w.before _ s = true := fun w h => hts w (List.mem_cons_of_mem _ h)
  have hown : s.vm.findClass RX0 = some m.cls := findClass_of_methodNamed B.named
  have hlocks := B.notSynchronized
  have hS : va_S (fun _ => False) s.heap s.heap [] := va_S.rf
  have hl := lv_entry ([.int a]) (n := 1) (Nat.le_of_ble_eq_true rfl)
  rw [lg_entry_eq]
  generalize (lg_sl ([.int a]) ++ List.replicate (1 - (lg_sl ([.int a])).length) Slot.unset).toArray = ls at hl ⊢
  have hl : lv_has ls 1 [(0, .int a)] := hl
  refine lv_iload_n (pc := 0) hx hb dX0_isSensor_0 rfl (lv_at hl 0 rfl) ?_
  refine lv_i2l (pc := 1) hx hb dX0_isSensor_1 rfl ?_
  refine lv_lconst (pc := 2) (v := 0) hx hb dX0_isSensor_2 rfl ?_
  refine lv_ldc2 (pc := 3) (v := 3) hx hb hown (hts _ q255) dX0_isSensor_3 ?_
  refine kIp (pc := 6) (va_runS (As := [.long (Int32.toInt64 a), .long 0, .long 3]) (rest := []) ⟨hx, hb, hml, hown, hts⟩ (m_inRange l (Int32.toInt64 a) 0 3 s.heap) (va_cwS 3 hts (lw_S q201 q202 q21 q203) rfl rfl rfl (by decide +kernel) ⟨Nat.le_of_ble_eq_true rfl, Nat.le_of_ble_eq_true rfl⟩) (preS hK) rfl rfl hl.1 rfl (lv_room (Nat.le_of_ble_eq_true rfl)) dX0_isSensor_6 ⟨Nat.le_of_ble_eq_true rfl, Nat.le_of_ble_eq_true rfl⟩) (fun r1 hr1 => ?_)
  have hq9 : (fun r H1 => H1 = s.heap ∧ r = bI (0 ≤ a.toInt64 ∧ a.toInt64 ≤ 3) : Int32 → Heap → Prop) r1 s.heap := ⟨rfl, hr1⟩
  exact W.zret (v := r1) hx hb hr (by rw [hr1]; exact bI_nar _) (fun t ht hW => ⟨⟨_, rfl, by rw [ht]; exact hq9⟩, hS.F ht⟩) hS.2.2 dX0_isSensor_9

abbrev rm_m_isLarge : Room := ({ frames := 1, cells := 0, slots := 0, locals := 25 })
set_option maxHeartbeats 4000000 in
set_option maxRecDepth 100000 in
theorem m_isLarge (l : Launch) {D : va_G} {g : Nat → ClassId} (a : Int32) (H : Heap) : Met l yX0_isLarge (ws_ yX0_isLarge cX0_isLarge 1 (some .boolean)) rm_m_isLarge (va_Pc [.int a] (PH D g H)) (QI (fun r H1 => H1 = H ∧ r = bI (-40960000 ≤ a.toInt64 ∧ a.toInt64 ≤ 40960000)) (fun _ => False)) 0 0 (fun _ => False) := by
  refine Met.ofW (cc := cX0_isLarge) (maxL := 1) (ret := (some .boolean)) (by decide) rfl ?_
  intro p e s m args below meth c s₁ B hml hv
  obtain ⟨rfl, hH, hK⟩ := hv
  subst hH
  have hx := B.exec
  have hb := B.bytes
  have hr := B.returns
  have hts := atoms_spec (ws := ws_ yX0_isLarge cX0_isLarge 1 (some .boolean)) B.pre
  have hts : ∀ w ∈ lw_all, w.before _ s = true := fun w h => hts w (List.mem_cons_of_mem _ h)
  have hown : s.vm.findClass RX0 = some m.cls := findClass_of_methodNamed B.named
  have hlocks := B.notSynchronized
  have hS : va_S (fun _ => False) s.heap s.heap [] := va_S.rf
  have hl := lv_entry ([.int a]) (n := 1) (Nat.le_of_ble_eq_true rfl)
  rw [lg_entry_eq]
  generalize (lg_sl ([.int a]) ++ List.replicate (1 - (lg_sl ([.int a])).length) Slot.unset).toArray = ls at hl ⊢
  have hl : lv_has ls 1 [(0, .int a)] := hl
  refine lv_iload_n (pc := 0) hx hb dX0_isLarge_0 rfl (lv_at hl 0 rfl) ?_
  refine lv_i2l (pc := 1) hx hb dX0_isLarge_1 rfl ?_
  refine lv_ldc2 (pc := 2) (v := (-40960000)) hx hb hown (hts _ q199) dX0_isLarge_2 ?_
  refine lv_ldc2 (pc := 5) (v := 40960000) hx hb hown (hts _ q200) dX0_isLarge_5 ?_
  refine kIp (pc := 8) (va_runS (As := [.long (Int32.toInt64 a), .long (-40960000), .long 40960000]) (rest := []) ⟨hx, hb, hml, hown, hts⟩ (m_inRange l (Int32.toInt64 a) (-40960000) 40960000 s.heap) (va_cwS 3 hts (lw_S q201 q202 q21 q203) rfl rfl rfl (by decide +kernel) ⟨Nat.le_of_ble_eq_true rfl, Nat.le_of_ble_eq_true rfl⟩) (preS hK) rfl rfl hl.1 rfl (lv_room (Nat.le_of_ble_eq_true rfl)) dX0_isLarge_8 ⟨Nat.le_of_ble_eq_true rfl, Nat.le_of_ble_eq_true rfl⟩) (fun r1 hr1 => ?_)
  have hq9 : (fun r H1 => H1 = s.heap ∧ r = bI (-40960000 ≤ a.toInt64 ∧ a.toInt64 ≤ 40960000) : Int32 → Heap → Prop) r1 s.heap := ⟨rfl, hr1⟩
  exact W.zret (v := r1) hx hb hr (by rw [hr1]; exact bI_nar _) (fun t ht hW => ⟨⟨_, rfl, by rw [ht]; exact hq9⟩, hS.F ht⟩) hS.2.2 dX0_isLarge_11

abbrev rm_m6_isSensor : Room := ({ frames := 1, cells := 0, slots := 0, locals := 22 })
set_option maxHeartbeats 4000000 in
set_option maxRecDepth 100000 in
theorem m6_isSensor (l : Launch) {D : va_G} {g : Nat → ClassId} (a : Int32) (H : Heap) : Met l yX6_isSensor (ws_ yX6_isSensor cX6_isSensor 1 (some .boolean)) rm_m6_isSensor (va_Pc [.int a] (PH D g H)) (QI (fun r H1 => H1 = H ∧ r = bI (0 ≤ a ∧ a ≤ 3)) (fun _ => False)) 0 0 (fun _ => False) := by
  refine Met.ofW (cc := cX6_isSensor) (maxL := 1) (ret := (some .boolean)) (by decide) rfl ?_
  intro p e s m args below meth c s₁ B hml hv
  obtain ⟨rfl, hH, hK⟩ := hv
  subst hH
  have hx := B.exec
  have hb := B.bytes
  have hr := B.returns
  have hts := atoms_spec (ws := ws_ yX6_isSensor cX6_isSensor 1 (some .boolean)) B.pre
  have hts : ∀ w ∈ lw_all, w.before _ s = true := fun w h => hts w (List.mem_cons_of_mem _ h)
  have hown : s.vm.findClass RX6 = some m.cls := findClass_of_methodNamed B.named
  have hlocks := B.notSynchronized
  have hS : va_S (fun _ => False) s.heap s.heap [] := va_S.rf
  have hl := lv_entry ([.int a]) (n := 1) (Nat.le_of_ble_eq_true rfl)
  rw [lg_entry_eq]
  generalize (lg_sl ([.int a]) ++ List.replicate (1 - (lg_sl ([.int a])).length) Slot.unset).toArray = ls at hl ⊢
  have hl : lv_has ls 1 [(0, .int a)] := hl
  refine lv_iload_n (pc := 0) hx hb dX6_isSensor_0 rfl (lv_at hl 0 rfl) ?_
  refine lv_iconst (pc := 1) (v := 0) hx hb dX6_isSensor_1 (by decide) ?_
  refine lv_iconst (pc := 2) (v := 3) hx hb dX6_isSensor_2 (by decide) ?_
  refine kIp (pc := 3) (va_runS (As := [.int a, .int 0, .int 3]) (rest := []) ⟨hx, hb, hml, hown, hts⟩ (m6_in l a 0 3 s.heap) (va_cwS 3 hts (lw_S q609 q610 q28 q611) rfl rfl rfl (by decide +kernel) ⟨Nat.le_of_ble_eq_true rfl, Nat.le_of_ble_eq_true rfl⟩) (preS hK) rfl rfl hl.1 rfl (lv_room (Nat.le_of_ble_eq_true rfl)) dX6_isSensor_3 ⟨Nat.le_of_ble_eq_true rfl, Nat.le_of_ble_eq_true rfl⟩) (fun r1 hr1 => ?_)
  have hq9 : (fun r H1 => H1 = s.heap ∧ r = bI (0 ≤ a ∧ a ≤ 3) : Int32 → Heap → Prop) r1 s.heap := ⟨rfl, hr1⟩
  exact W.zret (v := r1) hx hb hr (by rw [hr1]; exact bI_nar _) (fun t ht hW => ⟨⟨_, rfl, by rw [ht]; exact hq9⟩, hS.F ht⟩) hS.2.2 dX6_isSensor_6

abbrev rm_m_mul : Room := ({ frames := 1, cells := 0, slots := 0, locals := 25 })
set_option maxHeartbeats 4000000 in
set_option maxRecDepth 100000 in
theorem m_mul (l : Launch) {D : va_G} {g : Nat → ClassId} (a b : Int64) (H : Heap) : Met l yX0_mul (ws_ yX0_mul cX0_mul 4 (some .long)) rm_m_mul (va_Pc [.long a, .long b] (PH D g H)) (QL (fun r H1 => H1 = H ∧ r = mulf a b) (fun _ => False)) 0 0 (fun _ => False) := by
  refine Met.ofW (cc := cX0_mul) (maxL := 4) (ret := (some .long)) (by decide) rfl ?_
  intro p e s m args below meth c s₁ B hml hv
  obtain ⟨rfl, hH, hK⟩ := hv
  subst hH
  have hx := B.exec
  have hb := B.bytes
  have hr := B.returns
  have hts := atoms_spec (ws := ws_ yX0_mul cX0_mul 4 (some .long)) B.pre
  have hts : ∀ w ∈ lw_all, w.before _ s = true := fun w h => hts w (List.mem_cons_of_mem _ h)
  have hown : s.vm.findClass RX0 = some m.cls := findClass_of_methodNamed B.named
  have hlocks := B.notSynchronized
  have hS : va_S (fun _ => False) s.heap s.heap [] := va_S.rf
  have hl := lv_entry ([.long a, .long b]) (n := 4) (Nat.le_of_ble_eq_true rfl)
  rw [lg_entry_eq]
  generalize (lg_sl ([.long a, .long b]) ++ List.replicate (4 - (lg_sl ([.long a, .long b])).length) Slot.unset).toArray = ls at hl ⊢
  have hl : lv_has ls 4 [(0, .long a), (2, .long b)] := hl
  refine lv_lload_n (pc := 0) hx hb dX0_mul_0 rfl (lv_at hl 0 rfl) ?_
  refine lv_lload_n (pc := 1) hx hb dX0_mul_1 rfl (lv_at hl 1 rfl) ?_
  refine lv_lmul (pc := 2) hx hb dX0_mul_2 ?_
  refine lv_ldc2 (pc := 3) (v := 2048) hx hb hown (hts _ q385) dX0_mul_3 ?_
  refine lv_ladd (pc := 6) hx hb dX0_mul_6 ?_
  refine lv_ldc2 (pc := 7) (v := 4096) hx hb hown (hts _ q377) dX0_mul_7 ?_
  refine kLp (pc := 10) (va_runS (As := [.long ((a * b) + 2048), .long 4096]) (rest := []) ⟨hx, hb, hml, hown, hts⟩ (m_floorDiv l ((a * b) + 2048) 4096 s.heap (by decide)) (va_cwS 2 hts (lw_S q379 q380 q33 q381) rfl rfl rfl (by decide +kernel) ⟨Nat.le_of_ble_eq_true rfl, Nat.le_of_ble_eq_true rfl⟩) (preS hK) rfl rfl hl.1 rfl (lv_room (Nat.le_of_ble_eq_true rfl)) dX0_mul_10 ⟨Nat.le_of_ble_eq_true rfl, Nat.le_of_ble_eq_true rfl⟩) (fun r1 hr1 => ?_)
  have hq9 : (fun r H1 => H1 = s.heap ∧ r = mulf a b : Int64 → Heap → Prop) r1 s.heap := ⟨rfl, hr1⟩
  exact W.lret (v := r1) hx hb hr (fun t ht hW => ⟨⟨_, rfl, by rw [ht]; exact hq9⟩, hS.F ht⟩) hS.2.2 dX0_mul_13

abbrev rm_m_div : Room := ({ frames := 1, cells := 0, slots := 0, locals := 25 })
set_option maxHeartbeats 4000000 in
set_option maxRecDepth 100000 in
theorem m_div (l : Launch) {D : va_G} {g : Nat → ClassId} (a b : Int64) (H : Heap) (hb0 : ¬ b = 0) : Met l yX0_div (ws_ yX0_div cX0_div 4 (some .long)) rm_m_div (va_Pc [.long a, .long b] (PH D g H)) (QL (fun r H1 => H1 = H ∧ r = divf a b) (fun _ => False)) 0 0 (fun _ => False) := by
  refine Met.ofW (cc := cX0_div) (maxL := 4) (ret := (some .long)) (by decide) rfl ?_
  intro p e s m args below meth c s₁ B hml hv
  obtain ⟨rfl, hH, hK⟩ := hv
  subst hH
  have hx := B.exec
  have hb := B.bytes
  have hr := B.returns
  have hts := atoms_spec (ws := ws_ yX0_div cX0_div 4 (some .long)) B.pre
  have hts : ∀ w ∈ lw_all, w.before _ s = true := fun w h => hts w (List.mem_cons_of_mem _ h)
  have hown : s.vm.findClass RX0 = some m.cls := findClass_of_methodNamed B.named
  have hlocks := B.notSynchronized
  have hS : va_S (fun _ => False) s.heap s.heap [] := va_S.rf
  have hl := lv_entry ([.long a, .long b]) (n := 4) (Nat.le_of_ble_eq_true rfl)
  rw [lg_entry_eq]
  generalize (lg_sl ([.long a, .long b]) ++ List.replicate (4 - (lg_sl ([.long a, .long b])).length) Slot.unset).toArray = ls at hl ⊢
  have hl : lv_has ls 4 [(0, .long a), (2, .long b)] := hl
  refine lv_lload_n (pc := 0) hx hb dX0_div_0 rfl (lv_at hl 0 rfl) ?_
  refine lv_ldc2 (pc := 1) (v := 4096) hx hb hown (hts _ q377) dX0_div_1 ?_
  refine lv_lmul (pc := 4) hx hb dX0_div_4 ?_
  refine lv_lload_n (pc := 5) hx hb dX0_div_5 rfl (lv_at hl 1 rfl) ?_
  refine lv_ldc2 (pc := 6) (v := 2) hx hb hown (hts _ q378) dX0_div_6 ?_
  refine lv_ldiv (pc := 9) hx hb dX0_div_9 (by decide) ?_
  refine lv_ladd (pc := 10) hx hb dX0_div_10 ?_
  refine lv_lload_n (pc := 11) hx hb dX0_div_11 rfl (lv_at hl 1 rfl) ?_
  refine kLp (pc := 12) (va_runS (As := [.long ((a * 4096) + (b / 2)), .long b]) (rest := []) ⟨hx, hb, hml, hown, hts⟩ (m_floorDiv l ((a * 4096) + (b / 2)) b s.heap hb0) (va_cwS 2 hts (lw_S q379 q380 q33 q381) rfl rfl rfl (by decide +kernel) ⟨Nat.le_of_ble_eq_true rfl, Nat.le_of_ble_eq_true rfl⟩) (preS hK) rfl rfl hl.1 rfl (lv_room (Nat.le_of_ble_eq_true rfl)) dX0_div_12 ⟨Nat.le_of_ble_eq_true rfl, Nat.le_of_ble_eq_true rfl⟩) (fun r1 hr1 => ?_)
  have hq9 : (fun r H1 => H1 = s.heap ∧ r = divf a b : Int64 → Heap → Prop) r1 s.heap := ⟨rfl, hr1⟩
  exact W.lret (v := r1) hx hb hr (fun t ht hW => ⟨⟨_, rfl, by rw [ht]; exact hq9⟩, hS.F ht⟩) hS.2.2 dX0_div_15

abbrev rm_m6_down : Room := ({ frames := 0, cells := 0, slots := 0, locals := 0 })
set_option maxHeartbeats 4000000 in
set_option maxRecDepth 100000 in
theorem m6_down (l : Launch) {D : va_G} {g : Nat → ClassId} (a b : Int64) (H : Heap) (hb0 : ¬ b = 0) : Met l yX6_down (ws_ yX6_down cX6_down 6 (some .long)) rm_m6_down (va_Pc [.long a, .long b] (PH D g H)) (QL (fun r H1 => H1 = H ∧ r = dwn a b) (fun _ => False)) 0 0 (fun _ => False) := by
  refine Met.ofW (cc := cX6_down) (maxL := 6) (ret := (some .long)) (by decide) rfl ?_
  intro p e s m args below meth c s₁ B hml hv
  obtain ⟨rfl, hH, hK⟩ := hv
  subst hH
  have hx := B.exec
  have hb := B.bytes
  have hr := B.returns
  have hts := atoms_spec (ws := ws_ yX6_down cX6_down 6 (some .long)) B.pre
  have hts : ∀ w ∈ lw_all, w.before _ s = true := fun w h => hts w (List.mem_cons_of_mem _ h)
  have hown : s.vm.findClass RX6 = some m.cls := findClass_of_methodNamed B.named
  have hlocks := B.notSynchronized
  have hS : va_S (fun _ => False) s.heap s.heap [] := va_S.rf
  have hl := lv_entry ([.long a, .long b]) (n := 6) (Nat.le_of_ble_eq_true rfl)
  rw [lg_entry_eq]
  generalize (lg_sl ([.long a, .long b]) ++ List.replicate (6 - (lg_sl ([.long a, .long b])).length) Slot.unset).toArray = ls at hl ⊢
  have hl : lv_has ls 6 [(0, .long a), (2, .long b)] := hl
  refine lv_lload_n (pc := 0) hx hb dX6_down_0 rfl (lv_at hl 0 rfl) ?_
  refine lv_lload_n (pc := 1) hx hb dX6_down_1 rfl (lv_at hl 1 rfl) ?_
  refine lv_ldiv (pc := 2) hx hb dX6_down_2 hb0 ?_
  refine lv_topl (fun z1 ez1 => ?_)
  refine lv_lstore (pc := 3) (lv' := [(4, .long z1), (0, .long a), (2, .long b)]) hx hb dX6_down_3 hl (by decide) rfl (fun ls hl => ?_)
  refine lv_lload_n (pc := 5) hx hb dX6_down_5 rfl (lv_at hl 1 rfl) ?_
  refine lv_lload_n (pc := 6) hx hb dX6_down_6 rfl (lv_at hl 2 rfl) ?_
  refine lv_lrem (pc := 7) hx hb dX6_down_7 hb0 ?_
  refine lv_lconst (pc := 8) (v := 0) hx hb dX6_down_8 rfl ?_
  refine lq_ge (pc := 9) (tgt := 20) hx hb dX6_down_9 dX6_down_10 (by decide) (fun cd2 => ?_) (fun cd2 => ?_)
  · refine lv_lload (pc := 20) hx hb dX6_down_20 (lv_at hl 0 rfl) ?_
    have hq9 : (fun r H1 => H1 = s.heap ∧ r = dwn a b : Int64 → Heap → Prop) z1 s.heap := ⟨rfl, by rw [ez1]; unfold dwn; rw [if_neg (Int64.not_lt.mpr cd2)]⟩
    exact W.lret (v := z1) hx hb hr (fun t ht hW => ⟨⟨_, rfl, by rw [ht]; exact hq9⟩, hS.F ht⟩) hS.2.2 dX6_down_22
  · refine lv_lload (pc := 13) hx hb dX6_down_13 (lv_at hl 0 rfl) ?_
    refine lv_lconst (pc := 15) (v := 1) hx hb dX6_down_15 rfl ?_
    refine lv_lsub (pc := 16) hx hb dX6_down_16 ?_
    refine lv_goto (pc := 17) (tgt := 22) hx hb dX6_down_17 (by decide) ?_
    have hq9 : (fun r H1 => H1 = s.heap ∧ r = dwn a b : Int64 → Heap → Prop) (z1 - 1) s.heap := ⟨rfl, by rw [ez1]; unfold dwn; rw [if_pos (Int64.not_le.mp cd2)]⟩
    exact W.lret (v := z1 - 1) hx hb hr (fun t ht hW => ⟨⟨_, rfl, by rw [ht]; exact hq9⟩, hS.F ht⟩) hS.2.2 dX6_down_22

abbrev rm_m6_mul : Room := ({ frames := 1, cells := 0, slots := 0, locals := 25 })
set_option maxHeartbeats 4000000 in
set_option maxRecDepth 100000 in
theorem m6_mul (l : Launch) {D : va_G} {g : Nat → ClassId} (a b : Int64) (H : Heap) : Met l yX6_mul (ws_ yX6_mul cX6_mul 4 (some .long)) rm_m6_mul (va_Pc [.long a, .long b] (PH D g H)) (QL (fun r H1 => H1 = H ∧ r = dwn (a * b + 2048) 4096) (fun _ => False)) 0 0 (fun _ => False) := by
  refine Met.ofW (cc := cX6_mul) (maxL := 4) (ret := (some .long)) (by decide) rfl ?_
  intro p e s m args below meth c s₁ B hml hv
  obtain ⟨rfl, hH, hK⟩ := hv
  subst hH
  have hx := B.exec
  have hb := B.bytes
  have hr := B.returns
  have hts := atoms_spec (ws := ws_ yX6_mul cX6_mul 4 (some .long)) B.pre
  have hts : ∀ w ∈ lw_all, w.before _ s = true := fun w h => hts w (List.mem_cons_of_mem _ h)
  have hown : s.vm.findClass RX6 = some m.cls := findClass_of_methodNamed B.named
  have hlocks := B.notSynchronized
  have hS : va_S (fun _ => False) s.heap s.heap [] := va_S.rf
  have hl := lv_entry ([.long a, .long b]) (n := 4) (Nat.le_of_ble_eq_true rfl)
  rw [lg_entry_eq]
  generalize (lg_sl ([.long a, .long b]) ++ List.replicate (4 - (lg_sl ([.long a, .long b])).length) Slot.unset).toArray = ls at hl ⊢
  have hl : lv_has ls 4 [(0, .long a), (2, .long b)] := hl
  refine lv_lload_n (pc := 0) hx hb dX6_mul_0 rfl (lv_at hl 0 rfl) ?_
  refine lv_lload_n (pc := 1) hx hb dX6_mul_1 rfl (lv_at hl 1 rfl) ?_
  refine lv_lmul (pc := 2) hx hb dX6_mul_2 ?_
  refine lv_ldc2 (pc := 3) (v := 2048) hx hb hown (hts _ q683) dX6_mul_3 ?_
  refine lv_ladd (pc := 6) hx hb dX6_mul_6 ?_
  refine lv_ldc2 (pc := 7) (v := 4096) hx hb hown (hts _ q673) dX6_mul_7 ?_
  refine kLp (pc := 10) (va_runS (As := [.long ((a * b) + 2048), .long 4096]) (rest := []) ⟨hx, hb, hml, hown, hts⟩ (m6_down l ((a * b) + 2048) 4096 s.heap (by decide)) (va_cwS 2 hts (lw_S q677 q678 q28 q679) rfl rfl rfl (by decide +kernel) ⟨Nat.le_of_ble_eq_true rfl, Nat.le_of_ble_eq_true rfl⟩) (preS hK) rfl rfl hl.1 rfl (lv_room (Nat.le_of_ble_eq_true rfl)) dX6_mul_10 ⟨Nat.le_of_ble_eq_true rfl, Nat.le_of_ble_eq_true rfl⟩) (fun r1 hr1 => ?_)
  have hq9 : (fun r H1 => H1 = s.heap ∧ r = dwn (a * b + 2048) 4096 : Int64 → Heap → Prop) r1 s.heap := ⟨rfl, hr1⟩
  exact W.lret (v := r1) hx hb hr (fun t ht hW => ⟨⟨_, rfl, by rw [ht]; exact hq9⟩, hS.F ht⟩) hS.2.2 dX6_mul_13

abbrev rm_m6_div : Room := ({ frames := 1, cells := 0, slots := 0, locals := 25 })
set_option maxHeartbeats 4000000 in
set_option maxRecDepth 100000 in
theorem m6_div (l : Launch) {D : va_G} {g : Nat → ClassId} (a b : Int64) (H : Heap) (hb0 : ¬ b = 0) : Met l yX6_div (ws_ yX6_div cX6_div 4 (some .long)) rm_m6_div (va_Pc [.long a, .long b] (PH D g H)) (QL (fun r H1 => H1 = H ∧ r = dwn (a * 4096 + dwn b 2) b) (fun _ => False)) 0 0 (fun _ => False) := by
  refine Met.ofW (cc := cX6_div) (maxL := 4) (ret := (some .long)) (by decide) rfl ?_
  intro p e s m args below meth c s₁ B hml hv
  obtain ⟨rfl, hH, hK⟩ := hv
  subst hH
  have hx := B.exec
  have hb := B.bytes
  have hr := B.returns
  have hts := atoms_spec (ws := ws_ yX6_div cX6_div 4 (some .long)) B.pre
  have hts : ∀ w ∈ lw_all, w.before _ s = true := fun w h => hts w (List.mem_cons_of_mem _ h)
  have hown : s.vm.findClass RX6 = some m.cls := findClass_of_methodNamed B.named
  have hlocks := B.notSynchronized
  have hS : va_S (fun _ => False) s.heap s.heap [] := va_S.rf
  have hl := lv_entry ([.long a, .long b]) (n := 4) (Nat.le_of_ble_eq_true rfl)
  rw [lg_entry_eq]
  generalize (lg_sl ([.long a, .long b]) ++ List.replicate (4 - (lg_sl ([.long a, .long b])).length) Slot.unset).toArray = ls at hl ⊢
  have hl : lv_has ls 4 [(0, .long a), (2, .long b)] := hl
  refine lv_lload_n (pc := 0) hx hb dX6_div_0 rfl (lv_at hl 0 rfl) ?_
  refine lv_ldc2 (pc := 1) (v := 4096) hx hb hown (hts _ q673) dX6_div_1 ?_
  refine lv_lmul (pc := 4) hx hb dX6_div_4 ?_
  refine lv_lload_n (pc := 5) hx hb dX6_div_5 rfl (lv_at hl 1 rfl) ?_
  refine lv_ldc2 (pc := 6) (v := 2) hx hb hown (hts _ q650) dX6_div_6 ?_
  refine kLp (pc := 9) (va_runS (As := [.long b, .long 2]) (rest := [.long (a * 4096)]) ⟨hx, hb, hml, hown, hts⟩ (m6_down l b 2 s.heap (by decide)) (va_cwS 2 hts (lw_S q677 q678 q28 q679) rfl rfl rfl (by decide +kernel) ⟨Nat.le_of_ble_eq_true rfl, Nat.le_of_ble_eq_true rfl⟩) (preS hK) rfl rfl hl.1 rfl (lv_room (Nat.le_of_ble_eq_true rfl)) dX6_div_9 ⟨Nat.le_of_ble_eq_true rfl, Nat.le_of_ble_eq_true rfl⟩) (fun r1 hr1 => ?_)
  refine lv_ladd (pc := 12) hx hb dX6_div_12 ?_
  refine lv_lload_n (pc := 13) hx hb dX6_div_13 rfl (lv_at hl 1 rfl) ?_
  refine kLp (pc := 14) (va_runS (As := [.long ((a * 4096) + r1), .long b]) (rest := []) ⟨hx, hb, hml, hown, hts⟩ (m6_down l ((a * 4096) + r1) b s.heap hb0) (va_cwS 2 hts (lw_S q677 q678 q28 q679) rfl rfl rfl (by decide +kernel) ⟨Nat.le_of_ble_eq_true rfl, Nat.le_of_ble_eq_true rfl⟩) (preS hK) rfl rfl hl.1 rfl (lv_room (Nat.le_of_ble_eq_true rfl)) dX6_div_14 ⟨Nat.le_of_ble_eq_true rfl, Nat.le_of_ble_eq_true rfl⟩) (fun r2 hr2 => ?_)
  have hq9 : (fun r H1 => H1 = s.heap ∧ r = dwn (a * 4096 + dwn b 2) b : Int64 → Heap → Prop) r2 s.heap := ⟨rfl, by rw [hr2, hr1]⟩
  exact W.lret (v := r2) hx hb hr (fun t ht hW => ⟨⟨_, rfl, by rw [ht]; exact hq9⟩, hS.F ht⟩) hS.2.2 dX6_div_17
