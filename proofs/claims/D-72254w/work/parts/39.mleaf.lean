abbrev rm_m6_fail : Room := ({ frames := 0, cells := 0, slots := 0, locals := 0 })
set_option maxHeartbeats 4000000 in
set_option maxRecDepth 100000 in
theorem m6_fail (l : Launch) {D : va_G} {g : Nat → ClassId} (mo ms mp me mn np : Nat) (iv lg fg hv : Int64) (j : Nat) (ef : Nat → Int32) (cd : Int32) (H : Heap) (hP : va_P D vwCl [(me, .inl (g 0, 3, .inl ef))] H) (hmo : va_P D vwCl [(mo, .inr (6, [.ref ms, .ref mp, .int (nI np), .ref me, .ref mn, .long iv, .long lg, .long fg, .long hv]))] H) (nhmo : mo ∉ [me]) (hj : j < 3) (hc : -2000000002 - cd = nI j) : Met l yX6_fail (ws_ yX6_fail cX6_fail 2 (some .int)) rm_m6_fail (va_Pc [.ref mo, .int cd] (PH D g H)) (QI (fun r H1 => r = cd ∧ va_P D vwCl [(me, .inl (g 0, 3, .inl (upd ef j (ef j + 1))))] H1) (Aw [me] H.size)) 0 0 (Aw [me] H.size) := by
  refine Met.ofW (cc := cX6_fail) (maxL := 2) (ret := (some .int)) (by decide) rfl ?_
  intro p e s m args below meth c s₁ B hml hv
  obtain ⟨rfl, hH, hK⟩ := hv
  subst hH
  have hx := B.exec
  have hb := B.bytes
  have hr := B.returns
  have hts := atoms_spec (ws := ws_ yX6_fail cX6_fail 2 (some .int)) B.pre
  have hts : ∀ w ∈ lw_all, w.before _ s = true := fun w h => hts w (List.mem_cons_of_mem _ h)
  have hown : s.vm.findClass RX6 = some m.cls := findClass_of_methodNamed B.named
  have hlocks := B.notSynchronized
  have hA : ∀ q, s.heap.size ≤ q → (Aw [me] s.heap.size) q := fun q h => Or.inr h
  have hS : va_S (Aw [me] s.heap.size) s.heap s.heap [] := va_S.rf
  have hD : va_D (Aw [me] s.heap.size) [(me, .inl (g 0, 3, .inl ef))] := d1 (Or.inl (by simp))
  have ahmo : ¬ (Aw [me] s.heap.size) mo := naw nhmo (hmo 0 _ rfl).lt
  have hl := lv_entry ([.ref mo, .int cd]) (n := 2) (Nat.le_of_ble_eq_true rfl)
  rw [lg_entry_eq]
  generalize (lg_sl ([.ref mo, .int cd]) ++ List.replicate (2 - (lg_sl ([.ref mo, .int cd])).length) Slot.unset).toArray = ls at hl ⊢
  have hl : lv_has ls 2 [(0, .ref mo), (1, .int cd)] := hl
  refine lv_aload_n (pc := 0) hx hb dX6_fail_0 rfl (lv_at hl 0 rfl) ?_
  refine va_get (pc := 1) (D := D) (ci := 6) (v := .ref me) (C := RX6) (T := TX6) (N := 9) hx hb hts in_X6 hown hK.1 hmo 0 rfl rfl 3 (by decide) (hts _ q577) (fun _ h9 => h9) rfl dX6_fail_1 ?_
  refine lv_ldc (pc := 4) (v := (-2000000002)) hx hb hown (hts _ q614) dX6_fail_4 ?_
  refine lv_iload_n (pc := 6) hx hb dX6_fail_6 rfl (lv_at hl 1 rfl) ?_
  refine lv_isub (pc := 7) hx hb dX6_fail_7 ?_
  refine lv_dup2_11 (pc := 8) hx hb dX6_fail_8 rfl rfl ?_
  refine ia_ld (pc := 9) hx hb hK.1 hP 0 0 j rfl rfl hc hj (Nat.le_of_ble_eq_true rfl) dX6_fail_9 ?_
  refine lv_iconst (pc := 10) (v := 1) hx hb dX6_fail_10 (by decide) ?_
  refine lv_iadd (pc := 11) hx hb dX6_fail_11 ?_
  refine lv_topi (fun z1 ez1 => ?_)
  refine ia_st (pc := 12) (f' := (upd ef j (ef j + 1))) hx hb hK.1 hP hD hS 0 0 j rfl rfl hc hj (Nat.le_of_ble_eq_true rfl) (fun _ _ => by rw [ez1]) dX6_fail_12 (fun H locs hP hD hS => ?_)
  have hP : va_P D vwCl [(me, .inl (g 0, 3, .inl (upd ef j (ef j + 1))))] H := hP
  have hD : va_D (Aw [me] s.heap.size) [(me, .inl (g 0, 3, .inl (upd ef j (ef j + 1))))] := hD
  refine lv_iload_n (pc := 13) hx hb dX6_fail_13 rfl (lv_at hl 1 rfl) ?_
  have hq9 : (fun r H1 => r = cd ∧ va_P D vwCl [(me, .inl (g 0, 3, .inl (upd ef j (ef j + 1))))] H1 : Int32 → Heap → Prop) cd H := ⟨rfl, hP⟩
  exact W.iret (v := cd) hx hb hr (fun t ht hW => ⟨⟨_, rfl, by rw [ht]; exact hq9⟩, hS.F ht⟩) hS.2.2 dX6_fail_14

abbrev rm_m6_forget : Room := ({ frames := 0, cells := 0, slots := 0, locals := 0 })
set_option maxHeartbeats 4000000 in
set_option maxRecDepth 100000 in
theorem m6_forget (l : Launch) {D : va_G} {g : Nat → ClassId} (mo ms mp me mn np : Nat) (iv lg fg hv : Int64) (f : Nat → Int32) (H : Heap) (hP : va_P D vwCl [(ms, .inl (g 0, 71, .inl f))] H) (hmo : va_P D vwCl [(mo, .inr (6, [.ref ms, .ref mp, .int (nI np), .ref me, .ref mn, .long iv, .long lg, .long fg, .long hv]))] H) (nhmo : mo ∉ [ms]) : Met l yX6_forget (ws_ yX6_forget cX6_forget 2 none) rm_m6_forget (va_Pc [.ref mo] (PH D g H)) (QV (fun H1 => va_P D vwCl [(ms, .inl (g 0, 71, .inl (fgK f 71)))] H1) (Aw [ms] H.size)) 0 0 (Aw [ms] H.size) := by
  refine Met.ofW (cc := cX6_forget) (maxL := 2) (ret := none) (by decide) rfl ?_
  intro p e s m args below meth c s₁ B hml hv
  obtain ⟨rfl, hH, hK⟩ := hv
  subst hH
  have hx := B.exec
  have hb := B.bytes
  have hr := B.returns
  have hts := atoms_spec (ws := ws_ yX6_forget cX6_forget 2 none) B.pre
  have hts : ∀ w ∈ lw_all, w.before _ s = true := fun w h => hts w (List.mem_cons_of_mem _ h)
  have hown : s.vm.findClass RX6 = some m.cls := findClass_of_methodNamed B.named
  have hlocks := B.notSynchronized
  have hA : ∀ q, s.heap.size ≤ q → (Aw [ms] s.heap.size) q := fun q h => Or.inr h
  have hS : va_S (Aw [ms] s.heap.size) s.heap s.heap [] := va_S.rf
  have hD : va_D (Aw [ms] s.heap.size) [(ms, .inl (g 0, 71, .inl f))] := d1 (Or.inl (by simp))
  have ahmo : ¬ (Aw [ms] s.heap.size) mo := naw nhmo (hmo 0 _ rfl).lt
  have hl := lv_entry ([.ref mo]) (n := 2) (Nat.le_of_ble_eq_true rfl)
  rw [lg_entry_eq]
  generalize (lg_sl ([.ref mo]) ++ List.replicate (2 - (lg_sl ([.ref mo])).length) Slot.unset).toArray = ls at hl ⊢
  have hl : lv_has ls 2 [(0, .ref mo)] := hl
  refine lv_aload_n (pc := 0) hx hb dX6_forget_0 rfl (lv_at hl 0 rfl) ?_
  refine va_get (pc := 1) (D := D) (ci := 6) (v := .ref ms) (C := RX6) (T := TX6) (N := 9) hx hb hts in_X6 hown hK.1 hmo 0 rfl rfl 0 (by decide) (hts _ q574) (fun _ h9 => h9) rfl dX6_forget_1 ?_
  refine lv_bipush (pc := 4) (v := 16) hx hb dX6_forget_4 (by decide) ?_
  refine lv_ldc (pc := 6) (v := (-2000000001)) hx hb hown (hts _ q573) dX6_forget_6 ?_
  refine ia_st (pc := 8) (f' := (upd f 16 (-2000000001))) hx hb hK.1 hP hD hS 0 0 16 rfl rfl (nl 16) (Nat.le_of_ble_eq_true rfl) (Nat.le_of_ble_eq_true rfl) (fun _ _ => rfl) dX6_forget_8 (fun H locs hP hD hS => ?_)
  have hP : va_P D vwCl [(ms, .inl (g 0, 71, .inl (upd f 16 (-2000000001))))] H := hP
  have hD : va_D (Aw [ms] s.heap.size) [(ms, .inl (g 0, 71, .inl (upd f 16 (-2000000001))))] := hD
  refine lv_aload_n (pc := 9) hx hb dX6_forget_9 rfl (lv_at hl 0 rfl) ?_
  refine va_get (pc := 10) (D := D) (ci := 6) (v := .ref ms) (C := RX6) (T := TX6) (N := 9) hx hb hts in_X6 hown hK.1 (ro_at hS hmo ahmo) 0 rfl rfl 0 (by decide) (hts _ q574) (fun _ h9 => h9) rfl dX6_forget_10 ?_
  refine lv_bipush (pc := 13) (v := 17) hx hb dX6_forget_13 (by decide) ?_
  refine lv_ldc (pc := 15) (v := (-2000000001)) hx hb hown (hts _ q573) dX6_forget_15 ?_
  refine ia_st (pc := 17) (f' := (upd (upd f 16 (-2000000001)) 17 (-2000000001))) hx hb hK.1 hP hD hS 0 0 17 rfl rfl (nl 17) (Nat.le_of_ble_eq_true rfl) (Nat.le_of_ble_eq_true rfl) (fun _ _ => rfl) dX6_forget_17 (fun H locs hP hD hS => ?_)
  have hP : va_P D vwCl [(ms, .inl (g 0, 71, .inl (upd (upd f 16 (-2000000001)) 17 (-2000000001))))] H := hP
  have hD : va_D (Aw [ms] s.heap.size) [(ms, .inl (g 0, 71, .inl (upd (upd f 16 (-2000000001)) 17 (-2000000001))))] := hD
  refine lv_aload_n (pc := 18) hx hb dX6_forget_18 rfl (lv_at hl 0 rfl) ?_
  refine va_get (pc := 19) (D := D) (ci := 6) (v := .ref ms) (C := RX6) (T := TX6) (N := 9) hx hb hts in_X6 hown hK.1 (ro_at hS hmo ahmo) 0 rfl rfl 0 (by decide) (hts _ q574) (fun _ h9 => h9) rfl dX6_forget_19 ?_
  refine lv_bipush (pc := 22) (v := 18) hx hb dX6_forget_22 (by decide) ?_
  refine lv_ldc (pc := 24) (v := (-2000000001)) hx hb hown (hts _ q573) dX6_forget_24 ?_
  refine ia_st (pc := 26) (f' := (upd (upd (upd f 16 (-2000000001)) 17 (-2000000001)) 18 (-2000000001))) hx hb hK.1 hP hD hS 0 0 18 rfl rfl (nl 18) (Nat.le_of_ble_eq_true rfl) (Nat.le_of_ble_eq_true rfl) (fun _ _ => rfl) dX6_forget_26 (fun H locs hP hD hS => ?_)
  have hP : va_P D vwCl [(ms, .inl (g 0, 71, .inl (upd (upd (upd f 16 (-2000000001)) 17 (-2000000001)) 18 (-2000000001))))] H := hP
  have hD : va_D (Aw [ms] s.heap.size) [(ms, .inl (g 0, 71, .inl (upd (upd (upd f 16 (-2000000001)) 17 (-2000000001)) 18 (-2000000001))))] := hD
  refine lv_aload_n (pc := 27) hx hb dX6_forget_27 rfl (lv_at hl 0 rfl) ?_
  refine va_get (pc := 28) (D := D) (ci := 6) (v := .ref ms) (C := RX6) (T := TX6) (N := 9) hx hb hts in_X6 hown hK.1 (ro_at hS hmo ahmo) 0 rfl rfl 0 (by decide) (hts _ q574) (fun _ h9 => h9) rfl dX6_forget_28 ?_
  refine lv_bipush (pc := 31) (v := 19) hx hb dX6_forget_31 (by decide) ?_
  refine lv_iconst (pc := 33) (v := 0) hx hb dX6_forget_33 (by decide) ?_
  refine ia_st (pc := 34) (f' := (upd (upd (upd (upd f 16 (-2000000001)) 17 (-2000000001)) 18 (-2000000001)) 19 0)) hx hb hK.1 hP hD hS 0 0 19 rfl rfl (nl 19) (Nat.le_of_ble_eq_true rfl) (Nat.le_of_ble_eq_true rfl) (fun _ _ => rfl) dX6_forget_34 (fun H locs hP hD hS => ?_)
  have hP : va_P D vwCl [(ms, .inl (g 0, 71, .inl (upd (upd (upd (upd f 16 (-2000000001)) 17 (-2000000001)) 18 (-2000000001)) 19 0)))] H := hP
  have hD : va_D (Aw [ms] s.heap.size) [(ms, .inl (g 0, 71, .inl (upd (upd (upd (upd f 16 (-2000000001)) 17 (-2000000001)) 18 (-2000000001)) 19 0)))] := hD
  refine lv_aload_n (pc := 35) hx hb dX6_forget_35 rfl (lv_at hl 0 rfl) ?_
  refine va_get (pc := 36) (D := D) (ci := 6) (v := .ref ms) (C := RX6) (T := TX6) (N := 9) hx hb hts in_X6 hown hK.1 (ro_at hS hmo ahmo) 0 rfl rfl 0 (by decide) (hts _ q574) (fun _ h9 => h9) rfl dX6_forget_36 ?_
  refine lv_bipush (pc := 39) (v := 20) hx hb dX6_forget_39 (by decide) ?_
  refine lv_iconst (pc := 41) (v := 0) hx hb dX6_forget_41 (by decide) ?_
  refine ia_st (pc := 42) (f' := (upd (upd (upd (upd (upd f 16 (-2000000001)) 17 (-2000000001)) 18 (-2000000001)) 19 0) 20 0)) hx hb hK.1 hP hD hS 0 0 20 rfl rfl (nl 20) (Nat.le_of_ble_eq_true rfl) (Nat.le_of_ble_eq_true rfl) (fun _ _ => rfl) dX6_forget_42 (fun H locs hP hD hS => ?_)
  have hP : va_P D vwCl [(ms, .inl (g 0, 71, .inl (upd (upd (upd (upd (upd f 16 (-2000000001)) 17 (-2000000001)) 18 (-2000000001)) 19 0) 20 0)))] H := hP
  have hD : va_D (Aw [ms] s.heap.size) [(ms, .inl (g 0, 71, .inl (upd (upd (upd (upd (upd f 16 (-2000000001)) 17 (-2000000001)) 18 (-2000000001)) 19 0) 20 0)))] := hD
  refine lv_aload_n (pc := 43) hx hb dX6_forget_43 rfl (lv_at hl 0 rfl) ?_
  refine va_get (pc := 44) (D := D) (ci := 6) (v := .ref ms) (C := RX6) (T := TX6) (N := 9) hx hb hts in_X6 hown hK.1 (ro_at hS hmo ahmo) 0 rfl rfl 0 (by decide) (hts _ q574) (fun _ h9 => h9) rfl dX6_forget_44 ?_
  refine lv_bipush (pc := 47) (v := 21) hx hb dX6_forget_47 (by decide) ?_
  refine lv_iconst (pc := 49) (v := 0) hx hb dX6_forget_49 (by decide) ?_
  refine ia_st (pc := 50) (f' := (upd (upd (upd (upd (upd (upd f 16 (-2000000001)) 17 (-2000000001)) 18 (-2000000001)) 19 0) 20 0) 21 0)) hx hb hK.1 hP hD hS 0 0 21 rfl rfl (nl 21) (Nat.le_of_ble_eq_true rfl) (Nat.le_of_ble_eq_true rfl) (fun _ _ => rfl) dX6_forget_50 (fun H locs hP hD hS => ?_)
  have hP : va_P D vwCl [(ms, .inl (g 0, 71, .inl (upd (upd (upd (upd (upd (upd f 16 (-2000000001)) 17 (-2000000001)) 18 (-2000000001)) 19 0) 20 0) 21 0)))] H := hP
  have hD : va_D (Aw [ms] s.heap.size) [(ms, .inl (g 0, 71, .inl (upd (upd (upd (upd (upd (upd f 16 (-2000000001)) 17 (-2000000001)) 18 (-2000000001)) 19 0) 20 0) 21 0)))] := hD
  refine lv_aload_n (pc := 51) hx hb dX6_forget_51 rfl (lv_at hl 0 rfl) ?_
  refine va_get (pc := 52) (D := D) (ci := 6) (v := .ref ms) (C := RX6) (T := TX6) (N := 9) hx hb hts in_X6 hown hK.1 (ro_at hS hmo ahmo) 0 rfl rfl 0 (by decide) (hts _ q574) (fun _ h9 => h9) rfl dX6_forget_52 ?_
  refine lv_bipush (pc := 55) (v := 22) hx hb dX6_forget_55 (by decide) ?_
  refine lv_iconst (pc := 57) (v := 0) hx hb dX6_forget_57 (by decide) ?_
  refine ia_st (pc := 58) (f' := (fgK f 23)) hx hb hK.1 hP hD hS 0 0 22 rfl rfl (nl 22) (Nat.le_of_ble_eq_true rfl) (Nat.le_of_ble_eq_true rfl) (fun j _ => fg_base f j) dX6_forget_58 (fun H locs hP hD hS => ?_)
  have hP : va_P D vwCl [(ms, .inl (g 0, 71, .inl (fgK f 23)))] H := hP
  have hD : va_D (Aw [ms] s.heap.size) [(ms, .inl (g 0, 71, .inl (fgK f 23)))] := hD
  refine lv_bipush (pc := 59) (v := 23) hx hb dX6_forget_59 (by decide) ?_
  refine lv_istore_n (pc := 61) (lv' := [(1, .int 23), (0, .ref mo)]) hx hb dX6_forget_61 rfl hl (by decide) rfl (fun ls hl => ?_)
  have loop : ∀ (n : Nat) (i : Nat), (23 ≤ i ∧ i ≤ 71) → (72 ≤ i + n) → ∀ (H : Heap) (locs : List Loc), va_P D vwCl [(ms, .inl (g 0, 71, .inl (fgK f i)))] H → va_D (Aw [ms] s.heap.size) [(ms, .inl (g 0, 71, .inl (fgK f i)))] → va_S (Aw [ms] s.heap.size) s.heap H locs → ∀ (ls : Array Slot), lv_has ls 2 [(0, .ref mo), (1, .int (nI i))] → W p l e (headSpec (ws_ yX6_forget cX6_forget 2 none) rm_m6_forget).room s m ([.ref mo] : List Value).toArray below meth c H locs 0 0 (MQ below (QV (fun H1 => va_P D vwCl [(ms, .inl (g 0, 71, .inl (fgK f 71)))] H1) (Aw [ms] s.heap.size)) ([.ref mo] : List Value).toArray s 0 0 (Aw [ms] s.heap.size)) (F0 m 62 ls []) := by
    intro n
    induction n with
    | zero =>
      intro i hi hfu
      exact absurd (show _ by assumption) (by omega)
    | succ n ih =>
      intro i hi hfu H locs hP hD hS ls hl
      refine lv_iload_n (pc := 62) hx hb dX6_forget_62 rfl (lv_at hl 1 rfl) ?_
      refine lv_bipush (pc := 63) (v := 71) hx hb dX6_forget_63 (by decide) ?_
      refine lv_icmp_ge (pc := 65) (tgt := 81) hx hb dX6_forget_65 (by decide) (fun cd1 => ?_) (fun cd1 => ?_)
      · have ncd1 : 71 ≤ i := (nle (nl 71) rfl (by omega) (by omega)).mp cd1
        have hq9 : (fun H1 => va_P D vwCl [(ms, .inl (g 0, 71, .inl (fgK f 71)))] H1 : Heap → Prop) H := by rw [show i = 71 by omega] at hP; exact hP
        exact W.vret hx hb hr (fun t ht hW => ⟨⟨rfl, by rw [ht]; exact hq9⟩, hS.F ht⟩) hS.2.2 dX6_forget_81
      · have ncd1 : ¬ 71 ≤ i := fun h => cd1 ((nle (nl 71) rfl (by omega) (by omega)).mpr h)
        refine lv_aload_n (pc := 68) hx hb dX6_forget_68 rfl (lv_at hl 0 rfl) ?_
        refine va_get (pc := 69) (D := D) (ci := 6) (v := .ref ms) (C := RX6) (T := TX6) (N := 9) hx hb hts in_X6 hown hK.1 (ro_at hS hmo ahmo) 0 rfl rfl 0 (by decide) (hts _ q574) (fun _ h9 => h9) rfl dX6_forget_69 ?_
        refine lv_iload_n (pc := 72) hx hb dX6_forget_72 rfl (lv_at hl 1 rfl) ?_
        refine lv_iconst (pc := 73) (v := 0) hx hb dX6_forget_73 (by decide) ?_
        refine ia_st (pc := 74) (f' := (fgK f (i + 1))) hx hb hK.1 hP hD hS 0 0 i rfl rfl rfl (by omega) (Nat.le_of_ble_eq_true rfl) (fun j _ => fg_step (by omega)) dX6_forget_74 (fun H locs hP hD hS => ?_)
        have hP : va_P D vwCl [(ms, .inl (g 0, 71, .inl (fgK f (i + 1))))] H := hP
        have hD : va_D (Aw [ms] s.heap.size) [(ms, .inl (g 0, 71, .inl (fgK f (i + 1))))] := hD
        obtain ⟨x2, ex2⟩ : ∃ y : Int32, y = (nI i) + 1 := ⟨_, rfl⟩
        refine lv_iinc (pc := 75) (v := x2) (lv' := [(1, .int x2), (0, .ref mo)]) hx hb dX6_forget_75 hl (k := 1) rfl (by rw [ex2]; rfl) (by decide) rfl (fun ls hl => ?_)
        refine lv_goto (pc := 78) (tgt := 62) hx hb dX6_forget_78 (by decide) ?_
        rw [show x2 = nI (i + 1) from (ex2.trans (nadd rfl (nl 1)))] at hl
        exact ih  (i + 1) (by omega) (by omega) _ _ hP hD hS ls (lv_sub hl [1, 0] rfl)
  exact loop 72 23 (by omega) (by omega) _ _ hP hD hS ls (lv_sub hl [1, 0] rfl)

abbrev rm_m6_take : Room := ({ frames := 0, cells := 0, slots := 0, locals := 0 })
set_option maxHeartbeats 4000000 in
set_option maxRecDepth 100000 in
theorem m6_take (l : Launch) {D : va_G} {g : Nat → ClassId} (mo ms mp me mn np : Nat) (iv lg fg hv : Int64) (f : Nat → Int32) (nw : Nat → Int64) (H : Heap) (hP : va_P D vwCl [(mn, .inl (g 1, 5, .inr (.inl nw)))] H) (hmo : va_P D vwCl [(mo, .inr (6, [.ref ms, .ref mp, .int (nI np), .ref me, .ref mn, .long iv, .long lg, .long fg, .long hv]))] H) (nhmo : mo ∉ [mn]) (hms : va_P D vwCl [(ms, .inl (g 0, 71, .inl f))] H) (nhms : ms ∉ [mn]) : Met l yX6_take (ws_ yX6_take cX6_take 2 none) rm_m6_take (va_Pc [.ref mo] (PH D g H)) (QV (fun H1 => va_P D vwCl [(mn, .inl (g 1, 5, .inr (.inl (e64 (eR f)))))] H1) (Aw [mn] H.size)) 0 0 (Aw [mn] H.size) := by
  refine Met.ofW (cc := cX6_take) (maxL := 2) (ret := none) (by decide) rfl ?_
  intro p e s m args below meth c s₁ B hml hv
  obtain ⟨rfl, hH, hK⟩ := hv
  subst hH
  have hx := B.exec
  have hb := B.bytes
  have hr := B.returns
  have hts := atoms_spec (ws := ws_ yX6_take cX6_take 2 none) B.pre
  have hts : ∀ w ∈ lw_all, w.before _ s = true := fun w h => hts w (List.mem_cons_of_mem _ h)
  have hown : s.vm.findClass RX6 = some m.cls := findClass_of_methodNamed B.named
  have hlocks := B.notSynchronized
  have hA : ∀ q, s.heap.size ≤ q → (Aw [mn] s.heap.size) q := fun q h => Or.inr h
  have hS : va_S (Aw [mn] s.heap.size) s.heap s.heap [] := va_S.rf
  have hD : va_D (Aw [mn] s.heap.size) [(mn, .inl (g 1, 5, .inr (.inl nw)))] := d1 (Or.inl (by simp))
  have ahmo : ¬ (Aw [mn] s.heap.size) mo := naw nhmo (hmo 0 _ rfl).lt
  have ahms : ¬ (Aw [mn] s.heap.size) ms := naw nhms (hms 0 _ rfl).lt
  have hl := lv_entry ([.ref mo]) (n := 2) (Nat.le_of_ble_eq_true rfl)
  rw [lg_entry_eq]
  generalize (lg_sl ([.ref mo]) ++ List.replicate (2 - (lg_sl ([.ref mo])).length) Slot.unset).toArray = ls at hl ⊢
  have hl : lv_has ls 2 [(0, .ref mo)] := hl
  refine lv_iconst (pc := 0) (v := 0) hx hb dX6_take_0 (by decide) ?_
  refine lv_istore_n (pc := 1) (lv' := [(1, .int 0), (0, .ref mo)]) hx hb dX6_take_1 rfl hl (by decide) rfl (fun ls hl => ?_)
  have loop : ∀ (n : Nat) (i : Nat), (i ≤ 5) → (6 ≤ i + n) → ∀ (H : Heap) (locs : List Loc), va_P D vwCl [(mn, .inl (g 1, 5, .inr (.inl (tkF nw f i))))] H → va_D (Aw [mn] s.heap.size) [(mn, .inl (g 1, 5, .inr (.inl (tkF nw f i))))] → va_S (Aw [mn] s.heap.size) s.heap H locs → ∀ (ls : Array Slot), lv_has ls 2 [(0, .ref mo), (1, .int (nI i))] → W p l e (headSpec (ws_ yX6_take cX6_take 2 none) rm_m6_take).room s m ([.ref mo] : List Value).toArray below meth c H locs 0 0 (MQ below (QV (fun H1 => va_P D vwCl [(mn, .inl (g 1, 5, .inr (.inl (e64 (eR f)))))] H1) (Aw [mn] s.heap.size)) ([.ref mo] : List Value).toArray s 0 0 (Aw [mn] s.heap.size)) (F0 m 2 ls []) := by
    intro n
    induction n with
    | zero =>
      intro i hi hfu
      exact absurd (show _ by assumption) (by omega)
    | succ n ih =>
      intro i hi hfu H locs hP hD hS ls hl
      refine lv_iload_n (pc := 2) hx hb dX6_take_2 rfl (lv_at hl 1 rfl) ?_
      refine lv_iconst (pc := 3) (v := 5) hx hb dX6_take_3 (by decide) ?_
      refine lv_icmp_ge (pc := 4) (tgt := 26) hx hb dX6_take_4 (by decide) (fun cd1 => ?_) (fun cd1 => ?_)
      · have ncd1 : 5 ≤ i := (nle (nl 5) rfl (by omega) (by omega)).mp cd1
        have hq9 : (fun H1 => va_P D vwCl [(mn, .inl (g 1, 5, .inr (.inl (e64 (eR f)))))] H1 : Heap → Prop) H := by rw [show i = 5 by omega] at hP; exact hP.exL 0 rfl (fun j hj => tk_5 hj)
        exact W.vret hx hb hr (fun t ht hW => ⟨⟨rfl, by rw [ht]; exact hq9⟩, hS.F ht⟩) hS.2.2 dX6_take_26
      · have ncd1 : ¬ 5 ≤ i := fun h => cd1 ((nle (nl 5) rfl (by omega) (by omega)).mpr h)
        refine lv_aload_n (pc := 7) hx hb dX6_take_7 rfl (lv_at hl 0 rfl) ?_
        refine va_get (pc := 8) (D := D) (ci := 6) (v := .ref mn) (C := RX6) (T := TX6) (N := 9) hx hb hts in_X6 hown hK.1 (ro_at hS hmo ahmo) 0 rfl rfl 4 (by decide) (hts _ q578) (fun _ h9 => h9) rfl dX6_take_8 ?_
        refine lv_iload_n (pc := 11) hx hb dX6_take_11 rfl (lv_at hl 1 rfl) ?_
        refine lv_aload_n (pc := 12) hx hb dX6_take_12 rfl (lv_at hl 0 rfl) ?_
        refine va_get (pc := 13) (D := D) (ci := 6) (v := .ref ms) (C := RX6) (T := TX6) (N := 9) hx hb hts in_X6 hown hK.1 (ro_at hS hmo ahmo) 0 rfl rfl 0 (by decide) (hts _ q574) (fun _ h9 => h9) rfl dX6_take_13 ?_
        refine lv_iload_n (pc := 16) hx hb dX6_take_16 rfl (lv_at hl 1 rfl) ?_
        refine ia_ld (pc := 17) hx hb hK.1 (ro_at hS hms ahms) 0 0 i rfl rfl rfl (by omega) (Nat.le_of_ble_eq_true rfl) dX6_take_17 ?_
        refine lv_i2l (pc := 18) hx hb dX6_take_18 rfl ?_
        refine lv_topl (fun z2 ez2 => ?_)
        refine la_st (pc := 19) (f' := (tkF nw f (i + 1))) hx hb hK.1 hP hD hS 0 1 i rfl rfl rfl (by omega) (Nat.le_of_ble_eq_true rfl) (fun j _ => by rw [ez2]; exact tk_step) dX6_take_19 (fun H locs hP hD hS => ?_)
        have hP : va_P D vwCl [(mn, .inl (g 1, 5, .inr (.inl (tkF nw f (i + 1)))))] H := hP
        have hD : va_D (Aw [mn] s.heap.size) [(mn, .inl (g 1, 5, .inr (.inl (tkF nw f (i + 1)))))] := hD
        obtain ⟨x3, ex3⟩ : ∃ y : Int32, y = (nI i) + 1 := ⟨_, rfl⟩
        refine lv_iinc (pc := 20) (v := x3) (lv' := [(1, .int x3), (0, .ref mo)]) hx hb dX6_take_20 hl (k := 1) rfl (by rw [ex3]; rfl) (by decide) rfl (fun ls hl => ?_)
        refine lv_goto (pc := 23) (tgt := 2) hx hb dX6_take_23 (by decide) ?_
        rw [show x3 = nI (i + 1) from (ex3.trans (nadd rfl (nl 1)))] at hl
        exact ih  (i + 1) (by omega) (by omega) _ _ hP hD hS ls (lv_sub hl [1, 0] rfl)
  rw [show nw = tkF nw f 0 from tk_0] at hP hD
  exact loop 6 0 (by omega) (by omega) _ _ hP hD hS ls (lv_sub hl [1, 0] rfl)

abbrev rm_m6_put : Room := ({ frames := 0, cells := 0, slots := 0, locals := 0 })
set_option maxHeartbeats 4000000 in
set_option maxRecDepth 100000 in
theorem m6_put (l : Launch) {D : va_G} {g : Nat → ClassId} (mo ms mp me mn np : Nat) (iv lg fg hv : Int64) (f u : Nat → Int32) (H : Heap) (hP : va_P D vwCl [(ms, .inl (g 0, 71, .inl f))] H) (hmo : va_P D vwCl [(mo, .inr (6, [.ref ms, .ref mp, .int (nI np), .ref me, .ref mn, .long iv, .long lg, .long fg, .long hv]))] H) (nhmo : mo ∉ [ms]) (hmn : va_P D vwCl [(mn, .inl (g 1, 5, .inr (.inl (e64 u))))] H) (nhmn : mn ∉ [ms]) : Met l yX6_put (ws_ yX6_put cX6_put 2 none) rm_m6_put (va_Pc [.ref mo] (PH D g H)) (QV (fun H1 => va_P D vwCl [(ms, .inl (g 0, 71, .inl (p5F f u 5)))] H1) (Aw [ms] H.size)) 0 0 (Aw [ms] H.size) := by
  refine Met.ofW (cc := cX6_put) (maxL := 2) (ret := none) (by decide) rfl ?_
  intro p e s m args below meth c s₁ B hml hv
  obtain ⟨rfl, hH, hK⟩ := hv
  subst hH
  have hx := B.exec
  have hb := B.bytes
  have hr := B.returns
  have hts := atoms_spec (ws := ws_ yX6_put cX6_put 2 none) B.pre
  have hts : ∀ w ∈ lw_all, w.before _ s = true := fun w h => hts w (List.mem_cons_of_mem _ h)
  have hown : s.vm.findClass RX6 = some m.cls := findClass_of_methodNamed B.named
  have hlocks := B.notSynchronized
  have hA : ∀ q, s.heap.size ≤ q → (Aw [ms] s.heap.size) q := fun q h => Or.inr h
  have hS : va_S (Aw [ms] s.heap.size) s.heap s.heap [] := va_S.rf
  have hD : va_D (Aw [ms] s.heap.size) [(ms, .inl (g 0, 71, .inl f))] := d1 (Or.inl (by simp))
  have ahmo : ¬ (Aw [ms] s.heap.size) mo := naw nhmo (hmo 0 _ rfl).lt
  have ahmn : ¬ (Aw [ms] s.heap.size) mn := naw nhmn (hmn 0 _ rfl).lt
  have hl := lv_entry ([.ref mo]) (n := 2) (Nat.le_of_ble_eq_true rfl)
  rw [lg_entry_eq]
  generalize (lg_sl ([.ref mo]) ++ List.replicate (2 - (lg_sl ([.ref mo])).length) Slot.unset).toArray = ls at hl ⊢
  have hl : lv_has ls 2 [(0, .ref mo)] := hl
  refine lv_iconst (pc := 0) (v := 0) hx hb dX6_put_0 (by decide) ?_
  refine lv_istore_n (pc := 1) (lv' := [(1, .int 0), (0, .ref mo)]) hx hb dX6_put_1 rfl hl (by decide) rfl (fun ls hl => ?_)
  have loop : ∀ (n : Nat) (i : Nat), (i ≤ 5) → (6 ≤ i + n) → ∀ (H : Heap) (locs : List Loc), va_P D vwCl [(ms, .inl (g 0, 71, .inl (p5F f u i)))] H → va_D (Aw [ms] s.heap.size) [(ms, .inl (g 0, 71, .inl (p5F f u i)))] → va_S (Aw [ms] s.heap.size) s.heap H locs → ∀ (ls : Array Slot), lv_has ls 2 [(0, .ref mo), (1, .int (nI i))] → W p l e (headSpec (ws_ yX6_put cX6_put 2 none) rm_m6_put).room s m ([.ref mo] : List Value).toArray below meth c H locs 0 0 (MQ below (QV (fun H1 => va_P D vwCl [(ms, .inl (g 0, 71, .inl (p5F f u 5)))] H1) (Aw [ms] s.heap.size)) ([.ref mo] : List Value).toArray s 0 0 (Aw [ms] s.heap.size)) (F0 m 2 ls []) := by
    intro n
    induction n with
    | zero =>
      intro i hi hfu
      exact absurd (show _ by assumption) (by omega)
    | succ n ih =>
      intro i hi hfu H locs hP hD hS ls hl
      refine lv_iload_n (pc := 2) hx hb dX6_put_2 rfl (lv_at hl 1 rfl) ?_
      refine lv_iconst (pc := 3) (v := 5) hx hb dX6_put_3 (by decide) ?_
      refine lv_icmp_ge (pc := 4) (tgt := 26) hx hb dX6_put_4 (by decide) (fun cd1 => ?_) (fun cd1 => ?_)
      · have ncd1 : 5 ≤ i := (nle (nl 5) rfl (by omega) (by omega)).mp cd1
        have hq9 : (fun H1 => va_P D vwCl [(ms, .inl (g 0, 71, .inl (p5F f u 5)))] H1 : Heap → Prop) H := by rw [show i = 5 by omega] at hP; exact hP
        exact W.vret hx hb hr (fun t ht hW => ⟨⟨rfl, by rw [ht]; exact hq9⟩, hS.F ht⟩) hS.2.2 dX6_put_26
      · have ncd1 : ¬ 5 ≤ i := fun h => cd1 ((nle (nl 5) rfl (by omega) (by omega)).mpr h)
        refine lv_aload_n (pc := 7) hx hb dX6_put_7 rfl (lv_at hl 0 rfl) ?_
        refine va_get (pc := 8) (D := D) (ci := 6) (v := .ref ms) (C := RX6) (T := TX6) (N := 9) hx hb hts in_X6 hown hK.1 (ro_at hS hmo ahmo) 0 rfl rfl 0 (by decide) (hts _ q574) (fun _ h9 => h9) rfl dX6_put_8 ?_
        refine lv_iload_n (pc := 11) hx hb dX6_put_11 rfl (lv_at hl 1 rfl) ?_
        refine lv_aload_n (pc := 12) hx hb dX6_put_12 rfl (lv_at hl 0 rfl) ?_
        refine va_get (pc := 13) (D := D) (ci := 6) (v := .ref mn) (C := RX6) (T := TX6) (N := 9) hx hb hts in_X6 hown hK.1 (ro_at hS hmo ahmo) 0 rfl rfl 4 (by decide) (hts _ q578) (fun _ h9 => h9) rfl dX6_put_13 ?_
        refine lv_iload_n (pc := 16) hx hb dX6_put_16 rfl (lv_at hl 1 rfl) ?_
        refine la_ld (pc := 17) hx hb hK.1 (ro_at hS hmn ahmn) 0 1 i rfl rfl rfl (by omega) (Nat.le_of_ble_eq_true rfl) dX6_put_17 ?_
        refine lv_l2i (pc := 18) hx hb dX6_put_18 rfl ?_
        refine lv_topi (fun z2 ez2 => ?_)
        refine ia_st (pc := 19) (f' := (p5F f u (i + 1))) hx hb hK.1 hP hD hS 0 0 i rfl rfl rfl (by omega) (Nat.le_of_ble_eq_true rfl) (fun j _ => by rw [ez2]; exact p5_step) dX6_put_19 (fun H locs hP hD hS => ?_)
        have hP : va_P D vwCl [(ms, .inl (g 0, 71, .inl (p5F f u (i + 1))))] H := hP
        have hD : va_D (Aw [ms] s.heap.size) [(ms, .inl (g 0, 71, .inl (p5F f u (i + 1))))] := hD
        obtain ⟨x3, ex3⟩ : ∃ y : Int32, y = (nI i) + 1 := ⟨_, rfl⟩
        refine lv_iinc (pc := 20) (v := x3) (lv' := [(1, .int x3), (0, .ref mo)]) hx hb dX6_put_20 hl (k := 1) rfl (by rw [ex3]; rfl) (by decide) rfl (fun ls hl => ?_)
        refine lv_goto (pc := 23) (tgt := 2) hx hb dX6_put_23 (by decide) ?_
        rw [show x3 = nI (i + 1) from (ex3.trans (nadd rfl (nl 1)))] at hl
        exact ih  (i + 1) (by omega) (by omega) _ _ hP hD hS ls (lv_sub hl [1, 0] rfl)
  rw [show f = p5F f u 0 from p5_0] at hP hD
  exact loop 6 0 (by omega) (by omega) _ _ hP hD hS ls (lv_sub hl [1, 0] rfl)

abbrev rm_m6_note : Room := ({ frames := 0, cells := 0, slots := 0, locals := 0 })
set_option maxHeartbeats 4000000 in
set_option maxRecDepth 100000 in
theorem m6_note (l : Launch) {D : va_G} {g : Nat → ClassId} (mo ms mp me mn np : Nat) (iv lg fg hv : Int64) (f pa : Nat → Int32) (H : Heap) (hP : va_P D vwCl [(mo, .inr (6, [.ref ms, .ref mp, .int (nI np), .ref me, .ref mn, .long iv, .long lg, .long fg, .long hv])), (mp, .inl (g 0, 284, .inl pa))] H) (hN : [mo, mp].Nodup) (hms : va_P D vwCl [(ms, .inl (g 0, 71, .inl f))] H) (nhms : ms ∉ [mo, mp]) (hnp : np ≤ 4) : Met l yX6_note (ws_ yX6_note cX6_note 2 none) rm_m6_note (va_Pc [.ref mo] (PH D g H)) (QV (fun H1 => va_P D vwCl [(mo, .inr (6, [.ref ms, .ref mp, .int (nI (addK 4 np)), .ref me, .ref mn, .long iv, .long lg, .long fg, .long hv])), (mp, .inl (g 0, 284, .inl (ntF np pa f)))] H1) (Aw [mo, mp] H.size)) 0 0 (Aw [mo, mp] H.size) := by
  refine Met.ofW (cc := cX6_note) (maxL := 2) (ret := none) (by decide) rfl ?_
  intro p e s m args below meth c s₁ B hml hv
  obtain ⟨rfl, hH, hK⟩ := hv
  subst hH
  have hx := B.exec
  have hb := B.bytes
  have hr := B.returns
  have hts := atoms_spec (ws := ws_ yX6_note cX6_note 2 none) B.pre
  have hts : ∀ w ∈ lw_all, w.before _ s = true := fun w h => hts w (List.mem_cons_of_mem _ h)
  have hown : s.vm.findClass RX6 = some m.cls := findClass_of_methodNamed B.named
  have hlocks := B.notSynchronized
  have hA : ∀ q, s.heap.size ≤ q → (Aw [mo, mp] s.heap.size) q := fun q h => Or.inr h
  have hS : va_S (Aw [mo, mp] s.heap.size) s.heap s.heap [] := va_S.rf
  have hD : va_D (Aw [mo, mp] s.heap.size) [(mo, .inr (6, [.ref ms, .ref mp, .int (nI np), .ref me, .ref mn, .long iv, .long lg, .long fg, .long hv])), (mp, .inl (g 0, 284, .inl pa))] := dOf hN (fun q h => Or.inl h)
  have ahms : ¬ (Aw [mo, mp] s.heap.size) ms := naw nhms (hms 0 _ rfl).lt
  have hl := lv_entry ([.ref mo]) (n := 2) (Nat.le_of_ble_eq_true rfl)
  rw [lg_entry_eq]
  generalize (lg_sl ([.ref mo]) ++ List.replicate (2 - (lg_sl ([.ref mo])).length) Slot.unset).toArray = ls at hl ⊢
  have hl : lv_has ls 2 [(0, .ref mo)] := hl
  refine lv_aload_n (pc := 0) hx hb dX6_note_0 rfl (lv_at hl 0 rfl) ?_
  refine va_get (pc := 1) (D := D) (ci := 6) (v := .int (nI np)) (C := RX6) (T := TX6) (N := 9) hx hb hts in_X6 hown hK.1 hP 0 rfl rfl 2 (by decide) (hts _ q576) (fun _ h9 => h9) rfl dX6_note_1 ?_
  refine lv_iconst (pc := 4) (v := 4) hx hb dX6_note_4 (by decide) ?_
  refine lv_icmp_ne (pc := 5) (tgt := 48) hx hb dX6_note_5 (by decide) (fun cd1 => ?_) (fun cd1 => ?_)
  · have ncd1 : ¬ np = 4 := fun h => cd1 ((neq rfl (nl 4) (by omega) (by omega)).mpr h)
    refine lv_iconst (pc := 48) (v := 0) hx hb dX6_note_48 (by decide) ?_
    refine lv_istore_n (pc := 49) (lv' := [(1, .int 0), (0, .ref mo)]) hx hb dX6_note_49 rfl hl (by decide) rfl (fun ls hl => ?_)
    have loop2 : ∀ (n : Nat) (i2 : Nat), (i2 ≤ 71) → (72 ≤ i2 + n) → ∀ (H : Heap) (locs : List Loc), va_P D vwCl [(mo, .inr (6, [.ref ms, .ref mp, .int (nI np), .ref me, .ref mn, .long iv, .long lg, .long fg, .long hv])), (mp, .inl (g 0, 284, .inl (ptF pa (71 * np) f i2)))] H → va_D (Aw [mo, mp] s.heap.size) [(mo, .inr (6, [.ref ms, .ref mp, .int (nI np), .ref me, .ref mn, .long iv, .long lg, .long fg, .long hv])), (mp, .inl (g 0, 284, .inl (ptF pa (71 * np) f i2)))] → va_S (Aw [mo, mp] s.heap.size) s.heap H locs → ∀ (ls : Array Slot), lv_has ls 2 [(0, .ref mo), (1, .int (nI i2))] → W p l e (headSpec (ws_ yX6_note cX6_note 2 none) rm_m6_note).room s m ([.ref mo] : List Value).toArray below meth c H locs 0 0 (MQ below (QV (fun H1 => va_P D vwCl [(mo, .inr (6, [.ref ms, .ref mp, .int (nI (addK 4 np)), .ref me, .ref mn, .long iv, .long lg, .long fg, .long hv])), (mp, .inl (g 0, 284, .inl (ntF np pa f)))] H1) (Aw [mo, mp] s.heap.size)) ([.ref mo] : List Value).toArray s 0 0 (Aw [mo, mp] s.heap.size)) (F0 m 50 ls []) := by
      intro n
      induction n with
      | zero =>
        intro i2 hi2 hfu2
        exact absurd (show _ by assumption) (by omega)
      | succ n ih =>
        intro i2 hi2 hfu2 H locs hP hD hS ls hl
        refine lv_iload_n (pc := 50) hx hb dX6_note_50 rfl (lv_at hl 1 rfl) ?_
        refine lv_bipush (pc := 51) (v := 71) hx hb dX6_note_51 (by decide) ?_
        refine lv_icmp_ge (pc := 53) (tgt := 82) hx hb dX6_note_53 (by decide) (fun cd2 => ?_) (fun cd2 => ?_)
        · have ncd2 : 71 ≤ i2 := (nle (nl 71) rfl (by omega) (by omega)).mp cd2
          refine lv_aload_n (pc := 82) hx hb dX6_note_82 rfl (lv_at hl 0 rfl) ?_
          refine lv_dup (pc := 83) hx hb dX6_note_83 rfl ?_
          refine va_get (pc := 84) (D := D) (ci := 6) (v := .int (nI np)) (C := RX6) (T := TX6) (N := 9) hx hb hts in_X6 hown hK.1 hP 0 rfl rfl 2 (by decide) (hts _ q576) (fun _ h9 => h9) rfl dX6_note_84 ?_
          refine lv_iconst (pc := 87) (v := 1) hx hb dX6_note_87 (by decide) ?_
          refine lv_iadd (pc := 88) hx hb dX6_note_88 ?_
          refine lv_topi (fun z3 ez3 => ?_)
          refine va_put (pc := 89) (D := D) (ci := 6) (v := .int z3) (ty := .int) (C := RX6) (T := TX6) (N := 9) hx hb hts in_X6 tyX6 tyX6_ok nmX6 hown hK.1 hP hD hS 0 rfl rfl 2 (by decide) (hts _ q576) (fun _ h9 => h9) rfl (by decide +kernel) rfl rfl (Nat.le_of_ble_eq_true rfl) dX6_note_89 (fun H locs hP hD hS => ?_)
          have hP : va_P D vwCl [(mo, .inr (6, [.ref ms, .ref mp, .int z3, .ref me, .ref mn, .long iv, .long lg, .long fg, .long hv])), (mp, .inl (g 0, 284, .inl (ptF pa (71 * np) f i2)))] H := hP
          have hD : va_D (Aw [mo, mp] s.heap.size) [(mo, .inr (6, [.ref ms, .ref mp, .int z3, .ref me, .ref mn, .long iv, .long lg, .long fg, .long hv])), (mp, .inl (g 0, 284, .inl (ptF pa (71 * np) f i2)))] := hD
          have hq9 : (fun H1 => va_P D vwCl [(mo, .inr (6, [.ref ms, .ref mp, .int (nI (addK 4 np)), .ref me, .ref mn, .long iv, .long lg, .long fg, .long hv])), (mp, .inl (g 0, 284, .inl (ntF np pa f)))] H1 : Heap → Prop) H := by
              have hz9 : z3 = nI (addK 4 np) := by rw [ez3]; unfold addK; rw [if_neg ncd1]; exact nadd rfl rfl
              subst hz9
              rw [show i2 = 71 by omega] at hP
              have hq9 : ntF np pa f = ptF pa (71 * np) f 71 := by unfold ntF; rw [if_neg ncd1]
              rw [hq9]
              exact hP.sub [0, 1] rfl
          exact W.vret hx hb hr (fun t ht hW => ⟨⟨rfl, by rw [ht]; exact hq9⟩, hS.F ht⟩) hS.2.2 dX6_note_92
        · have ncd2 : ¬ 71 ≤ i2 := fun h => cd2 ((nle (nl 71) rfl (by omega) (by omega)).mpr h)
          refine lv_aload_n (pc := 56) hx hb dX6_note_56 rfl (lv_at hl 0 rfl) ?_
          refine va_get (pc := 57) (D := D) (ci := 6) (v := .ref mp) (C := RX6) (T := TX6) (N := 9) hx hb hts in_X6 hown hK.1 hP 0 rfl rfl 1 (by decide) (hts _ q575) (fun _ h9 => h9) rfl dX6_note_57 ?_
          refine lv_bipush (pc := 60) (v := 71) hx hb dX6_note_60 (by decide) ?_
          refine lv_aload_n (pc := 62) hx hb dX6_note_62 rfl (lv_at hl 0 rfl) ?_
          refine va_get (pc := 63) (D := D) (ci := 6) (v := .int (nI np)) (C := RX6) (T := TX6) (N := 9) hx hb hts in_X6 hown hK.1 hP 0 rfl rfl 2 (by decide) (hts _ q576) (fun _ h9 => h9) rfl dX6_note_63 ?_
          refine lv_imul (pc := 66) hx hb dX6_note_66 ?_
          refine lv_iload_n (pc := 67) hx hb dX6_note_67 rfl (lv_at hl 1 rfl) ?_
          refine lv_iadd (pc := 68) hx hb dX6_note_68 ?_
          refine lv_aload_n (pc := 69) hx hb dX6_note_69 rfl (lv_at hl 0 rfl) ?_
          refine va_get (pc := 70) (D := D) (ci := 6) (v := .ref ms) (C := RX6) (T := TX6) (N := 9) hx hb hts in_X6 hown hK.1 hP 0 rfl rfl 0 (by decide) (hts _ q574) (fun _ h9 => h9) rfl dX6_note_70 ?_
          refine lv_iload_n (pc := 73) hx hb dX6_note_73 rfl (lv_at hl 1 rfl) ?_
          refine ia_ld (pc := 74) hx hb hK.1 (ro_at hS hms ahms) 0 0 i2 rfl rfl rfl (by omega) (Nat.le_of_ble_eq_true rfl) dX6_note_74 ?_
          refine ia_st (pc := 75) (f' := (ptF pa (71 * np) f (i2 + 1))) hx hb hK.1 hP hD hS 1 0 ((71 * np) + i2) rfl rfl (nadd (nmul (nl 71) rfl) rfl) (by omega) (Nat.le_of_ble_eq_true rfl) (fun j _ => by exact pt_step) dX6_note_75 (fun H locs hP hD hS => ?_)
          have hP : va_P D vwCl [(mo, .inr (6, [.ref ms, .ref mp, .int (nI np), .ref me, .ref mn, .long iv, .long lg, .long fg, .long hv])), (mp, .inl (g 0, 284, .inl (ptF pa (71 * np) f (i2 + 1))))] H := hP
          have hD : va_D (Aw [mo, mp] s.heap.size) [(mo, .inr (6, [.ref ms, .ref mp, .int (nI np), .ref me, .ref mn, .long iv, .long lg, .long fg, .long hv])), (mp, .inl (g 0, 284, .inl (ptF pa (71 * np) f (i2 + 1))))] := hD
          obtain ⟨x4, ex4⟩ : ∃ y : Int32, y = (nI i2) + 1 := ⟨_, rfl⟩
          refine lv_iinc (pc := 76) (v := x4) (lv' := [(1, .int x4), (0, .ref mo)]) hx hb dX6_note_76 hl (k := 1) rfl (by rw [ex4]; rfl) (by decide) rfl (fun ls hl => ?_)
          refine lv_goto (pc := 79) (tgt := 50) hx hb dX6_note_79 (by decide) ?_
          rw [show x4 = nI (i2 + 1) from (ex4.trans (nadd rfl (nl 1)))] at hl
          exact ih  (i2 + 1) (by omega) (by omega) _ _ hP hD hS ls (lv_sub hl [1, 0] rfl)
    have hq0 : pa = ptF pa (71 * np) f 0 := pt_0
    rw [hq0] at hP hD
    exact loop2 72 0 (by omega) (by omega) _ _ hP hD hS ls (lv_sub hl [1, 0] rfl)
  · have ncd1 : np = 4 := (neq rfl (nl 4) (by omega) (by omega)).mp cd1
    have hn4 : np = 4 := ncd1
    rw [hn4] at hP hD
    refine lv_iconst (pc := 8) (v := 0) hx hb dX6_note_8 (by decide) ?_
    refine lv_istore_n (pc := 9) (lv' := [(1, .int 0), (0, .ref mo)]) hx hb dX6_note_9 rfl hl (by decide) rfl (fun ls hl => ?_)
    have loop : ∀ (n : Nat) (i : Nat), (i ≤ 213) → (214 ≤ i + n) → ∀ (H : Heap) (locs : List Loc), va_P D vwCl [(mo, .inr (6, [.ref ms, .ref mp, .int (nI 4), .ref me, .ref mn, .long iv, .long lg, .long fg, .long hv])), (mp, .inl (g 0, 284, .inl (shF pa i)))] H → va_D (Aw [mo, mp] s.heap.size) [(mo, .inr (6, [.ref ms, .ref mp, .int (nI 4), .ref me, .ref mn, .long iv, .long lg, .long fg, .long hv])), (mp, .inl (g 0, 284, .inl (shF pa i)))] → va_S (Aw [mo, mp] s.heap.size) s.heap H locs → ∀ (ls : Array Slot), lv_has ls 2 [(0, .ref mo), (1, .int (nI i))] → W p l e (headSpec (ws_ yX6_note cX6_note 2 none) rm_m6_note).room s m ([.ref mo] : List Value).toArray below meth c H locs 0 0 (MQ below (QV (fun H1 => va_P D vwCl [(mo, .inr (6, [.ref ms, .ref mp, .int (nI (addK 4 np)), .ref me, .ref mn, .long iv, .long lg, .long fg, .long hv])), (mp, .inl (g 0, 284, .inl (ntF np pa f)))] H1) (Aw [mo, mp] s.heap.size)) ([.ref mo] : List Value).toArray s 0 0 (Aw [mo, mp] s.heap.size)) (F0 m 10 ls []) := by
      intro n
      induction n with
      | zero =>
        intro i hi hfu
        exact absurd (show _ by assumption) (by omega)
      | succ n ih =>
        intro i hi hfu H locs hP hD hS ls hl
        refine lv_iload_n (pc := 10) hx hb dX6_note_10 rfl (lv_at hl 1 rfl) ?_
        refine lv_sipush (pc := 11) (v := 213) hx hb dX6_note_11 (by decide) ?_
        refine lv_icmp_ge (pc := 14) (tgt := 38) hx hb dX6_note_14 (by decide) (fun cd5 => ?_) (fun cd5 => ?_)
        · have ncd5 : 213 ≤ i := (nle (nl 213) rfl (by omega) (by omega)).mp cd5
          have hi9 : i = 213 := by omega
          subst hi9
          refine lv_aload_n (pc := 38) hx hb dX6_note_38 rfl (lv_at hl 0 rfl) ?_
          refine lv_dup (pc := 39) hx hb dX6_note_39 rfl ?_
          refine va_get (pc := 40) (D := D) (ci := 6) (v := .int (nI 4)) (C := RX6) (T := TX6) (N := 9) hx hb hts in_X6 hown hK.1 hP 0 rfl rfl 2 (by decide) (hts _ q576) (fun _ h9 => h9) rfl dX6_note_40 ?_
          refine lv_iconst (pc := 43) (v := 1) hx hb dX6_note_43 (by decide) ?_
          refine lv_isub (pc := 44) hx hb dX6_note_44 ?_
          refine lv_topi (fun z6 ez6 => ?_)
          refine va_put (pc := 45) (D := D) (ci := 6) (v := .int z6) (ty := .int) (C := RX6) (T := TX6) (N := 9) hx hb hts in_X6 tyX6 tyX6_ok nmX6 hown hK.1 hP hD hS 0 rfl rfl 2 (by decide) (hts _ q576) (fun _ h9 => h9) rfl (by decide +kernel) rfl rfl (Nat.le_of_ble_eq_true rfl) dX6_note_45 (fun H locs hP hD hS => ?_)
          have hP : va_P D vwCl [(mo, .inr (6, [.ref ms, .ref mp, .int z6, .ref me, .ref mn, .long iv, .long lg, .long fg, .long hv])), (mp, .inl (g 0, 284, .inl (shF pa 213)))] H := hP
          have hD : va_D (Aw [mo, mp] s.heap.size) [(mo, .inr (6, [.ref ms, .ref mp, .int z6, .ref me, .ref mn, .long iv, .long lg, .long fg, .long hv])), (mp, .inl (g 0, 284, .inl (shF pa 213)))] := hD
          have hz9 : z6 = nI 3 := ez6.trans rfl
          subst hz9
          refine lv_iconst (pc := 48) (v := 0) hx hb dX6_note_48 (by decide) ?_
          refine lv_istore_n (pc := 49) (lv' := [(1, .int 0), (0, .ref mo)]) hx hb dX6_note_49 rfl hl (by decide) rfl (fun ls hl => ?_)
          have loop2 : ∀ (n : Nat) (i2 : Nat), (i2 ≤ 71) → (72 ≤ i2 + n) → ∀ (H : Heap) (locs : List Loc), va_P D vwCl [(mo, .inr (6, [.ref ms, .ref mp, .int (nI 3), .ref me, .ref mn, .long iv, .long lg, .long fg, .long hv])), (mp, .inl (g 0, 284, .inl (ptF (shF pa 213) (71 * 3) f i2)))] H → va_D (Aw [mo, mp] s.heap.size) [(mo, .inr (6, [.ref ms, .ref mp, .int (nI 3), .ref me, .ref mn, .long iv, .long lg, .long fg, .long hv])), (mp, .inl (g 0, 284, .inl (ptF (shF pa 213) (71 * 3) f i2)))] → va_S (Aw [mo, mp] s.heap.size) s.heap H locs → ∀ (ls : Array Slot), lv_has ls 2 [(0, .ref mo), (1, .int (nI i2))] → W p l e (headSpec (ws_ yX6_note cX6_note 2 none) rm_m6_note).room s m ([.ref mo] : List Value).toArray below meth c H locs 0 0 (MQ below (QV (fun H1 => va_P D vwCl [(mo, .inr (6, [.ref ms, .ref mp, .int (nI (addK 4 np)), .ref me, .ref mn, .long iv, .long lg, .long fg, .long hv])), (mp, .inl (g 0, 284, .inl (ntF np pa f)))] H1) (Aw [mo, mp] s.heap.size)) ([.ref mo] : List Value).toArray s 0 0 (Aw [mo, mp] s.heap.size)) (F0 m 50 ls []) := by
            intro n
            induction n with
            | zero =>
              intro i2 hi2 hfu2
              exact absurd (show _ by assumption) (by omega)
            | succ n ih =>
              intro i2 hi2 hfu2 H locs hP hD hS ls hl
              refine lv_iload_n (pc := 50) hx hb dX6_note_50 rfl (lv_at hl 1 rfl) ?_
              refine lv_bipush (pc := 51) (v := 71) hx hb dX6_note_51 (by decide) ?_
              refine lv_icmp_ge (pc := 53) (tgt := 82) hx hb dX6_note_53 (by decide) (fun cd7 => ?_) (fun cd7 => ?_)
              · have ncd7 : 71 ≤ i2 := (nle (nl 71) rfl (by omega) (by omega)).mp cd7
                refine lv_aload_n (pc := 82) hx hb dX6_note_82 rfl (lv_at hl 0 rfl) ?_
                refine lv_dup (pc := 83) hx hb dX6_note_83 rfl ?_
                refine va_get (pc := 84) (D := D) (ci := 6) (v := .int (nI 3)) (C := RX6) (T := TX6) (N := 9) hx hb hts in_X6 hown hK.1 hP 0 rfl rfl 2 (by decide) (hts _ q576) (fun _ h9 => h9) rfl dX6_note_84 ?_
                refine lv_iconst (pc := 87) (v := 1) hx hb dX6_note_87 (by decide) ?_
                refine lv_iadd (pc := 88) hx hb dX6_note_88 ?_
                refine lv_topi (fun z8 ez8 => ?_)
                refine va_put (pc := 89) (D := D) (ci := 6) (v := .int z8) (ty := .int) (C := RX6) (T := TX6) (N := 9) hx hb hts in_X6 tyX6 tyX6_ok nmX6 hown hK.1 hP hD hS 0 rfl rfl 2 (by decide) (hts _ q576) (fun _ h9 => h9) rfl (by decide +kernel) rfl rfl (Nat.le_of_ble_eq_true rfl) dX6_note_89 (fun H locs hP hD hS => ?_)
                have hP : va_P D vwCl [(mo, .inr (6, [.ref ms, .ref mp, .int z8, .ref me, .ref mn, .long iv, .long lg, .long fg, .long hv])), (mp, .inl (g 0, 284, .inl (ptF (shF pa 213) (71 * 3) f i2)))] H := hP
                have hD : va_D (Aw [mo, mp] s.heap.size) [(mo, .inr (6, [.ref ms, .ref mp, .int z8, .ref me, .ref mn, .long iv, .long lg, .long fg, .long hv])), (mp, .inl (g 0, 284, .inl (ptF (shF pa 213) (71 * 3) f i2)))] := hD
                have hq9 : (fun H1 => va_P D vwCl [(mo, .inr (6, [.ref ms, .ref mp, .int (nI (addK 4 np)), .ref me, .ref mn, .long iv, .long lg, .long fg, .long hv])), (mp, .inl (g 0, 284, .inl (ntF np pa f)))] H1 : Heap → Prop) H := by
                    have hz9 : z8 = nI (addK 4 np) := by rw [hn4]; exact ez8.trans rfl
                    subst hz9
                    rw [show i2 = 71 by omega] at hP
                    have hq9 : ntF np pa f = ptF (shF pa 213) (71 * 3) f 71 := by unfold ntF; rw [if_pos hn4]
                    rw [hq9]
                    exact hP.sub [0, 1] rfl
                exact W.vret hx hb hr (fun t ht hW => ⟨⟨rfl, by rw [ht]; exact hq9⟩, hS.F ht⟩) hS.2.2 dX6_note_92
              · have ncd7 : ¬ 71 ≤ i2 := fun h => cd7 ((nle (nl 71) rfl (by omega) (by omega)).mpr h)
                refine lv_aload_n (pc := 56) hx hb dX6_note_56 rfl (lv_at hl 0 rfl) ?_
                refine va_get (pc := 57) (D := D) (ci := 6) (v := .ref mp) (C := RX6) (T := TX6) (N := 9) hx hb hts in_X6 hown hK.1 hP 0 rfl rfl 1 (by decide) (hts _ q575) (fun _ h9 => h9) rfl dX6_note_57 ?_
                refine lv_bipush (pc := 60) (v := 71) hx hb dX6_note_60 (by decide) ?_
                refine lv_aload_n (pc := 62) hx hb dX6_note_62 rfl (lv_at hl 0 rfl) ?_
                refine va_get (pc := 63) (D := D) (ci := 6) (v := .int (nI 3)) (C := RX6) (T := TX6) (N := 9) hx hb hts in_X6 hown hK.1 hP 0 rfl rfl 2 (by decide) (hts _ q576) (fun _ h9 => h9) rfl dX6_note_63 ?_
                refine lv_imul (pc := 66) hx hb dX6_note_66 ?_
                refine lv_iload_n (pc := 67) hx hb dX6_note_67 rfl (lv_at hl 1 rfl) ?_
                refine lv_iadd (pc := 68) hx hb dX6_note_68 ?_
                refine lv_aload_n (pc := 69) hx hb dX6_note_69 rfl (lv_at hl 0 rfl) ?_
                refine va_get (pc := 70) (D := D) (ci := 6) (v := .ref ms) (C := RX6) (T := TX6) (N := 9) hx hb hts in_X6 hown hK.1 hP 0 rfl rfl 0 (by decide) (hts _ q574) (fun _ h9 => h9) rfl dX6_note_70 ?_
                refine lv_iload_n (pc := 73) hx hb dX6_note_73 rfl (lv_at hl 1 rfl) ?_
                refine ia_ld (pc := 74) hx hb hK.1 (ro_at hS hms ahms) 0 0 i2 rfl rfl rfl (by omega) (Nat.le_of_ble_eq_true rfl) dX6_note_74 ?_
                refine ia_st (pc := 75) (f' := (ptF (shF pa 213) (71 * 3) f (i2 + 1))) hx hb hK.1 hP hD hS 1 0 ((71 * 3) + i2) rfl rfl (nadd (nmul (nl 71) rfl) rfl) (by omega) (Nat.le_of_ble_eq_true rfl) (fun j _ => by exact pt_step) dX6_note_75 (fun H locs hP hD hS => ?_)
                have hP : va_P D vwCl [(mo, .inr (6, [.ref ms, .ref mp, .int (nI 3), .ref me, .ref mn, .long iv, .long lg, .long fg, .long hv])), (mp, .inl (g 0, 284, .inl (ptF (shF pa 213) (71 * 3) f (i2 + 1))))] H := hP
                have hD : va_D (Aw [mo, mp] s.heap.size) [(mo, .inr (6, [.ref ms, .ref mp, .int (nI 3), .ref me, .ref mn, .long iv, .long lg, .long fg, .long hv])), (mp, .inl (g 0, 284, .inl (ptF (shF pa 213) (71 * 3) f (i2 + 1))))] := hD
                obtain ⟨x9, ex9⟩ : ∃ y : Int32, y = (nI i2) + 1 := ⟨_, rfl⟩
                refine lv_iinc (pc := 76) (v := x9) (lv' := [(1, .int x9), (0, .ref mo)]) hx hb dX6_note_76 hl (k := 1) rfl (by rw [ex9]; rfl) (by decide) rfl (fun ls hl => ?_)
                refine lv_goto (pc := 79) (tgt := 50) hx hb dX6_note_79 (by decide) ?_
                rw [show x9 = nI (i2 + 1) from (ex9.trans (nadd rfl (nl 1)))] at hl
                exact ih  (i2 + 1) (by omega) (by omega) _ _ hP hD hS ls (lv_sub hl [1, 0] rfl)
          have hq0 : (shF pa 213) = ptF (shF pa 213) (71 * 3) f 0 := pt_0
          rw [hq0] at hP hD
          exact loop2 72 0 (by omega) (by omega) _ _ hP hD hS ls (lv_sub hl [1, 0] rfl)
        · have ncd5 : ¬ 213 ≤ i := fun h => cd5 ((nle (nl 213) rfl (by omega) (by omega)).mpr h)
          refine lv_aload_n (pc := 17) hx hb dX6_note_17 rfl (lv_at hl 0 rfl) ?_
          refine va_get (pc := 18) (D := D) (ci := 6) (v := .ref mp) (C := RX6) (T := TX6) (N := 9) hx hb hts in_X6 hown hK.1 hP 0 rfl rfl 1 (by decide) (hts _ q575) (fun _ h9 => h9) rfl dX6_note_18 ?_
          refine lv_iload_n (pc := 21) hx hb dX6_note_21 rfl (lv_at hl 1 rfl) ?_
          refine lv_aload_n (pc := 22) hx hb dX6_note_22 rfl (lv_at hl 0 rfl) ?_
          refine va_get (pc := 23) (D := D) (ci := 6) (v := .ref mp) (C := RX6) (T := TX6) (N := 9) hx hb hts in_X6 hown hK.1 hP 0 rfl rfl 1 (by decide) (hts _ q575) (fun _ h9 => h9) rfl dX6_note_23 ?_
          refine lv_iload_n (pc := 26) hx hb dX6_note_26 rfl (lv_at hl 1 rfl) ?_
          refine lv_bipush (pc := 27) (v := 71) hx hb dX6_note_27 (by decide) ?_
          refine lv_iadd (pc := 29) hx hb dX6_note_29 ?_
          refine ia_ld (pc := 30) hx hb hK.1 hP 1 0 (i + 71) rfl rfl (nadd rfl (nl 71)) (by omega) (Nat.le_of_ble_eq_true rfl) dX6_note_30 ?_
          refine lv_topi (fun z10 ez10 => ?_)
          refine ia_st (pc := 31) (f' := (shF pa (i + 1))) hx hb hK.1 hP hD hS 1 0 i rfl rfl rfl (by omega) (Nat.le_of_ble_eq_true rfl) (fun j _ => by rw [ez10]; exact sh_step) dX6_note_31 (fun H locs hP hD hS => ?_)
          have hP : va_P D vwCl [(mo, .inr (6, [.ref ms, .ref mp, .int (nI 4), .ref me, .ref mn, .long iv, .long lg, .long fg, .long hv])), (mp, .inl (g 0, 284, .inl (shF pa (i + 1))))] H := hP
          have hD : va_D (Aw [mo, mp] s.heap.size) [(mo, .inr (6, [.ref ms, .ref mp, .int (nI 4), .ref me, .ref mn, .long iv, .long lg, .long fg, .long hv])), (mp, .inl (g 0, 284, .inl (shF pa (i + 1))))] := hD
          obtain ⟨x11, ex11⟩ : ∃ y : Int32, y = (nI i) + 1 := ⟨_, rfl⟩
          refine lv_iinc (pc := 32) (v := x11) (lv' := [(1, .int x11), (0, .ref mo)]) hx hb dX6_note_32 hl (k := 1) rfl (by rw [ex11]; rfl) (by decide) rfl (fun ls hl => ?_)
          refine lv_goto (pc := 35) (tgt := 10) hx hb dX6_note_35 (by decide) ?_
          rw [show x11 = nI (i + 1) from (ex11.trans (nadd rfl (nl 1)))] at hl
          exact ih  (i + 1) (by omega) (by omega) _ _ hP hD hS ls (lv_sub hl [1, 0] rfl)
    rw [show pa = shF pa 0 from sh_0] at hP hD
    exact loop 214 0 (by omega) (by omega) _ _ hP hD hS ls (lv_sub hl [1, 0] rfl)

abbrev rm_m6_record : Room := ({ frames := 0, cells := 0, slots := 0, locals := 0 })
set_option maxHeartbeats 4000000 in
set_option maxRecDepth 100000 in
theorem m6_record (l : Launch) {D : va_G} {g : Nat → ClassId} (mo ms mp me mn np : Nat) (iv lg fg hv : Int64) (k : Nat) (f : Nat → Int32) (who val : Int32) (H : Heap) (hP : va_P D vwCl [(ms, .inl (g 0, 71, .inl f))] H) (hmo : va_P D vwCl [(mo, .inr (6, [.ref ms, .ref mp, .int (nI np), .ref me, .ref mn, .long iv, .long lg, .long fg, .long hv]))] H) (nhmo : mo ∉ [ms]) (hk : k ≤ 24) (hkf : f 22 = nI k) : Met l yX6_record (ws_ yX6_record cX6_record 4 none) rm_m6_record (va_Pc [.ref mo, .int who, .int val] (PH D g H)) (QV (fun H1 => va_P D vwCl [(ms, .inl (g 0, 71, .inl (rcF f k who val)))] H1) (Aw [ms] H.size)) 0 0 (Aw [ms] H.size) := by
  refine Met.ofW (cc := cX6_record) (maxL := 4) (ret := none) (by decide) rfl ?_
  intro p e s m args below meth c s₁ B hml hv
  obtain ⟨rfl, hH, hK⟩ := hv
  subst hH
  have hx := B.exec
  have hb := B.bytes
  have hr := B.returns
  have hts := atoms_spec (ws := ws_ yX6_record cX6_record 4 none) B.pre
  have hts : ∀ w ∈ lw_all, w.before _ s = true := fun w h => hts w (List.mem_cons_of_mem _ h)
  have hown : s.vm.findClass RX6 = some m.cls := findClass_of_methodNamed B.named
  have hlocks := B.notSynchronized
  have hA : ∀ q, s.heap.size ≤ q → (Aw [ms] s.heap.size) q := fun q h => Or.inr h
  have hS : va_S (Aw [ms] s.heap.size) s.heap s.heap [] := va_S.rf
  have hD : va_D (Aw [ms] s.heap.size) [(ms, .inl (g 0, 71, .inl f))] := d1 (Or.inl (by simp))
  have ahmo : ¬ (Aw [ms] s.heap.size) mo := naw nhmo (hmo 0 _ rfl).lt
  have hl := lv_entry ([.ref mo, .int who, .int val]) (n := 4) (Nat.le_of_ble_eq_true rfl)
  rw [lg_entry_eq]
  generalize (lg_sl ([.ref mo, .int who, .int val]) ++ List.replicate (4 - (lg_sl ([.ref mo, .int who, .int val])).length) Slot.unset).toArray = ls at hl ⊢
  have hl : lv_has ls 4 [(0, .ref mo), (1, .int who), (2, .int val)] := hl
  refine lv_aload_n (pc := 0) hx hb dX6_record_0 rfl (lv_at hl 0 rfl) ?_
  refine va_get (pc := 1) (D := D) (ci := 6) (v := .ref ms) (C := RX6) (T := TX6) (N := 9) hx hb hts in_X6 hown hK.1 hmo 0 rfl rfl 0 (by decide) (hts _ q574) (fun _ h9 => h9) rfl dX6_record_1 ?_
  refine lv_bipush (pc := 4) (v := 22) hx hb dX6_record_4 (by decide) ?_
  refine ia_ld (pc := 6) hx hb hK.1 hP 0 0 22 rfl rfl (nl 22) (Nat.le_of_ble_eq_true rfl) (Nat.le_of_ble_eq_true rfl) dX6_record_6 ?_
  refine lv_bipush (pc := 7) (v := 24) hx hb dX6_record_7 (by decide) ?_
  refine lv_icmp_ne (pc := 9) (tgt := 54) hx hb dX6_record_9 (by decide) (fun cd1 => ?_) (fun cd1 => ?_)
  · have ncd1 : ¬ k = 24 := fun h => cd1 ((neq hkf (nl 24) (by omega) (by omega)).mpr h)
    refine lv_aload_n (pc := 54) hx hb dX6_record_54 rfl (lv_at hl 0 rfl) ?_
    refine va_get (pc := 55) (D := D) (ci := 6) (v := .ref ms) (C := RX6) (T := TX6) (N := 9) hx hb hts in_X6 hown hK.1 hmo 0 rfl rfl 0 (by decide) (hts _ q574) (fun _ h9 => h9) rfl dX6_record_55 ?_
    refine lv_bipush (pc := 58) (v := 23) hx hb dX6_record_58 (by decide) ?_
    refine lv_iconst (pc := 60) (v := 2) hx hb dX6_record_60 (by decide) ?_
    refine lv_aload_n (pc := 61) hx hb dX6_record_61 rfl (lv_at hl 0 rfl) ?_
    refine va_get (pc := 62) (D := D) (ci := 6) (v := .ref ms) (C := RX6) (T := TX6) (N := 9) hx hb hts in_X6 hown hK.1 hmo 0 rfl rfl 0 (by decide) (hts _ q574) (fun _ h9 => h9) rfl dX6_record_62 ?_
    refine lv_bipush (pc := 65) (v := 22) hx hb dX6_record_65 (by decide) ?_
    refine ia_ld (pc := 67) hx hb hK.1 hP 0 0 22 rfl rfl (nl 22) (Nat.le_of_ble_eq_true rfl) (Nat.le_of_ble_eq_true rfl) dX6_record_67 ?_
    refine lv_imul (pc := 68) hx hb dX6_record_68 ?_
    refine lv_iadd (pc := 69) hx hb dX6_record_69 ?_
    refine lv_iload_n (pc := 70) hx hb dX6_record_70 rfl (lv_at hl 1 rfl) ?_
    refine ia_st (pc := 71) (f' := (rW1 f k who)) hx hb hK.1 hP hD hS 0 0 (23 + (2 * k)) rfl rfl (nadd (nl 23) (nmul (nl 2) hkf)) (by omega) (Nat.le_of_ble_eq_true rfl) (fun _ _ => rfl) dX6_record_71 (fun H locs hP hD hS => ?_)
    have hP : va_P D vwCl [(ms, .inl (g 0, 71, .inl (rW1 f k who)))] H := hP
    have hD : va_D (Aw [ms] s.heap.size) [(ms, .inl (g 0, 71, .inl (rW1 f k who)))] := hD
    refine lv_aload_n (pc := 72) hx hb dX6_record_72 rfl (lv_at hl 0 rfl) ?_
    refine va_get (pc := 73) (D := D) (ci := 6) (v := .ref ms) (C := RX6) (T := TX6) (N := 9) hx hb hts in_X6 hown hK.1 (ro_at hS hmo ahmo) 0 rfl rfl 0 (by decide) (hts _ q574) (fun _ h9 => h9) rfl dX6_record_73 ?_
    refine lv_bipush (pc := 76) (v := 23) hx hb dX6_record_76 (by decide) ?_
    refine lv_iconst (pc := 78) (v := 2) hx hb dX6_record_78 (by decide) ?_
    refine lv_aload_n (pc := 79) hx hb dX6_record_79 rfl (lv_at hl 0 rfl) ?_
    refine va_get (pc := 80) (D := D) (ci := 6) (v := .ref ms) (C := RX6) (T := TX6) (N := 9) hx hb hts in_X6 hown hK.1 (ro_at hS hmo ahmo) 0 rfl rfl 0 (by decide) (hts _ q574) (fun _ h9 => h9) rfl dX6_record_80 ?_
    refine lv_bipush (pc := 83) (v := 22) hx hb dX6_record_83 (by decide) ?_
    refine ia_ld (pc := 85) hx hb hK.1 hP 0 0 22 rfl rfl (nl 22) (Nat.le_of_ble_eq_true rfl) (Nat.le_of_ble_eq_true rfl) dX6_record_85 ?_
    refine lv_imul (pc := 86) hx hb dX6_record_86 ?_
    refine lv_iadd (pc := 87) hx hb dX6_record_87 ?_
    refine lv_iconst (pc := 88) (v := 1) hx hb dX6_record_88 (by decide) ?_
    refine lv_iadd (pc := 89) hx hb dX6_record_89 ?_
    refine lv_iload_n (pc := 90) hx hb dX6_record_90 rfl (lv_at hl 2 rfl) ?_
    refine ia_st (pc := 91) (f' := (rW2 f k who val)) hx hb hK.1 hP hD hS 0 0 ((23 + (2 * k)) + 1) rfl rfl (nadd (nadd (nl 23) (nmul (nl 2) (rW1_22.trans hkf))) (nl 1)) (by omega) (Nat.le_of_ble_eq_true rfl) (fun _ _ => rfl) dX6_record_91 (fun H locs hP hD hS => ?_)
    have hP : va_P D vwCl [(ms, .inl (g 0, 71, .inl (rW2 f k who val)))] H := hP
    have hD : va_D (Aw [ms] s.heap.size) [(ms, .inl (g 0, 71, .inl (rW2 f k who val)))] := hD
    refine lv_aload_n (pc := 92) hx hb dX6_record_92 rfl (lv_at hl 0 rfl) ?_
    refine va_get (pc := 93) (D := D) (ci := 6) (v := .ref ms) (C := RX6) (T := TX6) (N := 9) hx hb hts in_X6 hown hK.1 (ro_at hS hmo ahmo) 0 rfl rfl 0 (by decide) (hts _ q574) (fun _ h9 => h9) rfl dX6_record_93 ?_
    refine lv_bipush (pc := 96) (v := 22) hx hb dX6_record_96 (by decide) ?_
    refine lv_dup2_11 (pc := 98) hx hb dX6_record_98 rfl rfl ?_
    refine ia_ld (pc := 99) hx hb hK.1 hP 0 0 22 rfl rfl (nl 22) (Nat.le_of_ble_eq_true rfl) (Nat.le_of_ble_eq_true rfl) dX6_record_99 ?_
    refine lv_iconst (pc := 100) (v := 1) hx hb dX6_record_100 (by decide) ?_
    refine lv_iadd (pc := 101) hx hb dX6_record_101 ?_
    refine lv_topi (fun z2 ez2 => ?_)
    refine ia_st (pc := 102) (f' := (rcF f k who val)) hx hb hK.1 hP hD hS 0 0 22 rfl rfl (nl 22) (Nat.le_of_ble_eq_true rfl) (Nat.le_of_ble_eq_true rfl) (fun j hj => by rw [ez2, rW2_22, hkf]; exact (congrArg (fun x => upd (rW2 f k who val) 22 x j) (nI_add k 1)).trans (rc_B ncd1)) dX6_record_102 (fun H locs hP hD hS => ?_)
    have hP : va_P D vwCl [(ms, .inl (g 0, 71, .inl (rcF f k who val)))] H := hP
    have hD : va_D (Aw [ms] s.heap.size) [(ms, .inl (g 0, 71, .inl (rcF f k who val)))] := hD
    have hq9 : (fun H1 => va_P D vwCl [(ms, .inl (g 0, 71, .inl (rcF f k who val)))] H1 : Heap → Prop) H := hP
    exact W.vret hx hb hr (fun t ht hW => ⟨⟨rfl, by rw [ht]; exact hq9⟩, hS.F ht⟩) hS.2.2 dX6_record_103
  · have ncd1 : k = 24 := (neq hkf (nl 24) (by omega) (by omega)).mp cd1
    refine lv_bipush (pc := 12) (v := 23) hx hb dX6_record_12 (by decide) ?_
    refine lv_istore_n (pc := 14) (lv' := [(3, .int 23), (0, .ref mo), (1, .int who), (2, .int val)]) hx hb dX6_record_14 rfl hl (by decide) rfl (fun ls hl => ?_)
    have loop : ∀ (n : Nat) (i : Nat), (23 ≤ i ∧ i ≤ 69) → (70 ≤ i + n) → ∀ (H : Heap) (locs : List Loc), va_P D vwCl [(ms, .inl (g 0, 71, .inl (s2F f i)))] H → va_D (Aw [ms] s.heap.size) [(ms, .inl (g 0, 71, .inl (s2F f i)))] → va_S (Aw [ms] s.heap.size) s.heap H locs → ∀ (ls : Array Slot), lv_has ls 4 [(0, .ref mo), (1, .int who), (2, .int val), (3, .int (nI i))] → W p l e (headSpec (ws_ yX6_record cX6_record 4 none) rm_m6_record).room s m ([.ref mo, .int who, .int val] : List Value).toArray below meth c H locs 0 0 (MQ below (QV (fun H1 => va_P D vwCl [(ms, .inl (g 0, 71, .inl (rcF f k who val)))] H1) (Aw [ms] s.heap.size)) ([.ref mo, .int who, .int val] : List Value).toArray s 0 0 (Aw [ms] s.heap.size)) (F0 m 15 ls []) := by
      intro n
      induction n with
      | zero =>
        intro i hi hfu
        exact absurd (show _ by assumption) (by omega)
      | succ n ih =>
        intro i hi hfu H locs hP hD hS ls hl
        refine lv_iload_n (pc := 15) hx hb dX6_record_15 rfl (lv_at hl 3 rfl) ?_
        refine lv_iconst (pc := 16) (v := 2) hx hb dX6_record_16 (by decide) ?_
        refine lv_iadd (pc := 17) hx hb dX6_record_17 ?_
        refine lv_bipush (pc := 18) (v := 71) hx hb dX6_record_18 (by decide) ?_
        refine lv_icmp_ge (pc := 20) (tgt := 43) hx hb dX6_record_20 (by decide) (fun cd3 => ?_) (fun cd3 => ?_)
        · have ncd3 : 71 ≤ (i + 2) := (nle (nl 71) (nadd rfl (nl 2)) (by omega) (by omega)).mp cd3
          refine lv_aload_n (pc := 43) hx hb dX6_record_43 rfl (lv_at hl 0 rfl) ?_
          refine va_get (pc := 44) (D := D) (ci := 6) (v := .ref ms) (C := RX6) (T := TX6) (N := 9) hx hb hts in_X6 hown hK.1 (ro_at hS hmo ahmo) 0 rfl rfl 0 (by decide) (hts _ q574) (fun _ h9 => h9) rfl dX6_record_44 ?_
          refine lv_bipush (pc := 47) (v := 22) hx hb dX6_record_47 (by decide) ?_
          refine lv_dup2_11 (pc := 49) hx hb dX6_record_49 rfl rfl ?_
          refine ia_ld (pc := 50) hx hb hK.1 hP 0 0 22 rfl rfl (nl 22) (Nat.le_of_ble_eq_true rfl) (Nat.le_of_ble_eq_true rfl) dX6_record_50 ?_
          refine lv_iconst (pc := 51) (v := 1) hx hb dX6_record_51 (by decide) ?_
          refine lv_isub (pc := 52) hx hb dX6_record_52 ?_
          refine lv_topi (fun z4 ez4 => ?_)
          refine ia_st (pc := 53) (f' := (rcB f)) hx hb hK.1 hP hD hS 0 0 22 rfl rfl (nl 22) (Nat.le_of_ble_eq_true rfl) (Nat.le_of_ble_eq_true rfl) (fun j _ => by rw [ez4, show i = 69 by omega, s2_22, hkf, ncd1]; rfl) dX6_record_53 (fun H locs hP hD hS => ?_)
          have hP : va_P D vwCl [(ms, .inl (g 0, 71, .inl (rcB f)))] H := hP
          have hD : va_D (Aw [ms] s.heap.size) [(ms, .inl (g 0, 71, .inl (rcB f)))] := hD
          refine lv_aload_n (pc := 54) hx hb dX6_record_54 rfl (lv_at hl 0 rfl) ?_
          refine va_get (pc := 55) (D := D) (ci := 6) (v := .ref ms) (C := RX6) (T := TX6) (N := 9) hx hb hts in_X6 hown hK.1 (ro_at hS hmo ahmo) 0 rfl rfl 0 (by decide) (hts _ q574) (fun _ h9 => h9) rfl dX6_record_55 ?_
          refine lv_bipush (pc := 58) (v := 23) hx hb dX6_record_58 (by decide) ?_
          refine lv_iconst (pc := 60) (v := 2) hx hb dX6_record_60 (by decide) ?_
          refine lv_aload_n (pc := 61) hx hb dX6_record_61 rfl (lv_at hl 0 rfl) ?_
          refine va_get (pc := 62) (D := D) (ci := 6) (v := .ref ms) (C := RX6) (T := TX6) (N := 9) hx hb hts in_X6 hown hK.1 (ro_at hS hmo ahmo) 0 rfl rfl 0 (by decide) (hts _ q574) (fun _ h9 => h9) rfl dX6_record_62 ?_
          refine lv_bipush (pc := 65) (v := 22) hx hb dX6_record_65 (by decide) ?_
          refine ia_ld (pc := 67) hx hb hK.1 hP 0 0 22 rfl rfl (nl 22) (Nat.le_of_ble_eq_true rfl) (Nat.le_of_ble_eq_true rfl) dX6_record_67 ?_
          refine lv_imul (pc := 68) hx hb dX6_record_68 ?_
          refine lv_iadd (pc := 69) hx hb dX6_record_69 ?_
          refine lv_iload_n (pc := 70) hx hb dX6_record_70 rfl (lv_at hl 1 rfl) ?_
          refine ia_st (pc := 71) (f' := (rW1 (rcB f) 23 who)) hx hb hK.1 hP hD hS 0 0 (23 + (2 * 23)) rfl rfl (nadd (nl 23) (nmul (nl 2) (show rcB f 22 = nI 23 from rfl))) (by omega) (Nat.le_of_ble_eq_true rfl) (fun _ _ => rfl) dX6_record_71 (fun H locs hP hD hS => ?_)
          have hP : va_P D vwCl [(ms, .inl (g 0, 71, .inl (rW1 (rcB f) 23 who)))] H := hP
          have hD : va_D (Aw [ms] s.heap.size) [(ms, .inl (g 0, 71, .inl (rW1 (rcB f) 23 who)))] := hD
          refine lv_aload_n (pc := 72) hx hb dX6_record_72 rfl (lv_at hl 0 rfl) ?_
          refine va_get (pc := 73) (D := D) (ci := 6) (v := .ref ms) (C := RX6) (T := TX6) (N := 9) hx hb hts in_X6 hown hK.1 (ro_at hS hmo ahmo) 0 rfl rfl 0 (by decide) (hts _ q574) (fun _ h9 => h9) rfl dX6_record_73 ?_
          refine lv_bipush (pc := 76) (v := 23) hx hb dX6_record_76 (by decide) ?_
          refine lv_iconst (pc := 78) (v := 2) hx hb dX6_record_78 (by decide) ?_
          refine lv_aload_n (pc := 79) hx hb dX6_record_79 rfl (lv_at hl 0 rfl) ?_
          refine va_get (pc := 80) (D := D) (ci := 6) (v := .ref ms) (C := RX6) (T := TX6) (N := 9) hx hb hts in_X6 hown hK.1 (ro_at hS hmo ahmo) 0 rfl rfl 0 (by decide) (hts _ q574) (fun _ h9 => h9) rfl dX6_record_80 ?_
          refine lv_bipush (pc := 83) (v := 22) hx hb dX6_record_83 (by decide) ?_
          refine ia_ld (pc := 85) hx hb hK.1 hP 0 0 22 rfl rfl (nl 22) (Nat.le_of_ble_eq_true rfl) (Nat.le_of_ble_eq_true rfl) dX6_record_85 ?_
          refine lv_imul (pc := 86) hx hb dX6_record_86 ?_
          refine lv_iadd (pc := 87) hx hb dX6_record_87 ?_
          refine lv_iconst (pc := 88) (v := 1) hx hb dX6_record_88 (by decide) ?_
          refine lv_iadd (pc := 89) hx hb dX6_record_89 ?_
          refine lv_iload_n (pc := 90) hx hb dX6_record_90 rfl (lv_at hl 2 rfl) ?_
          refine ia_st (pc := 91) (f' := (rW2 (rcB f) 23 who val)) hx hb hK.1 hP hD hS 0 0 ((23 + (2 * 23)) + 1) rfl rfl (nadd (nadd (nl 23) (nmul (nl 2) (rW1_22.trans (show rcB f 22 = nI 23 from rfl)))) (nl 1)) (by omega) (Nat.le_of_ble_eq_true rfl) (fun _ _ => rfl) dX6_record_91 (fun H locs hP hD hS => ?_)
          have hP : va_P D vwCl [(ms, .inl (g 0, 71, .inl (rW2 (rcB f) 23 who val)))] H := hP
          have hD : va_D (Aw [ms] s.heap.size) [(ms, .inl (g 0, 71, .inl (rW2 (rcB f) 23 who val)))] := hD
          refine lv_aload_n (pc := 92) hx hb dX6_record_92 rfl (lv_at hl 0 rfl) ?_
          refine va_get (pc := 93) (D := D) (ci := 6) (v := .ref ms) (C := RX6) (T := TX6) (N := 9) hx hb hts in_X6 hown hK.1 (ro_at hS hmo ahmo) 0 rfl rfl 0 (by decide) (hts _ q574) (fun _ h9 => h9) rfl dX6_record_93 ?_
          refine lv_bipush (pc := 96) (v := 22) hx hb dX6_record_96 (by decide) ?_
          refine lv_dup2_11 (pc := 98) hx hb dX6_record_98 rfl rfl ?_
          refine ia_ld (pc := 99) hx hb hK.1 hP 0 0 22 rfl rfl (nl 22) (Nat.le_of_ble_eq_true rfl) (Nat.le_of_ble_eq_true rfl) dX6_record_99 ?_
          refine lv_iconst (pc := 100) (v := 1) hx hb dX6_record_100 (by decide) ?_
          refine lv_iadd (pc := 101) hx hb dX6_record_101 ?_
          refine lv_topi (fun z5 ez5 => ?_)
          refine ia_st (pc := 102) (f' := (rcF f k who val)) hx hb hK.1 hP hD hS 0 0 22 rfl rfl (nl 22) (Nat.le_of_ble_eq_true rfl) (Nat.le_of_ble_eq_true rfl) (fun j hj => by rw [ez5, rW2_22]; exact rc_A ncd1 hj) dX6_record_102 (fun H locs hP hD hS => ?_)
          have hP : va_P D vwCl [(ms, .inl (g 0, 71, .inl (rcF f k who val)))] H := hP
          have hD : va_D (Aw [ms] s.heap.size) [(ms, .inl (g 0, 71, .inl (rcF f k who val)))] := hD
          have hq9 : (fun H1 => va_P D vwCl [(ms, .inl (g 0, 71, .inl (rcF f k who val)))] H1 : Heap → Prop) H := hP
          exact W.vret hx hb hr (fun t ht hW => ⟨⟨rfl, by rw [ht]; exact hq9⟩, hS.F ht⟩) hS.2.2 dX6_record_103
        · have ncd3 : ¬ 71 ≤ (i + 2) := fun h => cd3 ((nle (nl 71) (nadd rfl (nl 2)) (by omega) (by omega)).mpr h)
          refine lv_aload_n (pc := 23) hx hb dX6_record_23 rfl (lv_at hl 0 rfl) ?_
          refine va_get (pc := 24) (D := D) (ci := 6) (v := .ref ms) (C := RX6) (T := TX6) (N := 9) hx hb hts in_X6 hown hK.1 (ro_at hS hmo ahmo) 0 rfl rfl 0 (by decide) (hts _ q574) (fun _ h9 => h9) rfl dX6_record_24 ?_
          refine lv_iload_n (pc := 27) hx hb dX6_record_27 rfl (lv_at hl 3 rfl) ?_
          refine lv_aload_n (pc := 28) hx hb dX6_record_28 rfl (lv_at hl 0 rfl) ?_
          refine va_get (pc := 29) (D := D) (ci := 6) (v := .ref ms) (C := RX6) (T := TX6) (N := 9) hx hb hts in_X6 hown hK.1 (ro_at hS hmo ahmo) 0 rfl rfl 0 (by decide) (hts _ q574) (fun _ h9 => h9) rfl dX6_record_29 ?_
          refine lv_iload_n (pc := 32) hx hb dX6_record_32 rfl (lv_at hl 3 rfl) ?_
          refine lv_iconst (pc := 33) (v := 2) hx hb dX6_record_33 (by decide) ?_
          refine lv_iadd (pc := 34) hx hb dX6_record_34 ?_
          refine ia_ld (pc := 35) hx hb hK.1 hP 0 0 (i + 2) rfl rfl (nadd rfl (nl 2)) (by omega) (Nat.le_of_ble_eq_true rfl) dX6_record_35 ?_
          refine lv_topi (fun z6 ez6 => ?_)
          refine ia_st (pc := 36) (f' := (s2F f (i + 1))) hx hb hK.1 hP hD hS 0 0 i rfl rfl rfl (by omega) (Nat.le_of_ble_eq_true rfl) (fun j _ => by rw [ez6]; exact s2_step (by omega)) dX6_record_36 (fun H locs hP hD hS => ?_)
          have hP : va_P D vwCl [(ms, .inl (g 0, 71, .inl (s2F f (i + 1))))] H := hP
          have hD : va_D (Aw [ms] s.heap.size) [(ms, .inl (g 0, 71, .inl (s2F f (i + 1))))] := hD
          obtain ⟨x7, ex7⟩ : ∃ y : Int32, y = (nI i) + 1 := ⟨_, rfl⟩
          refine lv_iinc (pc := 37) (v := x7) (lv' := [(3, .int x7), (0, .ref mo), (1, .int who), (2, .int val)]) hx hb dX6_record_37 hl (k := 3) rfl (by rw [ex7]; rfl) (by decide) rfl (fun ls hl => ?_)
          refine lv_goto (pc := 40) (tgt := 15) hx hb dX6_record_40 (by decide) ?_
          rw [show x7 = nI (i + 1) from (ex7.trans (nadd rfl (nl 1)))] at hl
          exact ih  (i + 1) (by omega) (by omega) _ _ hP hD hS ls (lv_sub hl [1, 2, 3, 0] rfl)
    rw [show f = s2F f 23 from s2_0] at hP hD
    exact loop 70 23 (by omega) (by omega) _ _ hP hD hS ls (lv_sub hl [1, 2, 3, 0] rfl)
