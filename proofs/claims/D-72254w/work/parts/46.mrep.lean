abbrev rm_m6_hasReading : Room := ({ frames := 0, cells := 0, slots := 0, locals := 0 })
set_option maxHeartbeats 4000000 in
set_option maxRecDepth 100000 in
theorem m6_hasReading (l : Launch) {D : va_G} {g : Nat → ClassId} (mo ms mp me mn np : Nat) (iv lg fg hv : Int64) (k : Nat) (f : Nat → Int32) (H : Heap) (hmo : va_P D vwCl [(mo, .inr (6, [.ref ms, .ref mp, .int (nI np), .ref me, .ref mn, .long iv, .long lg, .long fg, .long hv]))] H) (hms : va_P D vwCl [(ms, .inl (g 0, 71, .inl f))] H) (hk : k ≤ 24) (hkf : f 22 = nI k) : Met l yX6_hasReading (ws_ yX6_hasReading cX6_hasReading 3 (some .boolean)) rm_m6_hasReading (va_Pc [.ref mo] (PH D g H)) (QI (fun r H1 => H1 = H ∧ r = bI (hasR f k)) (fun _ => False)) 0 0 (fun _ => False) := by
  refine Met.ofW (cc := cX6_hasReading) (maxL := 3) (ret := (some .boolean)) (by decide) rfl ?_
  intro p e s m args below meth c s₁ B hml hv
  obtain ⟨rfl, hH, hK⟩ := hv
  subst hH
  have hx := B.exec
  have hb := B.bytes
  have hr := B.returns
  have hts := atoms_spec (ws := ws_ yX6_hasReading cX6_hasReading 3 (some .boolean)) B.pre
  have hts : ∀ w ∈ lw_all, w.before _ s = true := fun w h => hts w (List.mem_cons_of_mem _ h)
  have hown : s.vm.findClass RX6 = some m.cls := findClass_of_methodNamed B.named
  have hlocks := B.notSynchronized
  have hS : va_S (fun _ => False) s.heap s.heap [] := va_S.rf
  have hl := lv_entry ([.ref mo]) (n := 3) (Nat.le_of_ble_eq_true rfl)
  rw [lg_entry_eq]
  generalize (lg_sl ([.ref mo]) ++ List.replicate (3 - (lg_sl ([.ref mo])).length) Slot.unset).toArray = ls at hl ⊢
  have hl : lv_has ls 3 [(0, .ref mo)] := hl
  refine lv_iconst (pc := 0) (v := 0) hx hb dX6_hasReading_0 (by decide) ?_
  refine lv_istore_n (pc := 1) (lv' := [(1, .int 0), (0, .ref mo)]) hx hb dX6_hasReading_1 rfl hl (by decide) rfl (fun ls hl => ?_)
  refine lv_iconst (pc := 2) (v := 0) hx hb dX6_hasReading_2 (by decide) ?_
  refine lv_istore_n (pc := 3) (lv' := [(2, .int 0), (1, .int 0), (0, .ref mo)]) hx hb dX6_hasReading_3 rfl hl (by decide) rfl (fun ls hl => ?_)
  have loop : ∀ (n : Nat) (i : Nat) (b : Int32), (i ≤ k) → (k + 1 ≤ i + n) → (b = bI (hasR f i)) → ∀ (ls : Array Slot), lv_has ls 3 [(0, .ref mo), (1, .int b), (2, .int (nI i))] → W p l e (headSpec (ws_ yX6_hasReading cX6_hasReading 3 (some .boolean)) rm_m6_hasReading).room s m ([.ref mo] : List Value).toArray below meth c s.heap [] 0 0 (MQ below (QI (fun r H1 => H1 = s.heap ∧ r = bI (hasR f k)) (fun _ => False)) ([.ref mo] : List Value).toArray s 0 0 (fun _ => False)) (F0 m 4 ls []) := by
    intro n
    induction n with
    | zero =>
      intro i b hi hfu hbi
      exact absurd (show _ by assumption) (by omega)
    | succ n ih =>
      intro i b hi hfu hbi ls hl
      refine lv_iload_n (pc := 4) hx hb dX6_hasReading_4 rfl (lv_at hl 2 rfl) ?_
      refine lv_aload_n (pc := 5) hx hb dX6_hasReading_5 rfl (lv_at hl 0 rfl) ?_
      refine va_get (pc := 6) (D := D) (ci := 6) (v := .ref ms) (C := RX6) (T := TX6) (N := 9) hx hb hts in_X6 hown hK.1 hmo 0 rfl rfl 0 (by decide) (hts _ q574) (fun _ h9 => h9) rfl dX6_hasReading_6 ?_
      refine lv_bipush (pc := 9) (v := 22) hx hb dX6_hasReading_9 (by decide) ?_
      refine ia_ld (pc := 11) hx hb hK.1 hms 0 0 22 rfl rfl (nl 22) (Nat.le_of_ble_eq_true rfl) (Nat.le_of_ble_eq_true rfl) dX6_hasReading_11 ?_
      refine lv_icmp_ge (pc := 12) (tgt := 46) hx hb dX6_hasReading_12 (by decide) (fun cd1 => ?_) (fun cd1 => ?_)
      · have ncd1 : k ≤ i := (nle hkf rfl (by omega) (by omega)).mp cd1
        refine lv_iload_n (pc := 46) hx hb dX6_hasReading_46 rfl (lv_at hl 1 rfl) ?_
        have hq9 : (fun r H1 => H1 = s.heap ∧ r = bI (hasR f k) : Int32 → Heap → Prop) b s.heap := ⟨rfl, by rw [hbi, show i = k by omega]⟩
        exact W.zret (v := b) hx hb hr (by rw [hbi]; exact bI_nar _) (fun t ht hW => ⟨⟨_, rfl, by rw [ht]; exact hq9⟩, hS.F ht⟩) hS.2.2 dX6_hasReading_47
      · have ncd1 : ¬ k ≤ i := fun h => cd1 ((nle hkf rfl (by omega) (by omega)).mpr h)
        refine lv_iload_n (pc := 15) hx hb dX6_hasReading_15 rfl (lv_at hl 1 rfl) ?_
        refine lv_if_ne (pc := 16) (tgt := 34) hx hb dX6_hasReading_16 (by decide) (fun cd2 => ?_) (fun cd2 => ?_)
        · refine lv_iconst (pc := 34) (v := 1) hx hb dX6_hasReading_34 (by decide) ?_
          refine lv_goto (pc := 35) (tgt := 39) hx hb dX6_hasReading_35 (by decide) ?_
          refine lv_istore_n (pc := 39) (lv' := [(1, .int 1), (0, .ref mo), (2, .int (nI i))]) hx hb dX6_hasReading_39 rfl hl (by decide) rfl (fun ls hl => ?_)
          obtain ⟨x3, ex3⟩ : ∃ y : Int32, y = (nI i) + 1 := ⟨_, rfl⟩
          refine lv_iinc (pc := 40) (v := x3) (lv' := [(2, .int x3), (1, .int 1), (0, .ref mo)]) hx hb dX6_hasReading_40 hl (k := 2) rfl (by rw [ex3]; rfl) (by decide) rfl (fun ls hl => ?_)
          refine lv_goto (pc := 43) (tgt := 4) hx hb dX6_hasReading_43 (by decide) ?_
          rw [show x3 = nI (i + 1) from (ex3.trans (nadd rfl (nl 1)))] at hl
          exact ih  (i + 1) 1 (by omega) (by omega) (hasR_up (bI_ne (fun e => cd2 (hbi.trans e)))) ls (lv_sub hl [2, 1, 0] rfl)
        · refine lv_aload_n (pc := 19) hx hb dX6_hasReading_19 rfl (lv_at hl 0 rfl) ?_
          refine va_get (pc := 20) (D := D) (ci := 6) (v := .ref ms) (C := RX6) (T := TX6) (N := 9) hx hb hts in_X6 hown hK.1 hmo 0 rfl rfl 0 (by decide) (hts _ q574) (fun _ h9 => h9) rfl dX6_hasReading_20 ?_
          refine lv_bipush (pc := 23) (v := 23) hx hb dX6_hasReading_23 (by decide) ?_
          refine lv_iconst (pc := 25) (v := 2) hx hb dX6_hasReading_25 (by decide) ?_
          refine lv_iload_n (pc := 26) hx hb dX6_hasReading_26 rfl (lv_at hl 2 rfl) ?_
          refine lv_imul (pc := 27) hx hb dX6_hasReading_27 ?_
          refine lv_iadd (pc := 28) hx hb dX6_hasReading_28 ?_
          refine ia_ld (pc := 29) hx hb hK.1 hms 0 0 (23 + (2 * i)) rfl rfl (nadd (nl 23) (nmul (nl 2) rfl)) (by omega) (Nat.le_of_ble_eq_true rfl) dX6_hasReading_29 ?_
          refine lv_iconst (pc := 30) (v := (-1)) hx hb dX6_hasReading_30 (by decide) ?_
          refine lv_icmp_eq (pc := 31) (tgt := 38) hx hb dX6_hasReading_31 (by decide) (fun cd4 => ?_) (fun cd4 => ?_)
          · refine lv_iconst (pc := 38) (v := 0) hx hb dX6_hasReading_38 (by decide) ?_
            refine lv_istore_n (pc := 39) (lv' := [(1, .int 0), (0, .ref mo), (2, .int (nI i))]) hx hb dX6_hasReading_39 rfl hl (by decide) rfl (fun ls hl => ?_)
            obtain ⟨x5, ex5⟩ : ∃ y : Int32, y = (nI i) + 1 := ⟨_, rfl⟩
            refine lv_iinc (pc := 40) (v := x5) (lv' := [(2, .int x5), (1, .int 0), (0, .ref mo)]) hx hb dX6_hasReading_40 hl (k := 2) rfl (by rw [ex5]; rfl) (by decide) rfl (fun ls hl => ?_)
            refine lv_goto (pc := 43) (tgt := 4) hx hb dX6_hasReading_43 (by decide) ?_
            rw [show x5 = nI (i + 1) from (ex5.trans (nadd rfl (nl 1)))] at hl
            exact ih  (i + 1) 0 (by omega) (by omega) (hasR_no (bI_eq (hbi.symm.trans cd2)) cd4) ls (lv_sub hl [2, 1, 0] rfl)
          · refine lv_iconst (pc := 34) (v := 1) hx hb dX6_hasReading_34 (by decide) ?_
            refine lv_goto (pc := 35) (tgt := 39) hx hb dX6_hasReading_35 (by decide) ?_
            refine lv_istore_n (pc := 39) (lv' := [(1, .int 1), (0, .ref mo), (2, .int (nI i))]) hx hb dX6_hasReading_39 rfl hl (by decide) rfl (fun ls hl => ?_)
            obtain ⟨x6, ex6⟩ : ∃ y : Int32, y = (nI i) + 1 := ⟨_, rfl⟩
            refine lv_iinc (pc := 40) (v := x6) (lv' := [(2, .int x6), (1, .int 1), (0, .ref mo)]) hx hb dX6_hasReading_40 hl (k := 2) rfl (by rw [ex6]; rfl) (by decide) rfl (fun ls hl => ?_)
            refine lv_goto (pc := 43) (tgt := 4) hx hb dX6_hasReading_43 (by decide) ?_
            rw [show x6 = nI (i + 1) from (ex6.trans (nadd rfl (nl 1)))] at hl
            exact ih  (i + 1) 1 (by omega) (by omega) (hasR_new cd4) ls (lv_sub hl [2, 1, 0] rfl)
  exact loop (k + 1) 0 0 (Nat.zero_le _) (by omega) hasR_0 ls (lv_sub hl [2, 1, 0] rfl)

abbrev rm_m6_errorOf : Room := ({ frames := 3, cells := 0, slots := 0, locals := 91 })
set_option maxHeartbeats 4000000 in
set_option maxRecDepth 100000 in
theorem m6_errorOf (l : Launch) {D : va_G} {g : Nat → ClassId} (mo ms mp me mn np : Nat) (iv lg fg hv : Int64) (k : Nat) (f : Nat → Int32) (nw : Nat → Int64) (nz : Int32) (H : Heap) (hP : va_P D vwCl [(mo, .inr (6, [.ref ms, .ref mp, .int (nI np), .ref me, .ref mn, .long iv, .long lg, .long fg, .long hv])), (mn, .inl (g 1, 5, .inr (.inl nw)))] H) (hN : [mo, mn].Nodup) (hms : va_P D vwCl [(ms, .inl (g 0, 71, .inl f))] H) (nhms : ms ∉ [mo, mn]) (hk : k ≤ 24) (hkf : f 22 = nI k) (hro : RowOK f) (hnz : 0 ≤ nz.toInt ∧ nz.toInt ≤ 4096000) : Met l yX6_errorOf (ws_ yX6_errorOf cX6_errorOf 8 (some .long)) rm_m6_errorOf (va_Pc [.ref mo, .int nz] (PH D g H)) (QL (fun r H1 => (rpE f nz k = none ∧ r = -1 ∧ ∃ (iv2 lg2 fg2 : Int64) (nw2 : Nat → Int64), va_P D vwCl [(mo, .inr (6, [.ref ms, .ref mp, .int (nI np), .ref me, .ref mn, .long iv2, .long lg2, .long fg2, .long hv])), (mn, .inl (g 1, 5, .inr (.inl nw2)))] H1) ∨ (rpE f nz k = some r ∧ ∃ (iv2 lg2 fg2 : Int64) (nw2 : Nat → Int64), va_P D vwCl [(mo, .inr (6, [.ref ms, .ref mp, .int (nI np), .ref me, .ref mn, .long iv2, .long lg2, .long fg2, .long hv])), (mn, .inl (g 1, 5, .inr (.inl nw2)))] H1)) (Aw [mo, mn] H.size)) 0 0 (Aw [mo, mn] H.size) := by
  refine Met.ofW (cc := cX6_errorOf) (maxL := 8) (ret := (some .long)) (by decide) rfl ?_
  intro p e s m args below meth c s₁ B hml hv
  obtain ⟨rfl, hH, hK⟩ := hv
  subst hH
  have hx := B.exec
  have hb := B.bytes
  have hr := B.returns
  have hts := atoms_spec (ws := ws_ yX6_errorOf cX6_errorOf 8 (some .long)) B.pre
  have hts : ∀ w ∈ lw_all, w.before _ s = true := fun w h => hts w (List.mem_cons_of_mem _ h)
  have hown : s.vm.findClass RX6 = some m.cls := findClass_of_methodNamed B.named
  have hlocks := B.notSynchronized
  have hA : ∀ q, s.heap.size ≤ q → (Aw [mo, mn] s.heap.size) q := fun q h => Or.inr h
  have hS : va_S (Aw [mo, mn] s.heap.size) s.heap s.heap [] := va_S.rf
  have hD : va_D (Aw [mo, mn] s.heap.size) [(mo, .inr (6, [.ref ms, .ref mp, .int (nI np), .ref me, .ref mn, .long iv, .long lg, .long fg, .long hv])), (mn, .inl (g 1, 5, .inr (.inl nw)))] := dOf hN (fun q h => Or.inl h)
  have ahms : ¬ (Aw [mo, mn] s.heap.size) ms := naw nhms (hms 0 _ rfl).lt
  have hl := lv_entry ([.ref mo, .int nz]) (n := 8) (Nat.le_of_ble_eq_true rfl)
  rw [lg_entry_eq]
  generalize (lg_sl ([.ref mo, .int nz]) ++ List.replicate (8 - (lg_sl ([.ref mo, .int nz])).length) Slot.unset).toArray = ls at hl ⊢
  have hl : lv_has ls 8 [(0, .ref mo), (1, .int nz)] := hl
  have hev9 : ∀ i, i < k → (f (23 + 2 * i) = -1 ∨ ∃ j, j < 4 ∧ f (23 + 2 * i) = nI j) ∧ (-40960000 ≤ (f (24 + 2 * i)).toInt ∧ (f (24 + 2 * i)).toInt ≤ 40960000) := by
    obtain ⟨k', hk1', hk2', hk3'⟩ := hro.2.2.2.2.2
    have hkk : k' = k := (nI_eq (by omega) (by omega)).mp (hk2'.symm.trans hkf)
    exact hkk ▸ hk3'
  refine lv_aload_n (pc := 0) hx hb dX6_errorOf_0 rfl (lv_at hl 0 rfl) ?_
  have hFc := awF (Lc := [mn]) hD hS hA [1] rfl
  refine kV (pc := 1) (va_runV (As := []) (rest := []) ⟨hx, hb, hml, hown, hts⟩ (m6_take l mo ms mp me mn np iv lg fg hv f nw s.heap (hP.sub (ws' := [(mn, .inl (g 1, 5, .inr (.inl nw)))]) [1] rfl) (hP.sub (ws' := [(mo, .inr (6, [.ref ms, .ref mp, .int (nI np), .ref me, .ref mn, .long iv, .long lg, .long fg, .long hv]))]) [0] rfl) (ninW hD 0 [1] rfl rfl (by decide)) hms (ninL ahms (fun q h => hFc q (Or.inl h)))) (cwV 0 hts (lw_V q642 q644 qs10 q28 q645) rfl rfl rfl (by decide +kernel) ⟨Nat.le_of_ble_eq_true rfl, Nat.le_of_ble_eq_true rfl⟩) (preV hK (rcv hK hP 0 rfl rfl)) rfl rfl hl.1 rfl (lv_room (Nat.le_of_ble_eq_true rfl)) dX6_errorOf_1 ⟨Nat.le_of_ble_eq_true rfl, Nat.le_of_ble_eq_true rfl⟩) hS hFc (fun H locs hp9 hz1 hk1 hS => ?_)
  have hP1 := hp9
  obtain ⟨hP, hD⟩ := jn (wr := [(mo, .inr (6, [.ref ms, .ref mp, .int (nI np), .ref me, .ref mn, .long iv, .long lg, .long fg, .long hv]))]) (w1 := [(mn, .inl (g 1, 5, .inr (.inl (e64 (eR f)))))]) hP hD [1] [0] rfl rfl (by decide) (by decide) hk1 hFc hP1 (d1 (Or.inl (by simp)))
  have hP : va_P D vwCl [(mo, .inr (6, [.ref ms, .ref mp, .int (nI np), .ref me, .ref mn, .long iv, .long lg, .long fg, .long hv])), (mn, .inl (g 1, 5, .inr (.inl (e64 (eR f)))))] H := hP
  have hD : va_D (Aw [mo, mn] s.heap.size) [(mo, .inr (6, [.ref ms, .ref mp, .int (nI np), .ref me, .ref mn, .long iv, .long lg, .long fg, .long hv])), (mn, .inl (g 1, 5, .inr (.inl (e64 (eR f)))))] := hD
  refine lv_lconst (pc := 4) (v := 0) hx hb dX6_errorOf_4 rfl ?_
  refine lv_lstore_n (pc := 5) (lv' := [(2, .long 0), (0, .ref mo), (1, .int nz)]) hx hb dX6_errorOf_5 rfl hl (by decide) rfl (fun ls hl => ?_)
  refine lv_iconst (pc := 6) (v := 0) hx hb dX6_errorOf_6 (by decide) ?_
  refine lv_istore (pc := 7) (lv' := [(4, .int 0), (2, .long 0), (0, .ref mo), (1, .int nz)]) hx hb dX6_errorOf_7 hl (by decide) rfl (fun ls hl => ?_)
  have loop : ∀ (n : Nat) (i : Nat) (u : Nat → Int32) (sm iv1 lg1 fg1 : Int64), (i ≤ k) → (k + 1 ≤ i + n) → (EstOK u) → (rpF f nz i = some (u, sm)) → ∀ (H : Heap) (locs : List Loc), va_P D vwCl [(mo, .inr (6, [.ref ms, .ref mp, .int (nI np), .ref me, .ref mn, .long iv1, .long lg1, .long fg1, .long hv])), (mn, .inl (g 1, 5, .inr (.inl (e64 u))))] H → va_D (Aw [mo, mn] s.heap.size) [(mo, .inr (6, [.ref ms, .ref mp, .int (nI np), .ref me, .ref mn, .long iv1, .long lg1, .long fg1, .long hv])), (mn, .inl (g 1, 5, .inr (.inl (e64 u))))] → va_S (Aw [mo, mn] s.heap.size) s.heap H locs → ∀ (ls : Array Slot), lv_has ls 8 [(0, .ref mo), (1, .int nz), (2, .long sm), (4, .int (nI i))] → W p l e (headSpec (ws_ yX6_errorOf cX6_errorOf 8 (some .long)) rm_m6_errorOf).room s m ([.ref mo, .int nz] : List Value).toArray below meth c H locs 0 0 (MQ below (QL (fun r H1 => (rpE f nz k = none ∧ r = -1 ∧ ∃ (iv2 lg2 fg2 : Int64) (nw2 : Nat → Int64), va_P D vwCl [(mo, .inr (6, [.ref ms, .ref mp, .int (nI np), .ref me, .ref mn, .long iv2, .long lg2, .long fg2, .long hv])), (mn, .inl (g 1, 5, .inr (.inl nw2)))] H1) ∨ (rpE f nz k = some r ∧ ∃ (iv2 lg2 fg2 : Int64) (nw2 : Nat → Int64), va_P D vwCl [(mo, .inr (6, [.ref ms, .ref mp, .int (nI np), .ref me, .ref mn, .long iv2, .long lg2, .long fg2, .long hv])), (mn, .inl (g 1, 5, .inr (.inl nw2)))] H1)) (Aw [mo, mn] s.heap.size)) ([.ref mo, .int nz] : List Value).toArray s 0 0 (Aw [mo, mn] s.heap.size)) (F0 m 9 ls []) := by
    intro n
    induction n with
    | zero =>
      intro i u sm iv1 lg1 fg1 hi hfu hEu hrp
      exact absurd (show _ by assumption) (by omega)
    | succ n ih =>
      intro i u sm iv1 lg1 fg1 hi hfu hEu hrp H locs hP hD hS ls hl
      refine lv_iload (pc := 9) hx hb dX6_errorOf_9 (lv_at hl 3 rfl) ?_
      refine lv_aload_n (pc := 11) hx hb dX6_errorOf_11 rfl (lv_at hl 0 rfl) ?_
      refine va_get (pc := 12) (D := D) (ci := 6) (v := .ref ms) (C := RX6) (T := TX6) (N := 9) hx hb hts in_X6 hown hK.1 hP 0 rfl rfl 0 (by decide) (hts _ q574) (fun _ h9 => h9) rfl dX6_errorOf_12 ?_
      refine lv_bipush (pc := 15) (v := 22) hx hb dX6_errorOf_15 (by decide) ?_
      refine ia_ld (pc := 17) hx hb hK.1 (ro_at hS hms ahms) 0 0 22 rfl rfl (nl 22) (Nat.le_of_ble_eq_true rfl) (Nat.le_of_ble_eq_true rfl) dX6_errorOf_17 ?_
      refine lv_icmp_ge (pc := 18) (tgt := 122) hx hb dX6_errorOf_18 (by decide) (fun cd2 => ?_) (fun cd2 => ?_)
      · have ncd2 : k ≤ i := (nle hkf rfl (by omega) (by omega)).mp cd2
        refine lv_lload_n (pc := 122) hx hb dX6_errorOf_122 rfl (lv_at hl 2 rfl) ?_
        refine kIp (pc := 123) (va_runS (As := [.long sm]) (rest := []) ⟨hx, hb, hml, hown, hts⟩ (m6_isIn l sm H) (va_cwS 1 hts (lw_S q651 q652 q28 q653) rfl rfl rfl (by decide +kernel) ⟨Nat.le_of_ble_eq_true rfl, Nat.le_of_ble_eq_true rfl⟩) (preS hK) rfl rfl hl.1 rfl (lv_room (Nat.le_of_ble_eq_true rfl)) dX6_errorOf_123 ⟨Nat.le_of_ble_eq_true rfl, Nat.le_of_ble_eq_true rfl⟩) (fun r3 hr3 => ?_)
        refine lv_if_eq (pc := 126) (tgt := 133) hx hb dX6_errorOf_126 (by decide) (fun cd4 => ?_) (fun cd4 => ?_)
        · refine lv_ldc2 (pc := 133) (v := (-1)) hx hb hown (hts _ q777) dX6_errorOf_133 ?_
          have hq9 : (fun r H1 => (rpE f nz k = none ∧ r = -1 ∧ ∃ (iv2 lg2 fg2 : Int64) (nw2 : Nat → Int64), va_P D vwCl [(mo, .inr (6, [.ref ms, .ref mp, .int (nI np), .ref me, .ref mn, .long iv2, .long lg2, .long fg2, .long hv])), (mn, .inl (g 1, 5, .inr (.inl nw2)))] H1) ∨ (rpE f nz k = some r ∧ ∃ (iv2 lg2 fg2 : Int64) (nw2 : Nat → Int64), va_P D vwCl [(mo, .inr (6, [.ref ms, .ref mp, .int (nI np), .ref me, .ref mn, .long iv2, .long lg2, .long fg2, .long hv])), (mn, .inl (g 1, 5, .inr (.inl nw2)))] H1) : Int64 → Heap → Prop) (-1) H := Or.inl ⟨rpE_n ((show i = k by omega) ▸ hrp) (bI_eq (hr3.symm.trans cd4)), rfl, _, _, _, _, hP.sub [0, 1] rfl⟩
          exact W.lret (v := (-1)) hx hb hr (fun t ht hW => ⟨⟨_, rfl, by rw [ht]; exact hq9⟩, hS.F ht⟩) hS.2.2 dX6_errorOf_136
        · refine lv_lload_n (pc := 129) hx hb dX6_errorOf_129 rfl (lv_at hl 2 rfl) ?_
          refine lv_goto (pc := 130) (tgt := 136) hx hb dX6_errorOf_130 (by decide) ?_
          have hq9 : (fun r H1 => (rpE f nz k = none ∧ r = -1 ∧ ∃ (iv2 lg2 fg2 : Int64) (nw2 : Nat → Int64), va_P D vwCl [(mo, .inr (6, [.ref ms, .ref mp, .int (nI np), .ref me, .ref mn, .long iv2, .long lg2, .long fg2, .long hv])), (mn, .inl (g 1, 5, .inr (.inl nw2)))] H1) ∨ (rpE f nz k = some r ∧ ∃ (iv2 lg2 fg2 : Int64) (nw2 : Nat → Int64), va_P D vwCl [(mo, .inr (6, [.ref ms, .ref mp, .int (nI np), .ref me, .ref mn, .long iv2, .long lg2, .long fg2, .long hv])), (mn, .inl (g 1, 5, .inr (.inl nw2)))] H1) : Int64 → Heap → Prop) sm H := Or.inr ⟨rpE_y ((show i = k by omega) ▸ hrp) (bI_ne (fun e => cd4 (hr3.trans e))), _, _, _, _, hP.sub [0, 1] rfl⟩
          exact W.lret (v := sm) hx hb hr (fun t ht hW => ⟨⟨_, rfl, by rw [ht]; exact hq9⟩, hS.F ht⟩) hS.2.2 dX6_errorOf_136
      · have ncd2 : ¬ k ≤ i := fun h => cd2 ((nle hkf rfl (by omega) (by omega)).mpr h)
        refine lv_aload_n (pc := 21) hx hb dX6_errorOf_21 rfl (lv_at hl 0 rfl) ?_
        refine va_get (pc := 22) (D := D) (ci := 6) (v := .ref ms) (C := RX6) (T := TX6) (N := 9) hx hb hts in_X6 hown hK.1 hP 0 rfl rfl 0 (by decide) (hts _ q574) (fun _ h9 => h9) rfl dX6_errorOf_22 ?_
        refine lv_bipush (pc := 25) (v := 23) hx hb dX6_errorOf_25 (by decide) ?_
        refine lv_iconst (pc := 27) (v := 2) hx hb dX6_errorOf_27 (by decide) ?_
        refine lv_iload (pc := 28) hx hb dX6_errorOf_28 (lv_at hl 3 rfl) ?_
        refine lv_imul (pc := 30) hx hb dX6_errorOf_30 ?_
        refine lv_iadd (pc := 31) hx hb dX6_errorOf_31 ?_
        refine ia_ld (pc := 32) hx hb hK.1 (ro_at hS hms ahms) 0 0 (23 + (2 * i)) rfl rfl (nadd (nl 23) (nmul (nl 2) rfl)) (by omega) (Nat.le_of_ble_eq_true rfl) dX6_errorOf_32 ?_
        refine lv_topi (fun z5 ez5 => ?_)
        refine lv_istore (pc := 33) (lv' := [(5, .int z5), (0, .ref mo), (1, .int nz), (2, .long sm), (4, .int (nI i))]) hx hb dX6_errorOf_33 hl (by decide) rfl (fun ls hl => ?_)
        refine lv_aload_n (pc := 35) hx hb dX6_errorOf_35 rfl (lv_at hl 1 rfl) ?_
        refine va_get (pc := 36) (D := D) (ci := 6) (v := .ref ms) (C := RX6) (T := TX6) (N := 9) hx hb hts in_X6 hown hK.1 hP 0 rfl rfl 0 (by decide) (hts _ q574) (fun _ h9 => h9) rfl dX6_errorOf_36 ?_
        refine lv_bipush (pc := 39) (v := 23) hx hb dX6_errorOf_39 (by decide) ?_
        refine lv_iconst (pc := 41) (v := 2) hx hb dX6_errorOf_41 (by decide) ?_
        refine lv_iload (pc := 42) hx hb dX6_errorOf_42 (lv_at hl 4 rfl) ?_
        refine lv_imul (pc := 44) hx hb dX6_errorOf_44 ?_
        refine lv_iadd (pc := 45) hx hb dX6_errorOf_45 ?_
        refine lv_iconst (pc := 46) (v := 1) hx hb dX6_errorOf_46 (by decide) ?_
        refine lv_iadd (pc := 47) hx hb dX6_errorOf_47 ?_
        refine ia_ld (pc := 48) hx hb hK.1 (ro_at hS hms ahms) 0 0 ((23 + (2 * i)) + 1) rfl rfl (nadd (nadd (nl 23) (nmul (nl 2) rfl)) (nl 1)) (by omega) (Nat.le_of_ble_eq_true rfl) dX6_errorOf_48 ?_
        refine lv_topi (fun z6 ez6 => ?_)
        refine lv_istore (pc := 49) (lv' := [(6, .int z6), (5, .int z5), (0, .ref mo), (1, .int nz), (2, .long sm), (4, .int (nI i))]) hx hb dX6_errorOf_49 hl (by decide) rfl (fun ls hl => ?_)
        have hwa : z5 = f (23 + 2 * i) := ez5
        have hwb : z6 = f (24 + 2 * i) := by rw [ez6, show 23 + 2 * i + 1 = 24 + 2 * i by omega]
        clear ez5 ez6
        subst hwa
        subst hwb
        refine lv_iload (pc := 51) hx hb dX6_errorOf_51 (lv_at hl 1 rfl) ?_
        refine lv_iconst (pc := 53) (v := (-1)) hx hb dX6_errorOf_53 (by decide) ?_
        refine lv_icmp_ne (pc := 54) (tgt := 71) hx hb dX6_errorOf_54 (by decide) (fun cd7 => ?_) (fun cd7 => ?_)
        · have hnm : ¬ f (23 + 2 * i) = -1 := cd7
          obtain ⟨j, hj, hfj⟩ := (hev9 i (by omega)).1.resolve_left hnm
          have hwk := whoK_of hfj hj
          refine lv_aload_n (pc := 71) hx hb dX6_errorOf_71 rfl (lv_at hl 2 rfl) ?_
          refine lv_iload (pc := 72) hx hb dX6_errorOf_72 (lv_at hl 1 rfl) ?_
          refine lv_iload (pc := 74) hx hb dX6_errorOf_74 (lv_at hl 0 rfl) ?_
          refine lv_i2l (pc := 76) hx hb dX6_errorOf_76 rfl ?_
          refine lv_iconst (pc := 77) (v := 0) hx hb dX6_errorOf_77 (by decide) ?_
          have hFc := awF (Lc := [mo, mn]) hD hS hA [0, 1] rfl
          refine kI (pc := 78) (va_runV (As := [.int (f (23 + 2 * i)), .long (Int32.toInt64 (f (24 + 2 * i))), .int 0]) (rest := []) ⟨hx, hb, hml, hown, hts⟩ (m6_corrects l mo ms mp me mn np iv1 lg1 fg1 hv f u j (f (23 + 2 * i)) (f (24 + 2 * i)) 0 H (hP.sub (ws' := [(mo, .inr (6, [.ref ms, .ref mp, .int (nI np), .ref me, .ref mn, .long iv1, .long lg1, .long fg1, .long hv])), (mn, .inl (g 1, 5, .inr (.inl (e64 u))))]) [0, 1] rfl) (nodupW hD [0, 1] rfl (by decide)) (ro_at hS hms ahms) (ninL ahms (fun q h => hFc q (Or.inl h))) hj hfj hEu (hro.2.2.2.2.1 j hj).2) (cwV 3 hts (lw_V q669 q671 qs14 q28 q672) rfl rfl rfl (by decide +kernel) ⟨Nat.le_of_ble_eq_true rfl, Nat.le_of_ble_eq_true rfl⟩) (preV hK (rcv hK hP 0 rfl rfl)) rfl rfl hl.1 rfl (lv_room (Nat.le_of_ble_eq_true rfl)) dX6_errorOf_78 ⟨Nat.le_of_ble_eq_true rfl, Nat.le_of_ble_eq_true rfl⟩) hS hFc (fun r8 H locs hp9 hz1 hk1 hS => ?_)
          rcases hp9 with ⟨hrj, hr9, hP1⟩ | ⟨_, hnco, hr9, hP1⟩ | ⟨_, hco, hr9, hP1⟩
          · exact absurd rfl hrj.1
          · subst hr9
            obtain ⟨hP, hD⟩ := jn (wr := []) (w1 := [(mo, .inr (6, [.ref ms, .ref mp, .int (nI np), .ref me, .ref mn, .long (cY (e64 u) (f (8 + j)) (Int32.toInt64 (f (24 + 2 * i)))), .long lg1, .long fg1, .long hv])), (mn, .inl (g 1, 5, .inr (.inl (e64 u))))]) hP hD [0, 1] [] rfl rfl (by decide) (by decide) hk1 hFc hP1 (dOf (nodupW hD [0, 1] rfl (by decide)) (fun q h => Or.inl h))
            have hP : va_P D vwCl [(mo, .inr (6, [.ref ms, .ref mp, .int (nI np), .ref me, .ref mn, .long (cY (e64 u) (f (8 + j)) (Int32.toInt64 (f (24 + 2 * i)))), .long lg1, .long fg1, .long hv])), (mn, .inl (g 1, 5, .inr (.inl (e64 u))))] H := hP
            have hD : va_D (Aw [mo, mn] s.heap.size) [(mo, .inr (6, [.ref ms, .ref mp, .int (nI np), .ref me, .ref mn, .long (cY (e64 u) (f (8 + j)) (Int32.toInt64 (f (24 + 2 * i)))), .long lg1, .long fg1, .long hv])), (mn, .inl (g 1, 5, .inr (.inl (e64 u))))] := hD
            refine lv_istore (pc := 81) (lv' := [(7, .int (-1)), (6, .int (f (24 + 2 * i))), (5, .int (f (23 + 2 * i))), (0, .ref mo), (1, .int nz), (2, .long sm), (4, .int (nI i))]) hx hb dX6_errorOf_81 hl (by decide) rfl (fun ls hl => ?_)
            refine lv_iload (pc := 83) hx hb dX6_errorOf_83 (lv_at hl 0 rfl) ?_
            refine lv_if_ge (pc := 85) (tgt := 92) hx hb dX6_errorOf_85 (by decide) (fun cd9 => absurd cd9 (by decide)) (fun cd9 => ?_)
            refine lv_ldc2 (pc := 88) (v := (-1)) hx hb hown (hts _ q777) dX6_errorOf_88 ?_
            have hq9 : (fun r H1 => (rpE f nz k = none ∧ r = -1 ∧ ∃ (iv2 lg2 fg2 : Int64) (nw2 : Nat → Int64), va_P D vwCl [(mo, .inr (6, [.ref ms, .ref mp, .int (nI np), .ref me, .ref mn, .long iv2, .long lg2, .long fg2, .long hv])), (mn, .inl (g 1, 5, .inr (.inl nw2)))] H1) ∨ (rpE f nz k = some r ∧ ∃ (iv2 lg2 fg2 : Int64) (nw2 : Nat → Int64), va_P D vwCl [(mo, .inr (6, [.ref ms, .ref mp, .int (nI np), .ref me, .ref mn, .long iv2, .long lg2, .long fg2, .long hv])), (mn, .inl (g 1, 5, .inr (.inl nw2)))] H1) : Int64 → Heap → Prop) (-1) H := Or.inl ⟨rpE_x (rp_readX hnm hwk hnco hrp) (by omega), rfl, _, _, _, _, hP.sub [0, 1] rfl⟩
            exact W.lret (v := (-1)) hx hb hr (fun t ht hW => ⟨⟨_, rfl, by rw [ht]; exact hq9⟩, hS.F ht⟩) hS.2.2 dX6_errorOf_91
          · subst hr9
            obtain ⟨hP, hD⟩ := jn (wr := []) (w1 := [(mo, .inr (6, [.ref ms, .ref mp, .int (nI np), .ref me, .ref mn, .long (cY (e64 u) (f (8 + j)) (Int32.toInt64 (f (24 + 2 * i)))), .long (cK (e64 u) (f (8 + j)) (f (12 + j)).toInt64), .long (cL (e64 u) (f (8 + j)) (f (12 + j)).toInt64), .long hv])), (mn, .inl (g 1, 5, .inr (.inl (e64 (cE u (f (8 + j)) (f (12 + j)) (f (24 + 2 * i)))))))]) hP hD [0, 1] [] rfl rfl (by decide) (by decide) hk1 hFc hP1 (dOf (nodupW hD [0, 1] rfl (by decide)) (fun q h => Or.inl h))
            have hP : va_P D vwCl [(mo, .inr (6, [.ref ms, .ref mp, .int (nI np), .ref me, .ref mn, .long (cY (e64 u) (f (8 + j)) (Int32.toInt64 (f (24 + 2 * i)))), .long (cK (e64 u) (f (8 + j)) (f (12 + j)).toInt64), .long (cL (e64 u) (f (8 + j)) (f (12 + j)).toInt64), .long hv])), (mn, .inl (g 1, 5, .inr (.inl (e64 (cE u (f (8 + j)) (f (12 + j)) (f (24 + 2 * i)))))))] H := hP
            have hD : va_D (Aw [mo, mn] s.heap.size) [(mo, .inr (6, [.ref ms, .ref mp, .int (nI np), .ref me, .ref mn, .long (cY (e64 u) (f (8 + j)) (Int32.toInt64 (f (24 + 2 * i)))), .long (cK (e64 u) (f (8 + j)) (f (12 + j)).toInt64), .long (cL (e64 u) (f (8 + j)) (f (12 + j)).toInt64), .long hv])), (mn, .inl (g 1, 5, .inr (.inl (e64 (cE u (f (8 + j)) (f (12 + j)) (f (24 + 2 * i)))))))] := hD
            refine lv_istore (pc := 81) (lv' := [(7, .int 1), (6, .int (f (24 + 2 * i))), (5, .int (f (23 + 2 * i))), (0, .ref mo), (1, .int nz), (2, .long sm), (4, .int (nI i))]) hx hb dX6_errorOf_81 hl (by decide) rfl (fun ls hl => ?_)
            refine lv_iload (pc := 83) hx hb dX6_errorOf_83 (lv_at hl 0 rfl) ?_
            refine lv_if_ge (pc := 85) (tgt := 92) hx hb dX6_errorOf_85 (by decide) (fun cd10 => ?_) (fun cd10 => absurd cd10 (by decide))
            refine lv_lload_n (pc := 92) hx hb dX6_errorOf_92 rfl (lv_at hl 5 rfl) ?_
            refine lv_aload_n (pc := 93) hx hb dX6_errorOf_93 rfl (lv_at hl 3 rfl) ?_
            refine va_get (pc := 94) (D := D) (ci := 6) (v := .long (cY (e64 u) (f (8 + j)) (Int32.toInt64 (f (24 + 2 * i))))) (C := RX6) (T := TX6) (N := 9) hx hb hts in_X6 hown hK.1 hP 0 rfl rfl 5 (by decide) (hts _ q579) (fun _ h9 => h9) rfl dX6_errorOf_94 ?_
            refine lv_lconst (pc := 97) (v := 0) hx hb dX6_errorOf_97 rfl ?_
            refine lq_ge (pc := 98) (tgt := 110) hx hb dX6_errorOf_98 dX6_errorOf_99 (by decide) (fun cd11 => ?_) (fun cd11 => ?_)
            · refine lv_aload_n (pc := 110) hx hb dX6_errorOf_110 rfl (lv_at hl 3 rfl) ?_
              refine va_get (pc := 111) (D := D) (ci := 6) (v := .long (cY (e64 u) (f (8 + j)) (Int32.toInt64 (f (24 + 2 * i))))) (C := RX6) (T := TX6) (N := 9) hx hb hts in_X6 hown hK.1 hP 0 rfl rfl 5 (by decide) (hts _ q579) (fun _ h9 => h9) rfl dX6_errorOf_111 ?_
              refine lv_ladd (pc := 114) hx hb dX6_errorOf_114 ?_
              refine lv_topl (fun z12 ez12 => ?_)
              refine lv_lstore_n (pc := 115) (lv' := [(2, .long z12), (7, .int 1), (6, .int (f (24 + 2 * i))), (5, .int (f (23 + 2 * i))), (0, .ref mo), (1, .int nz), (4, .int (nI i))]) hx hb dX6_errorOf_115 rfl hl (by decide) rfl (fun ls hl => ?_)
              obtain ⟨x13, ex13⟩ : ∃ y : Int32, y = (nI i) + 1 := ⟨_, rfl⟩
              refine lv_iinc (pc := 116) (v := x13) (lv' := [(4, .int x13), (2, .long z12), (7, .int 1), (6, .int (f (24 + 2 * i))), (5, .int (f (23 + 2 * i))), (0, .ref mo), (1, .int nz)]) hx hb dX6_errorOf_116 hl (k := 6) rfl (by rw [ex13]; rfl) (by decide) rfl (fun ls hl => ?_)
              refine lv_goto (pc := 119) (tgt := 9) hx hb dX6_errorOf_119 (by decide) ?_
              rw [show x13 = nI (i + 1) from (ex13.trans (nadd rfl (nl 1)))] at hl
              exact ih  (i + 1) (cE u (f (8 + j)) (f (12 + j)) (f (24 + 2 * i))) z12 _ _ _ (by omega) (by omega) (cE_ok hco) (by rw [rp_read hnm hwk hco hrp, ez12]; exact congrArg (fun x => some (cE u (f (8 + j)) (f (12 + j)) (f (24 + 2 * i)), sm + x)) ((congrArg absL (cY_back hEu (hev9 i (by omega)).2)).trans (absL_p cd11))) _ _ hP hD hS ls (lv_sub hl [5, 6, 1, 0] rfl)
            · refine lv_aload_n (pc := 102) hx hb dX6_errorOf_102 rfl (lv_at hl 3 rfl) ?_
              refine va_get (pc := 103) (D := D) (ci := 6) (v := .long (cY (e64 u) (f (8 + j)) (Int32.toInt64 (f (24 + 2 * i))))) (C := RX6) (T := TX6) (N := 9) hx hb hts in_X6 hown hK.1 hP 0 rfl rfl 5 (by decide) (hts _ q579) (fun _ h9 => h9) rfl dX6_errorOf_103 ?_
              refine lv_lneg (pc := 106) hx hb dX6_errorOf_106 ?_
              refine lv_goto (pc := 107) (tgt := 114) hx hb dX6_errorOf_107 (by decide) ?_
              refine lv_ladd (pc := 114) hx hb dX6_errorOf_114 ?_
              refine lv_topl (fun z14 ez14 => ?_)
              refine lv_lstore_n (pc := 115) (lv' := [(2, .long z14), (7, .int 1), (6, .int (f (24 + 2 * i))), (5, .int (f (23 + 2 * i))), (0, .ref mo), (1, .int nz), (4, .int (nI i))]) hx hb dX6_errorOf_115 rfl hl (by decide) rfl (fun ls hl => ?_)
              obtain ⟨x15, ex15⟩ : ∃ y : Int32, y = (nI i) + 1 := ⟨_, rfl⟩
              refine lv_iinc (pc := 116) (v := x15) (lv' := [(4, .int x15), (2, .long z14), (7, .int 1), (6, .int (f (24 + 2 * i))), (5, .int (f (23 + 2 * i))), (0, .ref mo), (1, .int nz)]) hx hb dX6_errorOf_116 hl (k := 6) rfl (by rw [ex15]; rfl) (by decide) rfl (fun ls hl => ?_)
              refine lv_goto (pc := 119) (tgt := 9) hx hb dX6_errorOf_119 (by decide) ?_
              rw [show x15 = nI (i + 1) from (ex15.trans (nadd rfl (nl 1)))] at hl
              exact ih  (i + 1) (cE u (f (8 + j)) (f (12 + j)) (f (24 + 2 * i))) z14 _ _ _ (by omega) (by omega) (cE_ok hco) (by rw [rp_read hnm hwk hco hrp, ez14]; exact congrArg (fun x => some (cE u (f (8 + j)) (f (12 + j)) (f (24 + 2 * i)), sm + x)) ((congrArg absL (cY_back hEu (hev9 i (by omega)).2)).trans (absL_n cd11))) _ _ hP hD hS ls (lv_sub hl [5, 6, 1, 0] rfl)
        · have hm1 : f (23 + 2 * i) = -1 := cd7
          refine lv_aload_n (pc := 57) hx hb dX6_errorOf_57 rfl (lv_at hl 2 rfl) ?_
          refine lv_iload (pc := 58) hx hb dX6_errorOf_58 (lv_at hl 0 rfl) ?_
          refine lv_iload_n (pc := 60) hx hb dX6_errorOf_60 rfl (lv_at hl 3 rfl) ?_
          have hFc := awF (Lc := [mn]) hD hS hA [1] rfl
          refine kI (pc := 61) (va_runV (As := [.int (f (24 + 2 * i)), .int nz]) (rest := []) ⟨hx, hb, hml, hown, hts⟩ (m6_predicts l mo ms mp me mn np iv1 lg1 fg1 hv f u (f (24 + 2 * i)) nz H (hP.sub (ws' := [(mn, .inl (g 1, 5, .inr (.inl (e64 u))))]) [1] rfl) (hP.sub (ws' := [(mo, .inr (6, [.ref ms, .ref mp, .int (nI np), .ref me, .ref mn, .long iv1, .long lg1, .long fg1, .long hv]))]) [0] rfl) (ninW hD 0 [1] rfl rfl (by decide)) (ro_at hS hms ahms) (ninL ahms (fun q h => hFc q (Or.inl h)))) (cwV 2 hts (lw_V q646 q648 qs11 q28 q649) rfl rfl rfl (by decide +kernel) ⟨Nat.le_of_ble_eq_true rfl, Nat.le_of_ble_eq_true rfl⟩) (preV hK (rcv hK hP 0 rfl rfl)) rfl rfl hl.1 rfl (lv_room (Nat.le_of_ble_eq_true rfl)) dX6_errorOf_61 ⟨Nat.le_of_ble_eq_true rfl, Nat.le_of_ble_eq_true rfl⟩) hS hFc (fun r16 H locs hp9 hz1 hk1 hS => ?_)
          rcases hp9 with ⟨hok, hr9, hP1⟩ | ⟨hnok, hr9, hP1⟩
          · subst hr9
            obtain ⟨hP, hD⟩ := jn (wr := [(mo, .inr (6, [.ref ms, .ref mp, .int (nI np), .ref me, .ref mn, .long iv1, .long lg1, .long fg1, .long hv]))]) (w1 := [(mn, .inl (g 1, 5, .inr (.inl (e64 (pE u (f (24 + 2 * i)) (f 5) nz)))))]) hP hD [1] [0] rfl rfl (by decide) (by decide) hk1 hFc hP1 (d1 (Or.inl (by simp)))
            have hP : va_P D vwCl [(mo, .inr (6, [.ref ms, .ref mp, .int (nI np), .ref me, .ref mn, .long iv1, .long lg1, .long fg1, .long hv])), (mn, .inl (g 1, 5, .inr (.inl (e64 (pE u (f (24 + 2 * i)) (f 5) nz)))))] H := hP
            have hD : va_D (Aw [mo, mn] s.heap.size) [(mo, .inr (6, [.ref ms, .ref mp, .int (nI np), .ref me, .ref mn, .long iv1, .long lg1, .long fg1, .long hv])), (mn, .inl (g 1, 5, .inr (.inl (e64 (pE u (f (24 + 2 * i)) (f 5) nz)))))] := hD
            refine lv_if_ne (pc := 64) (tgt := 116) hx hb dX6_errorOf_64 (by decide) (fun cd17 => ?_) (fun cd17 => absurd cd17 (by decide))
            obtain ⟨x18, ex18⟩ : ∃ y : Int32, y = (nI i) + 1 := ⟨_, rfl⟩
            refine lv_iinc (pc := 116) (v := x18) (lv' := [(4, .int x18), (6, .int (f (24 + 2 * i))), (5, .int (f (23 + 2 * i))), (0, .ref mo), (1, .int nz), (2, .long sm)]) hx hb dX6_errorOf_116 hl (k := 5) rfl (by rw [ex18]; rfl) (by decide) rfl (fun ls hl => ?_)
            refine lv_goto (pc := 119) (tgt := 9) hx hb dX6_errorOf_119 (by decide) ?_
            rw [show x18 = nI (i + 1) from (ex18.trans (nadd rfl (nl 1)))] at hl
            exact ih  (i + 1) (pE u (f (24 + 2 * i)) (f 5) nz) sm iv1 lg1 fg1 (by omega) (by omega) (pE_ok hEu hnz hok) (rp_pred hm1 hok hrp) _ _ hP hD hS ls (lv_sub hl [3, 4, 5, 0] rfl)
          · subst hr9
            obtain ⟨hP, hD⟩ := jn (wr := [(mo, .inr (6, [.ref ms, .ref mp, .int (nI np), .ref me, .ref mn, .long iv1, .long lg1, .long fg1, .long hv]))]) (w1 := [(mn, .inl (g 1, 5, .inr (.inl (e64 u))))]) hP hD [1] [0] rfl rfl (by decide) (by decide) hk1 hFc hP1 (d1 (Or.inl (by simp)))
            have hP : va_P D vwCl [(mo, .inr (6, [.ref ms, .ref mp, .int (nI np), .ref me, .ref mn, .long iv1, .long lg1, .long fg1, .long hv])), (mn, .inl (g 1, 5, .inr (.inl (e64 u))))] H := hP
            have hD : va_D (Aw [mo, mn] s.heap.size) [(mo, .inr (6, [.ref ms, .ref mp, .int (nI np), .ref me, .ref mn, .long iv1, .long lg1, .long fg1, .long hv])), (mn, .inl (g 1, 5, .inr (.inl (e64 u))))] := hD
            refine lv_if_ne (pc := 64) (tgt := 116) hx hb dX6_errorOf_64 (by decide) (fun cd19 => absurd cd19 (by decide)) (fun cd19 => ?_)
            refine lv_ldc2 (pc := 67) (v := (-1)) hx hb hown (hts _ q777) dX6_errorOf_67 ?_
            have hq9 : (fun r H1 => (rpE f nz k = none ∧ r = -1 ∧ ∃ (iv2 lg2 fg2 : Int64) (nw2 : Nat → Int64), va_P D vwCl [(mo, .inr (6, [.ref ms, .ref mp, .int (nI np), .ref me, .ref mn, .long iv2, .long lg2, .long fg2, .long hv])), (mn, .inl (g 1, 5, .inr (.inl nw2)))] H1) ∨ (rpE f nz k = some r ∧ ∃ (iv2 lg2 fg2 : Int64) (nw2 : Nat → Int64), va_P D vwCl [(mo, .inr (6, [.ref ms, .ref mp, .int (nI np), .ref me, .ref mn, .long iv2, .long lg2, .long fg2, .long hv])), (mn, .inl (g 1, 5, .inr (.inl nw2)))] H1) : Int64 → Heap → Prop) (-1) H := Or.inl ⟨rpE_x (rp_predX hm1 hnok hrp) (by omega), rfl, _, _, _, _, hP.sub [0, 1] rfl⟩
            exact W.lret (v := (-1)) hx hb hr (fun t ht hW => ⟨⟨_, rfl, by rw [ht]; exact hq9⟩, hS.F ht⟩) hS.2.2 dX6_errorOf_70
  exact loop (k + 1) 0 (eR f) 0 iv lg fg (Nat.zero_le _) (by omega) hro.1 rfl _ _ hP hD hS ls (lv_sub hl [2, 3, 1, 0] rfl)

abbrev rm_m6_replayError : Room := ({ frames := 4, cells := 0, slots := 0, locals := 118 })
set_option maxHeartbeats 4000000 in
set_option maxRecDepth 100000 in
theorem m6_replayError (l : Launch) {D : va_G} {g : Nat → ClassId} (mo ms mp me mn np : Nat) (iv lg fg hv : Int64) (ef f pa : Nat → Int32) (nw : Nat → Int64) (nz : Int32) (H : Heap) (hP : va_P D vwCl [(mo, .inr (6, [.ref ms, .ref mp, .int (nI np), .ref me, .ref mn, .long iv, .long lg, .long fg, .long hv])), (ms, .inl (g 0, 71, .inl f)), (mp, .inl (g 0, 284, .inl pa)), (me, .inl (g 0, 3, .inl ef)), (mn, .inl (g 1, 5, .inr (.inl nw)))] H) (hN : [mo, ms, mp, me, mn].Nodup) (hnp : np ≤ 4) (hro : RowOK f) : Met l yX6_replayError (ws_ yX6_replayError cX6_replayError 4 (some .int)) rm_m6_replayError (va_Pc [.ref mo, .int nz] (PH D g H)) (QI (fun r H1 => (inR 0 4096000 nz ∧ hasR f (ln f) ∧ ¬ opI (rpE f nz (ln f)) = -2000000004 ∧ r = opI (rpE f nz (ln f)) ∧ MDI D g H1 mo ms mp me mn np ef f pa) ∨ (inR 0 4096000 nz ∧ hasR f (ln f) ∧ opI (rpE f nz (ln f)) = -2000000004 ∧ r = -2000000004 ∧ MDI D g H1 mo ms mp me mn np (upd ef 2 (ef 2 + 1)) f pa) ∨ (inR 0 4096000 nz ∧ ¬ hasR f (ln f) ∧ r = -2000000003 ∧ MDI D g H1 mo ms mp me mn np (upd ef 1 (ef 1 + 1)) f pa) ∨ (¬ (inR 0 4096000 nz) ∧ r = -2000000002 ∧ MDI D g H1 mo ms mp me mn np (upd ef 0 (ef 0 + 1)) f pa)) (Aw [mo, ms, mp, me, mn] H.size)) 0 0 (Aw [mo, ms, mp, me, mn] H.size) := by
  refine Met.ofW (cc := cX6_replayError) (maxL := 4) (ret := (some .int)) (by decide) rfl ?_
  intro p e s m args below meth c s₁ B hml hv
  obtain ⟨rfl, hH, hK⟩ := hv
  subst hH
  have hx := B.exec
  have hb := B.bytes
  have hr := B.returns
  have hts := atoms_spec (ws := ws_ yX6_replayError cX6_replayError 4 (some .int)) B.pre
  have hts : ∀ w ∈ lw_all, w.before _ s = true := fun w h => hts w (List.mem_cons_of_mem _ h)
  have hown : s.vm.findClass RX6 = some m.cls := findClass_of_methodNamed B.named
  have hlocks := B.notSynchronized
  have hA : ∀ q, s.heap.size ≤ q → (Aw [mo, ms, mp, me, mn] s.heap.size) q := fun q h => Or.inr h
  have hS : va_S (Aw [mo, ms, mp, me, mn] s.heap.size) s.heap s.heap [] := va_S.rf
  have hD : va_D (Aw [mo, ms, mp, me, mn] s.heap.size) [(mo, .inr (6, [.ref ms, .ref mp, .int (nI np), .ref me, .ref mn, .long iv, .long lg, .long fg, .long hv])), (ms, .inl (g 0, 71, .inl f)), (mp, .inl (g 0, 284, .inl pa)), (me, .inl (g 0, 3, .inl ef)), (mn, .inl (g 1, 5, .inr (.inl nw)))] := dOf hN (fun q h => Or.inl h)
  have hl := lv_entry ([.ref mo, .int nz]) (n := 4) (Nat.le_of_ble_eq_true rfl)
  rw [lg_entry_eq]
  generalize (lg_sl ([.ref mo, .int nz]) ++ List.replicate (4 - (lg_sl ([.ref mo, .int nz])).length) Slot.unset).toArray = ls at hl ⊢
  have hl : lv_has ls 4 [(0, .ref mo), (1, .int nz)] := hl
  obtain ⟨k, hk, hkf, hev9⟩ := hro.2.2.2.2.2
  have hln := ln_of hkf hk
  refine lv_iload_n (pc := 0) hx hb dX6_replayError_0 rfl (lv_at hl 1 rfl) ?_
  refine lv_iconst (pc := 1) (v := 0) hx hb dX6_replayError_1 (by decide) ?_
  refine lv_ldc (pc := 2) (v := 4096000) hx hb hown (hts _ q613) dX6_replayError_2 ?_
  refine kIp (pc := 4) (va_runS (As := [.int nz, .int 0, .int 4096000]) (rest := []) ⟨hx, hb, hml, hown, hts⟩ (m6_in l nz 0 4096000 s.heap) (va_cwS 3 hts (lw_S q609 q610 q28 q611) rfl rfl rfl (by decide +kernel) ⟨Nat.le_of_ble_eq_true rfl, Nat.le_of_ble_eq_true rfl⟩) (preS hK) rfl rfl hl.1 rfl (lv_room (Nat.le_of_ble_eq_true rfl)) dX6_replayError_4 ⟨Nat.le_of_ble_eq_true rfl, Nat.le_of_ble_eq_true rfl⟩) (fun r1 hr1 => ?_)
  refine lv_if_ne (pc := 7) (tgt := 17) hx hb dX6_replayError_7 (by decide) (fun cd2 => ?_) (fun cd2 => ?_)
  · have hck7 : inR (0) (4096000) nz := bI_ne (fun e => cd2 (hr1.trans e))
    refine lv_aload_n (pc := 17) hx hb dX6_replayError_17 rfl (lv_at hl 0 rfl) ?_
    refine kIp (pc := 18) (va_runV (As := []) (rest := []) ⟨hx, hb, hml, hown, hts⟩ (m6_hasReading l mo ms mp me mn np iv lg fg hv k f s.heap (hP.sub (ws' := [(mo, .inr (6, [.ref ms, .ref mp, .int (nI np), .ref me, .ref mn, .long iv, .long lg, .long fg, .long hv]))]) [0] rfl) (hP.sub (ws' := [(ms, .inl (g 0, 71, .inl f))]) [1] rfl) hk hkf) (cwV 0 hts (lw_V q768 q770 qs17 q28 q771) rfl rfl rfl (by decide +kernel) ⟨Nat.le_of_ble_eq_true rfl, Nat.le_of_ble_eq_true rfl⟩) (preV hK (rcv hK hP 0 rfl rfl)) rfl rfl hl.1 rfl (lv_room (Nat.le_of_ble_eq_true rfl)) dX6_replayError_18 ⟨Nat.le_of_ble_eq_true rfl, Nat.le_of_ble_eq_true rfl⟩) (fun r3 hr3 => ?_)
    refine lv_if_ne (pc := 21) (tgt := 31) hx hb dX6_replayError_21 (by decide) (fun cd4 => ?_) (fun cd4 => ?_)
    · have hhs : hasR f (ln f) := by rw [hln]; exact bI_ne (fun e => cd4 (hr3.trans e))
      refine lv_aload_n (pc := 31) hx hb dX6_replayError_31 rfl (lv_at hl 0 rfl) ?_
      refine lv_iload_n (pc := 32) hx hb dX6_replayError_32 rfl (lv_at hl 1 rfl) ?_
      have hFc := awF (Lc := [mo, mn]) hD hS hA [0, 4] rfl
      refine kL (pc := 33) (va_runV (As := [.int nz]) (rest := []) ⟨hx, hb, hml, hown, hts⟩ (m6_errorOf l mo ms mp me mn np iv lg fg hv k f nw nz s.heap (hP.sub (ws' := [(mo, .inr (6, [.ref ms, .ref mp, .int (nI np), .ref me, .ref mn, .long iv, .long lg, .long fg, .long hv])), (mn, .inl (g 1, 5, .inr (.inl nw)))]) [0, 4] rfl) (nodupW hD [0, 4] rfl (by decide)) (hP.sub (ws' := [(ms, .inl (g 0, 71, .inl f))]) [1] rfl) (ninW hD 1 [0, 4] rfl rfl (by decide)) hk hkf hro ⟨v_le.mp hck7.1, v_le.mp hck7.2⟩) (cwV 1 hts (lw_V q773 q775 qs18 q28 q776) rfl rfl rfl (by decide +kernel) ⟨Nat.le_of_ble_eq_true rfl, Nat.le_of_ble_eq_true rfl⟩) (preV hK (rcv hK hP 0 rfl rfl)) rfl rfl hl.1 rfl (lv_room (Nat.le_of_ble_eq_true rfl)) dX6_replayError_33 ⟨Nat.le_of_ble_eq_true rfl, Nat.le_of_ble_eq_true rfl⟩) hS hFc (fun r5 H locs hp9 hz1 hk1 hS => ?_)
      rcases hp9 with ⟨hen, hr9, iv2, lg2, fg2, nw2, hP1⟩ | ⟨hes, iv2, lg2, fg2, nw2, hP1⟩
      · subst hr9
        obtain ⟨hP, hD⟩ := jn (wr := [(ms, .inl (g 0, 71, .inl f)), (mp, .inl (g 0, 284, .inl pa)), (me, .inl (g 0, 3, .inl ef))]) (w1 := [(mo, .inr (6, [.ref ms, .ref mp, .int (nI np), .ref me, .ref mn, .long iv2, .long lg2, .long fg2, .long hv])), (mn, .inl (g 1, 5, .inr (.inl nw2)))]) hP hD [0, 4] [1, 2, 3] rfl rfl (by decide) (by decide) hk1 hFc hP1 (dOf (nodupW hD [0, 4] rfl (by decide)) (fun q h => Or.inl h))
        have hP : va_P D vwCl [(ms, .inl (g 0, 71, .inl f)), (mp, .inl (g 0, 284, .inl pa)), (me, .inl (g 0, 3, .inl ef)), (mo, .inr (6, [.ref ms, .ref mp, .int (nI np), .ref me, .ref mn, .long iv2, .long lg2, .long fg2, .long hv])), (mn, .inl (g 1, 5, .inr (.inl nw2)))] H := hP
        have hD : va_D (Aw [mo, ms, mp, me, mn] s.heap.size) [(ms, .inl (g 0, 71, .inl f)), (mp, .inl (g 0, 284, .inl pa)), (me, .inl (g 0, 3, .inl ef)), (mo, .inr (6, [.ref ms, .ref mp, .int (nI np), .ref me, .ref mn, .long iv2, .long lg2, .long fg2, .long hv])), (mn, .inl (g 1, 5, .inr (.inl nw2)))] := hD
        refine lv_lstore_n (pc := 36) (lv' := [(2, .long (-1)), (0, .ref mo), (1, .int nz)]) hx hb dX6_replayError_36 rfl hl (by decide) rfl (fun ls hl => ?_)
        refine lv_lload_n (pc := 37) hx hb dX6_replayError_37 rfl (lv_at hl 0 rfl) ?_
        refine lv_lconst (pc := 38) (v := 0) hx hb dX6_replayError_38 rfl ?_
        refine lq_ge (pc := 39) (tgt := 52) hx hb dX6_replayError_39 dX6_replayError_40 (by decide) (fun cd6 => absurd cd6 (by decide)) (fun cd6 => ?_)
        refine lv_aload_n (pc := 43) hx hb dX6_replayError_43 rfl (lv_at hl 1 rfl) ?_
        refine lv_ldc (pc := 44) (v := (-2000000004)) hx hb hown (hts _ q656) dX6_replayError_44 ?_
        have hFc := awF (Lc := [me]) hD hS hA [2] rfl
        refine kI (pc := 46) (va_runV (As := [.int (-2000000004)]) (rest := []) ⟨hx, hb, hml, hown, hts⟩ (m6_fail l mo ms mp me mn np iv2 lg2 fg2 hv 2 ef (-2000000004) H (hP.sub (ws' := [(me, .inl (g 0, 3, .inl ef))]) [2] rfl) (hP.sub (ws' := [(mo, .inr (6, [.ref ms, .ref mp, .int (nI np), .ref me, .ref mn, .long iv2, .long lg2, .long fg2, .long hv]))]) [3] rfl) (ninW hD 3 [2] rfl rfl (by decide)) (by decide) (by decide)) (cwV 1 hts (lw_V q615 q617 qs8 q28 q618) rfl rfl rfl (by decide +kernel) ⟨Nat.le_of_ble_eq_true rfl, Nat.le_of_ble_eq_true rfl⟩) (preV hK (rcv hK hP 3 rfl rfl)) rfl rfl hl.1 rfl (lv_room (Nat.le_of_ble_eq_true rfl)) dX6_replayError_46 ⟨Nat.le_of_ble_eq_true rfl, Nat.le_of_ble_eq_true rfl⟩) hS hFc (fun r7 H locs hp9 hz1 hk1 hS => ?_)
        obtain ⟨hrc, hP1⟩ := hp9
        obtain ⟨hP, hD⟩ := jn (wr := [(ms, .inl (g 0, 71, .inl f)), (mp, .inl (g 0, 284, .inl pa)), (mo, .inr (6, [.ref ms, .ref mp, .int (nI np), .ref me, .ref mn, .long iv2, .long lg2, .long fg2, .long hv])), (mn, .inl (g 1, 5, .inr (.inl nw2)))]) (w1 := [(me, .inl (g 0, 3, .inl (upd ef 2 (ef 2 + 1))))]) hP hD [2] [0, 1, 3, 4] rfl rfl (by decide) (by decide) hk1 hFc hP1 (d1 (Or.inl (by simp)))
        have hP : va_P D vwCl [(ms, .inl (g 0, 71, .inl f)), (mp, .inl (g 0, 284, .inl pa)), (mo, .inr (6, [.ref ms, .ref mp, .int (nI np), .ref me, .ref mn, .long iv2, .long lg2, .long fg2, .long hv])), (mn, .inl (g 1, 5, .inr (.inl nw2))), (me, .inl (g 0, 3, .inl (upd ef 2 (ef 2 + 1))))] H := hP
        have hD : va_D (Aw [mo, ms, mp, me, mn] s.heap.size) [(ms, .inl (g 0, 71, .inl f)), (mp, .inl (g 0, 284, .inl pa)), (mo, .inr (6, [.ref ms, .ref mp, .int (nI np), .ref me, .ref mn, .long iv2, .long lg2, .long fg2, .long hv])), (mn, .inl (g 1, 5, .inr (.inl nw2))), (me, .inl (g 0, 3, .inl (upd ef 2 (ef 2 + 1))))] := hD
        refine lv_goto (pc := 49) (tgt := 54) hx hb dX6_replayError_49 (by decide) ?_
        have hq9 : (fun r H1 => (inR 0 4096000 nz ∧ hasR f (ln f) ∧ ¬ opI (rpE f nz (ln f)) = -2000000004 ∧ r = opI (rpE f nz (ln f)) ∧ MDI D g H1 mo ms mp me mn np ef f pa) ∨ (inR 0 4096000 nz ∧ hasR f (ln f) ∧ opI (rpE f nz (ln f)) = -2000000004 ∧ r = -2000000004 ∧ MDI D g H1 mo ms mp me mn np (upd ef 2 (ef 2 + 1)) f pa) ∨ (inR 0 4096000 nz ∧ ¬ hasR f (ln f) ∧ r = -2000000003 ∧ MDI D g H1 mo ms mp me mn np (upd ef 1 (ef 1 + 1)) f pa) ∨ (¬ (inR 0 4096000 nz) ∧ r = -2000000002 ∧ MDI D g H1 mo ms mp me mn np (upd ef 0 (ef 0 + 1)) f pa) : Int32 → Heap → Prop) r7 H := Or.inr (Or.inl ⟨hck7, hhs, by rw [hln, hen]; rfl, hrc, ⟨_, _, _, _, _, hP.sub [2, 0, 1, 4, 3] rfl⟩⟩)
        exact W.iret (v := r7) hx hb hr (fun t ht hW => ⟨⟨_, rfl, by rw [ht]; exact hq9⟩, hS.F ht⟩) hS.2.2 dX6_replayError_54
      · obtain ⟨hP, hD⟩ := jn (wr := [(ms, .inl (g 0, 71, .inl f)), (mp, .inl (g 0, 284, .inl pa)), (me, .inl (g 0, 3, .inl ef))]) (w1 := [(mo, .inr (6, [.ref ms, .ref mp, .int (nI np), .ref me, .ref mn, .long iv2, .long lg2, .long fg2, .long hv])), (mn, .inl (g 1, 5, .inr (.inl nw2)))]) hP hD [0, 4] [1, 2, 3] rfl rfl (by decide) (by decide) hk1 hFc hP1 (dOf (nodupW hD [0, 4] rfl (by decide)) (fun q h => Or.inl h))
        have hP : va_P D vwCl [(ms, .inl (g 0, 71, .inl f)), (mp, .inl (g 0, 284, .inl pa)), (me, .inl (g 0, 3, .inl ef)), (mo, .inr (6, [.ref ms, .ref mp, .int (nI np), .ref me, .ref mn, .long iv2, .long lg2, .long fg2, .long hv])), (mn, .inl (g 1, 5, .inr (.inl nw2)))] H := hP
        have hD : va_D (Aw [mo, ms, mp, me, mn] s.heap.size) [(ms, .inl (g 0, 71, .inl f)), (mp, .inl (g 0, 284, .inl pa)), (me, .inl (g 0, 3, .inl ef)), (mo, .inr (6, [.ref ms, .ref mp, .int (nI np), .ref me, .ref mn, .long iv2, .long lg2, .long fg2, .long hv])), (mn, .inl (g 1, 5, .inr (.inl nw2)))] := hD
        refine lv_lstore_n (pc := 36) (lv' := [(2, .long r5), (0, .ref mo), (1, .int nz)]) hx hb dX6_replayError_36 rfl hl (by decide) rfl (fun ls hl => ?_)
        refine lv_lload_n (pc := 37) hx hb dX6_replayError_37 rfl (lv_at hl 0 rfl) ?_
        refine lv_lconst (pc := 38) (v := 0) hx hb dX6_replayError_38 rfl ?_
        refine lq_ge (pc := 39) (tgt := 52) hx hb dX6_replayError_39 dX6_replayError_40 (by decide) (fun cd8 => ?_) (fun cd8 => absurd cd8 (fun h => h (rpE_nn hk hes)))
        refine lv_lload_n (pc := 52) hx hb dX6_replayError_52 rfl (lv_at hl 0 rfl) ?_
        refine lv_l2i (pc := 53) hx hb dX6_replayError_53 rfl ?_
        have hq9 : (fun r H1 => (inR 0 4096000 nz ∧ hasR f (ln f) ∧ ¬ opI (rpE f nz (ln f)) = -2000000004 ∧ r = opI (rpE f nz (ln f)) ∧ MDI D g H1 mo ms mp me mn np ef f pa) ∨ (inR 0 4096000 nz ∧ hasR f (ln f) ∧ opI (rpE f nz (ln f)) = -2000000004 ∧ r = -2000000004 ∧ MDI D g H1 mo ms mp me mn np (upd ef 2 (ef 2 + 1)) f pa) ∨ (inR 0 4096000 nz ∧ ¬ hasR f (ln f) ∧ r = -2000000003 ∧ MDI D g H1 mo ms mp me mn np (upd ef 1 (ef 1 + 1)) f pa) ∨ (¬ (inR 0 4096000 nz) ∧ r = -2000000002 ∧ MDI D g H1 mo ms mp me mn np (upd ef 0 (ef 0 + 1)) f pa) : Int32 → Heap → Prop) (Int64.toInt32 r5) H := Or.inl ⟨hck7, hhs, by rw [hln, hes]; exact lim_ne (rpE_lim hes), by rw [hln, hes]; rfl, ⟨_, _, _, _, _, hP.sub [3, 0, 1, 2, 4] rfl⟩⟩
        exact W.iret (v := Int64.toInt32 r5) hx hb hr (fun t ht hW => ⟨⟨_, rfl, by rw [ht]; exact hq9⟩, hS.F ht⟩) hS.2.2 dX6_replayError_54
    · have hnh : ¬ hasR f (ln f) := by rw [hln]; exact bI_eq (hr3.symm.trans cd4)
      refine lv_aload_n (pc := 24) hx hb dX6_replayError_24 rfl (lv_at hl 0 rfl) ?_
      refine lv_ldc (pc := 25) (v := (-2000000003)) hx hb hown (hts _ q772) dX6_replayError_25 ?_
      have hFc := awF (Lc := [me]) hD hS hA [3] rfl
      refine kI (pc := 27) (va_runV (As := [.int (-2000000003)]) (rest := []) ⟨hx, hb, hml, hown, hts⟩ (m6_fail l mo ms mp me mn np iv lg fg hv 1 ef (-2000000003) s.heap (hP.sub (ws' := [(me, .inl (g 0, 3, .inl ef))]) [3] rfl) (hP.sub (ws' := [(mo, .inr (6, [.ref ms, .ref mp, .int (nI np), .ref me, .ref mn, .long iv, .long lg, .long fg, .long hv]))]) [0] rfl) (ninW hD 0 [3] rfl rfl (by decide)) (by decide) (by decide)) (cwV 1 hts (lw_V q615 q617 qs8 q28 q618) rfl rfl rfl (by decide +kernel) ⟨Nat.le_of_ble_eq_true rfl, Nat.le_of_ble_eq_true rfl⟩) (preV hK (rcv hK hP 0 rfl rfl)) rfl rfl hl.1 rfl (lv_room (Nat.le_of_ble_eq_true rfl)) dX6_replayError_27 ⟨Nat.le_of_ble_eq_true rfl, Nat.le_of_ble_eq_true rfl⟩) hS hFc (fun r9 H locs hp9 hz1 hk1 hS => ?_)
      obtain ⟨hrc, hP1⟩ := hp9
      obtain ⟨hP, hD⟩ := jn (wr := [(mo, .inr (6, [.ref ms, .ref mp, .int (nI np), .ref me, .ref mn, .long iv, .long lg, .long fg, .long hv])), (ms, .inl (g 0, 71, .inl f)), (mp, .inl (g 0, 284, .inl pa)), (mn, .inl (g 1, 5, .inr (.inl nw)))]) (w1 := [(me, .inl (g 0, 3, .inl (upd ef 1 (ef 1 + 1))))]) hP hD [3] [0, 1, 2, 4] rfl rfl (by decide) (by decide) hk1 hFc hP1 (d1 (Or.inl (by simp)))
      have hP : va_P D vwCl [(mo, .inr (6, [.ref ms, .ref mp, .int (nI np), .ref me, .ref mn, .long iv, .long lg, .long fg, .long hv])), (ms, .inl (g 0, 71, .inl f)), (mp, .inl (g 0, 284, .inl pa)), (mn, .inl (g 1, 5, .inr (.inl nw))), (me, .inl (g 0, 3, .inl (upd ef 1 (ef 1 + 1))))] H := hP
      have hD : va_D (Aw [mo, ms, mp, me, mn] s.heap.size) [(mo, .inr (6, [.ref ms, .ref mp, .int (nI np), .ref me, .ref mn, .long iv, .long lg, .long fg, .long hv])), (ms, .inl (g 0, 71, .inl f)), (mp, .inl (g 0, 284, .inl pa)), (mn, .inl (g 1, 5, .inr (.inl nw))), (me, .inl (g 0, 3, .inl (upd ef 1 (ef 1 + 1))))] := hD
      have hq9 : (fun r H1 => (inR 0 4096000 nz ∧ hasR f (ln f) ∧ ¬ opI (rpE f nz (ln f)) = -2000000004 ∧ r = opI (rpE f nz (ln f)) ∧ MDI D g H1 mo ms mp me mn np ef f pa) ∨ (inR 0 4096000 nz ∧ hasR f (ln f) ∧ opI (rpE f nz (ln f)) = -2000000004 ∧ r = -2000000004 ∧ MDI D g H1 mo ms mp me mn np (upd ef 2 (ef 2 + 1)) f pa) ∨ (inR 0 4096000 nz ∧ ¬ hasR f (ln f) ∧ r = -2000000003 ∧ MDI D g H1 mo ms mp me mn np (upd ef 1 (ef 1 + 1)) f pa) ∨ (¬ (inR 0 4096000 nz) ∧ r = -2000000002 ∧ MDI D g H1 mo ms mp me mn np (upd ef 0 (ef 0 + 1)) f pa) : Int32 → Heap → Prop) r9 H := Or.inr (Or.inr (Or.inl ⟨hck7, hnh, hrc, ⟨_, _, _, _, _, hP.sub [0, 1, 2, 4, 3] rfl⟩⟩))
      exact W.iret (v := r9) hx hb hr (fun t ht hW => ⟨⟨_, rfl, by rw [ht]; exact hq9⟩, hS.F ht⟩) hS.2.2 dX6_replayError_30
  · have hnk : ¬ (inR 0 4096000 nz) := fun h => (bI_eq (hr1.symm.trans cd2)) h
    refine lv_aload_n (pc := 10) hx hb dX6_replayError_10 rfl (lv_at hl 0 rfl) ?_
    refine lv_ldc (pc := 11) (v := (-2000000002)) hx hb hown (hts _ q614) dX6_replayError_11 ?_
    have hFc := awF (Lc := [me]) hD hS hA [3] rfl
    refine kI (pc := 13) (va_runV (As := [.int (-2000000002)]) (rest := []) ⟨hx, hb, hml, hown, hts⟩ (m6_fail l mo ms mp me mn np iv lg fg hv 0 ef (-2000000002) s.heap (hP.sub (ws' := [(me, .inl (g 0, 3, .inl ef))]) [3] rfl) (hP.sub (ws' := [(mo, .inr (6, [.ref ms, .ref mp, .int (nI np), .ref me, .ref mn, .long iv, .long lg, .long fg, .long hv]))]) [0] rfl) (ninW hD 0 [3] rfl rfl (by decide)) (by decide) (by decide)) (cwV 1 hts (lw_V q615 q617 qs8 q28 q618) rfl rfl rfl (by decide +kernel) ⟨Nat.le_of_ble_eq_true rfl, Nat.le_of_ble_eq_true rfl⟩) (preV hK (rcv hK hP 0 rfl rfl)) rfl rfl hl.1 rfl (lv_room (Nat.le_of_ble_eq_true rfl)) dX6_replayError_13 ⟨Nat.le_of_ble_eq_true rfl, Nat.le_of_ble_eq_true rfl⟩) hS hFc (fun r10 H locs hp9 hz1 hk1 hS => ?_)
    obtain ⟨hrc, hP1⟩ := hp9
    obtain ⟨hP, hD⟩ := jn (wr := [(mo, .inr (6, [.ref ms, .ref mp, .int (nI np), .ref me, .ref mn, .long iv, .long lg, .long fg, .long hv])), (ms, .inl (g 0, 71, .inl f)), (mp, .inl (g 0, 284, .inl pa)), (mn, .inl (g 1, 5, .inr (.inl nw)))]) (w1 := [(me, .inl (g 0, 3, .inl (upd ef 0 (ef 0 + 1))))]) hP hD [3] [0, 1, 2, 4] rfl rfl (by decide) (by decide) hk1 hFc hP1 (d1 (Or.inl (by simp)))
    have hP : va_P D vwCl [(mo, .inr (6, [.ref ms, .ref mp, .int (nI np), .ref me, .ref mn, .long iv, .long lg, .long fg, .long hv])), (ms, .inl (g 0, 71, .inl f)), (mp, .inl (g 0, 284, .inl pa)), (mn, .inl (g 1, 5, .inr (.inl nw))), (me, .inl (g 0, 3, .inl (upd ef 0 (ef 0 + 1))))] H := hP
    have hD : va_D (Aw [mo, ms, mp, me, mn] s.heap.size) [(mo, .inr (6, [.ref ms, .ref mp, .int (nI np), .ref me, .ref mn, .long iv, .long lg, .long fg, .long hv])), (ms, .inl (g 0, 71, .inl f)), (mp, .inl (g 0, 284, .inl pa)), (mn, .inl (g 1, 5, .inr (.inl nw))), (me, .inl (g 0, 3, .inl (upd ef 0 (ef 0 + 1))))] := hD
    have hq9 : (fun r H1 => (inR 0 4096000 nz ∧ hasR f (ln f) ∧ ¬ opI (rpE f nz (ln f)) = -2000000004 ∧ r = opI (rpE f nz (ln f)) ∧ MDI D g H1 mo ms mp me mn np ef f pa) ∨ (inR 0 4096000 nz ∧ hasR f (ln f) ∧ opI (rpE f nz (ln f)) = -2000000004 ∧ r = -2000000004 ∧ MDI D g H1 mo ms mp me mn np (upd ef 2 (ef 2 + 1)) f pa) ∨ (inR 0 4096000 nz ∧ ¬ hasR f (ln f) ∧ r = -2000000003 ∧ MDI D g H1 mo ms mp me mn np (upd ef 1 (ef 1 + 1)) f pa) ∨ (¬ (inR 0 4096000 nz) ∧ r = -2000000002 ∧ MDI D g H1 mo ms mp me mn np (upd ef 0 (ef 0 + 1)) f pa) : Int32 → Heap → Prop) r10 H := Or.inr (Or.inr (Or.inr ⟨hnk, hrc, ⟨_, _, _, _, _, hP.sub [0, 1, 2, 4, 3] rfl⟩⟩))
    exact W.iret (v := r10) hx hb hr (fun t ht hW => ⟨⟨_, rfl, by rw [ht]; exact hq9⟩, hS.F ht⟩) hS.2.2 dX6_replayError_16

abbrev rm_m6_best : Room := ({ frames := 4, cells := 0, slots := 0, locals := 118 })
set_option maxHeartbeats 4000000 in
set_option maxRecDepth 100000 in
theorem m6_best (l : Launch) {D : va_G} {g : Nat → ClassId} (mo ms mp me mn np : Nat) (iv lg fg hv : Int64) (ef f pa : Nat → Int32) (nw : Nat → Int64)  (H : Heap) (hP : va_P D vwCl [(mo, .inr (6, [.ref ms, .ref mp, .int (nI np), .ref me, .ref mn, .long iv, .long lg, .long fg, .long hv])), (ms, .inl (g 0, 71, .inl f)), (mp, .inl (g 0, 284, .inl pa)), (me, .inl (g 0, 3, .inl ef)), (mn, .inl (g 1, 5, .inr (.inl nw)))] H) (hN : [mo, ms, mp, me, mn].Nodup) (hnp : np ≤ 4) (hro : RowOK f) : Met l yX6_bestFlowNoise (ws_ yX6_bestFlowNoise cX6_bestFlowNoise 8 (some .int)) rm_m6_best (va_Pc [.ref mo] (PH D g H)) (QI (fun r H1 => (hasR f (ln f) ∧ r = bfR f (ln f) ∧ MDI D g H1 mo ms mp me mn np ef f pa) ∨ (¬ hasR f (ln f) ∧ r = -2000000003 ∧ MDI D g H1 mo ms mp me mn np (upd ef 1 (ef 1 + 1)) f pa)) (Aw [mo, ms, mp, me, mn] H.size)) 0 0 (Aw [mo, ms, mp, me, mn] H.size) := by
  refine Met.ofW (cc := cX6_bestFlowNoise) (maxL := 8) (ret := (some .int)) (by decide) rfl ?_
  intro p e s m args below meth c s₁ B hml hv
  obtain ⟨rfl, hH, hK⟩ := hv
  subst hH
  have hx := B.exec
  have hb := B.bytes
  have hr := B.returns
  have hts := atoms_spec (ws := ws_ yX6_bestFlowNoise cX6_bestFlowNoise 8 (some .int)) B.pre
  have hts : ∀ w ∈ lw_all, w.before _ s = true := fun w h => hts w (List.mem_cons_of_mem _ h)
  have hown : s.vm.findClass RX6 = some m.cls := findClass_of_methodNamed B.named
  have hlocks := B.notSynchronized
  have hA : ∀ q, s.heap.size ≤ q → (Aw [mo, ms, mp, me, mn] s.heap.size) q := fun q h => Or.inr h
  have hS : va_S (Aw [mo, ms, mp, me, mn] s.heap.size) s.heap s.heap [] := va_S.rf
  have hD : va_D (Aw [mo, ms, mp, me, mn] s.heap.size) [(mo, .inr (6, [.ref ms, .ref mp, .int (nI np), .ref me, .ref mn, .long iv, .long lg, .long fg, .long hv])), (ms, .inl (g 0, 71, .inl f)), (mp, .inl (g 0, 284, .inl pa)), (me, .inl (g 0, 3, .inl ef)), (mn, .inl (g 1, 5, .inr (.inl nw)))] := dOf hN (fun q h => Or.inl h)
  have hl := lv_entry ([.ref mo]) (n := 8) (Nat.le_of_ble_eq_true rfl)
  rw [lg_entry_eq]
  generalize (lg_sl ([.ref mo]) ++ List.replicate (8 - (lg_sl ([.ref mo])).length) Slot.unset).toArray = ls at hl ⊢
  have hl : lv_has ls 8 [(0, .ref mo)] := hl
  obtain ⟨k, hk, hkf, hev9⟩ := hro.2.2.2.2.2
  have hln := ln_of hkf hk
  refine lv_aload_n (pc := 0) hx hb dX6_bestFlowNoise_0 rfl (lv_at hl 0 rfl) ?_
  refine kIp (pc := 1) (va_runV (As := []) (rest := []) ⟨hx, hb, hml, hown, hts⟩ (m6_hasReading l mo ms mp me mn np iv lg fg hv k f s.heap (hP.sub (ws' := [(mo, .inr (6, [.ref ms, .ref mp, .int (nI np), .ref me, .ref mn, .long iv, .long lg, .long fg, .long hv]))]) [0] rfl) (hP.sub (ws' := [(ms, .inl (g 0, 71, .inl f))]) [1] rfl) hk hkf) (cwV 0 hts (lw_V q768 q770 qs17 q28 q771) rfl rfl rfl (by decide +kernel) ⟨Nat.le_of_ble_eq_true rfl, Nat.le_of_ble_eq_true rfl⟩) (preV hK (rcv hK hP 0 rfl rfl)) rfl rfl hl.1 rfl (lv_room (Nat.le_of_ble_eq_true rfl)) dX6_bestFlowNoise_1 ⟨Nat.le_of_ble_eq_true rfl, Nat.le_of_ble_eq_true rfl⟩) (fun r1 hr1 => ?_)
  refine lv_if_ne (pc := 4) (tgt := 14) hx hb dX6_bestFlowNoise_4 (by decide) (fun cd2 => ?_) (fun cd2 => ?_)
  · have hhs : hasR f (ln f) := by rw [hln]; exact bI_ne (fun e => cd2 (hr1.trans e))
    refine lv_ldc (pc := 14) (v := (-2000000001)) hx hb hown (hts _ q573) dX6_bestFlowNoise_14 ?_
    refine lv_istore_n (pc := 16) (lv' := [(1, .int (-2000000001)), (0, .ref mo)]) hx hb dX6_bestFlowNoise_16 rfl hl (by decide) rfl (fun ls hl => ?_)
    refine lv_ldc2 (pc := 17) (v := 1000000001) hx hb hown (hts _ q782) dX6_bestFlowNoise_17 ?_
    refine lv_lstore_n (pc := 20) (lv' := [(2, .long 1000000001), (1, .int (-2000000001)), (0, .ref mo)]) hx hb dX6_bestFlowNoise_20 rfl hl (by decide) rfl (fun ls hl => ?_)
    refine lv_iconst (pc := 21) (v := 0) hx hb dX6_bestFlowNoise_21 (by decide) ?_
    refine lv_istore (pc := 22) (lv' := [(4, .int 0), (2, .long 1000000001), (1, .int (-2000000001)), (0, .ref mo)]) hx hb dX6_bestFlowNoise_22 hl (by decide) rfl (fun ls hl => ?_)
    refine lv_iconst (pc := 24) (v := 0) hx hb dX6_bestFlowNoise_24 (by decide) ?_
    refine lv_istore (pc := 25) (lv' := [(5, .int 0), (4, .int 0), (2, .long 1000000001), (1, .int (-2000000001)), (0, .ref mo)]) hx hb dX6_bestFlowNoise_25 hl (by decide) rfl (fun ls hl => ?_)
    have loop : ∀ (n : Nat) (i : Nat) (bs : Int32) (le : Int64) (cz : Int32) (iv1 lg1 fg1 : Int64) (nw1 : Nat → Int64), (i ≤ 12) → (13 ≤ i + n) → (cz = cnz i) → (bfL (bfF f k i) bs le) → ∀ (H : Heap) (locs : List Loc), va_P D vwCl [(mo, .inr (6, [.ref ms, .ref mp, .int (nI np), .ref me, .ref mn, .long iv1, .long lg1, .long fg1, .long hv])), (ms, .inl (g 0, 71, .inl f)), (mp, .inl (g 0, 284, .inl pa)), (me, .inl (g 0, 3, .inl ef)), (mn, .inl (g 1, 5, .inr (.inl nw1)))] H → va_D (Aw [mo, ms, mp, me, mn] s.heap.size) [(mo, .inr (6, [.ref ms, .ref mp, .int (nI np), .ref me, .ref mn, .long iv1, .long lg1, .long fg1, .long hv])), (ms, .inl (g 0, 71, .inl f)), (mp, .inl (g 0, 284, .inl pa)), (me, .inl (g 0, 3, .inl ef)), (mn, .inl (g 1, 5, .inr (.inl nw1)))] → va_S (Aw [mo, ms, mp, me, mn] s.heap.size) s.heap H locs → ∀ (ls : Array Slot), lv_has ls 8 [(0, .ref mo), (1, .int bs), (2, .long le), (4, .int cz), (5, .int (nI i))] → W p l e (headSpec (ws_ yX6_bestFlowNoise cX6_bestFlowNoise 8 (some .int)) rm_m6_best).room s m ([.ref mo] : List Value).toArray below meth c H locs 0 0 (MQ below (QI (fun r H1 => (hasR f (ln f) ∧ r = bfR f (ln f) ∧ MDI D g H1 mo ms mp me mn np ef f pa) ∨ (¬ hasR f (ln f) ∧ r = -2000000003 ∧ MDI D g H1 mo ms mp me mn np (upd ef 1 (ef 1 + 1)) f pa)) (Aw [mo, ms, mp, me, mn] s.heap.size)) ([.ref mo] : List Value).toArray s 0 0 (Aw [mo, ms, mp, me, mn] s.heap.size)) (F0 m 27 ls []) := by
      intro n
      induction n with
      | zero =>
        intro i bs le cz iv1 lg1 fg1 nw1 hi hfu hcz hbr
        exact absurd (show _ by assumption) (by omega)
      | succ n ih =>
        intro i bs le cz iv1 lg1 fg1 nw1 hi hfu hcz hbr H locs hP hD hS ls hl
        refine lv_iload (pc := 27) hx hb dX6_bestFlowNoise_27 (lv_at hl 4 rfl) ?_
        refine lv_bipush (pc := 29) (v := 12) hx hb dX6_bestFlowNoise_29 (by decide) ?_
        refine lv_icmp_ge (pc := 31) (tgt := 83) hx hb dX6_bestFlowNoise_31 (by decide) (fun cd3 => ?_) (fun cd3 => ?_)
        · have ncd3 : 12 ≤ i := (nle (nl 12) rfl (by omega) (by omega)).mp cd3
          refine lv_iload_n (pc := 83) hx hb dX6_bestFlowNoise_83 rfl (lv_at hl 1 rfl) ?_
          have hq9 : (fun r H1 => (hasR f (ln f) ∧ r = bfR f (ln f) ∧ MDI D g H1 mo ms mp me mn np ef f pa) ∨ (¬ hasR f (ln f) ∧ r = -2000000003 ∧ MDI D g H1 mo ms mp me mn np (upd ef 1 (ef 1 + 1)) f pa) : Int32 → Heap → Prop) bs H := Or.inl ⟨hhs, by rw [hln]; exact bl_end ((show i = 12 by omega) ▸ hbr), ⟨_, _, _, _, _, hP.sub [0, 1, 2, 3, 4] rfl⟩⟩
          exact W.iret (v := bs) hx hb hr (fun t ht hW => ⟨⟨_, rfl, by rw [ht]; exact hq9⟩, hS.F ht⟩) hS.2.2 dX6_bestFlowNoise_84
        · have ncd3 : ¬ 12 ≤ i := fun h => cd3 ((nle (nl 12) rfl (by omega) (by omega)).mpr h)
          refine lv_aload_n (pc := 34) hx hb dX6_bestFlowNoise_34 rfl (lv_at hl 0 rfl) ?_
          refine lv_iload (pc := 35) hx hb dX6_bestFlowNoise_35 (lv_at hl 3 rfl) ?_
          have hFc := awF (Lc := [mo, mn]) hD hS hA [0, 4] rfl
          refine kL (pc := 37) (va_runV (As := [.int cz]) (rest := []) ⟨hx, hb, hml, hown, hts⟩ (m6_errorOf l mo ms mp me mn np iv1 lg1 fg1 hv k f nw1 cz H (hP.sub (ws' := [(mo, .inr (6, [.ref ms, .ref mp, .int (nI np), .ref me, .ref mn, .long iv1, .long lg1, .long fg1, .long hv])), (mn, .inl (g 1, 5, .inr (.inl nw1)))]) [0, 4] rfl) (nodupW hD [0, 4] rfl (by decide)) (hP.sub (ws' := [(ms, .inl (g 0, 71, .inl f))]) [1] rfl) (ninW hD 1 [0, 4] rfl rfl (by decide)) hk hkf hro (by rw [hcz]; exact cnz_b i (by omega))) (cwV 1 hts (lw_V q773 q775 qs18 q28 q776) rfl rfl rfl (by decide +kernel) ⟨Nat.le_of_ble_eq_true rfl, Nat.le_of_ble_eq_true rfl⟩) (preV hK (rcv hK hP 0 rfl rfl)) rfl rfl hl.1 rfl (lv_room (Nat.le_of_ble_eq_true rfl)) dX6_bestFlowNoise_37 ⟨Nat.le_of_ble_eq_true rfl, Nat.le_of_ble_eq_true rfl⟩) hS hFc (fun r4 H locs hp9 hz1 hk1 hS => ?_)
          rcases hp9 with ⟨hen, hr9, iv2, lg2, fg2, nw2, hP1⟩ | ⟨hes, iv2, lg2, fg2, nw2, hP1⟩
          · subst hr9
            obtain ⟨hP, hD⟩ := jn (wr := [(ms, .inl (g 0, 71, .inl f)), (mp, .inl (g 0, 284, .inl pa)), (me, .inl (g 0, 3, .inl ef))]) (w1 := [(mo, .inr (6, [.ref ms, .ref mp, .int (nI np), .ref me, .ref mn, .long iv2, .long lg2, .long fg2, .long hv])), (mn, .inl (g 1, 5, .inr (.inl nw2)))]) hP hD [0, 4] [1, 2, 3] rfl rfl (by decide) (by decide) hk1 hFc hP1 (dOf (nodupW hD [0, 4] rfl (by decide)) (fun q h => Or.inl h))
            have hP : va_P D vwCl [(ms, .inl (g 0, 71, .inl f)), (mp, .inl (g 0, 284, .inl pa)), (me, .inl (g 0, 3, .inl ef)), (mo, .inr (6, [.ref ms, .ref mp, .int (nI np), .ref me, .ref mn, .long iv2, .long lg2, .long fg2, .long hv])), (mn, .inl (g 1, 5, .inr (.inl nw2)))] H := hP
            have hD : va_D (Aw [mo, ms, mp, me, mn] s.heap.size) [(ms, .inl (g 0, 71, .inl f)), (mp, .inl (g 0, 284, .inl pa)), (me, .inl (g 0, 3, .inl ef)), (mo, .inr (6, [.ref ms, .ref mp, .int (nI np), .ref me, .ref mn, .long iv2, .long lg2, .long fg2, .long hv])), (mn, .inl (g 1, 5, .inr (.inl nw2)))] := hD
            refine lv_lstore (pc := 40) (lv' := [(6, .long (-1)), (0, .ref mo), (1, .int bs), (2, .long le), (4, .int cz), (5, .int (nI i))]) hx hb dX6_bestFlowNoise_40 hl (by decide) rfl (fun ls hl => ?_)
            refine lv_lload (pc := 42) hx hb dX6_bestFlowNoise_42 (lv_at hl 0 rfl) ?_
            refine lv_lconst (pc := 44) (v := 0) hx hb dX6_bestFlowNoise_44 rfl ?_
            refine lq_lt (pc := 45) (tgt := 62) hx hb dX6_bestFlowNoise_45 dX6_bestFlowNoise_46 (by decide) (fun cd5 => ?_) (fun cd5 => absurd cd5 (by decide))
            refine lv_iload (pc := 62) hx hb dX6_bestFlowNoise_62 (lv_at hl 4 rfl) ?_
            refine lv_if_ne (pc := 64) (tgt := 71) hx hb dX6_bestFlowNoise_64 (by decide) (fun cd6 => ?_) (fun cd6 => ?_)
            · refine lv_iconst (pc := 71) (v := 4) hx hb dX6_bestFlowNoise_71 (by decide) ?_
              refine lv_iload (pc := 72) hx hb dX6_bestFlowNoise_72 (lv_at hl 4 rfl) ?_
              refine lv_imul (pc := 74) hx hb dX6_bestFlowNoise_74 ?_
              refine lv_topi (fun z7 ez7 => ?_)
              refine lv_istore (pc := 75) (lv' := [(4, .int z7), (6, .long (-1)), (0, .ref mo), (1, .int bs), (2, .long le), (5, .int (nI i))]) hx hb dX6_bestFlowNoise_75 hl (by decide) rfl (fun ls hl => ?_)
              obtain ⟨x8, ex8⟩ : ∃ y : Int32, y = (nI i) + 1 := ⟨_, rfl⟩
              refine lv_iinc (pc := 77) (v := x8) (lv' := [(5, .int x8), (4, .int z7), (6, .long (-1)), (0, .ref mo), (1, .int bs), (2, .long le)]) hx hb dX6_bestFlowNoise_77 hl (k := 5) rfl (by rw [ex8]; rfl) (by decide) rfl (fun ls hl => ?_)
              refine lv_goto (pc := 80) (tgt := 27) hx hb dX6_bestFlowNoise_80 (by decide) ?_
              rw [show x8 = nI (i + 1) from (ex8.trans (nadd rfl (nl 1)))] at hl
              exact ih  (i + 1) bs le z7 iv2 lg2 fg2 nw2 (by omega) (by omega) (by rw [ez7, hcz]; exact cnz_4 i (by omega) (hcz ▸ cd6)) (bl_no hbr (hcz ▸ hen)) _ _ (hP.sub [3, 0, 1, 2, 4] rfl) (hD.sub [3, 0, 1, 2, 4] (by decide) rfl) hS ls (lv_sub hl [3, 4, 5, 1, 0] rfl)
            · refine lv_iconst (pc := 67) (v := 1) hx hb dX6_bestFlowNoise_67 (by decide) ?_
              refine lv_goto (pc := 68) (tgt := 75) hx hb dX6_bestFlowNoise_68 (by decide) ?_
              refine lv_istore (pc := 75) (lv' := [(4, .int 1), (6, .long (-1)), (0, .ref mo), (1, .int bs), (2, .long le), (5, .int (nI i))]) hx hb dX6_bestFlowNoise_75 hl (by decide) rfl (fun ls hl => ?_)
              obtain ⟨x9, ex9⟩ : ∃ y : Int32, y = (nI i) + 1 := ⟨_, rfl⟩
              refine lv_iinc (pc := 77) (v := x9) (lv' := [(5, .int x9), (4, .int 1), (6, .long (-1)), (0, .ref mo), (1, .int bs), (2, .long le)]) hx hb dX6_bestFlowNoise_77 hl (k := 5) rfl (by rw [ex9]; rfl) (by decide) rfl (fun ls hl => ?_)
              refine lv_goto (pc := 80) (tgt := 27) hx hb dX6_bestFlowNoise_80 (by decide) ?_
              rw [show x9 = nI (i + 1) from (ex9.trans (nadd rfl (nl 1)))] at hl
              exact ih  (i + 1) bs le 1 iv2 lg2 fg2 nw2 (by omega) (by omega) (cnz_1 i (by omega) (hcz ▸ cd6)) (bl_no hbr (hcz ▸ hen)) _ _ (hP.sub [3, 0, 1, 2, 4] rfl) (hD.sub [3, 0, 1, 2, 4] (by decide) rfl) hS ls (lv_sub hl [3, 4, 5, 1, 0] rfl)
          · obtain ⟨hP, hD⟩ := jn (wr := [(ms, .inl (g 0, 71, .inl f)), (mp, .inl (g 0, 284, .inl pa)), (me, .inl (g 0, 3, .inl ef))]) (w1 := [(mo, .inr (6, [.ref ms, .ref mp, .int (nI np), .ref me, .ref mn, .long iv2, .long lg2, .long fg2, .long hv])), (mn, .inl (g 1, 5, .inr (.inl nw2)))]) hP hD [0, 4] [1, 2, 3] rfl rfl (by decide) (by decide) hk1 hFc hP1 (dOf (nodupW hD [0, 4] rfl (by decide)) (fun q h => Or.inl h))
            have hP : va_P D vwCl [(ms, .inl (g 0, 71, .inl f)), (mp, .inl (g 0, 284, .inl pa)), (me, .inl (g 0, 3, .inl ef)), (mo, .inr (6, [.ref ms, .ref mp, .int (nI np), .ref me, .ref mn, .long iv2, .long lg2, .long fg2, .long hv])), (mn, .inl (g 1, 5, .inr (.inl nw2)))] H := hP
            have hD : va_D (Aw [mo, ms, mp, me, mn] s.heap.size) [(ms, .inl (g 0, 71, .inl f)), (mp, .inl (g 0, 284, .inl pa)), (me, .inl (g 0, 3, .inl ef)), (mo, .inr (6, [.ref ms, .ref mp, .int (nI np), .ref me, .ref mn, .long iv2, .long lg2, .long fg2, .long hv])), (mn, .inl (g 1, 5, .inr (.inl nw2)))] := hD
            refine lv_lstore (pc := 40) (lv' := [(6, .long r4), (0, .ref mo), (1, .int bs), (2, .long le), (4, .int cz), (5, .int (nI i))]) hx hb dX6_bestFlowNoise_40 hl (by decide) rfl (fun ls hl => ?_)
            refine lv_lload (pc := 42) hx hb dX6_bestFlowNoise_42 (lv_at hl 0 rfl) ?_
            refine lv_lconst (pc := 44) (v := 0) hx hb dX6_bestFlowNoise_44 rfl ?_
            refine lq_lt (pc := 45) (tgt := 62) hx hb dX6_bestFlowNoise_45 dX6_bestFlowNoise_46 (by decide) (fun cd10 => absurd cd10 (Int64.not_lt.mpr (rpE_nn hk hes))) (fun cd10 => ?_)
            refine lv_lload (pc := 49) hx hb dX6_bestFlowNoise_49 (lv_at hl 0 rfl) ?_
            refine lv_lload_n (pc := 51) hx hb dX6_bestFlowNoise_51 rfl (lv_at hl 3 rfl) ?_
            refine lq_ge (pc := 52) (tgt := 62) hx hb dX6_bestFlowNoise_52 dX6_bestFlowNoise_53 (by decide) (fun cd11 => ?_) (fun cd11 => ?_)
            · refine lv_iload (pc := 62) hx hb dX6_bestFlowNoise_62 (lv_at hl 4 rfl) ?_
              refine lv_if_ne (pc := 64) (tgt := 71) hx hb dX6_bestFlowNoise_64 (by decide) (fun cd12 => ?_) (fun cd12 => ?_)
              · refine lv_iconst (pc := 71) (v := 4) hx hb dX6_bestFlowNoise_71 (by decide) ?_
                refine lv_iload (pc := 72) hx hb dX6_bestFlowNoise_72 (lv_at hl 4 rfl) ?_
                refine lv_imul (pc := 74) hx hb dX6_bestFlowNoise_74 ?_
                refine lv_topi (fun z13 ez13 => ?_)
                refine lv_istore (pc := 75) (lv' := [(4, .int z13), (6, .long r4), (0, .ref mo), (1, .int bs), (2, .long le), (5, .int (nI i))]) hx hb dX6_bestFlowNoise_75 hl (by decide) rfl (fun ls hl => ?_)
                obtain ⟨x14, ex14⟩ : ∃ y : Int32, y = (nI i) + 1 := ⟨_, rfl⟩
                refine lv_iinc (pc := 77) (v := x14) (lv' := [(5, .int x14), (4, .int z13), (6, .long r4), (0, .ref mo), (1, .int bs), (2, .long le)]) hx hb dX6_bestFlowNoise_77 hl (k := 5) rfl (by rw [ex14]; rfl) (by decide) rfl (fun ls hl => ?_)
                refine lv_goto (pc := 80) (tgt := 27) hx hb dX6_bestFlowNoise_80 (by decide) ?_
                rw [show x14 = nI (i + 1) from (ex14.trans (nadd rfl (nl 1)))] at hl
                exact ih  (i + 1) bs le z13 iv2 lg2 fg2 nw2 (by omega) (by omega) (by rw [ez13, hcz]; exact cnz_4 i (by omega) (hcz ▸ cd12)) (bl_more hbr (hcz ▸ hes) (Int64.not_lt.mpr cd11)) _ _ (hP.sub [3, 0, 1, 2, 4] rfl) (hD.sub [3, 0, 1, 2, 4] (by decide) rfl) hS ls (lv_sub hl [3, 4, 5, 1, 0] rfl)
              · refine lv_iconst (pc := 67) (v := 1) hx hb dX6_bestFlowNoise_67 (by decide) ?_
                refine lv_goto (pc := 68) (tgt := 75) hx hb dX6_bestFlowNoise_68 (by decide) ?_
                refine lv_istore (pc := 75) (lv' := [(4, .int 1), (6, .long r4), (0, .ref mo), (1, .int bs), (2, .long le), (5, .int (nI i))]) hx hb dX6_bestFlowNoise_75 hl (by decide) rfl (fun ls hl => ?_)
                obtain ⟨x15, ex15⟩ : ∃ y : Int32, y = (nI i) + 1 := ⟨_, rfl⟩
                refine lv_iinc (pc := 77) (v := x15) (lv' := [(5, .int x15), (4, .int 1), (6, .long r4), (0, .ref mo), (1, .int bs), (2, .long le)]) hx hb dX6_bestFlowNoise_77 hl (k := 5) rfl (by rw [ex15]; rfl) (by decide) rfl (fun ls hl => ?_)
                refine lv_goto (pc := 80) (tgt := 27) hx hb dX6_bestFlowNoise_80 (by decide) ?_
                rw [show x15 = nI (i + 1) from (ex15.trans (nadd rfl (nl 1)))] at hl
                exact ih  (i + 1) bs le 1 iv2 lg2 fg2 nw2 (by omega) (by omega) (cnz_1 i (by omega) (hcz ▸ cd12)) (bl_more hbr (hcz ▸ hes) (Int64.not_lt.mpr cd11)) _ _ (hP.sub [3, 0, 1, 2, 4] rfl) (hD.sub [3, 0, 1, 2, 4] (by decide) rfl) hS ls (lv_sub hl [3, 4, 5, 1, 0] rfl)
            · refine lv_iload (pc := 56) hx hb dX6_bestFlowNoise_56 (lv_at hl 4 rfl) ?_
              refine lv_istore_n (pc := 58) (lv' := [(1, .int cz), (6, .long r4), (0, .ref mo), (2, .long le), (4, .int cz), (5, .int (nI i))]) hx hb dX6_bestFlowNoise_58 rfl hl (by decide) rfl (fun ls hl => ?_)
              refine lv_lload (pc := 59) hx hb dX6_bestFlowNoise_59 (lv_at hl 1 rfl) ?_
              refine lv_lstore_n (pc := 61) (lv' := [(2, .long r4), (1, .int cz), (6, .long r4), (0, .ref mo), (4, .int cz), (5, .int (nI i))]) hx hb dX6_bestFlowNoise_61 rfl hl (by decide) rfl (fun ls hl => ?_)
              refine lv_iload (pc := 62) hx hb dX6_bestFlowNoise_62 (lv_at hl 4 rfl) ?_
              refine lv_if_ne (pc := 64) (tgt := 71) hx hb dX6_bestFlowNoise_64 (by decide) (fun cd16 => ?_) (fun cd16 => ?_)
              · refine lv_iconst (pc := 71) (v := 4) hx hb dX6_bestFlowNoise_71 (by decide) ?_
                refine lv_iload (pc := 72) hx hb dX6_bestFlowNoise_72 (lv_at hl 4 rfl) ?_
                refine lv_imul (pc := 74) hx hb dX6_bestFlowNoise_74 ?_
                refine lv_topi (fun z17 ez17 => ?_)
                refine lv_istore (pc := 75) (lv' := [(4, .int z17), (2, .long r4), (1, .int cz), (6, .long r4), (0, .ref mo), (5, .int (nI i))]) hx hb dX6_bestFlowNoise_75 hl (by decide) rfl (fun ls hl => ?_)
                obtain ⟨x18, ex18⟩ : ∃ y : Int32, y = (nI i) + 1 := ⟨_, rfl⟩
                refine lv_iinc (pc := 77) (v := x18) (lv' := [(5, .int x18), (4, .int z17), (2, .long r4), (1, .int cz), (6, .long r4), (0, .ref mo)]) hx hb dX6_bestFlowNoise_77 hl (k := 5) rfl (by rw [ex18]; rfl) (by decide) rfl (fun ls hl => ?_)
                refine lv_goto (pc := 80) (tgt := 27) hx hb dX6_bestFlowNoise_80 (by decide) ?_
                rw [show x18 = nI (i + 1) from (ex18.trans (nadd rfl (nl 1)))] at hl
                exact ih  (i + 1) cz r4 z17 iv2 lg2 fg2 nw2 (by omega) (by omega) (by rw [ez17, hcz]; exact cnz_4 i (by omega) (hcz ▸ cd16)) (by rw [hcz] at hes ⊢; exact bl_less hbr hes (Int64.not_le.mp cd11)) _ _ (hP.sub [3, 0, 1, 2, 4] rfl) (hD.sub [3, 0, 1, 2, 4] (by decide) rfl) hS ls (lv_sub hl [5, 3, 2, 1, 0] rfl)
              · refine lv_iconst (pc := 67) (v := 1) hx hb dX6_bestFlowNoise_67 (by decide) ?_
                refine lv_goto (pc := 68) (tgt := 75) hx hb dX6_bestFlowNoise_68 (by decide) ?_
                refine lv_istore (pc := 75) (lv' := [(4, .int 1), (2, .long r4), (1, .int cz), (6, .long r4), (0, .ref mo), (5, .int (nI i))]) hx hb dX6_bestFlowNoise_75 hl (by decide) rfl (fun ls hl => ?_)
                obtain ⟨x19, ex19⟩ : ∃ y : Int32, y = (nI i) + 1 := ⟨_, rfl⟩
                refine lv_iinc (pc := 77) (v := x19) (lv' := [(5, .int x19), (4, .int 1), (2, .long r4), (1, .int cz), (6, .long r4), (0, .ref mo)]) hx hb dX6_bestFlowNoise_77 hl (k := 5) rfl (by rw [ex19]; rfl) (by decide) rfl (fun ls hl => ?_)
                refine lv_goto (pc := 80) (tgt := 27) hx hb dX6_bestFlowNoise_80 (by decide) ?_
                rw [show x19 = nI (i + 1) from (ex19.trans (nadd rfl (nl 1)))] at hl
                exact ih  (i + 1) cz r4 1 iv2 lg2 fg2 nw2 (by omega) (by omega) (cnz_1 i (by omega) (hcz ▸ cd16)) (by rw [hcz] at hes ⊢; exact bl_less hbr hes (Int64.not_le.mp cd11)) _ _ (hP.sub [3, 0, 1, 2, 4] rfl) (hD.sub [3, 0, 1, 2, 4] (by decide) rfl) hS ls (lv_sub hl [5, 3, 2, 1, 0] rfl)
    exact loop 13 0 (-2000000001) 1000000001 0 iv lg fg nw (Nat.zero_le _) (by omega) rfl ⟨rfl, rfl⟩ _ _ hP hD hS ls (lv_sub hl [4, 3, 2, 1, 0] rfl)
  · have hnh : ¬ hasR f (ln f) := by rw [hln]; exact bI_eq (hr1.symm.trans cd2)
    refine lv_aload_n (pc := 7) hx hb dX6_bestFlowNoise_7 rfl (lv_at hl 0 rfl) ?_
    refine lv_ldc (pc := 8) (v := (-2000000003)) hx hb hown (hts _ q772) dX6_bestFlowNoise_8 ?_
    have hFc := awF (Lc := [me]) hD hS hA [3] rfl
    refine kI (pc := 10) (va_runV (As := [.int (-2000000003)]) (rest := []) ⟨hx, hb, hml, hown, hts⟩ (m6_fail l mo ms mp me mn np iv lg fg hv 1 ef (-2000000003) s.heap (hP.sub (ws' := [(me, .inl (g 0, 3, .inl ef))]) [3] rfl) (hP.sub (ws' := [(mo, .inr (6, [.ref ms, .ref mp, .int (nI np), .ref me, .ref mn, .long iv, .long lg, .long fg, .long hv]))]) [0] rfl) (ninW hD 0 [3] rfl rfl (by decide)) (by decide) (by decide)) (cwV 1 hts (lw_V q615 q617 qs8 q28 q618) rfl rfl rfl (by decide +kernel) ⟨Nat.le_of_ble_eq_true rfl, Nat.le_of_ble_eq_true rfl⟩) (preV hK (rcv hK hP 0 rfl rfl)) rfl rfl hl.1 rfl (lv_room (Nat.le_of_ble_eq_true rfl)) dX6_bestFlowNoise_10 ⟨Nat.le_of_ble_eq_true rfl, Nat.le_of_ble_eq_true rfl⟩) hS hFc (fun r20 H locs hp9 hz1 hk1 hS => ?_)
    obtain ⟨hrc, hP1⟩ := hp9
    obtain ⟨hP, hD⟩ := jn (wr := [(mo, .inr (6, [.ref ms, .ref mp, .int (nI np), .ref me, .ref mn, .long iv, .long lg, .long fg, .long hv])), (ms, .inl (g 0, 71, .inl f)), (mp, .inl (g 0, 284, .inl pa)), (mn, .inl (g 1, 5, .inr (.inl nw)))]) (w1 := [(me, .inl (g 0, 3, .inl (upd ef 1 (ef 1 + 1))))]) hP hD [3] [0, 1, 2, 4] rfl rfl (by decide) (by decide) hk1 hFc hP1 (d1 (Or.inl (by simp)))
    have hP : va_P D vwCl [(mo, .inr (6, [.ref ms, .ref mp, .int (nI np), .ref me, .ref mn, .long iv, .long lg, .long fg, .long hv])), (ms, .inl (g 0, 71, .inl f)), (mp, .inl (g 0, 284, .inl pa)), (mn, .inl (g 1, 5, .inr (.inl nw))), (me, .inl (g 0, 3, .inl (upd ef 1 (ef 1 + 1))))] H := hP
    have hD : va_D (Aw [mo, ms, mp, me, mn] s.heap.size) [(mo, .inr (6, [.ref ms, .ref mp, .int (nI np), .ref me, .ref mn, .long iv, .long lg, .long fg, .long hv])), (ms, .inl (g 0, 71, .inl f)), (mp, .inl (g 0, 284, .inl pa)), (mn, .inl (g 1, 5, .inr (.inl nw))), (me, .inl (g 0, 3, .inl (upd ef 1 (ef 1 + 1))))] := hD
    have hq9 : (fun r H1 => (hasR f (ln f) ∧ r = bfR f (ln f) ∧ MDI D g H1 mo ms mp me mn np ef f pa) ∨ (¬ hasR f (ln f) ∧ r = -2000000003 ∧ MDI D g H1 mo ms mp me mn np (upd ef 1 (ef 1 + 1)) f pa) : Int32 → Heap → Prop) r20 H := Or.inr ⟨hnh, hrc, ⟨_, _, _, _, _, hP.sub [0, 1, 2, 4, 3] rfl⟩⟩
    exact W.iret (v := r20) hx hb hr (fun t ht hW => ⟨⟨_, rfl, by rw [ht]; exact hq9⟩, hS.F ht⟩) hS.2.2 dX6_bestFlowNoise_13

abbrev rm_m6_add : Room := ({ frames := 0, cells := 0, slots := 0, locals := 0 })
set_option maxHeartbeats 4000000 in
set_option maxRecDepth 100000 in
theorem m6_add (l : Launch) {D : va_G} {g : Nat → ClassId} (mo ms mp me mn np : Nat) (iv lg fg hv : Int64) (v : Int32) (H : Heap) (hP : va_P D vwCl [(mo, .inr (6, [.ref ms, .ref mp, .int (nI np), .ref me, .ref mn, .long iv, .long lg, .long fg, .long hv]))] H) : Met l yX6_add (ws_ yX6_add cX6_add 2 none) rm_m6_add (va_Pc [.ref mo, .int v] (PH D g H)) (QV (fun H1 => va_P D vwCl [(mo, .inr (6, [.ref ms, .ref mp, .int (nI np), .ref me, .ref mn, .long iv, .long lg, .long fg, .long (31 * hv + Int32.toInt64 v)]))] H1) (Aw [mo] H.size)) 0 0 (Aw [mo] H.size) := by
  refine Met.ofW (cc := cX6_add) (maxL := 2) (ret := none) (by decide) rfl ?_
  intro p e s m args below meth c s₁ B hml hv
  obtain ⟨rfl, hH, hK⟩ := hv
  subst hH
  have hx := B.exec
  have hb := B.bytes
  have hr := B.returns
  have hts := atoms_spec (ws := ws_ yX6_add cX6_add 2 none) B.pre
  have hts : ∀ w ∈ lw_all, w.before _ s = true := fun w h => hts w (List.mem_cons_of_mem _ h)
  have hown : s.vm.findClass RX6 = some m.cls := findClass_of_methodNamed B.named
  have hlocks := B.notSynchronized
  have hA : ∀ q, s.heap.size ≤ q → (Aw [mo] s.heap.size) q := fun q h => Or.inr h
  have hS : va_S (Aw [mo] s.heap.size) s.heap s.heap [] := va_S.rf
  have hD : va_D (Aw [mo] s.heap.size) [(mo, .inr (6, [.ref ms, .ref mp, .int (nI np), .ref me, .ref mn, .long iv, .long lg, .long fg, .long hv]))] := d1 (Or.inl (by simp))
  have hl := lv_entry ([.ref mo, .int v]) (n := 2) (Nat.le_of_ble_eq_true rfl)
  rw [lg_entry_eq]
  generalize (lg_sl ([.ref mo, .int v]) ++ List.replicate (2 - (lg_sl ([.ref mo, .int v])).length) Slot.unset).toArray = ls at hl ⊢
  have hl : lv_has ls 2 [(0, .ref mo), (1, .int v)] := hl
  refine lv_aload_n (pc := 0) hx hb dX6_add_0 rfl (lv_at hl 0 rfl) ?_
  refine lv_ldc2 (pc := 1) (v := 31) hx hb hown (hts _ q800) dX6_add_1 ?_
  refine lv_aload_n (pc := 4) hx hb dX6_add_4 rfl (lv_at hl 0 rfl) ?_
  refine va_get (pc := 5) (D := D) (ci := 6) (v := .long hv) (C := RX6) (T := TX6) (N := 9) hx hb hts in_X6 hown hK.1 hP 0 rfl rfl 8 (by decide) (hts _ q582) (fun _ h9 => h9) rfl dX6_add_5 ?_
  refine lv_lmul (pc := 8) hx hb dX6_add_8 ?_
  refine lv_iload_n (pc := 9) hx hb dX6_add_9 rfl (lv_at hl 1 rfl) ?_
  refine lv_i2l (pc := 10) hx hb dX6_add_10 rfl ?_
  refine lv_ladd (pc := 11) hx hb dX6_add_11 ?_
  refine lv_topl (fun z1 ez1 => ?_)
  refine va_put (pc := 12) (D := D) (ci := 6) (v := .long z1) (ty := .long) (C := RX6) (T := TX6) (N := 9) hx hb hts in_X6 tyX6 tyX6_ok nmX6 hown hK.1 hP hD hS 0 rfl rfl 8 (by decide) (hts _ q582) (fun _ h9 => h9) rfl (by decide +kernel) rfl rfl (Nat.le_of_ble_eq_true rfl) dX6_add_12 (fun H locs hP hD hS => ?_)
  have hP : va_P D vwCl [(mo, .inr (6, [.ref ms, .ref mp, .int (nI np), .ref me, .ref mn, .long iv, .long lg, .long fg, .long z1]))] H := hP
  have hD : va_D (Aw [mo] s.heap.size) [(mo, .inr (6, [.ref ms, .ref mp, .int (nI np), .ref me, .ref mn, .long iv, .long lg, .long fg, .long z1]))] := hD
  have hq9 : (fun H1 => va_P D vwCl [(mo, .inr (6, [.ref ms, .ref mp, .int (nI np), .ref me, .ref mn, .long iv, .long lg, .long fg, .long (31 * hv + Int32.toInt64 v)]))] H1 : Heap → Prop) H := (by rw [ez1] at hP; exact hP)
  exact W.vret hx hb hr (fun t ht hW => ⟨⟨rfl, by rw [ht]; exact hq9⟩, hS.F ht⟩) hS.2.2 dX6_add_15

abbrev rm_m6_digest : Room := ({ frames := 1, cells := 0, slots := 0, locals := 21 })
set_option maxHeartbeats 4000000 in
set_option maxRecDepth 100000 in
theorem m6_digest (l : Launch) {D : va_G} {g : Nat → ClassId} (mo ms mp me mn np : Nat) (iv lg fg hv : Int64) (ef f pa : Nat → Int32) (nw : Nat → Int64) (H : Heap) (hP : va_P D vwCl [(mo, .inr (6, [.ref ms, .ref mp, .int (nI np), .ref me, .ref mn, .long iv, .long lg, .long fg, .long hv])), (ms, .inl (g 0, 71, .inl f)), (mp, .inl (g 0, 284, .inl pa)), (me, .inl (g 0, 3, .inl ef)), (mn, .inl (g 1, 5, .inr (.inl nw)))] H) (hN : [mo, ms, mp, me, mn].Nodup) (hnp : np ≤ 4) (hro : RowOK f) : Met l yX6_digest (ws_ yX6_digest cX6_digest 2 (some .long)) rm_m6_digest (va_Pc [.ref mo] (PH D g H)) (QL (fun r H1 => r = dgV ef np f (ln f) ∧ MDI D g H1 mo ms mp me mn np ef f pa) (Aw [mo, ms, mp, me, mn] H.size)) 0 0 (Aw [mo, ms, mp, me, mn] H.size) := by
  refine Met.ofW (cc := cX6_digest) (maxL := 2) (ret := (some .long)) (by decide) rfl ?_
  intro p e s m args below meth c s₁ B hml hv
  obtain ⟨rfl, hH, hK⟩ := hv
  subst hH
  have hx := B.exec
  have hb := B.bytes
  have hr := B.returns
  have hts := atoms_spec (ws := ws_ yX6_digest cX6_digest 2 (some .long)) B.pre
  have hts : ∀ w ∈ lw_all, w.before _ s = true := fun w h => hts w (List.mem_cons_of_mem _ h)
  have hown : s.vm.findClass RX6 = some m.cls := findClass_of_methodNamed B.named
  have hlocks := B.notSynchronized
  have hA : ∀ q, s.heap.size ≤ q → (Aw [mo, ms, mp, me, mn] s.heap.size) q := fun q h => Or.inr h
  have hS : va_S (Aw [mo, ms, mp, me, mn] s.heap.size) s.heap s.heap [] := va_S.rf
  have hD : va_D (Aw [mo, ms, mp, me, mn] s.heap.size) [(mo, .inr (6, [.ref ms, .ref mp, .int (nI np), .ref me, .ref mn, .long iv, .long lg, .long fg, .long hv])), (ms, .inl (g 0, 71, .inl f)), (mp, .inl (g 0, 284, .inl pa)), (me, .inl (g 0, 3, .inl ef)), (mn, .inl (g 1, 5, .inr (.inl nw)))] := dOf hN (fun q h => Or.inl h)
  have hl := lv_entry ([.ref mo]) (n := 2) (Nat.le_of_ble_eq_true rfl)
  rw [lg_entry_eq]
  generalize (lg_sl ([.ref mo]) ++ List.replicate (2 - (lg_sl ([.ref mo])).length) Slot.unset).toArray = ls at hl ⊢
  have hl : lv_has ls 2 [(0, .ref mo)] := hl
  obtain ⟨k, hk, hkf, hev9⟩ := hro.2.2.2.2.2
  have hln := ln_of hkf hk
  refine lv_aload_n (pc := 0) hx hb dX6_digest_0 rfl (lv_at hl 0 rfl) ?_
  refine lv_ldc2 (pc := 1) (v := 12254) hx hb hown (hts _ q795) dX6_digest_1 ?_
  refine va_put (pc := 4) (D := D) (ci := 6) (v := .long 12254) (ty := .long) (C := RX6) (T := TX6) (N := 9) hx hb hts in_X6 tyX6 tyX6_ok nmX6 hown hK.1 hP hD hS 0 rfl rfl 8 (by decide) (hts _ q582) (fun _ h9 => h9) rfl (by decide +kernel) rfl rfl (Nat.le_of_ble_eq_true rfl) dX6_digest_4 (fun H locs hP hD hS => ?_)
  have hP : va_P D vwCl [(mo, .inr (6, [.ref ms, .ref mp, .int (nI np), .ref me, .ref mn, .long iv, .long lg, .long fg, .long 12254])), (ms, .inl (g 0, 71, .inl f)), (mp, .inl (g 0, 284, .inl pa)), (me, .inl (g 0, 3, .inl ef)), (mn, .inl (g 1, 5, .inr (.inl nw)))] H := hP
  have hD : va_D (Aw [mo, ms, mp, me, mn] s.heap.size) [(mo, .inr (6, [.ref ms, .ref mp, .int (nI np), .ref me, .ref mn, .long iv, .long lg, .long fg, .long 12254])), (ms, .inl (g 0, 71, .inl f)), (mp, .inl (g 0, 284, .inl pa)), (me, .inl (g 0, 3, .inl ef)), (mn, .inl (g 1, 5, .inr (.inl nw)))] := hD
  refine lv_iconst (pc := 7) (v := 0) hx hb dX6_digest_7 (by decide) ?_
  refine lv_istore_n (pc := 8) (lv' := [(1, .int 0), (0, .ref mo)]) hx hb dX6_digest_8 rfl hl (by decide) rfl (fun ls hl => ?_)
  have lo1 : ∀ (n : Nat) (i1 : Nat) (hi1 : Int64), (0 ≤ i1 ∧ i1 ≤ 3) → (3 + 1 ≤ i1 + n) → (hi1 = hsh 12254 (v12 ef np f) i1) → ∀ (H : Heap) (locs : List Loc), va_P D vwCl [(mo, .inr (6, [.ref ms, .ref mp, .int (nI np), .ref me, .ref mn, .long iv, .long lg, .long fg, .long hi1])), (ms, .inl (g 0, 71, .inl f)), (mp, .inl (g 0, 284, .inl pa)), (me, .inl (g 0, 3, .inl ef)), (mn, .inl (g 1, 5, .inr (.inl nw)))] H → va_D (Aw [mo, ms, mp, me, mn] s.heap.size) [(mo, .inr (6, [.ref ms, .ref mp, .int (nI np), .ref me, .ref mn, .long iv, .long lg, .long fg, .long hi1])), (ms, .inl (g 0, 71, .inl f)), (mp, .inl (g 0, 284, .inl pa)), (me, .inl (g 0, 3, .inl ef)), (mn, .inl (g 1, 5, .inr (.inl nw)))] → va_S (Aw [mo, ms, mp, me, mn] s.heap.size) s.heap H locs → ∀ (ls : Array Slot), lv_has ls 2 [(0, .ref mo), (1, .int (nI i1))] → W p l e (headSpec (ws_ yX6_digest cX6_digest 2 (some .long)) rm_m6_digest).room s m ([.ref mo] : List Value).toArray below meth c H locs 0 0 (MQ below (QL (fun r H1 => r = dgV ef np f (ln f) ∧ MDI D g H1 mo ms mp me mn np ef f pa) (Aw [mo, ms, mp, me, mn] s.heap.size)) ([.ref mo] : List Value).toArray s 0 0 (Aw [mo, ms, mp, me, mn] s.heap.size)) (F0 m 9 ls []) := by
    intro n
    induction n with
    | zero =>
      intro i1 hi1 hii1 hfi1 hhi1
      exact absurd (show _ by assumption) (by omega)
    | succ n ih =>
      intro i1 hi1 hii1 hfi1 hhi1 H locs hP hD hS ls hl
      refine lv_iload_n (pc := 9) hx hb dX6_digest_9 rfl (lv_at hl 1 rfl) ?_
      refine lv_iconst (pc := 10) (v := 3) hx hb dX6_digest_10 (by decide) ?_
      refine lv_icmp_ge (pc := 11) (tgt := 30) hx hb dX6_digest_11 (by decide) (fun cd1 => ?_) (fun cd1 => ?_)
      · have ncd1 : 3 ≤ i1 := (nle (nl 3) rfl (by omega) (by omega)).mp cd1
        refine lv_aload_n (pc := 30) hx hb dX6_digest_30 rfl (lv_at hl 0 rfl) ?_
        refine lv_aload_n (pc := 31) hx hb dX6_digest_31 rfl (lv_at hl 0 rfl) ?_
        refine va_get (pc := 32) (D := D) (ci := 6) (v := .int (nI np)) (C := RX6) (T := TX6) (N := 9) hx hb hts in_X6 hown hK.1 hP 0 rfl rfl 2 (by decide) (hts _ q576) (fun _ h9 => h9) rfl dX6_digest_32 ?_
        have hFc := awF (Lc := [mo]) hD hS hA [0] rfl
        refine kV (pc := 35) (va_runV (As := [.int (nI np)]) (rest := []) ⟨hx, hb, hml, hown, hts⟩ (m6_add l mo ms mp me mn np iv lg fg hi1 (nI np) H (hP.sub (ws' := [(mo, .inr (6, [.ref ms, .ref mp, .int (nI np), .ref me, .ref mn, .long iv, .long lg, .long fg, .long hi1]))]) [0] rfl)) (cwV 1 hts (lw_V q796 q798 qs19 q28 q799) rfl rfl rfl (by decide +kernel) ⟨Nat.le_of_ble_eq_true rfl, Nat.le_of_ble_eq_true rfl⟩) (preV hK (rcv hK hP 0 rfl rfl)) rfl rfl hl.1 rfl (lv_room (Nat.le_of_ble_eq_true rfl)) dX6_digest_35 ⟨Nat.le_of_ble_eq_true rfl, Nat.le_of_ble_eq_true rfl⟩) hS hFc (fun H locs hp9 hz1 hk1 hS => ?_)
        have hP1 := hp9
        obtain ⟨hP, hD⟩ := jn (wr := [(ms, .inl (g 0, 71, .inl f)), (mp, .inl (g 0, 284, .inl pa)), (me, .inl (g 0, 3, .inl ef)), (mn, .inl (g 1, 5, .inr (.inl nw)))]) (w1 := [(mo, .inr (6, [.ref ms, .ref mp, .int (nI np), .ref me, .ref mn, .long iv, .long lg, .long fg, .long (31 * hi1 + Int32.toInt64 (nI np))]))]) hP hD [0] [1, 2, 3, 4] rfl rfl (by decide) (by decide) hk1 hFc hP1 (d1 (Or.inl (by simp)))
        have hP : va_P D vwCl [(ms, .inl (g 0, 71, .inl f)), (mp, .inl (g 0, 284, .inl pa)), (me, .inl (g 0, 3, .inl ef)), (mn, .inl (g 1, 5, .inr (.inl nw))), (mo, .inr (6, [.ref ms, .ref mp, .int (nI np), .ref me, .ref mn, .long iv, .long lg, .long fg, .long (31 * hi1 + Int32.toInt64 (nI np))]))] H := hP
        have hD : va_D (Aw [mo, ms, mp, me, mn] s.heap.size) [(ms, .inl (g 0, 71, .inl f)), (mp, .inl (g 0, 284, .inl pa)), (me, .inl (g 0, 3, .inl ef)), (mn, .inl (g 1, 5, .inr (.inl nw))), (mo, .inr (6, [.ref ms, .ref mp, .int (nI np), .ref me, .ref mn, .long iv, .long lg, .long fg, .long (31 * hi1 + Int32.toInt64 (nI np))]))] := hD
        refine lv_iconst (pc := 38) (v := 0) hx hb dX6_digest_38 (by decide) ?_
        refine lv_istore_n (pc := 39) (lv' := [(1, .int 0), (0, .ref mo)]) hx hb dX6_digest_39 rfl hl (by decide) rfl (fun ls hl => ?_)
        have lo2 : ∀ (n : Nat) (i2 : Nat) (hi2 : Int64), (0 ≤ i2 ∧ i2 ≤ 8) → (8 + 1 ≤ i2 + n) → (hi2 = hsh 12254 (v12 ef np f) (4 + i2)) → ∀ (H : Heap) (locs : List Loc), va_P D vwCl [(mo, .inr (6, [.ref ms, .ref mp, .int (nI np), .ref me, .ref mn, .long iv, .long lg, .long fg, .long hi2])), (ms, .inl (g 0, 71, .inl f)), (mp, .inl (g 0, 284, .inl pa)), (me, .inl (g 0, 3, .inl ef)), (mn, .inl (g 1, 5, .inr (.inl nw)))] H → va_D (Aw [mo, ms, mp, me, mn] s.heap.size) [(mo, .inr (6, [.ref ms, .ref mp, .int (nI np), .ref me, .ref mn, .long iv, .long lg, .long fg, .long hi2])), (ms, .inl (g 0, 71, .inl f)), (mp, .inl (g 0, 284, .inl pa)), (me, .inl (g 0, 3, .inl ef)), (mn, .inl (g 1, 5, .inr (.inl nw)))] → va_S (Aw [mo, ms, mp, me, mn] s.heap.size) s.heap H locs → ∀ (ls : Array Slot), lv_has ls 2 [(0, .ref mo), (1, .int (nI i2))] → W p l e (headSpec (ws_ yX6_digest cX6_digest 2 (some .long)) rm_m6_digest).room s m ([.ref mo] : List Value).toArray below meth c H locs 0 0 (MQ below (QL (fun r H1 => r = dgV ef np f (ln f) ∧ MDI D g H1 mo ms mp me mn np ef f pa) (Aw [mo, ms, mp, me, mn] s.heap.size)) ([.ref mo] : List Value).toArray s 0 0 (Aw [mo, ms, mp, me, mn] s.heap.size)) (F0 m 40 ls []) := by
          intro n
          induction n with
          | zero =>
            intro i2 hi2 hii2 hfi2 hhi2
            exact absurd (show _ by assumption) (by omega)
          | succ n ih =>
            intro i2 hi2 hii2 hfi2 hhi2 H locs hP hD hS ls hl
            refine lv_iload_n (pc := 40) hx hb dX6_digest_40 rfl (lv_at hl 1 rfl) ?_
            refine lv_bipush (pc := 41) (v := 7) hx hb dX6_digest_41 (by decide) ?_
            refine lv_icmp_gt (pc := 43) (tgt := 62) hx hb dX6_digest_43 (by decide) (fun cd3 => ?_) (fun cd3 => ?_)
            · have ncd3 : 7 < i2 := (nlt (nl 7) rfl (by omega) (by omega)).mp cd3
              refine lv_iconst (pc := 62) (v := 0) hx hb dX6_digest_62 (by decide) ?_
              refine lv_istore_n (pc := 63) (lv' := [(1, .int 0), (0, .ref mo)]) hx hb dX6_digest_63 rfl hl (by decide) rfl (fun ls hl => ?_)
              have lo3 : ∀ (n : Nat) (i3 : Nat) (hi3 : Int64), (0 ≤ i3 ∧ i3 ≤ 4) → (4 + 1 ≤ i3 + n) → (hi3 = dgS f (hsh 12254 (v12 ef np f) 12) i3) → ∀ (H : Heap) (locs : List Loc), va_P D vwCl [(mo, .inr (6, [.ref ms, .ref mp, .int (nI np), .ref me, .ref mn, .long iv, .long lg, .long fg, .long hi3])), (ms, .inl (g 0, 71, .inl f)), (mp, .inl (g 0, 284, .inl pa)), (me, .inl (g 0, 3, .inl ef)), (mn, .inl (g 1, 5, .inr (.inl nw)))] H → va_D (Aw [mo, ms, mp, me, mn] s.heap.size) [(mo, .inr (6, [.ref ms, .ref mp, .int (nI np), .ref me, .ref mn, .long iv, .long lg, .long fg, .long hi3])), (ms, .inl (g 0, 71, .inl f)), (mp, .inl (g 0, 284, .inl pa)), (me, .inl (g 0, 3, .inl ef)), (mn, .inl (g 1, 5, .inr (.inl nw)))] → va_S (Aw [mo, ms, mp, me, mn] s.heap.size) s.heap H locs → ∀ (ls : Array Slot), lv_has ls 2 [(0, .ref mo), (1, .int (nI i3))] → W p l e (headSpec (ws_ yX6_digest cX6_digest 2 (some .long)) rm_m6_digest).room s m ([.ref mo] : List Value).toArray below meth c H locs 0 0 (MQ below (QL (fun r H1 => r = dgV ef np f (ln f) ∧ MDI D g H1 mo ms mp me mn np ef f pa) (Aw [mo, ms, mp, me, mn] s.heap.size)) ([.ref mo] : List Value).toArray s 0 0 (Aw [mo, ms, mp, me, mn] s.heap.size)) (F0 m 64 ls []) := by
                intro n
                induction n with
                | zero =>
                  intro i3 hi3 hii3 hfi3 hhi3
                  exact absurd (show _ by assumption) (by omega)
                | succ n ih =>
                  intro i3 hi3 hii3 hfi3 hhi3 H locs hP hD hS ls hl
                  refine lv_iload_n (pc := 64) hx hb dX6_digest_64 rfl (lv_at hl 1 rfl) ?_
                  refine lv_iconst (pc := 65) (v := 4) hx hb dX6_digest_65 (by decide) ?_
                  refine lv_icmp_ge (pc := 66) (tgt := 101) hx hb dX6_digest_66 (by decide) (fun cd4 => ?_) (fun cd4 => ?_)
                  · have ncd4 : 4 ≤ i3 := (nle (nl 4) rfl (by omega) (by omega)).mp cd4
                    refine lv_bipush (pc := 101) (v := 16) hx hb dX6_digest_101 (by decide) ?_
                    refine lv_istore_n (pc := 103) (lv' := [(1, .int 16), (0, .ref mo)]) hx hb dX6_digest_103 rfl hl (by decide) rfl (fun ls hl => ?_)
                    have lo4 : ∀ (n : Nat) (i4 : Nat) (hi4 : Int64), (16 ≤ i4 ∧ i4 ≤ 23) → (23 + 1 ≤ i4 + n) → (hi4 = hsh (dgS f (hsh 12254 (v12 ef np f) 12) 4) (fun j => f (16 + j)) (i4 - 16)) → ∀ (H : Heap) (locs : List Loc), va_P D vwCl [(mo, .inr (6, [.ref ms, .ref mp, .int (nI np), .ref me, .ref mn, .long iv, .long lg, .long fg, .long hi4])), (ms, .inl (g 0, 71, .inl f)), (mp, .inl (g 0, 284, .inl pa)), (me, .inl (g 0, 3, .inl ef)), (mn, .inl (g 1, 5, .inr (.inl nw)))] H → va_D (Aw [mo, ms, mp, me, mn] s.heap.size) [(mo, .inr (6, [.ref ms, .ref mp, .int (nI np), .ref me, .ref mn, .long iv, .long lg, .long fg, .long hi4])), (ms, .inl (g 0, 71, .inl f)), (mp, .inl (g 0, 284, .inl pa)), (me, .inl (g 0, 3, .inl ef)), (mn, .inl (g 1, 5, .inr (.inl nw)))] → va_S (Aw [mo, ms, mp, me, mn] s.heap.size) s.heap H locs → ∀ (ls : Array Slot), lv_has ls 2 [(0, .ref mo), (1, .int (nI i4))] → W p l e (headSpec (ws_ yX6_digest cX6_digest 2 (some .long)) rm_m6_digest).room s m ([.ref mo] : List Value).toArray below meth c H locs 0 0 (MQ below (QL (fun r H1 => r = dgV ef np f (ln f) ∧ MDI D g H1 mo ms mp me mn np ef f pa) (Aw [mo, ms, mp, me, mn] s.heap.size)) ([.ref mo] : List Value).toArray s 0 0 (Aw [mo, ms, mp, me, mn] s.heap.size)) (F0 m 104 ls []) := by
                      intro n
                      induction n with
                      | zero =>
                        intro i4 hi4 hii4 hfi4 hhi4
                        exact absurd (show _ by assumption) (by omega)
                      | succ n ih =>
                        intro i4 hi4 hii4 hfi4 hhi4 H locs hP hD hS ls hl
                        refine lv_iload_n (pc := 104) hx hb dX6_digest_104 rfl (lv_at hl 1 rfl) ?_
                        refine lv_bipush (pc := 105) (v := 22) hx hb dX6_digest_105 (by decide) ?_
                        refine lv_icmp_gt (pc := 107) (tgt := 126) hx hb dX6_digest_107 (by decide) (fun cd5 => ?_) (fun cd5 => ?_)
                        · have ncd5 : 22 < i4 := (nlt (nl 22) rfl (by omega) (by omega)).mp cd5
                          refine lv_iconst (pc := 126) (v := 0) hx hb dX6_digest_126 (by decide) ?_
                          refine lv_istore_n (pc := 127) (lv' := [(1, .int 0), (0, .ref mo)]) hx hb dX6_digest_127 rfl hl (by decide) rfl (fun ls hl => ?_)
                          have lo5 : ∀ (n : Nat) (i5 : Nat) (hi5 : Int64), (0 ≤ i5 ∧ i5 ≤ 2 * k) → (2 * k + 1 ≤ i5 + n) → (hi5 = hsh (hsh (dgS f (hsh 12254 (v12 ef np f) 12) 4) (fun j => f (16 + j)) 7) (fun j => f (23 + j)) i5) → ∀ (H : Heap) (locs : List Loc), va_P D vwCl [(mo, .inr (6, [.ref ms, .ref mp, .int (nI np), .ref me, .ref mn, .long iv, .long lg, .long fg, .long hi5])), (ms, .inl (g 0, 71, .inl f)), (mp, .inl (g 0, 284, .inl pa)), (me, .inl (g 0, 3, .inl ef)), (mn, .inl (g 1, 5, .inr (.inl nw)))] H → va_D (Aw [mo, ms, mp, me, mn] s.heap.size) [(mo, .inr (6, [.ref ms, .ref mp, .int (nI np), .ref me, .ref mn, .long iv, .long lg, .long fg, .long hi5])), (ms, .inl (g 0, 71, .inl f)), (mp, .inl (g 0, 284, .inl pa)), (me, .inl (g 0, 3, .inl ef)), (mn, .inl (g 1, 5, .inr (.inl nw)))] → va_S (Aw [mo, ms, mp, me, mn] s.heap.size) s.heap H locs → ∀ (ls : Array Slot), lv_has ls 2 [(0, .ref mo), (1, .int (nI i5))] → W p l e (headSpec (ws_ yX6_digest cX6_digest 2 (some .long)) rm_m6_digest).room s m ([.ref mo] : List Value).toArray below meth c H locs 0 0 (MQ below (QL (fun r H1 => r = dgV ef np f (ln f) ∧ MDI D g H1 mo ms mp me mn np ef f pa) (Aw [mo, ms, mp, me, mn] s.heap.size)) ([.ref mo] : List Value).toArray s 0 0 (Aw [mo, ms, mp, me, mn] s.heap.size)) (F0 m 128 ls []) := by
                            intro n
                            induction n with
                            | zero =>
                              intro i5 hi5 hii5 hfi5 hhi5
                              exact absurd (show _ by assumption) (by omega)
                            | succ n ih =>
                              intro i5 hi5 hii5 hfi5 hhi5 H locs hP hD hS ls hl
                              refine lv_iload_n (pc := 128) hx hb dX6_digest_128 rfl (lv_at hl 1 rfl) ?_
                              refine lv_iconst (pc := 129) (v := 2) hx hb dX6_digest_129 (by decide) ?_
                              refine lv_aload_n (pc := 130) hx hb dX6_digest_130 rfl (lv_at hl 0 rfl) ?_
                              refine va_get (pc := 131) (D := D) (ci := 6) (v := .ref ms) (C := RX6) (T := TX6) (N := 9) hx hb hts in_X6 hown hK.1 hP 0 rfl rfl 0 (by decide) (hts _ q574) (fun _ h9 => h9) rfl dX6_digest_131 ?_
                              refine lv_bipush (pc := 134) (v := 22) hx hb dX6_digest_134 (by decide) ?_
                              refine ia_ld (pc := 136) hx hb hK.1 hP 1 0 22 rfl rfl (nl 22) (Nat.le_of_ble_eq_true rfl) (Nat.le_of_ble_eq_true rfl) dX6_digest_136 ?_
                              refine lv_imul (pc := 137) hx hb dX6_digest_137 ?_
                              refine lv_icmp_ge (pc := 138) (tgt := 160) hx hb dX6_digest_138 (by decide) (fun cd6 => ?_) (fun cd6 => ?_)
                              · have ncd6 : (2 * k) ≤ i5 := (nle (nmul (nl 2) hkf) rfl (by omega) (by omega)).mp cd6
                                refine lv_aload_n (pc := 160) hx hb dX6_digest_160 rfl (lv_at hl 0 rfl) ?_
                                refine va_get (pc := 161) (D := D) (ci := 6) (v := .long hi5) (C := RX6) (T := TX6) (N := 9) hx hb hts in_X6 hown hK.1 hP 0 rfl rfl 8 (by decide) (hts _ q582) (fun _ h9 => h9) rfl dX6_digest_161 ?_
                                have hq9 : (fun r H1 => r = dgV ef np f (ln f) ∧ MDI D g H1 mo ms mp me mn np ef f pa : Int64 → Heap → Prop) hi5 H := ⟨by unfold dgV; rw [hln, hhi5, show i5 = 2 * k by omega, dgE_hsh], ⟨_, _, _, _, _, hP.sub [0, 1, 2, 3, 4] rfl⟩⟩
                                exact W.lret (v := hi5) hx hb hr (fun t ht hW => ⟨⟨_, rfl, by rw [ht]; exact hq9⟩, hS.F ht⟩) hS.2.2 dX6_digest_164
                              · have ncd6 : ¬ (2 * k) ≤ i5 := fun h => cd6 ((nle (nmul (nl 2) hkf) rfl (by omega) (by omega)).mpr h)
                                refine lv_aload_n (pc := 141) hx hb dX6_digest_141 rfl (lv_at hl 0 rfl) ?_
                                refine lv_aload_n (pc := 142) hx hb dX6_digest_142 rfl (lv_at hl 0 rfl) ?_
                                refine va_get (pc := 143) (D := D) (ci := 6) (v := .ref ms) (C := RX6) (T := TX6) (N := 9) hx hb hts in_X6 hown hK.1 hP 0 rfl rfl 0 (by decide) (hts _ q574) (fun _ h9 => h9) rfl dX6_digest_143 ?_
                                refine lv_bipush (pc := 146) (v := 23) hx hb dX6_digest_146 (by decide) ?_
                                refine lv_iload_n (pc := 148) hx hb dX6_digest_148 rfl (lv_at hl 1 rfl) ?_
                                refine lv_iadd (pc := 149) hx hb dX6_digest_149 ?_
                                refine ia_ld (pc := 150) hx hb hK.1 hP 1 0 (23 + i5) rfl rfl (nadd (nl 23) rfl) (by omega) (Nat.le_of_ble_eq_true rfl) dX6_digest_150 ?_
                                have hFc := awF (Lc := [mo]) hD hS hA [0] rfl
                                refine kV (pc := 151) (va_runV (As := [.int (f (23 + i5))]) (rest := []) ⟨hx, hb, hml, hown, hts⟩ (m6_add l mo ms mp me mn np iv lg fg hi5 (f (23 + i5)) H (hP.sub (ws' := [(mo, .inr (6, [.ref ms, .ref mp, .int (nI np), .ref me, .ref mn, .long iv, .long lg, .long fg, .long hi5]))]) [0] rfl)) (cwV 1 hts (lw_V q796 q798 qs19 q28 q799) rfl rfl rfl (by decide +kernel) ⟨Nat.le_of_ble_eq_true rfl, Nat.le_of_ble_eq_true rfl⟩) (preV hK (rcv hK hP 0 rfl rfl)) rfl rfl hl.1 rfl (lv_room (Nat.le_of_ble_eq_true rfl)) dX6_digest_151 ⟨Nat.le_of_ble_eq_true rfl, Nat.le_of_ble_eq_true rfl⟩) hS hFc (fun H locs hp9 hz1 hk1 hS => ?_)
                                have hP1 := hp9
                                obtain ⟨hP, hD⟩ := jn (wr := [(ms, .inl (g 0, 71, .inl f)), (mp, .inl (g 0, 284, .inl pa)), (me, .inl (g 0, 3, .inl ef)), (mn, .inl (g 1, 5, .inr (.inl nw)))]) (w1 := [(mo, .inr (6, [.ref ms, .ref mp, .int (nI np), .ref me, .ref mn, .long iv, .long lg, .long fg, .long (31 * hi5 + Int32.toInt64 (f (23 + i5)))]))]) hP hD [0] [1, 2, 3, 4] rfl rfl (by decide) (by decide) hk1 hFc hP1 (d1 (Or.inl (by simp)))
                                have hP : va_P D vwCl [(ms, .inl (g 0, 71, .inl f)), (mp, .inl (g 0, 284, .inl pa)), (me, .inl (g 0, 3, .inl ef)), (mn, .inl (g 1, 5, .inr (.inl nw))), (mo, .inr (6, [.ref ms, .ref mp, .int (nI np), .ref me, .ref mn, .long iv, .long lg, .long fg, .long (31 * hi5 + Int32.toInt64 (f (23 + i5)))]))] H := hP
                                have hD : va_D (Aw [mo, ms, mp, me, mn] s.heap.size) [(ms, .inl (g 0, 71, .inl f)), (mp, .inl (g 0, 284, .inl pa)), (me, .inl (g 0, 3, .inl ef)), (mn, .inl (g 1, 5, .inr (.inl nw))), (mo, .inr (6, [.ref ms, .ref mp, .int (nI np), .ref me, .ref mn, .long iv, .long lg, .long fg, .long (31 * hi5 + Int32.toInt64 (f (23 + i5)))]))] := hD
                                obtain ⟨x8, ex8⟩ : ∃ y : Int32, y = (nI i5) + 1 := ⟨_, rfl⟩
                                refine lv_iinc (pc := 154) (v := x8) (lv' := [(1, .int x8), (0, .ref mo)]) hx hb dX6_digest_154 hl (k := 1) rfl (by rw [ex8]; rfl) (by decide) rfl (fun ls hl => ?_)
                                refine lv_goto (pc := 157) (tgt := 128) hx hb dX6_digest_157 (by decide) ?_
                                rw [show x8 = nI (i5 + 1) from (ex8.trans (nadd rfl (nl 1)))] at hl
                                exact ih  (i5 + 1) (31 * hi5 + Int32.toInt64 (f (23 + i5))) (by omega) (by omega) (by rw [hhi5]; exact (hsh_s _ _ i5).symm) _ _ (hP.sub [4, 0, 1, 2, 3] rfl) (hD.sub [4, 0, 1, 2, 3] (by decide) rfl) hS ls (lv_sub hl [1, 0] rfl)
                          exact lo5 (2 * k + 1) 0 (hi4) (by omega) (by omega) (by rw [hhi4, show i4 = 23 by omega]; exact (hsh_0 _ _).symm) _ _ hP hD hS ls (lv_sub hl [1, 0] rfl)
                        · have ncd5 : ¬ 22 < i4 := fun h => cd5 ((nlt (nl 22) rfl (by omega) (by omega)).mpr h)
                          refine lv_aload_n (pc := 110) hx hb dX6_digest_110 rfl (lv_at hl 0 rfl) ?_
                          refine lv_aload_n (pc := 111) hx hb dX6_digest_111 rfl (lv_at hl 0 rfl) ?_
                          refine va_get (pc := 112) (D := D) (ci := 6) (v := .ref ms) (C := RX6) (T := TX6) (N := 9) hx hb hts in_X6 hown hK.1 hP 0 rfl rfl 0 (by decide) (hts _ q574) (fun _ h9 => h9) rfl dX6_digest_112 ?_
                          refine lv_iload_n (pc := 115) hx hb dX6_digest_115 rfl (lv_at hl 1 rfl) ?_
                          refine ia_ld (pc := 116) hx hb hK.1 hP 1 0 i4 rfl rfl rfl (by omega) (Nat.le_of_ble_eq_true rfl) dX6_digest_116 ?_
                          have hFc := awF (Lc := [mo]) hD hS hA [0] rfl
                          refine kV (pc := 117) (va_runV (As := [.int (f i4)]) (rest := []) ⟨hx, hb, hml, hown, hts⟩ (m6_add l mo ms mp me mn np iv lg fg hi4 (f i4) H (hP.sub (ws' := [(mo, .inr (6, [.ref ms, .ref mp, .int (nI np), .ref me, .ref mn, .long iv, .long lg, .long fg, .long hi4]))]) [0] rfl)) (cwV 1 hts (lw_V q796 q798 qs19 q28 q799) rfl rfl rfl (by decide +kernel) ⟨Nat.le_of_ble_eq_true rfl, Nat.le_of_ble_eq_true rfl⟩) (preV hK (rcv hK hP 0 rfl rfl)) rfl rfl hl.1 rfl (lv_room (Nat.le_of_ble_eq_true rfl)) dX6_digest_117 ⟨Nat.le_of_ble_eq_true rfl, Nat.le_of_ble_eq_true rfl⟩) hS hFc (fun H locs hp9 hz1 hk1 hS => ?_)
                          have hP1 := hp9
                          obtain ⟨hP, hD⟩ := jn (wr := [(ms, .inl (g 0, 71, .inl f)), (mp, .inl (g 0, 284, .inl pa)), (me, .inl (g 0, 3, .inl ef)), (mn, .inl (g 1, 5, .inr (.inl nw)))]) (w1 := [(mo, .inr (6, [.ref ms, .ref mp, .int (nI np), .ref me, .ref mn, .long iv, .long lg, .long fg, .long (31 * hi4 + Int32.toInt64 (f i4))]))]) hP hD [0] [1, 2, 3, 4] rfl rfl (by decide) (by decide) hk1 hFc hP1 (d1 (Or.inl (by simp)))
                          have hP : va_P D vwCl [(ms, .inl (g 0, 71, .inl f)), (mp, .inl (g 0, 284, .inl pa)), (me, .inl (g 0, 3, .inl ef)), (mn, .inl (g 1, 5, .inr (.inl nw))), (mo, .inr (6, [.ref ms, .ref mp, .int (nI np), .ref me, .ref mn, .long iv, .long lg, .long fg, .long (31 * hi4 + Int32.toInt64 (f i4))]))] H := hP
                          have hD : va_D (Aw [mo, ms, mp, me, mn] s.heap.size) [(ms, .inl (g 0, 71, .inl f)), (mp, .inl (g 0, 284, .inl pa)), (me, .inl (g 0, 3, .inl ef)), (mn, .inl (g 1, 5, .inr (.inl nw))), (mo, .inr (6, [.ref ms, .ref mp, .int (nI np), .ref me, .ref mn, .long iv, .long lg, .long fg, .long (31 * hi4 + Int32.toInt64 (f i4))]))] := hD
                          obtain ⟨x10, ex10⟩ : ∃ y : Int32, y = (nI i4) + 1 := ⟨_, rfl⟩
                          refine lv_iinc (pc := 120) (v := x10) (lv' := [(1, .int x10), (0, .ref mo)]) hx hb dX6_digest_120 hl (k := 1) rfl (by rw [ex10]; rfl) (by decide) rfl (fun ls hl => ?_)
                          refine lv_goto (pc := 123) (tgt := 104) hx hb dX6_digest_123 (by decide) ?_
                          rw [show x10 = nI (i4 + 1) from (ex10.trans (nadd rfl (nl 1)))] at hl
                          exact ih  (i4 + 1) (31 * hi4 + Int32.toInt64 (f i4)) (by omega) (by omega) (by rw [hhi4, show i4 + 1 - 16 = (i4 - 16) + 1 by omega]; show _ = 31 * _ + Int32.toInt64 (f (16 + (i4 - 16))); rw [show 16 + (i4 - 16) = i4 by omega]) _ _ (hP.sub [4, 0, 1, 2, 3] rfl) (hD.sub [4, 0, 1, 2, 3] (by decide) rfl) hS ls (lv_sub hl [1, 0] rfl)
                    exact lo4 (23 + 1) 16 (hi3) (by omega) (by omega) (by rw [hhi3, show i3 = 4 by omega]; exact (hsh_0 _ _).symm) _ _ hP hD hS ls (lv_sub hl [1, 0] rfl)
                  · have ncd4 : ¬ 4 ≤ i3 := fun h => cd4 ((nle (nl 4) rfl (by omega) (by omega)).mpr h)
                    refine lv_aload_n (pc := 69) hx hb dX6_digest_69 rfl (lv_at hl 0 rfl) ?_
                    refine lv_aload_n (pc := 70) hx hb dX6_digest_70 rfl (lv_at hl 0 rfl) ?_
                    refine va_get (pc := 71) (D := D) (ci := 6) (v := .ref ms) (C := RX6) (T := TX6) (N := 9) hx hb hts in_X6 hown hK.1 hP 0 rfl rfl 0 (by decide) (hts _ q574) (fun _ h9 => h9) rfl dX6_digest_71 ?_
                    refine lv_bipush (pc := 74) (v := 8) hx hb dX6_digest_74 (by decide) ?_
                    refine lv_iload_n (pc := 76) hx hb dX6_digest_76 rfl (lv_at hl 1 rfl) ?_
                    refine lv_iadd (pc := 77) hx hb dX6_digest_77 ?_
                    refine ia_ld (pc := 78) hx hb hK.1 hP 1 0 (8 + i3) rfl rfl (nadd (nl 8) rfl) (by omega) (Nat.le_of_ble_eq_true rfl) dX6_digest_78 ?_
                    have hFc := awF (Lc := [mo]) hD hS hA [0] rfl
                    refine kV (pc := 79) (va_runV (As := [.int (f (8 + i3))]) (rest := []) ⟨hx, hb, hml, hown, hts⟩ (m6_add l mo ms mp me mn np iv lg fg hi3 (f (8 + i3)) H (hP.sub (ws' := [(mo, .inr (6, [.ref ms, .ref mp, .int (nI np), .ref me, .ref mn, .long iv, .long lg, .long fg, .long hi3]))]) [0] rfl)) (cwV 1 hts (lw_V q796 q798 qs19 q28 q799) rfl rfl rfl (by decide +kernel) ⟨Nat.le_of_ble_eq_true rfl, Nat.le_of_ble_eq_true rfl⟩) (preV hK (rcv hK hP 0 rfl rfl)) rfl rfl hl.1 rfl (lv_room (Nat.le_of_ble_eq_true rfl)) dX6_digest_79 ⟨Nat.le_of_ble_eq_true rfl, Nat.le_of_ble_eq_true rfl⟩) hS hFc (fun H locs hp9 hz1 hk1 hS => ?_)
                    have hP1 := hp9
                    obtain ⟨hP, hD⟩ := jn (wr := [(ms, .inl (g 0, 71, .inl f)), (mp, .inl (g 0, 284, .inl pa)), (me, .inl (g 0, 3, .inl ef)), (mn, .inl (g 1, 5, .inr (.inl nw)))]) (w1 := [(mo, .inr (6, [.ref ms, .ref mp, .int (nI np), .ref me, .ref mn, .long iv, .long lg, .long fg, .long (31 * hi3 + Int32.toInt64 (f (8 + i3)))]))]) hP hD [0] [1, 2, 3, 4] rfl rfl (by decide) (by decide) hk1 hFc hP1 (d1 (Or.inl (by simp)))
                    have hP : va_P D vwCl [(ms, .inl (g 0, 71, .inl f)), (mp, .inl (g 0, 284, .inl pa)), (me, .inl (g 0, 3, .inl ef)), (mn, .inl (g 1, 5, .inr (.inl nw))), (mo, .inr (6, [.ref ms, .ref mp, .int (nI np), .ref me, .ref mn, .long iv, .long lg, .long fg, .long (31 * hi3 + Int32.toInt64 (f (8 + i3)))]))] H := hP
                    have hD : va_D (Aw [mo, ms, mp, me, mn] s.heap.size) [(ms, .inl (g 0, 71, .inl f)), (mp, .inl (g 0, 284, .inl pa)), (me, .inl (g 0, 3, .inl ef)), (mn, .inl (g 1, 5, .inr (.inl nw))), (mo, .inr (6, [.ref ms, .ref mp, .int (nI np), .ref me, .ref mn, .long iv, .long lg, .long fg, .long (31 * hi3 + Int32.toInt64 (f (8 + i3)))]))] := hD
                    refine lv_aload_n (pc := 82) hx hb dX6_digest_82 rfl (lv_at hl 0 rfl) ?_
                    refine lv_aload_n (pc := 83) hx hb dX6_digest_83 rfl (lv_at hl 0 rfl) ?_
                    refine va_get (pc := 84) (D := D) (ci := 6) (v := .ref ms) (C := RX6) (T := TX6) (N := 9) hx hb hts in_X6 hown hK.1 hP 4 rfl rfl 0 (by decide) (hts _ q574) (fun _ h9 => h9) rfl dX6_digest_84 ?_
                    refine lv_bipush (pc := 87) (v := 12) hx hb dX6_digest_87 (by decide) ?_
                    refine lv_iload_n (pc := 89) hx hb dX6_digest_89 rfl (lv_at hl 1 rfl) ?_
                    refine lv_iadd (pc := 90) hx hb dX6_digest_90 ?_
                    refine ia_ld (pc := 91) hx hb hK.1 hP 0 0 (12 + i3) rfl rfl (nadd (nl 12) rfl) (by omega) (Nat.le_of_ble_eq_true rfl) dX6_digest_91 ?_
                    have hFc := awF (Lc := [mo]) hD hS hA [4] rfl
                    refine kV (pc := 92) (va_runV (As := [.int (f (12 + i3))]) (rest := []) ⟨hx, hb, hml, hown, hts⟩ (m6_add l mo ms mp me mn np iv lg fg (31 * hi3 + Int32.toInt64 (f (8 + i3))) (f (12 + i3)) H (hP.sub (ws' := [(mo, .inr (6, [.ref ms, .ref mp, .int (nI np), .ref me, .ref mn, .long iv, .long lg, .long fg, .long (31 * hi3 + Int32.toInt64 (f (8 + i3)))]))]) [4] rfl)) (cwV 1 hts (lw_V q796 q798 qs19 q28 q799) rfl rfl rfl (by decide +kernel) ⟨Nat.le_of_ble_eq_true rfl, Nat.le_of_ble_eq_true rfl⟩) (preV hK (rcv hK hP 4 rfl rfl)) rfl rfl hl.1 rfl (lv_room (Nat.le_of_ble_eq_true rfl)) dX6_digest_92 ⟨Nat.le_of_ble_eq_true rfl, Nat.le_of_ble_eq_true rfl⟩) hS hFc (fun H locs hp9 hz1 hk1 hS => ?_)
                    have hP1 := hp9
                    obtain ⟨hP, hD⟩ := jn (wr := [(ms, .inl (g 0, 71, .inl f)), (mp, .inl (g 0, 284, .inl pa)), (me, .inl (g 0, 3, .inl ef)), (mn, .inl (g 1, 5, .inr (.inl nw)))]) (w1 := [(mo, .inr (6, [.ref ms, .ref mp, .int (nI np), .ref me, .ref mn, .long iv, .long lg, .long fg, .long (31 * (31 * hi3 + Int32.toInt64 (f (8 + i3))) + Int32.toInt64 (f (12 + i3)))]))]) hP hD [4] [0, 1, 2, 3] rfl rfl (by decide) (by decide) hk1 hFc hP1 (d1 (Or.inl (by simp)))
                    have hP : va_P D vwCl [(ms, .inl (g 0, 71, .inl f)), (mp, .inl (g 0, 284, .inl pa)), (me, .inl (g 0, 3, .inl ef)), (mn, .inl (g 1, 5, .inr (.inl nw))), (mo, .inr (6, [.ref ms, .ref mp, .int (nI np), .ref me, .ref mn, .long iv, .long lg, .long fg, .long (31 * (31 * hi3 + Int32.toInt64 (f (8 + i3))) + Int32.toInt64 (f (12 + i3)))]))] H := hP
                    have hD : va_D (Aw [mo, ms, mp, me, mn] s.heap.size) [(ms, .inl (g 0, 71, .inl f)), (mp, .inl (g 0, 284, .inl pa)), (me, .inl (g 0, 3, .inl ef)), (mn, .inl (g 1, 5, .inr (.inl nw))), (mo, .inr (6, [.ref ms, .ref mp, .int (nI np), .ref me, .ref mn, .long iv, .long lg, .long fg, .long (31 * (31 * hi3 + Int32.toInt64 (f (8 + i3))) + Int32.toInt64 (f (12 + i3)))]))] := hD
                    obtain ⟨x13, ex13⟩ : ∃ y : Int32, y = (nI i3) + 1 := ⟨_, rfl⟩
                    refine lv_iinc (pc := 95) (v := x13) (lv' := [(1, .int x13), (0, .ref mo)]) hx hb dX6_digest_95 hl (k := 1) rfl (by rw [ex13]; rfl) (by decide) rfl (fun ls hl => ?_)
                    refine lv_goto (pc := 98) (tgt := 64) hx hb dX6_digest_98 (by decide) ?_
                    rw [show x13 = nI (i3 + 1) from (ex13.trans (nadd rfl (nl 1)))] at hl
                    exact ih  (i3 + 1) (31 * (31 * hi3 + Int32.toInt64 (f (8 + i3))) + Int32.toInt64 (f (12 + i3))) (by omega) (by omega) (by rw [hhi3]; exact (dgS_s _ _ i3).symm) _ _ (hP.sub [4, 0, 1, 2, 3] rfl) (hD.sub [4, 0, 1, 2, 3] (by decide) rfl) hS ls (lv_sub hl [1, 0] rfl)
              exact lo3 (4 + 1) 0 (hi2) (by omega) (by omega) (by rw [hhi2, show i2 = 8 by omega]; exact (dgS_0 _ _).symm) _ _ hP hD hS ls (lv_sub hl [1, 0] rfl)
            · have ncd3 : ¬ 7 < i2 := fun h => cd3 ((nlt (nl 7) rfl (by omega) (by omega)).mpr h)
              refine lv_aload_n (pc := 46) hx hb dX6_digest_46 rfl (lv_at hl 0 rfl) ?_
              refine lv_aload_n (pc := 47) hx hb dX6_digest_47 rfl (lv_at hl 0 rfl) ?_
              refine va_get (pc := 48) (D := D) (ci := 6) (v := .ref ms) (C := RX6) (T := TX6) (N := 9) hx hb hts in_X6 hown hK.1 hP 0 rfl rfl 0 (by decide) (hts _ q574) (fun _ h9 => h9) rfl dX6_digest_48 ?_
              refine lv_iload_n (pc := 51) hx hb dX6_digest_51 rfl (lv_at hl 1 rfl) ?_
              refine ia_ld (pc := 52) hx hb hK.1 hP 1 0 i2 rfl rfl rfl (by omega) (Nat.le_of_ble_eq_true rfl) dX6_digest_52 ?_
              have hFc := awF (Lc := [mo]) hD hS hA [0] rfl
              refine kV (pc := 53) (va_runV (As := [.int (f i2)]) (rest := []) ⟨hx, hb, hml, hown, hts⟩ (m6_add l mo ms mp me mn np iv lg fg hi2 (f i2) H (hP.sub (ws' := [(mo, .inr (6, [.ref ms, .ref mp, .int (nI np), .ref me, .ref mn, .long iv, .long lg, .long fg, .long hi2]))]) [0] rfl)) (cwV 1 hts (lw_V q796 q798 qs19 q28 q799) rfl rfl rfl (by decide +kernel) ⟨Nat.le_of_ble_eq_true rfl, Nat.le_of_ble_eq_true rfl⟩) (preV hK (rcv hK hP 0 rfl rfl)) rfl rfl hl.1 rfl (lv_room (Nat.le_of_ble_eq_true rfl)) dX6_digest_53 ⟨Nat.le_of_ble_eq_true rfl, Nat.le_of_ble_eq_true rfl⟩) hS hFc (fun H locs hp9 hz1 hk1 hS => ?_)
              have hP1 := hp9
              obtain ⟨hP, hD⟩ := jn (wr := [(ms, .inl (g 0, 71, .inl f)), (mp, .inl (g 0, 284, .inl pa)), (me, .inl (g 0, 3, .inl ef)), (mn, .inl (g 1, 5, .inr (.inl nw)))]) (w1 := [(mo, .inr (6, [.ref ms, .ref mp, .int (nI np), .ref me, .ref mn, .long iv, .long lg, .long fg, .long (31 * hi2 + Int32.toInt64 (f i2))]))]) hP hD [0] [1, 2, 3, 4] rfl rfl (by decide) (by decide) hk1 hFc hP1 (d1 (Or.inl (by simp)))
              have hP : va_P D vwCl [(ms, .inl (g 0, 71, .inl f)), (mp, .inl (g 0, 284, .inl pa)), (me, .inl (g 0, 3, .inl ef)), (mn, .inl (g 1, 5, .inr (.inl nw))), (mo, .inr (6, [.ref ms, .ref mp, .int (nI np), .ref me, .ref mn, .long iv, .long lg, .long fg, .long (31 * hi2 + Int32.toInt64 (f i2))]))] H := hP
              have hD : va_D (Aw [mo, ms, mp, me, mn] s.heap.size) [(ms, .inl (g 0, 71, .inl f)), (mp, .inl (g 0, 284, .inl pa)), (me, .inl (g 0, 3, .inl ef)), (mn, .inl (g 1, 5, .inr (.inl nw))), (mo, .inr (6, [.ref ms, .ref mp, .int (nI np), .ref me, .ref mn, .long iv, .long lg, .long fg, .long (31 * hi2 + Int32.toInt64 (f i2))]))] := hD
              obtain ⟨x15, ex15⟩ : ∃ y : Int32, y = (nI i2) + 1 := ⟨_, rfl⟩
              refine lv_iinc (pc := 56) (v := x15) (lv' := [(1, .int x15), (0, .ref mo)]) hx hb dX6_digest_56 hl (k := 1) rfl (by rw [ex15]; rfl) (by decide) rfl (fun ls hl => ?_)
              refine lv_goto (pc := 59) (tgt := 40) hx hb dX6_digest_59 (by decide) ?_
              rw [show x15 = nI (i2 + 1) from (ex15.trans (nadd rfl (nl 1)))] at hl
              exact ih  (i2 + 1) (31 * hi2 + Int32.toInt64 (f i2)) (by omega) (by omega) (by rw [hhi2, show 4 + (i2 + 1) = (4 + i2) + 1 by omega, hsh_s, show v12 ef np f (4 + i2) = f i2 by unfold v12; rw [if_neg (by omega), if_neg (by omega), show 4 + i2 - 4 = i2 by omega]]) _ _ (hP.sub [4, 0, 1, 2, 3] rfl) (hD.sub [4, 0, 1, 2, 3] (by decide) rfl) hS ls (lv_sub hl [1, 0] rfl)
        exact lo2 (8 + 1) 0 (31 * hi1 + Int32.toInt64 (nI np)) (by omega) (by omega) (by rw [hhi1, show i1 = 3 by omega]; exact (hsh_s _ _ 3).symm) _ _ (hP.sub [4, 0, 1, 2, 3] rfl) (hD.sub [4, 0, 1, 2, 3] (by decide) rfl) hS ls (lv_sub hl [1, 0] rfl)
      · have ncd1 : ¬ 3 ≤ i1 := fun h => cd1 ((nle (nl 3) rfl (by omega) (by omega)).mpr h)
        refine lv_aload_n (pc := 14) hx hb dX6_digest_14 rfl (lv_at hl 0 rfl) ?_
        refine lv_aload_n (pc := 15) hx hb dX6_digest_15 rfl (lv_at hl 0 rfl) ?_
        refine va_get (pc := 16) (D := D) (ci := 6) (v := .ref me) (C := RX6) (T := TX6) (N := 9) hx hb hts in_X6 hown hK.1 hP 0 rfl rfl 3 (by decide) (hts _ q577) (fun _ h9 => h9) rfl dX6_digest_16 ?_
        refine lv_iload_n (pc := 19) hx hb dX6_digest_19 rfl (lv_at hl 1 rfl) ?_
        refine ia_ld (pc := 20) hx hb hK.1 hP 3 0 i1 rfl rfl rfl (by omega) (Nat.le_of_ble_eq_true rfl) dX6_digest_20 ?_
        have hFc := awF (Lc := [mo]) hD hS hA [0] rfl
        refine kV (pc := 21) (va_runV (As := [.int (ef i1)]) (rest := []) ⟨hx, hb, hml, hown, hts⟩ (m6_add l mo ms mp me mn np iv lg fg hi1 (ef i1) H (hP.sub (ws' := [(mo, .inr (6, [.ref ms, .ref mp, .int (nI np), .ref me, .ref mn, .long iv, .long lg, .long fg, .long hi1]))]) [0] rfl)) (cwV 1 hts (lw_V q796 q798 qs19 q28 q799) rfl rfl rfl (by decide +kernel) ⟨Nat.le_of_ble_eq_true rfl, Nat.le_of_ble_eq_true rfl⟩) (preV hK (rcv hK hP 0 rfl rfl)) rfl rfl hl.1 rfl (lv_room (Nat.le_of_ble_eq_true rfl)) dX6_digest_21 ⟨Nat.le_of_ble_eq_true rfl, Nat.le_of_ble_eq_true rfl⟩) hS hFc (fun H locs hp9 hz1 hk1 hS => ?_)
        have hP1 := hp9
        obtain ⟨hP, hD⟩ := jn (wr := [(ms, .inl (g 0, 71, .inl f)), (mp, .inl (g 0, 284, .inl pa)), (me, .inl (g 0, 3, .inl ef)), (mn, .inl (g 1, 5, .inr (.inl nw)))]) (w1 := [(mo, .inr (6, [.ref ms, .ref mp, .int (nI np), .ref me, .ref mn, .long iv, .long lg, .long fg, .long (31 * hi1 + Int32.toInt64 (ef i1))]))]) hP hD [0] [1, 2, 3, 4] rfl rfl (by decide) (by decide) hk1 hFc hP1 (d1 (Or.inl (by simp)))
        have hP : va_P D vwCl [(ms, .inl (g 0, 71, .inl f)), (mp, .inl (g 0, 284, .inl pa)), (me, .inl (g 0, 3, .inl ef)), (mn, .inl (g 1, 5, .inr (.inl nw))), (mo, .inr (6, [.ref ms, .ref mp, .int (nI np), .ref me, .ref mn, .long iv, .long lg, .long fg, .long (31 * hi1 + Int32.toInt64 (ef i1))]))] H := hP
        have hD : va_D (Aw [mo, ms, mp, me, mn] s.heap.size) [(ms, .inl (g 0, 71, .inl f)), (mp, .inl (g 0, 284, .inl pa)), (me, .inl (g 0, 3, .inl ef)), (mn, .inl (g 1, 5, .inr (.inl nw))), (mo, .inr (6, [.ref ms, .ref mp, .int (nI np), .ref me, .ref mn, .long iv, .long lg, .long fg, .long (31 * hi1 + Int32.toInt64 (ef i1))]))] := hD
        obtain ⟨x17, ex17⟩ : ∃ y : Int32, y = (nI i1) + 1 := ⟨_, rfl⟩
        refine lv_iinc (pc := 24) (v := x17) (lv' := [(1, .int x17), (0, .ref mo)]) hx hb dX6_digest_24 hl (k := 1) rfl (by rw [ex17]; rfl) (by decide) rfl (fun ls hl => ?_)
        refine lv_goto (pc := 27) (tgt := 9) hx hb dX6_digest_27 (by decide) ?_
        rw [show x17 = nI (i1 + 1) from (ex17.trans (nadd rfl (nl 1)))] at hl
        exact ih  (i1 + 1) (31 * hi1 + Int32.toInt64 (ef i1)) (by omega) (by omega) (by rw [hhi1]; show _ = 31 * _ + Int32.toInt64 (v12 ef np f i1); rw [show v12 ef np f i1 = ef i1 from if_pos (by omega)]) _ _ (hP.sub [4, 0, 1, 2, 3] rfl) (hD.sub [4, 0, 1, 2, 3] (by decide) rfl) hS ls (lv_sub hl [1, 0] rfl)
  exact lo1 (3 + 1) 0 (12254) (by omega) (by omega) (hsh_0 _ _).symm _ _ hP hD hS ls (lv_sub hl [1, 0] rfl)

abbrev rm_m6_init : Room := ({ frames := 1, cells := 4, slots := 363, locals := 21 })
set_option maxHeartbeats 4000000 in
set_option maxRecDepth 100000 in
theorem m6_init (l : Launch) {D : va_G} {g : Nat → ClassId} (mo : Nat) (H : Heap) (hP : va_P D vwCl [(mo, .inr (6, [.null, .null, .int 0, .null, .null, .long 0, .long 0, .long 0, .long 0]))] H) : Met l yX6_init (ws_ yX6_init cX6_init 2 none) rm_m6_init (va_Pc [.ref mo] (PH D g H)) (QV (fun H1 => ∃ (ms mp me mn : Nat), va_P D vwCl [(mo, .inr (6, [.ref ms, .ref mp, .int 0, .ref me, .ref mn, .long 0, .long 0, .long 0, .long 0])), (ms, .inl (g 0, 71, .inl iniF)), (mp, .inl (g 0, 284, .inl (fun _ => 0))), (me, .inl (g 0, 3, .inl (fun _ => 0))), (mn, .inl (g 1, 5, .inr (.inl (fun _ => 0))))] H1 ∧ va_D (Aw [mo] H.size) [(mo, .inr (6, [.ref ms, .ref mp, .int 0, .ref me, .ref mn, .long 0, .long 0, .long 0, .long 0])), (ms, .inl (g 0, 71, .inl iniF)), (mp, .inl (g 0, 284, .inl (fun _ => 0))), (me, .inl (g 0, 3, .inl (fun _ => 0))), (mn, .inl (g 1, 5, .inr (.inl (fun _ => 0))))]) (Aw [mo] H.size)) 4 363 (Aw [mo] H.size) := by
  refine Met.ofW (cc := cX6_init) (maxL := 2) (ret := none) (by decide) rfl ?_
  intro p e s m args below meth c s₁ B hml hv
  obtain ⟨rfl, hH, hK⟩ := hv
  subst hH
  have hx := B.exec
  have hb := B.bytes
  have hr := B.returns
  have hts := atoms_spec (ws := ws_ yX6_init cX6_init 2 none) B.pre
  have hts : ∀ w ∈ lw_all, w.before _ s = true := fun w h => hts w (List.mem_cons_of_mem _ h)
  have hown : s.vm.findClass RX6 = some m.cls := findClass_of_methodNamed B.named
  have hlocks := B.notSynchronized
  have hin : meth.name = "<init>" := (name_of_methodNamed B.named B.method).1
  have hA : ∀ q, s.heap.size ≤ q → (Aw [mo] s.heap.size) q := fun q h => Or.inr h
  have hS : va_S (Aw [mo] s.heap.size) s.heap s.heap [] := va_S.rf
  have hD : va_D (Aw [mo] s.heap.size) [(mo, .inr (6, [.null, .null, .int 0, .null, .null, .long 0, .long 0, .long 0, .long 0]))] := d1 (Or.inl (by simp))
  have hl := lv_entry ([.ref mo]) (n := 2) (Nat.le_of_ble_eq_true rfl)
  rw [lg_entry_eq]
  generalize (lg_sl ([.ref mo]) ++ List.replicate (2 - (lg_sl ([.ref mo])).length) Slot.unset).toArray = ls at hl ⊢
  have hl : lv_has ls 2 [(0, .ref mo)] := hl
  refine lv_aload_n (pc := 0) hx hb dX6_init_0 rfl (lv_at hl 0 rfl) ?_
  refine W.objInit hx hb hown (hts _ q568) (hts _ q41) (hts _ q42) rfl (by rw [hml]; exact hl.1) rfl dX6_init_1 (Nat.le_of_ble_eq_true rfl) (Nat.le_of_ble_eq_true rfl) ?_
  refine W.eq (g2 := F0 m 4 ls []) rfl ?_
  refine lv_aload_n (pc := 4) hx hb dX6_init_4 rfl (lv_at hl 0 rfl) ?_
  refine lv_bipush (pc := 5) (v := 71) hx hb dX6_init_5 (by decide) ?_
  refine va_newa (pc := 7) (atype := .int) (ty := .int) (N' := 71) (a0 := (71, .inl (fun _ => 0))) hx hb (hts _ q191) rfl hK.1 hP hD hS hA (fun _ => rfl) (by decide) (by decide) (by decide) (Nat.le_of_ble_eq_true rfl) (Nat.le_of_ble_eq_true rfl) dX6_init_7 (fun q1 cA H hK9 hP hD hS => ?_)
  have hcA : cA = g 0 := ra_int (hK9.2 5 _ rfl).2 (hK.1.2 0 _ rfl).2
  subst hcA
  have hP : va_P D vwCl [(mo, .inr (6, [.null, .null, .int 0, .null, .null, .long 0, .long 0, .long 0, .long 0])), (q1, .inl (g 0, 71, .inl (fun _ => 0)))] H := hP
  have hD : va_D (Aw [mo] s.heap.size) [(mo, .inr (6, [.null, .null, .int 0, .null, .null, .long 0, .long 0, .long 0, .long 0])), (q1, .inl (g 0, 71, .inl (fun _ => 0)))] := hD
  refine va_putF (pc := 9) (D := D) (ci := 6) (v := .ref q1) (ty := .array .int) (C := RX6) (T := TX6) (N := 9) hx hb hts in_X6 tyX6 tyX6_ok nmX6 hown hK.1 hP hD hS 0 rfl rfl 0 (by decide) (hts _ q574) (fun _ h9 => h9) rfl hin rfl (by decide +kernel) rfl rfl (Nat.le_of_ble_eq_true rfl) dX6_init_9 (fun H locs hP hD hS => ?_)
  have hP : va_P D vwCl [(mo, .inr (6, [.ref q1, .null, .int 0, .null, .null, .long 0, .long 0, .long 0, .long 0])), (q1, .inl (g 0, 71, .inl (fun _ => 0)))] H := hP
  have hD : va_D (Aw [mo] s.heap.size) [(mo, .inr (6, [.ref q1, .null, .int 0, .null, .null, .long 0, .long 0, .long 0, .long 0])), (q1, .inl (g 0, 71, .inl (fun _ => 0)))] := hD
  refine lv_aload_n (pc := 12) hx hb dX6_init_12 rfl (lv_at hl 0 rfl) ?_
  refine lv_sipush (pc := 13) (v := 284) hx hb dX6_init_13 (by decide) ?_
  refine va_newa (pc := 16) (atype := .int) (ty := .int) (N' := 284) (a0 := (284, .inl (fun _ => 0))) hx hb (hts _ q191) rfl hK.1 hP hD hS hA (fun _ => rfl) (by decide) (by decide) (by decide) (Nat.le_of_ble_eq_true rfl) (Nat.le_of_ble_eq_true rfl) dX6_init_16 (fun q2 cA H hK9 hP hD hS => ?_)
  have hcA : cA = g 0 := ra_int (hK9.2 5 _ rfl).2 (hK.1.2 0 _ rfl).2
  subst hcA
  have hP : va_P D vwCl [(mo, .inr (6, [.ref q1, .null, .int 0, .null, .null, .long 0, .long 0, .long 0, .long 0])), (q1, .inl (g 0, 71, .inl (fun _ => 0))), (q2, .inl (g 0, 284, .inl (fun _ => 0)))] H := hP
  have hD : va_D (Aw [mo] s.heap.size) [(mo, .inr (6, [.ref q1, .null, .int 0, .null, .null, .long 0, .long 0, .long 0, .long 0])), (q1, .inl (g 0, 71, .inl (fun _ => 0))), (q2, .inl (g 0, 284, .inl (fun _ => 0)))] := hD
  refine va_putF (pc := 18) (D := D) (ci := 6) (v := .ref q2) (ty := .array .int) (C := RX6) (T := TX6) (N := 9) hx hb hts in_X6 tyX6 tyX6_ok nmX6 hown hK.1 hP hD hS 0 rfl rfl 1 (by decide) (hts _ q575) (fun _ h9 => h9) rfl hin rfl (by decide +kernel) rfl rfl (Nat.le_of_ble_eq_true rfl) dX6_init_18 (fun H locs hP hD hS => ?_)
  have hP : va_P D vwCl [(mo, .inr (6, [.ref q1, .ref q2, .int 0, .null, .null, .long 0, .long 0, .long 0, .long 0])), (q1, .inl (g 0, 71, .inl (fun _ => 0))), (q2, .inl (g 0, 284, .inl (fun _ => 0)))] H := hP
  have hD : va_D (Aw [mo] s.heap.size) [(mo, .inr (6, [.ref q1, .ref q2, .int 0, .null, .null, .long 0, .long 0, .long 0, .long 0])), (q1, .inl (g 0, 71, .inl (fun _ => 0))), (q2, .inl (g 0, 284, .inl (fun _ => 0)))] := hD
  refine lv_aload_n (pc := 21) hx hb dX6_init_21 rfl (lv_at hl 0 rfl) ?_
  refine lv_iconst (pc := 22) (v := 3) hx hb dX6_init_22 (by decide) ?_
  refine va_newa (pc := 23) (atype := .int) (ty := .int) (N' := 3) (a0 := (3, .inl (fun _ => 0))) hx hb (hts _ q191) rfl hK.1 hP hD hS hA (fun _ => rfl) (by decide) (by decide) (by decide) (Nat.le_of_ble_eq_true rfl) (Nat.le_of_ble_eq_true rfl) dX6_init_23 (fun q3 cA H hK9 hP hD hS => ?_)
  have hcA : cA = g 0 := ra_int (hK9.2 5 _ rfl).2 (hK.1.2 0 _ rfl).2
  subst hcA
  have hP : va_P D vwCl [(mo, .inr (6, [.ref q1, .ref q2, .int 0, .null, .null, .long 0, .long 0, .long 0, .long 0])), (q1, .inl (g 0, 71, .inl (fun _ => 0))), (q2, .inl (g 0, 284, .inl (fun _ => 0))), (q3, .inl (g 0, 3, .inl (fun _ => 0)))] H := hP
  have hD : va_D (Aw [mo] s.heap.size) [(mo, .inr (6, [.ref q1, .ref q2, .int 0, .null, .null, .long 0, .long 0, .long 0, .long 0])), (q1, .inl (g 0, 71, .inl (fun _ => 0))), (q2, .inl (g 0, 284, .inl (fun _ => 0))), (q3, .inl (g 0, 3, .inl (fun _ => 0)))] := hD
  refine va_putF (pc := 25) (D := D) (ci := 6) (v := .ref q3) (ty := .array .int) (C := RX6) (T := TX6) (N := 9) hx hb hts in_X6 tyX6 tyX6_ok nmX6 hown hK.1 hP hD hS 0 rfl rfl 3 (by decide) (hts _ q577) (fun _ h9 => h9) rfl hin rfl (by decide +kernel) rfl rfl (Nat.le_of_ble_eq_true rfl) dX6_init_25 (fun H locs hP hD hS => ?_)
  have hP : va_P D vwCl [(mo, .inr (6, [.ref q1, .ref q2, .int 0, .ref q3, .null, .long 0, .long 0, .long 0, .long 0])), (q1, .inl (g 0, 71, .inl (fun _ => 0))), (q2, .inl (g 0, 284, .inl (fun _ => 0))), (q3, .inl (g 0, 3, .inl (fun _ => 0)))] H := hP
  have hD : va_D (Aw [mo] s.heap.size) [(mo, .inr (6, [.ref q1, .ref q2, .int 0, .ref q3, .null, .long 0, .long 0, .long 0, .long 0])), (q1, .inl (g 0, 71, .inl (fun _ => 0))), (q2, .inl (g 0, 284, .inl (fun _ => 0))), (q3, .inl (g 0, 3, .inl (fun _ => 0)))] := hD
  refine lv_aload_n (pc := 28) hx hb dX6_init_28 rfl (lv_at hl 0 rfl) ?_
  refine lv_iconst (pc := 29) (v := 5) hx hb dX6_init_29 (by decide) ?_
  refine va_newa (pc := 30) (atype := .long) (ty := .long) (N' := 5) (a0 := (5, .inr (.inl (fun _ => 0)))) hx hb (hts _ q602) rfl hK.1 hP hD hS hA (fun _ => rfl) (by decide) (by decide) (by decide) (Nat.le_of_ble_eq_true rfl) (Nat.le_of_ble_eq_true rfl) dX6_init_30 (fun q4 cA H hK9 hP hD hS => ?_)
  have hcA : cA = g 1 := ra_long (hK9.2 5 _ rfl).2 (hK.1.2 1 _ rfl).2
  subst hcA
  have hP : va_P D vwCl [(mo, .inr (6, [.ref q1, .ref q2, .int 0, .ref q3, .null, .long 0, .long 0, .long 0, .long 0])), (q1, .inl (g 0, 71, .inl (fun _ => 0))), (q2, .inl (g 0, 284, .inl (fun _ => 0))), (q3, .inl (g 0, 3, .inl (fun _ => 0))), (q4, .inl (g 1, 5, .inr (.inl (fun _ => 0))))] H := hP
  have hD : va_D (Aw [mo] s.heap.size) [(mo, .inr (6, [.ref q1, .ref q2, .int 0, .ref q3, .null, .long 0, .long 0, .long 0, .long 0])), (q1, .inl (g 0, 71, .inl (fun _ => 0))), (q2, .inl (g 0, 284, .inl (fun _ => 0))), (q3, .inl (g 0, 3, .inl (fun _ => 0))), (q4, .inl (g 1, 5, .inr (.inl (fun _ => 0))))] := hD
  refine va_putF (pc := 32) (D := D) (ci := 6) (v := .ref q4) (ty := .array .long) (C := RX6) (T := TX6) (N := 9) hx hb hts in_X6 tyX6 tyX6_ok nmX6 hown hK.1 hP hD hS 0 rfl rfl 4 (by decide) (hts _ q578) (fun _ h9 => h9) rfl hin rfl (by decide +kernel) rfl rfl (Nat.le_of_ble_eq_true rfl) dX6_init_32 (fun H locs hP hD hS => ?_)
  have hP : va_P D vwCl [(mo, .inr (6, [.ref q1, .ref q2, .int 0, .ref q3, .ref q4, .long 0, .long 0, .long 0, .long 0])), (q1, .inl (g 0, 71, .inl (fun _ => 0))), (q2, .inl (g 0, 284, .inl (fun _ => 0))), (q3, .inl (g 0, 3, .inl (fun _ => 0))), (q4, .inl (g 1, 5, .inr (.inl (fun _ => 0))))] H := hP
  have hD : va_D (Aw [mo] s.heap.size) [(mo, .inr (6, [.ref q1, .ref q2, .int 0, .ref q3, .ref q4, .long 0, .long 0, .long 0, .long 0])), (q1, .inl (g 0, 71, .inl (fun _ => 0))), (q2, .inl (g 0, 284, .inl (fun _ => 0))), (q3, .inl (g 0, 3, .inl (fun _ => 0))), (q4, .inl (g 1, 5, .inr (.inl (fun _ => 0))))] := hD
  refine lv_aload_n (pc := 35) hx hb dX6_init_35 rfl (lv_at hl 0 rfl) ?_
  refine va_get (pc := 36) (D := D) (ci := 6) (v := .ref q1) (C := RX6) (T := TX6) (N := 9) hx hb hts in_X6 hown hK.1 hP 0 rfl rfl 0 (by decide) (hts _ q574) (fun _ h9 => h9) rfl dX6_init_36 ?_
  refine lv_iconst (pc := 39) (v := 2) hx hb dX6_init_39 (by decide) ?_
  refine lv_sipush (pc := 40) (v := 4096) hx hb dX6_init_40 (by decide) ?_
  refine ia_st (pc := 43) (f' := (upd (fun _ => 0) 2 4096)) hx hb hK.1 hP hD hS 1 0 2 rfl rfl (nl 2) (Nat.le_of_ble_eq_true rfl) (Nat.le_of_ble_eq_true rfl) (fun _ _ => rfl) dX6_init_43 (fun H locs hP hD hS => ?_)
  have hP : va_P D vwCl [(mo, .inr (6, [.ref q1, .ref q2, .int 0, .ref q3, .ref q4, .long 0, .long 0, .long 0, .long 0])), (q1, .inl (g 0, 71, .inl (upd (fun _ => 0) 2 4096))), (q2, .inl (g 0, 284, .inl (fun _ => 0))), (q3, .inl (g 0, 3, .inl (fun _ => 0))), (q4, .inl (g 1, 5, .inr (.inl (fun _ => 0))))] H := hP
  have hD : va_D (Aw [mo] s.heap.size) [(mo, .inr (6, [.ref q1, .ref q2, .int 0, .ref q3, .ref q4, .long 0, .long 0, .long 0, .long 0])), (q1, .inl (g 0, 71, .inl (upd (fun _ => 0) 2 4096))), (q2, .inl (g 0, 284, .inl (fun _ => 0))), (q3, .inl (g 0, 3, .inl (fun _ => 0))), (q4, .inl (g 1, 5, .inr (.inl (fun _ => 0))))] := hD
  refine lv_aload_n (pc := 44) hx hb dX6_init_44 rfl (lv_at hl 0 rfl) ?_
  refine va_get (pc := 45) (D := D) (ci := 6) (v := .ref q1) (C := RX6) (T := TX6) (N := 9) hx hb hts in_X6 hown hK.1 hP 0 rfl rfl 0 (by decide) (hts _ q574) (fun _ h9 => h9) rfl dX6_init_45 ?_
  refine lv_iconst (pc := 48) (v := 4) hx hb dX6_init_48 (by decide) ?_
  refine lv_sipush (pc := 49) (v := 4096) hx hb dX6_init_49 (by decide) ?_
  refine ia_st (pc := 52) (f' := (upd (upd (fun _ => 0) 2 4096) 4 4096)) hx hb hK.1 hP hD hS 1 0 4 rfl rfl (nl 4) (Nat.le_of_ble_eq_true rfl) (Nat.le_of_ble_eq_true rfl) (fun _ _ => rfl) dX6_init_52 (fun H locs hP hD hS => ?_)
  have hP : va_P D vwCl [(mo, .inr (6, [.ref q1, .ref q2, .int 0, .ref q3, .ref q4, .long 0, .long 0, .long 0, .long 0])), (q1, .inl (g 0, 71, .inl (upd (upd (fun _ => 0) 2 4096) 4 4096))), (q2, .inl (g 0, 284, .inl (fun _ => 0))), (q3, .inl (g 0, 3, .inl (fun _ => 0))), (q4, .inl (g 1, 5, .inr (.inl (fun _ => 0))))] H := hP
  have hD : va_D (Aw [mo] s.heap.size) [(mo, .inr (6, [.ref q1, .ref q2, .int 0, .ref q3, .ref q4, .long 0, .long 0, .long 0, .long 0])), (q1, .inl (g 0, 71, .inl (upd (upd (fun _ => 0) 2 4096) 4 4096))), (q2, .inl (g 0, 284, .inl (fun _ => 0))), (q3, .inl (g 0, 3, .inl (fun _ => 0))), (q4, .inl (g 1, 5, .inr (.inl (fun _ => 0))))] := hD
  refine lv_aload_n (pc := 53) hx hb dX6_init_53 rfl (lv_at hl 0 rfl) ?_
  refine va_get (pc := 54) (D := D) (ci := 6) (v := .ref q1) (C := RX6) (T := TX6) (N := 9) hx hb hts in_X6 hown hK.1 hP 0 rfl rfl 0 (by decide) (hts _ q574) (fun _ h9 => h9) rfl dX6_init_54 ?_
  refine lv_bipush (pc := 57) (v := 6) hx hb dX6_init_57 (by decide) ?_
  refine lv_bipush (pc := 59) (v := 64) hx hb dX6_init_59 (by decide) ?_
  refine ia_st (pc := 61) (f' := (upd (upd (upd (fun _ => 0) 2 4096) 4 4096) 6 64)) hx hb hK.1 hP hD hS 1 0 6 rfl rfl (nl 6) (Nat.le_of_ble_eq_true rfl) (Nat.le_of_ble_eq_true rfl) (fun _ _ => rfl) dX6_init_61 (fun H locs hP hD hS => ?_)
  have hP : va_P D vwCl [(mo, .inr (6, [.ref q1, .ref q2, .int 0, .ref q3, .ref q4, .long 0, .long 0, .long 0, .long 0])), (q1, .inl (g 0, 71, .inl (upd (upd (upd (fun _ => 0) 2 4096) 4 4096) 6 64))), (q2, .inl (g 0, 284, .inl (fun _ => 0))), (q3, .inl (g 0, 3, .inl (fun _ => 0))), (q4, .inl (g 1, 5, .inr (.inl (fun _ => 0))))] H := hP
  have hD : va_D (Aw [mo] s.heap.size) [(mo, .inr (6, [.ref q1, .ref q2, .int 0, .ref q3, .ref q4, .long 0, .long 0, .long 0, .long 0])), (q1, .inl (g 0, 71, .inl (upd (upd (upd (fun _ => 0) 2 4096) 4 4096) 6 64))), (q2, .inl (g 0, 284, .inl (fun _ => 0))), (q3, .inl (g 0, 3, .inl (fun _ => 0))), (q4, .inl (g 1, 5, .inr (.inl (fun _ => 0))))] := hD
  refine lv_aload_n (pc := 62) hx hb dX6_init_62 rfl (lv_at hl 0 rfl) ?_
  refine va_get (pc := 63) (D := D) (ci := 6) (v := .ref q1) (C := RX6) (T := TX6) (N := 9) hx hb hts in_X6 hown hK.1 hP 0 rfl rfl 0 (by decide) (hts _ q574) (fun _ h9 => h9) rfl dX6_init_63 ?_
  refine lv_bipush (pc := 66) (v := 7) hx hb dX6_init_66 (by decide) ?_
  refine lv_bipush (pc := 68) (v := 9) hx hb dX6_init_68 (by decide) ?_
  refine ia_st (pc := 70) (f' := (inK 0)) hx hb hK.1 hP hD hS 1 0 7 rfl rfl (nl 7) (Nat.le_of_ble_eq_true rfl) (Nat.le_of_ble_eq_true rfl) (fun j _ => in_base j) dX6_init_70 (fun H locs hP hD hS => ?_)
  have hP : va_P D vwCl [(mo, .inr (6, [.ref q1, .ref q2, .int 0, .ref q3, .ref q4, .long 0, .long 0, .long 0, .long 0])), (q1, .inl (g 0, 71, .inl (inK 0))), (q2, .inl (g 0, 284, .inl (fun _ => 0))), (q3, .inl (g 0, 3, .inl (fun _ => 0))), (q4, .inl (g 1, 5, .inr (.inl (fun _ => 0))))] H := hP
  have hD : va_D (Aw [mo] s.heap.size) [(mo, .inr (6, [.ref q1, .ref q2, .int 0, .ref q3, .ref q4, .long 0, .long 0, .long 0, .long 0])), (q1, .inl (g 0, 71, .inl (inK 0))), (q2, .inl (g 0, 284, .inl (fun _ => 0))), (q3, .inl (g 0, 3, .inl (fun _ => 0))), (q4, .inl (g 1, 5, .inr (.inl (fun _ => 0))))] := hD
  refine lv_iconst (pc := 71) (v := 0) hx hb dX6_init_71 (by decide) ?_
  refine lv_istore_n (pc := 72) (lv' := [(1, .int 0), (0, .ref mo)]) hx hb dX6_init_72 rfl hl (by decide) rfl (fun ls hl => ?_)
  have loop : ∀ (n : Nat) (i : Nat), (i ≤ 4) → (5 ≤ i + n) → ∀ (H : Heap) (locs : List Loc), va_P D vwCl [(mo, .inr (6, [.ref q1, .ref q2, .int 0, .ref q3, .ref q4, .long 0, .long 0, .long 0, .long 0])), (q1, .inl (g 0, 71, .inl (inK i))), (q2, .inl (g 0, 284, .inl (fun _ => 0))), (q3, .inl (g 0, 3, .inl (fun _ => 0))), (q4, .inl (g 1, 5, .inr (.inl (fun _ => 0))))] H → va_D (Aw [mo] s.heap.size) [(mo, .inr (6, [.ref q1, .ref q2, .int 0, .ref q3, .ref q4, .long 0, .long 0, .long 0, .long 0])), (q1, .inl (g 0, 71, .inl (inK i))), (q2, .inl (g 0, 284, .inl (fun _ => 0))), (q3, .inl (g 0, 3, .inl (fun _ => 0))), (q4, .inl (g 1, 5, .inr (.inl (fun _ => 0))))] → va_S (Aw [mo] s.heap.size) s.heap H locs → ∀ (ls : Array Slot), lv_has ls 2 [(0, .ref mo), (1, .int (nI i))] → W p l e (headSpec (ws_ yX6_init cX6_init 2 none) rm_m6_init).room s m ([.ref mo] : List Value).toArray below meth c H locs 4 363 (MQ below (QV (fun H1 => ∃ (ms mp me mn : Nat), va_P D vwCl [(mo, .inr (6, [.ref ms, .ref mp, .int 0, .ref me, .ref mn, .long 0, .long 0, .long 0, .long 0])), (ms, .inl (g 0, 71, .inl iniF)), (mp, .inl (g 0, 284, .inl (fun _ => 0))), (me, .inl (g 0, 3, .inl (fun _ => 0))), (mn, .inl (g 1, 5, .inr (.inl (fun _ => 0))))] H1 ∧ va_D (Aw [mo] s.heap.size) [(mo, .inr (6, [.ref ms, .ref mp, .int 0, .ref me, .ref mn, .long 0, .long 0, .long 0, .long 0])), (ms, .inl (g 0, 71, .inl iniF)), (mp, .inl (g 0, 284, .inl (fun _ => 0))), (me, .inl (g 0, 3, .inl (fun _ => 0))), (mn, .inl (g 1, 5, .inr (.inl (fun _ => 0))))]) (Aw [mo] s.heap.size)) ([.ref mo] : List Value).toArray s 4 363 (Aw [mo] s.heap.size)) (F0 m 73 ls []) := by
    intro n
    induction n with
    | zero =>
      intro i hi hfu
      exact absurd (show _ by assumption) (by omega)
    | succ n ih =>
      intro i hi hfu H locs hP hD hS ls hl
      refine lv_iload_n (pc := 73) hx hb dX6_init_73 rfl (lv_at hl 1 rfl) ?_
      refine lv_iconst (pc := 74) (v := 4) hx hb dX6_init_74 (by decide) ?_
      refine lv_icmp_ge (pc := 75) (tgt := 96) hx hb dX6_init_75 (by decide) (fun cd5 => ?_) (fun cd5 => ?_)
      · have ncd5 : 4 ≤ i := (nle (nl 4) rfl (by omega) (by omega)).mp cd5
        refine lv_aload_n (pc := 96) hx hb dX6_init_96 rfl (lv_at hl 0 rfl) ?_
        have hi9 : i = 4 := by omega
        subst hi9
        have hFc := awF (Lc := [q1]) hD hS hA [1] rfl
        refine kV (pc := 97) (va_runV (As := []) (rest := []) ⟨hx, hb, hml, hown, hts⟩ (m6_forget l mo q1 q2 q3 q4 0 0 0 0 0 (inK 4) H (hP.sub (ws' := [(q1, .inl (g 0, 71, .inl (inK 4)))]) [1] rfl) (hP.sub (ws' := [(mo, .inr (6, [.ref q1, .ref q2, .int 0, .ref q3, .ref q4, .long 0, .long 0, .long 0, .long 0]))]) [0] rfl) (ninW hD 0 [1] rfl rfl (by decide))) (cwV 0 hts (lw_V q569 q571 qs7 q28 q572) rfl rfl rfl (by decide +kernel) ⟨Nat.le_of_ble_eq_true rfl, Nat.le_of_ble_eq_true rfl⟩) (preV hK (rcv hK hP 0 rfl rfl)) rfl rfl hl.1 rfl (lv_room (Nat.le_of_ble_eq_true rfl)) dX6_init_97 ⟨Nat.le_of_ble_eq_true rfl, Nat.le_of_ble_eq_true rfl⟩) hS hFc (fun H locs hp9 hz1 hk1 hS => ?_)
        have hP1 := hp9
        obtain ⟨hP, hD⟩ := jn (wr := [(mo, .inr (6, [.ref q1, .ref q2, .int 0, .ref q3, .ref q4, .long 0, .long 0, .long 0, .long 0])), (q2, .inl (g 0, 284, .inl (fun _ => 0))), (q3, .inl (g 0, 3, .inl (fun _ => 0))), (q4, .inl (g 1, 5, .inr (.inl (fun _ => 0))))]) (w1 := [(q1, .inl (g 0, 71, .inl (fgK (inK 4) 71)))]) hP hD [1] [0, 2, 3, 4] rfl rfl (by decide) (by decide) hk1 hFc hP1 (d1 (Or.inl (by simp)))
        have hP : va_P D vwCl [(mo, .inr (6, [.ref q1, .ref q2, .int 0, .ref q3, .ref q4, .long 0, .long 0, .long 0, .long 0])), (q2, .inl (g 0, 284, .inl (fun _ => 0))), (q3, .inl (g 0, 3, .inl (fun _ => 0))), (q4, .inl (g 1, 5, .inr (.inl (fun _ => 0)))), (q1, .inl (g 0, 71, .inl (fgK (inK 4) 71)))] H := hP
        have hD : va_D (Aw [mo] s.heap.size) [(mo, .inr (6, [.ref q1, .ref q2, .int 0, .ref q3, .ref q4, .long 0, .long 0, .long 0, .long 0])), (q2, .inl (g 0, 284, .inl (fun _ => 0))), (q3, .inl (g 0, 3, .inl (fun _ => 0))), (q4, .inl (g 1, 5, .inr (.inl (fun _ => 0)))), (q1, .inl (g 0, 71, .inl (fgK (inK 4) 71)))] := hD
        have hq9 : (fun H1 => ∃ (ms mp me mn : Nat), va_P D vwCl [(mo, .inr (6, [.ref ms, .ref mp, .int 0, .ref me, .ref mn, .long 0, .long 0, .long 0, .long 0])), (ms, .inl (g 0, 71, .inl iniF)), (mp, .inl (g 0, 284, .inl (fun _ => 0))), (me, .inl (g 0, 3, .inl (fun _ => 0))), (mn, .inl (g 1, 5, .inr (.inl (fun _ => 0))))] H1 ∧ va_D (Aw [mo] s.heap.size) [(mo, .inr (6, [.ref ms, .ref mp, .int 0, .ref me, .ref mn, .long 0, .long 0, .long 0, .long 0])), (ms, .inl (g 0, 71, .inl iniF)), (mp, .inl (g 0, 284, .inl (fun _ => 0))), (me, .inl (g 0, 3, .inl (fun _ => 0))), (mn, .inl (g 1, 5, .inr (.inl (fun _ => 0))))] : Heap → Prop) H := ⟨q1, q2, q3, q4, (hP.sub [0, 4, 1, 2, 3] rfl).exI 1 rfl (fun j hj => in_fin hj), (hD.sub (ws' := [(mo, .inr (6, [.ref q1, .ref q2, .int 0, .ref q3, .ref q4, .long 0, .long 0, .long 0, .long 0])), (q1, .inl (g 0, 71, .inl (fgK (inK 4) 71))), (q2, .inl (g 0, 284, .inl (fun _ => 0))), (q3, .inl (g 0, 3, .inl (fun _ => 0))), (q4, .inl (g 1, 5, .inr (.inl (fun _ => 0))))]) [0, 4, 1, 2, 3] (by decide) rfl).exD 1 rfl⟩
        exact W.vret hx hb hr (fun t ht hW => ⟨⟨rfl, by rw [ht]; exact hq9⟩, hS.F ht⟩) hS.2.2 dX6_init_100
      · have ncd5 : ¬ 4 ≤ i := fun h => cd5 ((nle (nl 4) rfl (by omega) (by omega)).mpr h)
        refine lv_aload_n (pc := 78) hx hb dX6_init_78 rfl (lv_at hl 0 rfl) ?_
        refine va_get (pc := 79) (D := D) (ci := 6) (v := .ref q1) (C := RX6) (T := TX6) (N := 9) hx hb hts in_X6 hown hK.1 hP 0 rfl rfl 0 (by decide) (hts _ q574) (fun _ h9 => h9) rfl dX6_init_79 ?_
        refine lv_bipush (pc := 82) (v := 12) hx hb dX6_init_82 (by decide) ?_
        refine lv_iload_n (pc := 84) hx hb dX6_init_84 rfl (lv_at hl 1 rfl) ?_
        refine lv_iadd (pc := 85) hx hb dX6_init_85 ?_
        refine lv_sipush (pc := 86) (v := 4096) hx hb dX6_init_86 (by decide) ?_
        refine ia_st (pc := 89) (f' := (inK (i + 1))) hx hb hK.1 hP hD hS 1 0 (12 + i) rfl rfl (nadd (nl 12) rfl) (by omega) (Nat.le_of_ble_eq_true rfl) (fun j _ => in_step (by omega)) dX6_init_89 (fun H locs hP hD hS => ?_)
        have hP : va_P D vwCl [(mo, .inr (6, [.ref q1, .ref q2, .int 0, .ref q3, .ref q4, .long 0, .long 0, .long 0, .long 0])), (q1, .inl (g 0, 71, .inl (inK (i + 1)))), (q2, .inl (g 0, 284, .inl (fun _ => 0))), (q3, .inl (g 0, 3, .inl (fun _ => 0))), (q4, .inl (g 1, 5, .inr (.inl (fun _ => 0))))] H := hP
        have hD : va_D (Aw [mo] s.heap.size) [(mo, .inr (6, [.ref q1, .ref q2, .int 0, .ref q3, .ref q4, .long 0, .long 0, .long 0, .long 0])), (q1, .inl (g 0, 71, .inl (inK (i + 1)))), (q2, .inl (g 0, 284, .inl (fun _ => 0))), (q3, .inl (g 0, 3, .inl (fun _ => 0))), (q4, .inl (g 1, 5, .inr (.inl (fun _ => 0))))] := hD
        obtain ⟨x7, ex7⟩ : ∃ y : Int32, y = (nI i) + 1 := ⟨_, rfl⟩
        refine lv_iinc (pc := 90) (v := x7) (lv' := [(1, .int x7), (0, .ref mo)]) hx hb dX6_init_90 hl (k := 1) rfl (by rw [ex7]; rfl) (by decide) rfl (fun ls hl => ?_)
        refine lv_goto (pc := 93) (tgt := 73) hx hb dX6_init_93 (by decide) ?_
        rw [show x7 = nI (i + 1) from (ex7.trans (nadd rfl (nl 1)))] at hl
        exact ih  (i + 1) (by omega) (by omega) _ _ hP hD hS ls (lv_sub hl [1, 0] rfl)
  exact loop 5 0 (by omega) (by omega) _ _ hP hD hS ls (lv_sub hl [1, 0] rfl)
