abbrev rm_m6_predicts : Room := ({ frames := 1, cells := 0, slots := 0, locals := 21 })
set_option maxHeartbeats 4000000 in
set_option maxRecDepth 100000 in
/-- predicts -/
theorem m6_predicts (l : Launch) {D : va_G} {g : Nat → ClassId} (mo ms mp me mn np : Nat) (iv lg fg hv : Int64) (f u : Nat → Int32) (i w : Int32) (H : Heap) (hP : va_P D vwCl [(mn, .inl (g 1, 5, .inr (.inl (e64 u))))] H) (hmo : va_P D vwCl [(mo, .inr (6, [.ref ms, .ref mp, .int (nI np), .ref me, .ref mn, .long iv, .long lg, .long fg, .long hv]))] H) (nhmo : mo ∉ [mn]) (hms : va_P D vwCl [(ms, .inl (g 0, 71, .inl f))] H) (nhms : ms ∉ [mn]) : Met l yX6_predicts (ws_ yX6_predicts cX6_predicts 11 (some .boolean)) rm_m6_predicts (va_Pc [.ref mo, .int i, .int w] (PH D g H)) (QI (fun r H1 => (pOK (e64 u) i.toInt64 (f 5).toInt64 w.toInt64 ∧ r = 1 ∧ va_P D vwCl [(mn, .inl (g 1, 5, .inr (.inl (e64 (pE u i (f 5) w)))))] H1) ∨ (¬ pOK (e64 u) i.toInt64 (f 5).toInt64 w.toInt64 ∧ r = 0 ∧ va_P D vwCl [(mn, .inl (g 1, 5, .inr (.inl (e64 u))))] H1)) (Aw [mn] H.size)) 0 0 (Aw [mn] H.size) := by
  refine Met.ofW (cc := cX6_predicts) (maxL := 11) (ret := (some .boolean)) (by decide) rfl ?_
  intro p e s m args below meth c s₁ B hml hv
  obtain ⟨rfl, hH, hK⟩ := hv
  subst hH
  have hx := B.exec
  have hb := B.bytes
  have hr := B.returns
  have hts := atoms_spec (ws := ws_ yX6_predicts cX6_predicts 11 (some .boolean)) B.pre
  have hts : ∀ w ∈ lw_all, w.before _ s = true := fun w h => hts w (List.mem_cons_of_mem _ h)
  have hown : s.vm.findClass RX6 = some m.cls := findClass_of_methodNamed B.named
  have hlocks := B.notSynchronized
  have hA : ∀ q, s.heap.size ≤ q → (Aw [mn] s.heap.size) q := fun q h => Or.inr h
  have hS : va_S (Aw [mn] s.heap.size) s.heap s.heap [] := va_S.rf
  have hD : va_D (Aw [mn] s.heap.size) [(mn, .inl (g 1, 5, .inr (.inl (e64 u))))] := d1 (Or.inl (by simp))
  have ahmo : ¬ (Aw [mn] s.heap.size) mo := naw nhmo (hmo 0 _ rfl).lt
  have ahms : ¬ (Aw [mn] s.heap.size) ms := naw nhms (hms 0 _ rfl).lt
  have hl := lv_entry ([.ref mo, .int i, .int w]) (n := 11) (Nat.le_of_ble_eq_true rfl)
  rw [lg_entry_eq]
  generalize (lg_sl ([.ref mo, .int i, .int w]) ++ List.replicate (11 - (lg_sl ([.ref mo, .int i, .int w])).length) Slot.unset).toArray = ls at hl ⊢
  have hl : lv_has ls 11 [(0, .ref mo), (1, .int i), (2, .int w)] := hl
  refine lv_aload_n (pc := 0) hx hb dX6_predicts_0 rfl (lv_at hl 0 rfl) ?_
  refine va_get (pc := 1) (D := D) (ci := 6) (v := .ref mn) (C := RX6) (T := TX6) (N := 9) hx hb hts in_X6 hown hK.1 hmo 0 rfl rfl 4 (by decide) (hts _ q578) (fun _ h9 => h9) rfl dX6_predicts_1 ?_
  refine lv_iconst (pc := 4) (v := 0) hx hb dX6_predicts_4 (by decide) ?_
  refine la_ld (pc := 5) hx hb hK.1 hP 0 1 0 rfl rfl (nl 0) (Nat.le_of_ble_eq_true rfl) (Nat.le_of_ble_eq_true rfl) dX6_predicts_5 ?_
  refine lv_aload_n (pc := 6) hx hb dX6_predicts_6 rfl (lv_at hl 0 rfl) ?_
  refine va_get (pc := 7) (D := D) (ci := 6) (v := .ref mn) (C := RX6) (T := TX6) (N := 9) hx hb hts in_X6 hown hK.1 hmo 0 rfl rfl 4 (by decide) (hts _ q578) (fun _ h9 => h9) rfl dX6_predicts_7 ?_
  refine lv_iconst (pc := 10) (v := 1) hx hb dX6_predicts_10 (by decide) ?_
  refine la_ld (pc := 11) hx hb hK.1 hP 0 1 1 rfl rfl (nl 1) (Nat.le_of_ble_eq_true rfl) (Nat.le_of_ble_eq_true rfl) dX6_predicts_11 ?_
  refine lv_ladd (pc := 12) hx hb dX6_predicts_12 ?_
  refine lv_iload_n (pc := 13) hx hb dX6_predicts_13 rfl (lv_at hl 1 rfl) ?_
  refine lv_i2l (pc := 14) hx hb dX6_predicts_14 rfl ?_
  refine lv_ladd (pc := 15) hx hb dX6_predicts_15 ?_
  refine lv_topl (fun z1 ez1 => ?_)
  refine lv_lstore_n (pc := 16) (lv' := [(3, .long z1), (0, .ref mo), (1, .int i), (2, .int w)]) hx hb dX6_predicts_16 rfl hl (by decide) rfl (fun ls hl => ?_)
  refine lv_aload_n (pc := 17) hx hb dX6_predicts_17 rfl (lv_at hl 1 rfl) ?_
  refine va_get (pc := 18) (D := D) (ci := 6) (v := .ref mn) (C := RX6) (T := TX6) (N := 9) hx hb hts in_X6 hown hK.1 hmo 0 rfl rfl 4 (by decide) (hts _ q578) (fun _ h9 => h9) rfl dX6_predicts_18 ?_
  refine lv_iconst (pc := 21) (v := 2) hx hb dX6_predicts_21 (by decide) ?_
  refine la_ld (pc := 22) hx hb hK.1 hP 0 1 2 rfl rfl (nl 2) (Nat.le_of_ble_eq_true rfl) (Nat.le_of_ble_eq_true rfl) dX6_predicts_22 ?_
  refine lv_ldc2 (pc := 23) (v := 2) hx hb hown (hts _ q650) dX6_predicts_23 ?_
  refine lv_aload_n (pc := 26) hx hb dX6_predicts_26 rfl (lv_at hl 1 rfl) ?_
  refine va_get (pc := 27) (D := D) (ci := 6) (v := .ref mn) (C := RX6) (T := TX6) (N := 9) hx hb hts in_X6 hown hK.1 hmo 0 rfl rfl 4 (by decide) (hts _ q578) (fun _ h9 => h9) rfl dX6_predicts_27 ?_
  refine lv_iconst (pc := 30) (v := 3) hx hb dX6_predicts_30 (by decide) ?_
  refine la_ld (pc := 31) hx hb hK.1 hP 0 1 3 rfl rfl (nl 3) (Nat.le_of_ble_eq_true rfl) (Nat.le_of_ble_eq_true rfl) dX6_predicts_31 ?_
  refine lv_lmul (pc := 32) hx hb dX6_predicts_32 ?_
  refine lv_ladd (pc := 33) hx hb dX6_predicts_33 ?_
  refine lv_aload_n (pc := 34) hx hb dX6_predicts_34 rfl (lv_at hl 1 rfl) ?_
  refine va_get (pc := 35) (D := D) (ci := 6) (v := .ref mn) (C := RX6) (T := TX6) (N := 9) hx hb hts in_X6 hown hK.1 hmo 0 rfl rfl 4 (by decide) (hts _ q578) (fun _ h9 => h9) rfl dX6_predicts_35 ?_
  refine lv_iconst (pc := 38) (v := 4) hx hb dX6_predicts_38 (by decide) ?_
  refine la_ld (pc := 39) hx hb hK.1 hP 0 1 4 rfl rfl (nl 4) (Nat.le_of_ble_eq_true rfl) (Nat.le_of_ble_eq_true rfl) dX6_predicts_39 ?_
  refine lv_ladd (pc := 40) hx hb dX6_predicts_40 ?_
  refine lv_aload_n (pc := 41) hx hb dX6_predicts_41 rfl (lv_at hl 1 rfl) ?_
  refine va_get (pc := 42) (D := D) (ci := 6) (v := .ref ms) (C := RX6) (T := TX6) (N := 9) hx hb hts in_X6 hown hK.1 hmo 0 rfl rfl 0 (by decide) (hts _ q574) (fun _ h9 => h9) rfl dX6_predicts_42 ?_
  refine lv_iconst (pc := 45) (v := 5) hx hb dX6_predicts_45 (by decide) ?_
  refine ia_ld (pc := 46) hx hb hK.1 hms 0 0 5 rfl rfl (nl 5) (Nat.le_of_ble_eq_true rfl) (Nat.le_of_ble_eq_true rfl) dX6_predicts_46 ?_
  refine lv_i2l (pc := 47) hx hb dX6_predicts_47 rfl ?_
  refine lv_ladd (pc := 48) hx hb dX6_predicts_48 ?_
  refine lv_topl (fun z2 ez2 => ?_)
  refine lv_lstore (pc := 49) (lv' := [(5, .long z2), (3, .long z1), (0, .ref mo), (1, .int i), (2, .int w)]) hx hb dX6_predicts_49 hl (by decide) rfl (fun ls hl => ?_)
  refine lv_aload_n (pc := 51) hx hb dX6_predicts_51 rfl (lv_at hl 2 rfl) ?_
  refine va_get (pc := 52) (D := D) (ci := 6) (v := .ref mn) (C := RX6) (T := TX6) (N := 9) hx hb hts in_X6 hown hK.1 hmo 0 rfl rfl 4 (by decide) (hts _ q578) (fun _ h9 => h9) rfl dX6_predicts_52 ?_
  refine lv_iconst (pc := 55) (v := 3) hx hb dX6_predicts_55 (by decide) ?_
  refine la_ld (pc := 56) hx hb hK.1 hP 0 1 3 rfl rfl (nl 3) (Nat.le_of_ble_eq_true rfl) (Nat.le_of_ble_eq_true rfl) dX6_predicts_56 ?_
  refine lv_aload_n (pc := 57) hx hb dX6_predicts_57 rfl (lv_at hl 2 rfl) ?_
  refine va_get (pc := 58) (D := D) (ci := 6) (v := .ref mn) (C := RX6) (T := TX6) (N := 9) hx hb hts in_X6 hown hK.1 hmo 0 rfl rfl 4 (by decide) (hts _ q578) (fun _ h9 => h9) rfl dX6_predicts_58 ?_
  refine lv_iconst (pc := 61) (v := 4) hx hb dX6_predicts_61 (by decide) ?_
  refine la_ld (pc := 62) hx hb hK.1 hP 0 1 4 rfl rfl (nl 4) (Nat.le_of_ble_eq_true rfl) (Nat.le_of_ble_eq_true rfl) dX6_predicts_62 ?_
  refine lv_ladd (pc := 63) hx hb dX6_predicts_63 ?_
  refine lv_topl (fun z3 ez3 => ?_)
  refine lv_lstore (pc := 64) (lv' := [(7, .long z3), (5, .long z2), (3, .long z1), (0, .ref mo), (1, .int i), (2, .int w)]) hx hb dX6_predicts_64 hl (by decide) rfl (fun ls hl => ?_)
  refine lv_aload_n (pc := 66) hx hb dX6_predicts_66 rfl (lv_at hl 3 rfl) ?_
  refine va_get (pc := 67) (D := D) (ci := 6) (v := .ref mn) (C := RX6) (T := TX6) (N := 9) hx hb hts in_X6 hown hK.1 hmo 0 rfl rfl 4 (by decide) (hts _ q578) (fun _ h9 => h9) rfl dX6_predicts_67 ?_
  refine lv_iconst (pc := 70) (v := 4) hx hb dX6_predicts_70 (by decide) ?_
  refine la_ld (pc := 71) hx hb hK.1 hP 0 1 4 rfl rfl (nl 4) (Nat.le_of_ble_eq_true rfl) (Nat.le_of_ble_eq_true rfl) dX6_predicts_71 ?_
  refine lv_iload_n (pc := 72) hx hb dX6_predicts_72 rfl (lv_at hl 5 rfl) ?_
  refine lv_i2l (pc := 73) hx hb dX6_predicts_73 rfl ?_
  refine lv_ladd (pc := 74) hx hb dX6_predicts_74 ?_
  refine lv_topl (fun z4 ez4 => ?_)
  refine lv_lstore (pc := 75) (lv' := [(9, .long z4), (7, .long z3), (5, .long z2), (3, .long z1), (0, .ref mo), (1, .int i), (2, .int w)]) hx hb dX6_predicts_75 hl (by decide) rfl (fun ls hl => ?_)
  have hw3 : z1 = pX (e64 u) i.toInt64 := ez1
  have hw7 : z3 = pB (e64 u) := ez3
  have hw9 : z4 = pC (e64 u) w.toInt64 := ez4
  have cut : ∀ (a9 : Int64), (a9 = pA (e64 u) (f 5).toInt64) → ∀ (ls : Array Slot), lv_has ls 11 [(0, .ref mo), (3, .long z1), (5, .long a9), (7, .long z3), (9, .long z4)] → W p l e (headSpec (ws_ yX6_predicts cX6_predicts 11 (some .boolean)) rm_m6_predicts).room s m ([.ref mo, .int i, .int w] : List Value).toArray below meth c s.heap [] 0 0 (MQ below (QI (fun r H1 => (pOK (e64 u) i.toInt64 (f 5).toInt64 w.toInt64 ∧ r = 1 ∧ va_P D vwCl [(mn, .inl (g 1, 5, .inr (.inl (e64 (pE u i (f 5) w)))))] H1) ∨ (¬ pOK (e64 u) i.toInt64 (f 5).toInt64 w.toInt64 ∧ r = 0 ∧ va_P D vwCl [(mn, .inl (g 1, 5, .inr (.inl (e64 u))))] H1)) (Aw [mn] s.heap.size)) ([.ref mo, .int i, .int w] : List Value).toArray s 0 0 (Aw [mn] s.heap.size)) (F0 m 92 ls []) := by
    intro a9 ha9 ls hl
    refine lv_lload_n (pc := 92) hx hb dX6_predicts_92 rfl (lv_at hl 1 rfl) ?_
    refine kIp (pc := 93) (va_runS (As := [.long z1]) (rest := []) ⟨hx, hb, hml, hown, hts⟩ (m6_isIn l z1 s.heap) (va_cwS 1 hts (lw_S q651 q652 q28 q653) rfl rfl rfl (by decide +kernel) ⟨Nat.le_of_ble_eq_true rfl, Nat.le_of_ble_eq_true rfl⟩) (preS hK) rfl rfl hl.1 rfl (lv_room (Nat.le_of_ble_eq_true rfl)) dX6_predicts_93 ⟨Nat.le_of_ble_eq_true rfl, Nat.le_of_ble_eq_true rfl⟩) (fun r5 hr5 => ?_)
    refine lv_if_eq (pc := 96) (tgt := 123) hx hb dX6_predicts_96 (by decide) (fun cd6 => ?_) (fun cd6 => ?_)
    · have hnk : ¬ pOK (e64 u) i.toInt64 (f 5).toInt64 w.toInt64 := fun h => (bI_eq (hr5.symm.trans cd6)) (by rw [hw3]; exact h.1)
      refine lv_iconst (pc := 123) (v := 0) hx hb dX6_predicts_123 (by decide) ?_
      have hq9 : (fun r H1 => (pOK (e64 u) i.toInt64 (f 5).toInt64 w.toInt64 ∧ r = 1 ∧ va_P D vwCl [(mn, .inl (g 1, 5, .inr (.inl (e64 (pE u i (f 5) w)))))] H1) ∨ (¬ pOK (e64 u) i.toInt64 (f 5).toInt64 w.toInt64 ∧ r = 0 ∧ va_P D vwCl [(mn, .inl (g 1, 5, .inr (.inl (e64 u))))] H1) : Int32 → Heap → Prop) 0 s.heap := Or.inr ⟨hnk, rfl, hP⟩
      exact W.zret (v := 0) hx hb hr rfl (fun t ht hW => ⟨⟨_, rfl, by rw [ht]; exact hq9⟩, hS.F ht⟩) hS.2.2 dX6_predicts_124
    · have hk96 := bI_ne (fun e => cd6 (hr5.trans e))
      rw [hw3] at hk96
      refine lv_lload (pc := 99) hx hb dX6_predicts_99 (lv_at hl 2 rfl) ?_
      refine kIp (pc := 101) (va_runS (As := [.long a9]) (rest := []) ⟨hx, hb, hml, hown, hts⟩ (m6_isIn l a9 s.heap) (va_cwS 1 hts (lw_S q651 q652 q28 q653) rfl rfl rfl (by decide +kernel) ⟨Nat.le_of_ble_eq_true rfl, Nat.le_of_ble_eq_true rfl⟩) (preS hK) rfl rfl hl.1 rfl (lv_room (Nat.le_of_ble_eq_true rfl)) dX6_predicts_101 ⟨Nat.le_of_ble_eq_true rfl, Nat.le_of_ble_eq_true rfl⟩) (fun r7 hr7 => ?_)
      refine lv_if_eq (pc := 104) (tgt := 123) hx hb dX6_predicts_104 (by decide) (fun cd8 => ?_) (fun cd8 => ?_)
      · have hnk : ¬ pOK (e64 u) i.toInt64 (f 5).toInt64 w.toInt64 := fun h => (bI_eq (hr7.symm.trans cd8)) (by rw [ha9]; exact h.2.1)
        refine lv_iconst (pc := 123) (v := 0) hx hb dX6_predicts_123 (by decide) ?_
        have hq9 : (fun r H1 => (pOK (e64 u) i.toInt64 (f 5).toInt64 w.toInt64 ∧ r = 1 ∧ va_P D vwCl [(mn, .inl (g 1, 5, .inr (.inl (e64 (pE u i (f 5) w)))))] H1) ∨ (¬ pOK (e64 u) i.toInt64 (f 5).toInt64 w.toInt64 ∧ r = 0 ∧ va_P D vwCl [(mn, .inl (g 1, 5, .inr (.inl (e64 u))))] H1) : Int32 → Heap → Prop) 0 s.heap := Or.inr ⟨hnk, rfl, hP⟩
        exact W.zret (v := 0) hx hb hr rfl (fun t ht hW => ⟨⟨_, rfl, by rw [ht]; exact hq9⟩, hS.F ht⟩) hS.2.2 dX6_predicts_124
      · have hk104 := bI_ne (fun e => cd8 (hr7.trans e))
        rw [ha9] at hk104
        refine lv_lload (pc := 107) hx hb dX6_predicts_107 (lv_at hl 3 rfl) ?_
        refine kIp (pc := 109) (va_runS (As := [.long z3]) (rest := []) ⟨hx, hb, hml, hown, hts⟩ (m6_isIn l z3 s.heap) (va_cwS 1 hts (lw_S q651 q652 q28 q653) rfl rfl rfl (by decide +kernel) ⟨Nat.le_of_ble_eq_true rfl, Nat.le_of_ble_eq_true rfl⟩) (preS hK) rfl rfl hl.1 rfl (lv_room (Nat.le_of_ble_eq_true rfl)) dX6_predicts_109 ⟨Nat.le_of_ble_eq_true rfl, Nat.le_of_ble_eq_true rfl⟩) (fun r9 hr9 => ?_)
        refine lv_if_eq (pc := 112) (tgt := 123) hx hb dX6_predicts_112 (by decide) (fun cd10 => ?_) (fun cd10 => ?_)
        · have hnk : ¬ pOK (e64 u) i.toInt64 (f 5).toInt64 w.toInt64 := fun h => (bI_eq (hr9.symm.trans cd10)) (by rw [hw7]; exact h.2.2.1)
          refine lv_iconst (pc := 123) (v := 0) hx hb dX6_predicts_123 (by decide) ?_
          have hq9 : (fun r H1 => (pOK (e64 u) i.toInt64 (f 5).toInt64 w.toInt64 ∧ r = 1 ∧ va_P D vwCl [(mn, .inl (g 1, 5, .inr (.inl (e64 (pE u i (f 5) w)))))] H1) ∨ (¬ pOK (e64 u) i.toInt64 (f 5).toInt64 w.toInt64 ∧ r = 0 ∧ va_P D vwCl [(mn, .inl (g 1, 5, .inr (.inl (e64 u))))] H1) : Int32 → Heap → Prop) 0 s.heap := Or.inr ⟨hnk, rfl, hP⟩
          exact W.zret (v := 0) hx hb hr rfl (fun t ht hW => ⟨⟨_, rfl, by rw [ht]; exact hq9⟩, hS.F ht⟩) hS.2.2 dX6_predicts_124
        · have hk112 := bI_ne (fun e => cd10 (hr9.trans e))
          rw [hw7] at hk112
          refine lv_lload (pc := 115) hx hb dX6_predicts_115 (lv_at hl 4 rfl) ?_
          refine kIp (pc := 117) (va_runS (As := [.long z4]) (rest := []) ⟨hx, hb, hml, hown, hts⟩ (m6_isIn l z4 s.heap) (va_cwS 1 hts (lw_S q651 q652 q28 q653) rfl rfl rfl (by decide +kernel) ⟨Nat.le_of_ble_eq_true rfl, Nat.le_of_ble_eq_true rfl⟩) (preS hK) rfl rfl hl.1 rfl (lv_room (Nat.le_of_ble_eq_true rfl)) dX6_predicts_117 ⟨Nat.le_of_ble_eq_true rfl, Nat.le_of_ble_eq_true rfl⟩) (fun r11 hr11 => ?_)
          refine lv_if_ne (pc := 120) (tgt := 125) hx hb dX6_predicts_120 (by decide) (fun cd12 => ?_) (fun cd12 => ?_)
          · have hk120 := bI_ne (fun e => cd12 (hr11.trans e))
            rw [hw9] at hk120
            refine lv_aload_n (pc := 125) hx hb dX6_predicts_125 rfl (lv_at hl 0 rfl) ?_
            refine va_get (pc := 126) (D := D) (ci := 6) (v := .ref mn) (C := RX6) (T := TX6) (N := 9) hx hb hts in_X6 hown hK.1 hmo 0 rfl rfl 4 (by decide) (hts _ q578) (fun _ h9 => h9) rfl dX6_predicts_126 ?_
            refine lv_iconst (pc := 129) (v := 0) hx hb dX6_predicts_129 (by decide) ?_
            refine lv_lload_n (pc := 130) hx hb dX6_predicts_130 rfl (lv_at hl 1 rfl) ?_
            refine la_st (pc := 131) (f' := (vp_updL (e64 u) 0 z1)) hx hb hK.1 hP hD hS 0 1 0 rfl rfl (nl 0) (Nat.le_of_ble_eq_true rfl) (Nat.le_of_ble_eq_true rfl) (fun _ _ => rfl) dX6_predicts_131 (fun H locs hP hD hS => ?_)
            have hP : va_P D vwCl [(mn, .inl (g 1, 5, .inr (.inl (vp_updL (e64 u) 0 z1))))] H := hP
            have hD : va_D (Aw [mn] s.heap.size) [(mn, .inl (g 1, 5, .inr (.inl (vp_updL (e64 u) 0 z1))))] := hD
            refine lv_aload_n (pc := 132) hx hb dX6_predicts_132 rfl (lv_at hl 0 rfl) ?_
            refine va_get (pc := 133) (D := D) (ci := 6) (v := .ref mn) (C := RX6) (T := TX6) (N := 9) hx hb hts in_X6 hown hK.1 (ro_at hS hmo ahmo) 0 rfl rfl 4 (by decide) (hts _ q578) (fun _ h9 => h9) rfl dX6_predicts_133 ?_
            refine lv_iconst (pc := 136) (v := 2) hx hb dX6_predicts_136 (by decide) ?_
            refine lv_lload (pc := 137) hx hb dX6_predicts_137 (lv_at hl 2 rfl) ?_
            refine la_st (pc := 139) (f' := (vp_updL (vp_updL (e64 u) 0 z1) 2 a9)) hx hb hK.1 hP hD hS 0 1 2 rfl rfl (nl 2) (Nat.le_of_ble_eq_true rfl) (Nat.le_of_ble_eq_true rfl) (fun _ _ => rfl) dX6_predicts_139 (fun H locs hP hD hS => ?_)
            have hP : va_P D vwCl [(mn, .inl (g 1, 5, .inr (.inl (vp_updL (vp_updL (e64 u) 0 z1) 2 a9))))] H := hP
            have hD : va_D (Aw [mn] s.heap.size) [(mn, .inl (g 1, 5, .inr (.inl (vp_updL (vp_updL (e64 u) 0 z1) 2 a9))))] := hD
            refine lv_aload_n (pc := 140) hx hb dX6_predicts_140 rfl (lv_at hl 0 rfl) ?_
            refine va_get (pc := 141) (D := D) (ci := 6) (v := .ref mn) (C := RX6) (T := TX6) (N := 9) hx hb hts in_X6 hown hK.1 (ro_at hS hmo ahmo) 0 rfl rfl 4 (by decide) (hts _ q578) (fun _ h9 => h9) rfl dX6_predicts_141 ?_
            refine lv_iconst (pc := 144) (v := 3) hx hb dX6_predicts_144 (by decide) ?_
            refine lv_lload (pc := 145) hx hb dX6_predicts_145 (lv_at hl 3 rfl) ?_
            refine la_st (pc := 147) (f' := (vp_updL (vp_updL (vp_updL (e64 u) 0 z1) 2 a9) 3 z3)) hx hb hK.1 hP hD hS 0 1 3 rfl rfl (nl 3) (Nat.le_of_ble_eq_true rfl) (Nat.le_of_ble_eq_true rfl) (fun _ _ => rfl) dX6_predicts_147 (fun H locs hP hD hS => ?_)
            have hP : va_P D vwCl [(mn, .inl (g 1, 5, .inr (.inl (vp_updL (vp_updL (vp_updL (e64 u) 0 z1) 2 a9) 3 z3))))] H := hP
            have hD : va_D (Aw [mn] s.heap.size) [(mn, .inl (g 1, 5, .inr (.inl (vp_updL (vp_updL (vp_updL (e64 u) 0 z1) 2 a9) 3 z3))))] := hD
            refine lv_aload_n (pc := 148) hx hb dX6_predicts_148 rfl (lv_at hl 0 rfl) ?_
            refine va_get (pc := 149) (D := D) (ci := 6) (v := .ref mn) (C := RX6) (T := TX6) (N := 9) hx hb hts in_X6 hown hK.1 (ro_at hS hmo ahmo) 0 rfl rfl 4 (by decide) (hts _ q578) (fun _ h9 => h9) rfl dX6_predicts_149 ?_
            refine lv_iconst (pc := 152) (v := 4) hx hb dX6_predicts_152 (by decide) ?_
            refine lv_lload (pc := 153) hx hb dX6_predicts_153 (lv_at hl 4 rfl) ?_
            refine la_st (pc := 155) (f' := (e64 (pE u i (f 5) w))) hx hb hK.1 hP hD hS 0 1 4 rfl rfl (nl 4) (Nat.le_of_ble_eq_true rfl) (Nat.le_of_ble_eq_true rfl) (fun j hj => by have h9 := e64_pE ⟨hk96, hk104, hk112, hk120⟩ j hj; rw [← hw3, ← ha9, ← hw7, ← hw9] at h9; exact h9) dX6_predicts_155 (fun H locs hP hD hS => ?_)
            have hP : va_P D vwCl [(mn, .inl (g 1, 5, .inr (.inl (e64 (pE u i (f 5) w)))))] H := hP
            have hD : va_D (Aw [mn] s.heap.size) [(mn, .inl (g 1, 5, .inr (.inl (e64 (pE u i (f 5) w)))))] := hD
            refine lv_iconst (pc := 156) (v := 1) hx hb dX6_predicts_156 (by decide) ?_
            have hq9 : (fun r H1 => (pOK (e64 u) i.toInt64 (f 5).toInt64 w.toInt64 ∧ r = 1 ∧ va_P D vwCl [(mn, .inl (g 1, 5, .inr (.inl (e64 (pE u i (f 5) w)))))] H1) ∨ (¬ pOK (e64 u) i.toInt64 (f 5).toInt64 w.toInt64 ∧ r = 0 ∧ va_P D vwCl [(mn, .inl (g 1, 5, .inr (.inl (e64 u))))] H1) : Int32 → Heap → Prop) 1 H := Or.inl ⟨⟨hk96, hk104, hk112, hk120⟩, rfl, hP⟩
            exact W.zret (v := 1) hx hb hr rfl (fun t ht hW => ⟨⟨_, rfl, by rw [ht]; exact hq9⟩, hS.F ht⟩) hS.2.2 dX6_predicts_157
          · have hnk : ¬ pOK (e64 u) i.toInt64 (f 5).toInt64 w.toInt64 := fun h => (bI_eq (hr11.symm.trans cd12)) (by rw [hw9]; exact h.2.2.2)
            refine lv_iconst (pc := 123) (v := 0) hx hb dX6_predicts_123 (by decide) ?_
            have hq9 : (fun r H1 => (pOK (e64 u) i.toInt64 (f 5).toInt64 w.toInt64 ∧ r = 1 ∧ va_P D vwCl [(mn, .inl (g 1, 5, .inr (.inl (e64 (pE u i (f 5) w)))))] H1) ∨ (¬ pOK (e64 u) i.toInt64 (f 5).toInt64 w.toInt64 ∧ r = 0 ∧ va_P D vwCl [(mn, .inl (g 1, 5, .inr (.inl (e64 u))))] H1) : Int32 → Heap → Prop) 0 s.heap := Or.inr ⟨hnk, rfl, hP⟩
            exact W.zret (v := 0) hx hb hr rfl (fun t ht hW => ⟨⟨_, rfl, by rw [ht]; exact hq9⟩, hS.F ht⟩) hS.2.2 dX6_predicts_124
  refine lv_lload (pc := 77) hx hb dX6_predicts_77 (lv_at hl 2 rfl) ?_
  refine lv_lconst (pc := 79) (v := 0) hx hb dX6_predicts_79 rfl ?_
  refine lq_ge (pc := 80) (tgt := 88) hx hb dX6_predicts_80 dX6_predicts_81 (by decide) (fun cd13 => ?_) (fun cd13 => ?_)
  · refine lv_lload (pc := 88) hx hb dX6_predicts_88 (lv_at hl 2 rfl) ?_
    refine lv_lstore (pc := 90) (lv' := [(5, .long z2), (9, .long z4), (7, .long z3), (3, .long z1), (0, .ref mo), (1, .int i), (2, .int w)]) hx hb dX6_predicts_90 hl (by decide) rfl (fun ls hl => ?_)
    exact cut  z2 (by rw [show pA (e64 u) (f 5).toInt64 = pos z2 from congrArg pos ez2.symm]; exact (pos_pos' cd13).symm) ls (lv_sub hl [4, 3, 0, 2, 1] rfl)
  · refine lv_lconst (pc := 84) (v := 0) hx hb dX6_predicts_84 rfl ?_
    refine lv_goto (pc := 85) (tgt := 90) hx hb dX6_predicts_85 (by decide) ?_
    refine lv_lstore (pc := 90) (lv' := [(5, .long 0), (9, .long z4), (7, .long z3), (3, .long z1), (0, .ref mo), (1, .int i), (2, .int w)]) hx hb dX6_predicts_90 hl (by decide) rfl (fun ls hl => ?_)
    exact cut  0 (by rw [show pA (e64 u) (f 5).toInt64 = pos z2 from congrArg pos ez2.symm]; exact (pos_neg' cd13).symm) ls (lv_sub hl [4, 3, 0, 2, 1] rfl)

abbrev rm_m6_corrects : Room := ({ frames := 2, cells := 0, slots := 0, locals := 48 })
set_option maxHeartbeats 4000000 in
set_option maxRecDepth 100000 in
/-- corrects -/
theorem m6_corrects (l : Launch) {D : va_G} {g : Nat → ClassId} (mo ms mp me mn np : Nat) (iv lg fg hv : Int64) (f u : Nat → Int32) (se : Nat) (sx rd gt : Int32) (H : Heap) (hP : va_P D vwCl [(mo, .inr (6, [.ref ms, .ref mp, .int (nI np), .ref me, .ref mn, .long iv, .long lg, .long fg, .long hv])), (mn, .inl (g 1, 5, .inr (.inl (e64 u))))] H) (hN : [mo, mn].Nodup) (hms : va_P D vwCl [(ms, .inl (g 0, 71, .inl f))] H) (nhms : ms ∉ [mo, mn]) (hse : se < 4) (hsx : sx = nI se) (hEu : EstOK u) (hvr : 1 ≤ (f (12 + se)).toInt ∧ (f (12 + se)).toInt ≤ 40960000) : Met l yX6_corrects (ws_ yX6_corrects cX6_corrects 24 (some .int)) rm_m6_corrects (va_Pc [.ref mo, .int sx, .long (Int32.toInt64 rd), .int gt] (PH D g H)) (QI (fun r H1 => (cRej (e64 u) (f (8 + se)) (f (12 + se)).toInt64 rd.toInt64 gt ∧ r = 0 ∧ va_P D vwCl [(mo, .inr (6, [.ref ms, .ref mp, .int (nI np), .ref me, .ref mn, .long (cY (e64 u) (f (8 + se)) rd.toInt64), .long lg, .long fg, .long hv])), (mn, .inl (g 1, 5, .inr (.inl (e64 u))))] H1) ∨ (¬ cRej (e64 u) (f (8 + se)) (f (12 + se)).toInt64 rd.toInt64 gt ∧ ¬ cOK (e64 u) (f (8 + se)) (f (12 + se)).toInt64 rd.toInt64 ∧ r = -1 ∧ va_P D vwCl [(mo, .inr (6, [.ref ms, .ref mp, .int (nI np), .ref me, .ref mn, .long (cY (e64 u) (f (8 + se)) rd.toInt64), .long lg, .long fg, .long hv])), (mn, .inl (g 1, 5, .inr (.inl (e64 u))))] H1) ∨ (¬ cRej (e64 u) (f (8 + se)) (f (12 + se)).toInt64 rd.toInt64 gt ∧ cOK (e64 u) (f (8 + se)) (f (12 + se)).toInt64 rd.toInt64 ∧ r = 1 ∧ va_P D vwCl [(mo, .inr (6, [.ref ms, .ref mp, .int (nI np), .ref me, .ref mn, .long (cY (e64 u) (f (8 + se)) rd.toInt64), .long (cK (e64 u) (f (8 + se)) (f (12 + se)).toInt64), .long (cL (e64 u) (f (8 + se)) (f (12 + se)).toInt64), .long hv])), (mn, .inl (g 1, 5, .inr (.inl (e64 (cE u (f (8 + se)) (f (12 + se)) rd)))))] H1)) (Aw [mo, mn] H.size)) 0 0 (Aw [mo, mn] H.size) := by
  refine Met.ofW (cc := cX6_corrects) (maxL := 24) (ret := (some .int)) (by decide) rfl ?_
  intro p e s m args below meth c s₁ B hml hv
  obtain ⟨rfl, hH, hK⟩ := hv
  subst hH
  have hx := B.exec
  have hb := B.bytes
  have hr := B.returns
  have hts := atoms_spec (ws := ws_ yX6_corrects cX6_corrects 24 (some .int)) B.pre
  have hts : ∀ w ∈ lw_all, w.before _ s = true := fun w h => hts w (List.mem_cons_of_mem _ h)
  have hown : s.vm.findClass RX6 = some m.cls := findClass_of_methodNamed B.named
  have hlocks := B.notSynchronized
  have hA : ∀ q, s.heap.size ≤ q → (Aw [mo, mn] s.heap.size) q := fun q h => Or.inr h
  have hS : va_S (Aw [mo, mn] s.heap.size) s.heap s.heap [] := va_S.rf
  have hD : va_D (Aw [mo, mn] s.heap.size) [(mo, .inr (6, [.ref ms, .ref mp, .int (nI np), .ref me, .ref mn, .long iv, .long lg, .long fg, .long hv])), (mn, .inl (g 1, 5, .inr (.inl (e64 u))))] := dOf hN (fun q h => Or.inl h)
  have ahms : ¬ (Aw [mo, mn] s.heap.size) ms := naw nhms (hms 0 _ rfl).lt
  have hl := lv_entry ([.ref mo, .int sx, .long (Int32.toInt64 rd), .int gt]) (n := 24) (Nat.le_of_ble_eq_true rfl)
  rw [lg_entry_eq]
  generalize (lg_sl ([.ref mo, .int sx, .long (Int32.toInt64 rd), .int gt]) ++ List.replicate (24 - (lg_sl ([.ref mo, .int sx, .long (Int32.toInt64 rd), .int gt])).length) Slot.unset).toArray = ls at hl ⊢
  have hl : lv_has ls 24 [(0, .ref mo), (1, .int sx), (2, .long (Int32.toInt64 rd)), (4, .int gt)] := hl
  have hsp := cS_pos (kd := f (8 + se)) hEu hvr
  have hs0 : ¬ cS (e64 u) (f (8 + se)) (f (12 + se)).toInt64 = 0 := cS_ne hEu hvr
  refine lv_aload_n (pc := 0) hx hb dX6_corrects_0 rfl (lv_at hl 0 rfl) ?_
  refine va_get (pc := 1) (D := D) (ci := 6) (v := .ref ms) (C := RX6) (T := TX6) (N := 9) hx hb hts in_X6 hown hK.1 hP 0 rfl rfl 0 (by decide) (hts _ q574) (fun _ h9 => h9) rfl dX6_corrects_1 ?_
  refine lv_bipush (pc := 4) (v := 8) hx hb dX6_corrects_4 (by decide) ?_
  refine lv_iload_n (pc := 6) hx hb dX6_corrects_6 rfl (lv_at hl 1 rfl) ?_
  refine lv_iadd (pc := 7) hx hb dX6_corrects_7 ?_
  refine ia_ld (pc := 8) hx hb hK.1 hms 0 0 (8 + se) rfl rfl (nadd (nl 8) hsx) (by omega) (Nat.le_of_ble_eq_true rfl) dX6_corrects_8 ?_
  refine lv_if_ne (pc := 9) (tgt := 16) hx hb dX6_corrects_9 (by decide) (fun cd1 => ?_) (fun cd1 => ?_)
  · refine lv_iconst (pc := 16) (v := 0) hx hb dX6_corrects_16 (by decide) ?_
    refine lv_istore (pc := 17) (lv' := [(5, .int 0), (0, .ref mo), (1, .int sx), (2, .long (Int32.toInt64 rd)), (4, .int gt)]) hx hb dX6_corrects_17 hl (by decide) rfl (fun ls hl => ?_)
    refine lv_lload_n (pc := 19) hx hb dX6_corrects_19 rfl (lv_at hl 3 rfl) ?_
    refine lv_iload (pc := 20) hx hb dX6_corrects_20 (lv_at hl 0 rfl) ?_
    refine lv_if_eq (pc := 22) (tgt := 34) hx hb dX6_corrects_22 (by decide) (fun cd2 => ?_) (fun cd2 => absurd cd2 (by decide))
    refine lv_aload_n (pc := 34) hx hb dX6_corrects_34 rfl (lv_at hl 1 rfl) ?_
    refine va_get (pc := 35) (D := D) (ci := 6) (v := .ref mn) (C := RX6) (T := TX6) (N := 9) hx hb hts in_X6 hown hK.1 hP 0 rfl rfl 4 (by decide) (hts _ q578) (fun _ h9 => h9) rfl dX6_corrects_35 ?_
    refine lv_iconst (pc := 38) (v := 1) hx hb dX6_corrects_38 (by decide) ?_
    refine la_ld (pc := 39) hx hb hK.1 hP 1 1 1 rfl rfl (nl 1) (Nat.le_of_ble_eq_true rfl) (Nat.le_of_ble_eq_true rfl) dX6_corrects_39 ?_
    refine lv_lsub (pc := 40) hx hb dX6_corrects_40 ?_
    refine lv_topl (fun z3 ez3 => ?_)
    refine lv_lstore (pc := 41) (lv' := [(6, .long z3), (5, .int 0), (0, .ref mo), (1, .int sx), (2, .long (Int32.toInt64 rd)), (4, .int gt)]) hx hb dX6_corrects_41 hl (by decide) rfl (fun ls hl => ?_)
    have hyv : z3 = cY (e64 u) (f (8 + se)) rd.toInt64 := by rw [ez3]; unfold cY; rw [if_neg cd1]
    refine lv_iload (pc := 43) hx hb dX6_corrects_43 (lv_at hl 1 rfl) ?_
    refine lv_if_eq (pc := 45) (tgt := 57) hx hb dX6_corrects_45 (by decide) (fun cd4 => ?_) (fun cd4 => absurd cd4 (by decide))
    refine lv_aload_n (pc := 57) hx hb dX6_corrects_57 rfl (lv_at hl 2 rfl) ?_
    refine va_get (pc := 58) (D := D) (ci := 6) (v := .ref mn) (C := RX6) (T := TX6) (N := 9) hx hb hts in_X6 hown hK.1 hP 0 rfl rfl 4 (by decide) (hts _ q578) (fun _ h9 => h9) rfl dX6_corrects_58 ?_
    refine lv_iconst (pc := 61) (v := 4) hx hb dX6_corrects_61 (by decide) ?_
    refine la_ld (pc := 62) hx hb hK.1 hP 1 1 4 rfl rfl (nl 4) (Nat.le_of_ble_eq_true rfl) (Nat.le_of_ble_eq_true rfl) dX6_corrects_62 ?_
    refine lv_aload_n (pc := 63) hx hb dX6_corrects_63 rfl (lv_at hl 2 rfl) ?_
    refine va_get (pc := 64) (D := D) (ci := 6) (v := .ref ms) (C := RX6) (T := TX6) (N := 9) hx hb hts in_X6 hown hK.1 hP 0 rfl rfl 0 (by decide) (hts _ q574) (fun _ h9 => h9) rfl dX6_corrects_64 ?_
    refine lv_bipush (pc := 67) (v := 12) hx hb dX6_corrects_67 (by decide) ?_
    refine lv_iload_n (pc := 69) hx hb dX6_corrects_69 rfl (lv_at hl 3 rfl) ?_
    refine lv_iadd (pc := 70) hx hb dX6_corrects_70 ?_
    refine ia_ld (pc := 71) hx hb hK.1 hms 0 0 (12 + se) rfl rfl (nadd (nl 12) hsx) (by omega) (Nat.le_of_ble_eq_true rfl) dX6_corrects_71 ?_
    refine lv_i2l (pc := 72) hx hb dX6_corrects_72 rfl ?_
    refine lv_ladd (pc := 73) hx hb dX6_corrects_73 ?_
    refine lv_topl (fun z5 ez5 => ?_)
    refine lv_lstore (pc := 74) (lv' := [(8, .long z5), (6, .long z3), (5, .int 0), (0, .ref mo), (1, .int sx), (2, .long (Int32.toInt64 rd)), (4, .int gt)]) hx hb dX6_corrects_74 hl (by decide) rfl (fun ls hl => ?_)
    have hsv : z5 = cS (e64 u) (f (8 + se)) (f (12 + se)).toInt64 := by rw [ez5]; unfold cS; rw [if_neg cd1]
    refine lv_aload_n (pc := 76) hx hb dX6_corrects_76 rfl (lv_at hl 3 rfl) ?_
    refine lv_lload (pc := 77) hx hb dX6_corrects_77 (lv_at hl 1 rfl) ?_
    refine va_put (pc := 79) (D := D) (ci := 6) (v := .long z3) (ty := .long) (C := RX6) (T := TX6) (N := 9) hx hb hts in_X6 tyX6 tyX6_ok nmX6 hown hK.1 hP hD hS 0 rfl rfl 5 (by decide) (hts _ q579) (fun _ h9 => h9) rfl (by decide +kernel) rfl rfl (Nat.le_of_ble_eq_true rfl) dX6_corrects_79 (fun H locs hP hD hS => ?_)
    have hP : va_P D vwCl [(mo, .inr (6, [.ref ms, .ref mp, .int (nI np), .ref me, .ref mn, .long z3, .long lg, .long fg, .long hv])), (mn, .inl (g 1, 5, .inr (.inl (e64 u))))] H := hP
    have hD : va_D (Aw [mo, mn] s.heap.size) [(mo, .inr (6, [.ref ms, .ref mp, .int (nI np), .ref me, .ref mn, .long z3, .long lg, .long fg, .long hv])), (mn, .inl (g 1, 5, .inr (.inl (e64 u))))] := hD
    have cut1 : (¬ cRej (e64 u) (f (8 + se)) (f (12 + se)).toInt64 rd.toInt64 gt) → ∀ (ls : Array Slot), lv_has ls 24 [(0, .ref mo), (5, .int 0), (6, .long z3), (8, .long z5)] → W p l e (headSpec (ws_ yX6_corrects cX6_corrects 24 (some .int)) rm_m6_corrects).room s m ([.ref mo, .int sx, .long (Int32.toInt64 rd), .int gt] : List Value).toArray below meth c H locs 0 0 (MQ below (QI (fun r H1 => (cRej (e64 u) (f (8 + se)) (f (12 + se)).toInt64 rd.toInt64 gt ∧ r = 0 ∧ va_P D vwCl [(mo, .inr (6, [.ref ms, .ref mp, .int (nI np), .ref me, .ref mn, .long (cY (e64 u) (f (8 + se)) rd.toInt64), .long lg, .long fg, .long hv])), (mn, .inl (g 1, 5, .inr (.inl (e64 u))))] H1) ∨ (¬ cRej (e64 u) (f (8 + se)) (f (12 + se)).toInt64 rd.toInt64 gt ∧ ¬ cOK (e64 u) (f (8 + se)) (f (12 + se)).toInt64 rd.toInt64 ∧ r = -1 ∧ va_P D vwCl [(mo, .inr (6, [.ref ms, .ref mp, .int (nI np), .ref me, .ref mn, .long (cY (e64 u) (f (8 + se)) rd.toInt64), .long lg, .long fg, .long hv])), (mn, .inl (g 1, 5, .inr (.inl (e64 u))))] H1) ∨ (¬ cRej (e64 u) (f (8 + se)) (f (12 + se)).toInt64 rd.toInt64 gt ∧ cOK (e64 u) (f (8 + se)) (f (12 + se)).toInt64 rd.toInt64 ∧ r = 1 ∧ va_P D vwCl [(mo, .inr (6, [.ref ms, .ref mp, .int (nI np), .ref me, .ref mn, .long (cY (e64 u) (f (8 + se)) rd.toInt64), .long (cK (e64 u) (f (8 + se)) (f (12 + se)).toInt64), .long (cL (e64 u) (f (8 + se)) (f (12 + se)).toInt64), .long hv])), (mn, .inl (g 1, 5, .inr (.inl (e64 (cE u (f (8 + se)) (f (12 + se)) rd)))))] H1)) (Aw [mo, mn] s.heap.size)) ([.ref mo, .int sx, .long (Int32.toInt64 rd), .int gt] : List Value).toArray s 0 0 (Aw [mo, mn] s.heap.size)) (F0 m 108 ls []) := by
      intro  hnr ls hl
      refine lv_iload (pc := 108) hx hb dX6_corrects_108 (lv_at hl 1 rfl) ?_
      refine lv_if_eq (pc := 110) (tgt := 122) hx hb dX6_corrects_110 (by decide) (fun cd6 => ?_) (fun cd6 => absurd cd6 (by decide))
      refine lv_aload_n (pc := 122) hx hb dX6_corrects_122 rfl (lv_at hl 0 rfl) ?_
      refine va_get (pc := 123) (D := D) (ci := 6) (v := .ref mn) (C := RX6) (T := TX6) (N := 9) hx hb hts in_X6 hown hK.1 hP 0 rfl rfl 4 (by decide) (hts _ q578) (fun _ h9 => h9) rfl dX6_corrects_123 ?_
      refine lv_iconst (pc := 126) (v := 3) hx hb dX6_corrects_126 (by decide) ?_
      refine la_ld (pc := 127) hx hb hK.1 hP 1 1 3 rfl rfl (nl 3) (Nat.le_of_ble_eq_true rfl) (Nat.le_of_ble_eq_true rfl) dX6_corrects_127 ?_
      refine lv_lload (pc := 128) hx hb dX6_corrects_128 (lv_at hl 3 rfl) ?_
      refine kLp (pc := 130) (va_runS (As := [.long ((e64 u) 3), .long z5]) (rest := []) ⟨hx, hb, hml, hown, hts⟩ (m6_div l ((e64 u) 3) z5 H (by rw [hsv]; exact hs0)) (va_cwS 2 hts (lw_S q674 q675 q28 q676) rfl rfl rfl (by decide +kernel) ⟨Nat.le_of_ble_eq_true rfl, Nat.le_of_ble_eq_true rfl⟩) (preS hK) rfl rfl hl.1 rfl (lv_room (Nat.le_of_ble_eq_true rfl)) dX6_corrects_130 ⟨Nat.le_of_ble_eq_true rfl, Nat.le_of_ble_eq_true rfl⟩) (fun r7 hr7 => ?_)
      refine lv_lstore (pc := 133) (lv' := [(10, .long r7), (0, .ref mo), (5, .int 0), (6, .long z3), (8, .long z5)]) hx hb dX6_corrects_133 hl (by decide) rfl (fun ls hl => ?_)
      have hkv : r7 = cK (e64 u) (f (8 + se)) (f (12 + se)).toInt64 := by rw [hr7, hsv, dw_div hsp]; unfold cK; rw [if_neg cd1]
      refine lv_iload (pc := 135) hx hb dX6_corrects_135 (lv_at hl 2 rfl) ?_
      refine lv_if_eq (pc := 137) (tgt := 149) hx hb dX6_corrects_137 (by decide) (fun cd8 => ?_) (fun cd8 => absurd cd8 (by decide))
      refine lv_aload_n (pc := 149) hx hb dX6_corrects_149 rfl (lv_at hl 1 rfl) ?_
      refine va_get (pc := 150) (D := D) (ci := 6) (v := .ref mn) (C := RX6) (T := TX6) (N := 9) hx hb hts in_X6 hown hK.1 hP 0 rfl rfl 4 (by decide) (hts _ q578) (fun _ h9 => h9) rfl dX6_corrects_150 ?_
      refine lv_iconst (pc := 153) (v := 4) hx hb dX6_corrects_153 (by decide) ?_
      refine la_ld (pc := 154) hx hb hK.1 hP 1 1 4 rfl rfl (nl 4) (Nat.le_of_ble_eq_true rfl) (Nat.le_of_ble_eq_true rfl) dX6_corrects_154 ?_
      refine lv_lload (pc := 155) hx hb dX6_corrects_155 (lv_at hl 4 rfl) ?_
      refine kLp (pc := 157) (va_runS (As := [.long ((e64 u) 4), .long z5]) (rest := []) ⟨hx, hb, hml, hown, hts⟩ (m6_div l ((e64 u) 4) z5 H (by rw [hsv]; exact hs0)) (va_cwS 2 hts (lw_S q674 q675 q28 q676) rfl rfl rfl (by decide +kernel) ⟨Nat.le_of_ble_eq_true rfl, Nat.le_of_ble_eq_true rfl⟩) (preS hK) rfl rfl hl.1 rfl (lv_room (Nat.le_of_ble_eq_true rfl)) dX6_corrects_157 ⟨Nat.le_of_ble_eq_true rfl, Nat.le_of_ble_eq_true rfl⟩) (fun r9 hr9 => ?_)
      refine lv_lstore (pc := 160) (lv' := [(12, .long r9), (10, .long r7), (0, .ref mo), (5, .int 0), (6, .long z3), (8, .long z5)]) hx hb dX6_corrects_160 hl (by decide) rfl (fun ls hl => ?_)
      have hlv : r9 = cL (e64 u) (f (8 + se)) (f (12 + se)).toInt64 := by rw [hr9, hsv, dw_div hsp]; unfold cL; rw [if_neg cd1]
      refine lv_lload (pc := 162) hx hb dX6_corrects_162 (lv_at hl 1 rfl) ?_
      refine kIp (pc := 164) (va_runS (As := [.long r7]) (rest := []) ⟨hx, hb, hml, hown, hts⟩ (m6_isIn l r7 H) (va_cwS 1 hts (lw_S q651 q652 q28 q653) rfl rfl rfl (by decide +kernel) ⟨Nat.le_of_ble_eq_true rfl, Nat.le_of_ble_eq_true rfl⟩) (preS hK) rfl rfl hl.1 rfl (lv_room (Nat.le_of_ble_eq_true rfl)) dX6_corrects_164 ⟨Nat.le_of_ble_eq_true rfl, Nat.le_of_ble_eq_true rfl⟩) (fun r10 hr10 => ?_)
      refine lv_if_eq (pc := 167) (tgt := 178) hx hb dX6_corrects_167 (by decide) (fun cd11 => ?_) (fun cd11 => ?_)
      · have hnk : ¬ cOK (e64 u) (f (8 + se)) (f (12 + se)).toInt64 rd.toInt64 := fun h => (bI_eq (hr10.symm.trans cd11)) (by rw [hkv]; exact h.1)
        refine lv_iconst (pc := 178) (v := (-1)) hx hb dX6_corrects_178 (by decide) ?_
        have hq9 : (fun r H1 => (cRej (e64 u) (f (8 + se)) (f (12 + se)).toInt64 rd.toInt64 gt ∧ r = 0 ∧ va_P D vwCl [(mo, .inr (6, [.ref ms, .ref mp, .int (nI np), .ref me, .ref mn, .long (cY (e64 u) (f (8 + se)) rd.toInt64), .long lg, .long fg, .long hv])), (mn, .inl (g 1, 5, .inr (.inl (e64 u))))] H1) ∨ (¬ cRej (e64 u) (f (8 + se)) (f (12 + se)).toInt64 rd.toInt64 gt ∧ ¬ cOK (e64 u) (f (8 + se)) (f (12 + se)).toInt64 rd.toInt64 ∧ r = -1 ∧ va_P D vwCl [(mo, .inr (6, [.ref ms, .ref mp, .int (nI np), .ref me, .ref mn, .long (cY (e64 u) (f (8 + se)) rd.toInt64), .long lg, .long fg, .long hv])), (mn, .inl (g 1, 5, .inr (.inl (e64 u))))] H1) ∨ (¬ cRej (e64 u) (f (8 + se)) (f (12 + se)).toInt64 rd.toInt64 gt ∧ cOK (e64 u) (f (8 + se)) (f (12 + se)).toInt64 rd.toInt64 ∧ r = 1 ∧ va_P D vwCl [(mo, .inr (6, [.ref ms, .ref mp, .int (nI np), .ref me, .ref mn, .long (cY (e64 u) (f (8 + se)) rd.toInt64), .long (cK (e64 u) (f (8 + se)) (f (12 + se)).toInt64), .long (cL (e64 u) (f (8 + se)) (f (12 + se)).toInt64), .long hv])), (mn, .inl (g 1, 5, .inr (.inl (e64 (cE u (f (8 + se)) (f (12 + se)) rd)))))] H1) : Int32 → Heap → Prop) (-1) H := Or.inr (Or.inl ⟨hnr, hnk, rfl, by rw [← hyv]; exact hP.sub [0, 1] rfl⟩)
        exact W.iret (v := (-1)) hx hb hr (fun t ht hW => ⟨⟨_, rfl, by rw [ht]; exact hq9⟩, hS.F ht⟩) hS.2.2 dX6_corrects_179
      · have hk167 := bI_ne (fun e => cd11 (hr10.trans e))
        rw [hkv] at hk167
        refine lv_lload (pc := 170) hx hb dX6_corrects_170 (lv_at hl 0 rfl) ?_
        refine kIp (pc := 172) (va_runS (As := [.long r9]) (rest := []) ⟨hx, hb, hml, hown, hts⟩ (m6_isIn l r9 H) (va_cwS 1 hts (lw_S q651 q652 q28 q653) rfl rfl rfl (by decide +kernel) ⟨Nat.le_of_ble_eq_true rfl, Nat.le_of_ble_eq_true rfl⟩) (preS hK) rfl rfl hl.1 rfl (lv_room (Nat.le_of_ble_eq_true rfl)) dX6_corrects_172 ⟨Nat.le_of_ble_eq_true rfl, Nat.le_of_ble_eq_true rfl⟩) (fun r12 hr12 => ?_)
        refine lv_if_ne (pc := 175) (tgt := 180) hx hb dX6_corrects_175 (by decide) (fun cd13 => ?_) (fun cd13 => ?_)
        · have hk175 := bI_ne (fun e => cd13 (hr12.trans e))
          rw [hlv] at hk175
          refine lv_aload_n (pc := 180) hx hb dX6_corrects_180 rfl (lv_at hl 2 rfl) ?_
          refine va_get (pc := 181) (D := D) (ci := 6) (v := .ref mn) (C := RX6) (T := TX6) (N := 9) hx hb hts in_X6 hown hK.1 hP 0 rfl rfl 4 (by decide) (hts _ q578) (fun _ h9 => h9) rfl dX6_corrects_181 ?_
          refine lv_iconst (pc := 184) (v := 0) hx hb dX6_corrects_184 (by decide) ?_
          refine la_ld (pc := 185) hx hb hK.1 hP 1 1 0 rfl rfl (nl 0) (Nat.le_of_ble_eq_true rfl) (Nat.le_of_ble_eq_true rfl) dX6_corrects_185 ?_
          refine lv_lload (pc := 186) hx hb dX6_corrects_186 (lv_at hl 1 rfl) ?_
          refine lv_lload (pc := 188) hx hb dX6_corrects_188 (lv_at hl 4 rfl) ?_
          refine kLp (pc := 190) (va_runS (As := [.long r7, .long z3]) (rest := [.long ((e64 u) 0)]) ⟨hx, hb, hml, hown, hts⟩ (m6_mul l r7 z3 H) (va_cwS 2 hts (lw_S q680 q681 q28 q682) rfl rfl rfl (by decide +kernel) ⟨Nat.le_of_ble_eq_true rfl, Nat.le_of_ble_eq_true rfl⟩) (preS hK) rfl rfl hl.1 rfl (lv_room (Nat.le_of_ble_eq_true rfl)) dX6_corrects_190 ⟨Nat.le_of_ble_eq_true rfl, Nat.le_of_ble_eq_true rfl⟩) (fun r14 hr14 => ?_)
          refine lv_ladd (pc := 193) hx hb dX6_corrects_193 ?_
          refine lv_topl (fun z15 ez15 => ?_)
          refine lv_lstore (pc := 194) (lv' := [(14, .long z15), (12, .long r9), (10, .long r7), (0, .ref mo), (5, .int 0), (6, .long z3), (8, .long z5)]) hx hb dX6_corrects_194 hl (by decide) rfl (fun ls hl => ?_)
          have hv14 : z15 = c0 (e64 u) (f (8 + se)) (f (12 + se)).toInt64 rd.toInt64 := by rw [ez15, hr14, dw_mul, hkv, hyv]; rfl
          refine lv_aload_n (pc := 196) hx hb dX6_corrects_196 rfl (lv_at hl 3 rfl) ?_
          refine va_get (pc := 197) (D := D) (ci := 6) (v := .ref mn) (C := RX6) (T := TX6) (N := 9) hx hb hts in_X6 hown hK.1 hP 0 rfl rfl 4 (by decide) (hts _ q578) (fun _ h9 => h9) rfl dX6_corrects_197 ?_
          refine lv_iconst (pc := 200) (v := 1) hx hb dX6_corrects_200 (by decide) ?_
          refine la_ld (pc := 201) hx hb hK.1 hP 1 1 1 rfl rfl (nl 1) (Nat.le_of_ble_eq_true rfl) (Nat.le_of_ble_eq_true rfl) dX6_corrects_201 ?_
          refine lv_lload (pc := 202) hx hb dX6_corrects_202 (lv_at hl 1 rfl) ?_
          refine lv_lload (pc := 204) hx hb dX6_corrects_204 (lv_at hl 5 rfl) ?_
          refine kLp (pc := 206) (va_runS (As := [.long r9, .long z3]) (rest := [.long ((e64 u) 1)]) ⟨hx, hb, hml, hown, hts⟩ (m6_mul l r9 z3 H) (va_cwS 2 hts (lw_S q680 q681 q28 q682) rfl rfl rfl (by decide +kernel) ⟨Nat.le_of_ble_eq_true rfl, Nat.le_of_ble_eq_true rfl⟩) (preS hK) rfl rfl hl.1 rfl (lv_room (Nat.le_of_ble_eq_true rfl)) dX6_corrects_206 ⟨Nat.le_of_ble_eq_true rfl, Nat.le_of_ble_eq_true rfl⟩) (fun r16 hr16 => ?_)
          refine lv_ladd (pc := 209) hx hb dX6_corrects_209 ?_
          refine lv_topl (fun z17 ez17 => ?_)
          refine lv_lstore (pc := 210) (lv' := [(16, .long z17), (14, .long z15), (12, .long r9), (10, .long r7), (0, .ref mo), (5, .int 0), (6, .long z3), (8, .long z5)]) hx hb dX6_corrects_210 hl (by decide) rfl (fun ls hl => ?_)
          have hv16 : z17 = c1 (e64 u) (f (8 + se)) (f (12 + se)).toInt64 rd.toInt64 := by rw [ez17, hr16, dw_mul, hlv, hyv]; rfl
          refine lv_aload_n (pc := 212) hx hb dX6_corrects_212 rfl (lv_at hl 4 rfl) ?_
          refine va_get (pc := 213) (D := D) (ci := 6) (v := .ref mn) (C := RX6) (T := TX6) (N := 9) hx hb hts in_X6 hown hK.1 hP 0 rfl rfl 4 (by decide) (hts _ q578) (fun _ h9 => h9) rfl dX6_corrects_213 ?_
          refine lv_iconst (pc := 216) (v := 2) hx hb dX6_corrects_216 (by decide) ?_
          refine la_ld (pc := 217) hx hb hK.1 hP 1 1 2 rfl rfl (nl 2) (Nat.le_of_ble_eq_true rfl) (Nat.le_of_ble_eq_true rfl) dX6_corrects_217 ?_
          refine lv_lload (pc := 218) hx hb dX6_corrects_218 (lv_at hl 3 rfl) ?_
          refine lv_iload (pc := 220) hx hb dX6_corrects_220 (lv_at hl 5 rfl) ?_
          refine lv_if_eq (pc := 222) (tgt := 234) hx hb dX6_corrects_222 (by decide) (fun cd18 => ?_) (fun cd18 => absurd cd18 (by decide))
          refine lv_aload_n (pc := 234) hx hb dX6_corrects_234 rfl (lv_at hl 4 rfl) ?_
          refine va_get (pc := 235) (D := D) (ci := 6) (v := .ref mn) (C := RX6) (T := TX6) (N := 9) hx hb hts in_X6 hown hK.1 hP 0 rfl rfl 4 (by decide) (hts _ q578) (fun _ h9 => h9) rfl dX6_corrects_235 ?_
          refine lv_iconst (pc := 238) (v := 3) hx hb dX6_corrects_238 (by decide) ?_
          refine la_ld (pc := 239) hx hb hK.1 hP 1 1 3 rfl rfl (nl 3) (Nat.le_of_ble_eq_true rfl) (Nat.le_of_ble_eq_true rfl) dX6_corrects_239 ?_
          refine kLp (pc := 240) (va_runS (As := [.long r7, .long ((e64 u) 3)]) (rest := [.long ((e64 u) 2)]) ⟨hx, hb, hml, hown, hts⟩ (m6_mul l r7 ((e64 u) 3) H) (va_cwS 2 hts (lw_S q680 q681 q28 q682) rfl rfl rfl (by decide +kernel) ⟨Nat.le_of_ble_eq_true rfl, Nat.le_of_ble_eq_true rfl⟩) (preS hK) rfl rfl hl.1 rfl (lv_room (Nat.le_of_ble_eq_true rfl)) dX6_corrects_240 ⟨Nat.le_of_ble_eq_true rfl, Nat.le_of_ble_eq_true rfl⟩) (fun r19 hr19 => ?_)
          refine lv_lsub (pc := 243) hx hb dX6_corrects_243 ?_
          refine lv_topl (fun z20 ez20 => ?_)
          refine lv_lstore (pc := 244) (lv' := [(18, .long z20), (16, .long z17), (14, .long z15), (12, .long r9), (10, .long r7), (0, .ref mo), (5, .int 0), (6, .long z3), (8, .long z5)]) hx hb dX6_corrects_244 hl (by decide) rfl (fun ls hl => ?_)
          have hv18 : pos z20 = c2 (e64 u) (f (8 + se)) (f (12 + se)).toInt64 := by rw [ez20, hr19, dw_mul, hkv]; unfold c2; rw [if_neg cd1]
          refine lv_aload_n (pc := 246) hx hb dX6_corrects_246 rfl (lv_at hl 5 rfl) ?_
          refine va_get (pc := 247) (D := D) (ci := 6) (v := .ref mn) (C := RX6) (T := TX6) (N := 9) hx hb hts in_X6 hown hK.1 hP 0 rfl rfl 4 (by decide) (hts _ q578) (fun _ h9 => h9) rfl dX6_corrects_247 ?_
          refine lv_iconst (pc := 250) (v := 3) hx hb dX6_corrects_250 (by decide) ?_
          refine la_ld (pc := 251) hx hb hK.1 hP 1 1 3 rfl rfl (nl 3) (Nat.le_of_ble_eq_true rfl) (Nat.le_of_ble_eq_true rfl) dX6_corrects_251 ?_
          refine lv_lload (pc := 252) hx hb dX6_corrects_252 (lv_at hl 4 rfl) ?_
          refine lv_iload (pc := 254) hx hb dX6_corrects_254 (lv_at hl 6 rfl) ?_
          refine lv_if_eq (pc := 256) (tgt := 268) hx hb dX6_corrects_256 (by decide) (fun cd21 => ?_) (fun cd21 => absurd cd21 (by decide))
          refine lv_aload_n (pc := 268) hx hb dX6_corrects_268 rfl (lv_at hl 5 rfl) ?_
          refine va_get (pc := 269) (D := D) (ci := 6) (v := .ref mn) (C := RX6) (T := TX6) (N := 9) hx hb hts in_X6 hown hK.1 hP 0 rfl rfl 4 (by decide) (hts _ q578) (fun _ h9 => h9) rfl dX6_corrects_269 ?_
          refine lv_iconst (pc := 272) (v := 4) hx hb dX6_corrects_272 (by decide) ?_
          refine la_ld (pc := 273) hx hb hK.1 hP 1 1 4 rfl rfl (nl 4) (Nat.le_of_ble_eq_true rfl) (Nat.le_of_ble_eq_true rfl) dX6_corrects_273 ?_
          refine kLp (pc := 274) (va_runS (As := [.long r7, .long ((e64 u) 4)]) (rest := [.long ((e64 u) 3)]) ⟨hx, hb, hml, hown, hts⟩ (m6_mul l r7 ((e64 u) 4) H) (va_cwS 2 hts (lw_S q680 q681 q28 q682) rfl rfl rfl (by decide +kernel) ⟨Nat.le_of_ble_eq_true rfl, Nat.le_of_ble_eq_true rfl⟩) (preS hK) rfl rfl hl.1 rfl (lv_room (Nat.le_of_ble_eq_true rfl)) dX6_corrects_274 ⟨Nat.le_of_ble_eq_true rfl, Nat.le_of_ble_eq_true rfl⟩) (fun r22 hr22 => ?_)
          refine lv_lsub (pc := 277) hx hb dX6_corrects_277 ?_
          refine lv_topl (fun z23 ez23 => ?_)
          refine lv_lstore (pc := 278) (lv' := [(20, .long z23), (18, .long z20), (16, .long z17), (14, .long z15), (12, .long r9), (10, .long r7), (0, .ref mo), (5, .int 0), (6, .long z3), (8, .long z5)]) hx hb dX6_corrects_278 hl (by decide) rfl (fun ls hl => ?_)
          have hv20 : z23 = c3 (e64 u) (f (8 + se)) (f (12 + se)).toInt64 := by rw [ez23, hr22, dw_mul, hkv]; unfold c3; rw [if_neg cd1]
          refine lv_aload_n (pc := 280) hx hb dX6_corrects_280 rfl (lv_at hl 6 rfl) ?_
          refine va_get (pc := 281) (D := D) (ci := 6) (v := .ref mn) (C := RX6) (T := TX6) (N := 9) hx hb hts in_X6 hown hK.1 hP 0 rfl rfl 4 (by decide) (hts _ q578) (fun _ h9 => h9) rfl dX6_corrects_281 ?_
          refine lv_iconst (pc := 284) (v := 4) hx hb dX6_corrects_284 (by decide) ?_
          refine la_ld (pc := 285) hx hb hK.1 hP 1 1 4 rfl rfl (nl 4) (Nat.le_of_ble_eq_true rfl) (Nat.le_of_ble_eq_true rfl) dX6_corrects_285 ?_
          refine lv_lload (pc := 286) hx hb dX6_corrects_286 (lv_at hl 4 rfl) ?_
          refine lv_iload (pc := 288) hx hb dX6_corrects_288 (lv_at hl 7 rfl) ?_
          refine lv_if_eq (pc := 290) (tgt := 302) hx hb dX6_corrects_290 (by decide) (fun cd24 => ?_) (fun cd24 => absurd cd24 (by decide))
          refine lv_aload_n (pc := 302) hx hb dX6_corrects_302 rfl (lv_at hl 6 rfl) ?_
          refine va_get (pc := 303) (D := D) (ci := 6) (v := .ref mn) (C := RX6) (T := TX6) (N := 9) hx hb hts in_X6 hown hK.1 hP 0 rfl rfl 4 (by decide) (hts _ q578) (fun _ h9 => h9) rfl dX6_corrects_303 ?_
          refine lv_iconst (pc := 306) (v := 4) hx hb dX6_corrects_306 (by decide) ?_
          refine la_ld (pc := 307) hx hb hK.1 hP 1 1 4 rfl rfl (nl 4) (Nat.le_of_ble_eq_true rfl) (Nat.le_of_ble_eq_true rfl) dX6_corrects_307 ?_
          refine kLp (pc := 308) (va_runS (As := [.long r9, .long ((e64 u) 4)]) (rest := [.long ((e64 u) 4)]) ⟨hx, hb, hml, hown, hts⟩ (m6_mul l r9 ((e64 u) 4) H) (va_cwS 2 hts (lw_S q680 q681 q28 q682) rfl rfl rfl (by decide +kernel) ⟨Nat.le_of_ble_eq_true rfl, Nat.le_of_ble_eq_true rfl⟩) (preS hK) rfl rfl hl.1 rfl (lv_room (Nat.le_of_ble_eq_true rfl)) dX6_corrects_308 ⟨Nat.le_of_ble_eq_true rfl, Nat.le_of_ble_eq_true rfl⟩) (fun r25 hr25 => ?_)
          refine lv_lsub (pc := 311) hx hb dX6_corrects_311 ?_
          refine lv_topl (fun z26 ez26 => ?_)
          refine lv_lstore (pc := 312) (lv' := [(22, .long z26), (20, .long z23), (18, .long z20), (16, .long z17), (14, .long z15), (12, .long r9), (10, .long r7), (0, .ref mo), (5, .int 0), (6, .long z3), (8, .long z5)]) hx hb dX6_corrects_312 hl (by decide) rfl (fun ls hl => ?_)
          have hv22 : pos z26 = c4 (e64 u) (f (8 + se)) (f (12 + se)).toInt64 := by rw [ez26, hr25, dw_mul, hlv]; unfold c4; rw [if_neg cd1]
          have cut2 : ∀ (a9 c9 : Int64), (a9 = c2 (e64 u) (f (8 + se)) (f (12 + se)).toInt64) → (c9 = c4 (e64 u) (f (8 + se)) (f (12 + se)).toInt64) → ∀ (ls : Array Slot), lv_has ls 24 [(0, .ref mo), (10, .long r7), (12, .long r9), (14, .long z15), (16, .long z17), (18, .long a9), (20, .long z23), (22, .long c9)] → W p l e (headSpec (ws_ yX6_corrects cX6_corrects 24 (some .int)) rm_m6_corrects).room s m ([.ref mo, .int sx, .long (Int32.toInt64 rd), .int gt] : List Value).toArray below meth c H locs 0 0 (MQ below (QI (fun r H1 => (cRej (e64 u) (f (8 + se)) (f (12 + se)).toInt64 rd.toInt64 gt ∧ r = 0 ∧ va_P D vwCl [(mo, .inr (6, [.ref ms, .ref mp, .int (nI np), .ref me, .ref mn, .long (cY (e64 u) (f (8 + se)) rd.toInt64), .long lg, .long fg, .long hv])), (mn, .inl (g 1, 5, .inr (.inl (e64 u))))] H1) ∨ (¬ cRej (e64 u) (f (8 + se)) (f (12 + se)).toInt64 rd.toInt64 gt ∧ ¬ cOK (e64 u) (f (8 + se)) (f (12 + se)).toInt64 rd.toInt64 ∧ r = -1 ∧ va_P D vwCl [(mo, .inr (6, [.ref ms, .ref mp, .int (nI np), .ref me, .ref mn, .long (cY (e64 u) (f (8 + se)) rd.toInt64), .long lg, .long fg, .long hv])), (mn, .inl (g 1, 5, .inr (.inl (e64 u))))] H1) ∨ (¬ cRej (e64 u) (f (8 + se)) (f (12 + se)).toInt64 rd.toInt64 gt ∧ cOK (e64 u) (f (8 + se)) (f (12 + se)).toInt64 rd.toInt64 ∧ r = 1 ∧ va_P D vwCl [(mo, .inr (6, [.ref ms, .ref mp, .int (nI np), .ref me, .ref mn, .long (cY (e64 u) (f (8 + se)) rd.toInt64), .long (cK (e64 u) (f (8 + se)) (f (12 + se)).toInt64), .long (cL (e64 u) (f (8 + se)) (f (12 + se)).toInt64), .long hv])), (mn, .inl (g 1, 5, .inr (.inl (e64 (cE u (f (8 + se)) (f (12 + se)) rd)))))] H1)) (Aw [mo, mn] s.heap.size)) ([.ref mo, .int sx, .long (Int32.toInt64 rd), .int gt] : List Value).toArray s 0 0 (Aw [mo, mn] s.heap.size)) (F0 m 344 ls []) := by
            intro a9 c9 ha9 hc9 ls hl
            refine lv_lload (pc := 344) hx hb dX6_corrects_344 (lv_at hl 3 rfl) ?_
            refine kIp (pc := 346) (va_runS (As := [.long z15]) (rest := []) ⟨hx, hb, hml, hown, hts⟩ (m6_isIn l z15 H) (va_cwS 1 hts (lw_S q651 q652 q28 q653) rfl rfl rfl (by decide +kernel) ⟨Nat.le_of_ble_eq_true rfl, Nat.le_of_ble_eq_true rfl⟩) (preS hK) rfl rfl hl.1 rfl (lv_room (Nat.le_of_ble_eq_true rfl)) dX6_corrects_346 ⟨Nat.le_of_ble_eq_true rfl, Nat.le_of_ble_eq_true rfl⟩) (fun r27 hr27 => ?_)
            refine lv_if_eq (pc := 349) (tgt := 384) hx hb dX6_corrects_349 (by decide) (fun cd28 => ?_) (fun cd28 => ?_)
            · have hnk : ¬ cOK (e64 u) (f (8 + se)) (f (12 + se)).toInt64 rd.toInt64 := fun h => (bI_eq (hr27.symm.trans cd28)) (by rw [hv14]; exact h.2.2.1)
              refine lv_iconst (pc := 384) (v := (-1)) hx hb dX6_corrects_384 (by decide) ?_
              have hq9 : (fun r H1 => (cRej (e64 u) (f (8 + se)) (f (12 + se)).toInt64 rd.toInt64 gt ∧ r = 0 ∧ va_P D vwCl [(mo, .inr (6, [.ref ms, .ref mp, .int (nI np), .ref me, .ref mn, .long (cY (e64 u) (f (8 + se)) rd.toInt64), .long lg, .long fg, .long hv])), (mn, .inl (g 1, 5, .inr (.inl (e64 u))))] H1) ∨ (¬ cRej (e64 u) (f (8 + se)) (f (12 + se)).toInt64 rd.toInt64 gt ∧ ¬ cOK (e64 u) (f (8 + se)) (f (12 + se)).toInt64 rd.toInt64 ∧ r = -1 ∧ va_P D vwCl [(mo, .inr (6, [.ref ms, .ref mp, .int (nI np), .ref me, .ref mn, .long (cY (e64 u) (f (8 + se)) rd.toInt64), .long lg, .long fg, .long hv])), (mn, .inl (g 1, 5, .inr (.inl (e64 u))))] H1) ∨ (¬ cRej (e64 u) (f (8 + se)) (f (12 + se)).toInt64 rd.toInt64 gt ∧ cOK (e64 u) (f (8 + se)) (f (12 + se)).toInt64 rd.toInt64 ∧ r = 1 ∧ va_P D vwCl [(mo, .inr (6, [.ref ms, .ref mp, .int (nI np), .ref me, .ref mn, .long (cY (e64 u) (f (8 + se)) rd.toInt64), .long (cK (e64 u) (f (8 + se)) (f (12 + se)).toInt64), .long (cL (e64 u) (f (8 + se)) (f (12 + se)).toInt64), .long hv])), (mn, .inl (g 1, 5, .inr (.inl (e64 (cE u (f (8 + se)) (f (12 + se)) rd)))))] H1) : Int32 → Heap → Prop) (-1) H := Or.inr (Or.inl ⟨hnr, hnk, rfl, by rw [← hyv]; exact hP.sub [0, 1] rfl⟩)
              exact W.iret (v := (-1)) hx hb hr (fun t ht hW => ⟨⟨_, rfl, by rw [ht]; exact hq9⟩, hS.F ht⟩) hS.2.2 dX6_corrects_385
            · have hk349 := bI_ne (fun e => cd28 (hr27.trans e))
              rw [hv14] at hk349
              refine lv_lload (pc := 352) hx hb dX6_corrects_352 (lv_at hl 4 rfl) ?_
              refine kIp (pc := 354) (va_runS (As := [.long z17]) (rest := []) ⟨hx, hb, hml, hown, hts⟩ (m6_isIn l z17 H) (va_cwS 1 hts (lw_S q651 q652 q28 q653) rfl rfl rfl (by decide +kernel) ⟨Nat.le_of_ble_eq_true rfl, Nat.le_of_ble_eq_true rfl⟩) (preS hK) rfl rfl hl.1 rfl (lv_room (Nat.le_of_ble_eq_true rfl)) dX6_corrects_354 ⟨Nat.le_of_ble_eq_true rfl, Nat.le_of_ble_eq_true rfl⟩) (fun r29 hr29 => ?_)
              refine lv_if_eq (pc := 357) (tgt := 384) hx hb dX6_corrects_357 (by decide) (fun cd30 => ?_) (fun cd30 => ?_)
              · have hnk : ¬ cOK (e64 u) (f (8 + se)) (f (12 + se)).toInt64 rd.toInt64 := fun h => (bI_eq (hr29.symm.trans cd30)) (by rw [hv16]; exact h.2.2.2.1)
                refine lv_iconst (pc := 384) (v := (-1)) hx hb dX6_corrects_384 (by decide) ?_
                have hq9 : (fun r H1 => (cRej (e64 u) (f (8 + se)) (f (12 + se)).toInt64 rd.toInt64 gt ∧ r = 0 ∧ va_P D vwCl [(mo, .inr (6, [.ref ms, .ref mp, .int (nI np), .ref me, .ref mn, .long (cY (e64 u) (f (8 + se)) rd.toInt64), .long lg, .long fg, .long hv])), (mn, .inl (g 1, 5, .inr (.inl (e64 u))))] H1) ∨ (¬ cRej (e64 u) (f (8 + se)) (f (12 + se)).toInt64 rd.toInt64 gt ∧ ¬ cOK (e64 u) (f (8 + se)) (f (12 + se)).toInt64 rd.toInt64 ∧ r = -1 ∧ va_P D vwCl [(mo, .inr (6, [.ref ms, .ref mp, .int (nI np), .ref me, .ref mn, .long (cY (e64 u) (f (8 + se)) rd.toInt64), .long lg, .long fg, .long hv])), (mn, .inl (g 1, 5, .inr (.inl (e64 u))))] H1) ∨ (¬ cRej (e64 u) (f (8 + se)) (f (12 + se)).toInt64 rd.toInt64 gt ∧ cOK (e64 u) (f (8 + se)) (f (12 + se)).toInt64 rd.toInt64 ∧ r = 1 ∧ va_P D vwCl [(mo, .inr (6, [.ref ms, .ref mp, .int (nI np), .ref me, .ref mn, .long (cY (e64 u) (f (8 + se)) rd.toInt64), .long (cK (e64 u) (f (8 + se)) (f (12 + se)).toInt64), .long (cL (e64 u) (f (8 + se)) (f (12 + se)).toInt64), .long hv])), (mn, .inl (g 1, 5, .inr (.inl (e64 (cE u (f (8 + se)) (f (12 + se)) rd)))))] H1) : Int32 → Heap → Prop) (-1) H := Or.inr (Or.inl ⟨hnr, hnk, rfl, by rw [← hyv]; exact hP.sub [0, 1] rfl⟩)
                exact W.iret (v := (-1)) hx hb hr (fun t ht hW => ⟨⟨_, rfl, by rw [ht]; exact hq9⟩, hS.F ht⟩) hS.2.2 dX6_corrects_385
              · have hk357 := bI_ne (fun e => cd30 (hr29.trans e))
                rw [hv16] at hk357
                refine lv_lload (pc := 360) hx hb dX6_corrects_360 (lv_at hl 5 rfl) ?_
                refine kIp (pc := 362) (va_runS (As := [.long a9]) (rest := []) ⟨hx, hb, hml, hown, hts⟩ (m6_isIn l a9 H) (va_cwS 1 hts (lw_S q651 q652 q28 q653) rfl rfl rfl (by decide +kernel) ⟨Nat.le_of_ble_eq_true rfl, Nat.le_of_ble_eq_true rfl⟩) (preS hK) rfl rfl hl.1 rfl (lv_room (Nat.le_of_ble_eq_true rfl)) dX6_corrects_362 ⟨Nat.le_of_ble_eq_true rfl, Nat.le_of_ble_eq_true rfl⟩) (fun r31 hr31 => ?_)
                refine lv_if_eq (pc := 365) (tgt := 384) hx hb dX6_corrects_365 (by decide) (fun cd32 => ?_) (fun cd32 => ?_)
                · have hnk : ¬ cOK (e64 u) (f (8 + se)) (f (12 + se)).toInt64 rd.toInt64 := fun h => (bI_eq (hr31.symm.trans cd32)) (by rw [ha9]; exact h.2.2.2.2.1)
                  refine lv_iconst (pc := 384) (v := (-1)) hx hb dX6_corrects_384 (by decide) ?_
                  have hq9 : (fun r H1 => (cRej (e64 u) (f (8 + se)) (f (12 + se)).toInt64 rd.toInt64 gt ∧ r = 0 ∧ va_P D vwCl [(mo, .inr (6, [.ref ms, .ref mp, .int (nI np), .ref me, .ref mn, .long (cY (e64 u) (f (8 + se)) rd.toInt64), .long lg, .long fg, .long hv])), (mn, .inl (g 1, 5, .inr (.inl (e64 u))))] H1) ∨ (¬ cRej (e64 u) (f (8 + se)) (f (12 + se)).toInt64 rd.toInt64 gt ∧ ¬ cOK (e64 u) (f (8 + se)) (f (12 + se)).toInt64 rd.toInt64 ∧ r = -1 ∧ va_P D vwCl [(mo, .inr (6, [.ref ms, .ref mp, .int (nI np), .ref me, .ref mn, .long (cY (e64 u) (f (8 + se)) rd.toInt64), .long lg, .long fg, .long hv])), (mn, .inl (g 1, 5, .inr (.inl (e64 u))))] H1) ∨ (¬ cRej (e64 u) (f (8 + se)) (f (12 + se)).toInt64 rd.toInt64 gt ∧ cOK (e64 u) (f (8 + se)) (f (12 + se)).toInt64 rd.toInt64 ∧ r = 1 ∧ va_P D vwCl [(mo, .inr (6, [.ref ms, .ref mp, .int (nI np), .ref me, .ref mn, .long (cY (e64 u) (f (8 + se)) rd.toInt64), .long (cK (e64 u) (f (8 + se)) (f (12 + se)).toInt64), .long (cL (e64 u) (f (8 + se)) (f (12 + se)).toInt64), .long hv])), (mn, .inl (g 1, 5, .inr (.inl (e64 (cE u (f (8 + se)) (f (12 + se)) rd)))))] H1) : Int32 → Heap → Prop) (-1) H := Or.inr (Or.inl ⟨hnr, hnk, rfl, by rw [← hyv]; exact hP.sub [0, 1] rfl⟩)
                  exact W.iret (v := (-1)) hx hb hr (fun t ht hW => ⟨⟨_, rfl, by rw [ht]; exact hq9⟩, hS.F ht⟩) hS.2.2 dX6_corrects_385
                · have hk365 := bI_ne (fun e => cd32 (hr31.trans e))
                  rw [ha9] at hk365
                  refine lv_lload (pc := 368) hx hb dX6_corrects_368 (lv_at hl 6 rfl) ?_
                  refine kIp (pc := 370) (va_runS (As := [.long z23]) (rest := []) ⟨hx, hb, hml, hown, hts⟩ (m6_isIn l z23 H) (va_cwS 1 hts (lw_S q651 q652 q28 q653) rfl rfl rfl (by decide +kernel) ⟨Nat.le_of_ble_eq_true rfl, Nat.le_of_ble_eq_true rfl⟩) (preS hK) rfl rfl hl.1 rfl (lv_room (Nat.le_of_ble_eq_true rfl)) dX6_corrects_370 ⟨Nat.le_of_ble_eq_true rfl, Nat.le_of_ble_eq_true rfl⟩) (fun r33 hr33 => ?_)
                  refine lv_if_eq (pc := 373) (tgt := 384) hx hb dX6_corrects_373 (by decide) (fun cd34 => ?_) (fun cd34 => ?_)
                  · have hnk : ¬ cOK (e64 u) (f (8 + se)) (f (12 + se)).toInt64 rd.toInt64 := fun h => (bI_eq (hr33.symm.trans cd34)) (by rw [hv20]; exact h.2.2.2.2.2.1)
                    refine lv_iconst (pc := 384) (v := (-1)) hx hb dX6_corrects_384 (by decide) ?_
                    have hq9 : (fun r H1 => (cRej (e64 u) (f (8 + se)) (f (12 + se)).toInt64 rd.toInt64 gt ∧ r = 0 ∧ va_P D vwCl [(mo, .inr (6, [.ref ms, .ref mp, .int (nI np), .ref me, .ref mn, .long (cY (e64 u) (f (8 + se)) rd.toInt64), .long lg, .long fg, .long hv])), (mn, .inl (g 1, 5, .inr (.inl (e64 u))))] H1) ∨ (¬ cRej (e64 u) (f (8 + se)) (f (12 + se)).toInt64 rd.toInt64 gt ∧ ¬ cOK (e64 u) (f (8 + se)) (f (12 + se)).toInt64 rd.toInt64 ∧ r = -1 ∧ va_P D vwCl [(mo, .inr (6, [.ref ms, .ref mp, .int (nI np), .ref me, .ref mn, .long (cY (e64 u) (f (8 + se)) rd.toInt64), .long lg, .long fg, .long hv])), (mn, .inl (g 1, 5, .inr (.inl (e64 u))))] H1) ∨ (¬ cRej (e64 u) (f (8 + se)) (f (12 + se)).toInt64 rd.toInt64 gt ∧ cOK (e64 u) (f (8 + se)) (f (12 + se)).toInt64 rd.toInt64 ∧ r = 1 ∧ va_P D vwCl [(mo, .inr (6, [.ref ms, .ref mp, .int (nI np), .ref me, .ref mn, .long (cY (e64 u) (f (8 + se)) rd.toInt64), .long (cK (e64 u) (f (8 + se)) (f (12 + se)).toInt64), .long (cL (e64 u) (f (8 + se)) (f (12 + se)).toInt64), .long hv])), (mn, .inl (g 1, 5, .inr (.inl (e64 (cE u (f (8 + se)) (f (12 + se)) rd)))))] H1) : Int32 → Heap → Prop) (-1) H := Or.inr (Or.inl ⟨hnr, hnk, rfl, by rw [← hyv]; exact hP.sub [0, 1] rfl⟩)
                    exact W.iret (v := (-1)) hx hb hr (fun t ht hW => ⟨⟨_, rfl, by rw [ht]; exact hq9⟩, hS.F ht⟩) hS.2.2 dX6_corrects_385
                  · have hk373 := bI_ne (fun e => cd34 (hr33.trans e))
                    rw [hv20] at hk373
                    refine lv_lload (pc := 376) hx hb dX6_corrects_376 (lv_at hl 7 rfl) ?_
                    refine kIp (pc := 378) (va_runS (As := [.long c9]) (rest := []) ⟨hx, hb, hml, hown, hts⟩ (m6_isIn l c9 H) (va_cwS 1 hts (lw_S q651 q652 q28 q653) rfl rfl rfl (by decide +kernel) ⟨Nat.le_of_ble_eq_true rfl, Nat.le_of_ble_eq_true rfl⟩) (preS hK) rfl rfl hl.1 rfl (lv_room (Nat.le_of_ble_eq_true rfl)) dX6_corrects_378 ⟨Nat.le_of_ble_eq_true rfl, Nat.le_of_ble_eq_true rfl⟩) (fun r35 hr35 => ?_)
                    refine lv_if_ne (pc := 381) (tgt := 386) hx hb dX6_corrects_381 (by decide) (fun cd36 => ?_) (fun cd36 => ?_)
                    · have hk381 := bI_ne (fun e => cd36 (hr35.trans e))
                      rw [hc9] at hk381
                      refine lv_aload_n (pc := 386) hx hb dX6_corrects_386 rfl (lv_at hl 0 rfl) ?_
                      refine va_get (pc := 387) (D := D) (ci := 6) (v := .ref mn) (C := RX6) (T := TX6) (N := 9) hx hb hts in_X6 hown hK.1 hP 0 rfl rfl 4 (by decide) (hts _ q578) (fun _ h9 => h9) rfl dX6_corrects_387 ?_
                      refine lv_iconst (pc := 390) (v := 0) hx hb dX6_corrects_390 (by decide) ?_
                      refine lv_lload (pc := 391) hx hb dX6_corrects_391 (lv_at hl 3 rfl) ?_
                      refine la_st (pc := 393) (f' := (vp_updL (e64 u) 0 z15)) hx hb hK.1 hP hD hS 1 1 0 rfl rfl (nl 0) (Nat.le_of_ble_eq_true rfl) (Nat.le_of_ble_eq_true rfl) (fun _ _ => rfl) dX6_corrects_393 (fun H locs hP hD hS => ?_)
                      have hP : va_P D vwCl [(mo, .inr (6, [.ref ms, .ref mp, .int (nI np), .ref me, .ref mn, .long z3, .long lg, .long fg, .long hv])), (mn, .inl (g 1, 5, .inr (.inl (vp_updL (e64 u) 0 z15))))] H := hP
                      have hD : va_D (Aw [mo, mn] s.heap.size) [(mo, .inr (6, [.ref ms, .ref mp, .int (nI np), .ref me, .ref mn, .long z3, .long lg, .long fg, .long hv])), (mn, .inl (g 1, 5, .inr (.inl (vp_updL (e64 u) 0 z15))))] := hD
                      refine lv_aload_n (pc := 394) hx hb dX6_corrects_394 rfl (lv_at hl 0 rfl) ?_
                      refine va_get (pc := 395) (D := D) (ci := 6) (v := .ref mn) (C := RX6) (T := TX6) (N := 9) hx hb hts in_X6 hown hK.1 hP 0 rfl rfl 4 (by decide) (hts _ q578) (fun _ h9 => h9) rfl dX6_corrects_395 ?_
                      refine lv_iconst (pc := 398) (v := 1) hx hb dX6_corrects_398 (by decide) ?_
                      refine lv_lload (pc := 399) hx hb dX6_corrects_399 (lv_at hl 4 rfl) ?_
                      refine la_st (pc := 401) (f' := (vp_updL (vp_updL (e64 u) 0 z15) 1 z17)) hx hb hK.1 hP hD hS 1 1 1 rfl rfl (nl 1) (Nat.le_of_ble_eq_true rfl) (Nat.le_of_ble_eq_true rfl) (fun _ _ => rfl) dX6_corrects_401 (fun H locs hP hD hS => ?_)
                      have hP : va_P D vwCl [(mo, .inr (6, [.ref ms, .ref mp, .int (nI np), .ref me, .ref mn, .long z3, .long lg, .long fg, .long hv])), (mn, .inl (g 1, 5, .inr (.inl (vp_updL (vp_updL (e64 u) 0 z15) 1 z17))))] H := hP
                      have hD : va_D (Aw [mo, mn] s.heap.size) [(mo, .inr (6, [.ref ms, .ref mp, .int (nI np), .ref me, .ref mn, .long z3, .long lg, .long fg, .long hv])), (mn, .inl (g 1, 5, .inr (.inl (vp_updL (vp_updL (e64 u) 0 z15) 1 z17))))] := hD
                      refine lv_aload_n (pc := 402) hx hb dX6_corrects_402 rfl (lv_at hl 0 rfl) ?_
                      refine va_get (pc := 403) (D := D) (ci := 6) (v := .ref mn) (C := RX6) (T := TX6) (N := 9) hx hb hts in_X6 hown hK.1 hP 0 rfl rfl 4 (by decide) (hts _ q578) (fun _ h9 => h9) rfl dX6_corrects_403 ?_
                      refine lv_iconst (pc := 406) (v := 2) hx hb dX6_corrects_406 (by decide) ?_
                      refine lv_lload (pc := 407) hx hb dX6_corrects_407 (lv_at hl 5 rfl) ?_
                      refine la_st (pc := 409) (f' := (vp_updL (vp_updL (vp_updL (e64 u) 0 z15) 1 z17) 2 a9)) hx hb hK.1 hP hD hS 1 1 2 rfl rfl (nl 2) (Nat.le_of_ble_eq_true rfl) (Nat.le_of_ble_eq_true rfl) (fun _ _ => rfl) dX6_corrects_409 (fun H locs hP hD hS => ?_)
                      have hP : va_P D vwCl [(mo, .inr (6, [.ref ms, .ref mp, .int (nI np), .ref me, .ref mn, .long z3, .long lg, .long fg, .long hv])), (mn, .inl (g 1, 5, .inr (.inl (vp_updL (vp_updL (vp_updL (e64 u) 0 z15) 1 z17) 2 a9))))] H := hP
                      have hD : va_D (Aw [mo, mn] s.heap.size) [(mo, .inr (6, [.ref ms, .ref mp, .int (nI np), .ref me, .ref mn, .long z3, .long lg, .long fg, .long hv])), (mn, .inl (g 1, 5, .inr (.inl (vp_updL (vp_updL (vp_updL (e64 u) 0 z15) 1 z17) 2 a9))))] := hD
                      refine lv_aload_n (pc := 410) hx hb dX6_corrects_410 rfl (lv_at hl 0 rfl) ?_
                      refine va_get (pc := 411) (D := D) (ci := 6) (v := .ref mn) (C := RX6) (T := TX6) (N := 9) hx hb hts in_X6 hown hK.1 hP 0 rfl rfl 4 (by decide) (hts _ q578) (fun _ h9 => h9) rfl dX6_corrects_411 ?_
                      refine lv_iconst (pc := 414) (v := 3) hx hb dX6_corrects_414 (by decide) ?_
                      refine lv_lload (pc := 415) hx hb dX6_corrects_415 (lv_at hl 6 rfl) ?_
                      refine la_st (pc := 417) (f' := (vp_updL (vp_updL (vp_updL (vp_updL (e64 u) 0 z15) 1 z17) 2 a9) 3 z23)) hx hb hK.1 hP hD hS 1 1 3 rfl rfl (nl 3) (Nat.le_of_ble_eq_true rfl) (Nat.le_of_ble_eq_true rfl) (fun _ _ => rfl) dX6_corrects_417 (fun H locs hP hD hS => ?_)
                      have hP : va_P D vwCl [(mo, .inr (6, [.ref ms, .ref mp, .int (nI np), .ref me, .ref mn, .long z3, .long lg, .long fg, .long hv])), (mn, .inl (g 1, 5, .inr (.inl (vp_updL (vp_updL (vp_updL (vp_updL (e64 u) 0 z15) 1 z17) 2 a9) 3 z23))))] H := hP
                      have hD : va_D (Aw [mo, mn] s.heap.size) [(mo, .inr (6, [.ref ms, .ref mp, .int (nI np), .ref me, .ref mn, .long z3, .long lg, .long fg, .long hv])), (mn, .inl (g 1, 5, .inr (.inl (vp_updL (vp_updL (vp_updL (vp_updL (e64 u) 0 z15) 1 z17) 2 a9) 3 z23))))] := hD
                      refine lv_aload_n (pc := 418) hx hb dX6_corrects_418 rfl (lv_at hl 0 rfl) ?_
                      refine va_get (pc := 419) (D := D) (ci := 6) (v := .ref mn) (C := RX6) (T := TX6) (N := 9) hx hb hts in_X6 hown hK.1 hP 0 rfl rfl 4 (by decide) (hts _ q578) (fun _ h9 => h9) rfl dX6_corrects_419 ?_
                      refine lv_iconst (pc := 422) (v := 4) hx hb dX6_corrects_422 (by decide) ?_
                      refine lv_lload (pc := 423) hx hb dX6_corrects_423 (lv_at hl 7 rfl) ?_
                      refine la_st (pc := 425) (f' := (e64 (cE u (f (8 + se)) (f (12 + se)) rd))) hx hb hK.1 hP hD hS 1 1 4 rfl rfl (nl 4) (Nat.le_of_ble_eq_true rfl) (Nat.le_of_ble_eq_true rfl) (fun j hj => by have h9 := e64_cE ⟨hk167, hk175, hk349, hk357, hk365, hk373, hk381⟩ j hj; rw [← hv14, ← hv16, ← ha9, ← hv20, ← hc9] at h9; exact h9) dX6_corrects_425 (fun H locs hP hD hS => ?_)
                      have hP : va_P D vwCl [(mo, .inr (6, [.ref ms, .ref mp, .int (nI np), .ref me, .ref mn, .long z3, .long lg, .long fg, .long hv])), (mn, .inl (g 1, 5, .inr (.inl (e64 (cE u (f (8 + se)) (f (12 + se)) rd)))))] H := hP
                      have hD : va_D (Aw [mo, mn] s.heap.size) [(mo, .inr (6, [.ref ms, .ref mp, .int (nI np), .ref me, .ref mn, .long z3, .long lg, .long fg, .long hv])), (mn, .inl (g 1, 5, .inr (.inl (e64 (cE u (f (8 + se)) (f (12 + se)) rd)))))] := hD
                      refine lv_aload_n (pc := 426) hx hb dX6_corrects_426 rfl (lv_at hl 0 rfl) ?_
                      refine lv_lload (pc := 427) hx hb dX6_corrects_427 (lv_at hl 1 rfl) ?_
                      refine va_put (pc := 429) (D := D) (ci := 6) (v := .long r7) (ty := .long) (C := RX6) (T := TX6) (N := 9) hx hb hts in_X6 tyX6 tyX6_ok nmX6 hown hK.1 hP hD hS 0 rfl rfl 6 (by decide) (hts _ q580) (fun _ h9 => h9) rfl (by decide +kernel) rfl rfl (Nat.le_of_ble_eq_true rfl) dX6_corrects_429 (fun H locs hP hD hS => ?_)
                      have hP : va_P D vwCl [(mo, .inr (6, [.ref ms, .ref mp, .int (nI np), .ref me, .ref mn, .long z3, .long r7, .long fg, .long hv])), (mn, .inl (g 1, 5, .inr (.inl (e64 (cE u (f (8 + se)) (f (12 + se)) rd)))))] H := hP
                      have hD : va_D (Aw [mo, mn] s.heap.size) [(mo, .inr (6, [.ref ms, .ref mp, .int (nI np), .ref me, .ref mn, .long z3, .long r7, .long fg, .long hv])), (mn, .inl (g 1, 5, .inr (.inl (e64 (cE u (f (8 + se)) (f (12 + se)) rd)))))] := hD
                      refine lv_aload_n (pc := 432) hx hb dX6_corrects_432 rfl (lv_at hl 0 rfl) ?_
                      refine lv_lload (pc := 433) hx hb dX6_corrects_433 (lv_at hl 2 rfl) ?_
                      refine va_put (pc := 435) (D := D) (ci := 6) (v := .long r9) (ty := .long) (C := RX6) (T := TX6) (N := 9) hx hb hts in_X6 tyX6 tyX6_ok nmX6 hown hK.1 hP hD hS 0 rfl rfl 7 (by decide) (hts _ q581) (fun _ h9 => h9) rfl (by decide +kernel) rfl rfl (Nat.le_of_ble_eq_true rfl) dX6_corrects_435 (fun H locs hP hD hS => ?_)
                      have hP : va_P D vwCl [(mo, .inr (6, [.ref ms, .ref mp, .int (nI np), .ref me, .ref mn, .long z3, .long r7, .long r9, .long hv])), (mn, .inl (g 1, 5, .inr (.inl (e64 (cE u (f (8 + se)) (f (12 + se)) rd)))))] H := hP
                      have hD : va_D (Aw [mo, mn] s.heap.size) [(mo, .inr (6, [.ref ms, .ref mp, .int (nI np), .ref me, .ref mn, .long z3, .long r7, .long r9, .long hv])), (mn, .inl (g 1, 5, .inr (.inl (e64 (cE u (f (8 + se)) (f (12 + se)) rd)))))] := hD
                      refine lv_iconst (pc := 438) (v := 1) hx hb dX6_corrects_438 (by decide) ?_
                      have hq9 : (fun r H1 => (cRej (e64 u) (f (8 + se)) (f (12 + se)).toInt64 rd.toInt64 gt ∧ r = 0 ∧ va_P D vwCl [(mo, .inr (6, [.ref ms, .ref mp, .int (nI np), .ref me, .ref mn, .long (cY (e64 u) (f (8 + se)) rd.toInt64), .long lg, .long fg, .long hv])), (mn, .inl (g 1, 5, .inr (.inl (e64 u))))] H1) ∨ (¬ cRej (e64 u) (f (8 + se)) (f (12 + se)).toInt64 rd.toInt64 gt ∧ ¬ cOK (e64 u) (f (8 + se)) (f (12 + se)).toInt64 rd.toInt64 ∧ r = -1 ∧ va_P D vwCl [(mo, .inr (6, [.ref ms, .ref mp, .int (nI np), .ref me, .ref mn, .long (cY (e64 u) (f (8 + se)) rd.toInt64), .long lg, .long fg, .long hv])), (mn, .inl (g 1, 5, .inr (.inl (e64 u))))] H1) ∨ (¬ cRej (e64 u) (f (8 + se)) (f (12 + se)).toInt64 rd.toInt64 gt ∧ cOK (e64 u) (f (8 + se)) (f (12 + se)).toInt64 rd.toInt64 ∧ r = 1 ∧ va_P D vwCl [(mo, .inr (6, [.ref ms, .ref mp, .int (nI np), .ref me, .ref mn, .long (cY (e64 u) (f (8 + se)) rd.toInt64), .long (cK (e64 u) (f (8 + se)) (f (12 + se)).toInt64), .long (cL (e64 u) (f (8 + se)) (f (12 + se)).toInt64), .long hv])), (mn, .inl (g 1, 5, .inr (.inl (e64 (cE u (f (8 + se)) (f (12 + se)) rd)))))] H1) : Int32 → Heap → Prop) 1 H := Or.inr (Or.inr ⟨hnr, ⟨hk167, hk175, hk349, hk357, hk365, hk373, hk381⟩, rfl, by rw [← hyv, ← hkv, ← hlv]; exact hP.sub [0, 1] rfl⟩)
                      exact W.iret (v := 1) hx hb hr (fun t ht hW => ⟨⟨_, rfl, by rw [ht]; exact hq9⟩, hS.F ht⟩) hS.2.2 dX6_corrects_439
                    · have hnk : ¬ cOK (e64 u) (f (8 + se)) (f (12 + se)).toInt64 rd.toInt64 := fun h => (bI_eq (hr35.symm.trans cd36)) (by rw [hc9]; exact h.2.2.2.2.2.2)
                      refine lv_iconst (pc := 384) (v := (-1)) hx hb dX6_corrects_384 (by decide) ?_
                      have hq9 : (fun r H1 => (cRej (e64 u) (f (8 + se)) (f (12 + se)).toInt64 rd.toInt64 gt ∧ r = 0 ∧ va_P D vwCl [(mo, .inr (6, [.ref ms, .ref mp, .int (nI np), .ref me, .ref mn, .long (cY (e64 u) (f (8 + se)) rd.toInt64), .long lg, .long fg, .long hv])), (mn, .inl (g 1, 5, .inr (.inl (e64 u))))] H1) ∨ (¬ cRej (e64 u) (f (8 + se)) (f (12 + se)).toInt64 rd.toInt64 gt ∧ ¬ cOK (e64 u) (f (8 + se)) (f (12 + se)).toInt64 rd.toInt64 ∧ r = -1 ∧ va_P D vwCl [(mo, .inr (6, [.ref ms, .ref mp, .int (nI np), .ref me, .ref mn, .long (cY (e64 u) (f (8 + se)) rd.toInt64), .long lg, .long fg, .long hv])), (mn, .inl (g 1, 5, .inr (.inl (e64 u))))] H1) ∨ (¬ cRej (e64 u) (f (8 + se)) (f (12 + se)).toInt64 rd.toInt64 gt ∧ cOK (e64 u) (f (8 + se)) (f (12 + se)).toInt64 rd.toInt64 ∧ r = 1 ∧ va_P D vwCl [(mo, .inr (6, [.ref ms, .ref mp, .int (nI np), .ref me, .ref mn, .long (cY (e64 u) (f (8 + se)) rd.toInt64), .long (cK (e64 u) (f (8 + se)) (f (12 + se)).toInt64), .long (cL (e64 u) (f (8 + se)) (f (12 + se)).toInt64), .long hv])), (mn, .inl (g 1, 5, .inr (.inl (e64 (cE u (f (8 + se)) (f (12 + se)) rd)))))] H1) : Int32 → Heap → Prop) (-1) H := Or.inr (Or.inl ⟨hnr, hnk, rfl, by rw [← hyv]; exact hP.sub [0, 1] rfl⟩)
                      exact W.iret (v := (-1)) hx hb hr (fun t ht hW => ⟨⟨_, rfl, by rw [ht]; exact hq9⟩, hS.F ht⟩) hS.2.2 dX6_corrects_385
          refine lv_lload (pc := 314) hx hb dX6_corrects_314 (lv_at hl 2 rfl) ?_
          refine lv_lconst (pc := 316) (v := 0) hx hb dX6_corrects_316 rfl ?_
          refine lq_ge (pc := 317) (tgt := 325) hx hb dX6_corrects_317 dX6_corrects_318 (by decide) (fun cd37 => ?_) (fun cd37 => ?_)
          · refine lv_lload (pc := 325) hx hb dX6_corrects_325 (lv_at hl 2 rfl) ?_
            refine lv_lstore (pc := 327) (lv' := [(18, .long z20), (22, .long z26), (20, .long z23), (16, .long z17), (14, .long z15), (12, .long r9), (10, .long r7), (0, .ref mo), (5, .int 0), (6, .long z3), (8, .long z5)]) hx hb dX6_corrects_327 hl (by decide) rfl (fun ls hl => ?_)
            refine lv_lload (pc := 329) hx hb dX6_corrects_329 (lv_at hl 1 rfl) ?_
            refine lv_lconst (pc := 331) (v := 0) hx hb dX6_corrects_331 rfl ?_
            refine lq_ge (pc := 332) (tgt := 340) hx hb dX6_corrects_332 dX6_corrects_333 (by decide) (fun cd38 => ?_) (fun cd38 => ?_)
            · refine lv_lload (pc := 340) hx hb dX6_corrects_340 (lv_at hl 1 rfl) ?_
              refine lv_lstore (pc := 342) (lv' := [(22, .long z26), (18, .long z20), (20, .long z23), (16, .long z17), (14, .long z15), (12, .long r9), (10, .long r7), (0, .ref mo), (5, .int 0), (6, .long z3), (8, .long z5)]) hx hb dX6_corrects_342 hl (by decide) rfl (fun ls hl => ?_)
              exact cut2  z20 z26 ((pos_pos' cd37).symm.trans hv18) ((pos_pos' cd38).symm.trans hv22) ls (lv_sub hl [7, 6, 5, 4, 3, 1, 2, 0] rfl)
            · refine lv_lconst (pc := 336) (v := 0) hx hb dX6_corrects_336 rfl ?_
              refine lv_goto (pc := 337) (tgt := 342) hx hb dX6_corrects_337 (by decide) ?_
              refine lv_lstore (pc := 342) (lv' := [(22, .long 0), (18, .long z20), (20, .long z23), (16, .long z17), (14, .long z15), (12, .long r9), (10, .long r7), (0, .ref mo), (5, .int 0), (6, .long z3), (8, .long z5)]) hx hb dX6_corrects_342 hl (by decide) rfl (fun ls hl => ?_)
              exact cut2  z20 0 ((pos_pos' cd37).symm.trans hv18) ((pos_neg' cd38).symm.trans hv22) ls (lv_sub hl [7, 6, 5, 4, 3, 1, 2, 0] rfl)
          · refine lv_lconst (pc := 321) (v := 0) hx hb dX6_corrects_321 rfl ?_
            refine lv_goto (pc := 322) (tgt := 327) hx hb dX6_corrects_322 (by decide) ?_
            refine lv_lstore (pc := 327) (lv' := [(18, .long 0), (22, .long z26), (20, .long z23), (16, .long z17), (14, .long z15), (12, .long r9), (10, .long r7), (0, .ref mo), (5, .int 0), (6, .long z3), (8, .long z5)]) hx hb dX6_corrects_327 hl (by decide) rfl (fun ls hl => ?_)
            refine lv_lload (pc := 329) hx hb dX6_corrects_329 (lv_at hl 1 rfl) ?_
            refine lv_lconst (pc := 331) (v := 0) hx hb dX6_corrects_331 rfl ?_
            refine lq_ge (pc := 332) (tgt := 340) hx hb dX6_corrects_332 dX6_corrects_333 (by decide) (fun cd39 => ?_) (fun cd39 => ?_)
            · refine lv_lload (pc := 340) hx hb dX6_corrects_340 (lv_at hl 1 rfl) ?_
              refine lv_lstore (pc := 342) (lv' := [(22, .long z26), (18, .long 0), (20, .long z23), (16, .long z17), (14, .long z15), (12, .long r9), (10, .long r7), (0, .ref mo), (5, .int 0), (6, .long z3), (8, .long z5)]) hx hb dX6_corrects_342 hl (by decide) rfl (fun ls hl => ?_)
              exact cut2  0 z26 ((pos_neg' cd37).symm.trans hv18) ((pos_pos' cd39).symm.trans hv22) ls (lv_sub hl [7, 6, 5, 4, 3, 1, 2, 0] rfl)
            · refine lv_lconst (pc := 336) (v := 0) hx hb dX6_corrects_336 rfl ?_
              refine lv_goto (pc := 337) (tgt := 342) hx hb dX6_corrects_337 (by decide) ?_
              refine lv_lstore (pc := 342) (lv' := [(22, .long 0), (18, .long 0), (20, .long z23), (16, .long z17), (14, .long z15), (12, .long r9), (10, .long r7), (0, .ref mo), (5, .int 0), (6, .long z3), (8, .long z5)]) hx hb dX6_corrects_342 hl (by decide) rfl (fun ls hl => ?_)
              exact cut2  0 0 ((pos_neg' cd37).symm.trans hv18) ((pos_neg' cd39).symm.trans hv22) ls (lv_sub hl [7, 6, 5, 4, 3, 1, 2, 0] rfl)
        · have hnk : ¬ cOK (e64 u) (f (8 + se)) (f (12 + se)).toInt64 rd.toInt64 := fun h => (bI_eq (hr12.symm.trans cd13)) (by rw [hlv]; exact h.2.1)
          refine lv_iconst (pc := 178) (v := (-1)) hx hb dX6_corrects_178 (by decide) ?_
          have hq9 : (fun r H1 => (cRej (e64 u) (f (8 + se)) (f (12 + se)).toInt64 rd.toInt64 gt ∧ r = 0 ∧ va_P D vwCl [(mo, .inr (6, [.ref ms, .ref mp, .int (nI np), .ref me, .ref mn, .long (cY (e64 u) (f (8 + se)) rd.toInt64), .long lg, .long fg, .long hv])), (mn, .inl (g 1, 5, .inr (.inl (e64 u))))] H1) ∨ (¬ cRej (e64 u) (f (8 + se)) (f (12 + se)).toInt64 rd.toInt64 gt ∧ ¬ cOK (e64 u) (f (8 + se)) (f (12 + se)).toInt64 rd.toInt64 ∧ r = -1 ∧ va_P D vwCl [(mo, .inr (6, [.ref ms, .ref mp, .int (nI np), .ref me, .ref mn, .long (cY (e64 u) (f (8 + se)) rd.toInt64), .long lg, .long fg, .long hv])), (mn, .inl (g 1, 5, .inr (.inl (e64 u))))] H1) ∨ (¬ cRej (e64 u) (f (8 + se)) (f (12 + se)).toInt64 rd.toInt64 gt ∧ cOK (e64 u) (f (8 + se)) (f (12 + se)).toInt64 rd.toInt64 ∧ r = 1 ∧ va_P D vwCl [(mo, .inr (6, [.ref ms, .ref mp, .int (nI np), .ref me, .ref mn, .long (cY (e64 u) (f (8 + se)) rd.toInt64), .long (cK (e64 u) (f (8 + se)) (f (12 + se)).toInt64), .long (cL (e64 u) (f (8 + se)) (f (12 + se)).toInt64), .long hv])), (mn, .inl (g 1, 5, .inr (.inl (e64 (cE u (f (8 + se)) (f (12 + se)) rd)))))] H1) : Int32 → Heap → Prop) (-1) H := Or.inr (Or.inl ⟨hnr, hnk, rfl, by rw [← hyv]; exact hP.sub [0, 1] rfl⟩)
          exact W.iret (v := (-1)) hx hb hr (fun t ht hW => ⟨⟨_, rfl, by rw [ht]; exact hq9⟩, hS.F ht⟩) hS.2.2 dX6_corrects_179
    refine lv_iload (pc := 82) hx hb dX6_corrects_82 (lv_at hl 6 rfl) ?_
    refine lv_if_eq (pc := 84) (tgt := 108) hx hb dX6_corrects_84 (by decide) (fun cd40 => ?_) (fun cd40 => ?_)
    · exact cut1   (fun h => h.1 cd40) ls (lv_sub hl [3, 2, 1, 0] rfl)
    · refine lv_lload (pc := 87) hx hb dX6_corrects_87 (lv_at hl 1 rfl) ?_
      refine lv_lload (pc := 89) hx hb dX6_corrects_89 (lv_at hl 1 rfl) ?_
      refine lv_lmul (pc := 91) hx hb dX6_corrects_91 ?_
      refine lv_iload (pc := 92) hx hb dX6_corrects_92 (lv_at hl 6 rfl) ?_
      refine lv_i2l (pc := 94) hx hb dX6_corrects_94 rfl ?_
      refine lv_lload (pc := 95) hx hb dX6_corrects_95 (lv_at hl 0 rfl) ?_
      refine lv_lmul (pc := 97) hx hb dX6_corrects_97 ?_
      refine lv_ldc2 (pc := 98) (v := 4096) hx hb hown (hts _ q673) dX6_corrects_98 ?_
      refine lv_lmul (pc := 101) hx hb dX6_corrects_101 ?_
      refine lq_le (pc := 102) (tgt := 108) hx hb dX6_corrects_102 dX6_corrects_103 (by decide) (fun cd41 => ?_) (fun cd41 => ?_)
      · exact cut1   (fun h => h.2 (by rw [← hyv, ← hsv]; exact cd41)) ls (lv_sub hl [3, 2, 1, 0] rfl)
      · have hrj : cRej (e64 u) (f (8 + se)) (f (12 + se)).toInt64 rd.toInt64 gt := ⟨cd40, by rw [← hyv, ← hsv]; exact cd41⟩
        refine lv_iconst (pc := 106) (v := 0) hx hb dX6_corrects_106 (by decide) ?_
        have hq9 : (fun r H1 => (cRej (e64 u) (f (8 + se)) (f (12 + se)).toInt64 rd.toInt64 gt ∧ r = 0 ∧ va_P D vwCl [(mo, .inr (6, [.ref ms, .ref mp, .int (nI np), .ref me, .ref mn, .long (cY (e64 u) (f (8 + se)) rd.toInt64), .long lg, .long fg, .long hv])), (mn, .inl (g 1, 5, .inr (.inl (e64 u))))] H1) ∨ (¬ cRej (e64 u) (f (8 + se)) (f (12 + se)).toInt64 rd.toInt64 gt ∧ ¬ cOK (e64 u) (f (8 + se)) (f (12 + se)).toInt64 rd.toInt64 ∧ r = -1 ∧ va_P D vwCl [(mo, .inr (6, [.ref ms, .ref mp, .int (nI np), .ref me, .ref mn, .long (cY (e64 u) (f (8 + se)) rd.toInt64), .long lg, .long fg, .long hv])), (mn, .inl (g 1, 5, .inr (.inl (e64 u))))] H1) ∨ (¬ cRej (e64 u) (f (8 + se)) (f (12 + se)).toInt64 rd.toInt64 gt ∧ cOK (e64 u) (f (8 + se)) (f (12 + se)).toInt64 rd.toInt64 ∧ r = 1 ∧ va_P D vwCl [(mo, .inr (6, [.ref ms, .ref mp, .int (nI np), .ref me, .ref mn, .long (cY (e64 u) (f (8 + se)) rd.toInt64), .long (cK (e64 u) (f (8 + se)) (f (12 + se)).toInt64), .long (cL (e64 u) (f (8 + se)) (f (12 + se)).toInt64), .long hv])), (mn, .inl (g 1, 5, .inr (.inl (e64 (cE u (f (8 + se)) (f (12 + se)) rd)))))] H1) : Int32 → Heap → Prop) 0 H := Or.inl ⟨hrj, rfl, by rw [← hyv]; exact hP.sub [0, 1] rfl⟩
        exact W.iret (v := 0) hx hb hr (fun t ht hW => ⟨⟨_, rfl, by rw [ht]; exact hq9⟩, hS.F ht⟩) hS.2.2 dX6_corrects_107
  · refine lv_iconst (pc := 12) (v := 1) hx hb dX6_corrects_12 (by decide) ?_
    refine lv_goto (pc := 13) (tgt := 17) hx hb dX6_corrects_13 (by decide) ?_
    refine lv_istore (pc := 17) (lv' := [(5, .int 1), (0, .ref mo), (1, .int sx), (2, .long (Int32.toInt64 rd)), (4, .int gt)]) hx hb dX6_corrects_17 hl (by decide) rfl (fun ls hl => ?_)
    refine lv_lload_n (pc := 19) hx hb dX6_corrects_19 rfl (lv_at hl 3 rfl) ?_
    refine lv_iload (pc := 20) hx hb dX6_corrects_20 (lv_at hl 0 rfl) ?_
    refine lv_if_eq (pc := 22) (tgt := 34) hx hb dX6_corrects_22 (by decide) (fun cd42 => absurd cd42 (by decide)) (fun cd42 => ?_)
    refine lv_aload_n (pc := 25) hx hb dX6_corrects_25 rfl (lv_at hl 1 rfl) ?_
    refine va_get (pc := 26) (D := D) (ci := 6) (v := .ref mn) (C := RX6) (T := TX6) (N := 9) hx hb hts in_X6 hown hK.1 hP 0 rfl rfl 4 (by decide) (hts _ q578) (fun _ h9 => h9) rfl dX6_corrects_26 ?_
    refine lv_iconst (pc := 29) (v := 0) hx hb dX6_corrects_29 (by decide) ?_
    refine la_ld (pc := 30) hx hb hK.1 hP 1 1 0 rfl rfl (nl 0) (Nat.le_of_ble_eq_true rfl) (Nat.le_of_ble_eq_true rfl) dX6_corrects_30 ?_
    refine lv_goto (pc := 31) (tgt := 40) hx hb dX6_corrects_31 (by decide) ?_
    refine lv_lsub (pc := 40) hx hb dX6_corrects_40 ?_
    refine lv_topl (fun z43 ez43 => ?_)
    refine lv_lstore (pc := 41) (lv' := [(6, .long z43), (5, .int 1), (0, .ref mo), (1, .int sx), (2, .long (Int32.toInt64 rd)), (4, .int gt)]) hx hb dX6_corrects_41 hl (by decide) rfl (fun ls hl => ?_)
    have hyv : z43 = cY (e64 u) (f (8 + se)) rd.toInt64 := by rw [ez43]; unfold cY; rw [if_pos cd1]
    refine lv_iload (pc := 43) hx hb dX6_corrects_43 (lv_at hl 1 rfl) ?_
    refine lv_if_eq (pc := 45) (tgt := 57) hx hb dX6_corrects_45 (by decide) (fun cd44 => absurd cd44 (by decide)) (fun cd44 => ?_)
    refine lv_aload_n (pc := 48) hx hb dX6_corrects_48 rfl (lv_at hl 2 rfl) ?_
    refine va_get (pc := 49) (D := D) (ci := 6) (v := .ref mn) (C := RX6) (T := TX6) (N := 9) hx hb hts in_X6 hown hK.1 hP 0 rfl rfl 4 (by decide) (hts _ q578) (fun _ h9 => h9) rfl dX6_corrects_49 ?_
    refine lv_iconst (pc := 52) (v := 2) hx hb dX6_corrects_52 (by decide) ?_
    refine la_ld (pc := 53) hx hb hK.1 hP 1 1 2 rfl rfl (nl 2) (Nat.le_of_ble_eq_true rfl) (Nat.le_of_ble_eq_true rfl) dX6_corrects_53 ?_
    refine lv_goto (pc := 54) (tgt := 63) hx hb dX6_corrects_54 (by decide) ?_
    refine lv_aload_n (pc := 63) hx hb dX6_corrects_63 rfl (lv_at hl 2 rfl) ?_
    refine va_get (pc := 64) (D := D) (ci := 6) (v := .ref ms) (C := RX6) (T := TX6) (N := 9) hx hb hts in_X6 hown hK.1 hP 0 rfl rfl 0 (by decide) (hts _ q574) (fun _ h9 => h9) rfl dX6_corrects_64 ?_
    refine lv_bipush (pc := 67) (v := 12) hx hb dX6_corrects_67 (by decide) ?_
    refine lv_iload_n (pc := 69) hx hb dX6_corrects_69 rfl (lv_at hl 3 rfl) ?_
    refine lv_iadd (pc := 70) hx hb dX6_corrects_70 ?_
    refine ia_ld (pc := 71) hx hb hK.1 hms 0 0 (12 + se) rfl rfl (nadd (nl 12) hsx) (by omega) (Nat.le_of_ble_eq_true rfl) dX6_corrects_71 ?_
    refine lv_i2l (pc := 72) hx hb dX6_corrects_72 rfl ?_
    refine lv_ladd (pc := 73) hx hb dX6_corrects_73 ?_
    refine lv_topl (fun z45 ez45 => ?_)
    refine lv_lstore (pc := 74) (lv' := [(8, .long z45), (6, .long z43), (5, .int 1), (0, .ref mo), (1, .int sx), (2, .long (Int32.toInt64 rd)), (4, .int gt)]) hx hb dX6_corrects_74 hl (by decide) rfl (fun ls hl => ?_)
    have hsv : z45 = cS (e64 u) (f (8 + se)) (f (12 + se)).toInt64 := by rw [ez45]; unfold cS; rw [if_pos cd1]
    refine lv_aload_n (pc := 76) hx hb dX6_corrects_76 rfl (lv_at hl 3 rfl) ?_
    refine lv_lload (pc := 77) hx hb dX6_corrects_77 (lv_at hl 1 rfl) ?_
    refine va_put (pc := 79) (D := D) (ci := 6) (v := .long z43) (ty := .long) (C := RX6) (T := TX6) (N := 9) hx hb hts in_X6 tyX6 tyX6_ok nmX6 hown hK.1 hP hD hS 0 rfl rfl 5 (by decide) (hts _ q579) (fun _ h9 => h9) rfl (by decide +kernel) rfl rfl (Nat.le_of_ble_eq_true rfl) dX6_corrects_79 (fun H locs hP hD hS => ?_)
    have hP : va_P D vwCl [(mo, .inr (6, [.ref ms, .ref mp, .int (nI np), .ref me, .ref mn, .long z43, .long lg, .long fg, .long hv])), (mn, .inl (g 1, 5, .inr (.inl (e64 u))))] H := hP
    have hD : va_D (Aw [mo, mn] s.heap.size) [(mo, .inr (6, [.ref ms, .ref mp, .int (nI np), .ref me, .ref mn, .long z43, .long lg, .long fg, .long hv])), (mn, .inl (g 1, 5, .inr (.inl (e64 u))))] := hD
    have cut1 : (¬ cRej (e64 u) (f (8 + se)) (f (12 + se)).toInt64 rd.toInt64 gt) → ∀ (ls : Array Slot), lv_has ls 24 [(0, .ref mo), (5, .int 1), (6, .long z43), (8, .long z45)] → W p l e (headSpec (ws_ yX6_corrects cX6_corrects 24 (some .int)) rm_m6_corrects).room s m ([.ref mo, .int sx, .long (Int32.toInt64 rd), .int gt] : List Value).toArray below meth c H locs 0 0 (MQ below (QI (fun r H1 => (cRej (e64 u) (f (8 + se)) (f (12 + se)).toInt64 rd.toInt64 gt ∧ r = 0 ∧ va_P D vwCl [(mo, .inr (6, [.ref ms, .ref mp, .int (nI np), .ref me, .ref mn, .long (cY (e64 u) (f (8 + se)) rd.toInt64), .long lg, .long fg, .long hv])), (mn, .inl (g 1, 5, .inr (.inl (e64 u))))] H1) ∨ (¬ cRej (e64 u) (f (8 + se)) (f (12 + se)).toInt64 rd.toInt64 gt ∧ ¬ cOK (e64 u) (f (8 + se)) (f (12 + se)).toInt64 rd.toInt64 ∧ r = -1 ∧ va_P D vwCl [(mo, .inr (6, [.ref ms, .ref mp, .int (nI np), .ref me, .ref mn, .long (cY (e64 u) (f (8 + se)) rd.toInt64), .long lg, .long fg, .long hv])), (mn, .inl (g 1, 5, .inr (.inl (e64 u))))] H1) ∨ (¬ cRej (e64 u) (f (8 + se)) (f (12 + se)).toInt64 rd.toInt64 gt ∧ cOK (e64 u) (f (8 + se)) (f (12 + se)).toInt64 rd.toInt64 ∧ r = 1 ∧ va_P D vwCl [(mo, .inr (6, [.ref ms, .ref mp, .int (nI np), .ref me, .ref mn, .long (cY (e64 u) (f (8 + se)) rd.toInt64), .long (cK (e64 u) (f (8 + se)) (f (12 + se)).toInt64), .long (cL (e64 u) (f (8 + se)) (f (12 + se)).toInt64), .long hv])), (mn, .inl (g 1, 5, .inr (.inl (e64 (cE u (f (8 + se)) (f (12 + se)) rd)))))] H1)) (Aw [mo, mn] s.heap.size)) ([.ref mo, .int sx, .long (Int32.toInt64 rd), .int gt] : List Value).toArray s 0 0 (Aw [mo, mn] s.heap.size)) (F0 m 108 ls []) := by
      intro  hnr ls hl
      refine lv_iload (pc := 108) hx hb dX6_corrects_108 (lv_at hl 1 rfl) ?_
      refine lv_if_eq (pc := 110) (tgt := 122) hx hb dX6_corrects_110 (by decide) (fun cd46 => absurd cd46 (by decide)) (fun cd46 => ?_)
      refine lv_aload_n (pc := 113) hx hb dX6_corrects_113 rfl (lv_at hl 0 rfl) ?_
      refine va_get (pc := 114) (D := D) (ci := 6) (v := .ref mn) (C := RX6) (T := TX6) (N := 9) hx hb hts in_X6 hown hK.1 hP 0 rfl rfl 4 (by decide) (hts _ q578) (fun _ h9 => h9) rfl dX6_corrects_114 ?_
      refine lv_iconst (pc := 117) (v := 2) hx hb dX6_corrects_117 (by decide) ?_
      refine la_ld (pc := 118) hx hb hK.1 hP 1 1 2 rfl rfl (nl 2) (Nat.le_of_ble_eq_true rfl) (Nat.le_of_ble_eq_true rfl) dX6_corrects_118 ?_
      refine lv_goto (pc := 119) (tgt := 128) hx hb dX6_corrects_119 (by decide) ?_
      refine lv_lload (pc := 128) hx hb dX6_corrects_128 (lv_at hl 3 rfl) ?_
      refine kLp (pc := 130) (va_runS (As := [.long ((e64 u) 2), .long z45]) (rest := []) ⟨hx, hb, hml, hown, hts⟩ (m6_div l ((e64 u) 2) z45 H (by rw [hsv]; exact hs0)) (va_cwS 2 hts (lw_S q674 q675 q28 q676) rfl rfl rfl (by decide +kernel) ⟨Nat.le_of_ble_eq_true rfl, Nat.le_of_ble_eq_true rfl⟩) (preS hK) rfl rfl hl.1 rfl (lv_room (Nat.le_of_ble_eq_true rfl)) dX6_corrects_130 ⟨Nat.le_of_ble_eq_true rfl, Nat.le_of_ble_eq_true rfl⟩) (fun r47 hr47 => ?_)
      refine lv_lstore (pc := 133) (lv' := [(10, .long r47), (0, .ref mo), (5, .int 1), (6, .long z43), (8, .long z45)]) hx hb dX6_corrects_133 hl (by decide) rfl (fun ls hl => ?_)
      have hkv : r47 = cK (e64 u) (f (8 + se)) (f (12 + se)).toInt64 := by rw [hr47, hsv, dw_div hsp]; unfold cK; rw [if_pos cd1]
      refine lv_iload (pc := 135) hx hb dX6_corrects_135 (lv_at hl 2 rfl) ?_
      refine lv_if_eq (pc := 137) (tgt := 149) hx hb dX6_corrects_137 (by decide) (fun cd48 => absurd cd48 (by decide)) (fun cd48 => ?_)
      refine lv_aload_n (pc := 140) hx hb dX6_corrects_140 rfl (lv_at hl 1 rfl) ?_
      refine va_get (pc := 141) (D := D) (ci := 6) (v := .ref mn) (C := RX6) (T := TX6) (N := 9) hx hb hts in_X6 hown hK.1 hP 0 rfl rfl 4 (by decide) (hts _ q578) (fun _ h9 => h9) rfl dX6_corrects_141 ?_
      refine lv_iconst (pc := 144) (v := 3) hx hb dX6_corrects_144 (by decide) ?_
      refine la_ld (pc := 145) hx hb hK.1 hP 1 1 3 rfl rfl (nl 3) (Nat.le_of_ble_eq_true rfl) (Nat.le_of_ble_eq_true rfl) dX6_corrects_145 ?_
      refine lv_goto (pc := 146) (tgt := 155) hx hb dX6_corrects_146 (by decide) ?_
      refine lv_lload (pc := 155) hx hb dX6_corrects_155 (lv_at hl 4 rfl) ?_
      refine kLp (pc := 157) (va_runS (As := [.long ((e64 u) 3), .long z45]) (rest := []) ⟨hx, hb, hml, hown, hts⟩ (m6_div l ((e64 u) 3) z45 H (by rw [hsv]; exact hs0)) (va_cwS 2 hts (lw_S q674 q675 q28 q676) rfl rfl rfl (by decide +kernel) ⟨Nat.le_of_ble_eq_true rfl, Nat.le_of_ble_eq_true rfl⟩) (preS hK) rfl rfl hl.1 rfl (lv_room (Nat.le_of_ble_eq_true rfl)) dX6_corrects_157 ⟨Nat.le_of_ble_eq_true rfl, Nat.le_of_ble_eq_true rfl⟩) (fun r49 hr49 => ?_)
      refine lv_lstore (pc := 160) (lv' := [(12, .long r49), (10, .long r47), (0, .ref mo), (5, .int 1), (6, .long z43), (8, .long z45)]) hx hb dX6_corrects_160 hl (by decide) rfl (fun ls hl => ?_)
      have hlv : r49 = cL (e64 u) (f (8 + se)) (f (12 + se)).toInt64 := by rw [hr49, hsv, dw_div hsp]; unfold cL; rw [if_pos cd1]
      refine lv_lload (pc := 162) hx hb dX6_corrects_162 (lv_at hl 1 rfl) ?_
      refine kIp (pc := 164) (va_runS (As := [.long r47]) (rest := []) ⟨hx, hb, hml, hown, hts⟩ (m6_isIn l r47 H) (va_cwS 1 hts (lw_S q651 q652 q28 q653) rfl rfl rfl (by decide +kernel) ⟨Nat.le_of_ble_eq_true rfl, Nat.le_of_ble_eq_true rfl⟩) (preS hK) rfl rfl hl.1 rfl (lv_room (Nat.le_of_ble_eq_true rfl)) dX6_corrects_164 ⟨Nat.le_of_ble_eq_true rfl, Nat.le_of_ble_eq_true rfl⟩) (fun r50 hr50 => ?_)
      refine lv_if_eq (pc := 167) (tgt := 178) hx hb dX6_corrects_167 (by decide) (fun cd51 => ?_) (fun cd51 => ?_)
      · have hnk : ¬ cOK (e64 u) (f (8 + se)) (f (12 + se)).toInt64 rd.toInt64 := fun h => (bI_eq (hr50.symm.trans cd51)) (by rw [hkv]; exact h.1)
        refine lv_iconst (pc := 178) (v := (-1)) hx hb dX6_corrects_178 (by decide) ?_
        have hq9 : (fun r H1 => (cRej (e64 u) (f (8 + se)) (f (12 + se)).toInt64 rd.toInt64 gt ∧ r = 0 ∧ va_P D vwCl [(mo, .inr (6, [.ref ms, .ref mp, .int (nI np), .ref me, .ref mn, .long (cY (e64 u) (f (8 + se)) rd.toInt64), .long lg, .long fg, .long hv])), (mn, .inl (g 1, 5, .inr (.inl (e64 u))))] H1) ∨ (¬ cRej (e64 u) (f (8 + se)) (f (12 + se)).toInt64 rd.toInt64 gt ∧ ¬ cOK (e64 u) (f (8 + se)) (f (12 + se)).toInt64 rd.toInt64 ∧ r = -1 ∧ va_P D vwCl [(mo, .inr (6, [.ref ms, .ref mp, .int (nI np), .ref me, .ref mn, .long (cY (e64 u) (f (8 + se)) rd.toInt64), .long lg, .long fg, .long hv])), (mn, .inl (g 1, 5, .inr (.inl (e64 u))))] H1) ∨ (¬ cRej (e64 u) (f (8 + se)) (f (12 + se)).toInt64 rd.toInt64 gt ∧ cOK (e64 u) (f (8 + se)) (f (12 + se)).toInt64 rd.toInt64 ∧ r = 1 ∧ va_P D vwCl [(mo, .inr (6, [.ref ms, .ref mp, .int (nI np), .ref me, .ref mn, .long (cY (e64 u) (f (8 + se)) rd.toInt64), .long (cK (e64 u) (f (8 + se)) (f (12 + se)).toInt64), .long (cL (e64 u) (f (8 + se)) (f (12 + se)).toInt64), .long hv])), (mn, .inl (g 1, 5, .inr (.inl (e64 (cE u (f (8 + se)) (f (12 + se)) rd)))))] H1) : Int32 → Heap → Prop) (-1) H := Or.inr (Or.inl ⟨hnr, hnk, rfl, by rw [← hyv]; exact hP.sub [0, 1] rfl⟩)
        exact W.iret (v := (-1)) hx hb hr (fun t ht hW => ⟨⟨_, rfl, by rw [ht]; exact hq9⟩, hS.F ht⟩) hS.2.2 dX6_corrects_179
      · have hk167 := bI_ne (fun e => cd51 (hr50.trans e))
        rw [hkv] at hk167
        refine lv_lload (pc := 170) hx hb dX6_corrects_170 (lv_at hl 0 rfl) ?_
        refine kIp (pc := 172) (va_runS (As := [.long r49]) (rest := []) ⟨hx, hb, hml, hown, hts⟩ (m6_isIn l r49 H) (va_cwS 1 hts (lw_S q651 q652 q28 q653) rfl rfl rfl (by decide +kernel) ⟨Nat.le_of_ble_eq_true rfl, Nat.le_of_ble_eq_true rfl⟩) (preS hK) rfl rfl hl.1 rfl (lv_room (Nat.le_of_ble_eq_true rfl)) dX6_corrects_172 ⟨Nat.le_of_ble_eq_true rfl, Nat.le_of_ble_eq_true rfl⟩) (fun r52 hr52 => ?_)
        refine lv_if_ne (pc := 175) (tgt := 180) hx hb dX6_corrects_175 (by decide) (fun cd53 => ?_) (fun cd53 => ?_)
        · have hk175 := bI_ne (fun e => cd53 (hr52.trans e))
          rw [hlv] at hk175
          refine lv_aload_n (pc := 180) hx hb dX6_corrects_180 rfl (lv_at hl 2 rfl) ?_
          refine va_get (pc := 181) (D := D) (ci := 6) (v := .ref mn) (C := RX6) (T := TX6) (N := 9) hx hb hts in_X6 hown hK.1 hP 0 rfl rfl 4 (by decide) (hts _ q578) (fun _ h9 => h9) rfl dX6_corrects_181 ?_
          refine lv_iconst (pc := 184) (v := 0) hx hb dX6_corrects_184 (by decide) ?_
          refine la_ld (pc := 185) hx hb hK.1 hP 1 1 0 rfl rfl (nl 0) (Nat.le_of_ble_eq_true rfl) (Nat.le_of_ble_eq_true rfl) dX6_corrects_185 ?_
          refine lv_lload (pc := 186) hx hb dX6_corrects_186 (lv_at hl 1 rfl) ?_
          refine lv_lload (pc := 188) hx hb dX6_corrects_188 (lv_at hl 4 rfl) ?_
          refine kLp (pc := 190) (va_runS (As := [.long r47, .long z43]) (rest := [.long ((e64 u) 0)]) ⟨hx, hb, hml, hown, hts⟩ (m6_mul l r47 z43 H) (va_cwS 2 hts (lw_S q680 q681 q28 q682) rfl rfl rfl (by decide +kernel) ⟨Nat.le_of_ble_eq_true rfl, Nat.le_of_ble_eq_true rfl⟩) (preS hK) rfl rfl hl.1 rfl (lv_room (Nat.le_of_ble_eq_true rfl)) dX6_corrects_190 ⟨Nat.le_of_ble_eq_true rfl, Nat.le_of_ble_eq_true rfl⟩) (fun r54 hr54 => ?_)
          refine lv_ladd (pc := 193) hx hb dX6_corrects_193 ?_
          refine lv_topl (fun z55 ez55 => ?_)
          refine lv_lstore (pc := 194) (lv' := [(14, .long z55), (12, .long r49), (10, .long r47), (0, .ref mo), (5, .int 1), (6, .long z43), (8, .long z45)]) hx hb dX6_corrects_194 hl (by decide) rfl (fun ls hl => ?_)
          have hv14 : z55 = c0 (e64 u) (f (8 + se)) (f (12 + se)).toInt64 rd.toInt64 := by rw [ez55, hr54, dw_mul, hkv, hyv]; rfl
          refine lv_aload_n (pc := 196) hx hb dX6_corrects_196 rfl (lv_at hl 3 rfl) ?_
          refine va_get (pc := 197) (D := D) (ci := 6) (v := .ref mn) (C := RX6) (T := TX6) (N := 9) hx hb hts in_X6 hown hK.1 hP 0 rfl rfl 4 (by decide) (hts _ q578) (fun _ h9 => h9) rfl dX6_corrects_197 ?_
          refine lv_iconst (pc := 200) (v := 1) hx hb dX6_corrects_200 (by decide) ?_
          refine la_ld (pc := 201) hx hb hK.1 hP 1 1 1 rfl rfl (nl 1) (Nat.le_of_ble_eq_true rfl) (Nat.le_of_ble_eq_true rfl) dX6_corrects_201 ?_
          refine lv_lload (pc := 202) hx hb dX6_corrects_202 (lv_at hl 1 rfl) ?_
          refine lv_lload (pc := 204) hx hb dX6_corrects_204 (lv_at hl 5 rfl) ?_
          refine kLp (pc := 206) (va_runS (As := [.long r49, .long z43]) (rest := [.long ((e64 u) 1)]) ⟨hx, hb, hml, hown, hts⟩ (m6_mul l r49 z43 H) (va_cwS 2 hts (lw_S q680 q681 q28 q682) rfl rfl rfl (by decide +kernel) ⟨Nat.le_of_ble_eq_true rfl, Nat.le_of_ble_eq_true rfl⟩) (preS hK) rfl rfl hl.1 rfl (lv_room (Nat.le_of_ble_eq_true rfl)) dX6_corrects_206 ⟨Nat.le_of_ble_eq_true rfl, Nat.le_of_ble_eq_true rfl⟩) (fun r56 hr56 => ?_)
          refine lv_ladd (pc := 209) hx hb dX6_corrects_209 ?_
          refine lv_topl (fun z57 ez57 => ?_)
          refine lv_lstore (pc := 210) (lv' := [(16, .long z57), (14, .long z55), (12, .long r49), (10, .long r47), (0, .ref mo), (5, .int 1), (6, .long z43), (8, .long z45)]) hx hb dX6_corrects_210 hl (by decide) rfl (fun ls hl => ?_)
          have hv16 : z57 = c1 (e64 u) (f (8 + se)) (f (12 + se)).toInt64 rd.toInt64 := by rw [ez57, hr56, dw_mul, hlv, hyv]; rfl
          refine lv_aload_n (pc := 212) hx hb dX6_corrects_212 rfl (lv_at hl 4 rfl) ?_
          refine va_get (pc := 213) (D := D) (ci := 6) (v := .ref mn) (C := RX6) (T := TX6) (N := 9) hx hb hts in_X6 hown hK.1 hP 0 rfl rfl 4 (by decide) (hts _ q578) (fun _ h9 => h9) rfl dX6_corrects_213 ?_
          refine lv_iconst (pc := 216) (v := 2) hx hb dX6_corrects_216 (by decide) ?_
          refine la_ld (pc := 217) hx hb hK.1 hP 1 1 2 rfl rfl (nl 2) (Nat.le_of_ble_eq_true rfl) (Nat.le_of_ble_eq_true rfl) dX6_corrects_217 ?_
          refine lv_lload (pc := 218) hx hb dX6_corrects_218 (lv_at hl 3 rfl) ?_
          refine lv_iload (pc := 220) hx hb dX6_corrects_220 (lv_at hl 5 rfl) ?_
          refine lv_if_eq (pc := 222) (tgt := 234) hx hb dX6_corrects_222 (by decide) (fun cd58 => absurd cd58 (by decide)) (fun cd58 => ?_)
          refine lv_aload_n (pc := 225) hx hb dX6_corrects_225 rfl (lv_at hl 4 rfl) ?_
          refine va_get (pc := 226) (D := D) (ci := 6) (v := .ref mn) (C := RX6) (T := TX6) (N := 9) hx hb hts in_X6 hown hK.1 hP 0 rfl rfl 4 (by decide) (hts _ q578) (fun _ h9 => h9) rfl dX6_corrects_226 ?_
          refine lv_iconst (pc := 229) (v := 2) hx hb dX6_corrects_229 (by decide) ?_
          refine la_ld (pc := 230) hx hb hK.1 hP 1 1 2 rfl rfl (nl 2) (Nat.le_of_ble_eq_true rfl) (Nat.le_of_ble_eq_true rfl) dX6_corrects_230 ?_
          refine lv_goto (pc := 231) (tgt := 240) hx hb dX6_corrects_231 (by decide) ?_
          refine kLp (pc := 240) (va_runS (As := [.long r47, .long ((e64 u) 2)]) (rest := [.long ((e64 u) 2)]) ⟨hx, hb, hml, hown, hts⟩ (m6_mul l r47 ((e64 u) 2) H) (va_cwS 2 hts (lw_S q680 q681 q28 q682) rfl rfl rfl (by decide +kernel) ⟨Nat.le_of_ble_eq_true rfl, Nat.le_of_ble_eq_true rfl⟩) (preS hK) rfl rfl hl.1 rfl (lv_room (Nat.le_of_ble_eq_true rfl)) dX6_corrects_240 ⟨Nat.le_of_ble_eq_true rfl, Nat.le_of_ble_eq_true rfl⟩) (fun r59 hr59 => ?_)
          refine lv_lsub (pc := 243) hx hb dX6_corrects_243 ?_
          refine lv_topl (fun z60 ez60 => ?_)
          refine lv_lstore (pc := 244) (lv' := [(18, .long z60), (16, .long z57), (14, .long z55), (12, .long r49), (10, .long r47), (0, .ref mo), (5, .int 1), (6, .long z43), (8, .long z45)]) hx hb dX6_corrects_244 hl (by decide) rfl (fun ls hl => ?_)
          have hv18 : pos z60 = c2 (e64 u) (f (8 + se)) (f (12 + se)).toInt64 := by rw [ez60, hr59, dw_mul, hkv]; unfold c2; rw [if_pos cd1]
          refine lv_aload_n (pc := 246) hx hb dX6_corrects_246 rfl (lv_at hl 5 rfl) ?_
          refine va_get (pc := 247) (D := D) (ci := 6) (v := .ref mn) (C := RX6) (T := TX6) (N := 9) hx hb hts in_X6 hown hK.1 hP 0 rfl rfl 4 (by decide) (hts _ q578) (fun _ h9 => h9) rfl dX6_corrects_247 ?_
          refine lv_iconst (pc := 250) (v := 3) hx hb dX6_corrects_250 (by decide) ?_
          refine la_ld (pc := 251) hx hb hK.1 hP 1 1 3 rfl rfl (nl 3) (Nat.le_of_ble_eq_true rfl) (Nat.le_of_ble_eq_true rfl) dX6_corrects_251 ?_
          refine lv_lload (pc := 252) hx hb dX6_corrects_252 (lv_at hl 4 rfl) ?_
          refine lv_iload (pc := 254) hx hb dX6_corrects_254 (lv_at hl 6 rfl) ?_
          refine lv_if_eq (pc := 256) (tgt := 268) hx hb dX6_corrects_256 (by decide) (fun cd61 => absurd cd61 (by decide)) (fun cd61 => ?_)
          refine lv_aload_n (pc := 259) hx hb dX6_corrects_259 rfl (lv_at hl 5 rfl) ?_
          refine va_get (pc := 260) (D := D) (ci := 6) (v := .ref mn) (C := RX6) (T := TX6) (N := 9) hx hb hts in_X6 hown hK.1 hP 0 rfl rfl 4 (by decide) (hts _ q578) (fun _ h9 => h9) rfl dX6_corrects_260 ?_
          refine lv_iconst (pc := 263) (v := 3) hx hb dX6_corrects_263 (by decide) ?_
          refine la_ld (pc := 264) hx hb hK.1 hP 1 1 3 rfl rfl (nl 3) (Nat.le_of_ble_eq_true rfl) (Nat.le_of_ble_eq_true rfl) dX6_corrects_264 ?_
          refine lv_goto (pc := 265) (tgt := 274) hx hb dX6_corrects_265 (by decide) ?_
          refine kLp (pc := 274) (va_runS (As := [.long r47, .long ((e64 u) 3)]) (rest := [.long ((e64 u) 3)]) ⟨hx, hb, hml, hown, hts⟩ (m6_mul l r47 ((e64 u) 3) H) (va_cwS 2 hts (lw_S q680 q681 q28 q682) rfl rfl rfl (by decide +kernel) ⟨Nat.le_of_ble_eq_true rfl, Nat.le_of_ble_eq_true rfl⟩) (preS hK) rfl rfl hl.1 rfl (lv_room (Nat.le_of_ble_eq_true rfl)) dX6_corrects_274 ⟨Nat.le_of_ble_eq_true rfl, Nat.le_of_ble_eq_true rfl⟩) (fun r62 hr62 => ?_)
          refine lv_lsub (pc := 277) hx hb dX6_corrects_277 ?_
          refine lv_topl (fun z63 ez63 => ?_)
          refine lv_lstore (pc := 278) (lv' := [(20, .long z63), (18, .long z60), (16, .long z57), (14, .long z55), (12, .long r49), (10, .long r47), (0, .ref mo), (5, .int 1), (6, .long z43), (8, .long z45)]) hx hb dX6_corrects_278 hl (by decide) rfl (fun ls hl => ?_)
          have hv20 : z63 = c3 (e64 u) (f (8 + se)) (f (12 + se)).toInt64 := by rw [ez63, hr62, dw_mul, hkv]; unfold c3; rw [if_pos cd1]
          refine lv_aload_n (pc := 280) hx hb dX6_corrects_280 rfl (lv_at hl 6 rfl) ?_
          refine va_get (pc := 281) (D := D) (ci := 6) (v := .ref mn) (C := RX6) (T := TX6) (N := 9) hx hb hts in_X6 hown hK.1 hP 0 rfl rfl 4 (by decide) (hts _ q578) (fun _ h9 => h9) rfl dX6_corrects_281 ?_
          refine lv_iconst (pc := 284) (v := 4) hx hb dX6_corrects_284 (by decide) ?_
          refine la_ld (pc := 285) hx hb hK.1 hP 1 1 4 rfl rfl (nl 4) (Nat.le_of_ble_eq_true rfl) (Nat.le_of_ble_eq_true rfl) dX6_corrects_285 ?_
          refine lv_lload (pc := 286) hx hb dX6_corrects_286 (lv_at hl 4 rfl) ?_
          refine lv_iload (pc := 288) hx hb dX6_corrects_288 (lv_at hl 7 rfl) ?_
          refine lv_if_eq (pc := 290) (tgt := 302) hx hb dX6_corrects_290 (by decide) (fun cd64 => absurd cd64 (by decide)) (fun cd64 => ?_)
          refine lv_aload_n (pc := 293) hx hb dX6_corrects_293 rfl (lv_at hl 6 rfl) ?_
          refine va_get (pc := 294) (D := D) (ci := 6) (v := .ref mn) (C := RX6) (T := TX6) (N := 9) hx hb hts in_X6 hown hK.1 hP 0 rfl rfl 4 (by decide) (hts _ q578) (fun _ h9 => h9) rfl dX6_corrects_294 ?_
          refine lv_iconst (pc := 297) (v := 3) hx hb dX6_corrects_297 (by decide) ?_
          refine la_ld (pc := 298) hx hb hK.1 hP 1 1 3 rfl rfl (nl 3) (Nat.le_of_ble_eq_true rfl) (Nat.le_of_ble_eq_true rfl) dX6_corrects_298 ?_
          refine lv_goto (pc := 299) (tgt := 308) hx hb dX6_corrects_299 (by decide) ?_
          refine kLp (pc := 308) (va_runS (As := [.long r49, .long ((e64 u) 3)]) (rest := [.long ((e64 u) 4)]) ⟨hx, hb, hml, hown, hts⟩ (m6_mul l r49 ((e64 u) 3) H) (va_cwS 2 hts (lw_S q680 q681 q28 q682) rfl rfl rfl (by decide +kernel) ⟨Nat.le_of_ble_eq_true rfl, Nat.le_of_ble_eq_true rfl⟩) (preS hK) rfl rfl hl.1 rfl (lv_room (Nat.le_of_ble_eq_true rfl)) dX6_corrects_308 ⟨Nat.le_of_ble_eq_true rfl, Nat.le_of_ble_eq_true rfl⟩) (fun r65 hr65 => ?_)
          refine lv_lsub (pc := 311) hx hb dX6_corrects_311 ?_
          refine lv_topl (fun z66 ez66 => ?_)
          refine lv_lstore (pc := 312) (lv' := [(22, .long z66), (20, .long z63), (18, .long z60), (16, .long z57), (14, .long z55), (12, .long r49), (10, .long r47), (0, .ref mo), (5, .int 1), (6, .long z43), (8, .long z45)]) hx hb dX6_corrects_312 hl (by decide) rfl (fun ls hl => ?_)
          have hv22 : pos z66 = c4 (e64 u) (f (8 + se)) (f (12 + se)).toInt64 := by rw [ez66, hr65, dw_mul, hlv]; unfold c4; rw [if_pos cd1]
          have cut2 : ∀ (a9 c9 : Int64), (a9 = c2 (e64 u) (f (8 + se)) (f (12 + se)).toInt64) → (c9 = c4 (e64 u) (f (8 + se)) (f (12 + se)).toInt64) → ∀ (ls : Array Slot), lv_has ls 24 [(0, .ref mo), (10, .long r47), (12, .long r49), (14, .long z55), (16, .long z57), (18, .long a9), (20, .long z63), (22, .long c9)] → W p l e (headSpec (ws_ yX6_corrects cX6_corrects 24 (some .int)) rm_m6_corrects).room s m ([.ref mo, .int sx, .long (Int32.toInt64 rd), .int gt] : List Value).toArray below meth c H locs 0 0 (MQ below (QI (fun r H1 => (cRej (e64 u) (f (8 + se)) (f (12 + se)).toInt64 rd.toInt64 gt ∧ r = 0 ∧ va_P D vwCl [(mo, .inr (6, [.ref ms, .ref mp, .int (nI np), .ref me, .ref mn, .long (cY (e64 u) (f (8 + se)) rd.toInt64), .long lg, .long fg, .long hv])), (mn, .inl (g 1, 5, .inr (.inl (e64 u))))] H1) ∨ (¬ cRej (e64 u) (f (8 + se)) (f (12 + se)).toInt64 rd.toInt64 gt ∧ ¬ cOK (e64 u) (f (8 + se)) (f (12 + se)).toInt64 rd.toInt64 ∧ r = -1 ∧ va_P D vwCl [(mo, .inr (6, [.ref ms, .ref mp, .int (nI np), .ref me, .ref mn, .long (cY (e64 u) (f (8 + se)) rd.toInt64), .long lg, .long fg, .long hv])), (mn, .inl (g 1, 5, .inr (.inl (e64 u))))] H1) ∨ (¬ cRej (e64 u) (f (8 + se)) (f (12 + se)).toInt64 rd.toInt64 gt ∧ cOK (e64 u) (f (8 + se)) (f (12 + se)).toInt64 rd.toInt64 ∧ r = 1 ∧ va_P D vwCl [(mo, .inr (6, [.ref ms, .ref mp, .int (nI np), .ref me, .ref mn, .long (cY (e64 u) (f (8 + se)) rd.toInt64), .long (cK (e64 u) (f (8 + se)) (f (12 + se)).toInt64), .long (cL (e64 u) (f (8 + se)) (f (12 + se)).toInt64), .long hv])), (mn, .inl (g 1, 5, .inr (.inl (e64 (cE u (f (8 + se)) (f (12 + se)) rd)))))] H1)) (Aw [mo, mn] s.heap.size)) ([.ref mo, .int sx, .long (Int32.toInt64 rd), .int gt] : List Value).toArray s 0 0 (Aw [mo, mn] s.heap.size)) (F0 m 344 ls []) := by
            intro a9 c9 ha9 hc9 ls hl
            refine lv_lload (pc := 344) hx hb dX6_corrects_344 (lv_at hl 3 rfl) ?_
            refine kIp (pc := 346) (va_runS (As := [.long z55]) (rest := []) ⟨hx, hb, hml, hown, hts⟩ (m6_isIn l z55 H) (va_cwS 1 hts (lw_S q651 q652 q28 q653) rfl rfl rfl (by decide +kernel) ⟨Nat.le_of_ble_eq_true rfl, Nat.le_of_ble_eq_true rfl⟩) (preS hK) rfl rfl hl.1 rfl (lv_room (Nat.le_of_ble_eq_true rfl)) dX6_corrects_346 ⟨Nat.le_of_ble_eq_true rfl, Nat.le_of_ble_eq_true rfl⟩) (fun r67 hr67 => ?_)
            refine lv_if_eq (pc := 349) (tgt := 384) hx hb dX6_corrects_349 (by decide) (fun cd68 => ?_) (fun cd68 => ?_)
            · have hnk : ¬ cOK (e64 u) (f (8 + se)) (f (12 + se)).toInt64 rd.toInt64 := fun h => (bI_eq (hr67.symm.trans cd68)) (by rw [hv14]; exact h.2.2.1)
              refine lv_iconst (pc := 384) (v := (-1)) hx hb dX6_corrects_384 (by decide) ?_
              have hq9 : (fun r H1 => (cRej (e64 u) (f (8 + se)) (f (12 + se)).toInt64 rd.toInt64 gt ∧ r = 0 ∧ va_P D vwCl [(mo, .inr (6, [.ref ms, .ref mp, .int (nI np), .ref me, .ref mn, .long (cY (e64 u) (f (8 + se)) rd.toInt64), .long lg, .long fg, .long hv])), (mn, .inl (g 1, 5, .inr (.inl (e64 u))))] H1) ∨ (¬ cRej (e64 u) (f (8 + se)) (f (12 + se)).toInt64 rd.toInt64 gt ∧ ¬ cOK (e64 u) (f (8 + se)) (f (12 + se)).toInt64 rd.toInt64 ∧ r = -1 ∧ va_P D vwCl [(mo, .inr (6, [.ref ms, .ref mp, .int (nI np), .ref me, .ref mn, .long (cY (e64 u) (f (8 + se)) rd.toInt64), .long lg, .long fg, .long hv])), (mn, .inl (g 1, 5, .inr (.inl (e64 u))))] H1) ∨ (¬ cRej (e64 u) (f (8 + se)) (f (12 + se)).toInt64 rd.toInt64 gt ∧ cOK (e64 u) (f (8 + se)) (f (12 + se)).toInt64 rd.toInt64 ∧ r = 1 ∧ va_P D vwCl [(mo, .inr (6, [.ref ms, .ref mp, .int (nI np), .ref me, .ref mn, .long (cY (e64 u) (f (8 + se)) rd.toInt64), .long (cK (e64 u) (f (8 + se)) (f (12 + se)).toInt64), .long (cL (e64 u) (f (8 + se)) (f (12 + se)).toInt64), .long hv])), (mn, .inl (g 1, 5, .inr (.inl (e64 (cE u (f (8 + se)) (f (12 + se)) rd)))))] H1) : Int32 → Heap → Prop) (-1) H := Or.inr (Or.inl ⟨hnr, hnk, rfl, by rw [← hyv]; exact hP.sub [0, 1] rfl⟩)
              exact W.iret (v := (-1)) hx hb hr (fun t ht hW => ⟨⟨_, rfl, by rw [ht]; exact hq9⟩, hS.F ht⟩) hS.2.2 dX6_corrects_385
            · have hk349 := bI_ne (fun e => cd68 (hr67.trans e))
              rw [hv14] at hk349
              refine lv_lload (pc := 352) hx hb dX6_corrects_352 (lv_at hl 4 rfl) ?_
              refine kIp (pc := 354) (va_runS (As := [.long z57]) (rest := []) ⟨hx, hb, hml, hown, hts⟩ (m6_isIn l z57 H) (va_cwS 1 hts (lw_S q651 q652 q28 q653) rfl rfl rfl (by decide +kernel) ⟨Nat.le_of_ble_eq_true rfl, Nat.le_of_ble_eq_true rfl⟩) (preS hK) rfl rfl hl.1 rfl (lv_room (Nat.le_of_ble_eq_true rfl)) dX6_corrects_354 ⟨Nat.le_of_ble_eq_true rfl, Nat.le_of_ble_eq_true rfl⟩) (fun r69 hr69 => ?_)
              refine lv_if_eq (pc := 357) (tgt := 384) hx hb dX6_corrects_357 (by decide) (fun cd70 => ?_) (fun cd70 => ?_)
              · have hnk : ¬ cOK (e64 u) (f (8 + se)) (f (12 + se)).toInt64 rd.toInt64 := fun h => (bI_eq (hr69.symm.trans cd70)) (by rw [hv16]; exact h.2.2.2.1)
                refine lv_iconst (pc := 384) (v := (-1)) hx hb dX6_corrects_384 (by decide) ?_
                have hq9 : (fun r H1 => (cRej (e64 u) (f (8 + se)) (f (12 + se)).toInt64 rd.toInt64 gt ∧ r = 0 ∧ va_P D vwCl [(mo, .inr (6, [.ref ms, .ref mp, .int (nI np), .ref me, .ref mn, .long (cY (e64 u) (f (8 + se)) rd.toInt64), .long lg, .long fg, .long hv])), (mn, .inl (g 1, 5, .inr (.inl (e64 u))))] H1) ∨ (¬ cRej (e64 u) (f (8 + se)) (f (12 + se)).toInt64 rd.toInt64 gt ∧ ¬ cOK (e64 u) (f (8 + se)) (f (12 + se)).toInt64 rd.toInt64 ∧ r = -1 ∧ va_P D vwCl [(mo, .inr (6, [.ref ms, .ref mp, .int (nI np), .ref me, .ref mn, .long (cY (e64 u) (f (8 + se)) rd.toInt64), .long lg, .long fg, .long hv])), (mn, .inl (g 1, 5, .inr (.inl (e64 u))))] H1) ∨ (¬ cRej (e64 u) (f (8 + se)) (f (12 + se)).toInt64 rd.toInt64 gt ∧ cOK (e64 u) (f (8 + se)) (f (12 + se)).toInt64 rd.toInt64 ∧ r = 1 ∧ va_P D vwCl [(mo, .inr (6, [.ref ms, .ref mp, .int (nI np), .ref me, .ref mn, .long (cY (e64 u) (f (8 + se)) rd.toInt64), .long (cK (e64 u) (f (8 + se)) (f (12 + se)).toInt64), .long (cL (e64 u) (f (8 + se)) (f (12 + se)).toInt64), .long hv])), (mn, .inl (g 1, 5, .inr (.inl (e64 (cE u (f (8 + se)) (f (12 + se)) rd)))))] H1) : Int32 → Heap → Prop) (-1) H := Or.inr (Or.inl ⟨hnr, hnk, rfl, by rw [← hyv]; exact hP.sub [0, 1] rfl⟩)
                exact W.iret (v := (-1)) hx hb hr (fun t ht hW => ⟨⟨_, rfl, by rw [ht]; exact hq9⟩, hS.F ht⟩) hS.2.2 dX6_corrects_385
              · have hk357 := bI_ne (fun e => cd70 (hr69.trans e))
                rw [hv16] at hk357
                refine lv_lload (pc := 360) hx hb dX6_corrects_360 (lv_at hl 5 rfl) ?_
                refine kIp (pc := 362) (va_runS (As := [.long a9]) (rest := []) ⟨hx, hb, hml, hown, hts⟩ (m6_isIn l a9 H) (va_cwS 1 hts (lw_S q651 q652 q28 q653) rfl rfl rfl (by decide +kernel) ⟨Nat.le_of_ble_eq_true rfl, Nat.le_of_ble_eq_true rfl⟩) (preS hK) rfl rfl hl.1 rfl (lv_room (Nat.le_of_ble_eq_true rfl)) dX6_corrects_362 ⟨Nat.le_of_ble_eq_true rfl, Nat.le_of_ble_eq_true rfl⟩) (fun r71 hr71 => ?_)
                refine lv_if_eq (pc := 365) (tgt := 384) hx hb dX6_corrects_365 (by decide) (fun cd72 => ?_) (fun cd72 => ?_)
                · have hnk : ¬ cOK (e64 u) (f (8 + se)) (f (12 + se)).toInt64 rd.toInt64 := fun h => (bI_eq (hr71.symm.trans cd72)) (by rw [ha9]; exact h.2.2.2.2.1)
                  refine lv_iconst (pc := 384) (v := (-1)) hx hb dX6_corrects_384 (by decide) ?_
                  have hq9 : (fun r H1 => (cRej (e64 u) (f (8 + se)) (f (12 + se)).toInt64 rd.toInt64 gt ∧ r = 0 ∧ va_P D vwCl [(mo, .inr (6, [.ref ms, .ref mp, .int (nI np), .ref me, .ref mn, .long (cY (e64 u) (f (8 + se)) rd.toInt64), .long lg, .long fg, .long hv])), (mn, .inl (g 1, 5, .inr (.inl (e64 u))))] H1) ∨ (¬ cRej (e64 u) (f (8 + se)) (f (12 + se)).toInt64 rd.toInt64 gt ∧ ¬ cOK (e64 u) (f (8 + se)) (f (12 + se)).toInt64 rd.toInt64 ∧ r = -1 ∧ va_P D vwCl [(mo, .inr (6, [.ref ms, .ref mp, .int (nI np), .ref me, .ref mn, .long (cY (e64 u) (f (8 + se)) rd.toInt64), .long lg, .long fg, .long hv])), (mn, .inl (g 1, 5, .inr (.inl (e64 u))))] H1) ∨ (¬ cRej (e64 u) (f (8 + se)) (f (12 + se)).toInt64 rd.toInt64 gt ∧ cOK (e64 u) (f (8 + se)) (f (12 + se)).toInt64 rd.toInt64 ∧ r = 1 ∧ va_P D vwCl [(mo, .inr (6, [.ref ms, .ref mp, .int (nI np), .ref me, .ref mn, .long (cY (e64 u) (f (8 + se)) rd.toInt64), .long (cK (e64 u) (f (8 + se)) (f (12 + se)).toInt64), .long (cL (e64 u) (f (8 + se)) (f (12 + se)).toInt64), .long hv])), (mn, .inl (g 1, 5, .inr (.inl (e64 (cE u (f (8 + se)) (f (12 + se)) rd)))))] H1) : Int32 → Heap → Prop) (-1) H := Or.inr (Or.inl ⟨hnr, hnk, rfl, by rw [← hyv]; exact hP.sub [0, 1] rfl⟩)
                  exact W.iret (v := (-1)) hx hb hr (fun t ht hW => ⟨⟨_, rfl, by rw [ht]; exact hq9⟩, hS.F ht⟩) hS.2.2 dX6_corrects_385
                · have hk365 := bI_ne (fun e => cd72 (hr71.trans e))
                  rw [ha9] at hk365
                  refine lv_lload (pc := 368) hx hb dX6_corrects_368 (lv_at hl 6 rfl) ?_
                  refine kIp (pc := 370) (va_runS (As := [.long z63]) (rest := []) ⟨hx, hb, hml, hown, hts⟩ (m6_isIn l z63 H) (va_cwS 1 hts (lw_S q651 q652 q28 q653) rfl rfl rfl (by decide +kernel) ⟨Nat.le_of_ble_eq_true rfl, Nat.le_of_ble_eq_true rfl⟩) (preS hK) rfl rfl hl.1 rfl (lv_room (Nat.le_of_ble_eq_true rfl)) dX6_corrects_370 ⟨Nat.le_of_ble_eq_true rfl, Nat.le_of_ble_eq_true rfl⟩) (fun r73 hr73 => ?_)
                  refine lv_if_eq (pc := 373) (tgt := 384) hx hb dX6_corrects_373 (by decide) (fun cd74 => ?_) (fun cd74 => ?_)
                  · have hnk : ¬ cOK (e64 u) (f (8 + se)) (f (12 + se)).toInt64 rd.toInt64 := fun h => (bI_eq (hr73.symm.trans cd74)) (by rw [hv20]; exact h.2.2.2.2.2.1)
                    refine lv_iconst (pc := 384) (v := (-1)) hx hb dX6_corrects_384 (by decide) ?_
                    have hq9 : (fun r H1 => (cRej (e64 u) (f (8 + se)) (f (12 + se)).toInt64 rd.toInt64 gt ∧ r = 0 ∧ va_P D vwCl [(mo, .inr (6, [.ref ms, .ref mp, .int (nI np), .ref me, .ref mn, .long (cY (e64 u) (f (8 + se)) rd.toInt64), .long lg, .long fg, .long hv])), (mn, .inl (g 1, 5, .inr (.inl (e64 u))))] H1) ∨ (¬ cRej (e64 u) (f (8 + se)) (f (12 + se)).toInt64 rd.toInt64 gt ∧ ¬ cOK (e64 u) (f (8 + se)) (f (12 + se)).toInt64 rd.toInt64 ∧ r = -1 ∧ va_P D vwCl [(mo, .inr (6, [.ref ms, .ref mp, .int (nI np), .ref me, .ref mn, .long (cY (e64 u) (f (8 + se)) rd.toInt64), .long lg, .long fg, .long hv])), (mn, .inl (g 1, 5, .inr (.inl (e64 u))))] H1) ∨ (¬ cRej (e64 u) (f (8 + se)) (f (12 + se)).toInt64 rd.toInt64 gt ∧ cOK (e64 u) (f (8 + se)) (f (12 + se)).toInt64 rd.toInt64 ∧ r = 1 ∧ va_P D vwCl [(mo, .inr (6, [.ref ms, .ref mp, .int (nI np), .ref me, .ref mn, .long (cY (e64 u) (f (8 + se)) rd.toInt64), .long (cK (e64 u) (f (8 + se)) (f (12 + se)).toInt64), .long (cL (e64 u) (f (8 + se)) (f (12 + se)).toInt64), .long hv])), (mn, .inl (g 1, 5, .inr (.inl (e64 (cE u (f (8 + se)) (f (12 + se)) rd)))))] H1) : Int32 → Heap → Prop) (-1) H := Or.inr (Or.inl ⟨hnr, hnk, rfl, by rw [← hyv]; exact hP.sub [0, 1] rfl⟩)
                    exact W.iret (v := (-1)) hx hb hr (fun t ht hW => ⟨⟨_, rfl, by rw [ht]; exact hq9⟩, hS.F ht⟩) hS.2.2 dX6_corrects_385
                  · have hk373 := bI_ne (fun e => cd74 (hr73.trans e))
                    rw [hv20] at hk373
                    refine lv_lload (pc := 376) hx hb dX6_corrects_376 (lv_at hl 7 rfl) ?_
                    refine kIp (pc := 378) (va_runS (As := [.long c9]) (rest := []) ⟨hx, hb, hml, hown, hts⟩ (m6_isIn l c9 H) (va_cwS 1 hts (lw_S q651 q652 q28 q653) rfl rfl rfl (by decide +kernel) ⟨Nat.le_of_ble_eq_true rfl, Nat.le_of_ble_eq_true rfl⟩) (preS hK) rfl rfl hl.1 rfl (lv_room (Nat.le_of_ble_eq_true rfl)) dX6_corrects_378 ⟨Nat.le_of_ble_eq_true rfl, Nat.le_of_ble_eq_true rfl⟩) (fun r75 hr75 => ?_)
                    refine lv_if_ne (pc := 381) (tgt := 386) hx hb dX6_corrects_381 (by decide) (fun cd76 => ?_) (fun cd76 => ?_)
                    · have hk381 := bI_ne (fun e => cd76 (hr75.trans e))
                      rw [hc9] at hk381
                      refine lv_aload_n (pc := 386) hx hb dX6_corrects_386 rfl (lv_at hl 0 rfl) ?_
                      refine va_get (pc := 387) (D := D) (ci := 6) (v := .ref mn) (C := RX6) (T := TX6) (N := 9) hx hb hts in_X6 hown hK.1 hP 0 rfl rfl 4 (by decide) (hts _ q578) (fun _ h9 => h9) rfl dX6_corrects_387 ?_
                      refine lv_iconst (pc := 390) (v := 0) hx hb dX6_corrects_390 (by decide) ?_
                      refine lv_lload (pc := 391) hx hb dX6_corrects_391 (lv_at hl 3 rfl) ?_
                      refine la_st (pc := 393) (f' := (vp_updL (e64 u) 0 z55)) hx hb hK.1 hP hD hS 1 1 0 rfl rfl (nl 0) (Nat.le_of_ble_eq_true rfl) (Nat.le_of_ble_eq_true rfl) (fun _ _ => rfl) dX6_corrects_393 (fun H locs hP hD hS => ?_)
                      have hP : va_P D vwCl [(mo, .inr (6, [.ref ms, .ref mp, .int (nI np), .ref me, .ref mn, .long z43, .long lg, .long fg, .long hv])), (mn, .inl (g 1, 5, .inr (.inl (vp_updL (e64 u) 0 z55))))] H := hP
                      have hD : va_D (Aw [mo, mn] s.heap.size) [(mo, .inr (6, [.ref ms, .ref mp, .int (nI np), .ref me, .ref mn, .long z43, .long lg, .long fg, .long hv])), (mn, .inl (g 1, 5, .inr (.inl (vp_updL (e64 u) 0 z55))))] := hD
                      refine lv_aload_n (pc := 394) hx hb dX6_corrects_394 rfl (lv_at hl 0 rfl) ?_
                      refine va_get (pc := 395) (D := D) (ci := 6) (v := .ref mn) (C := RX6) (T := TX6) (N := 9) hx hb hts in_X6 hown hK.1 hP 0 rfl rfl 4 (by decide) (hts _ q578) (fun _ h9 => h9) rfl dX6_corrects_395 ?_
                      refine lv_iconst (pc := 398) (v := 1) hx hb dX6_corrects_398 (by decide) ?_
                      refine lv_lload (pc := 399) hx hb dX6_corrects_399 (lv_at hl 4 rfl) ?_
                      refine la_st (pc := 401) (f' := (vp_updL (vp_updL (e64 u) 0 z55) 1 z57)) hx hb hK.1 hP hD hS 1 1 1 rfl rfl (nl 1) (Nat.le_of_ble_eq_true rfl) (Nat.le_of_ble_eq_true rfl) (fun _ _ => rfl) dX6_corrects_401 (fun H locs hP hD hS => ?_)
                      have hP : va_P D vwCl [(mo, .inr (6, [.ref ms, .ref mp, .int (nI np), .ref me, .ref mn, .long z43, .long lg, .long fg, .long hv])), (mn, .inl (g 1, 5, .inr (.inl (vp_updL (vp_updL (e64 u) 0 z55) 1 z57))))] H := hP
                      have hD : va_D (Aw [mo, mn] s.heap.size) [(mo, .inr (6, [.ref ms, .ref mp, .int (nI np), .ref me, .ref mn, .long z43, .long lg, .long fg, .long hv])), (mn, .inl (g 1, 5, .inr (.inl (vp_updL (vp_updL (e64 u) 0 z55) 1 z57))))] := hD
                      refine lv_aload_n (pc := 402) hx hb dX6_corrects_402 rfl (lv_at hl 0 rfl) ?_
                      refine va_get (pc := 403) (D := D) (ci := 6) (v := .ref mn) (C := RX6) (T := TX6) (N := 9) hx hb hts in_X6 hown hK.1 hP 0 rfl rfl 4 (by decide) (hts _ q578) (fun _ h9 => h9) rfl dX6_corrects_403 ?_
                      refine lv_iconst (pc := 406) (v := 2) hx hb dX6_corrects_406 (by decide) ?_
                      refine lv_lload (pc := 407) hx hb dX6_corrects_407 (lv_at hl 5 rfl) ?_
                      refine la_st (pc := 409) (f' := (vp_updL (vp_updL (vp_updL (e64 u) 0 z55) 1 z57) 2 a9)) hx hb hK.1 hP hD hS 1 1 2 rfl rfl (nl 2) (Nat.le_of_ble_eq_true rfl) (Nat.le_of_ble_eq_true rfl) (fun _ _ => rfl) dX6_corrects_409 (fun H locs hP hD hS => ?_)
                      have hP : va_P D vwCl [(mo, .inr (6, [.ref ms, .ref mp, .int (nI np), .ref me, .ref mn, .long z43, .long lg, .long fg, .long hv])), (mn, .inl (g 1, 5, .inr (.inl (vp_updL (vp_updL (vp_updL (e64 u) 0 z55) 1 z57) 2 a9))))] H := hP
                      have hD : va_D (Aw [mo, mn] s.heap.size) [(mo, .inr (6, [.ref ms, .ref mp, .int (nI np), .ref me, .ref mn, .long z43, .long lg, .long fg, .long hv])), (mn, .inl (g 1, 5, .inr (.inl (vp_updL (vp_updL (vp_updL (e64 u) 0 z55) 1 z57) 2 a9))))] := hD
                      refine lv_aload_n (pc := 410) hx hb dX6_corrects_410 rfl (lv_at hl 0 rfl) ?_
                      refine va_get (pc := 411) (D := D) (ci := 6) (v := .ref mn) (C := RX6) (T := TX6) (N := 9) hx hb hts in_X6 hown hK.1 hP 0 rfl rfl 4 (by decide) (hts _ q578) (fun _ h9 => h9) rfl dX6_corrects_411 ?_
                      refine lv_iconst (pc := 414) (v := 3) hx hb dX6_corrects_414 (by decide) ?_
                      refine lv_lload (pc := 415) hx hb dX6_corrects_415 (lv_at hl 6 rfl) ?_
                      refine la_st (pc := 417) (f' := (vp_updL (vp_updL (vp_updL (vp_updL (e64 u) 0 z55) 1 z57) 2 a9) 3 z63)) hx hb hK.1 hP hD hS 1 1 3 rfl rfl (nl 3) (Nat.le_of_ble_eq_true rfl) (Nat.le_of_ble_eq_true rfl) (fun _ _ => rfl) dX6_corrects_417 (fun H locs hP hD hS => ?_)
                      have hP : va_P D vwCl [(mo, .inr (6, [.ref ms, .ref mp, .int (nI np), .ref me, .ref mn, .long z43, .long lg, .long fg, .long hv])), (mn, .inl (g 1, 5, .inr (.inl (vp_updL (vp_updL (vp_updL (vp_updL (e64 u) 0 z55) 1 z57) 2 a9) 3 z63))))] H := hP
                      have hD : va_D (Aw [mo, mn] s.heap.size) [(mo, .inr (6, [.ref ms, .ref mp, .int (nI np), .ref me, .ref mn, .long z43, .long lg, .long fg, .long hv])), (mn, .inl (g 1, 5, .inr (.inl (vp_updL (vp_updL (vp_updL (vp_updL (e64 u) 0 z55) 1 z57) 2 a9) 3 z63))))] := hD
                      refine lv_aload_n (pc := 418) hx hb dX6_corrects_418 rfl (lv_at hl 0 rfl) ?_
                      refine va_get (pc := 419) (D := D) (ci := 6) (v := .ref mn) (C := RX6) (T := TX6) (N := 9) hx hb hts in_X6 hown hK.1 hP 0 rfl rfl 4 (by decide) (hts _ q578) (fun _ h9 => h9) rfl dX6_corrects_419 ?_
                      refine lv_iconst (pc := 422) (v := 4) hx hb dX6_corrects_422 (by decide) ?_
                      refine lv_lload (pc := 423) hx hb dX6_corrects_423 (lv_at hl 7 rfl) ?_
                      refine la_st (pc := 425) (f' := (e64 (cE u (f (8 + se)) (f (12 + se)) rd))) hx hb hK.1 hP hD hS 1 1 4 rfl rfl (nl 4) (Nat.le_of_ble_eq_true rfl) (Nat.le_of_ble_eq_true rfl) (fun j hj => by have h9 := e64_cE ⟨hk167, hk175, hk349, hk357, hk365, hk373, hk381⟩ j hj; rw [← hv14, ← hv16, ← ha9, ← hv20, ← hc9] at h9; exact h9) dX6_corrects_425 (fun H locs hP hD hS => ?_)
                      have hP : va_P D vwCl [(mo, .inr (6, [.ref ms, .ref mp, .int (nI np), .ref me, .ref mn, .long z43, .long lg, .long fg, .long hv])), (mn, .inl (g 1, 5, .inr (.inl (e64 (cE u (f (8 + se)) (f (12 + se)) rd)))))] H := hP
                      have hD : va_D (Aw [mo, mn] s.heap.size) [(mo, .inr (6, [.ref ms, .ref mp, .int (nI np), .ref me, .ref mn, .long z43, .long lg, .long fg, .long hv])), (mn, .inl (g 1, 5, .inr (.inl (e64 (cE u (f (8 + se)) (f (12 + se)) rd)))))] := hD
                      refine lv_aload_n (pc := 426) hx hb dX6_corrects_426 rfl (lv_at hl 0 rfl) ?_
                      refine lv_lload (pc := 427) hx hb dX6_corrects_427 (lv_at hl 1 rfl) ?_
                      refine va_put (pc := 429) (D := D) (ci := 6) (v := .long r47) (ty := .long) (C := RX6) (T := TX6) (N := 9) hx hb hts in_X6 tyX6 tyX6_ok nmX6 hown hK.1 hP hD hS 0 rfl rfl 6 (by decide) (hts _ q580) (fun _ h9 => h9) rfl (by decide +kernel) rfl rfl (Nat.le_of_ble_eq_true rfl) dX6_corrects_429 (fun H locs hP hD hS => ?_)
                      have hP : va_P D vwCl [(mo, .inr (6, [.ref ms, .ref mp, .int (nI np), .ref me, .ref mn, .long z43, .long r47, .long fg, .long hv])), (mn, .inl (g 1, 5, .inr (.inl (e64 (cE u (f (8 + se)) (f (12 + se)) rd)))))] H := hP
                      have hD : va_D (Aw [mo, mn] s.heap.size) [(mo, .inr (6, [.ref ms, .ref mp, .int (nI np), .ref me, .ref mn, .long z43, .long r47, .long fg, .long hv])), (mn, .inl (g 1, 5, .inr (.inl (e64 (cE u (f (8 + se)) (f (12 + se)) rd)))))] := hD
                      refine lv_aload_n (pc := 432) hx hb dX6_corrects_432 rfl (lv_at hl 0 rfl) ?_
                      refine lv_lload (pc := 433) hx hb dX6_corrects_433 (lv_at hl 2 rfl) ?_
                      refine va_put (pc := 435) (D := D) (ci := 6) (v := .long r49) (ty := .long) (C := RX6) (T := TX6) (N := 9) hx hb hts in_X6 tyX6 tyX6_ok nmX6 hown hK.1 hP hD hS 0 rfl rfl 7 (by decide) (hts _ q581) (fun _ h9 => h9) rfl (by decide +kernel) rfl rfl (Nat.le_of_ble_eq_true rfl) dX6_corrects_435 (fun H locs hP hD hS => ?_)
                      have hP : va_P D vwCl [(mo, .inr (6, [.ref ms, .ref mp, .int (nI np), .ref me, .ref mn, .long z43, .long r47, .long r49, .long hv])), (mn, .inl (g 1, 5, .inr (.inl (e64 (cE u (f (8 + se)) (f (12 + se)) rd)))))] H := hP
                      have hD : va_D (Aw [mo, mn] s.heap.size) [(mo, .inr (6, [.ref ms, .ref mp, .int (nI np), .ref me, .ref mn, .long z43, .long r47, .long r49, .long hv])), (mn, .inl (g 1, 5, .inr (.inl (e64 (cE u (f (8 + se)) (f (12 + se)) rd)))))] := hD
                      refine lv_iconst (pc := 438) (v := 1) hx hb dX6_corrects_438 (by decide) ?_
                      have hq9 : (fun r H1 => (cRej (e64 u) (f (8 + se)) (f (12 + se)).toInt64 rd.toInt64 gt ∧ r = 0 ∧ va_P D vwCl [(mo, .inr (6, [.ref ms, .ref mp, .int (nI np), .ref me, .ref mn, .long (cY (e64 u) (f (8 + se)) rd.toInt64), .long lg, .long fg, .long hv])), (mn, .inl (g 1, 5, .inr (.inl (e64 u))))] H1) ∨ (¬ cRej (e64 u) (f (8 + se)) (f (12 + se)).toInt64 rd.toInt64 gt ∧ ¬ cOK (e64 u) (f (8 + se)) (f (12 + se)).toInt64 rd.toInt64 ∧ r = -1 ∧ va_P D vwCl [(mo, .inr (6, [.ref ms, .ref mp, .int (nI np), .ref me, .ref mn, .long (cY (e64 u) (f (8 + se)) rd.toInt64), .long lg, .long fg, .long hv])), (mn, .inl (g 1, 5, .inr (.inl (e64 u))))] H1) ∨ (¬ cRej (e64 u) (f (8 + se)) (f (12 + se)).toInt64 rd.toInt64 gt ∧ cOK (e64 u) (f (8 + se)) (f (12 + se)).toInt64 rd.toInt64 ∧ r = 1 ∧ va_P D vwCl [(mo, .inr (6, [.ref ms, .ref mp, .int (nI np), .ref me, .ref mn, .long (cY (e64 u) (f (8 + se)) rd.toInt64), .long (cK (e64 u) (f (8 + se)) (f (12 + se)).toInt64), .long (cL (e64 u) (f (8 + se)) (f (12 + se)).toInt64), .long hv])), (mn, .inl (g 1, 5, .inr (.inl (e64 (cE u (f (8 + se)) (f (12 + se)) rd)))))] H1) : Int32 → Heap → Prop) 1 H := Or.inr (Or.inr ⟨hnr, ⟨hk167, hk175, hk349, hk357, hk365, hk373, hk381⟩, rfl, by rw [← hyv, ← hkv, ← hlv]; exact hP.sub [0, 1] rfl⟩)
                      exact W.iret (v := 1) hx hb hr (fun t ht hW => ⟨⟨_, rfl, by rw [ht]; exact hq9⟩, hS.F ht⟩) hS.2.2 dX6_corrects_439
                    · have hnk : ¬ cOK (e64 u) (f (8 + se)) (f (12 + se)).toInt64 rd.toInt64 := fun h => (bI_eq (hr75.symm.trans cd76)) (by rw [hc9]; exact h.2.2.2.2.2.2)
                      refine lv_iconst (pc := 384) (v := (-1)) hx hb dX6_corrects_384 (by decide) ?_
                      have hq9 : (fun r H1 => (cRej (e64 u) (f (8 + se)) (f (12 + se)).toInt64 rd.toInt64 gt ∧ r = 0 ∧ va_P D vwCl [(mo, .inr (6, [.ref ms, .ref mp, .int (nI np), .ref me, .ref mn, .long (cY (e64 u) (f (8 + se)) rd.toInt64), .long lg, .long fg, .long hv])), (mn, .inl (g 1, 5, .inr (.inl (e64 u))))] H1) ∨ (¬ cRej (e64 u) (f (8 + se)) (f (12 + se)).toInt64 rd.toInt64 gt ∧ ¬ cOK (e64 u) (f (8 + se)) (f (12 + se)).toInt64 rd.toInt64 ∧ r = -1 ∧ va_P D vwCl [(mo, .inr (6, [.ref ms, .ref mp, .int (nI np), .ref me, .ref mn, .long (cY (e64 u) (f (8 + se)) rd.toInt64), .long lg, .long fg, .long hv])), (mn, .inl (g 1, 5, .inr (.inl (e64 u))))] H1) ∨ (¬ cRej (e64 u) (f (8 + se)) (f (12 + se)).toInt64 rd.toInt64 gt ∧ cOK (e64 u) (f (8 + se)) (f (12 + se)).toInt64 rd.toInt64 ∧ r = 1 ∧ va_P D vwCl [(mo, .inr (6, [.ref ms, .ref mp, .int (nI np), .ref me, .ref mn, .long (cY (e64 u) (f (8 + se)) rd.toInt64), .long (cK (e64 u) (f (8 + se)) (f (12 + se)).toInt64), .long (cL (e64 u) (f (8 + se)) (f (12 + se)).toInt64), .long hv])), (mn, .inl (g 1, 5, .inr (.inl (e64 (cE u (f (8 + se)) (f (12 + se)) rd)))))] H1) : Int32 → Heap → Prop) (-1) H := Or.inr (Or.inl ⟨hnr, hnk, rfl, by rw [← hyv]; exact hP.sub [0, 1] rfl⟩)
                      exact W.iret (v := (-1)) hx hb hr (fun t ht hW => ⟨⟨_, rfl, by rw [ht]; exact hq9⟩, hS.F ht⟩) hS.2.2 dX6_corrects_385
          refine lv_lload (pc := 314) hx hb dX6_corrects_314 (lv_at hl 2 rfl) ?_
          refine lv_lconst (pc := 316) (v := 0) hx hb dX6_corrects_316 rfl ?_
          refine lq_ge (pc := 317) (tgt := 325) hx hb dX6_corrects_317 dX6_corrects_318 (by decide) (fun cd77 => ?_) (fun cd77 => ?_)
          · refine lv_lload (pc := 325) hx hb dX6_corrects_325 (lv_at hl 2 rfl) ?_
            refine lv_lstore (pc := 327) (lv' := [(18, .long z60), (22, .long z66), (20, .long z63), (16, .long z57), (14, .long z55), (12, .long r49), (10, .long r47), (0, .ref mo), (5, .int 1), (6, .long z43), (8, .long z45)]) hx hb dX6_corrects_327 hl (by decide) rfl (fun ls hl => ?_)
            refine lv_lload (pc := 329) hx hb dX6_corrects_329 (lv_at hl 1 rfl) ?_
            refine lv_lconst (pc := 331) (v := 0) hx hb dX6_corrects_331 rfl ?_
            refine lq_ge (pc := 332) (tgt := 340) hx hb dX6_corrects_332 dX6_corrects_333 (by decide) (fun cd78 => ?_) (fun cd78 => ?_)
            · refine lv_lload (pc := 340) hx hb dX6_corrects_340 (lv_at hl 1 rfl) ?_
              refine lv_lstore (pc := 342) (lv' := [(22, .long z66), (18, .long z60), (20, .long z63), (16, .long z57), (14, .long z55), (12, .long r49), (10, .long r47), (0, .ref mo), (5, .int 1), (6, .long z43), (8, .long z45)]) hx hb dX6_corrects_342 hl (by decide) rfl (fun ls hl => ?_)
              exact cut2  z60 z66 ((pos_pos' cd77).symm.trans hv18) ((pos_pos' cd78).symm.trans hv22) ls (lv_sub hl [7, 6, 5, 4, 3, 1, 2, 0] rfl)
            · refine lv_lconst (pc := 336) (v := 0) hx hb dX6_corrects_336 rfl ?_
              refine lv_goto (pc := 337) (tgt := 342) hx hb dX6_corrects_337 (by decide) ?_
              refine lv_lstore (pc := 342) (lv' := [(22, .long 0), (18, .long z60), (20, .long z63), (16, .long z57), (14, .long z55), (12, .long r49), (10, .long r47), (0, .ref mo), (5, .int 1), (6, .long z43), (8, .long z45)]) hx hb dX6_corrects_342 hl (by decide) rfl (fun ls hl => ?_)
              exact cut2  z60 0 ((pos_pos' cd77).symm.trans hv18) ((pos_neg' cd78).symm.trans hv22) ls (lv_sub hl [7, 6, 5, 4, 3, 1, 2, 0] rfl)
          · refine lv_lconst (pc := 321) (v := 0) hx hb dX6_corrects_321 rfl ?_
            refine lv_goto (pc := 322) (tgt := 327) hx hb dX6_corrects_322 (by decide) ?_
            refine lv_lstore (pc := 327) (lv' := [(18, .long 0), (22, .long z66), (20, .long z63), (16, .long z57), (14, .long z55), (12, .long r49), (10, .long r47), (0, .ref mo), (5, .int 1), (6, .long z43), (8, .long z45)]) hx hb dX6_corrects_327 hl (by decide) rfl (fun ls hl => ?_)
            refine lv_lload (pc := 329) hx hb dX6_corrects_329 (lv_at hl 1 rfl) ?_
            refine lv_lconst (pc := 331) (v := 0) hx hb dX6_corrects_331 rfl ?_
            refine lq_ge (pc := 332) (tgt := 340) hx hb dX6_corrects_332 dX6_corrects_333 (by decide) (fun cd79 => ?_) (fun cd79 => ?_)
            · refine lv_lload (pc := 340) hx hb dX6_corrects_340 (lv_at hl 1 rfl) ?_
              refine lv_lstore (pc := 342) (lv' := [(22, .long z66), (18, .long 0), (20, .long z63), (16, .long z57), (14, .long z55), (12, .long r49), (10, .long r47), (0, .ref mo), (5, .int 1), (6, .long z43), (8, .long z45)]) hx hb dX6_corrects_342 hl (by decide) rfl (fun ls hl => ?_)
              exact cut2  0 z66 ((pos_neg' cd77).symm.trans hv18) ((pos_pos' cd79).symm.trans hv22) ls (lv_sub hl [7, 6, 5, 4, 3, 1, 2, 0] rfl)
            · refine lv_lconst (pc := 336) (v := 0) hx hb dX6_corrects_336 rfl ?_
              refine lv_goto (pc := 337) (tgt := 342) hx hb dX6_corrects_337 (by decide) ?_
              refine lv_lstore (pc := 342) (lv' := [(22, .long 0), (18, .long 0), (20, .long z63), (16, .long z57), (14, .long z55), (12, .long r49), (10, .long r47), (0, .ref mo), (5, .int 1), (6, .long z43), (8, .long z45)]) hx hb dX6_corrects_342 hl (by decide) rfl (fun ls hl => ?_)
              exact cut2  0 0 ((pos_neg' cd77).symm.trans hv18) ((pos_neg' cd79).symm.trans hv22) ls (lv_sub hl [7, 6, 5, 4, 3, 1, 2, 0] rfl)
        · have hnk : ¬ cOK (e64 u) (f (8 + se)) (f (12 + se)).toInt64 rd.toInt64 := fun h => (bI_eq (hr52.symm.trans cd53)) (by rw [hlv]; exact h.2.1)
          refine lv_iconst (pc := 178) (v := (-1)) hx hb dX6_corrects_178 (by decide) ?_
          have hq9 : (fun r H1 => (cRej (e64 u) (f (8 + se)) (f (12 + se)).toInt64 rd.toInt64 gt ∧ r = 0 ∧ va_P D vwCl [(mo, .inr (6, [.ref ms, .ref mp, .int (nI np), .ref me, .ref mn, .long (cY (e64 u) (f (8 + se)) rd.toInt64), .long lg, .long fg, .long hv])), (mn, .inl (g 1, 5, .inr (.inl (e64 u))))] H1) ∨ (¬ cRej (e64 u) (f (8 + se)) (f (12 + se)).toInt64 rd.toInt64 gt ∧ ¬ cOK (e64 u) (f (8 + se)) (f (12 + se)).toInt64 rd.toInt64 ∧ r = -1 ∧ va_P D vwCl [(mo, .inr (6, [.ref ms, .ref mp, .int (nI np), .ref me, .ref mn, .long (cY (e64 u) (f (8 + se)) rd.toInt64), .long lg, .long fg, .long hv])), (mn, .inl (g 1, 5, .inr (.inl (e64 u))))] H1) ∨ (¬ cRej (e64 u) (f (8 + se)) (f (12 + se)).toInt64 rd.toInt64 gt ∧ cOK (e64 u) (f (8 + se)) (f (12 + se)).toInt64 rd.toInt64 ∧ r = 1 ∧ va_P D vwCl [(mo, .inr (6, [.ref ms, .ref mp, .int (nI np), .ref me, .ref mn, .long (cY (e64 u) (f (8 + se)) rd.toInt64), .long (cK (e64 u) (f (8 + se)) (f (12 + se)).toInt64), .long (cL (e64 u) (f (8 + se)) (f (12 + se)).toInt64), .long hv])), (mn, .inl (g 1, 5, .inr (.inl (e64 (cE u (f (8 + se)) (f (12 + se)) rd)))))] H1) : Int32 → Heap → Prop) (-1) H := Or.inr (Or.inl ⟨hnr, hnk, rfl, by rw [← hyv]; exact hP.sub [0, 1] rfl⟩)
          exact W.iret (v := (-1)) hx hb hr (fun t ht hW => ⟨⟨_, rfl, by rw [ht]; exact hq9⟩, hS.F ht⟩) hS.2.2 dX6_corrects_179
    refine lv_iload (pc := 82) hx hb dX6_corrects_82 (lv_at hl 6 rfl) ?_
    refine lv_if_eq (pc := 84) (tgt := 108) hx hb dX6_corrects_84 (by decide) (fun cd80 => ?_) (fun cd80 => ?_)
    · exact cut1   (fun h => h.1 cd80) ls (lv_sub hl [3, 2, 1, 0] rfl)
    · refine lv_lload (pc := 87) hx hb dX6_corrects_87 (lv_at hl 1 rfl) ?_
      refine lv_lload (pc := 89) hx hb dX6_corrects_89 (lv_at hl 1 rfl) ?_
      refine lv_lmul (pc := 91) hx hb dX6_corrects_91 ?_
      refine lv_iload (pc := 92) hx hb dX6_corrects_92 (lv_at hl 6 rfl) ?_
      refine lv_i2l (pc := 94) hx hb dX6_corrects_94 rfl ?_
      refine lv_lload (pc := 95) hx hb dX6_corrects_95 (lv_at hl 0 rfl) ?_
      refine lv_lmul (pc := 97) hx hb dX6_corrects_97 ?_
      refine lv_ldc2 (pc := 98) (v := 4096) hx hb hown (hts _ q673) dX6_corrects_98 ?_
      refine lv_lmul (pc := 101) hx hb dX6_corrects_101 ?_
      refine lq_le (pc := 102) (tgt := 108) hx hb dX6_corrects_102 dX6_corrects_103 (by decide) (fun cd81 => ?_) (fun cd81 => ?_)
      · exact cut1   (fun h => h.2 (by rw [← hyv, ← hsv]; exact cd81)) ls (lv_sub hl [3, 2, 1, 0] rfl)
      · have hrj : cRej (e64 u) (f (8 + se)) (f (12 + se)).toInt64 rd.toInt64 gt := ⟨cd80, by rw [← hyv, ← hsv]; exact cd81⟩
        refine lv_iconst (pc := 106) (v := 0) hx hb dX6_corrects_106 (by decide) ?_
        have hq9 : (fun r H1 => (cRej (e64 u) (f (8 + se)) (f (12 + se)).toInt64 rd.toInt64 gt ∧ r = 0 ∧ va_P D vwCl [(mo, .inr (6, [.ref ms, .ref mp, .int (nI np), .ref me, .ref mn, .long (cY (e64 u) (f (8 + se)) rd.toInt64), .long lg, .long fg, .long hv])), (mn, .inl (g 1, 5, .inr (.inl (e64 u))))] H1) ∨ (¬ cRej (e64 u) (f (8 + se)) (f (12 + se)).toInt64 rd.toInt64 gt ∧ ¬ cOK (e64 u) (f (8 + se)) (f (12 + se)).toInt64 rd.toInt64 ∧ r = -1 ∧ va_P D vwCl [(mo, .inr (6, [.ref ms, .ref mp, .int (nI np), .ref me, .ref mn, .long (cY (e64 u) (f (8 + se)) rd.toInt64), .long lg, .long fg, .long hv])), (mn, .inl (g 1, 5, .inr (.inl (e64 u))))] H1) ∨ (¬ cRej (e64 u) (f (8 + se)) (f (12 + se)).toInt64 rd.toInt64 gt ∧ cOK (e64 u) (f (8 + se)) (f (12 + se)).toInt64 rd.toInt64 ∧ r = 1 ∧ va_P D vwCl [(mo, .inr (6, [.ref ms, .ref mp, .int (nI np), .ref me, .ref mn, .long (cY (e64 u) (f (8 + se)) rd.toInt64), .long (cK (e64 u) (f (8 + se)) (f (12 + se)).toInt64), .long (cL (e64 u) (f (8 + se)) (f (12 + se)).toInt64), .long hv])), (mn, .inl (g 1, 5, .inr (.inl (e64 (cE u (f (8 + se)) (f (12 + se)) rd)))))] H1) : Int32 → Heap → Prop) 0 H := Or.inl ⟨hrj, rfl, by rw [← hyv]; exact hP.sub [0, 1] rfl⟩
        exact W.iret (v := 0) hx hb hr (fun t ht hW => ⟨⟨_, rfl, by rw [ht]; exact hq9⟩, hS.F ht⟩) hS.2.2 dX6_corrects_107
