abbrev rm_m6_goesOn : Room := ({ frames := 2, cells := 0, slots := 0, locals := 51 })
set_option maxHeartbeats 4000000 in
set_option maxRecDepth 100000 in
theorem m6_goesOn (l : Launch) {D : va_G} {g : Nat → ClassId} (mo ms mp me mn np : Nat) (iv lg fg hv : Int64) (f : Nat → Int32) (nw : Nat → Int64) (t : Nat) (tx : Int32) (H : Heap) (hP : va_P D vwCl [(mn, .inl (g 1, 5, .inr (.inl nw)))] H) (hmo : va_P D vwCl [(mo, .inr (6, [.ref ms, .ref mp, .int (nI np), .ref me, .ref mn, .long iv, .long lg, .long fg, .long hv]))] H) (nhmo : mo ∉ [mn]) (hms : va_P D vwCl [(ms, .inl (g 0, 71, .inl f))] H) (nhms : ms ∉ [mn]) (htx : tx = nI t) (ht : t ≤ 100) : Met l yX6_goesOn (ws_ yX6_goesOn cX6_goesOn 4 (some .boolean)) rm_m6_goesOn (va_Pc [.ref mo, .int tx] (PH D g H)) (QI (fun r H1 => (pItOK (f 5) (f 6) t (eR f) ∧ r = 1 ∧ va_P D vwCl [(mn, .inl (g 1, 5, .inr (.inl (e64 (pIt (f 5) (f 6) t (eR f))))))] H1) ∨ (¬ pItOK (f 5) (f 6) t (eR f) ∧ r = 0 ∧ ∃ nw2 : Nat → Int64, va_P D vwCl [(mn, .inl (g 1, 5, .inr (.inl nw2)))] H1)) (Aw [mn] H.size)) 0 0 (Aw [mn] H.size) := by
  refine Met.ofW (cc := cX6_goesOn) (maxL := 4) (ret := (some .boolean)) (by decide) rfl ?_
  intro p e s m args below meth c s₁ B hml hv
  obtain ⟨rfl, hH, hK⟩ := hv
  subst hH
  have hx := B.exec
  have hb := B.bytes
  have hr := B.returns
  have hts := atoms_spec (ws := ws_ yX6_goesOn cX6_goesOn 4 (some .boolean)) B.pre
  have hts : ∀ w ∈ lw_all, w.before _ s = true := fun w h => hts w (List.mem_cons_of_mem _ h)
  have hown : s.vm.findClass RX6 = some m.cls := findClass_of_methodNamed B.named
  have hlocks := B.notSynchronized
  have hA : ∀ q, s.heap.size ≤ q → (Aw [mn] s.heap.size) q := fun q h => Or.inr h
  have hS : va_S (Aw [mn] s.heap.size) s.heap s.heap [] := va_S.rf
  have hD : va_D (Aw [mn] s.heap.size) [(mn, .inl (g 1, 5, .inr (.inl nw)))] := d1 (Or.inl (by simp))
  have ahmo : ¬ (Aw [mn] s.heap.size) mo := naw nhmo (hmo 0 _ rfl).lt
  have ahms : ¬ (Aw [mn] s.heap.size) ms := naw nhms (hms 0 _ rfl).lt
  have hl := lv_entry ([.ref mo, .int tx]) (n := 4) (Nat.le_of_ble_eq_true rfl)
  rw [lg_entry_eq]
  generalize (lg_sl ([.ref mo, .int tx]) ++ List.replicate (4 - (lg_sl ([.ref mo, .int tx])).length) Slot.unset).toArray = ls at hl ⊢
  have hl : lv_has ls 4 [(0, .ref mo), (1, .int tx)] := hl
  refine lv_aload_n (pc := 0) hx hb dX6_goesOn_0 rfl (lv_at hl 0 rfl) ?_
  have hFc := awF (Lc := [mn]) hD hS hA [0] rfl
  refine kV (pc := 1) (va_runV (As := []) (rest := []) ⟨hx, hb, hml, hown, hts⟩ (m6_take l mo ms mp me mn np iv lg fg hv f nw s.heap (hP.sub (ws' := [(mn, .inl (g 1, 5, .inr (.inl nw)))]) [0] rfl) hmo (ninL ahmo (fun q h => hFc q (Or.inl h))) hms (ninL ahms (fun q h => hFc q (Or.inl h)))) (cwV 0 hts (lw_V q642 q644 qs10 q28 q645) rfl rfl rfl (by decide +kernel) ⟨Nat.le_of_ble_eq_true rfl, Nat.le_of_ble_eq_true rfl⟩) (preV hK (rcv hK hmo 0 rfl rfl)) rfl rfl hl.1 rfl (lv_room (Nat.le_of_ble_eq_true rfl)) dX6_goesOn_1 ⟨Nat.le_of_ble_eq_true rfl, Nat.le_of_ble_eq_true rfl⟩) hS hFc (fun H locs hp9 hz1 hk1 hS => ?_)
  have hP1 := hp9
  obtain ⟨hP, hD⟩ := jn (wr := []) (w1 := [(mn, .inl (g 1, 5, .inr (.inl (e64 (eR f)))))]) hP hD [0] [] rfl rfl (by decide) (by decide) hk1 hFc hP1 (d1 (Or.inl (by simp)))
  have hP : va_P D vwCl [(mn, .inl (g 1, 5, .inr (.inl (e64 (eR f)))))] H := hP
  have hD : va_D (Aw [mn] s.heap.size) [(mn, .inl (g 1, 5, .inr (.inl (e64 (eR f)))))] := hD
  refine lv_iconst (pc := 4) (v := 1) hx hb dX6_goesOn_4 (by decide) ?_
  refine lv_istore_n (pc := 5) (lv' := [(2, .int 1), (0, .ref mo), (1, .int tx)]) hx hb dX6_goesOn_5 rfl hl (by decide) rfl (fun ls hl => ?_)
  refine lv_iconst (pc := 6) (v := 0) hx hb dX6_goesOn_6 (by decide) ?_
  refine lv_istore_n (pc := 7) (lv' := [(3, .int 0), (2, .int 1), (0, .ref mo), (1, .int tx)]) hx hb dX6_goesOn_7 rfl hl (by decide) rfl (fun ls hl => ?_)
  have loop : ∀ (n : Nat) (i : Nat), (i ≤ t) → (t + 1 ≤ i + n) → (pItOK (f 5) (f 6) i (eR f)) → ∀ (H : Heap) (locs : List Loc), va_P D vwCl [(mn, .inl (g 1, 5, .inr (.inl (e64 (pIt (f 5) (f 6) i (eR f))))))] H → va_D (Aw [mn] s.heap.size) [(mn, .inl (g 1, 5, .inr (.inl (e64 (pIt (f 5) (f 6) i (eR f))))))] → va_S (Aw [mn] s.heap.size) s.heap H locs → ∀ (ls : Array Slot), lv_has ls 4 [(0, .ref mo), (1, .int tx), (2, .int 1), (3, .int (nI i))] → W p l e (headSpec (ws_ yX6_goesOn cX6_goesOn 4 (some .boolean)) rm_m6_goesOn).room s m ([.ref mo, .int tx] : List Value).toArray below meth c H locs 0 0 (MQ below (QI (fun r H1 => (pItOK (f 5) (f 6) t (eR f) ∧ r = 1 ∧ va_P D vwCl [(mn, .inl (g 1, 5, .inr (.inl (e64 (pIt (f 5) (f 6) t (eR f))))))] H1) ∨ (¬ pItOK (f 5) (f 6) t (eR f) ∧ r = 0 ∧ ∃ nw2 : Nat → Int64, va_P D vwCl [(mn, .inl (g 1, 5, .inr (.inl nw2)))] H1)) (Aw [mn] s.heap.size)) ([.ref mo, .int tx] : List Value).toArray s 0 0 (Aw [mn] s.heap.size)) (F0 m 8 ls []) := by
    intro n
    induction n with
    | zero =>
      intro i hi hfu hall
      exact absurd (show _ by assumption) (by omega)
    | succ n ih =>
      intro i hi hfu hall H locs hP hD hS ls hl
      refine lv_iload_n (pc := 8) hx hb dX6_goesOn_8 rfl (lv_at hl 3 rfl) ?_
      refine lv_iload_n (pc := 9) hx hb dX6_goesOn_9 rfl (lv_at hl 1 rfl) ?_
      refine lv_icmp_ge (pc := 10) (tgt := 36) hx hb dX6_goesOn_10 (by decide) (fun cd2 => ?_) (fun cd2 => ?_)
      · have ncd2 : t ≤ i := (nle htx rfl (by omega) (by omega)).mp cd2
        refine lv_iload_n (pc := 36) hx hb dX6_goesOn_36 rfl (lv_at hl 2 rfl) ?_
        have hq9 : (fun r H1 => (pItOK (f 5) (f 6) t (eR f) ∧ r = 1 ∧ va_P D vwCl [(mn, .inl (g 1, 5, .inr (.inl (e64 (pIt (f 5) (f 6) t (eR f))))))] H1) ∨ (¬ pItOK (f 5) (f 6) t (eR f) ∧ r = 0 ∧ ∃ nw2 : Nat → Int64, va_P D vwCl [(mn, .inl (g 1, 5, .inr (.inl nw2)))] H1) : Int32 → Heap → Prop) 1 H := Or.inl ⟨(show i = t by omega) ▸ hall, rfl, (show i = t by omega) ▸ hP⟩
        exact W.zret (v := 1) hx hb hr rfl (fun t ht hW => ⟨⟨_, rfl, by rw [ht]; exact hq9⟩, hS.F ht⟩) hS.2.2 dX6_goesOn_37
      · have ncd2 : ¬ t ≤ i := fun h => cd2 ((nle htx rfl (by omega) (by omega)).mpr h)
        refine lv_iload_n (pc := 13) hx hb dX6_goesOn_13 rfl (lv_at hl 2 rfl) ?_
        refine lv_if_eq (pc := 14) (tgt := 36) hx hb dX6_goesOn_14 (by decide) (fun cd3 => absurd cd3 (by decide)) (fun cd3 => ?_)
        refine lv_aload_n (pc := 17) hx hb dX6_goesOn_17 rfl (lv_at hl 0 rfl) ?_
        refine lv_iconst (pc := 18) (v := 0) hx hb dX6_goesOn_18 (by decide) ?_
        refine lv_aload_n (pc := 19) hx hb dX6_goesOn_19 rfl (lv_at hl 0 rfl) ?_
        refine va_get (pc := 20) (D := D) (ci := 6) (v := .ref ms) (C := RX6) (T := TX6) (N := 9) hx hb hts in_X6 hown hK.1 (ro_at hS hmo ahmo) 0 rfl rfl 0 (by decide) (hts _ q574) (fun _ h9 => h9) rfl dX6_goesOn_20 ?_
        refine lv_bipush (pc := 23) (v := 6) hx hb dX6_goesOn_23 (by decide) ?_
        refine ia_ld (pc := 25) hx hb hK.1 (ro_at hS hms ahms) 0 0 6 rfl rfl (nl 6) (Nat.le_of_ble_eq_true rfl) (Nat.le_of_ble_eq_true rfl) dX6_goesOn_25 ?_
        have hFc := awF (Lc := [mn]) hD hS hA [0] rfl
        refine kI (pc := 26) (va_runV (As := [.int 0, .int (f 6)]) (rest := []) ⟨hx, hb, hml, hown, hts⟩ (m6_predicts l mo ms mp me mn np iv lg fg hv f (pIt (f 5) (f 6) i (eR f)) 0 (f 6) H (hP.sub (ws' := [(mn, .inl (g 1, 5, .inr (.inl (e64 (pIt (f 5) (f 6) i (eR f))))))]) [0] rfl) (ro_at hS hmo ahmo) (ninL ahmo (fun q h => hFc q (Or.inl h))) (ro_at hS hms ahms) (ninL ahms (fun q h => hFc q (Or.inl h)))) (cwV 2 hts (lw_V q646 q648 qs11 q28 q649) rfl rfl rfl (by decide +kernel) ⟨Nat.le_of_ble_eq_true rfl, Nat.le_of_ble_eq_true rfl⟩) (preV hK (rcv hK (ro_at hS hmo ahmo) 0 rfl rfl)) rfl rfl hl.1 rfl (lv_room (Nat.le_of_ble_eq_true rfl)) dX6_goesOn_26 ⟨Nat.le_of_ble_eq_true rfl, Nat.le_of_ble_eq_true rfl⟩) hS hFc (fun r4 H locs hp9 hz1 hk1 hS => ?_)
        rcases hp9 with ⟨hok, hr9, hP1⟩ | ⟨hnok, hr9, hP1⟩
        · subst hr9
          obtain ⟨hP, hD⟩ := jn (wr := []) (w1 := [(mn, .inl (g 1, 5, .inr (.inl (e64 (pE (pIt (f 5) (f 6) i (eR f)) 0 (f 5) (f 6))))))]) hP hD [0] [] rfl rfl (by decide) (by decide) hk1 hFc hP1 (d1 (Or.inl (by simp)))
          have hP : va_P D vwCl [(mn, .inl (g 1, 5, .inr (.inl (e64 (pE (pIt (f 5) (f 6) i (eR f)) 0 (f 5) (f 6))))))] H := hP
          have hD : va_D (Aw [mn] s.heap.size) [(mn, .inl (g 1, 5, .inr (.inl (e64 (pE (pIt (f 5) (f 6) i (eR f)) 0 (f 5) (f 6))))))] := hD
          refine lv_istore_n (pc := 29) (lv' := [(2, .int 1), (0, .ref mo), (1, .int tx), (3, .int (nI i))]) hx hb dX6_goesOn_29 rfl hl (by decide) rfl (fun ls hl => ?_)
          obtain ⟨x5, ex5⟩ : ∃ y : Int32, y = (nI i) + 1 := ⟨_, rfl⟩
          refine lv_iinc (pc := 30) (v := x5) (lv' := [(3, .int x5), (2, .int 1), (0, .ref mo), (1, .int tx)]) hx hb dX6_goesOn_30 hl (k := 3) rfl (by rw [ex5]; rfl) (by decide) rfl (fun ls hl => ?_)
          refine lv_goto (pc := 33) (tgt := 8) hx hb dX6_goesOn_33 (by decide) ?_
          rw [show x5 = nI (i + 1) from (ex5.trans (nadd rfl (nl 1)))] at hl
          exact ih  (i + 1) (by omega) (by omega) (fun j h => if e9 : j = i then e9 ▸ hok else hall j (by omega)) _ _ hP hD hS ls (lv_sub hl [2, 3, 1, 0] rfl)
        · subst hr9
          obtain ⟨hP, hD⟩ := jn (wr := []) (w1 := [(mn, .inl (g 1, 5, .inr (.inl (e64 (pIt (f 5) (f 6) i (eR f))))))]) hP hD [0] [] rfl rfl (by decide) (by decide) hk1 hFc hP1 (d1 (Or.inl (by simp)))
          have hP : va_P D vwCl [(mn, .inl (g 1, 5, .inr (.inl (e64 (pIt (f 5) (f 6) i (eR f))))))] H := hP
          have hD : va_D (Aw [mn] s.heap.size) [(mn, .inl (g 1, 5, .inr (.inl (e64 (pIt (f 5) (f 6) i (eR f))))))] := hD
          refine lv_istore_n (pc := 29) (lv' := [(2, .int 0), (0, .ref mo), (1, .int tx), (3, .int (nI i))]) hx hb dX6_goesOn_29 rfl hl (by decide) rfl (fun ls hl => ?_)
          obtain ⟨x6, ex6⟩ : ∃ y : Int32, y = (nI i) + 1 := ⟨_, rfl⟩
          refine lv_iinc (pc := 30) (v := x6) (lv' := [(3, .int x6), (2, .int 0), (0, .ref mo), (1, .int tx)]) hx hb dX6_goesOn_30 hl (k := 3) rfl (by rw [ex6]; rfl) (by decide) rfl (fun ls hl => ?_)
          refine lv_goto (pc := 33) (tgt := 8) hx hb dX6_goesOn_33 (by decide) ?_
          refine lv_iload_n (pc := 8) hx hb dX6_goesOn_8 rfl (lv_at hl 0 rfl) ?_
          refine lv_iload_n (pc := 9) hx hb dX6_goesOn_9 rfl (lv_at hl 3 rfl) ?_
          refine lv_icmp_ge (pc := 10) (tgt := 36) hx hb dX6_goesOn_10 (by decide) (fun cd7 => ?_) (fun cd7 => ?_)
          · have ncd7 : t ≤ (i + 1) := (nle htx (ex6.trans (nadd rfl (nl 1))) (by omega) (by omega)).mp cd7
            refine lv_iload_n (pc := 36) hx hb dX6_goesOn_36 rfl (lv_at hl 1 rfl) ?_
            have hq9 : (fun r H1 => (pItOK (f 5) (f 6) t (eR f) ∧ r = 1 ∧ va_P D vwCl [(mn, .inl (g 1, 5, .inr (.inl (e64 (pIt (f 5) (f 6) t (eR f))))))] H1) ∨ (¬ pItOK (f 5) (f 6) t (eR f) ∧ r = 0 ∧ ∃ nw2 : Nat → Int64, va_P D vwCl [(mn, .inl (g 1, 5, .inr (.inl nw2)))] H1) : Int32 → Heap → Prop) 0 H := Or.inr ⟨fun h => hnok (h i (by omega)), rfl, _, hP⟩
            exact W.zret (v := 0) hx hb hr rfl (fun t ht hW => ⟨⟨_, rfl, by rw [ht]; exact hq9⟩, hS.F ht⟩) hS.2.2 dX6_goesOn_37
          · have ncd7 : ¬ t ≤ (i + 1) := fun h => cd7 ((nle htx (ex6.trans (nadd rfl (nl 1))) (by omega) (by omega)).mpr h)
            refine lv_iload_n (pc := 13) hx hb dX6_goesOn_13 rfl (lv_at hl 1 rfl) ?_
            refine lv_if_eq (pc := 14) (tgt := 36) hx hb dX6_goesOn_14 (by decide) (fun cd8 => ?_) (fun cd8 => absurd cd8 (by decide))
            refine lv_iload_n (pc := 36) hx hb dX6_goesOn_36 rfl (lv_at hl 1 rfl) ?_
            have hq9 : (fun r H1 => (pItOK (f 5) (f 6) t (eR f) ∧ r = 1 ∧ va_P D vwCl [(mn, .inl (g 1, 5, .inr (.inl (e64 (pIt (f 5) (f 6) t (eR f))))))] H1) ∨ (¬ pItOK (f 5) (f 6) t (eR f) ∧ r = 0 ∧ ∃ nw2 : Nat → Int64, va_P D vwCl [(mn, .inl (g 1, 5, .inr (.inl nw2)))] H1) : Int32 → Heap → Prop) 0 H := Or.inr ⟨fun h => hnok (h i (by omega)), rfl, _, hP⟩
            exact W.zret (v := 0) hx hb hr rfl (fun t ht hW => ⟨⟨_, rfl, by rw [ht]; exact hq9⟩, hS.F ht⟩) hS.2.2 dX6_goesOn_37
  exact loop (t + 1) 0 (Nat.zero_le _) (by omega) (fun j h => absurd h (Nat.not_lt_zero j)) _ _ hP hD hS ls (lv_sub hl [2, 3, 1, 0] rfl)

abbrev rm_m6_forecast : Room := ({ frames := 3, cells := 0, slots := 0, locals := 74 })
set_option maxHeartbeats 4000000 in
set_option maxRecDepth 100000 in
theorem m6_forecast (l : Launch) {D : va_G} {g : Nat → ClassId} (mo ms mp me mn np : Nat) (iv lg fg hv : Int64) (ef f pa : Nat → Int32) (nw : Nat → Int64) (tx : Int32) (H : Heap) (hP : va_P D vwCl [(mo, .inr (6, [.ref ms, .ref mp, .int (nI np), .ref me, .ref mn, .long iv, .long lg, .long fg, .long hv])), (ms, .inl (g 0, 71, .inl f)), (mp, .inl (g 0, 284, .inl pa)), (me, .inl (g 0, 3, .inl ef)), (mn, .inl (g 1, 5, .inr (.inl nw)))] H) (hN : [mo, ms, mp, me, mn].Nodup) (hnp : np ≤ 4) (hro : RowOK f) : Met l yX6_forecast (ws_ yX6_forecast cX6_forecast 2 (some .int)) rm_m6_forecast (va_Pc [.ref mo, .int tx] (PH D g H)) (QI (fun r H1 => (inR 0 100 tx ∧ pItOK (f 5) (f 6) tx.toNatClampNeg (eR f) ∧ r = pIt (f 5) (f 6) tx.toNatClampNeg (eR f) 0 ∧ MDI D g H1 mo ms mp me mn np ef f pa) ∨ (inR 0 100 tx ∧ ¬ pItOK (f 5) (f 6) tx.toNatClampNeg (eR f) ∧ r = -2000000004 ∧ MDI D g H1 mo ms mp me mn np (upd ef 2 (ef 2 + 1)) f pa) ∨ (¬ (inR 0 100 tx) ∧ r = -2000000002 ∧ MDI D g H1 mo ms mp me mn np (upd ef 0 (ef 0 + 1)) f pa)) (Aw [mo, ms, mp, me, mn] H.size)) 0 0 (Aw [mo, ms, mp, me, mn] H.size) := by
  refine Met.ofW (cc := cX6_forecast) (maxL := 2) (ret := (some .int)) (by decide) rfl ?_
  intro p e s m args below meth c s₁ B hml hv
  obtain ⟨rfl, hH, hK⟩ := hv
  subst hH
  have hx := B.exec
  have hb := B.bytes
  have hr := B.returns
  have hts := atoms_spec (ws := ws_ yX6_forecast cX6_forecast 2 (some .int)) B.pre
  have hts : ∀ w ∈ lw_all, w.before _ s = true := fun w h => hts w (List.mem_cons_of_mem _ h)
  have hown : s.vm.findClass RX6 = some m.cls := findClass_of_methodNamed B.named
  have hlocks := B.notSynchronized
  have hA : ∀ q, s.heap.size ≤ q → (Aw [mo, ms, mp, me, mn] s.heap.size) q := fun q h => Or.inr h
  have hS : va_S (Aw [mo, ms, mp, me, mn] s.heap.size) s.heap s.heap [] := va_S.rf
  have hD : va_D (Aw [mo, ms, mp, me, mn] s.heap.size) [(mo, .inr (6, [.ref ms, .ref mp, .int (nI np), .ref me, .ref mn, .long iv, .long lg, .long fg, .long hv])), (ms, .inl (g 0, 71, .inl f)), (mp, .inl (g 0, 284, .inl pa)), (me, .inl (g 0, 3, .inl ef)), (mn, .inl (g 1, 5, .inr (.inl nw)))] := dOf hN (fun q h => Or.inl h)
  have hl := lv_entry ([.ref mo, .int tx]) (n := 2) (Nat.le_of_ble_eq_true rfl)
  rw [lg_entry_eq]
  generalize (lg_sl ([.ref mo, .int tx]) ++ List.replicate (2 - (lg_sl ([.ref mo, .int tx])).length) Slot.unset).toArray = ls at hl ⊢
  have hl : lv_has ls 2 [(0, .ref mo), (1, .int tx)] := hl
  refine lv_iload_n (pc := 0) hx hb dX6_forecast_0 rfl (lv_at hl 1 rfl) ?_
  refine lv_iconst (pc := 1) (v := 0) hx hb dX6_forecast_1 (by decide) ?_
  refine lv_bipush (pc := 2) (v := 100) hx hb dX6_forecast_2 (by decide) ?_
  refine kIp (pc := 4) (va_runS (As := [.int tx, .int 0, .int 100]) (rest := []) ⟨hx, hb, hml, hown, hts⟩ (m6_in l tx 0 100 s.heap) (va_cwS 3 hts (lw_S q609 q610 q28 q611) rfl rfl rfl (by decide +kernel) ⟨Nat.le_of_ble_eq_true rfl, Nat.le_of_ble_eq_true rfl⟩) (preS hK) rfl rfl hl.1 rfl (lv_room (Nat.le_of_ble_eq_true rfl)) dX6_forecast_4 ⟨Nat.le_of_ble_eq_true rfl, Nat.le_of_ble_eq_true rfl⟩) (fun r1 hr1 => ?_)
  refine lv_if_ne (pc := 7) (tgt := 17) hx hb dX6_forecast_7 (by decide) (fun cd2 => ?_) (fun cd2 => ?_)
  · have hck7 : inR (0) (100) tx := bI_ne (fun e => cd2 (hr1.trans e))
    obtain ⟨se, hse3, hsx⟩ := inR_nat (n := 100) (by decide) hck7
    have hse : se < 101 := by omega
    have hcl9 : tx.toNatClampNeg = se := by rw [hsx]; exact nI_clamp (by omega)
    refine lv_aload_n (pc := 17) hx hb dX6_forecast_17 rfl (lv_at hl 0 rfl) ?_
    refine lv_iload_n (pc := 18) hx hb dX6_forecast_18 rfl (lv_at hl 1 rfl) ?_
    have hFc := awF (Lc := [mn]) hD hS hA [4] rfl
    refine kI (pc := 19) (va_runV (As := [.int tx]) (rest := []) ⟨hx, hb, hml, hown, hts⟩ (m6_goesOn l mo ms mp me mn np iv lg fg hv f nw se tx s.heap (hP.sub (ws' := [(mn, .inl (g 1, 5, .inr (.inl nw)))]) [4] rfl) (hP.sub (ws' := [(mo, .inr (6, [.ref ms, .ref mp, .int (nI np), .ref me, .ref mn, .long iv, .long lg, .long fg, .long hv]))]) [0] rfl) (ninW hD 0 [4] rfl rfl (by decide)) (hP.sub (ws' := [(ms, .inl (g 0, 71, .inl f))]) [1] rfl) (ninW hD 1 [4] rfl rfl (by decide)) hsx hse3) (cwV 1 hts (lw_V q740 q742 qs15 q28 q743) rfl rfl rfl (by decide +kernel) ⟨Nat.le_of_ble_eq_true rfl, Nat.le_of_ble_eq_true rfl⟩) (preV hK (rcv hK hP 0 rfl rfl)) rfl rfl hl.1 rfl (lv_room (Nat.le_of_ble_eq_true rfl)) dX6_forecast_19 ⟨Nat.le_of_ble_eq_true rfl, Nat.le_of_ble_eq_true rfl⟩) hS hFc (fun r3 H locs hp9 hz1 hk1 hS => ?_)
    rcases hp9 with ⟨hok, hr9, hP1⟩ | ⟨hnok, hr9, nw2, hP1⟩
    · subst hr9
      obtain ⟨hP, hD⟩ := jn (wr := [(mo, .inr (6, [.ref ms, .ref mp, .int (nI np), .ref me, .ref mn, .long iv, .long lg, .long fg, .long hv])), (ms, .inl (g 0, 71, .inl f)), (mp, .inl (g 0, 284, .inl pa)), (me, .inl (g 0, 3, .inl ef))]) (w1 := [(mn, .inl (g 1, 5, .inr (.inl (e64 (pIt (f 5) (f 6) se (eR f))))))]) hP hD [4] [0, 1, 2, 3] rfl rfl (by decide) (by decide) hk1 hFc hP1 (d1 (Or.inl (by simp)))
      have hP : va_P D vwCl [(mo, .inr (6, [.ref ms, .ref mp, .int (nI np), .ref me, .ref mn, .long iv, .long lg, .long fg, .long hv])), (ms, .inl (g 0, 71, .inl f)), (mp, .inl (g 0, 284, .inl pa)), (me, .inl (g 0, 3, .inl ef)), (mn, .inl (g 1, 5, .inr (.inl (e64 (pIt (f 5) (f 6) se (eR f))))))] H := hP
      have hD : va_D (Aw [mo, ms, mp, me, mn] s.heap.size) [(mo, .inr (6, [.ref ms, .ref mp, .int (nI np), .ref me, .ref mn, .long iv, .long lg, .long fg, .long hv])), (ms, .inl (g 0, 71, .inl f)), (mp, .inl (g 0, 284, .inl pa)), (me, .inl (g 0, 3, .inl ef)), (mn, .inl (g 1, 5, .inr (.inl (e64 (pIt (f 5) (f 6) se (eR f))))))] := hD
      refine lv_if_eq (pc := 22) (tgt := 35) hx hb dX6_forecast_22 (by decide) (fun cd4 => absurd cd4 (by decide)) (fun cd4 => ?_)
      refine lv_aload_n (pc := 25) hx hb dX6_forecast_25 rfl (lv_at hl 0 rfl) ?_
      refine va_get (pc := 26) (D := D) (ci := 6) (v := .ref mn) (C := RX6) (T := TX6) (N := 9) hx hb hts in_X6 hown hK.1 hP 0 rfl rfl 4 (by decide) (hts _ q578) (fun _ h9 => h9) rfl dX6_forecast_26 ?_
      refine lv_iconst (pc := 29) (v := 0) hx hb dX6_forecast_29 (by decide) ?_
      refine la_ld (pc := 30) hx hb hK.1 hP 4 1 0 rfl rfl (nl 0) (Nat.le_of_ble_eq_true rfl) (Nat.le_of_ble_eq_true rfl) dX6_forecast_30 ?_
      refine lv_l2i (pc := 31) hx hb dX6_forecast_31 rfl ?_
      refine lv_goto (pc := 32) (tgt := 41) hx hb dX6_forecast_32 (by decide) ?_
      have hq9 : (fun r H1 => (inR 0 100 tx ∧ pItOK (f 5) (f 6) tx.toNatClampNeg (eR f) ∧ r = pIt (f 5) (f 6) tx.toNatClampNeg (eR f) 0 ∧ MDI D g H1 mo ms mp me mn np ef f pa) ∨ (inR 0 100 tx ∧ ¬ pItOK (f 5) (f 6) tx.toNatClampNeg (eR f) ∧ r = -2000000004 ∧ MDI D g H1 mo ms mp me mn np (upd ef 2 (ef 2 + 1)) f pa) ∨ (¬ (inR 0 100 tx) ∧ r = -2000000002 ∧ MDI D g H1 mo ms mp me mn np (upd ef 0 (ef 0 + 1)) f pa) : Int32 → Heap → Prop) (Int64.toInt32 ((e64 (pIt (f 5) (f 6) se (eR f))) 0)) H := Or.inl ⟨hck7, by rw [hcl9]; exact hok, by rw [hcl9]; exact i32_back _, ⟨_, _, _, _, _, hP.sub [0, 1, 2, 3, 4] rfl⟩⟩
      exact W.iret (v := Int64.toInt32 ((e64 (pIt (f 5) (f 6) se (eR f))) 0)) hx hb hr (fun t ht hW => ⟨⟨_, rfl, by rw [ht]; exact hq9⟩, hS.F ht⟩) hS.2.2 dX6_forecast_41
    · subst hr9
      obtain ⟨hP, hD⟩ := jn (wr := [(mo, .inr (6, [.ref ms, .ref mp, .int (nI np), .ref me, .ref mn, .long iv, .long lg, .long fg, .long hv])), (ms, .inl (g 0, 71, .inl f)), (mp, .inl (g 0, 284, .inl pa)), (me, .inl (g 0, 3, .inl ef))]) (w1 := [(mn, .inl (g 1, 5, .inr (.inl nw2)))]) hP hD [4] [0, 1, 2, 3] rfl rfl (by decide) (by decide) hk1 hFc hP1 (d1 (Or.inl (by simp)))
      have hP : va_P D vwCl [(mo, .inr (6, [.ref ms, .ref mp, .int (nI np), .ref me, .ref mn, .long iv, .long lg, .long fg, .long hv])), (ms, .inl (g 0, 71, .inl f)), (mp, .inl (g 0, 284, .inl pa)), (me, .inl (g 0, 3, .inl ef)), (mn, .inl (g 1, 5, .inr (.inl nw2)))] H := hP
      have hD : va_D (Aw [mo, ms, mp, me, mn] s.heap.size) [(mo, .inr (6, [.ref ms, .ref mp, .int (nI np), .ref me, .ref mn, .long iv, .long lg, .long fg, .long hv])), (ms, .inl (g 0, 71, .inl f)), (mp, .inl (g 0, 284, .inl pa)), (me, .inl (g 0, 3, .inl ef)), (mn, .inl (g 1, 5, .inr (.inl nw2)))] := hD
      refine lv_if_eq (pc := 22) (tgt := 35) hx hb dX6_forecast_22 (by decide) (fun cd5 => ?_) (fun cd5 => absurd cd5 (by decide))
      refine lv_aload_n (pc := 35) hx hb dX6_forecast_35 rfl (lv_at hl 0 rfl) ?_
      refine lv_ldc (pc := 36) (v := (-2000000004)) hx hb hown (hts _ q656) dX6_forecast_36 ?_
      have hFc := awF (Lc := [me]) hD hS hA [3] rfl
      refine kI (pc := 38) (va_runV (As := [.int (-2000000004)]) (rest := []) ⟨hx, hb, hml, hown, hts⟩ (m6_fail l mo ms mp me mn np iv lg fg hv 2 ef (-2000000004) H (hP.sub (ws' := [(me, .inl (g 0, 3, .inl ef))]) [3] rfl) (hP.sub (ws' := [(mo, .inr (6, [.ref ms, .ref mp, .int (nI np), .ref me, .ref mn, .long iv, .long lg, .long fg, .long hv]))]) [0] rfl) (ninW hD 0 [3] rfl rfl (by decide)) (by decide) (by decide)) (cwV 1 hts (lw_V q615 q617 qs8 q28 q618) rfl rfl rfl (by decide +kernel) ⟨Nat.le_of_ble_eq_true rfl, Nat.le_of_ble_eq_true rfl⟩) (preV hK (rcv hK hP 0 rfl rfl)) rfl rfl hl.1 rfl (lv_room (Nat.le_of_ble_eq_true rfl)) dX6_forecast_38 ⟨Nat.le_of_ble_eq_true rfl, Nat.le_of_ble_eq_true rfl⟩) hS hFc (fun r6 H locs hp9 hz1 hk1 hS => ?_)
      obtain ⟨hrc, hP1⟩ := hp9
      obtain ⟨hP, hD⟩ := jn (wr := [(mo, .inr (6, [.ref ms, .ref mp, .int (nI np), .ref me, .ref mn, .long iv, .long lg, .long fg, .long hv])), (ms, .inl (g 0, 71, .inl f)), (mp, .inl (g 0, 284, .inl pa)), (mn, .inl (g 1, 5, .inr (.inl nw2)))]) (w1 := [(me, .inl (g 0, 3, .inl (upd ef 2 (ef 2 + 1))))]) hP hD [3] [0, 1, 2, 4] rfl rfl (by decide) (by decide) hk1 hFc hP1 (d1 (Or.inl (by simp)))
      have hP : va_P D vwCl [(mo, .inr (6, [.ref ms, .ref mp, .int (nI np), .ref me, .ref mn, .long iv, .long lg, .long fg, .long hv])), (ms, .inl (g 0, 71, .inl f)), (mp, .inl (g 0, 284, .inl pa)), (mn, .inl (g 1, 5, .inr (.inl nw2))), (me, .inl (g 0, 3, .inl (upd ef 2 (ef 2 + 1))))] H := hP
      have hD : va_D (Aw [mo, ms, mp, me, mn] s.heap.size) [(mo, .inr (6, [.ref ms, .ref mp, .int (nI np), .ref me, .ref mn, .long iv, .long lg, .long fg, .long hv])), (ms, .inl (g 0, 71, .inl f)), (mp, .inl (g 0, 284, .inl pa)), (mn, .inl (g 1, 5, .inr (.inl nw2))), (me, .inl (g 0, 3, .inl (upd ef 2 (ef 2 + 1))))] := hD
      have hq9 : (fun r H1 => (inR 0 100 tx ∧ pItOK (f 5) (f 6) tx.toNatClampNeg (eR f) ∧ r = pIt (f 5) (f 6) tx.toNatClampNeg (eR f) 0 ∧ MDI D g H1 mo ms mp me mn np ef f pa) ∨ (inR 0 100 tx ∧ ¬ pItOK (f 5) (f 6) tx.toNatClampNeg (eR f) ∧ r = -2000000004 ∧ MDI D g H1 mo ms mp me mn np (upd ef 2 (ef 2 + 1)) f pa) ∨ (¬ (inR 0 100 tx) ∧ r = -2000000002 ∧ MDI D g H1 mo ms mp me mn np (upd ef 0 (ef 0 + 1)) f pa) : Int32 → Heap → Prop) r6 H := Or.inr (Or.inl ⟨hck7, by rw [hcl9]; exact hnok, hrc, ⟨_, _, _, _, _, hP.sub [0, 1, 2, 4, 3] rfl⟩⟩)
      exact W.iret (v := r6) hx hb hr (fun t ht hW => ⟨⟨_, rfl, by rw [ht]; exact hq9⟩, hS.F ht⟩) hS.2.2 dX6_forecast_41
  · have hnk : ¬ (inR 0 100 tx) := fun h => (bI_eq (hr1.symm.trans cd2)) h
    refine lv_aload_n (pc := 10) hx hb dX6_forecast_10 rfl (lv_at hl 0 rfl) ?_
    refine lv_ldc (pc := 11) (v := (-2000000002)) hx hb hown (hts _ q614) dX6_forecast_11 ?_
    have hFc := awF (Lc := [me]) hD hS hA [3] rfl
    refine kI (pc := 13) (va_runV (As := [.int (-2000000002)]) (rest := []) ⟨hx, hb, hml, hown, hts⟩ (m6_fail l mo ms mp me mn np iv lg fg hv 0 ef (-2000000002) s.heap (hP.sub (ws' := [(me, .inl (g 0, 3, .inl ef))]) [3] rfl) (hP.sub (ws' := [(mo, .inr (6, [.ref ms, .ref mp, .int (nI np), .ref me, .ref mn, .long iv, .long lg, .long fg, .long hv]))]) [0] rfl) (ninW hD 0 [3] rfl rfl (by decide)) (by decide) (by decide)) (cwV 1 hts (lw_V q615 q617 qs8 q28 q618) rfl rfl rfl (by decide +kernel) ⟨Nat.le_of_ble_eq_true rfl, Nat.le_of_ble_eq_true rfl⟩) (preV hK (rcv hK hP 0 rfl rfl)) rfl rfl hl.1 rfl (lv_room (Nat.le_of_ble_eq_true rfl)) dX6_forecast_13 ⟨Nat.le_of_ble_eq_true rfl, Nat.le_of_ble_eq_true rfl⟩) hS hFc (fun r7 H locs hp9 hz1 hk1 hS => ?_)
    obtain ⟨hrc, hP1⟩ := hp9
    obtain ⟨hP, hD⟩ := jn (wr := [(mo, .inr (6, [.ref ms, .ref mp, .int (nI np), .ref me, .ref mn, .long iv, .long lg, .long fg, .long hv])), (ms, .inl (g 0, 71, .inl f)), (mp, .inl (g 0, 284, .inl pa)), (mn, .inl (g 1, 5, .inr (.inl nw)))]) (w1 := [(me, .inl (g 0, 3, .inl (upd ef 0 (ef 0 + 1))))]) hP hD [3] [0, 1, 2, 4] rfl rfl (by decide) (by decide) hk1 hFc hP1 (d1 (Or.inl (by simp)))
    have hP : va_P D vwCl [(mo, .inr (6, [.ref ms, .ref mp, .int (nI np), .ref me, .ref mn, .long iv, .long lg, .long fg, .long hv])), (ms, .inl (g 0, 71, .inl f)), (mp, .inl (g 0, 284, .inl pa)), (mn, .inl (g 1, 5, .inr (.inl nw))), (me, .inl (g 0, 3, .inl (upd ef 0 (ef 0 + 1))))] H := hP
    have hD : va_D (Aw [mo, ms, mp, me, mn] s.heap.size) [(mo, .inr (6, [.ref ms, .ref mp, .int (nI np), .ref me, .ref mn, .long iv, .long lg, .long fg, .long hv])), (ms, .inl (g 0, 71, .inl f)), (mp, .inl (g 0, 284, .inl pa)), (mn, .inl (g 1, 5, .inr (.inl nw))), (me, .inl (g 0, 3, .inl (upd ef 0 (ef 0 + 1))))] := hD
    have hq9 : (fun r H1 => (inR 0 100 tx ∧ pItOK (f 5) (f 6) tx.toNatClampNeg (eR f) ∧ r = pIt (f 5) (f 6) tx.toNatClampNeg (eR f) 0 ∧ MDI D g H1 mo ms mp me mn np ef f pa) ∨ (inR 0 100 tx ∧ ¬ pItOK (f 5) (f 6) tx.toNatClampNeg (eR f) ∧ r = -2000000004 ∧ MDI D g H1 mo ms mp me mn np (upd ef 2 (ef 2 + 1)) f pa) ∨ (¬ (inR 0 100 tx) ∧ r = -2000000002 ∧ MDI D g H1 mo ms mp me mn np (upd ef 0 (ef 0 + 1)) f pa) : Int32 → Heap → Prop) r7 H := Or.inr (Or.inr ⟨hnk, hrc, ⟨_, _, _, _, _, hP.sub [0, 1, 2, 4, 3] rfl⟩⟩)
    exact W.iret (v := r7) hx hb hr (fun t ht hW => ⟨⟨_, rfl, by rw [ht]; exact hq9⟩, hS.F ht⟩) hS.2.2 dX6_forecast_16

abbrev rm_m6_forecastVar : Room := ({ frames := 3, cells := 0, slots := 0, locals := 74 })
set_option maxHeartbeats 4000000 in
set_option maxRecDepth 100000 in
theorem m6_forecastVar (l : Launch) {D : va_G} {g : Nat → ClassId} (mo ms mp me mn np : Nat) (iv lg fg hv : Int64) (ef f pa : Nat → Int32) (nw : Nat → Int64) (tx : Int32) (H : Heap) (hP : va_P D vwCl [(mo, .inr (6, [.ref ms, .ref mp, .int (nI np), .ref me, .ref mn, .long iv, .long lg, .long fg, .long hv])), (ms, .inl (g 0, 71, .inl f)), (mp, .inl (g 0, 284, .inl pa)), (me, .inl (g 0, 3, .inl ef)), (mn, .inl (g 1, 5, .inr (.inl nw)))] H) (hN : [mo, ms, mp, me, mn].Nodup) (hnp : np ≤ 4) (hro : RowOK f) : Met l yX6_forecastVariance (ws_ yX6_forecastVariance cX6_forecastVariance 2 (some .int)) rm_m6_forecastVar (va_Pc [.ref mo, .int tx] (PH D g H)) (QI (fun r H1 => (inR 0 100 tx ∧ pItOK (f 5) (f 6) tx.toNatClampNeg (eR f) ∧ r = pIt (f 5) (f 6) tx.toNatClampNeg (eR f) 2 ∧ MDI D g H1 mo ms mp me mn np ef f pa) ∨ (inR 0 100 tx ∧ ¬ pItOK (f 5) (f 6) tx.toNatClampNeg (eR f) ∧ r = -2000000004 ∧ MDI D g H1 mo ms mp me mn np (upd ef 2 (ef 2 + 1)) f pa) ∨ (¬ (inR 0 100 tx) ∧ r = -2000000002 ∧ MDI D g H1 mo ms mp me mn np (upd ef 0 (ef 0 + 1)) f pa)) (Aw [mo, ms, mp, me, mn] H.size)) 0 0 (Aw [mo, ms, mp, me, mn] H.size) := by
  refine Met.ofW (cc := cX6_forecastVariance) (maxL := 2) (ret := (some .int)) (by decide) rfl ?_
  intro p e s m args below meth c s₁ B hml hv
  obtain ⟨rfl, hH, hK⟩ := hv
  subst hH
  have hx := B.exec
  have hb := B.bytes
  have hr := B.returns
  have hts := atoms_spec (ws := ws_ yX6_forecastVariance cX6_forecastVariance 2 (some .int)) B.pre
  have hts : ∀ w ∈ lw_all, w.before _ s = true := fun w h => hts w (List.mem_cons_of_mem _ h)
  have hown : s.vm.findClass RX6 = some m.cls := findClass_of_methodNamed B.named
  have hlocks := B.notSynchronized
  have hA : ∀ q, s.heap.size ≤ q → (Aw [mo, ms, mp, me, mn] s.heap.size) q := fun q h => Or.inr h
  have hS : va_S (Aw [mo, ms, mp, me, mn] s.heap.size) s.heap s.heap [] := va_S.rf
  have hD : va_D (Aw [mo, ms, mp, me, mn] s.heap.size) [(mo, .inr (6, [.ref ms, .ref mp, .int (nI np), .ref me, .ref mn, .long iv, .long lg, .long fg, .long hv])), (ms, .inl (g 0, 71, .inl f)), (mp, .inl (g 0, 284, .inl pa)), (me, .inl (g 0, 3, .inl ef)), (mn, .inl (g 1, 5, .inr (.inl nw)))] := dOf hN (fun q h => Or.inl h)
  have hl := lv_entry ([.ref mo, .int tx]) (n := 2) (Nat.le_of_ble_eq_true rfl)
  rw [lg_entry_eq]
  generalize (lg_sl ([.ref mo, .int tx]) ++ List.replicate (2 - (lg_sl ([.ref mo, .int tx])).length) Slot.unset).toArray = ls at hl ⊢
  have hl : lv_has ls 2 [(0, .ref mo), (1, .int tx)] := hl
  refine lv_iload_n (pc := 0) hx hb dX6_forecastVariance_0 rfl (lv_at hl 1 rfl) ?_
  refine lv_iconst (pc := 1) (v := 0) hx hb dX6_forecastVariance_1 (by decide) ?_
  refine lv_bipush (pc := 2) (v := 100) hx hb dX6_forecastVariance_2 (by decide) ?_
  refine kIp (pc := 4) (va_runS (As := [.int tx, .int 0, .int 100]) (rest := []) ⟨hx, hb, hml, hown, hts⟩ (m6_in l tx 0 100 s.heap) (va_cwS 3 hts (lw_S q609 q610 q28 q611) rfl rfl rfl (by decide +kernel) ⟨Nat.le_of_ble_eq_true rfl, Nat.le_of_ble_eq_true rfl⟩) (preS hK) rfl rfl hl.1 rfl (lv_room (Nat.le_of_ble_eq_true rfl)) dX6_forecastVariance_4 ⟨Nat.le_of_ble_eq_true rfl, Nat.le_of_ble_eq_true rfl⟩) (fun r1 hr1 => ?_)
  refine lv_if_ne (pc := 7) (tgt := 17) hx hb dX6_forecastVariance_7 (by decide) (fun cd2 => ?_) (fun cd2 => ?_)
  · have hck7 : inR (0) (100) tx := bI_ne (fun e => cd2 (hr1.trans e))
    obtain ⟨se, hse3, hsx⟩ := inR_nat (n := 100) (by decide) hck7
    have hse : se < 101 := by omega
    have hcl9 : tx.toNatClampNeg = se := by rw [hsx]; exact nI_clamp (by omega)
    refine lv_aload_n (pc := 17) hx hb dX6_forecastVariance_17 rfl (lv_at hl 0 rfl) ?_
    refine lv_iload_n (pc := 18) hx hb dX6_forecastVariance_18 rfl (lv_at hl 1 rfl) ?_
    have hFc := awF (Lc := [mn]) hD hS hA [4] rfl
    refine kI (pc := 19) (va_runV (As := [.int tx]) (rest := []) ⟨hx, hb, hml, hown, hts⟩ (m6_goesOn l mo ms mp me mn np iv lg fg hv f nw se tx s.heap (hP.sub (ws' := [(mn, .inl (g 1, 5, .inr (.inl nw)))]) [4] rfl) (hP.sub (ws' := [(mo, .inr (6, [.ref ms, .ref mp, .int (nI np), .ref me, .ref mn, .long iv, .long lg, .long fg, .long hv]))]) [0] rfl) (ninW hD 0 [4] rfl rfl (by decide)) (hP.sub (ws' := [(ms, .inl (g 0, 71, .inl f))]) [1] rfl) (ninW hD 1 [4] rfl rfl (by decide)) hsx hse3) (cwV 1 hts (lw_V q740 q742 qs15 q28 q743) rfl rfl rfl (by decide +kernel) ⟨Nat.le_of_ble_eq_true rfl, Nat.le_of_ble_eq_true rfl⟩) (preV hK (rcv hK hP 0 rfl rfl)) rfl rfl hl.1 rfl (lv_room (Nat.le_of_ble_eq_true rfl)) dX6_forecastVariance_19 ⟨Nat.le_of_ble_eq_true rfl, Nat.le_of_ble_eq_true rfl⟩) hS hFc (fun r3 H locs hp9 hz1 hk1 hS => ?_)
    rcases hp9 with ⟨hok, hr9, hP1⟩ | ⟨hnok, hr9, nw2, hP1⟩
    · subst hr9
      obtain ⟨hP, hD⟩ := jn (wr := [(mo, .inr (6, [.ref ms, .ref mp, .int (nI np), .ref me, .ref mn, .long iv, .long lg, .long fg, .long hv])), (ms, .inl (g 0, 71, .inl f)), (mp, .inl (g 0, 284, .inl pa)), (me, .inl (g 0, 3, .inl ef))]) (w1 := [(mn, .inl (g 1, 5, .inr (.inl (e64 (pIt (f 5) (f 6) se (eR f))))))]) hP hD [4] [0, 1, 2, 3] rfl rfl (by decide) (by decide) hk1 hFc hP1 (d1 (Or.inl (by simp)))
      have hP : va_P D vwCl [(mo, .inr (6, [.ref ms, .ref mp, .int (nI np), .ref me, .ref mn, .long iv, .long lg, .long fg, .long hv])), (ms, .inl (g 0, 71, .inl f)), (mp, .inl (g 0, 284, .inl pa)), (me, .inl (g 0, 3, .inl ef)), (mn, .inl (g 1, 5, .inr (.inl (e64 (pIt (f 5) (f 6) se (eR f))))))] H := hP
      have hD : va_D (Aw [mo, ms, mp, me, mn] s.heap.size) [(mo, .inr (6, [.ref ms, .ref mp, .int (nI np), .ref me, .ref mn, .long iv, .long lg, .long fg, .long hv])), (ms, .inl (g 0, 71, .inl f)), (mp, .inl (g 0, 284, .inl pa)), (me, .inl (g 0, 3, .inl ef)), (mn, .inl (g 1, 5, .inr (.inl (e64 (pIt (f 5) (f 6) se (eR f))))))] := hD
      refine lv_if_eq (pc := 22) (tgt := 35) hx hb dX6_forecastVariance_22 (by decide) (fun cd4 => absurd cd4 (by decide)) (fun cd4 => ?_)
      refine lv_aload_n (pc := 25) hx hb dX6_forecastVariance_25 rfl (lv_at hl 0 rfl) ?_
      refine va_get (pc := 26) (D := D) (ci := 6) (v := .ref mn) (C := RX6) (T := TX6) (N := 9) hx hb hts in_X6 hown hK.1 hP 0 rfl rfl 4 (by decide) (hts _ q578) (fun _ h9 => h9) rfl dX6_forecastVariance_26 ?_
      refine lv_iconst (pc := 29) (v := 2) hx hb dX6_forecastVariance_29 (by decide) ?_
      refine la_ld (pc := 30) hx hb hK.1 hP 4 1 2 rfl rfl (nl 2) (Nat.le_of_ble_eq_true rfl) (Nat.le_of_ble_eq_true rfl) dX6_forecastVariance_30 ?_
      refine lv_l2i (pc := 31) hx hb dX6_forecastVariance_31 rfl ?_
      refine lv_goto (pc := 32) (tgt := 41) hx hb dX6_forecastVariance_32 (by decide) ?_
      have hq9 : (fun r H1 => (inR 0 100 tx ∧ pItOK (f 5) (f 6) tx.toNatClampNeg (eR f) ∧ r = pIt (f 5) (f 6) tx.toNatClampNeg (eR f) 2 ∧ MDI D g H1 mo ms mp me mn np ef f pa) ∨ (inR 0 100 tx ∧ ¬ pItOK (f 5) (f 6) tx.toNatClampNeg (eR f) ∧ r = -2000000004 ∧ MDI D g H1 mo ms mp me mn np (upd ef 2 (ef 2 + 1)) f pa) ∨ (¬ (inR 0 100 tx) ∧ r = -2000000002 ∧ MDI D g H1 mo ms mp me mn np (upd ef 0 (ef 0 + 1)) f pa) : Int32 → Heap → Prop) (Int64.toInt32 ((e64 (pIt (f 5) (f 6) se (eR f))) 2)) H := Or.inl ⟨hck7, by rw [hcl9]; exact hok, by rw [hcl9]; exact i32_back _, ⟨_, _, _, _, _, hP.sub [0, 1, 2, 3, 4] rfl⟩⟩
      exact W.iret (v := Int64.toInt32 ((e64 (pIt (f 5) (f 6) se (eR f))) 2)) hx hb hr (fun t ht hW => ⟨⟨_, rfl, by rw [ht]; exact hq9⟩, hS.F ht⟩) hS.2.2 dX6_forecastVariance_41
    · subst hr9
      obtain ⟨hP, hD⟩ := jn (wr := [(mo, .inr (6, [.ref ms, .ref mp, .int (nI np), .ref me, .ref mn, .long iv, .long lg, .long fg, .long hv])), (ms, .inl (g 0, 71, .inl f)), (mp, .inl (g 0, 284, .inl pa)), (me, .inl (g 0, 3, .inl ef))]) (w1 := [(mn, .inl (g 1, 5, .inr (.inl nw2)))]) hP hD [4] [0, 1, 2, 3] rfl rfl (by decide) (by decide) hk1 hFc hP1 (d1 (Or.inl (by simp)))
      have hP : va_P D vwCl [(mo, .inr (6, [.ref ms, .ref mp, .int (nI np), .ref me, .ref mn, .long iv, .long lg, .long fg, .long hv])), (ms, .inl (g 0, 71, .inl f)), (mp, .inl (g 0, 284, .inl pa)), (me, .inl (g 0, 3, .inl ef)), (mn, .inl (g 1, 5, .inr (.inl nw2)))] H := hP
      have hD : va_D (Aw [mo, ms, mp, me, mn] s.heap.size) [(mo, .inr (6, [.ref ms, .ref mp, .int (nI np), .ref me, .ref mn, .long iv, .long lg, .long fg, .long hv])), (ms, .inl (g 0, 71, .inl f)), (mp, .inl (g 0, 284, .inl pa)), (me, .inl (g 0, 3, .inl ef)), (mn, .inl (g 1, 5, .inr (.inl nw2)))] := hD
      refine lv_if_eq (pc := 22) (tgt := 35) hx hb dX6_forecastVariance_22 (by decide) (fun cd5 => ?_) (fun cd5 => absurd cd5 (by decide))
      refine lv_aload_n (pc := 35) hx hb dX6_forecastVariance_35 rfl (lv_at hl 0 rfl) ?_
      refine lv_ldc (pc := 36) (v := (-2000000004)) hx hb hown (hts _ q656) dX6_forecastVariance_36 ?_
      have hFc := awF (Lc := [me]) hD hS hA [3] rfl
      refine kI (pc := 38) (va_runV (As := [.int (-2000000004)]) (rest := []) ⟨hx, hb, hml, hown, hts⟩ (m6_fail l mo ms mp me mn np iv lg fg hv 2 ef (-2000000004) H (hP.sub (ws' := [(me, .inl (g 0, 3, .inl ef))]) [3] rfl) (hP.sub (ws' := [(mo, .inr (6, [.ref ms, .ref mp, .int (nI np), .ref me, .ref mn, .long iv, .long lg, .long fg, .long hv]))]) [0] rfl) (ninW hD 0 [3] rfl rfl (by decide)) (by decide) (by decide)) (cwV 1 hts (lw_V q615 q617 qs8 q28 q618) rfl rfl rfl (by decide +kernel) ⟨Nat.le_of_ble_eq_true rfl, Nat.le_of_ble_eq_true rfl⟩) (preV hK (rcv hK hP 0 rfl rfl)) rfl rfl hl.1 rfl (lv_room (Nat.le_of_ble_eq_true rfl)) dX6_forecastVariance_38 ⟨Nat.le_of_ble_eq_true rfl, Nat.le_of_ble_eq_true rfl⟩) hS hFc (fun r6 H locs hp9 hz1 hk1 hS => ?_)
      obtain ⟨hrc, hP1⟩ := hp9
      obtain ⟨hP, hD⟩ := jn (wr := [(mo, .inr (6, [.ref ms, .ref mp, .int (nI np), .ref me, .ref mn, .long iv, .long lg, .long fg, .long hv])), (ms, .inl (g 0, 71, .inl f)), (mp, .inl (g 0, 284, .inl pa)), (mn, .inl (g 1, 5, .inr (.inl nw2)))]) (w1 := [(me, .inl (g 0, 3, .inl (upd ef 2 (ef 2 + 1))))]) hP hD [3] [0, 1, 2, 4] rfl rfl (by decide) (by decide) hk1 hFc hP1 (d1 (Or.inl (by simp)))
      have hP : va_P D vwCl [(mo, .inr (6, [.ref ms, .ref mp, .int (nI np), .ref me, .ref mn, .long iv, .long lg, .long fg, .long hv])), (ms, .inl (g 0, 71, .inl f)), (mp, .inl (g 0, 284, .inl pa)), (mn, .inl (g 1, 5, .inr (.inl nw2))), (me, .inl (g 0, 3, .inl (upd ef 2 (ef 2 + 1))))] H := hP
      have hD : va_D (Aw [mo, ms, mp, me, mn] s.heap.size) [(mo, .inr (6, [.ref ms, .ref mp, .int (nI np), .ref me, .ref mn, .long iv, .long lg, .long fg, .long hv])), (ms, .inl (g 0, 71, .inl f)), (mp, .inl (g 0, 284, .inl pa)), (mn, .inl (g 1, 5, .inr (.inl nw2))), (me, .inl (g 0, 3, .inl (upd ef 2 (ef 2 + 1))))] := hD
      have hq9 : (fun r H1 => (inR 0 100 tx ∧ pItOK (f 5) (f 6) tx.toNatClampNeg (eR f) ∧ r = pIt (f 5) (f 6) tx.toNatClampNeg (eR f) 2 ∧ MDI D g H1 mo ms mp me mn np ef f pa) ∨ (inR 0 100 tx ∧ ¬ pItOK (f 5) (f 6) tx.toNatClampNeg (eR f) ∧ r = -2000000004 ∧ MDI D g H1 mo ms mp me mn np (upd ef 2 (ef 2 + 1)) f pa) ∨ (¬ (inR 0 100 tx) ∧ r = -2000000002 ∧ MDI D g H1 mo ms mp me mn np (upd ef 0 (ef 0 + 1)) f pa) : Int32 → Heap → Prop) r6 H := Or.inr (Or.inl ⟨hck7, by rw [hcl9]; exact hnok, hrc, ⟨_, _, _, _, _, hP.sub [0, 1, 2, 4, 3] rfl⟩⟩)
      exact W.iret (v := r6) hx hb hr (fun t ht hW => ⟨⟨_, rfl, by rw [ht]; exact hq9⟩, hS.F ht⟩) hS.2.2 dX6_forecastVariance_41
  · have hnk : ¬ (inR 0 100 tx) := fun h => (bI_eq (hr1.symm.trans cd2)) h
    refine lv_aload_n (pc := 10) hx hb dX6_forecastVariance_10 rfl (lv_at hl 0 rfl) ?_
    refine lv_ldc (pc := 11) (v := (-2000000002)) hx hb hown (hts _ q614) dX6_forecastVariance_11 ?_
    have hFc := awF (Lc := [me]) hD hS hA [3] rfl
    refine kI (pc := 13) (va_runV (As := [.int (-2000000002)]) (rest := []) ⟨hx, hb, hml, hown, hts⟩ (m6_fail l mo ms mp me mn np iv lg fg hv 0 ef (-2000000002) s.heap (hP.sub (ws' := [(me, .inl (g 0, 3, .inl ef))]) [3] rfl) (hP.sub (ws' := [(mo, .inr (6, [.ref ms, .ref mp, .int (nI np), .ref me, .ref mn, .long iv, .long lg, .long fg, .long hv]))]) [0] rfl) (ninW hD 0 [3] rfl rfl (by decide)) (by decide) (by decide)) (cwV 1 hts (lw_V q615 q617 qs8 q28 q618) rfl rfl rfl (by decide +kernel) ⟨Nat.le_of_ble_eq_true rfl, Nat.le_of_ble_eq_true rfl⟩) (preV hK (rcv hK hP 0 rfl rfl)) rfl rfl hl.1 rfl (lv_room (Nat.le_of_ble_eq_true rfl)) dX6_forecastVariance_13 ⟨Nat.le_of_ble_eq_true rfl, Nat.le_of_ble_eq_true rfl⟩) hS hFc (fun r7 H locs hp9 hz1 hk1 hS => ?_)
    obtain ⟨hrc, hP1⟩ := hp9
    obtain ⟨hP, hD⟩ := jn (wr := [(mo, .inr (6, [.ref ms, .ref mp, .int (nI np), .ref me, .ref mn, .long iv, .long lg, .long fg, .long hv])), (ms, .inl (g 0, 71, .inl f)), (mp, .inl (g 0, 284, .inl pa)), (mn, .inl (g 1, 5, .inr (.inl nw)))]) (w1 := [(me, .inl (g 0, 3, .inl (upd ef 0 (ef 0 + 1))))]) hP hD [3] [0, 1, 2, 4] rfl rfl (by decide) (by decide) hk1 hFc hP1 (d1 (Or.inl (by simp)))
    have hP : va_P D vwCl [(mo, .inr (6, [.ref ms, .ref mp, .int (nI np), .ref me, .ref mn, .long iv, .long lg, .long fg, .long hv])), (ms, .inl (g 0, 71, .inl f)), (mp, .inl (g 0, 284, .inl pa)), (mn, .inl (g 1, 5, .inr (.inl nw))), (me, .inl (g 0, 3, .inl (upd ef 0 (ef 0 + 1))))] H := hP
    have hD : va_D (Aw [mo, ms, mp, me, mn] s.heap.size) [(mo, .inr (6, [.ref ms, .ref mp, .int (nI np), .ref me, .ref mn, .long iv, .long lg, .long fg, .long hv])), (ms, .inl (g 0, 71, .inl f)), (mp, .inl (g 0, 284, .inl pa)), (mn, .inl (g 1, 5, .inr (.inl nw))), (me, .inl (g 0, 3, .inl (upd ef 0 (ef 0 + 1))))] := hD
    have hq9 : (fun r H1 => (inR 0 100 tx ∧ pItOK (f 5) (f 6) tx.toNatClampNeg (eR f) ∧ r = pIt (f 5) (f 6) tx.toNatClampNeg (eR f) 2 ∧ MDI D g H1 mo ms mp me mn np ef f pa) ∨ (inR 0 100 tx ∧ ¬ pItOK (f 5) (f 6) tx.toNatClampNeg (eR f) ∧ r = -2000000004 ∧ MDI D g H1 mo ms mp me mn np (upd ef 2 (ef 2 + 1)) f pa) ∨ (¬ (inR 0 100 tx) ∧ r = -2000000002 ∧ MDI D g H1 mo ms mp me mn np (upd ef 0 (ef 0 + 1)) f pa) : Int32 → Heap → Prop) r7 H := Or.inr (Or.inr ⟨hnk, hrc, ⟨_, _, _, _, _, hP.sub [0, 1, 2, 4, 3] rfl⟩⟩)
    exact W.iret (v := r7) hx hb hr (fun t ht hW => ⟨⟨_, rfl, by rw [ht]; exact hq9⟩, hS.F ht⟩) hS.2.2 dX6_forecastVariance_16

abbrev rm_m6_stepsTo : Room := ({ frames := 2, cells := 0, slots := 0, locals := 51 })
set_option maxHeartbeats 4000000 in
set_option maxRecDepth 100000 in
theorem m6_stepsTo (l : Launch) {D : va_G} {g : Nat → ClassId} (mo ms mp me mn np : Nat) (iv lg fg hv : Int64) (ef f pa : Nat → Int32) (nw : Nat → Int64) (tg : Int32) (H : Heap) (hP : va_P D vwCl [(mo, .inr (6, [.ref ms, .ref mp, .int (nI np), .ref me, .ref mn, .long iv, .long lg, .long fg, .long hv])), (ms, .inl (g 0, 71, .inl f)), (mp, .inl (g 0, 284, .inl pa)), (me, .inl (g 0, 3, .inl ef)), (mn, .inl (g 1, 5, .inr (.inl nw)))] H) (hN : [mo, ms, mp, me, mn].Nodup) (hnp : np ≤ 4) (hro : RowOK f) : Met l yX6_stepsTo (ws_ yX6_stepsTo cX6_stepsTo 5 (some .int)) rm_m6_stepsTo (va_Pc [.ref mo, .int tg] (PH D g H)) (QI (fun r H1 => ((inR (-40960000) 40960000 tg) ∧ r = stF (f 5) (f 6) (f 0) tg 101 0 (eR f) ∧ MDI D g H1 mo ms mp me mn np ef f pa) ∨ (¬ (inR (-40960000) 40960000 tg) ∧ r = -2000000002 ∧ MDI D g H1 mo ms mp me mn np (upd ef 0 (ef 0 + 1)) f pa)) (Aw [mo, ms, mp, me, mn] H.size)) 0 0 (Aw [mo, ms, mp, me, mn] H.size) := by
  refine Met.ofW (cc := cX6_stepsTo) (maxL := 5) (ret := (some .int)) (by decide) rfl ?_
  intro p e s m args below meth c s₁ B hml hv
  obtain ⟨rfl, hH, hK⟩ := hv
  subst hH
  have hx := B.exec
  have hb := B.bytes
  have hr := B.returns
  have hts := atoms_spec (ws := ws_ yX6_stepsTo cX6_stepsTo 5 (some .int)) B.pre
  have hts : ∀ w ∈ lw_all, w.before _ s = true := fun w h => hts w (List.mem_cons_of_mem _ h)
  have hown : s.vm.findClass RX6 = some m.cls := findClass_of_methodNamed B.named
  have hlocks := B.notSynchronized
  have hA : ∀ q, s.heap.size ≤ q → (Aw [mo, ms, mp, me, mn] s.heap.size) q := fun q h => Or.inr h
  have hS : va_S (Aw [mo, ms, mp, me, mn] s.heap.size) s.heap s.heap [] := va_S.rf
  have hD : va_D (Aw [mo, ms, mp, me, mn] s.heap.size) [(mo, .inr (6, [.ref ms, .ref mp, .int (nI np), .ref me, .ref mn, .long iv, .long lg, .long fg, .long hv])), (ms, .inl (g 0, 71, .inl f)), (mp, .inl (g 0, 284, .inl pa)), (me, .inl (g 0, 3, .inl ef)), (mn, .inl (g 1, 5, .inr (.inl nw)))] := dOf hN (fun q h => Or.inl h)
  have hl := lv_entry ([.ref mo, .int tg]) (n := 5) (Nat.le_of_ble_eq_true rfl)
  rw [lg_entry_eq]
  generalize (lg_sl ([.ref mo, .int tg]) ++ List.replicate (5 - (lg_sl ([.ref mo, .int tg])).length) Slot.unset).toArray = ls at hl ⊢
  have hl : lv_has ls 5 [(0, .ref mo), (1, .int tg)] := hl
  refine lv_iload_n (pc := 0) hx hb dX6_stepsTo_0 rfl (lv_at hl 1 rfl) ?_
  refine lv_ldc (pc := 1) (v := (-40960000)) hx hb hown (hts _ q607) dX6_stepsTo_1 ?_
  refine lv_ldc (pc := 3) (v := 40960000) hx hb hown (hts _ q608) dX6_stepsTo_3 ?_
  refine kIp (pc := 5) (va_runS (As := [.int tg, .int (-40960000), .int 40960000]) (rest := []) ⟨hx, hb, hml, hown, hts⟩ (m6_in l tg (-40960000) 40960000 s.heap) (va_cwS 3 hts (lw_S q609 q610 q28 q611) rfl rfl rfl (by decide +kernel) ⟨Nat.le_of_ble_eq_true rfl, Nat.le_of_ble_eq_true rfl⟩) (preS hK) rfl rfl hl.1 rfl (lv_room (Nat.le_of_ble_eq_true rfl)) dX6_stepsTo_5 ⟨Nat.le_of_ble_eq_true rfl, Nat.le_of_ble_eq_true rfl⟩) (fun r1 hr1 => ?_)
  refine lv_if_ne (pc := 8) (tgt := 18) hx hb dX6_stepsTo_8 (by decide) (fun cd2 => ?_) (fun cd2 => ?_)
  · have hck8 : inR (-40960000) (40960000) tg := bI_ne (fun e => cd2 (hr1.trans e))
    refine lv_aload_n (pc := 18) hx hb dX6_stepsTo_18 rfl (lv_at hl 0 rfl) ?_
    refine va_get (pc := 19) (D := D) (ci := 6) (v := .ref ms) (C := RX6) (T := TX6) (N := 9) hx hb hts in_X6 hown hK.1 hP 0 rfl rfl 0 (by decide) (hts _ q574) (fun _ h9 => h9) rfl dX6_stepsTo_19 ?_
    refine lv_iconst (pc := 22) (v := 0) hx hb dX6_stepsTo_22 (by decide) ?_
    refine ia_ld (pc := 23) hx hb hK.1 hP 1 0 0 rfl rfl (nl 0) (Nat.le_of_ble_eq_true rfl) (Nat.le_of_ble_eq_true rfl) dX6_stepsTo_23 ?_
    refine lv_iload_n (pc := 24) hx hb dX6_stepsTo_24 rfl (lv_at hl 1 rfl) ?_
    refine lv_icmp_ge (pc := 25) (tgt := 32) hx hb dX6_stepsTo_25 (by decide) (fun cd3 => ?_) (fun cd3 => ?_)
    · have hup : ¬ f 0 < tg := Int32.not_lt.mpr cd3
      refine lv_iconst (pc := 32) (v := 0) hx hb dX6_stepsTo_32 (by decide) ?_
      refine lv_istore_n (pc := 33) (lv' := [(2, .int 0), (0, .ref mo), (1, .int tg)]) hx hb dX6_stepsTo_33 rfl hl (by decide) rfl (fun ls hl => ?_)
      refine lv_aload_n (pc := 34) hx hb dX6_stepsTo_34 rfl (lv_at hl 1 rfl) ?_
      refine va_get (pc := 35) (D := D) (ci := 6) (v := .ref ms) (C := RX6) (T := TX6) (N := 9) hx hb hts in_X6 hown hK.1 hP 0 rfl rfl 0 (by decide) (hts _ q574) (fun _ h9 => h9) rfl dX6_stepsTo_35 ?_
      refine lv_iconst (pc := 38) (v := 0) hx hb dX6_stepsTo_38 (by decide) ?_
      refine ia_ld (pc := 39) hx hb hK.1 hP 1 0 0 rfl rfl (nl 0) (Nat.le_of_ble_eq_true rfl) (Nat.le_of_ble_eq_true rfl) dX6_stepsTo_39 ?_
      refine lv_iload_n (pc := 40) hx hb dX6_stepsTo_40 rfl (lv_at hl 2 rfl) ?_
      refine lv_icmp_le (pc := 41) (tgt := 48) hx hb dX6_stepsTo_41 (by decide) (fun cd4 => ?_) (fun cd4 => ?_)
      · have hdn : f 0 ≤ tg := cd4
        refine lv_iconst (pc := 48) (v := 0) hx hb dX6_stepsTo_48 (by decide) ?_
        refine lv_istore_n (pc := 49) (lv' := [(3, .int 0), (2, .int 0), (0, .ref mo), (1, .int tg)]) hx hb dX6_stepsTo_49 rfl hl (by decide) rfl (fun ls hl => ?_)
        refine lv_aload_n (pc := 50) hx hb dX6_stepsTo_50 rfl (lv_at hl 2 rfl) ?_
        have hFc := awF (Lc := [mn]) hD hS hA [4] rfl
        refine kV (pc := 51) (va_runV (As := []) (rest := []) ⟨hx, hb, hml, hown, hts⟩ (m6_take l mo ms mp me mn np iv lg fg hv f nw s.heap (hP.sub (ws' := [(mn, .inl (g 1, 5, .inr (.inl nw)))]) [4] rfl) (hP.sub (ws' := [(mo, .inr (6, [.ref ms, .ref mp, .int (nI np), .ref me, .ref mn, .long iv, .long lg, .long fg, .long hv]))]) [0] rfl) (ninW hD 0 [4] rfl rfl (by decide)) (hP.sub (ws' := [(ms, .inl (g 0, 71, .inl f))]) [1] rfl) (ninW hD 1 [4] rfl rfl (by decide))) (cwV 0 hts (lw_V q642 q644 qs10 q28 q645) rfl rfl rfl (by decide +kernel) ⟨Nat.le_of_ble_eq_true rfl, Nat.le_of_ble_eq_true rfl⟩) (preV hK (rcv hK hP 0 rfl rfl)) rfl rfl hl.1 rfl (lv_room (Nat.le_of_ble_eq_true rfl)) dX6_stepsTo_51 ⟨Nat.le_of_ble_eq_true rfl, Nat.le_of_ble_eq_true rfl⟩) hS hFc (fun H locs hp9 hz1 hk1 hS => ?_)
        have hP1 := hp9
        obtain ⟨hP, hD⟩ := jn (wr := [(mo, .inr (6, [.ref ms, .ref mp, .int (nI np), .ref me, .ref mn, .long iv, .long lg, .long fg, .long hv])), (ms, .inl (g 0, 71, .inl f)), (mp, .inl (g 0, 284, .inl pa)), (me, .inl (g 0, 3, .inl ef))]) (w1 := [(mn, .inl (g 1, 5, .inr (.inl (e64 (eR f)))))]) hP hD [4] [0, 1, 2, 3] rfl rfl (by decide) (by decide) hk1 hFc hP1 (d1 (Or.inl (by simp)))
        have hP : va_P D vwCl [(mo, .inr (6, [.ref ms, .ref mp, .int (nI np), .ref me, .ref mn, .long iv, .long lg, .long fg, .long hv])), (ms, .inl (g 0, 71, .inl f)), (mp, .inl (g 0, 284, .inl pa)), (me, .inl (g 0, 3, .inl ef)), (mn, .inl (g 1, 5, .inr (.inl (e64 (eR f)))))] H := hP
        have hD : va_D (Aw [mo, ms, mp, me, mn] s.heap.size) [(mo, .inr (6, [.ref ms, .ref mp, .int (nI np), .ref me, .ref mn, .long iv, .long lg, .long fg, .long hv])), (ms, .inl (g 0, 71, .inl f)), (mp, .inl (g 0, 284, .inl pa)), (me, .inl (g 0, 3, .inl ef)), (mn, .inl (g 1, 5, .inr (.inl (e64 (eR f)))))] := hD
        refine lv_iconst (pc := 54) (v := 0) hx hb dX6_stepsTo_54 (by decide) ?_
        refine lv_istore (pc := 55) (lv' := [(4, .int 0), (3, .int 0), (2, .int 0), (0, .ref mo), (1, .int tg)]) hx hb dX6_stepsTo_55 hl (by decide) rfl (fun ls hl => ?_)
        refine lv_iload_n (pc := 57) hx hb dX6_stepsTo_57 rfl (lv_at hl 2 rfl) ?_
        refine lv_if_eq (pc := 58) (tgt := 73) hx hb dX6_stepsTo_58 (by decide) (fun cd6 => ?_) (fun cd6 => absurd cd6 (by decide))
        refine lv_iload_n (pc := 73) hx hb dX6_stepsTo_73 rfl (lv_at hl 1 rfl) ?_
        refine lv_if_eq (pc := 74) (tgt := 120) hx hb dX6_stepsTo_74 (by decide) (fun cd7 => ?_) (fun cd7 => absurd cd7 (by decide))
        refine lv_iload (pc := 120) hx hb dX6_stepsTo_120 (lv_at hl 0 rfl) ?_
        have hq9 : (fun r H1 => ((inR (-40960000) 40960000 tg) ∧ r = stF (f 5) (f 6) (f 0) tg 101 0 (eR f) ∧ MDI D g H1 mo ms mp me mn np ef f pa) ∨ (¬ (inR (-40960000) 40960000 tg) ∧ r = -2000000002 ∧ MDI D g H1 mo ms mp me mn np (upd ef 0 (ef 0 + 1)) f pa) : Int32 → Heap → Prop) 0 H := Or.inl ⟨hck8, (show stF (f 5) (f 6) (f 0) tg 101 0 (eR f) = nI 0 by rw [stF_s, cif_t (show rch (f 0) tg (eR f 0) from Or.inr ⟨hup, hdn⟩)]).symm, ⟨_, _, _, _, _, hP.sub [0, 1, 2, 3, 4] rfl⟩⟩
        exact W.iret (v := 0) hx hb hr (fun t ht hW => ⟨⟨_, rfl, by rw [ht]; exact hq9⟩, hS.F ht⟩) hS.2.2 dX6_stepsTo_122
      · refine lv_iconst (pc := 44) (v := 1) hx hb dX6_stepsTo_44 (by decide) ?_
        refine lv_goto (pc := 45) (tgt := 49) hx hb dX6_stepsTo_45 (by decide) ?_
        refine lv_istore_n (pc := 49) (lv' := [(3, .int 1), (2, .int 0), (0, .ref mo), (1, .int tg)]) hx hb dX6_stepsTo_49 rfl hl (by decide) rfl (fun ls hl => ?_)
        refine lv_aload_n (pc := 50) hx hb dX6_stepsTo_50 rfl (lv_at hl 2 rfl) ?_
        have hFc := awF (Lc := [mn]) hD hS hA [4] rfl
        refine kV (pc := 51) (va_runV (As := []) (rest := []) ⟨hx, hb, hml, hown, hts⟩ (m6_take l mo ms mp me mn np iv lg fg hv f nw s.heap (hP.sub (ws' := [(mn, .inl (g 1, 5, .inr (.inl nw)))]) [4] rfl) (hP.sub (ws' := [(mo, .inr (6, [.ref ms, .ref mp, .int (nI np), .ref me, .ref mn, .long iv, .long lg, .long fg, .long hv]))]) [0] rfl) (ninW hD 0 [4] rfl rfl (by decide)) (hP.sub (ws' := [(ms, .inl (g 0, 71, .inl f))]) [1] rfl) (ninW hD 1 [4] rfl rfl (by decide))) (cwV 0 hts (lw_V q642 q644 qs10 q28 q645) rfl rfl rfl (by decide +kernel) ⟨Nat.le_of_ble_eq_true rfl, Nat.le_of_ble_eq_true rfl⟩) (preV hK (rcv hK hP 0 rfl rfl)) rfl rfl hl.1 rfl (lv_room (Nat.le_of_ble_eq_true rfl)) dX6_stepsTo_51 ⟨Nat.le_of_ble_eq_true rfl, Nat.le_of_ble_eq_true rfl⟩) hS hFc (fun H locs hp9 hz1 hk1 hS => ?_)
        have hP1 := hp9
        obtain ⟨hP, hD⟩ := jn (wr := [(mo, .inr (6, [.ref ms, .ref mp, .int (nI np), .ref me, .ref mn, .long iv, .long lg, .long fg, .long hv])), (ms, .inl (g 0, 71, .inl f)), (mp, .inl (g 0, 284, .inl pa)), (me, .inl (g 0, 3, .inl ef))]) (w1 := [(mn, .inl (g 1, 5, .inr (.inl (e64 (eR f)))))]) hP hD [4] [0, 1, 2, 3] rfl rfl (by decide) (by decide) hk1 hFc hP1 (d1 (Or.inl (by simp)))
        have hP : va_P D vwCl [(mo, .inr (6, [.ref ms, .ref mp, .int (nI np), .ref me, .ref mn, .long iv, .long lg, .long fg, .long hv])), (ms, .inl (g 0, 71, .inl f)), (mp, .inl (g 0, 284, .inl pa)), (me, .inl (g 0, 3, .inl ef)), (mn, .inl (g 1, 5, .inr (.inl (e64 (eR f)))))] H := hP
        have hD : va_D (Aw [mo, ms, mp, me, mn] s.heap.size) [(mo, .inr (6, [.ref ms, .ref mp, .int (nI np), .ref me, .ref mn, .long iv, .long lg, .long fg, .long hv])), (ms, .inl (g 0, 71, .inl f)), (mp, .inl (g 0, 284, .inl pa)), (me, .inl (g 0, 3, .inl ef)), (mn, .inl (g 1, 5, .inr (.inl (e64 (eR f)))))] := hD
        refine lv_iconst (pc := 54) (v := 0) hx hb dX6_stepsTo_54 (by decide) ?_
        refine lv_istore (pc := 55) (lv' := [(4, .int 0), (3, .int 1), (2, .int 0), (0, .ref mo), (1, .int tg)]) hx hb dX6_stepsTo_55 hl (by decide) rfl (fun ls hl => ?_)
        have loop : ∀ (n : Nat) (i : Nat), (i ≤ 100) → (101 ≤ i + n) → (stF (f 5) (f 6) (f 0) tg 101 0 (eR f) = stF (f 5) (f 6) (f 0) tg (101 - i) i (pIt (f 5) (f 6) i (eR f))) → ∀ (H : Heap) (locs : List Loc), va_P D vwCl [(mo, .inr (6, [.ref ms, .ref mp, .int (nI np), .ref me, .ref mn, .long iv, .long lg, .long fg, .long hv])), (ms, .inl (g 0, 71, .inl f)), (mp, .inl (g 0, 284, .inl pa)), (me, .inl (g 0, 3, .inl ef)), (mn, .inl (g 1, 5, .inr (.inl (e64 (pIt (f 5) (f 6) i (eR f))))))] H → va_D (Aw [mo, ms, mp, me, mn] s.heap.size) [(mo, .inr (6, [.ref ms, .ref mp, .int (nI np), .ref me, .ref mn, .long iv, .long lg, .long fg, .long hv])), (ms, .inl (g 0, 71, .inl f)), (mp, .inl (g 0, 284, .inl pa)), (me, .inl (g 0, 3, .inl ef)), (mn, .inl (g 1, 5, .inr (.inl (e64 (pIt (f 5) (f 6) i (eR f))))))] → va_S (Aw [mo, ms, mp, me, mn] s.heap.size) s.heap H locs → ∀ (ls : Array Slot), lv_has ls 5 [(0, .ref mo), (1, .int tg), (2, .int 0), (3, .int 1), (4, .int (nI i))] → W p l e (headSpec (ws_ yX6_stepsTo cX6_stepsTo 5 (some .int)) rm_m6_stepsTo).room s m ([.ref mo, .int tg] : List Value).toArray below meth c H locs 0 0 (MQ below (QI (fun r H1 => ((inR (-40960000) 40960000 tg) ∧ r = stF (f 5) (f 6) (f 0) tg 101 0 (eR f) ∧ MDI D g H1 mo ms mp me mn np ef f pa) ∨ (¬ (inR (-40960000) 40960000 tg) ∧ r = -2000000002 ∧ MDI D g H1 mo ms mp me mn np (upd ef 0 (ef 0 + 1)) f pa)) (Aw [mo, ms, mp, me, mn] s.heap.size)) ([.ref mo, .int tg] : List Value).toArray s 0 0 (Aw [mo, ms, mp, me, mn] s.heap.size)) (F0 m 57 ls []) := by
          intro n
          induction n with
          | zero =>
            intro i hi hfu hst
            exact absurd (show _ by assumption) (by omega)
          | succ n ih =>
            intro i hi hfu hst H locs hP hD hS ls hl
            refine lv_iload_n (pc := 57) hx hb dX6_stepsTo_57 rfl (lv_at hl 2 rfl) ?_
            refine lv_if_eq (pc := 58) (tgt := 73) hx hb dX6_stepsTo_58 (by decide) (fun cd9 => ?_) (fun cd9 => absurd cd9 (by decide))
            refine lv_iload_n (pc := 73) hx hb dX6_stepsTo_73 rfl (lv_at hl 3 rfl) ?_
            refine lv_if_eq (pc := 74) (tgt := 120) hx hb dX6_stepsTo_74 (by decide) (fun cd10 => absurd cd10 (by decide)) (fun cd10 => ?_)
            refine lv_aload_n (pc := 77) hx hb dX6_stepsTo_77 rfl (lv_at hl 0 rfl) ?_
            refine va_get (pc := 78) (D := D) (ci := 6) (v := .ref mn) (C := RX6) (T := TX6) (N := 9) hx hb hts in_X6 hown hK.1 hP 0 rfl rfl 4 (by decide) (hts _ q578) (fun _ h9 => h9) rfl dX6_stepsTo_78 ?_
            refine lv_iconst (pc := 81) (v := 0) hx hb dX6_stepsTo_81 (by decide) ?_
            refine la_ld (pc := 82) hx hb hK.1 hP 4 1 0 rfl rfl (nl 0) (Nat.le_of_ble_eq_true rfl) (Nat.le_of_ble_eq_true rfl) dX6_stepsTo_82 ?_
            refine lv_iload_n (pc := 83) hx hb dX6_stepsTo_83 rfl (lv_at hl 1 rfl) ?_
            refine lv_i2l (pc := 84) hx hb dX6_stepsTo_84 rfl ?_
            refine lq_le (pc := 85) (tgt := 120) hx hb dX6_stepsTo_85 dX6_stepsTo_86 (by decide) (fun cd11 => ?_) (fun cd11 => ?_)
            · have hyr : rch (f 0) tg ((pIt (f 5) (f 6) i (eR f)) 0) := Or.inr ⟨hup, le64.mp cd11⟩
              refine lv_iload (pc := 120) hx hb dX6_stepsTo_120 (lv_at hl 4 rfl) ?_
              have hq9 : (fun r H1 => ((inR (-40960000) 40960000 tg) ∧ r = stF (f 5) (f 6) (f 0) tg 101 0 (eR f) ∧ MDI D g H1 mo ms mp me mn np ef f pa) ∨ (¬ (inR (-40960000) 40960000 tg) ∧ r = -2000000002 ∧ MDI D g H1 mo ms mp me mn np (upd ef 0 (ef 0 + 1)) f pa) : Int32 → Heap → Prop) (nI i) H := Or.inl ⟨hck8, (by rw [hst, show 101 - i = (100 - i) + 1 by omega]; rw [stF_s, cif_t hyr]), ⟨_, _, _, _, _, hP.sub [0, 1, 2, 3, 4] rfl⟩⟩
              exact W.iret (v := nI i) hx hb hr (fun t ht hW => ⟨⟨_, rfl, by rw [ht]; exact hq9⟩, hS.F ht⟩) hS.2.2 dX6_stepsTo_122
            · have hnr9 : ¬ rch (f 0) tg ((pIt (f 5) (f 6) i (eR f)) 0) := fun h => h.elim (fun a => hup a.1) (fun a => cd11 (le64.mpr a.2))
              refine lv_iload (pc := 89) hx hb dX6_stepsTo_89 (lv_at hl 4 rfl) ?_
              refine lv_bipush (pc := 91) (v := 100) hx hb dX6_stepsTo_91 (by decide) ?_
              refine lv_icmp_eq (pc := 93) (tgt := 111) hx hb dX6_stepsTo_93 (by decide) (fun cd12 => ?_) (fun cd12 => ?_)
              · have ncd12 : i = 100 := (neq rfl (nl 100) (by omega) (by omega)).mp cd12
                refine lv_ldc (pc := 111) (v := (-2000000001)) hx hb hown (hts _ q573) dX6_stepsTo_111 ?_
                have hq9 : (fun r H1 => ((inR (-40960000) 40960000 tg) ∧ r = stF (f 5) (f 6) (f 0) tg 101 0 (eR f) ∧ MDI D g H1 mo ms mp me mn np ef f pa) ∨ (¬ (inR (-40960000) 40960000 tg) ∧ r = -2000000002 ∧ MDI D g H1 mo ms mp me mn np (upd ef 0 (ef 0 + 1)) f pa) : Int32 → Heap → Prop) (-2000000001) H := Or.inl ⟨hck8, (by have hi9 : i = 100 := ncd12; rw [hst, show 101 - i = 1 by omega]; exact (st_one hnr9).symm), ⟨_, _, _, _, _, hP.sub [0, 1, 2, 3, 4] rfl⟩⟩
                exact W.iret (v := (-2000000001)) hx hb hr (fun t ht hW => ⟨⟨_, rfl, by rw [ht]; exact hq9⟩, hS.F ht⟩) hS.2.2 dX6_stepsTo_113
              · have ncd12 : ¬ i = 100 := fun h => cd12 ((neq rfl (nl 100) (by omega) (by omega)).mpr h)
                refine lv_aload_n (pc := 96) hx hb dX6_stepsTo_96 rfl (lv_at hl 0 rfl) ?_
                refine lv_iconst (pc := 97) (v := 0) hx hb dX6_stepsTo_97 (by decide) ?_
                refine lv_aload_n (pc := 98) hx hb dX6_stepsTo_98 rfl (lv_at hl 0 rfl) ?_
                refine va_get (pc := 99) (D := D) (ci := 6) (v := .ref ms) (C := RX6) (T := TX6) (N := 9) hx hb hts in_X6 hown hK.1 hP 0 rfl rfl 0 (by decide) (hts _ q574) (fun _ h9 => h9) rfl dX6_stepsTo_99 ?_
                refine lv_bipush (pc := 102) (v := 6) hx hb dX6_stepsTo_102 (by decide) ?_
                refine ia_ld (pc := 104) hx hb hK.1 hP 1 0 6 rfl rfl (nl 6) (Nat.le_of_ble_eq_true rfl) (Nat.le_of_ble_eq_true rfl) dX6_stepsTo_104 ?_
                have hFc := awF (Lc := [mn]) hD hS hA [4] rfl
                refine kI (pc := 105) (va_runV (As := [.int 0, .int (f 6)]) (rest := []) ⟨hx, hb, hml, hown, hts⟩ (m6_predicts l mo ms mp me mn np iv lg fg hv f (pIt (f 5) (f 6) i (eR f)) 0 (f 6) H (hP.sub (ws' := [(mn, .inl (g 1, 5, .inr (.inl (e64 (pIt (f 5) (f 6) i (eR f))))))]) [4] rfl) (hP.sub (ws' := [(mo, .inr (6, [.ref ms, .ref mp, .int (nI np), .ref me, .ref mn, .long iv, .long lg, .long fg, .long hv]))]) [0] rfl) (ninW hD 0 [4] rfl rfl (by decide)) (hP.sub (ws' := [(ms, .inl (g 0, 71, .inl f))]) [1] rfl) (ninW hD 1 [4] rfl rfl (by decide))) (cwV 2 hts (lw_V q646 q648 qs11 q28 q649) rfl rfl rfl (by decide +kernel) ⟨Nat.le_of_ble_eq_true rfl, Nat.le_of_ble_eq_true rfl⟩) (preV hK (rcv hK hP 0 rfl rfl)) rfl rfl hl.1 rfl (lv_room (Nat.le_of_ble_eq_true rfl)) dX6_stepsTo_105 ⟨Nat.le_of_ble_eq_true rfl, Nat.le_of_ble_eq_true rfl⟩) hS hFc (fun r13 H locs hp9 hz1 hk1 hS => ?_)
                rcases hp9 with ⟨hok, hr9, hP1⟩ | ⟨hnok, hr9, hP1⟩
                · subst hr9
                  obtain ⟨hP, hD⟩ := jn (wr := [(mo, .inr (6, [.ref ms, .ref mp, .int (nI np), .ref me, .ref mn, .long iv, .long lg, .long fg, .long hv])), (ms, .inl (g 0, 71, .inl f)), (mp, .inl (g 0, 284, .inl pa)), (me, .inl (g 0, 3, .inl ef))]) (w1 := [(mn, .inl (g 1, 5, .inr (.inl (e64 (pE (pIt (f 5) (f 6) i (eR f)) 0 (f 5) (f 6))))))]) hP hD [4] [0, 1, 2, 3] rfl rfl (by decide) (by decide) hk1 hFc hP1 (d1 (Or.inl (by simp)))
                  have hP : va_P D vwCl [(mo, .inr (6, [.ref ms, .ref mp, .int (nI np), .ref me, .ref mn, .long iv, .long lg, .long fg, .long hv])), (ms, .inl (g 0, 71, .inl f)), (mp, .inl (g 0, 284, .inl pa)), (me, .inl (g 0, 3, .inl ef)), (mn, .inl (g 1, 5, .inr (.inl (e64 (pE (pIt (f 5) (f 6) i (eR f)) 0 (f 5) (f 6))))))] H := hP
                  have hD : va_D (Aw [mo, ms, mp, me, mn] s.heap.size) [(mo, .inr (6, [.ref ms, .ref mp, .int (nI np), .ref me, .ref mn, .long iv, .long lg, .long fg, .long hv])), (ms, .inl (g 0, 71, .inl f)), (mp, .inl (g 0, 284, .inl pa)), (me, .inl (g 0, 3, .inl ef)), (mn, .inl (g 1, 5, .inr (.inl (e64 (pE (pIt (f 5) (f 6) i (eR f)) 0 (f 5) (f 6))))))] := hD
                  refine lv_if_ne (pc := 108) (tgt := 114) hx hb dX6_stepsTo_108 (by decide) (fun cd14 => ?_) (fun cd14 => absurd cd14 (by decide))
                  obtain ⟨x15, ex15⟩ : ∃ y : Int32, y = (nI i) + 1 := ⟨_, rfl⟩
                  refine lv_iinc (pc := 114) (v := x15) (lv' := [(4, .int x15), (0, .ref mo), (1, .int tg), (2, .int 0), (3, .int 1)]) hx hb dX6_stepsTo_114 hl (k := 4) rfl (by rw [ex15]; rfl) (by decide) rfl (fun ls hl => ?_)
                  refine lv_goto (pc := 117) (tgt := 57) hx hb dX6_stepsTo_117 (by decide) ?_
                  rw [show x15 = nI (i + 1) from (ex15.trans (nadd rfl (nl 1)))] at hl
                  exact ih  (i + 1) (by omega) (by omega) (by rw [hst, show 101 - i = (100 - i) + 1 by omega]; rw [stF_s, cif_f hnr9, cif_t hok, show 101 - (i + 1) = 100 - i by omega]; rfl) _ _ hP hD hS ls (lv_sub hl [1, 2, 3, 4, 0] rfl)
                · subst hr9
                  obtain ⟨hP, hD⟩ := jn (wr := [(mo, .inr (6, [.ref ms, .ref mp, .int (nI np), .ref me, .ref mn, .long iv, .long lg, .long fg, .long hv])), (ms, .inl (g 0, 71, .inl f)), (mp, .inl (g 0, 284, .inl pa)), (me, .inl (g 0, 3, .inl ef))]) (w1 := [(mn, .inl (g 1, 5, .inr (.inl (e64 (pIt (f 5) (f 6) i (eR f))))))]) hP hD [4] [0, 1, 2, 3] rfl rfl (by decide) (by decide) hk1 hFc hP1 (d1 (Or.inl (by simp)))
                  have hP : va_P D vwCl [(mo, .inr (6, [.ref ms, .ref mp, .int (nI np), .ref me, .ref mn, .long iv, .long lg, .long fg, .long hv])), (ms, .inl (g 0, 71, .inl f)), (mp, .inl (g 0, 284, .inl pa)), (me, .inl (g 0, 3, .inl ef)), (mn, .inl (g 1, 5, .inr (.inl (e64 (pIt (f 5) (f 6) i (eR f))))))] H := hP
                  have hD : va_D (Aw [mo, ms, mp, me, mn] s.heap.size) [(mo, .inr (6, [.ref ms, .ref mp, .int (nI np), .ref me, .ref mn, .long iv, .long lg, .long fg, .long hv])), (ms, .inl (g 0, 71, .inl f)), (mp, .inl (g 0, 284, .inl pa)), (me, .inl (g 0, 3, .inl ef)), (mn, .inl (g 1, 5, .inr (.inl (e64 (pIt (f 5) (f 6) i (eR f))))))] := hD
                  refine lv_if_ne (pc := 108) (tgt := 114) hx hb dX6_stepsTo_108 (by decide) (fun cd16 => absurd cd16 (by decide)) (fun cd16 => ?_)
                  refine lv_ldc (pc := 111) (v := (-2000000001)) hx hb hown (hts _ q573) dX6_stepsTo_111 ?_
                  have hq9 : (fun r H1 => ((inR (-40960000) 40960000 tg) ∧ r = stF (f 5) (f 6) (f 0) tg 101 0 (eR f) ∧ MDI D g H1 mo ms mp me mn np ef f pa) ∨ (¬ (inR (-40960000) 40960000 tg) ∧ r = -2000000002 ∧ MDI D g H1 mo ms mp me mn np (upd ef 0 (ef 0 + 1)) f pa) : Int32 → Heap → Prop) (-2000000001) H := Or.inl ⟨hck8, (by rw [hst, show 101 - i = (100 - i) + 1 by omega]; rw [stF_s, cif_f hnr9, cif_f hnok]), ⟨_, _, _, _, _, hP.sub [0, 1, 2, 3, 4] rfl⟩⟩
                  exact W.iret (v := (-2000000001)) hx hb hr (fun t ht hW => ⟨⟨_, rfl, by rw [ht]; exact hq9⟩, hS.F ht⟩) hS.2.2 dX6_stepsTo_113
        exact loop 101 0 (Nat.zero_le _) (by omega) rfl _ _ hP hD hS ls (lv_sub hl [3, 4, 2, 1, 0] rfl)
    · have hup : f 0 < tg := Int32.not_le.mp cd3
      refine lv_iconst (pc := 28) (v := 1) hx hb dX6_stepsTo_28 (by decide) ?_
      refine lv_goto (pc := 29) (tgt := 33) hx hb dX6_stepsTo_29 (by decide) ?_
      refine lv_istore_n (pc := 33) (lv' := [(2, .int 1), (0, .ref mo), (1, .int tg)]) hx hb dX6_stepsTo_33 rfl hl (by decide) rfl (fun ls hl => ?_)
      refine lv_aload_n (pc := 34) hx hb dX6_stepsTo_34 rfl (lv_at hl 1 rfl) ?_
      refine va_get (pc := 35) (D := D) (ci := 6) (v := .ref ms) (C := RX6) (T := TX6) (N := 9) hx hb hts in_X6 hown hK.1 hP 0 rfl rfl 0 (by decide) (hts _ q574) (fun _ h9 => h9) rfl dX6_stepsTo_35 ?_
      refine lv_iconst (pc := 38) (v := 0) hx hb dX6_stepsTo_38 (by decide) ?_
      refine ia_ld (pc := 39) hx hb hK.1 hP 1 0 0 rfl rfl (nl 0) (Nat.le_of_ble_eq_true rfl) (Nat.le_of_ble_eq_true rfl) dX6_stepsTo_39 ?_
      refine lv_iload_n (pc := 40) hx hb dX6_stepsTo_40 rfl (lv_at hl 2 rfl) ?_
      refine lv_icmp_le (pc := 41) (tgt := 48) hx hb dX6_stepsTo_41 (by decide) (fun cd17 => ?_) (fun cd17 => absurd cd17 (fun h => h (Int32.le_of_lt hup)))
      refine lv_iconst (pc := 48) (v := 0) hx hb dX6_stepsTo_48 (by decide) ?_
      refine lv_istore_n (pc := 49) (lv' := [(3, .int 0), (2, .int 1), (0, .ref mo), (1, .int tg)]) hx hb dX6_stepsTo_49 rfl hl (by decide) rfl (fun ls hl => ?_)
      refine lv_aload_n (pc := 50) hx hb dX6_stepsTo_50 rfl (lv_at hl 2 rfl) ?_
      have hFc := awF (Lc := [mn]) hD hS hA [4] rfl
      refine kV (pc := 51) (va_runV (As := []) (rest := []) ⟨hx, hb, hml, hown, hts⟩ (m6_take l mo ms mp me mn np iv lg fg hv f nw s.heap (hP.sub (ws' := [(mn, .inl (g 1, 5, .inr (.inl nw)))]) [4] rfl) (hP.sub (ws' := [(mo, .inr (6, [.ref ms, .ref mp, .int (nI np), .ref me, .ref mn, .long iv, .long lg, .long fg, .long hv]))]) [0] rfl) (ninW hD 0 [4] rfl rfl (by decide)) (hP.sub (ws' := [(ms, .inl (g 0, 71, .inl f))]) [1] rfl) (ninW hD 1 [4] rfl rfl (by decide))) (cwV 0 hts (lw_V q642 q644 qs10 q28 q645) rfl rfl rfl (by decide +kernel) ⟨Nat.le_of_ble_eq_true rfl, Nat.le_of_ble_eq_true rfl⟩) (preV hK (rcv hK hP 0 rfl rfl)) rfl rfl hl.1 rfl (lv_room (Nat.le_of_ble_eq_true rfl)) dX6_stepsTo_51 ⟨Nat.le_of_ble_eq_true rfl, Nat.le_of_ble_eq_true rfl⟩) hS hFc (fun H locs hp9 hz1 hk1 hS => ?_)
      have hP1 := hp9
      obtain ⟨hP, hD⟩ := jn (wr := [(mo, .inr (6, [.ref ms, .ref mp, .int (nI np), .ref me, .ref mn, .long iv, .long lg, .long fg, .long hv])), (ms, .inl (g 0, 71, .inl f)), (mp, .inl (g 0, 284, .inl pa)), (me, .inl (g 0, 3, .inl ef))]) (w1 := [(mn, .inl (g 1, 5, .inr (.inl (e64 (eR f)))))]) hP hD [4] [0, 1, 2, 3] rfl rfl (by decide) (by decide) hk1 hFc hP1 (d1 (Or.inl (by simp)))
      have hP : va_P D vwCl [(mo, .inr (6, [.ref ms, .ref mp, .int (nI np), .ref me, .ref mn, .long iv, .long lg, .long fg, .long hv])), (ms, .inl (g 0, 71, .inl f)), (mp, .inl (g 0, 284, .inl pa)), (me, .inl (g 0, 3, .inl ef)), (mn, .inl (g 1, 5, .inr (.inl (e64 (eR f)))))] H := hP
      have hD : va_D (Aw [mo, ms, mp, me, mn] s.heap.size) [(mo, .inr (6, [.ref ms, .ref mp, .int (nI np), .ref me, .ref mn, .long iv, .long lg, .long fg, .long hv])), (ms, .inl (g 0, 71, .inl f)), (mp, .inl (g 0, 284, .inl pa)), (me, .inl (g 0, 3, .inl ef)), (mn, .inl (g 1, 5, .inr (.inl (e64 (eR f)))))] := hD
      refine lv_iconst (pc := 54) (v := 0) hx hb dX6_stepsTo_54 (by decide) ?_
      refine lv_istore (pc := 55) (lv' := [(4, .int 0), (3, .int 0), (2, .int 1), (0, .ref mo), (1, .int tg)]) hx hb dX6_stepsTo_55 hl (by decide) rfl (fun ls hl => ?_)
      have loop : ∀ (n : Nat) (i : Nat), (i ≤ 100) → (101 ≤ i + n) → (stF (f 5) (f 6) (f 0) tg 101 0 (eR f) = stF (f 5) (f 6) (f 0) tg (101 - i) i (pIt (f 5) (f 6) i (eR f))) → ∀ (H : Heap) (locs : List Loc), va_P D vwCl [(mo, .inr (6, [.ref ms, .ref mp, .int (nI np), .ref me, .ref mn, .long iv, .long lg, .long fg, .long hv])), (ms, .inl (g 0, 71, .inl f)), (mp, .inl (g 0, 284, .inl pa)), (me, .inl (g 0, 3, .inl ef)), (mn, .inl (g 1, 5, .inr (.inl (e64 (pIt (f 5) (f 6) i (eR f))))))] H → va_D (Aw [mo, ms, mp, me, mn] s.heap.size) [(mo, .inr (6, [.ref ms, .ref mp, .int (nI np), .ref me, .ref mn, .long iv, .long lg, .long fg, .long hv])), (ms, .inl (g 0, 71, .inl f)), (mp, .inl (g 0, 284, .inl pa)), (me, .inl (g 0, 3, .inl ef)), (mn, .inl (g 1, 5, .inr (.inl (e64 (pIt (f 5) (f 6) i (eR f))))))] → va_S (Aw [mo, ms, mp, me, mn] s.heap.size) s.heap H locs → ∀ (ls : Array Slot), lv_has ls 5 [(0, .ref mo), (1, .int tg), (2, .int 1), (3, .int 0), (4, .int (nI i))] → W p l e (headSpec (ws_ yX6_stepsTo cX6_stepsTo 5 (some .int)) rm_m6_stepsTo).room s m ([.ref mo, .int tg] : List Value).toArray below meth c H locs 0 0 (MQ below (QI (fun r H1 => ((inR (-40960000) 40960000 tg) ∧ r = stF (f 5) (f 6) (f 0) tg 101 0 (eR f) ∧ MDI D g H1 mo ms mp me mn np ef f pa) ∨ (¬ (inR (-40960000) 40960000 tg) ∧ r = -2000000002 ∧ MDI D g H1 mo ms mp me mn np (upd ef 0 (ef 0 + 1)) f pa)) (Aw [mo, ms, mp, me, mn] s.heap.size)) ([.ref mo, .int tg] : List Value).toArray s 0 0 (Aw [mo, ms, mp, me, mn] s.heap.size)) (F0 m 57 ls []) := by
        intro n
        induction n with
        | zero =>
          intro i hi hfu hst
          exact absurd (show _ by assumption) (by omega)
        | succ n ih =>
          intro i hi hfu hst H locs hP hD hS ls hl
          refine lv_iload_n (pc := 57) hx hb dX6_stepsTo_57 rfl (lv_at hl 2 rfl) ?_
          refine lv_if_eq (pc := 58) (tgt := 73) hx hb dX6_stepsTo_58 (by decide) (fun cd19 => absurd cd19 (by decide)) (fun cd19 => ?_)
          refine lv_aload_n (pc := 61) hx hb dX6_stepsTo_61 rfl (lv_at hl 0 rfl) ?_
          refine va_get (pc := 62) (D := D) (ci := 6) (v := .ref mn) (C := RX6) (T := TX6) (N := 9) hx hb hts in_X6 hown hK.1 hP 0 rfl rfl 4 (by decide) (hts _ q578) (fun _ h9 => h9) rfl dX6_stepsTo_62 ?_
          refine lv_iconst (pc := 65) (v := 0) hx hb dX6_stepsTo_65 (by decide) ?_
          refine la_ld (pc := 66) hx hb hK.1 hP 4 1 0 rfl rfl (nl 0) (Nat.le_of_ble_eq_true rfl) (Nat.le_of_ble_eq_true rfl) dX6_stepsTo_66 ?_
          refine lv_iload_n (pc := 67) hx hb dX6_stepsTo_67 rfl (lv_at hl 1 rfl) ?_
          refine lv_i2l (pc := 68) hx hb dX6_stepsTo_68 rfl ?_
          refine lq_lt (pc := 69) (tgt := 89) hx hb dX6_stepsTo_69 dX6_stepsTo_70 (by decide) (fun cd20 => ?_) (fun cd20 => ?_)
          · have hnr9 : ¬ rch (f 0) tg ((pIt (f 5) (f 6) i (eR f)) 0) := fun h => h.elim (fun a => absurd a.2 (Int32.not_le.mpr (lt64.mp cd20))) (fun a => a.1 hup)
            refine lv_iload (pc := 89) hx hb dX6_stepsTo_89 (lv_at hl 4 rfl) ?_
            refine lv_bipush (pc := 91) (v := 100) hx hb dX6_stepsTo_91 (by decide) ?_
            refine lv_icmp_eq (pc := 93) (tgt := 111) hx hb dX6_stepsTo_93 (by decide) (fun cd21 => ?_) (fun cd21 => ?_)
            · have ncd21 : i = 100 := (neq rfl (nl 100) (by omega) (by omega)).mp cd21
              refine lv_ldc (pc := 111) (v := (-2000000001)) hx hb hown (hts _ q573) dX6_stepsTo_111 ?_
              have hq9 : (fun r H1 => ((inR (-40960000) 40960000 tg) ∧ r = stF (f 5) (f 6) (f 0) tg 101 0 (eR f) ∧ MDI D g H1 mo ms mp me mn np ef f pa) ∨ (¬ (inR (-40960000) 40960000 tg) ∧ r = -2000000002 ∧ MDI D g H1 mo ms mp me mn np (upd ef 0 (ef 0 + 1)) f pa) : Int32 → Heap → Prop) (-2000000001) H := Or.inl ⟨hck8, (by have hi9 : i = 100 := ncd21; rw [hst, show 101 - i = 1 by omega]; exact (st_one hnr9).symm), ⟨_, _, _, _, _, hP.sub [0, 1, 2, 3, 4] rfl⟩⟩
              exact W.iret (v := (-2000000001)) hx hb hr (fun t ht hW => ⟨⟨_, rfl, by rw [ht]; exact hq9⟩, hS.F ht⟩) hS.2.2 dX6_stepsTo_113
            · have ncd21 : ¬ i = 100 := fun h => cd21 ((neq rfl (nl 100) (by omega) (by omega)).mpr h)
              refine lv_aload_n (pc := 96) hx hb dX6_stepsTo_96 rfl (lv_at hl 0 rfl) ?_
              refine lv_iconst (pc := 97) (v := 0) hx hb dX6_stepsTo_97 (by decide) ?_
              refine lv_aload_n (pc := 98) hx hb dX6_stepsTo_98 rfl (lv_at hl 0 rfl) ?_
              refine va_get (pc := 99) (D := D) (ci := 6) (v := .ref ms) (C := RX6) (T := TX6) (N := 9) hx hb hts in_X6 hown hK.1 hP 0 rfl rfl 0 (by decide) (hts _ q574) (fun _ h9 => h9) rfl dX6_stepsTo_99 ?_
              refine lv_bipush (pc := 102) (v := 6) hx hb dX6_stepsTo_102 (by decide) ?_
              refine ia_ld (pc := 104) hx hb hK.1 hP 1 0 6 rfl rfl (nl 6) (Nat.le_of_ble_eq_true rfl) (Nat.le_of_ble_eq_true rfl) dX6_stepsTo_104 ?_
              have hFc := awF (Lc := [mn]) hD hS hA [4] rfl
              refine kI (pc := 105) (va_runV (As := [.int 0, .int (f 6)]) (rest := []) ⟨hx, hb, hml, hown, hts⟩ (m6_predicts l mo ms mp me mn np iv lg fg hv f (pIt (f 5) (f 6) i (eR f)) 0 (f 6) H (hP.sub (ws' := [(mn, .inl (g 1, 5, .inr (.inl (e64 (pIt (f 5) (f 6) i (eR f))))))]) [4] rfl) (hP.sub (ws' := [(mo, .inr (6, [.ref ms, .ref mp, .int (nI np), .ref me, .ref mn, .long iv, .long lg, .long fg, .long hv]))]) [0] rfl) (ninW hD 0 [4] rfl rfl (by decide)) (hP.sub (ws' := [(ms, .inl (g 0, 71, .inl f))]) [1] rfl) (ninW hD 1 [4] rfl rfl (by decide))) (cwV 2 hts (lw_V q646 q648 qs11 q28 q649) rfl rfl rfl (by decide +kernel) ⟨Nat.le_of_ble_eq_true rfl, Nat.le_of_ble_eq_true rfl⟩) (preV hK (rcv hK hP 0 rfl rfl)) rfl rfl hl.1 rfl (lv_room (Nat.le_of_ble_eq_true rfl)) dX6_stepsTo_105 ⟨Nat.le_of_ble_eq_true rfl, Nat.le_of_ble_eq_true rfl⟩) hS hFc (fun r22 H locs hp9 hz1 hk1 hS => ?_)
              rcases hp9 with ⟨hok, hr9, hP1⟩ | ⟨hnok, hr9, hP1⟩
              · subst hr9
                obtain ⟨hP, hD⟩ := jn (wr := [(mo, .inr (6, [.ref ms, .ref mp, .int (nI np), .ref me, .ref mn, .long iv, .long lg, .long fg, .long hv])), (ms, .inl (g 0, 71, .inl f)), (mp, .inl (g 0, 284, .inl pa)), (me, .inl (g 0, 3, .inl ef))]) (w1 := [(mn, .inl (g 1, 5, .inr (.inl (e64 (pE (pIt (f 5) (f 6) i (eR f)) 0 (f 5) (f 6))))))]) hP hD [4] [0, 1, 2, 3] rfl rfl (by decide) (by decide) hk1 hFc hP1 (d1 (Or.inl (by simp)))
                have hP : va_P D vwCl [(mo, .inr (6, [.ref ms, .ref mp, .int (nI np), .ref me, .ref mn, .long iv, .long lg, .long fg, .long hv])), (ms, .inl (g 0, 71, .inl f)), (mp, .inl (g 0, 284, .inl pa)), (me, .inl (g 0, 3, .inl ef)), (mn, .inl (g 1, 5, .inr (.inl (e64 (pE (pIt (f 5) (f 6) i (eR f)) 0 (f 5) (f 6))))))] H := hP
                have hD : va_D (Aw [mo, ms, mp, me, mn] s.heap.size) [(mo, .inr (6, [.ref ms, .ref mp, .int (nI np), .ref me, .ref mn, .long iv, .long lg, .long fg, .long hv])), (ms, .inl (g 0, 71, .inl f)), (mp, .inl (g 0, 284, .inl pa)), (me, .inl (g 0, 3, .inl ef)), (mn, .inl (g 1, 5, .inr (.inl (e64 (pE (pIt (f 5) (f 6) i (eR f)) 0 (f 5) (f 6))))))] := hD
                refine lv_if_ne (pc := 108) (tgt := 114) hx hb dX6_stepsTo_108 (by decide) (fun cd23 => ?_) (fun cd23 => absurd cd23 (by decide))
                obtain ⟨x24, ex24⟩ : ∃ y : Int32, y = (nI i) + 1 := ⟨_, rfl⟩
                refine lv_iinc (pc := 114) (v := x24) (lv' := [(4, .int x24), (0, .ref mo), (1, .int tg), (2, .int 1), (3, .int 0)]) hx hb dX6_stepsTo_114 hl (k := 4) rfl (by rw [ex24]; rfl) (by decide) rfl (fun ls hl => ?_)
                refine lv_goto (pc := 117) (tgt := 57) hx hb dX6_stepsTo_117 (by decide) ?_
                rw [show x24 = nI (i + 1) from (ex24.trans (nadd rfl (nl 1)))] at hl
                exact ih  (i + 1) (by omega) (by omega) (by rw [hst, show 101 - i = (100 - i) + 1 by omega]; rw [stF_s, cif_f hnr9, cif_t hok, show 101 - (i + 1) = 100 - i by omega]; rfl) _ _ hP hD hS ls (lv_sub hl [1, 2, 3, 4, 0] rfl)
              · subst hr9
                obtain ⟨hP, hD⟩ := jn (wr := [(mo, .inr (6, [.ref ms, .ref mp, .int (nI np), .ref me, .ref mn, .long iv, .long lg, .long fg, .long hv])), (ms, .inl (g 0, 71, .inl f)), (mp, .inl (g 0, 284, .inl pa)), (me, .inl (g 0, 3, .inl ef))]) (w1 := [(mn, .inl (g 1, 5, .inr (.inl (e64 (pIt (f 5) (f 6) i (eR f))))))]) hP hD [4] [0, 1, 2, 3] rfl rfl (by decide) (by decide) hk1 hFc hP1 (d1 (Or.inl (by simp)))
                have hP : va_P D vwCl [(mo, .inr (6, [.ref ms, .ref mp, .int (nI np), .ref me, .ref mn, .long iv, .long lg, .long fg, .long hv])), (ms, .inl (g 0, 71, .inl f)), (mp, .inl (g 0, 284, .inl pa)), (me, .inl (g 0, 3, .inl ef)), (mn, .inl (g 1, 5, .inr (.inl (e64 (pIt (f 5) (f 6) i (eR f))))))] H := hP
                have hD : va_D (Aw [mo, ms, mp, me, mn] s.heap.size) [(mo, .inr (6, [.ref ms, .ref mp, .int (nI np), .ref me, .ref mn, .long iv, .long lg, .long fg, .long hv])), (ms, .inl (g 0, 71, .inl f)), (mp, .inl (g 0, 284, .inl pa)), (me, .inl (g 0, 3, .inl ef)), (mn, .inl (g 1, 5, .inr (.inl (e64 (pIt (f 5) (f 6) i (eR f))))))] := hD
                refine lv_if_ne (pc := 108) (tgt := 114) hx hb dX6_stepsTo_108 (by decide) (fun cd25 => absurd cd25 (by decide)) (fun cd25 => ?_)
                refine lv_ldc (pc := 111) (v := (-2000000001)) hx hb hown (hts _ q573) dX6_stepsTo_111 ?_
                have hq9 : (fun r H1 => ((inR (-40960000) 40960000 tg) ∧ r = stF (f 5) (f 6) (f 0) tg 101 0 (eR f) ∧ MDI D g H1 mo ms mp me mn np ef f pa) ∨ (¬ (inR (-40960000) 40960000 tg) ∧ r = -2000000002 ∧ MDI D g H1 mo ms mp me mn np (upd ef 0 (ef 0 + 1)) f pa) : Int32 → Heap → Prop) (-2000000001) H := Or.inl ⟨hck8, (by rw [hst, show 101 - i = (100 - i) + 1 by omega]; rw [stF_s, cif_f hnr9, cif_f hnok]), ⟨_, _, _, _, _, hP.sub [0, 1, 2, 3, 4] rfl⟩⟩
                exact W.iret (v := (-2000000001)) hx hb hr (fun t ht hW => ⟨⟨_, rfl, by rw [ht]; exact hq9⟩, hS.F ht⟩) hS.2.2 dX6_stepsTo_113
          · have hyr : rch (f 0) tg ((pIt (f 5) (f 6) i (eR f)) 0) := Or.inl ⟨hup, Int32.not_lt.mp (fun h => cd20 (lt64.mpr h))⟩
            refine lv_iload_n (pc := 73) hx hb dX6_stepsTo_73 rfl (lv_at hl 3 rfl) ?_
            refine lv_if_eq (pc := 74) (tgt := 120) hx hb dX6_stepsTo_74 (by decide) (fun cd26 => ?_) (fun cd26 => absurd cd26 (by decide))
            refine lv_iload (pc := 120) hx hb dX6_stepsTo_120 (lv_at hl 4 rfl) ?_
            have hq9 : (fun r H1 => ((inR (-40960000) 40960000 tg) ∧ r = stF (f 5) (f 6) (f 0) tg 101 0 (eR f) ∧ MDI D g H1 mo ms mp me mn np ef f pa) ∨ (¬ (inR (-40960000) 40960000 tg) ∧ r = -2000000002 ∧ MDI D g H1 mo ms mp me mn np (upd ef 0 (ef 0 + 1)) f pa) : Int32 → Heap → Prop) (nI i) H := Or.inl ⟨hck8, (by rw [hst, show 101 - i = (100 - i) + 1 by omega]; rw [stF_s, cif_t hyr]), ⟨_, _, _, _, _, hP.sub [0, 1, 2, 3, 4] rfl⟩⟩
            exact W.iret (v := nI i) hx hb hr (fun t ht hW => ⟨⟨_, rfl, by rw [ht]; exact hq9⟩, hS.F ht⟩) hS.2.2 dX6_stepsTo_122
      exact loop 101 0 (Nat.zero_le _) (by omega) rfl _ _ hP hD hS ls (lv_sub hl [3, 4, 2, 1, 0] rfl)
  · have hnk : ¬ (inR (-40960000) 40960000 tg) := fun h => (bI_eq (hr1.symm.trans cd2)) h
    refine lv_aload_n (pc := 11) hx hb dX6_stepsTo_11 rfl (lv_at hl 0 rfl) ?_
    refine lv_ldc (pc := 12) (v := (-2000000002)) hx hb hown (hts _ q614) dX6_stepsTo_12 ?_
    have hFc := awF (Lc := [me]) hD hS hA [3] rfl
    refine kI (pc := 14) (va_runV (As := [.int (-2000000002)]) (rest := []) ⟨hx, hb, hml, hown, hts⟩ (m6_fail l mo ms mp me mn np iv lg fg hv 0 ef (-2000000002) s.heap (hP.sub (ws' := [(me, .inl (g 0, 3, .inl ef))]) [3] rfl) (hP.sub (ws' := [(mo, .inr (6, [.ref ms, .ref mp, .int (nI np), .ref me, .ref mn, .long iv, .long lg, .long fg, .long hv]))]) [0] rfl) (ninW hD 0 [3] rfl rfl (by decide)) (by decide) (by decide)) (cwV 1 hts (lw_V q615 q617 qs8 q28 q618) rfl rfl rfl (by decide +kernel) ⟨Nat.le_of_ble_eq_true rfl, Nat.le_of_ble_eq_true rfl⟩) (preV hK (rcv hK hP 0 rfl rfl)) rfl rfl hl.1 rfl (lv_room (Nat.le_of_ble_eq_true rfl)) dX6_stepsTo_14 ⟨Nat.le_of_ble_eq_true rfl, Nat.le_of_ble_eq_true rfl⟩) hS hFc (fun r27 H locs hp9 hz1 hk1 hS => ?_)
    obtain ⟨hrc, hP1⟩ := hp9
    obtain ⟨hP, hD⟩ := jn (wr := [(mo, .inr (6, [.ref ms, .ref mp, .int (nI np), .ref me, .ref mn, .long iv, .long lg, .long fg, .long hv])), (ms, .inl (g 0, 71, .inl f)), (mp, .inl (g 0, 284, .inl pa)), (mn, .inl (g 1, 5, .inr (.inl nw)))]) (w1 := [(me, .inl (g 0, 3, .inl (upd ef 0 (ef 0 + 1))))]) hP hD [3] [0, 1, 2, 4] rfl rfl (by decide) (by decide) hk1 hFc hP1 (d1 (Or.inl (by simp)))
    have hP : va_P D vwCl [(mo, .inr (6, [.ref ms, .ref mp, .int (nI np), .ref me, .ref mn, .long iv, .long lg, .long fg, .long hv])), (ms, .inl (g 0, 71, .inl f)), (mp, .inl (g 0, 284, .inl pa)), (mn, .inl (g 1, 5, .inr (.inl nw))), (me, .inl (g 0, 3, .inl (upd ef 0 (ef 0 + 1))))] H := hP
    have hD : va_D (Aw [mo, ms, mp, me, mn] s.heap.size) [(mo, .inr (6, [.ref ms, .ref mp, .int (nI np), .ref me, .ref mn, .long iv, .long lg, .long fg, .long hv])), (ms, .inl (g 0, 71, .inl f)), (mp, .inl (g 0, 284, .inl pa)), (mn, .inl (g 1, 5, .inr (.inl nw))), (me, .inl (g 0, 3, .inl (upd ef 0 (ef 0 + 1))))] := hD
    have hq9 : (fun r H1 => ((inR (-40960000) 40960000 tg) ∧ r = stF (f 5) (f 6) (f 0) tg 101 0 (eR f) ∧ MDI D g H1 mo ms mp me mn np ef f pa) ∨ (¬ (inR (-40960000) 40960000 tg) ∧ r = -2000000002 ∧ MDI D g H1 mo ms mp me mn np (upd ef 0 (ef 0 + 1)) f pa) : Int32 → Heap → Prop) r27 H := Or.inr ⟨hnk, hrc, ⟨_, _, _, _, _, hP.sub [0, 1, 2, 4, 3] rfl⟩⟩
    exact W.iret (v := r27) hx hb hr (fun t ht hW => ⟨⟨_, rfl, by rw [ht]; exact hq9⟩, hS.F ht⟩) hS.2.2 dX6_stepsTo_17

abbrev rm_m6_cycles : Room := ({ frames := 3, cells := 0, slots := 0, locals := 91 })
set_option maxHeartbeats 4000000 in
set_option maxRecDepth 100000 in
theorem m6_cycles (l : Launch) {D : va_G} {g : Nat → ClassId} (mo ms mp me mn np : Nat) (iv lg fg hv : Int64) (f : Nat → Int32) (nw : Nat → Int64) (se : Nat) (sx : Int32) (H : Heap) (hP : va_P D vwCl [(mo, .inr (6, [.ref ms, .ref mp, .int (nI np), .ref me, .ref mn, .long iv, .long lg, .long fg, .long hv])), (mn, .inl (g 1, 5, .inr (.inl nw)))] H) (hN : [mo, mn].Nodup) (hms : va_P D vwCl [(ms, .inl (g 0, 71, .inl f))] H) (nhms : ms ∉ [mo, mn]) (hse : se < 4) (hsx : sx = nI se) (hro : RowOK f) : Met l yX6_cycles (ws_ yX6_cycles cX6_cycles 10 (some .int)) rm_m6_cycles (va_Pc [.ref mo, .int sx] (PH D g H)) (QI (fun r H1 => (syF (f 5) (f 6) (f (8 + se)) (f (12 + se)) 300 1 (eR f) = none ∧ r = -2000000001 ∧ ∃ (iv2 lg2 fg2 : Int64) (nw2 : Nat → Int64), va_P D vwCl [(mo, .inr (6, [.ref ms, .ref mp, .int (nI np), .ref me, .ref mn, .long iv2, .long lg2, .long fg2, .long hv])), (mn, .inl (g 1, 5, .inr (.inl nw2)))] H1) ∨ (∃ (y : Nat × (Nat → Int32)), syF (f 5) (f 6) (f (8 + se)) (f (12 + se)) 300 1 (eR f) = some y ∧ r = nI y.1 ∧ y.1 ≤ 300 ∧ ∃ (iv2 lg2 fg2 : Int64) (nw2 : Nat → Int64), Int64.toInt32 lg2 = y.2 6 ∧ Int64.toInt32 fg2 = y.2 7 ∧ va_P D vwCl [(mo, .inr (6, [.ref ms, .ref mp, .int (nI np), .ref me, .ref mn, .long iv2, .long lg2, .long fg2, .long hv])), (mn, .inl (g 1, 5, .inr (.inl nw2)))] H1)) (Aw [mo, mn] H.size)) 0 0 (Aw [mo, mn] H.size) := by
  refine Met.ofW (cc := cX6_cycles) (maxL := 10) (ret := (some .int)) (by decide) rfl ?_
  intro p e s m args below meth c s₁ B hml hv
  obtain ⟨rfl, hH, hK⟩ := hv
  subst hH
  have hx := B.exec
  have hb := B.bytes
  have hr := B.returns
  have hts := atoms_spec (ws := ws_ yX6_cycles cX6_cycles 10 (some .int)) B.pre
  have hts : ∀ w ∈ lw_all, w.before _ s = true := fun w h => hts w (List.mem_cons_of_mem _ h)
  have hown : s.vm.findClass RX6 = some m.cls := findClass_of_methodNamed B.named
  have hlocks := B.notSynchronized
  have hA : ∀ q, s.heap.size ≤ q → (Aw [mo, mn] s.heap.size) q := fun q h => Or.inr h
  have hS : va_S (Aw [mo, mn] s.heap.size) s.heap s.heap [] := va_S.rf
  have hD : va_D (Aw [mo, mn] s.heap.size) [(mo, .inr (6, [.ref ms, .ref mp, .int (nI np), .ref me, .ref mn, .long iv, .long lg, .long fg, .long hv])), (mn, .inl (g 1, 5, .inr (.inl nw)))] := dOf hN (fun q h => Or.inl h)
  have ahms : ¬ (Aw [mo, mn] s.heap.size) ms := naw nhms (hms 0 _ rfl).lt
  have hl := lv_entry ([.ref mo, .int sx]) (n := 10) (Nat.le_of_ble_eq_true rfl)
  rw [lg_entry_eq]
  generalize (lg_sl ([.ref mo, .int sx]) ++ List.replicate (10 - (lg_sl ([.ref mo, .int sx])).length) Slot.unset).toArray = ls at hl ⊢
  have hl : lv_has ls 10 [(0, .ref mo), (1, .int sx)] := hl
  refine lv_aload_n (pc := 0) hx hb dX6_cycles_0 rfl (lv_at hl 0 rfl) ?_
  have hFc := awF (Lc := [mn]) hD hS hA [1] rfl
  refine kV (pc := 1) (va_runV (As := []) (rest := []) ⟨hx, hb, hml, hown, hts⟩ (m6_take l mo ms mp me mn np iv lg fg hv f nw s.heap (hP.sub (ws' := [(mn, .inl (g 1, 5, .inr (.inl nw)))]) [1] rfl) (hP.sub (ws' := [(mo, .inr (6, [.ref ms, .ref mp, .int (nI np), .ref me, .ref mn, .long iv, .long lg, .long fg, .long hv]))]) [0] rfl) (ninW hD 0 [1] rfl rfl (by decide)) hms (ninL ahms (fun q h => hFc q (Or.inl h)))) (cwV 0 hts (lw_V q642 q644 qs10 q28 q645) rfl rfl rfl (by decide +kernel) ⟨Nat.le_of_ble_eq_true rfl, Nat.le_of_ble_eq_true rfl⟩) (preV hK (rcv hK hP 0 rfl rfl)) rfl rfl hl.1 rfl (lv_room (Nat.le_of_ble_eq_true rfl)) dX6_cycles_1 ⟨Nat.le_of_ble_eq_true rfl, Nat.le_of_ble_eq_true rfl⟩) hS hFc (fun H locs hp9 hz1 hk1 hS => ?_)
  have hP1 := hp9
  obtain ⟨hP, hD⟩ := jn (wr := [(mo, .inr (6, [.ref ms, .ref mp, .int (nI np), .ref me, .ref mn, .long iv, .long lg, .long fg, .long hv]))]) (w1 := [(mn, .inl (g 1, 5, .inr (.inl (e64 (eR f)))))]) hP hD [1] [0] rfl rfl (by decide) (by decide) hk1 hFc hP1 (d1 (Or.inl (by simp)))
  have hP : va_P D vwCl [(mo, .inr (6, [.ref ms, .ref mp, .int (nI np), .ref me, .ref mn, .long iv, .long lg, .long fg, .long hv])), (mn, .inl (g 1, 5, .inr (.inl (e64 (eR f)))))] H := hP
  have hD : va_D (Aw [mo, mn] s.heap.size) [(mo, .inr (6, [.ref ms, .ref mp, .int (nI np), .ref me, .ref mn, .long iv, .long lg, .long fg, .long hv])), (mn, .inl (g 1, 5, .inr (.inl (e64 (eR f)))))] := hD
  refine lv_iconst (pc := 4) (v := 1) hx hb dX6_cycles_4 (by decide) ?_
  refine lv_istore_n (pc := 5) (lv' := [(2, .int 1), (0, .ref mo), (1, .int sx)]) hx hb dX6_cycles_5 rfl hl (by decide) rfl (fun ls hl => ?_)
  have loop : ∀ (n : Nat) (i : Nat) (u : Nat → Int32) (iv1 lg1 fg1 : Int64), (1 ≤ i ∧ i ≤ 301) → (302 ≤ i + n) → (EstOK u) → (syF (f 5) (f 6) (f (8 + se)) (f (12 + se)) 300 1 (eR f) = syF (f 5) (f 6) (f (8 + se)) (f (12 + se)) (301 - i) i u) → ∀ (H : Heap) (locs : List Loc), va_P D vwCl [(mo, .inr (6, [.ref ms, .ref mp, .int (nI np), .ref me, .ref mn, .long iv1, .long lg1, .long fg1, .long hv])), (mn, .inl (g 1, 5, .inr (.inl (e64 u))))] H → va_D (Aw [mo, mn] s.heap.size) [(mo, .inr (6, [.ref ms, .ref mp, .int (nI np), .ref me, .ref mn, .long iv1, .long lg1, .long fg1, .long hv])), (mn, .inl (g 1, 5, .inr (.inl (e64 u))))] → va_S (Aw [mo, mn] s.heap.size) s.heap H locs → ∀ (ls : Array Slot), lv_has ls 10 [(0, .ref mo), (1, .int sx), (2, .int (nI i))] → W p l e (headSpec (ws_ yX6_cycles cX6_cycles 10 (some .int)) rm_m6_cycles).room s m ([.ref mo, .int sx] : List Value).toArray below meth c H locs 0 0 (MQ below (QI (fun r H1 => (syF (f 5) (f 6) (f (8 + se)) (f (12 + se)) 300 1 (eR f) = none ∧ r = -2000000001 ∧ ∃ (iv2 lg2 fg2 : Int64) (nw2 : Nat → Int64), va_P D vwCl [(mo, .inr (6, [.ref ms, .ref mp, .int (nI np), .ref me, .ref mn, .long iv2, .long lg2, .long fg2, .long hv])), (mn, .inl (g 1, 5, .inr (.inl nw2)))] H1) ∨ (∃ (y : Nat × (Nat → Int32)), syF (f 5) (f 6) (f (8 + se)) (f (12 + se)) 300 1 (eR f) = some y ∧ r = nI y.1 ∧ y.1 ≤ 300 ∧ ∃ (iv2 lg2 fg2 : Int64) (nw2 : Nat → Int64), Int64.toInt32 lg2 = y.2 6 ∧ Int64.toInt32 fg2 = y.2 7 ∧ va_P D vwCl [(mo, .inr (6, [.ref ms, .ref mp, .int (nI np), .ref me, .ref mn, .long iv2, .long lg2, .long fg2, .long hv])), (mn, .inl (g 1, 5, .inr (.inl nw2)))] H1)) (Aw [mo, mn] s.heap.size)) ([.ref mo, .int sx] : List Value).toArray s 0 0 (Aw [mo, mn] s.heap.size)) (F0 m 6 ls []) := by
    intro n
    induction n with
    | zero =>
      intro i u iv1 lg1 fg1 hi hfu hEu hst
      exact absurd (show _ by assumption) (by omega)
    | succ n ih =>
      intro i u iv1 lg1 fg1 hi hfu hEu hst H locs hP hD hS ls hl
      refine lv_iload_n (pc := 6) hx hb dX6_cycles_6 rfl (lv_at hl 2 rfl) ?_
      refine lv_sipush (pc := 7) (v := 300) hx hb dX6_cycles_7 (by decide) ?_
      refine lv_icmp_gt (pc := 10) (tgt := 140) hx hb dX6_cycles_10 (by decide) (fun cd2 => ?_) (fun cd2 => ?_)
      · have ncd2 : 300 < i := (nlt (nl 300) rfl (by omega) (by omega)).mp cd2
        refine lv_ldc (pc := 140) (v := (-2000000001)) hx hb hown (hts _ q573) dX6_cycles_140 ?_
        have hq9 : (fun r H1 => (syF (f 5) (f 6) (f (8 + se)) (f (12 + se)) 300 1 (eR f) = none ∧ r = -2000000001 ∧ ∃ (iv2 lg2 fg2 : Int64) (nw2 : Nat → Int64), va_P D vwCl [(mo, .inr (6, [.ref ms, .ref mp, .int (nI np), .ref me, .ref mn, .long iv2, .long lg2, .long fg2, .long hv])), (mn, .inl (g 1, 5, .inr (.inl nw2)))] H1) ∨ (∃ (y : Nat × (Nat → Int32)), syF (f 5) (f 6) (f (8 + se)) (f (12 + se)) 300 1 (eR f) = some y ∧ r = nI y.1 ∧ y.1 ≤ 300 ∧ ∃ (iv2 lg2 fg2 : Int64) (nw2 : Nat → Int64), Int64.toInt32 lg2 = y.2 6 ∧ Int64.toInt32 fg2 = y.2 7 ∧ va_P D vwCl [(mo, .inr (6, [.ref ms, .ref mp, .int (nI np), .ref me, .ref mn, .long iv2, .long lg2, .long fg2, .long hv])), (mn, .inl (g 1, 5, .inr (.inl nw2)))] H1) : Int32 → Heap → Prop) (-2000000001) H := Or.inl ⟨by rw [hst, show 301 - i = 0 by omega]; rfl, rfl, _, _, _, _, hP.sub [0, 1] rfl⟩
        exact W.iret (v := (-2000000001)) hx hb hr (fun t ht hW => ⟨⟨_, rfl, by rw [ht]; exact hq9⟩, hS.F ht⟩) hS.2.2 dX6_cycles_142
      · have ncd2 : ¬ 300 < i := fun h => cd2 ((nlt (nl 300) rfl (by omega) (by omega)).mpr h)
        refine lv_aload_n (pc := 13) hx hb dX6_cycles_13 rfl (lv_at hl 0 rfl) ?_
        refine va_get (pc := 14) (D := D) (ci := 6) (v := .ref mn) (C := RX6) (T := TX6) (N := 9) hx hb hts in_X6 hown hK.1 hP 0 rfl rfl 4 (by decide) (hts _ q578) (fun _ h9 => h9) rfl dX6_cycles_14 ?_
        refine lv_iconst (pc := 17) (v := 2) hx hb dX6_cycles_17 (by decide) ?_
        refine la_ld (pc := 18) hx hb hK.1 hP 1 1 2 rfl rfl (nl 2) (Nat.le_of_ble_eq_true rfl) (Nat.le_of_ble_eq_true rfl) dX6_cycles_18 ?_
        refine lv_topl (fun z3 ez3 => ?_)
        refine lv_lstore_n (pc := 19) (lv' := [(3, .long z3), (0, .ref mo), (1, .int sx), (2, .int (nI i))]) hx hb dX6_cycles_19 rfl hl (by decide) rfl (fun ls hl => ?_)
        refine lv_aload_n (pc := 20) hx hb dX6_cycles_20 rfl (lv_at hl 1 rfl) ?_
        refine va_get (pc := 21) (D := D) (ci := 6) (v := .ref mn) (C := RX6) (T := TX6) (N := 9) hx hb hts in_X6 hown hK.1 hP 0 rfl rfl 4 (by decide) (hts _ q578) (fun _ h9 => h9) rfl dX6_cycles_21 ?_
        refine lv_iconst (pc := 24) (v := 3) hx hb dX6_cycles_24 (by decide) ?_
        refine la_ld (pc := 25) hx hb hK.1 hP 1 1 3 rfl rfl (nl 3) (Nat.le_of_ble_eq_true rfl) (Nat.le_of_ble_eq_true rfl) dX6_cycles_25 ?_
        refine lv_topl (fun z4 ez4 => ?_)
        refine lv_lstore (pc := 26) (lv' := [(5, .long z4), (3, .long z3), (0, .ref mo), (1, .int sx), (2, .int (nI i))]) hx hb dX6_cycles_26 hl (by decide) rfl (fun ls hl => ?_)
        refine lv_aload_n (pc := 28) hx hb dX6_cycles_28 rfl (lv_at hl 2 rfl) ?_
        refine va_get (pc := 29) (D := D) (ci := 6) (v := .ref mn) (C := RX6) (T := TX6) (N := 9) hx hb hts in_X6 hown hK.1 hP 0 rfl rfl 4 (by decide) (hts _ q578) (fun _ h9 => h9) rfl dX6_cycles_29 ?_
        refine lv_iconst (pc := 32) (v := 4) hx hb dX6_cycles_32 (by decide) ?_
        refine la_ld (pc := 33) hx hb hK.1 hP 1 1 4 rfl rfl (nl 4) (Nat.le_of_ble_eq_true rfl) (Nat.le_of_ble_eq_true rfl) dX6_cycles_33 ?_
        refine lv_topl (fun z5 ez5 => ?_)
        refine lv_lstore (pc := 34) (lv' := [(7, .long z5), (5, .long z4), (3, .long z3), (0, .ref mo), (1, .int sx), (2, .int (nI i))]) hx hb dX6_cycles_34 hl (by decide) rfl (fun ls hl => ?_)
        refine lv_aload_n (pc := 36) hx hb dX6_cycles_36 rfl (lv_at hl 3 rfl) ?_
        refine lv_iconst (pc := 37) (v := 0) hx hb dX6_cycles_37 (by decide) ?_
        refine lv_aload_n (pc := 38) hx hb dX6_cycles_38 rfl (lv_at hl 3 rfl) ?_
        refine va_get (pc := 39) (D := D) (ci := 6) (v := .ref ms) (C := RX6) (T := TX6) (N := 9) hx hb hts in_X6 hown hK.1 hP 0 rfl rfl 0 (by decide) (hts _ q574) (fun _ h9 => h9) rfl dX6_cycles_39 ?_
        refine lv_bipush (pc := 42) (v := 6) hx hb dX6_cycles_42 (by decide) ?_
        refine ia_ld (pc := 44) hx hb hK.1 (ro_at hS hms ahms) 0 0 6 rfl rfl (nl 6) (Nat.le_of_ble_eq_true rfl) (Nat.le_of_ble_eq_true rfl) dX6_cycles_44 ?_
        have hFc := awF (Lc := [mn]) hD hS hA [1] rfl
        refine kI (pc := 45) (va_runV (As := [.int 0, .int (f 6)]) (rest := []) ⟨hx, hb, hml, hown, hts⟩ (m6_predicts l mo ms mp me mn np iv1 lg1 fg1 hv f u 0 (f 6) H (hP.sub (ws' := [(mn, .inl (g 1, 5, .inr (.inl (e64 u))))]) [1] rfl) (hP.sub (ws' := [(mo, .inr (6, [.ref ms, .ref mp, .int (nI np), .ref me, .ref mn, .long iv1, .long lg1, .long fg1, .long hv]))]) [0] rfl) (ninW hD 0 [1] rfl rfl (by decide)) (ro_at hS hms ahms) (ninL ahms (fun q h => hFc q (Or.inl h)))) (cwV 2 hts (lw_V q646 q648 qs11 q28 q649) rfl rfl rfl (by decide +kernel) ⟨Nat.le_of_ble_eq_true rfl, Nat.le_of_ble_eq_true rfl⟩) (preV hK (rcv hK hP 0 rfl rfl)) rfl rfl hl.1 rfl (lv_room (Nat.le_of_ble_eq_true rfl)) dX6_cycles_45 ⟨Nat.le_of_ble_eq_true rfl, Nat.le_of_ble_eq_true rfl⟩) hS hFc (fun r6 H locs hp9 hz1 hk1 hS => ?_)
        rcases hp9 with ⟨hok, hr9, hP1⟩ | ⟨hnok, hr9, hP1⟩
        · subst hr9
          obtain ⟨hP, hD⟩ := jn (wr := [(mo, .inr (6, [.ref ms, .ref mp, .int (nI np), .ref me, .ref mn, .long iv1, .long lg1, .long fg1, .long hv]))]) (w1 := [(mn, .inl (g 1, 5, .inr (.inl (e64 (pE u 0 (f 5) (f 6))))))]) hP hD [1] [0] rfl rfl (by decide) (by decide) hk1 hFc hP1 (d1 (Or.inl (by simp)))
          have hP : va_P D vwCl [(mo, .inr (6, [.ref ms, .ref mp, .int (nI np), .ref me, .ref mn, .long iv1, .long lg1, .long fg1, .long hv])), (mn, .inl (g 1, 5, .inr (.inl (e64 (pE u 0 (f 5) (f 6))))))] H := hP
          have hD : va_D (Aw [mo, mn] s.heap.size) [(mo, .inr (6, [.ref ms, .ref mp, .int (nI np), .ref me, .ref mn, .long iv1, .long lg1, .long fg1, .long hv])), (mn, .inl (g 1, 5, .inr (.inl (e64 (pE u 0 (f 5) (f 6))))))] := hD
          refine lv_if_ne (pc := 48) (tgt := 54) hx hb dX6_cycles_48 (by decide) (fun cd7 => ?_) (fun cd7 => absurd cd7 (by decide))
          refine lv_aload_n (pc := 54) hx hb dX6_cycles_54 rfl (lv_at hl 3 rfl) ?_
          refine lv_iload_n (pc := 55) hx hb dX6_cycles_55 rfl (lv_at hl 4 rfl) ?_
          refine lv_aload_n (pc := 56) hx hb dX6_cycles_56 rfl (lv_at hl 3 rfl) ?_
          refine va_get (pc := 57) (D := D) (ci := 6) (v := .ref ms) (C := RX6) (T := TX6) (N := 9) hx hb hts in_X6 hown hK.1 hP 0 rfl rfl 0 (by decide) (hts _ q574) (fun _ h9 => h9) rfl dX6_cycles_57 ?_
          refine lv_bipush (pc := 60) (v := 8) hx hb dX6_cycles_60 (by decide) ?_
          refine lv_iload_n (pc := 62) hx hb dX6_cycles_62 rfl (lv_at hl 4 rfl) ?_
          refine lv_iadd (pc := 63) hx hb dX6_cycles_63 ?_
          refine ia_ld (pc := 64) hx hb hK.1 (ro_at hS hms ahms) 0 0 (8 + se) rfl rfl (nadd (nl 8) hsx) (by omega) (Nat.le_of_ble_eq_true rfl) dX6_cycles_64 ?_
          refine lv_if_ne (pc := 65) (tgt := 77) hx hb dX6_cycles_65 (by decide) (fun cd8 => ?_) (fun cd8 => ?_)
          · refine lv_aload_n (pc := 77) hx hb dX6_cycles_77 rfl (lv_at hl 3 rfl) ?_
            refine va_get (pc := 78) (D := D) (ci := 6) (v := .ref mn) (C := RX6) (T := TX6) (N := 9) hx hb hts in_X6 hown hK.1 hP 0 rfl rfl 4 (by decide) (hts _ q578) (fun _ h9 => h9) rfl dX6_cycles_78 ?_
            refine lv_iconst (pc := 81) (v := 1) hx hb dX6_cycles_81 (by decide) ?_
            refine la_ld (pc := 82) hx hb hK.1 hP 1 1 1 rfl rfl (nl 1) (Nat.le_of_ble_eq_true rfl) (Nat.le_of_ble_eq_true rfl) dX6_cycles_82 ?_
            have hmsr : ((e64 (pE u 0 (f 5) (f 6))) 1) = Int32.toInt64 (msr (f (8 + se)) (pE u 0 (f 5) (f 6))) := (congrArg Int32.toInt64 (show msr (f (8 + se)) (pE u 0 (f 5) (f 6)) = _ from if_neg cd8)).symm
            rw [hmsr]
            refine lv_iconst (pc := 83) (v := 0) hx hb dX6_cycles_83 (by decide) ?_
            have hFc := awF (Lc := [mo, mn]) hD hS hA [0, 1] rfl
            refine kI (pc := 84) (va_runV (As := [.int sx, .long (Int32.toInt64 (msr (f (8 + se)) (pE u 0 (f 5) (f 6)))), .int 0]) (rest := []) ⟨hx, hb, hml, hown, hts⟩ (m6_corrects l mo ms mp me mn np iv1 lg1 fg1 hv f (pE u 0 (f 5) (f 6)) se sx (msr (f (8 + se)) (pE u 0 (f 5) (f 6))) 0 H (hP.sub (ws' := [(mo, .inr (6, [.ref ms, .ref mp, .int (nI np), .ref me, .ref mn, .long iv1, .long lg1, .long fg1, .long hv])), (mn, .inl (g 1, 5, .inr (.inl (e64 (pE u 0 (f 5) (f 6))))))]) [0, 1] rfl) (nodupW hD [0, 1] rfl (by decide)) (ro_at hS hms ahms) (ninL ahms (fun q h => hFc q (Or.inl h))) hse hsx (pE_ok hEu hro.2.2.1 hok) (hro.2.2.2.2.1 se hse).2) (cwV 3 hts (lw_V q669 q671 qs14 q28 q672) rfl rfl rfl (by decide +kernel) ⟨Nat.le_of_ble_eq_true rfl, Nat.le_of_ble_eq_true rfl⟩) (preV hK (rcv hK hP 0 rfl rfl)) rfl rfl hl.1 rfl (lv_room (Nat.le_of_ble_eq_true rfl)) dX6_cycles_84 ⟨Nat.le_of_ble_eq_true rfl, Nat.le_of_ble_eq_true rfl⟩) hS hFc (fun r9 H locs hp9 hz1 hk1 hS => ?_)
            rcases hp9 with ⟨hrj, hr9, hP1⟩ | ⟨_, hnco, hr9, hP1⟩ | ⟨_, hco, hr9, hP1⟩
            · exact absurd rfl hrj.1
            · subst hr9
              obtain ⟨hP, hD⟩ := jn (wr := []) (w1 := [(mo, .inr (6, [.ref ms, .ref mp, .int (nI np), .ref me, .ref mn, .long (cY (e64 (pE u 0 (f 5) (f 6))) (f (8 + se)) (Int32.toInt64 (msr (f (8 + se)) (pE u 0 (f 5) (f 6))))), .long lg1, .long fg1, .long hv])), (mn, .inl (g 1, 5, .inr (.inl (e64 (pE u 0 (f 5) (f 6))))))]) hP hD [0, 1] [] rfl rfl (by decide) (by decide) hk1 hFc hP1 (dOf (nodupW hD [0, 1] rfl (by decide)) (fun q h => Or.inl h))
              have hP : va_P D vwCl [(mo, .inr (6, [.ref ms, .ref mp, .int (nI np), .ref me, .ref mn, .long (cY (e64 (pE u 0 (f 5) (f 6))) (f (8 + se)) (Int32.toInt64 (msr (f (8 + se)) (pE u 0 (f 5) (f 6))))), .long lg1, .long fg1, .long hv])), (mn, .inl (g 1, 5, .inr (.inl (e64 (pE u 0 (f 5) (f 6))))))] H := hP
              have hD : va_D (Aw [mo, mn] s.heap.size) [(mo, .inr (6, [.ref ms, .ref mp, .int (nI np), .ref me, .ref mn, .long (cY (e64 (pE u 0 (f 5) (f 6))) (f (8 + se)) (Int32.toInt64 (msr (f (8 + se)) (pE u 0 (f 5) (f 6))))), .long lg1, .long fg1, .long hv])), (mn, .inl (g 1, 5, .inr (.inl (e64 (pE u 0 (f 5) (f 6))))))] := hD
              refine lv_istore (pc := 87) (lv' := [(9, .int (-1)), (7, .long z5), (5, .long z4), (3, .long z3), (0, .ref mo), (1, .int sx), (2, .int (nI i))]) hx hb dX6_cycles_87 hl (by decide) rfl (fun ls hl => ?_)
              refine lv_iload (pc := 89) hx hb dX6_cycles_89 (lv_at hl 0 rfl) ?_
              refine lv_if_ge (pc := 91) (tgt := 97) hx hb dX6_cycles_91 (by decide) (fun cd10 => absurd cd10 (by decide)) (fun cd10 => ?_)
              refine lv_ldc (pc := 94) (v := (-2000000001)) hx hb hown (hts _ q573) dX6_cycles_94 ?_
              have hq9 : (fun r H1 => (syF (f 5) (f 6) (f (8 + se)) (f (12 + se)) 300 1 (eR f) = none ∧ r = -2000000001 ∧ ∃ (iv2 lg2 fg2 : Int64) (nw2 : Nat → Int64), va_P D vwCl [(mo, .inr (6, [.ref ms, .ref mp, .int (nI np), .ref me, .ref mn, .long iv2, .long lg2, .long fg2, .long hv])), (mn, .inl (g 1, 5, .inr (.inl nw2)))] H1) ∨ (∃ (y : Nat × (Nat → Int32)), syF (f 5) (f 6) (f (8 + se)) (f (12 + se)) 300 1 (eR f) = some y ∧ r = nI y.1 ∧ y.1 ≤ 300 ∧ ∃ (iv2 lg2 fg2 : Int64) (nw2 : Nat → Int64), Int64.toInt32 lg2 = y.2 6 ∧ Int64.toInt32 fg2 = y.2 7 ∧ va_P D vwCl [(mo, .inr (6, [.ref ms, .ref mp, .int (nI np), .ref me, .ref mn, .long iv2, .long lg2, .long fg2, .long hv])), (mn, .inl (g 1, 5, .inr (.inl nw2)))] H1) : Int32 → Heap → Prop) (-2000000001) H := Or.inl ⟨by rw [hst, show 301 - i = (300 - i) + 1 by omega]; rw [syF_s, cif_t hok, cif_f hnco], rfl, _, _, _, _, hP.sub [0, 1] rfl⟩
              exact W.iret (v := (-2000000001)) hx hb hr (fun t ht hW => ⟨⟨_, rfl, by rw [ht]; exact hq9⟩, hS.F ht⟩) hS.2.2 dX6_cycles_96
            · subst hr9
              obtain ⟨hP, hD⟩ := jn (wr := []) (w1 := [(mo, .inr (6, [.ref ms, .ref mp, .int (nI np), .ref me, .ref mn, .long (cY (e64 (pE u 0 (f 5) (f 6))) (f (8 + se)) (Int32.toInt64 (msr (f (8 + se)) (pE u 0 (f 5) (f 6))))), .long (cK (e64 (pE u 0 (f 5) (f 6))) (f (8 + se)) (f (12 + se)).toInt64), .long (cL (e64 (pE u 0 (f 5) (f 6))) (f (8 + se)) (f (12 + se)).toInt64), .long hv])), (mn, .inl (g 1, 5, .inr (.inl (e64 (cE (pE u 0 (f 5) (f 6)) (f (8 + se)) (f (12 + se)) (msr (f (8 + se)) (pE u 0 (f 5) (f 6))))))))]) hP hD [0, 1] [] rfl rfl (by decide) (by decide) hk1 hFc hP1 (dOf (nodupW hD [0, 1] rfl (by decide)) (fun q h => Or.inl h))
              have hP : va_P D vwCl [(mo, .inr (6, [.ref ms, .ref mp, .int (nI np), .ref me, .ref mn, .long (cY (e64 (pE u 0 (f 5) (f 6))) (f (8 + se)) (Int32.toInt64 (msr (f (8 + se)) (pE u 0 (f 5) (f 6))))), .long (cK (e64 (pE u 0 (f 5) (f 6))) (f (8 + se)) (f (12 + se)).toInt64), .long (cL (e64 (pE u 0 (f 5) (f 6))) (f (8 + se)) (f (12 + se)).toInt64), .long hv])), (mn, .inl (g 1, 5, .inr (.inl (e64 (cE (pE u 0 (f 5) (f 6)) (f (8 + se)) (f (12 + se)) (msr (f (8 + se)) (pE u 0 (f 5) (f 6))))))))] H := hP
              have hD : va_D (Aw [mo, mn] s.heap.size) [(mo, .inr (6, [.ref ms, .ref mp, .int (nI np), .ref me, .ref mn, .long (cY (e64 (pE u 0 (f 5) (f 6))) (f (8 + se)) (Int32.toInt64 (msr (f (8 + se)) (pE u 0 (f 5) (f 6))))), .long (cK (e64 (pE u 0 (f 5) (f 6))) (f (8 + se)) (f (12 + se)).toInt64), .long (cL (e64 (pE u 0 (f 5) (f 6))) (f (8 + se)) (f (12 + se)).toInt64), .long hv])), (mn, .inl (g 1, 5, .inr (.inl (e64 (cE (pE u 0 (f 5) (f 6)) (f (8 + se)) (f (12 + se)) (msr (f (8 + se)) (pE u 0 (f 5) (f 6))))))))] := hD
              refine lv_istore (pc := 87) (lv' := [(9, .int 1), (7, .long z5), (5, .long z4), (3, .long z3), (0, .ref mo), (1, .int sx), (2, .int (nI i))]) hx hb dX6_cycles_87 hl (by decide) rfl (fun ls hl => ?_)
              refine lv_iload (pc := 89) hx hb dX6_cycles_89 (lv_at hl 0 rfl) ?_
              refine lv_if_ge (pc := 91) (tgt := 97) hx hb dX6_cycles_91 (by decide) (fun cd11 => ?_) (fun cd11 => absurd cd11 (by decide))
              refine lv_aload_n (pc := 97) hx hb dX6_cycles_97 rfl (lv_at hl 4 rfl) ?_
              refine va_get (pc := 98) (D := D) (ci := 6) (v := .ref mn) (C := RX6) (T := TX6) (N := 9) hx hb hts in_X6 hown hK.1 hP 0 rfl rfl 4 (by decide) (hts _ q578) (fun _ h9 => h9) rfl dX6_cycles_98 ?_
              refine lv_iconst (pc := 101) (v := 2) hx hb dX6_cycles_101 (by decide) ?_
              refine la_ld (pc := 102) hx hb hK.1 hP 1 1 2 rfl rfl (nl 2) (Nat.le_of_ble_eq_true rfl) (Nat.le_of_ble_eq_true rfl) dX6_cycles_102 ?_
              refine lv_lload_n (pc := 103) hx hb dX6_cycles_103 rfl (lv_at hl 3 rfl) ?_
              refine lq_ne (pc := 104) (tgt := 134) hx hb dX6_cycles_104 dX6_cycles_105 (by decide) (fun cd12 => ?_) (fun cd12 => ?_)
              · obtain ⟨x13, ex13⟩ : ∃ y : Int32, y = (nI i) + 1 := ⟨_, rfl⟩
                refine lv_iinc (pc := 134) (v := x13) (lv' := [(2, .int x13), (9, .int 1), (7, .long z5), (5, .long z4), (3, .long z3), (0, .ref mo), (1, .int sx)]) hx hb dX6_cycles_134 hl (k := 6) rfl (by rw [ex13]; rfl) (by decide) rfl (fun ls hl => ?_)
                refine lv_goto (pc := 137) (tgt := 6) hx hb dX6_cycles_137 (by decide) ?_
                rw [show x13 = nI (i + 1) from (ex13.trans (nadd rfl (nl 1)))] at hl
                exact ih  (i + 1) (cE (pE u 0 (f 5) (f 6)) (f (8 + se)) (f (12 + se)) (msr (f (8 + se)) (pE u 0 (f 5) (f 6)))) _ _ _ (by omega) (by omega) (cE_ok hco) (by rw [hst, show 301 - i = (300 - i) + 1 by omega]; rw [syF_s, cif_t hok, cif_t hco, cif_f (show ¬ ((cE (pE u 0 (f 5) (f 6)) (f (8 + se)) (f (12 + se)) (msr (f (8 + se)) (pE u 0 (f 5) (f 6)))) 2 = u 2 ∧ (cE (pE u 0 (f 5) (f 6)) (f (8 + se)) (f (12 + se)) (msr (f (8 + se)) (pE u 0 (f 5) (f 6)))) 3 = u 3 ∧ (cE (pE u 0 (f 5) (f 6)) (f (8 + se)) (f (12 + se)) (msr (f (8 + se)) (pE u 0 (f 5) (f 6)))) 4 = u 4) from fun h => cd12 (by rw [ez3]; exact inj64.mpr h.1)), show 301 - (i + 1) = 300 - i by omega]) _ _ hP hD hS ls (lv_sub hl [5, 6, 0] rfl)
              · have hq2 : (cE (pE u 0 (f 5) (f 6)) (f (8 + se)) (f (12 + se)) (msr (f (8 + se)) (pE u 0 (f 5) (f 6)))) 2 = u 2 := inj64.mp (by rw [ez3] at cd12; exact cd12)
                refine lv_aload_n (pc := 108) hx hb dX6_cycles_108 rfl (lv_at hl 4 rfl) ?_
                refine va_get (pc := 109) (D := D) (ci := 6) (v := .ref mn) (C := RX6) (T := TX6) (N := 9) hx hb hts in_X6 hown hK.1 hP 0 rfl rfl 4 (by decide) (hts _ q578) (fun _ h9 => h9) rfl dX6_cycles_109 ?_
                refine lv_iconst (pc := 112) (v := 3) hx hb dX6_cycles_112 (by decide) ?_
                refine la_ld (pc := 113) hx hb hK.1 hP 1 1 3 rfl rfl (nl 3) (Nat.le_of_ble_eq_true rfl) (Nat.le_of_ble_eq_true rfl) dX6_cycles_113 ?_
                refine lv_lload (pc := 114) hx hb dX6_cycles_114 (lv_at hl 2 rfl) ?_
                refine lq_ne (pc := 116) (tgt := 134) hx hb dX6_cycles_116 dX6_cycles_117 (by decide) (fun cd14 => ?_) (fun cd14 => ?_)
                · obtain ⟨x15, ex15⟩ : ∃ y : Int32, y = (nI i) + 1 := ⟨_, rfl⟩
                  refine lv_iinc (pc := 134) (v := x15) (lv' := [(2, .int x15), (9, .int 1), (7, .long z5), (5, .long z4), (3, .long z3), (0, .ref mo), (1, .int sx)]) hx hb dX6_cycles_134 hl (k := 6) rfl (by rw [ex15]; rfl) (by decide) rfl (fun ls hl => ?_)
                  refine lv_goto (pc := 137) (tgt := 6) hx hb dX6_cycles_137 (by decide) ?_
                  rw [show x15 = nI (i + 1) from (ex15.trans (nadd rfl (nl 1)))] at hl
                  exact ih  (i + 1) (cE (pE u 0 (f 5) (f 6)) (f (8 + se)) (f (12 + se)) (msr (f (8 + se)) (pE u 0 (f 5) (f 6)))) _ _ _ (by omega) (by omega) (cE_ok hco) (by rw [hst, show 301 - i = (300 - i) + 1 by omega]; rw [syF_s, cif_t hok, cif_t hco, cif_f (show ¬ ((cE (pE u 0 (f 5) (f 6)) (f (8 + se)) (f (12 + se)) (msr (f (8 + se)) (pE u 0 (f 5) (f 6)))) 2 = u 2 ∧ (cE (pE u 0 (f 5) (f 6)) (f (8 + se)) (f (12 + se)) (msr (f (8 + se)) (pE u 0 (f 5) (f 6)))) 3 = u 3 ∧ (cE (pE u 0 (f 5) (f 6)) (f (8 + se)) (f (12 + se)) (msr (f (8 + se)) (pE u 0 (f 5) (f 6)))) 4 = u 4) from fun h => cd14 (by rw [ez4]; exact inj64.mpr h.2.1)), show 301 - (i + 1) = 300 - i by omega]) _ _ hP hD hS ls (lv_sub hl [5, 6, 0] rfl)
                · have hq3 : (cE (pE u 0 (f 5) (f 6)) (f (8 + se)) (f (12 + se)) (msr (f (8 + se)) (pE u 0 (f 5) (f 6)))) 3 = u 3 := inj64.mp (by rw [ez4] at cd14; exact cd14)
                  refine lv_aload_n (pc := 120) hx hb dX6_cycles_120 rfl (lv_at hl 4 rfl) ?_
                  refine va_get (pc := 121) (D := D) (ci := 6) (v := .ref mn) (C := RX6) (T := TX6) (N := 9) hx hb hts in_X6 hown hK.1 hP 0 rfl rfl 4 (by decide) (hts _ q578) (fun _ h9 => h9) rfl dX6_cycles_121 ?_
                  refine lv_iconst (pc := 124) (v := 4) hx hb dX6_cycles_124 (by decide) ?_
                  refine la_ld (pc := 125) hx hb hK.1 hP 1 1 4 rfl rfl (nl 4) (Nat.le_of_ble_eq_true rfl) (Nat.le_of_ble_eq_true rfl) dX6_cycles_125 ?_
                  refine lv_lload (pc := 126) hx hb dX6_cycles_126 (lv_at hl 1 rfl) ?_
                  refine lq_ne (pc := 128) (tgt := 134) hx hb dX6_cycles_128 dX6_cycles_129 (by decide) (fun cd16 => ?_) (fun cd16 => ?_)
                  · obtain ⟨x17, ex17⟩ : ∃ y : Int32, y = (nI i) + 1 := ⟨_, rfl⟩
                    refine lv_iinc (pc := 134) (v := x17) (lv' := [(2, .int x17), (9, .int 1), (7, .long z5), (5, .long z4), (3, .long z3), (0, .ref mo), (1, .int sx)]) hx hb dX6_cycles_134 hl (k := 6) rfl (by rw [ex17]; rfl) (by decide) rfl (fun ls hl => ?_)
                    refine lv_goto (pc := 137) (tgt := 6) hx hb dX6_cycles_137 (by decide) ?_
                    rw [show x17 = nI (i + 1) from (ex17.trans (nadd rfl (nl 1)))] at hl
                    exact ih  (i + 1) (cE (pE u 0 (f 5) (f 6)) (f (8 + se)) (f (12 + se)) (msr (f (8 + se)) (pE u 0 (f 5) (f 6)))) _ _ _ (by omega) (by omega) (cE_ok hco) (by rw [hst, show 301 - i = (300 - i) + 1 by omega]; rw [syF_s, cif_t hok, cif_t hco, cif_f (show ¬ ((cE (pE u 0 (f 5) (f 6)) (f (8 + se)) (f (12 + se)) (msr (f (8 + se)) (pE u 0 (f 5) (f 6)))) 2 = u 2 ∧ (cE (pE u 0 (f 5) (f 6)) (f (8 + se)) (f (12 + se)) (msr (f (8 + se)) (pE u 0 (f 5) (f 6)))) 3 = u 3 ∧ (cE (pE u 0 (f 5) (f 6)) (f (8 + se)) (f (12 + se)) (msr (f (8 + se)) (pE u 0 (f 5) (f 6)))) 4 = u 4) from fun h => cd16 (by rw [ez5]; exact inj64.mpr h.2.2)), show 301 - (i + 1) = 300 - i by omega]) _ _ hP hD hS ls (lv_sub hl [5, 6, 0] rfl)
                  · have hq4 : (cE (pE u 0 (f 5) (f 6)) (f (8 + se)) (f (12 + se)) (msr (f (8 + se)) (pE u 0 (f 5) (f 6)))) 4 = u 4 := inj64.mp (by rw [ez5] at cd16; exact cd16)
                    refine lv_iload_n (pc := 132) hx hb dX6_cycles_132 rfl (lv_at hl 6 rfl) ?_
                    have hq9 : (fun r H1 => (syF (f 5) (f 6) (f (8 + se)) (f (12 + se)) 300 1 (eR f) = none ∧ r = -2000000001 ∧ ∃ (iv2 lg2 fg2 : Int64) (nw2 : Nat → Int64), va_P D vwCl [(mo, .inr (6, [.ref ms, .ref mp, .int (nI np), .ref me, .ref mn, .long iv2, .long lg2, .long fg2, .long hv])), (mn, .inl (g 1, 5, .inr (.inl nw2)))] H1) ∨ (∃ (y : Nat × (Nat → Int32)), syF (f 5) (f 6) (f (8 + se)) (f (12 + se)) 300 1 (eR f) = some y ∧ r = nI y.1 ∧ y.1 ≤ 300 ∧ ∃ (iv2 lg2 fg2 : Int64) (nw2 : Nat → Int64), Int64.toInt32 lg2 = y.2 6 ∧ Int64.toInt32 fg2 = y.2 7 ∧ va_P D vwCl [(mo, .inr (6, [.ref ms, .ref mp, .int (nI np), .ref me, .ref mn, .long iv2, .long lg2, .long fg2, .long hv])), (mn, .inl (g 1, 5, .inr (.inl nw2)))] H1) : Int32 → Heap → Prop) (nI i) H := Or.inr ⟨(i, cE (pE u 0 (f 5) (f 6)) (f (8 + se)) (f (12 + se)) (msr (f (8 + se)) (pE u 0 (f 5) (f 6)))), by rw [hst, show 301 - i = (300 - i) + 1 by omega]; rw [syF_s, cif_t hok, cif_t hco, cif_t ⟨hq2, hq3, hq4⟩], rfl, by omega, _, _, _, _, rfl, rfl, hP.sub [0, 1] rfl⟩
                    exact W.iret (v := nI i) hx hb hr (fun t ht hW => ⟨⟨_, rfl, by rw [ht]; exact hq9⟩, hS.F ht⟩) hS.2.2 dX6_cycles_133
          · refine lv_aload_n (pc := 68) hx hb dX6_cycles_68 rfl (lv_at hl 3 rfl) ?_
            refine va_get (pc := 69) (D := D) (ci := 6) (v := .ref mn) (C := RX6) (T := TX6) (N := 9) hx hb hts in_X6 hown hK.1 hP 0 rfl rfl 4 (by decide) (hts _ q578) (fun _ h9 => h9) rfl dX6_cycles_69 ?_
            refine lv_iconst (pc := 72) (v := 0) hx hb dX6_cycles_72 (by decide) ?_
            refine la_ld (pc := 73) hx hb hK.1 hP 1 1 0 rfl rfl (nl 0) (Nat.le_of_ble_eq_true rfl) (Nat.le_of_ble_eq_true rfl) dX6_cycles_73 ?_
            refine lv_goto (pc := 74) (tgt := 83) hx hb dX6_cycles_74 (by decide) ?_
            have hmsr : ((e64 (pE u 0 (f 5) (f 6))) 0) = Int32.toInt64 (msr (f (8 + se)) (pE u 0 (f 5) (f 6))) := (congrArg Int32.toInt64 (show msr (f (8 + se)) (pE u 0 (f 5) (f 6)) = _ from if_pos cd8)).symm
            rw [hmsr]
            refine lv_iconst (pc := 83) (v := 0) hx hb dX6_cycles_83 (by decide) ?_
            have hFc := awF (Lc := [mo, mn]) hD hS hA [0, 1] rfl
            refine kI (pc := 84) (va_runV (As := [.int sx, .long (Int32.toInt64 (msr (f (8 + se)) (pE u 0 (f 5) (f 6)))), .int 0]) (rest := []) ⟨hx, hb, hml, hown, hts⟩ (m6_corrects l mo ms mp me mn np iv1 lg1 fg1 hv f (pE u 0 (f 5) (f 6)) se sx (msr (f (8 + se)) (pE u 0 (f 5) (f 6))) 0 H (hP.sub (ws' := [(mo, .inr (6, [.ref ms, .ref mp, .int (nI np), .ref me, .ref mn, .long iv1, .long lg1, .long fg1, .long hv])), (mn, .inl (g 1, 5, .inr (.inl (e64 (pE u 0 (f 5) (f 6))))))]) [0, 1] rfl) (nodupW hD [0, 1] rfl (by decide)) (ro_at hS hms ahms) (ninL ahms (fun q h => hFc q (Or.inl h))) hse hsx (pE_ok hEu hro.2.2.1 hok) (hro.2.2.2.2.1 se hse).2) (cwV 3 hts (lw_V q669 q671 qs14 q28 q672) rfl rfl rfl (by decide +kernel) ⟨Nat.le_of_ble_eq_true rfl, Nat.le_of_ble_eq_true rfl⟩) (preV hK (rcv hK hP 0 rfl rfl)) rfl rfl hl.1 rfl (lv_room (Nat.le_of_ble_eq_true rfl)) dX6_cycles_84 ⟨Nat.le_of_ble_eq_true rfl, Nat.le_of_ble_eq_true rfl⟩) hS hFc (fun r18 H locs hp9 hz1 hk1 hS => ?_)
            rcases hp9 with ⟨hrj, hr9, hP1⟩ | ⟨_, hnco, hr9, hP1⟩ | ⟨_, hco, hr9, hP1⟩
            · exact absurd rfl hrj.1
            · subst hr9
              obtain ⟨hP, hD⟩ := jn (wr := []) (w1 := [(mo, .inr (6, [.ref ms, .ref mp, .int (nI np), .ref me, .ref mn, .long (cY (e64 (pE u 0 (f 5) (f 6))) (f (8 + se)) (Int32.toInt64 (msr (f (8 + se)) (pE u 0 (f 5) (f 6))))), .long lg1, .long fg1, .long hv])), (mn, .inl (g 1, 5, .inr (.inl (e64 (pE u 0 (f 5) (f 6))))))]) hP hD [0, 1] [] rfl rfl (by decide) (by decide) hk1 hFc hP1 (dOf (nodupW hD [0, 1] rfl (by decide)) (fun q h => Or.inl h))
              have hP : va_P D vwCl [(mo, .inr (6, [.ref ms, .ref mp, .int (nI np), .ref me, .ref mn, .long (cY (e64 (pE u 0 (f 5) (f 6))) (f (8 + se)) (Int32.toInt64 (msr (f (8 + se)) (pE u 0 (f 5) (f 6))))), .long lg1, .long fg1, .long hv])), (mn, .inl (g 1, 5, .inr (.inl (e64 (pE u 0 (f 5) (f 6))))))] H := hP
              have hD : va_D (Aw [mo, mn] s.heap.size) [(mo, .inr (6, [.ref ms, .ref mp, .int (nI np), .ref me, .ref mn, .long (cY (e64 (pE u 0 (f 5) (f 6))) (f (8 + se)) (Int32.toInt64 (msr (f (8 + se)) (pE u 0 (f 5) (f 6))))), .long lg1, .long fg1, .long hv])), (mn, .inl (g 1, 5, .inr (.inl (e64 (pE u 0 (f 5) (f 6))))))] := hD
              refine lv_istore (pc := 87) (lv' := [(9, .int (-1)), (7, .long z5), (5, .long z4), (3, .long z3), (0, .ref mo), (1, .int sx), (2, .int (nI i))]) hx hb dX6_cycles_87 hl (by decide) rfl (fun ls hl => ?_)
              refine lv_iload (pc := 89) hx hb dX6_cycles_89 (lv_at hl 0 rfl) ?_
              refine lv_if_ge (pc := 91) (tgt := 97) hx hb dX6_cycles_91 (by decide) (fun cd19 => absurd cd19 (by decide)) (fun cd19 => ?_)
              refine lv_ldc (pc := 94) (v := (-2000000001)) hx hb hown (hts _ q573) dX6_cycles_94 ?_
              have hq9 : (fun r H1 => (syF (f 5) (f 6) (f (8 + se)) (f (12 + se)) 300 1 (eR f) = none ∧ r = -2000000001 ∧ ∃ (iv2 lg2 fg2 : Int64) (nw2 : Nat → Int64), va_P D vwCl [(mo, .inr (6, [.ref ms, .ref mp, .int (nI np), .ref me, .ref mn, .long iv2, .long lg2, .long fg2, .long hv])), (mn, .inl (g 1, 5, .inr (.inl nw2)))] H1) ∨ (∃ (y : Nat × (Nat → Int32)), syF (f 5) (f 6) (f (8 + se)) (f (12 + se)) 300 1 (eR f) = some y ∧ r = nI y.1 ∧ y.1 ≤ 300 ∧ ∃ (iv2 lg2 fg2 : Int64) (nw2 : Nat → Int64), Int64.toInt32 lg2 = y.2 6 ∧ Int64.toInt32 fg2 = y.2 7 ∧ va_P D vwCl [(mo, .inr (6, [.ref ms, .ref mp, .int (nI np), .ref me, .ref mn, .long iv2, .long lg2, .long fg2, .long hv])), (mn, .inl (g 1, 5, .inr (.inl nw2)))] H1) : Int32 → Heap → Prop) (-2000000001) H := Or.inl ⟨by rw [hst, show 301 - i = (300 - i) + 1 by omega]; rw [syF_s, cif_t hok, cif_f hnco], rfl, _, _, _, _, hP.sub [0, 1] rfl⟩
              exact W.iret (v := (-2000000001)) hx hb hr (fun t ht hW => ⟨⟨_, rfl, by rw [ht]; exact hq9⟩, hS.F ht⟩) hS.2.2 dX6_cycles_96
            · subst hr9
              obtain ⟨hP, hD⟩ := jn (wr := []) (w1 := [(mo, .inr (6, [.ref ms, .ref mp, .int (nI np), .ref me, .ref mn, .long (cY (e64 (pE u 0 (f 5) (f 6))) (f (8 + se)) (Int32.toInt64 (msr (f (8 + se)) (pE u 0 (f 5) (f 6))))), .long (cK (e64 (pE u 0 (f 5) (f 6))) (f (8 + se)) (f (12 + se)).toInt64), .long (cL (e64 (pE u 0 (f 5) (f 6))) (f (8 + se)) (f (12 + se)).toInt64), .long hv])), (mn, .inl (g 1, 5, .inr (.inl (e64 (cE (pE u 0 (f 5) (f 6)) (f (8 + se)) (f (12 + se)) (msr (f (8 + se)) (pE u 0 (f 5) (f 6))))))))]) hP hD [0, 1] [] rfl rfl (by decide) (by decide) hk1 hFc hP1 (dOf (nodupW hD [0, 1] rfl (by decide)) (fun q h => Or.inl h))
              have hP : va_P D vwCl [(mo, .inr (6, [.ref ms, .ref mp, .int (nI np), .ref me, .ref mn, .long (cY (e64 (pE u 0 (f 5) (f 6))) (f (8 + se)) (Int32.toInt64 (msr (f (8 + se)) (pE u 0 (f 5) (f 6))))), .long (cK (e64 (pE u 0 (f 5) (f 6))) (f (8 + se)) (f (12 + se)).toInt64), .long (cL (e64 (pE u 0 (f 5) (f 6))) (f (8 + se)) (f (12 + se)).toInt64), .long hv])), (mn, .inl (g 1, 5, .inr (.inl (e64 (cE (pE u 0 (f 5) (f 6)) (f (8 + se)) (f (12 + se)) (msr (f (8 + se)) (pE u 0 (f 5) (f 6))))))))] H := hP
              have hD : va_D (Aw [mo, mn] s.heap.size) [(mo, .inr (6, [.ref ms, .ref mp, .int (nI np), .ref me, .ref mn, .long (cY (e64 (pE u 0 (f 5) (f 6))) (f (8 + se)) (Int32.toInt64 (msr (f (8 + se)) (pE u 0 (f 5) (f 6))))), .long (cK (e64 (pE u 0 (f 5) (f 6))) (f (8 + se)) (f (12 + se)).toInt64), .long (cL (e64 (pE u 0 (f 5) (f 6))) (f (8 + se)) (f (12 + se)).toInt64), .long hv])), (mn, .inl (g 1, 5, .inr (.inl (e64 (cE (pE u 0 (f 5) (f 6)) (f (8 + se)) (f (12 + se)) (msr (f (8 + se)) (pE u 0 (f 5) (f 6))))))))] := hD
              refine lv_istore (pc := 87) (lv' := [(9, .int 1), (7, .long z5), (5, .long z4), (3, .long z3), (0, .ref mo), (1, .int sx), (2, .int (nI i))]) hx hb dX6_cycles_87 hl (by decide) rfl (fun ls hl => ?_)
              refine lv_iload (pc := 89) hx hb dX6_cycles_89 (lv_at hl 0 rfl) ?_
              refine lv_if_ge (pc := 91) (tgt := 97) hx hb dX6_cycles_91 (by decide) (fun cd20 => ?_) (fun cd20 => absurd cd20 (by decide))
              refine lv_aload_n (pc := 97) hx hb dX6_cycles_97 rfl (lv_at hl 4 rfl) ?_
              refine va_get (pc := 98) (D := D) (ci := 6) (v := .ref mn) (C := RX6) (T := TX6) (N := 9) hx hb hts in_X6 hown hK.1 hP 0 rfl rfl 4 (by decide) (hts _ q578) (fun _ h9 => h9) rfl dX6_cycles_98 ?_
              refine lv_iconst (pc := 101) (v := 2) hx hb dX6_cycles_101 (by decide) ?_
              refine la_ld (pc := 102) hx hb hK.1 hP 1 1 2 rfl rfl (nl 2) (Nat.le_of_ble_eq_true rfl) (Nat.le_of_ble_eq_true rfl) dX6_cycles_102 ?_
              refine lv_lload_n (pc := 103) hx hb dX6_cycles_103 rfl (lv_at hl 3 rfl) ?_
              refine lq_ne (pc := 104) (tgt := 134) hx hb dX6_cycles_104 dX6_cycles_105 (by decide) (fun cd21 => ?_) (fun cd21 => ?_)
              · obtain ⟨x22, ex22⟩ : ∃ y : Int32, y = (nI i) + 1 := ⟨_, rfl⟩
                refine lv_iinc (pc := 134) (v := x22) (lv' := [(2, .int x22), (9, .int 1), (7, .long z5), (5, .long z4), (3, .long z3), (0, .ref mo), (1, .int sx)]) hx hb dX6_cycles_134 hl (k := 6) rfl (by rw [ex22]; rfl) (by decide) rfl (fun ls hl => ?_)
                refine lv_goto (pc := 137) (tgt := 6) hx hb dX6_cycles_137 (by decide) ?_
                rw [show x22 = nI (i + 1) from (ex22.trans (nadd rfl (nl 1)))] at hl
                exact ih  (i + 1) (cE (pE u 0 (f 5) (f 6)) (f (8 + se)) (f (12 + se)) (msr (f (8 + se)) (pE u 0 (f 5) (f 6)))) _ _ _ (by omega) (by omega) (cE_ok hco) (by rw [hst, show 301 - i = (300 - i) + 1 by omega]; rw [syF_s, cif_t hok, cif_t hco, cif_f (show ¬ ((cE (pE u 0 (f 5) (f 6)) (f (8 + se)) (f (12 + se)) (msr (f (8 + se)) (pE u 0 (f 5) (f 6)))) 2 = u 2 ∧ (cE (pE u 0 (f 5) (f 6)) (f (8 + se)) (f (12 + se)) (msr (f (8 + se)) (pE u 0 (f 5) (f 6)))) 3 = u 3 ∧ (cE (pE u 0 (f 5) (f 6)) (f (8 + se)) (f (12 + se)) (msr (f (8 + se)) (pE u 0 (f 5) (f 6)))) 4 = u 4) from fun h => cd21 (by rw [ez3]; exact inj64.mpr h.1)), show 301 - (i + 1) = 300 - i by omega]) _ _ hP hD hS ls (lv_sub hl [5, 6, 0] rfl)
              · have hq2 : (cE (pE u 0 (f 5) (f 6)) (f (8 + se)) (f (12 + se)) (msr (f (8 + se)) (pE u 0 (f 5) (f 6)))) 2 = u 2 := inj64.mp (by rw [ez3] at cd21; exact cd21)
                refine lv_aload_n (pc := 108) hx hb dX6_cycles_108 rfl (lv_at hl 4 rfl) ?_
                refine va_get (pc := 109) (D := D) (ci := 6) (v := .ref mn) (C := RX6) (T := TX6) (N := 9) hx hb hts in_X6 hown hK.1 hP 0 rfl rfl 4 (by decide) (hts _ q578) (fun _ h9 => h9) rfl dX6_cycles_109 ?_
                refine lv_iconst (pc := 112) (v := 3) hx hb dX6_cycles_112 (by decide) ?_
                refine la_ld (pc := 113) hx hb hK.1 hP 1 1 3 rfl rfl (nl 3) (Nat.le_of_ble_eq_true rfl) (Nat.le_of_ble_eq_true rfl) dX6_cycles_113 ?_
                refine lv_lload (pc := 114) hx hb dX6_cycles_114 (lv_at hl 2 rfl) ?_
                refine lq_ne (pc := 116) (tgt := 134) hx hb dX6_cycles_116 dX6_cycles_117 (by decide) (fun cd23 => ?_) (fun cd23 => ?_)
                · obtain ⟨x24, ex24⟩ : ∃ y : Int32, y = (nI i) + 1 := ⟨_, rfl⟩
                  refine lv_iinc (pc := 134) (v := x24) (lv' := [(2, .int x24), (9, .int 1), (7, .long z5), (5, .long z4), (3, .long z3), (0, .ref mo), (1, .int sx)]) hx hb dX6_cycles_134 hl (k := 6) rfl (by rw [ex24]; rfl) (by decide) rfl (fun ls hl => ?_)
                  refine lv_goto (pc := 137) (tgt := 6) hx hb dX6_cycles_137 (by decide) ?_
                  rw [show x24 = nI (i + 1) from (ex24.trans (nadd rfl (nl 1)))] at hl
                  exact ih  (i + 1) (cE (pE u 0 (f 5) (f 6)) (f (8 + se)) (f (12 + se)) (msr (f (8 + se)) (pE u 0 (f 5) (f 6)))) _ _ _ (by omega) (by omega) (cE_ok hco) (by rw [hst, show 301 - i = (300 - i) + 1 by omega]; rw [syF_s, cif_t hok, cif_t hco, cif_f (show ¬ ((cE (pE u 0 (f 5) (f 6)) (f (8 + se)) (f (12 + se)) (msr (f (8 + se)) (pE u 0 (f 5) (f 6)))) 2 = u 2 ∧ (cE (pE u 0 (f 5) (f 6)) (f (8 + se)) (f (12 + se)) (msr (f (8 + se)) (pE u 0 (f 5) (f 6)))) 3 = u 3 ∧ (cE (pE u 0 (f 5) (f 6)) (f (8 + se)) (f (12 + se)) (msr (f (8 + se)) (pE u 0 (f 5) (f 6)))) 4 = u 4) from fun h => cd23 (by rw [ez4]; exact inj64.mpr h.2.1)), show 301 - (i + 1) = 300 - i by omega]) _ _ hP hD hS ls (lv_sub hl [5, 6, 0] rfl)
                · have hq3 : (cE (pE u 0 (f 5) (f 6)) (f (8 + se)) (f (12 + se)) (msr (f (8 + se)) (pE u 0 (f 5) (f 6)))) 3 = u 3 := inj64.mp (by rw [ez4] at cd23; exact cd23)
                  refine lv_aload_n (pc := 120) hx hb dX6_cycles_120 rfl (lv_at hl 4 rfl) ?_
                  refine va_get (pc := 121) (D := D) (ci := 6) (v := .ref mn) (C := RX6) (T := TX6) (N := 9) hx hb hts in_X6 hown hK.1 hP 0 rfl rfl 4 (by decide) (hts _ q578) (fun _ h9 => h9) rfl dX6_cycles_121 ?_
                  refine lv_iconst (pc := 124) (v := 4) hx hb dX6_cycles_124 (by decide) ?_
                  refine la_ld (pc := 125) hx hb hK.1 hP 1 1 4 rfl rfl (nl 4) (Nat.le_of_ble_eq_true rfl) (Nat.le_of_ble_eq_true rfl) dX6_cycles_125 ?_
                  refine lv_lload (pc := 126) hx hb dX6_cycles_126 (lv_at hl 1 rfl) ?_
                  refine lq_ne (pc := 128) (tgt := 134) hx hb dX6_cycles_128 dX6_cycles_129 (by decide) (fun cd25 => ?_) (fun cd25 => ?_)
                  · obtain ⟨x26, ex26⟩ : ∃ y : Int32, y = (nI i) + 1 := ⟨_, rfl⟩
                    refine lv_iinc (pc := 134) (v := x26) (lv' := [(2, .int x26), (9, .int 1), (7, .long z5), (5, .long z4), (3, .long z3), (0, .ref mo), (1, .int sx)]) hx hb dX6_cycles_134 hl (k := 6) rfl (by rw [ex26]; rfl) (by decide) rfl (fun ls hl => ?_)
                    refine lv_goto (pc := 137) (tgt := 6) hx hb dX6_cycles_137 (by decide) ?_
                    rw [show x26 = nI (i + 1) from (ex26.trans (nadd rfl (nl 1)))] at hl
                    exact ih  (i + 1) (cE (pE u 0 (f 5) (f 6)) (f (8 + se)) (f (12 + se)) (msr (f (8 + se)) (pE u 0 (f 5) (f 6)))) _ _ _ (by omega) (by omega) (cE_ok hco) (by rw [hst, show 301 - i = (300 - i) + 1 by omega]; rw [syF_s, cif_t hok, cif_t hco, cif_f (show ¬ ((cE (pE u 0 (f 5) (f 6)) (f (8 + se)) (f (12 + se)) (msr (f (8 + se)) (pE u 0 (f 5) (f 6)))) 2 = u 2 ∧ (cE (pE u 0 (f 5) (f 6)) (f (8 + se)) (f (12 + se)) (msr (f (8 + se)) (pE u 0 (f 5) (f 6)))) 3 = u 3 ∧ (cE (pE u 0 (f 5) (f 6)) (f (8 + se)) (f (12 + se)) (msr (f (8 + se)) (pE u 0 (f 5) (f 6)))) 4 = u 4) from fun h => cd25 (by rw [ez5]; exact inj64.mpr h.2.2)), show 301 - (i + 1) = 300 - i by omega]) _ _ hP hD hS ls (lv_sub hl [5, 6, 0] rfl)
                  · have hq4 : (cE (pE u 0 (f 5) (f 6)) (f (8 + se)) (f (12 + se)) (msr (f (8 + se)) (pE u 0 (f 5) (f 6)))) 4 = u 4 := inj64.mp (by rw [ez5] at cd25; exact cd25)
                    refine lv_iload_n (pc := 132) hx hb dX6_cycles_132 rfl (lv_at hl 6 rfl) ?_
                    have hq9 : (fun r H1 => (syF (f 5) (f 6) (f (8 + se)) (f (12 + se)) 300 1 (eR f) = none ∧ r = -2000000001 ∧ ∃ (iv2 lg2 fg2 : Int64) (nw2 : Nat → Int64), va_P D vwCl [(mo, .inr (6, [.ref ms, .ref mp, .int (nI np), .ref me, .ref mn, .long iv2, .long lg2, .long fg2, .long hv])), (mn, .inl (g 1, 5, .inr (.inl nw2)))] H1) ∨ (∃ (y : Nat × (Nat → Int32)), syF (f 5) (f 6) (f (8 + se)) (f (12 + se)) 300 1 (eR f) = some y ∧ r = nI y.1 ∧ y.1 ≤ 300 ∧ ∃ (iv2 lg2 fg2 : Int64) (nw2 : Nat → Int64), Int64.toInt32 lg2 = y.2 6 ∧ Int64.toInt32 fg2 = y.2 7 ∧ va_P D vwCl [(mo, .inr (6, [.ref ms, .ref mp, .int (nI np), .ref me, .ref mn, .long iv2, .long lg2, .long fg2, .long hv])), (mn, .inl (g 1, 5, .inr (.inl nw2)))] H1) : Int32 → Heap → Prop) (nI i) H := Or.inr ⟨(i, cE (pE u 0 (f 5) (f 6)) (f (8 + se)) (f (12 + se)) (msr (f (8 + se)) (pE u 0 (f 5) (f 6)))), by rw [hst, show 301 - i = (300 - i) + 1 by omega]; rw [syF_s, cif_t hok, cif_t hco, cif_t ⟨hq2, hq3, hq4⟩], rfl, by omega, _, _, _, _, rfl, rfl, hP.sub [0, 1] rfl⟩
                    exact W.iret (v := nI i) hx hb hr (fun t ht hW => ⟨⟨_, rfl, by rw [ht]; exact hq9⟩, hS.F ht⟩) hS.2.2 dX6_cycles_133
        · subst hr9
          obtain ⟨hP, hD⟩ := jn (wr := [(mo, .inr (6, [.ref ms, .ref mp, .int (nI np), .ref me, .ref mn, .long iv1, .long lg1, .long fg1, .long hv]))]) (w1 := [(mn, .inl (g 1, 5, .inr (.inl (e64 u))))]) hP hD [1] [0] rfl rfl (by decide) (by decide) hk1 hFc hP1 (d1 (Or.inl (by simp)))
          have hP : va_P D vwCl [(mo, .inr (6, [.ref ms, .ref mp, .int (nI np), .ref me, .ref mn, .long iv1, .long lg1, .long fg1, .long hv])), (mn, .inl (g 1, 5, .inr (.inl (e64 u))))] H := hP
          have hD : va_D (Aw [mo, mn] s.heap.size) [(mo, .inr (6, [.ref ms, .ref mp, .int (nI np), .ref me, .ref mn, .long iv1, .long lg1, .long fg1, .long hv])), (mn, .inl (g 1, 5, .inr (.inl (e64 u))))] := hD
          refine lv_if_ne (pc := 48) (tgt := 54) hx hb dX6_cycles_48 (by decide) (fun cd27 => absurd cd27 (by decide)) (fun cd27 => ?_)
          refine lv_ldc (pc := 51) (v := (-2000000001)) hx hb hown (hts _ q573) dX6_cycles_51 ?_
          have hq9 : (fun r H1 => (syF (f 5) (f 6) (f (8 + se)) (f (12 + se)) 300 1 (eR f) = none ∧ r = -2000000001 ∧ ∃ (iv2 lg2 fg2 : Int64) (nw2 : Nat → Int64), va_P D vwCl [(mo, .inr (6, [.ref ms, .ref mp, .int (nI np), .ref me, .ref mn, .long iv2, .long lg2, .long fg2, .long hv])), (mn, .inl (g 1, 5, .inr (.inl nw2)))] H1) ∨ (∃ (y : Nat × (Nat → Int32)), syF (f 5) (f 6) (f (8 + se)) (f (12 + se)) 300 1 (eR f) = some y ∧ r = nI y.1 ∧ y.1 ≤ 300 ∧ ∃ (iv2 lg2 fg2 : Int64) (nw2 : Nat → Int64), Int64.toInt32 lg2 = y.2 6 ∧ Int64.toInt32 fg2 = y.2 7 ∧ va_P D vwCl [(mo, .inr (6, [.ref ms, .ref mp, .int (nI np), .ref me, .ref mn, .long iv2, .long lg2, .long fg2, .long hv])), (mn, .inl (g 1, 5, .inr (.inl nw2)))] H1) : Int32 → Heap → Prop) (-2000000001) H := Or.inl ⟨by rw [hst, show 301 - i = (300 - i) + 1 by omega]; rw [syF_s, cif_f hnok], rfl, _, _, _, _, hP.sub [0, 1] rfl⟩
          exact W.iret (v := (-2000000001)) hx hb hr (fun t ht hW => ⟨⟨_, rfl, by rw [ht]; exact hq9⟩, hS.F ht⟩) hS.2.2 dX6_cycles_53
  exact loop 302 1 (eR f) iv lg fg ⟨Nat.le_refl _, by omega⟩ (by omega) hro.1 rfl _ _ hP hD hS ls (lv_sub hl [1, 2, 0] rfl)

abbrev rm_m6_steadyCycles : Room := ({ frames := 4, cells := 0, slots := 0, locals := 120 })
set_option maxHeartbeats 4000000 in
set_option maxRecDepth 100000 in
theorem m6_steadyCycles (l : Launch) {D : va_G} {g : Nat → ClassId} (mo ms mp me mn np : Nat) (iv lg fg hv : Int64) (ef f pa : Nat → Int32) (nw : Nat → Int64) (sx : Int32) (H : Heap) (hP : va_P D vwCl [(mo, .inr (6, [.ref ms, .ref mp, .int (nI np), .ref me, .ref mn, .long iv, .long lg, .long fg, .long hv])), (ms, .inl (g 0, 71, .inl f)), (mp, .inl (g 0, 284, .inl pa)), (me, .inl (g 0, 3, .inl ef)), (mn, .inl (g 1, 5, .inr (.inl nw)))] H) (hN : [mo, ms, mp, me, mn].Nodup) (hnp : np ≤ 4) (hro : RowOK f) : Met l yX6_steadyCycles (ws_ yX6_steadyCycles cX6_steadyCycles 2 (some .int)) rm_m6_steadyCycles (va_Pc [.ref mo, .int sx] (PH D g H)) (QI (fun r H1 => ((inR 0 3 sx) ∧ r = syR (-2000000001) (syF (f 5) (f 6) (f (8 + sx.toNatClampNeg)) (f (12 + sx.toNatClampNeg)) 300 1 (eR f)) ∧ MDI D g H1 mo ms mp me mn np ef f pa) ∨ (¬ (inR 0 3 sx) ∧ r = -2000000002 ∧ MDI D g H1 mo ms mp me mn np (upd ef 0 (ef 0 + 1)) f pa)) (Aw [mo, ms, mp, me, mn] H.size)) 0 0 (Aw [mo, ms, mp, me, mn] H.size) := by
  refine Met.ofW (cc := cX6_steadyCycles) (maxL := 2) (ret := (some .int)) (by decide) rfl ?_
  intro p e s m args below meth c s₁ B hml hv
  obtain ⟨rfl, hH, hK⟩ := hv
  subst hH
  have hx := B.exec
  have hb := B.bytes
  have hr := B.returns
  have hts := atoms_spec (ws := ws_ yX6_steadyCycles cX6_steadyCycles 2 (some .int)) B.pre
  have hts : ∀ w ∈ lw_all, w.before _ s = true := fun w h => hts w (List.mem_cons_of_mem _ h)
  have hown : s.vm.findClass RX6 = some m.cls := findClass_of_methodNamed B.named
  have hlocks := B.notSynchronized
  have hA : ∀ q, s.heap.size ≤ q → (Aw [mo, ms, mp, me, mn] s.heap.size) q := fun q h => Or.inr h
  have hS : va_S (Aw [mo, ms, mp, me, mn] s.heap.size) s.heap s.heap [] := va_S.rf
  have hD : va_D (Aw [mo, ms, mp, me, mn] s.heap.size) [(mo, .inr (6, [.ref ms, .ref mp, .int (nI np), .ref me, .ref mn, .long iv, .long lg, .long fg, .long hv])), (ms, .inl (g 0, 71, .inl f)), (mp, .inl (g 0, 284, .inl pa)), (me, .inl (g 0, 3, .inl ef)), (mn, .inl (g 1, 5, .inr (.inl nw)))] := dOf hN (fun q h => Or.inl h)
  have hl := lv_entry ([.ref mo, .int sx]) (n := 2) (Nat.le_of_ble_eq_true rfl)
  rw [lg_entry_eq]
  generalize (lg_sl ([.ref mo, .int sx]) ++ List.replicate (2 - (lg_sl ([.ref mo, .int sx])).length) Slot.unset).toArray = ls at hl ⊢
  have hl : lv_has ls 2 [(0, .ref mo), (1, .int sx)] := hl
  refine lv_iload_n (pc := 0) hx hb dX6_steadyCycles_0 rfl (lv_at hl 1 rfl) ?_
  refine kIp (pc := 1) (va_runS (As := [.int sx]) (rest := []) ⟨hx, hb, hml, hown, hts⟩ (m6_isSensor l sx s.heap) (va_cwS 1 hts (lw_S q631 q632 q28 q633) rfl rfl rfl (by decide +kernel) ⟨Nat.le_of_ble_eq_true rfl, Nat.le_of_ble_eq_true rfl⟩) (preS hK) rfl rfl hl.1 rfl (lv_room (Nat.le_of_ble_eq_true rfl)) dX6_steadyCycles_1 ⟨Nat.le_of_ble_eq_true rfl, Nat.le_of_ble_eq_true rfl⟩) (fun r1 hr1 => ?_)
  refine lv_if_eq (pc := 4) (tgt := 15) hx hb dX6_steadyCycles_4 (by decide) (fun cd2 => ?_) (fun cd2 => ?_)
  · have hnk : ¬ (inR 0 3 sx) := fun h => (bI_eq (hr1.symm.trans cd2)) h
    refine lv_aload_n (pc := 15) hx hb dX6_steadyCycles_15 rfl (lv_at hl 0 rfl) ?_
    refine lv_ldc (pc := 16) (v := (-2000000002)) hx hb hown (hts _ q614) dX6_steadyCycles_16 ?_
    have hFc := awF (Lc := [me]) hD hS hA [3] rfl
    refine kI (pc := 18) (va_runV (As := [.int (-2000000002)]) (rest := []) ⟨hx, hb, hml, hown, hts⟩ (m6_fail l mo ms mp me mn np iv lg fg hv 0 ef (-2000000002) s.heap (hP.sub (ws' := [(me, .inl (g 0, 3, .inl ef))]) [3] rfl) (hP.sub (ws' := [(mo, .inr (6, [.ref ms, .ref mp, .int (nI np), .ref me, .ref mn, .long iv, .long lg, .long fg, .long hv]))]) [0] rfl) (ninW hD 0 [3] rfl rfl (by decide)) (by decide) (by decide)) (cwV 1 hts (lw_V q615 q617 qs8 q28 q618) rfl rfl rfl (by decide +kernel) ⟨Nat.le_of_ble_eq_true rfl, Nat.le_of_ble_eq_true rfl⟩) (preV hK (rcv hK hP 0 rfl rfl)) rfl rfl hl.1 rfl (lv_room (Nat.le_of_ble_eq_true rfl)) dX6_steadyCycles_18 ⟨Nat.le_of_ble_eq_true rfl, Nat.le_of_ble_eq_true rfl⟩) hS hFc (fun r3 H locs hp9 hz1 hk1 hS => ?_)
    obtain ⟨hrc, hP1⟩ := hp9
    obtain ⟨hP, hD⟩ := jn (wr := [(mo, .inr (6, [.ref ms, .ref mp, .int (nI np), .ref me, .ref mn, .long iv, .long lg, .long fg, .long hv])), (ms, .inl (g 0, 71, .inl f)), (mp, .inl (g 0, 284, .inl pa)), (mn, .inl (g 1, 5, .inr (.inl nw)))]) (w1 := [(me, .inl (g 0, 3, .inl (upd ef 0 (ef 0 + 1))))]) hP hD [3] [0, 1, 2, 4] rfl rfl (by decide) (by decide) hk1 hFc hP1 (d1 (Or.inl (by simp)))
    have hP : va_P D vwCl [(mo, .inr (6, [.ref ms, .ref mp, .int (nI np), .ref me, .ref mn, .long iv, .long lg, .long fg, .long hv])), (ms, .inl (g 0, 71, .inl f)), (mp, .inl (g 0, 284, .inl pa)), (mn, .inl (g 1, 5, .inr (.inl nw))), (me, .inl (g 0, 3, .inl (upd ef 0 (ef 0 + 1))))] H := hP
    have hD : va_D (Aw [mo, ms, mp, me, mn] s.heap.size) [(mo, .inr (6, [.ref ms, .ref mp, .int (nI np), .ref me, .ref mn, .long iv, .long lg, .long fg, .long hv])), (ms, .inl (g 0, 71, .inl f)), (mp, .inl (g 0, 284, .inl pa)), (mn, .inl (g 1, 5, .inr (.inl nw))), (me, .inl (g 0, 3, .inl (upd ef 0 (ef 0 + 1))))] := hD
    have hq9 : (fun r H1 => ((inR 0 3 sx) ∧ r = syR (-2000000001) (syF (f 5) (f 6) (f (8 + sx.toNatClampNeg)) (f (12 + sx.toNatClampNeg)) 300 1 (eR f)) ∧ MDI D g H1 mo ms mp me mn np ef f pa) ∨ (¬ (inR 0 3 sx) ∧ r = -2000000002 ∧ MDI D g H1 mo ms mp me mn np (upd ef 0 (ef 0 + 1)) f pa) : Int32 → Heap → Prop) r3 H := Or.inr ⟨hnk, hrc, ⟨_, _, _, _, _, hP.sub [0, 1, 2, 4, 3] rfl⟩⟩
    exact W.iret (v := r3) hx hb hr (fun t ht hW => ⟨⟨_, rfl, by rw [ht]; exact hq9⟩, hS.F ht⟩) hS.2.2 dX6_steadyCycles_21
  · have hck4 : inR (0) (3) sx := bI_ne (fun e => cd2 (hr1.trans e))
    obtain ⟨se, hse3, hsx⟩ := inR_nat (n := 3) (by decide) hck4
    have hse : se < 4 := by omega
    have hcl9 : sx.toNatClampNeg = se := by rw [hsx]; exact nI_clamp (by omega)
    refine lv_aload_n (pc := 7) hx hb dX6_steadyCycles_7 rfl (lv_at hl 0 rfl) ?_
    refine lv_iload_n (pc := 8) hx hb dX6_steadyCycles_8 rfl (lv_at hl 1 rfl) ?_
    have hFc := awF (Lc := [mo, mn]) hD hS hA [0, 4] rfl
    refine kI (pc := 9) (va_runV (As := [.int sx]) (rest := []) ⟨hx, hb, hml, hown, hts⟩ (m6_cycles l mo ms mp me mn np iv lg fg hv f nw se sx s.heap (hP.sub (ws' := [(mo, .inr (6, [.ref ms, .ref mp, .int (nI np), .ref me, .ref mn, .long iv, .long lg, .long fg, .long hv])), (mn, .inl (g 1, 5, .inr (.inl nw)))]) [0, 4] rfl) (nodupW hD [0, 4] rfl (by decide)) (hP.sub (ws' := [(ms, .inl (g 0, 71, .inl f))]) [1] rfl) (ninW hD 1 [0, 4] rfl rfl (by decide)) hse hsx hro) (cwV 1 hts (lw_V q756 q758 qs16 q28 q759) rfl rfl rfl (by decide +kernel) ⟨Nat.le_of_ble_eq_true rfl, Nat.le_of_ble_eq_true rfl⟩) (preV hK (rcv hK hP 0 rfl rfl)) rfl rfl hl.1 rfl (lv_room (Nat.le_of_ble_eq_true rfl)) dX6_steadyCycles_9 ⟨Nat.le_of_ble_eq_true rfl, Nat.le_of_ble_eq_true rfl⟩) hS hFc (fun r4 H locs hp9 hz1 hk1 hS => ?_)
    rcases hp9 with ⟨hsn, hr9, iv2, lg2, fg2, nw2, hP1⟩ | ⟨y, hsy, hr9, hyb, iv2, lg2, fg2, nw2, hl2, hf2, hP1⟩
    · subst hr9
      obtain ⟨hP, hD⟩ := jn (wr := [(ms, .inl (g 0, 71, .inl f)), (mp, .inl (g 0, 284, .inl pa)), (me, .inl (g 0, 3, .inl ef))]) (w1 := [(mo, .inr (6, [.ref ms, .ref mp, .int (nI np), .ref me, .ref mn, .long iv2, .long lg2, .long fg2, .long hv])), (mn, .inl (g 1, 5, .inr (.inl nw2)))]) hP hD [0, 4] [1, 2, 3] rfl rfl (by decide) (by decide) hk1 hFc hP1 (dOf (nodupW hD [0, 4] rfl (by decide)) (fun q h => Or.inl h))
      have hP : va_P D vwCl [(ms, .inl (g 0, 71, .inl f)), (mp, .inl (g 0, 284, .inl pa)), (me, .inl (g 0, 3, .inl ef)), (mo, .inr (6, [.ref ms, .ref mp, .int (nI np), .ref me, .ref mn, .long iv2, .long lg2, .long fg2, .long hv])), (mn, .inl (g 1, 5, .inr (.inl nw2)))] H := hP
      have hD : va_D (Aw [mo, ms, mp, me, mn] s.heap.size) [(ms, .inl (g 0, 71, .inl f)), (mp, .inl (g 0, 284, .inl pa)), (me, .inl (g 0, 3, .inl ef)), (mo, .inr (6, [.ref ms, .ref mp, .int (nI np), .ref me, .ref mn, .long iv2, .long lg2, .long fg2, .long hv])), (mn, .inl (g 1, 5, .inr (.inl nw2)))] := hD
      refine lv_goto (pc := 12) (tgt := 21) hx hb dX6_steadyCycles_12 (by decide) ?_
      have hq9 : (fun r H1 => ((inR 0 3 sx) ∧ r = syR (-2000000001) (syF (f 5) (f 6) (f (8 + sx.toNatClampNeg)) (f (12 + sx.toNatClampNeg)) 300 1 (eR f)) ∧ MDI D g H1 mo ms mp me mn np ef f pa) ∨ (¬ (inR 0 3 sx) ∧ r = -2000000002 ∧ MDI D g H1 mo ms mp me mn np (upd ef 0 (ef 0 + 1)) f pa) : Int32 → Heap → Prop) (-2000000001) H := Or.inl ⟨hck4, by rw [hcl9, hsn]; rfl, ⟨_, _, _, _, _, hP.sub [3, 0, 1, 2, 4] rfl⟩⟩
      exact W.iret (v := (-2000000001)) hx hb hr (fun t ht hW => ⟨⟨_, rfl, by rw [ht]; exact hq9⟩, hS.F ht⟩) hS.2.2 dX6_steadyCycles_21
    · subst hr9
      obtain ⟨hP, hD⟩ := jn (wr := [(ms, .inl (g 0, 71, .inl f)), (mp, .inl (g 0, 284, .inl pa)), (me, .inl (g 0, 3, .inl ef))]) (w1 := [(mo, .inr (6, [.ref ms, .ref mp, .int (nI np), .ref me, .ref mn, .long iv2, .long lg2, .long fg2, .long hv])), (mn, .inl (g 1, 5, .inr (.inl nw2)))]) hP hD [0, 4] [1, 2, 3] rfl rfl (by decide) (by decide) hk1 hFc hP1 (dOf (nodupW hD [0, 4] rfl (by decide)) (fun q h => Or.inl h))
      have hP : va_P D vwCl [(ms, .inl (g 0, 71, .inl f)), (mp, .inl (g 0, 284, .inl pa)), (me, .inl (g 0, 3, .inl ef)), (mo, .inr (6, [.ref ms, .ref mp, .int (nI np), .ref me, .ref mn, .long iv2, .long lg2, .long fg2, .long hv])), (mn, .inl (g 1, 5, .inr (.inl nw2)))] H := hP
      have hD : va_D (Aw [mo, ms, mp, me, mn] s.heap.size) [(ms, .inl (g 0, 71, .inl f)), (mp, .inl (g 0, 284, .inl pa)), (me, .inl (g 0, 3, .inl ef)), (mo, .inr (6, [.ref ms, .ref mp, .int (nI np), .ref me, .ref mn, .long iv2, .long lg2, .long fg2, .long hv])), (mn, .inl (g 1, 5, .inr (.inl nw2)))] := hD
      refine lv_goto (pc := 12) (tgt := 21) hx hb dX6_steadyCycles_12 (by decide) ?_
      have hq9 : (fun r H1 => ((inR 0 3 sx) ∧ r = syR (-2000000001) (syF (f 5) (f 6) (f (8 + sx.toNatClampNeg)) (f (12 + sx.toNatClampNeg)) 300 1 (eR f)) ∧ MDI D g H1 mo ms mp me mn np ef f pa) ∨ (¬ (inR 0 3 sx) ∧ r = -2000000002 ∧ MDI D g H1 mo ms mp me mn np (upd ef 0 (ef 0 + 1)) f pa) : Int32 → Heap → Prop) (nI y.1) H := Or.inl ⟨hck4, by rw [hcl9, hsy, syR_some, cif_t rfl], ⟨_, _, _, _, _, hP.sub [3, 0, 1, 2, 4] rfl⟩⟩
      exact W.iret (v := nI y.1) hx hb hr (fun t ht hW => ⟨⟨_, rfl, by rw [ht]; exact hq9⟩, hS.F ht⟩) hS.2.2 dX6_steadyCycles_21

abbrev rm_m6_steadyGain : Room := ({ frames := 4, cells := 0, slots := 0, locals := 120 })
set_option maxHeartbeats 4000000 in
set_option maxRecDepth 100000 in
theorem m6_steadyGain (l : Launch) {D : va_G} {g : Nat → ClassId} (mo ms mp me mn np : Nat) (iv lg fg hv : Int64) (ef f pa : Nat → Int32) (nw : Nat → Int64) (sx kx : Int32) (H : Heap) (hP : va_P D vwCl [(mo, .inr (6, [.ref ms, .ref mp, .int (nI np), .ref me, .ref mn, .long iv, .long lg, .long fg, .long hv])), (ms, .inl (g 0, 71, .inl f)), (mp, .inl (g 0, 284, .inl pa)), (me, .inl (g 0, 3, .inl ef)), (mn, .inl (g 1, 5, .inr (.inl nw)))] H) (hN : [mo, ms, mp, me, mn].Nodup) (hnp : np ≤ 4) (hro : RowOK f) : Met l yX6_steadyGain (ws_ yX6_steadyGain cX6_steadyGain 4 (some .int)) rm_m6_steadyGain (va_Pc [.ref mo, .int sx, .int kx] (PH D g H)) (QI (fun r H1 => ((inR 0 3 sx ∧ inR 0 1 kx) ∧ r = syR kx (syF (f 5) (f 6) (f (8 + sx.toNatClampNeg)) (f (12 + sx.toNatClampNeg)) 300 1 (eR f)) ∧ MDI D g H1 mo ms mp me mn np ef f pa) ∨ (¬ (inR 0 3 sx ∧ inR 0 1 kx) ∧ r = -2000000002 ∧ MDI D g H1 mo ms mp me mn np (upd ef 0 (ef 0 + 1)) f pa)) (Aw [mo, ms, mp, me, mn] H.size)) 0 0 (Aw [mo, ms, mp, me, mn] H.size) := by
  refine Met.ofW (cc := cX6_steadyGain) (maxL := 4) (ret := (some .int)) (by decide) rfl ?_
  intro p e s m args below meth c s₁ B hml hv
  obtain ⟨rfl, hH, hK⟩ := hv
  subst hH
  have hx := B.exec
  have hb := B.bytes
  have hr := B.returns
  have hts := atoms_spec (ws := ws_ yX6_steadyGain cX6_steadyGain 4 (some .int)) B.pre
  have hts : ∀ w ∈ lw_all, w.before _ s = true := fun w h => hts w (List.mem_cons_of_mem _ h)
  have hown : s.vm.findClass RX6 = some m.cls := findClass_of_methodNamed B.named
  have hlocks := B.notSynchronized
  have hA : ∀ q, s.heap.size ≤ q → (Aw [mo, ms, mp, me, mn] s.heap.size) q := fun q h => Or.inr h
  have hS : va_S (Aw [mo, ms, mp, me, mn] s.heap.size) s.heap s.heap [] := va_S.rf
  have hD : va_D (Aw [mo, ms, mp, me, mn] s.heap.size) [(mo, .inr (6, [.ref ms, .ref mp, .int (nI np), .ref me, .ref mn, .long iv, .long lg, .long fg, .long hv])), (ms, .inl (g 0, 71, .inl f)), (mp, .inl (g 0, 284, .inl pa)), (me, .inl (g 0, 3, .inl ef)), (mn, .inl (g 1, 5, .inr (.inl nw)))] := dOf hN (fun q h => Or.inl h)
  have hl := lv_entry ([.ref mo, .int sx, .int kx]) (n := 4) (Nat.le_of_ble_eq_true rfl)
  rw [lg_entry_eq]
  generalize (lg_sl ([.ref mo, .int sx, .int kx]) ++ List.replicate (4 - (lg_sl ([.ref mo, .int sx, .int kx])).length) Slot.unset).toArray = ls at hl ⊢
  have hl : lv_has ls 4 [(0, .ref mo), (1, .int sx), (2, .int kx)] := hl
  refine lv_iload_n (pc := 0) hx hb dX6_steadyGain_0 rfl (lv_at hl 1 rfl) ?_
  refine kIp (pc := 1) (va_runS (As := [.int sx]) (rest := []) ⟨hx, hb, hml, hown, hts⟩ (m6_isSensor l sx s.heap) (va_cwS 1 hts (lw_S q631 q632 q28 q633) rfl rfl rfl (by decide +kernel) ⟨Nat.le_of_ble_eq_true rfl, Nat.le_of_ble_eq_true rfl⟩) (preS hK) rfl rfl hl.1 rfl (lv_room (Nat.le_of_ble_eq_true rfl)) dX6_steadyGain_1 ⟨Nat.le_of_ble_eq_true rfl, Nat.le_of_ble_eq_true rfl⟩) (fun r1 hr1 => ?_)
  refine lv_if_eq (pc := 4) (tgt := 16) hx hb dX6_steadyGain_4 (by decide) (fun cd2 => ?_) (fun cd2 => ?_)
  · have hnk : ¬ (inR 0 3 sx ∧ inR 0 1 kx) := fun h => (bI_eq (hr1.symm.trans cd2)) h.1
    refine lv_aload_n (pc := 16) hx hb dX6_steadyGain_16 rfl (lv_at hl 0 rfl) ?_
    refine lv_ldc (pc := 17) (v := (-2000000002)) hx hb hown (hts _ q614) dX6_steadyGain_17 ?_
    have hFc := awF (Lc := [me]) hD hS hA [3] rfl
    refine kI (pc := 19) (va_runV (As := [.int (-2000000002)]) (rest := []) ⟨hx, hb, hml, hown, hts⟩ (m6_fail l mo ms mp me mn np iv lg fg hv 0 ef (-2000000002) s.heap (hP.sub (ws' := [(me, .inl (g 0, 3, .inl ef))]) [3] rfl) (hP.sub (ws' := [(mo, .inr (6, [.ref ms, .ref mp, .int (nI np), .ref me, .ref mn, .long iv, .long lg, .long fg, .long hv]))]) [0] rfl) (ninW hD 0 [3] rfl rfl (by decide)) (by decide) (by decide)) (cwV 1 hts (lw_V q615 q617 qs8 q28 q618) rfl rfl rfl (by decide +kernel) ⟨Nat.le_of_ble_eq_true rfl, Nat.le_of_ble_eq_true rfl⟩) (preV hK (rcv hK hP 0 rfl rfl)) rfl rfl hl.1 rfl (lv_room (Nat.le_of_ble_eq_true rfl)) dX6_steadyGain_19 ⟨Nat.le_of_ble_eq_true rfl, Nat.le_of_ble_eq_true rfl⟩) hS hFc (fun r3 H locs hp9 hz1 hk1 hS => ?_)
    obtain ⟨hrc, hP1⟩ := hp9
    obtain ⟨hP, hD⟩ := jn (wr := [(mo, .inr (6, [.ref ms, .ref mp, .int (nI np), .ref me, .ref mn, .long iv, .long lg, .long fg, .long hv])), (ms, .inl (g 0, 71, .inl f)), (mp, .inl (g 0, 284, .inl pa)), (mn, .inl (g 1, 5, .inr (.inl nw)))]) (w1 := [(me, .inl (g 0, 3, .inl (upd ef 0 (ef 0 + 1))))]) hP hD [3] [0, 1, 2, 4] rfl rfl (by decide) (by decide) hk1 hFc hP1 (d1 (Or.inl (by simp)))
    have hP : va_P D vwCl [(mo, .inr (6, [.ref ms, .ref mp, .int (nI np), .ref me, .ref mn, .long iv, .long lg, .long fg, .long hv])), (ms, .inl (g 0, 71, .inl f)), (mp, .inl (g 0, 284, .inl pa)), (mn, .inl (g 1, 5, .inr (.inl nw))), (me, .inl (g 0, 3, .inl (upd ef 0 (ef 0 + 1))))] H := hP
    have hD : va_D (Aw [mo, ms, mp, me, mn] s.heap.size) [(mo, .inr (6, [.ref ms, .ref mp, .int (nI np), .ref me, .ref mn, .long iv, .long lg, .long fg, .long hv])), (ms, .inl (g 0, 71, .inl f)), (mp, .inl (g 0, 284, .inl pa)), (mn, .inl (g 1, 5, .inr (.inl nw))), (me, .inl (g 0, 3, .inl (upd ef 0 (ef 0 + 1))))] := hD
    have hq9 : (fun r H1 => ((inR 0 3 sx ∧ inR 0 1 kx) ∧ r = syR kx (syF (f 5) (f 6) (f (8 + sx.toNatClampNeg)) (f (12 + sx.toNatClampNeg)) 300 1 (eR f)) ∧ MDI D g H1 mo ms mp me mn np ef f pa) ∨ (¬ (inR 0 3 sx ∧ inR 0 1 kx) ∧ r = -2000000002 ∧ MDI D g H1 mo ms mp me mn np (upd ef 0 (ef 0 + 1)) f pa) : Int32 → Heap → Prop) r3 H := Or.inr ⟨hnk, hrc, ⟨_, _, _, _, _, hP.sub [0, 1, 2, 4, 3] rfl⟩⟩
    exact W.iret (v := r3) hx hb hr (fun t ht hW => ⟨⟨_, rfl, by rw [ht]; exact hq9⟩, hS.F ht⟩) hS.2.2 dX6_steadyGain_22
  · have hck4 : inR (0) (3) sx := bI_ne (fun e => cd2 (hr1.trans e))
    obtain ⟨se, hse3, hsx⟩ := inR_nat (n := 3) (by decide) hck4
    have hse : se < 4 := by omega
    have hcl9 : sx.toNatClampNeg = se := by rw [hsx]; exact nI_clamp (by omega)
    refine lv_iload_n (pc := 7) hx hb dX6_steadyGain_7 rfl (lv_at hl 2 rfl) ?_
    refine lv_iconst (pc := 8) (v := 0) hx hb dX6_steadyGain_8 (by decide) ?_
    refine lv_iconst (pc := 9) (v := 1) hx hb dX6_steadyGain_9 (by decide) ?_
    refine kIp (pc := 10) (va_runS (As := [.int kx, .int 0, .int 1]) (rest := []) ⟨hx, hb, hml, hown, hts⟩ (m6_in l kx 0 1 s.heap) (va_cwS 3 hts (lw_S q609 q610 q28 q611) rfl rfl rfl (by decide +kernel) ⟨Nat.le_of_ble_eq_true rfl, Nat.le_of_ble_eq_true rfl⟩) (preS hK) rfl rfl hl.1 rfl (lv_room (Nat.le_of_ble_eq_true rfl)) dX6_steadyGain_10 ⟨Nat.le_of_ble_eq_true rfl, Nat.le_of_ble_eq_true rfl⟩) (fun r4 hr4 => ?_)
    refine lv_if_ne (pc := 13) (tgt := 23) hx hb dX6_steadyGain_13 (by decide) (fun cd5 => ?_) (fun cd5 => ?_)
    · have hck13 : inR (0) (1) kx := bI_ne (fun e => cd5 (hr4.trans e))
      refine lv_aload_n (pc := 23) hx hb dX6_steadyGain_23 rfl (lv_at hl 0 rfl) ?_
      refine lv_iload_n (pc := 24) hx hb dX6_steadyGain_24 rfl (lv_at hl 1 rfl) ?_
      have hFc := awF (Lc := [mo, mn]) hD hS hA [0, 4] rfl
      refine kI (pc := 25) (va_runV (As := [.int sx]) (rest := []) ⟨hx, hb, hml, hown, hts⟩ (m6_cycles l mo ms mp me mn np iv lg fg hv f nw se sx s.heap (hP.sub (ws' := [(mo, .inr (6, [.ref ms, .ref mp, .int (nI np), .ref me, .ref mn, .long iv, .long lg, .long fg, .long hv])), (mn, .inl (g 1, 5, .inr (.inl nw)))]) [0, 4] rfl) (nodupW hD [0, 4] rfl (by decide)) (hP.sub (ws' := [(ms, .inl (g 0, 71, .inl f))]) [1] rfl) (ninW hD 1 [0, 4] rfl rfl (by decide)) hse hsx hro) (cwV 1 hts (lw_V q756 q758 qs16 q28 q759) rfl rfl rfl (by decide +kernel) ⟨Nat.le_of_ble_eq_true rfl, Nat.le_of_ble_eq_true rfl⟩) (preV hK (rcv hK hP 0 rfl rfl)) rfl rfl hl.1 rfl (lv_room (Nat.le_of_ble_eq_true rfl)) dX6_steadyGain_25 ⟨Nat.le_of_ble_eq_true rfl, Nat.le_of_ble_eq_true rfl⟩) hS hFc (fun r6 H locs hp9 hz1 hk1 hS => ?_)
      rcases hp9 with ⟨hsn, hr9, iv2, lg2, fg2, nw2, hP1⟩ | ⟨y, hsy, hr9, hyb, iv2, lg2, fg2, nw2, hl2, hf2, hP1⟩
      · subst hr9
        obtain ⟨hP, hD⟩ := jn (wr := [(ms, .inl (g 0, 71, .inl f)), (mp, .inl (g 0, 284, .inl pa)), (me, .inl (g 0, 3, .inl ef))]) (w1 := [(mo, .inr (6, [.ref ms, .ref mp, .int (nI np), .ref me, .ref mn, .long iv2, .long lg2, .long fg2, .long hv])), (mn, .inl (g 1, 5, .inr (.inl nw2)))]) hP hD [0, 4] [1, 2, 3] rfl rfl (by decide) (by decide) hk1 hFc hP1 (dOf (nodupW hD [0, 4] rfl (by decide)) (fun q h => Or.inl h))
        have hP : va_P D vwCl [(ms, .inl (g 0, 71, .inl f)), (mp, .inl (g 0, 284, .inl pa)), (me, .inl (g 0, 3, .inl ef)), (mo, .inr (6, [.ref ms, .ref mp, .int (nI np), .ref me, .ref mn, .long iv2, .long lg2, .long fg2, .long hv])), (mn, .inl (g 1, 5, .inr (.inl nw2)))] H := hP
        have hD : va_D (Aw [mo, ms, mp, me, mn] s.heap.size) [(ms, .inl (g 0, 71, .inl f)), (mp, .inl (g 0, 284, .inl pa)), (me, .inl (g 0, 3, .inl ef)), (mo, .inr (6, [.ref ms, .ref mp, .int (nI np), .ref me, .ref mn, .long iv2, .long lg2, .long fg2, .long hv])), (mn, .inl (g 1, 5, .inr (.inl nw2)))] := hD
        refine lv_istore_n (pc := 28) (lv' := [(3, .int (-2000000001)), (0, .ref mo), (1, .int sx), (2, .int kx)]) hx hb dX6_steadyGain_28 rfl hl (by decide) rfl (fun ls hl => ?_)
        refine lv_iload_n (pc := 29) hx hb dX6_steadyGain_29 rfl (lv_at hl 0 rfl) ?_
        refine lv_ldc (pc := 30) (v := (-2000000001)) hx hb hown (hts _ q573) dX6_steadyGain_30 ?_
        refine lv_icmp_ne (pc := 32) (tgt := 40) hx hb dX6_steadyGain_32 (by decide) (fun cd7 => absurd cd7 (by decide)) (fun cd7 => ?_)
        refine lv_ldc (pc := 35) (v := (-2000000001)) hx hb hown (hts _ q573) dX6_steadyGain_35 ?_
        refine lv_goto (pc := 37) (tgt := 56) hx hb dX6_steadyGain_37 (by decide) ?_
        have hq9 : (fun r H1 => ((inR 0 3 sx ∧ inR 0 1 kx) ∧ r = syR kx (syF (f 5) (f 6) (f (8 + sx.toNatClampNeg)) (f (12 + sx.toNatClampNeg)) 300 1 (eR f)) ∧ MDI D g H1 mo ms mp me mn np ef f pa) ∨ (¬ (inR 0 3 sx ∧ inR 0 1 kx) ∧ r = -2000000002 ∧ MDI D g H1 mo ms mp me mn np (upd ef 0 (ef 0 + 1)) f pa) : Int32 → Heap → Prop) (-2000000001) H := Or.inl ⟨⟨hck4, hck13⟩, by rw [hcl9, hsn]; rfl, ⟨_, _, _, _, _, hP.sub [3, 0, 1, 2, 4] rfl⟩⟩
        exact W.iret (v := (-2000000001)) hx hb hr (fun t ht hW => ⟨⟨_, rfl, by rw [ht]; exact hq9⟩, hS.F ht⟩) hS.2.2 dX6_steadyGain_56
      · subst hr9
        obtain ⟨hP, hD⟩ := jn (wr := [(ms, .inl (g 0, 71, .inl f)), (mp, .inl (g 0, 284, .inl pa)), (me, .inl (g 0, 3, .inl ef))]) (w1 := [(mo, .inr (6, [.ref ms, .ref mp, .int (nI np), .ref me, .ref mn, .long iv2, .long lg2, .long fg2, .long hv])), (mn, .inl (g 1, 5, .inr (.inl nw2)))]) hP hD [0, 4] [1, 2, 3] rfl rfl (by decide) (by decide) hk1 hFc hP1 (dOf (nodupW hD [0, 4] rfl (by decide)) (fun q h => Or.inl h))
        have hP : va_P D vwCl [(ms, .inl (g 0, 71, .inl f)), (mp, .inl (g 0, 284, .inl pa)), (me, .inl (g 0, 3, .inl ef)), (mo, .inr (6, [.ref ms, .ref mp, .int (nI np), .ref me, .ref mn, .long iv2, .long lg2, .long fg2, .long hv])), (mn, .inl (g 1, 5, .inr (.inl nw2)))] H := hP
        have hD : va_D (Aw [mo, ms, mp, me, mn] s.heap.size) [(ms, .inl (g 0, 71, .inl f)), (mp, .inl (g 0, 284, .inl pa)), (me, .inl (g 0, 3, .inl ef)), (mo, .inr (6, [.ref ms, .ref mp, .int (nI np), .ref me, .ref mn, .long iv2, .long lg2, .long fg2, .long hv])), (mn, .inl (g 1, 5, .inr (.inl nw2)))] := hD
        refine lv_topi (fun z8 ez8 => ?_)
        refine lv_istore_n (pc := 28) (lv' := [(3, .int z8), (0, .ref mo), (1, .int sx), (2, .int kx)]) hx hb dX6_steadyGain_28 rfl hl (by decide) rfl (fun ls hl => ?_)
        refine lv_iload_n (pc := 29) hx hb dX6_steadyGain_29 rfl (lv_at hl 0 rfl) ?_
        refine lv_ldc (pc := 30) (v := (-2000000001)) hx hb hown (hts _ q573) dX6_steadyGain_30 ?_
        refine lv_icmp_ne (pc := 32) (tgt := 40) hx hb dX6_steadyGain_32 (by decide) (fun cd9 => ?_) (fun cd9 => absurd cd9 (fun h => nI_ne_none hyb (ez8.symm.trans h)))
        refine lv_iload_n (pc := 40) hx hb dX6_steadyGain_40 rfl (lv_at hl 3 rfl) ?_
        refine lv_if_ne (pc := 41) (tgt := 51) hx hb dX6_steadyGain_41 (by decide) (fun cd10 => ?_) (fun cd10 => ?_)
        · refine lv_aload_n (pc := 51) hx hb dX6_steadyGain_51 rfl (lv_at hl 1 rfl) ?_
          refine va_get (pc := 52) (D := D) (ci := 6) (v := .long fg2) (C := RX6) (T := TX6) (N := 9) hx hb hts in_X6 hown hK.1 hP 3 rfl rfl 7 (by decide) (hts _ q581) (fun _ h9 => h9) rfl dX6_steadyGain_52 ?_
          refine lv_l2i (pc := 55) hx hb dX6_steadyGain_55 rfl ?_
          have hq9 : (fun r H1 => ((inR 0 3 sx ∧ inR 0 1 kx) ∧ r = syR kx (syF (f 5) (f 6) (f (8 + sx.toNatClampNeg)) (f (12 + sx.toNatClampNeg)) 300 1 (eR f)) ∧ MDI D g H1 mo ms mp me mn np ef f pa) ∨ (¬ (inR 0 3 sx ∧ inR 0 1 kx) ∧ r = -2000000002 ∧ MDI D g H1 mo ms mp me mn np (upd ef 0 (ef 0 + 1)) f pa) : Int32 → Heap → Prop) (Int64.toInt32 fg2) H := Or.inl ⟨⟨hck4, hck13⟩, by rw [hcl9, hsy, syR_some, cif_f (inR01_ne hck13), cif_f cd10]; exact hf2, ⟨_, _, _, _, _, hP.sub [3, 0, 1, 2, 4] rfl⟩⟩
          exact W.iret (v := Int64.toInt32 fg2) hx hb hr (fun t ht hW => ⟨⟨_, rfl, by rw [ht]; exact hq9⟩, hS.F ht⟩) hS.2.2 dX6_steadyGain_56
        · refine lv_aload_n (pc := 44) hx hb dX6_steadyGain_44 rfl (lv_at hl 1 rfl) ?_
          refine va_get (pc := 45) (D := D) (ci := 6) (v := .long lg2) (C := RX6) (T := TX6) (N := 9) hx hb hts in_X6 hown hK.1 hP 3 rfl rfl 6 (by decide) (hts _ q580) (fun _ h9 => h9) rfl dX6_steadyGain_45 ?_
          refine lv_goto (pc := 48) (tgt := 55) hx hb dX6_steadyGain_48 (by decide) ?_
          refine lv_l2i (pc := 55) hx hb dX6_steadyGain_55 rfl ?_
          have hq9 : (fun r H1 => ((inR 0 3 sx ∧ inR 0 1 kx) ∧ r = syR kx (syF (f 5) (f 6) (f (8 + sx.toNatClampNeg)) (f (12 + sx.toNatClampNeg)) 300 1 (eR f)) ∧ MDI D g H1 mo ms mp me mn np ef f pa) ∨ (¬ (inR 0 3 sx ∧ inR 0 1 kx) ∧ r = -2000000002 ∧ MDI D g H1 mo ms mp me mn np (upd ef 0 (ef 0 + 1)) f pa) : Int32 → Heap → Prop) (Int64.toInt32 lg2) H := Or.inl ⟨⟨hck4, hck13⟩, by rw [hcl9, hsy, syR_some, cif_f (inR01_ne hck13), cif_t cd10]; exact hl2, ⟨_, _, _, _, _, hP.sub [3, 0, 1, 2, 4] rfl⟩⟩
          exact W.iret (v := Int64.toInt32 lg2) hx hb hr (fun t ht hW => ⟨⟨_, rfl, by rw [ht]; exact hq9⟩, hS.F ht⟩) hS.2.2 dX6_steadyGain_56
    · have hnk : ¬ (inR 0 3 sx ∧ inR 0 1 kx) := fun h => (bI_eq (hr4.symm.trans cd5)) h.2
      refine lv_aload_n (pc := 16) hx hb dX6_steadyGain_16 rfl (lv_at hl 0 rfl) ?_
      refine lv_ldc (pc := 17) (v := (-2000000002)) hx hb hown (hts _ q614) dX6_steadyGain_17 ?_
      have hFc := awF (Lc := [me]) hD hS hA [3] rfl
      refine kI (pc := 19) (va_runV (As := [.int (-2000000002)]) (rest := []) ⟨hx, hb, hml, hown, hts⟩ (m6_fail l mo ms mp me mn np iv lg fg hv 0 ef (-2000000002) s.heap (hP.sub (ws' := [(me, .inl (g 0, 3, .inl ef))]) [3] rfl) (hP.sub (ws' := [(mo, .inr (6, [.ref ms, .ref mp, .int (nI np), .ref me, .ref mn, .long iv, .long lg, .long fg, .long hv]))]) [0] rfl) (ninW hD 0 [3] rfl rfl (by decide)) (by decide) (by decide)) (cwV 1 hts (lw_V q615 q617 qs8 q28 q618) rfl rfl rfl (by decide +kernel) ⟨Nat.le_of_ble_eq_true rfl, Nat.le_of_ble_eq_true rfl⟩) (preV hK (rcv hK hP 0 rfl rfl)) rfl rfl hl.1 rfl (lv_room (Nat.le_of_ble_eq_true rfl)) dX6_steadyGain_19 ⟨Nat.le_of_ble_eq_true rfl, Nat.le_of_ble_eq_true rfl⟩) hS hFc (fun r11 H locs hp9 hz1 hk1 hS => ?_)
      obtain ⟨hrc, hP1⟩ := hp9
      obtain ⟨hP, hD⟩ := jn (wr := [(mo, .inr (6, [.ref ms, .ref mp, .int (nI np), .ref me, .ref mn, .long iv, .long lg, .long fg, .long hv])), (ms, .inl (g 0, 71, .inl f)), (mp, .inl (g 0, 284, .inl pa)), (mn, .inl (g 1, 5, .inr (.inl nw)))]) (w1 := [(me, .inl (g 0, 3, .inl (upd ef 0 (ef 0 + 1))))]) hP hD [3] [0, 1, 2, 4] rfl rfl (by decide) (by decide) hk1 hFc hP1 (d1 (Or.inl (by simp)))
      have hP : va_P D vwCl [(mo, .inr (6, [.ref ms, .ref mp, .int (nI np), .ref me, .ref mn, .long iv, .long lg, .long fg, .long hv])), (ms, .inl (g 0, 71, .inl f)), (mp, .inl (g 0, 284, .inl pa)), (mn, .inl (g 1, 5, .inr (.inl nw))), (me, .inl (g 0, 3, .inl (upd ef 0 (ef 0 + 1))))] H := hP
      have hD : va_D (Aw [mo, ms, mp, me, mn] s.heap.size) [(mo, .inr (6, [.ref ms, .ref mp, .int (nI np), .ref me, .ref mn, .long iv, .long lg, .long fg, .long hv])), (ms, .inl (g 0, 71, .inl f)), (mp, .inl (g 0, 284, .inl pa)), (mn, .inl (g 1, 5, .inr (.inl nw))), (me, .inl (g 0, 3, .inl (upd ef 0 (ef 0 + 1))))] := hD
      have hq9 : (fun r H1 => ((inR 0 3 sx ∧ inR 0 1 kx) ∧ r = syR kx (syF (f 5) (f 6) (f (8 + sx.toNatClampNeg)) (f (12 + sx.toNatClampNeg)) 300 1 (eR f)) ∧ MDI D g H1 mo ms mp me mn np ef f pa) ∨ (¬ (inR 0 3 sx ∧ inR 0 1 kx) ∧ r = -2000000002 ∧ MDI D g H1 mo ms mp me mn np (upd ef 0 (ef 0 + 1)) f pa) : Int32 → Heap → Prop) r11 H := Or.inr ⟨hnk, hrc, ⟨_, _, _, _, _, hP.sub [0, 1, 2, 4, 3] rfl⟩⟩
      exact W.iret (v := r11) hx hb hr (fun t ht hW => ⟨⟨_, rfl, by rw [ht]; exact hq9⟩, hS.F ht⟩) hS.2.2 dX6_steadyGain_22
