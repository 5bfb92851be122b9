abbrev rm_m1_stepsTo : Room := ({ frames := 8, cells := 203, slots := 1220, locals := 172 })
set_option maxHeartbeats 4000000 in
set_option maxRecDepth 100000 in
/-- State.stepsTo -/
theorem m1_stepsTo (l : Launch) {D : va_G} {g : Nat → ClassId} (za : Nat) (h0 qe qs qh qa k : Nat) (gs ge : Nat → Option Nat) (f : Nat → Int32) (M : Nat → Prop) (tg : Int32) (H : Heap) (hs0 : va_P D vwCl [(h0, .inr (1, [.ref qe, .int (f 5), .int (f 6), .ref qs, .int (f 7), .ref qh, .int (f 19), .int (f 20), .int (f 21)]))] H) (hs1 : va_P D vwCl [(qe, .inr (2, [.int (f 0), .int (f 1), .int (f 2), .int (f 3), .int (f 4), .int (f 16), .int (f 17), .int (f 18)]))] H) (hs2 : va_P D vwCl [(qs, .inl (g 4, 4, .inr (.inr (.inr (.inr gs)))))] H) (hs3 : va_P D vwCl [(qh, .inr (3, [.ref qa, .int (nI k)]))] H) (hs4 : va_P D vwCl [(qa, .inl (g 3, 24, .inr (.inr (.inr (.inr ge)))))] H) : Met l yX1_stepsTo (wsW_ yX1_stepsTo cX1_stepsTo 5 (some .int) [(0, 55, 78, 89), (56, 77, 78, 89)]) rm_m1_stepsTo (va_Pc [.ref h0, .int tg] (PZ D g za H)) (QI (fun r H1 => r = stF (f 5) (f 6) (f 0) tg 101 0 (eR f)) (fun q => H.size ≤ q)) 203 1220 (fun q => H.size ≤ q) := by
  refine hm_ofWH (cc := cX1_stepsTo) (maxL := 5) (ret := (some .int)) (hh := [(0, 55, 78, 89), (56, 77, 78, 89)]) (by decide) rfl ?_
  intro p e s m args below meth c s₁ B hml hv
  obtain ⟨rfl, hH, hK, hZ⟩ := hv
  subst hH
  have hx := B.exec
  have hb := B.bytes
  have hr := B.returns
  have hts := atoms_spec (ws := wsW_ yX1_stepsTo cX1_stepsTo 5 (some .int) [(0, 55, 78, 89), (56, 77, 78, 89)]) B.pre
  have htb : c.exceptionTable.toList = tableOf [(0, 55, 78, 89), (56, 77, 78, 89)] := vx_table (x := yX1_stepsTo) B (hts _ List.mem_cons_self)
  have hts : ∀ w ∈ lw_all, w.before _ s = true := fun w h => hts w (List.mem_cons_of_mem _ h)
  have hown : s.vm.findClass RX1 = some m.cls := findClass_of_methodNamed B.named
  have hlocks := B.notSynchronized
  have hA : ∀ q, s.heap.size ≤ q → (fun q => s.heap.size ≤ q) q := fun q h => h
  have hS : va_S (fun q => s.heap.size ≤ q) s.heap s.heap [] := va_S.rf
  have hP : va_P D vwCl [] s.heap := fun k q h => by simp at h
  have hD : va_D (fun q => s.heap.size ≤ q) [] := ⟨fun i j p q h => by simp at h, fun k q h => by simp at h⟩
  have ahs0 : ¬ (fun q => s.heap.size ≤ q) h0 := Nat.not_le.mpr (hs0 0 _ rfl).lt
  have ahs1 : ¬ (fun q => s.heap.size ≤ q) qe := Nat.not_le.mpr (hs1 0 _ rfl).lt
  have ahs2 : ¬ (fun q => s.heap.size ≤ q) qs := Nat.not_le.mpr (hs2 0 _ rfl).lt
  have ahs3 : ¬ (fun q => s.heap.size ≤ q) qh := Nat.not_le.mpr (hs3 0 _ rfl).lt
  have ahs4 : ¬ (fun q => s.heap.size ≤ q) qa := Nat.not_le.mpr (hs4 0 _ rfl).lt
  have aza : ¬ (fun q => s.heap.size ≤ q) za := Nat.not_le.mpr hZ.lt
  have hl := lv_entry ([.ref h0, .int tg]) (n := 5) (Nat.le_of_ble_eq_true rfl)
  rw [lg_entry_eq]
  generalize (lg_sl ([.ref h0, .int tg]) ++ List.replicate (5 - (lg_sl ([.ref h0, .int tg])).length) Slot.unset).toArray = ls at hl ⊢
  have hl : lv_has ls 5 [(0, .ref h0), (1, .int tg)] := hl
  refine lv_aload_n (pc := 0) hx hb dX1_stepsTo_0 rfl (lv_at hl 0 rfl) ?_
  refine lv_iconst (pc := 1) (v := 0) hx hb dX1_stepsTo_1 (by decide) ?_
  have hFc := awF (Lc := []) hD hS hA [] rfl
  refine xR (pc := 2) (vx_runV (As := [.int 0]) (rest := []) ⟨hx, hb, hml, hown, hts⟩ (m1_predicted l za h0 qe qs qh qa k gs ge f M 0 0 s.heap hs0 hs1 hs2 hs3 hs4 (by decide) rfl) (cwV 1 hts (lw_V q465 q448 q449 q22 q450) rfl rfl rfl (by decide +kernel) ⟨Nat.le_of_ble_eq_true rfl, Nat.le_of_ble_eq_true rfl⟩) (preVZ hK hZ (rcv hK hs0 0 rfl rfl)) rfl rfl hl.1 rfl (lv_room (Nat.le_of_ble_eq_true rfl)) dX1_stepsTo_2 ⟨Nat.le_of_ble_eq_true rfl, Nat.le_of_ble_eq_true rfl⟩) hS (fun q h => hA q (Nat.le_trans hS.1 h)) (fun ce q9 H1 locs1 hX hz1 hk1 hS1 hce hcv hcl => ?_) (fun r1 H locs hp9 hz1 hk1 hS => ?_)
  · exact (hX (fun j h => absurd h (Nat.not_lt_zero j))).elim
  obtain ⟨_, hnr, hP1⟩ := hp9
  obtain ⟨hP, hD⟩ := jn (wr := []) (w1 := [(r1, .inr (2, [.int ((pIt (f 5) (f 6) 0 (eR f)) 0), .int ((pIt (f 5) (f 6) 0 (eR f)) 1), .int ((pIt (f 5) (f 6) 0 (eR f)) 2), .int ((pIt (f 5) (f 6) 0 (eR f)) 3), .int ((pIt (f 5) (f 6) 0 (eR f)) 4), .int ((pIt (f 5) (f 6) 0 (eR f)) 5), .int ((pIt (f 5) (f 6) 0 (eR f)) 6), .int ((pIt (f 5) (f 6) 0 (eR f)) 7)]))]) hP hD [] [] rfl rfl (by decide) (by decide) (fun q h1 h2 => hk1 q h1 (fun h => h2 (Or.inr h))) hFc hP1 (d1 (Or.inr hnr))
  have hP : va_P D vwCl [(r1, .inr (2, [.int ((pIt (f 5) (f 6) 0 (eR f)) 0), .int ((pIt (f 5) (f 6) 0 (eR f)) 1), .int ((pIt (f 5) (f 6) 0 (eR f)) 2), .int ((pIt (f 5) (f 6) 0 (eR f)) 3), .int ((pIt (f 5) (f 6) 0 (eR f)) 4), .int ((pIt (f 5) (f 6) 0 (eR f)) 5), .int ((pIt (f 5) (f 6) 0 (eR f)) 6), .int ((pIt (f 5) (f 6) 0 (eR f)) 7)]))] H := hP
  have hD : va_D (fun q => s.heap.size ≤ q) [(r1, .inr (2, [.int ((pIt (f 5) (f 6) 0 (eR f)) 0), .int ((pIt (f 5) (f 6) 0 (eR f)) 1), .int ((pIt (f 5) (f 6) 0 (eR f)) 2), .int ((pIt (f 5) (f 6) 0 (eR f)) 3), .int ((pIt (f 5) (f 6) 0 (eR f)) 4), .int ((pIt (f 5) (f 6) 0 (eR f)) 5), .int ((pIt (f 5) (f 6) 0 (eR f)) 6), .int ((pIt (f 5) (f 6) 0 (eR f)) 7)]))] := hD
  refine lv_astore_n (pc := 5) (lv' := [(2, .ref r1), (0, .ref h0), (1, .int tg)]) hx hb dX1_stepsTo_5 rfl hl (by decide) rfl (fun ls hl => ?_)
  refine lv_aload_n (pc := 6) hx hb dX1_stepsTo_6 rfl (lv_at hl 0 rfl) ?_
  refine va_getN (pc := 7) (D := D) (ci := 2) (v := .int ((pIt (f 5) (f 6) 0 (eR f)) 0)) (C := RX2) (T := TX2) (N := 8) hx hb hts in_X2 hown hK.1 hP 0 rfl rfl 0 (by decide) (hK.n nq57) (fun _ h9 => h9) rfl dX1_stepsTo_7 ?_
  refine lv_iload_n (pc := 10) hx hb dX1_stepsTo_10 rfl (lv_at hl 2 rfl) ?_
  refine lv_icmp_ge (pc := 11) (tgt := 18) hx hb dX1_stepsTo_11 (by decide) (fun cd2 => ?_) (fun cd2 => ?_)
  · have hup : ¬ f 0 < tg := Int32.not_lt.mpr cd2
    refine lv_iconst (pc := 18) (v := 0) hx hb dX1_stepsTo_18 (by decide) ?_
    refine lv_istore_n (pc := 19) (lv' := [(3, .int 0), (2, .ref r1), (0, .ref h0), (1, .int tg)]) hx hb dX1_stepsTo_19 rfl hl (by decide) rfl (fun ls hl => ?_)
    refine lv_iconst (pc := 20) (v := 0) hx hb dX1_stepsTo_20 (by decide) ?_
    refine lv_istore (pc := 21) (lv' := [(4, .int 0), (3, .int 0), (2, .ref r1), (0, .ref h0), (1, .int tg)]) hx hb dX1_stepsTo_21 hl (by decide) rfl (fun ls hl => ?_)
    have loop : ∀ (n : Nat) (i : Nat), (i ≤ 101) → (102 ≤ i + n) → (stF (f 5) (f 6) (f 0) tg 101 0 (eR f) = stF (f 5) (f 6) (f 0) tg (101 - i) i (pIt (f 5) (f 6) i (eR f))) → ∀ (H : Heap) (locs : List Loc), va_P D vwCl [(r1, .inr (2, [.int ((pIt (f 5) (f 6) i (eR f)) 0), .int ((pIt (f 5) (f 6) i (eR f)) 1), .int ((pIt (f 5) (f 6) i (eR f)) 2), .int ((pIt (f 5) (f 6) i (eR f)) 3), .int ((pIt (f 5) (f 6) i (eR f)) 4), .int ((pIt (f 5) (f 6) i (eR f)) 5), .int ((pIt (f 5) (f 6) i (eR f)) 6), .int ((pIt (f 5) (f 6) i (eR f)) 7)]))] H → va_D (fun q => s.heap.size ≤ q) [(r1, .inr (2, [.int ((pIt (f 5) (f 6) i (eR f)) 0), .int ((pIt (f 5) (f 6) i (eR f)) 1), .int ((pIt (f 5) (f 6) i (eR f)) 2), .int ((pIt (f 5) (f 6) i (eR f)) 3), .int ((pIt (f 5) (f 6) i (eR f)) 4), .int ((pIt (f 5) (f 6) i (eR f)) 5), .int ((pIt (f 5) (f 6) i (eR f)) 6), .int ((pIt (f 5) (f 6) i (eR f)) 7)]))] → va_S (fun q => s.heap.size ≤ q) s.heap H locs → ∀ (ls : Array Slot), lv_has ls 5 [(0, .ref h0), (1, .int tg), (2, .ref r1), (3, .int 0), (4, .int (nI i))] → W p l e (headSpec (wsW_ yX1_stepsTo cX1_stepsTo 5 (some .int) [(0, 55, 78, 89), (56, 77, 78, 89)]) rm_m1_stepsTo).room s m ([.ref h0, .int tg] : List Value).toArray below meth c H locs (101 + i) (608 + 6 * i) (MQ below (QI (fun r H1 => r = stF (f 5) (f 6) (f 0) tg 101 0 (eR f)) (fun q => s.heap.size ≤ q)) ([.ref h0, .int tg] : List Value).toArray s 203 1220 (fun q => s.heap.size ≤ q)) (F0 m 23 ls []) := by
      intro n
      induction n with
      | zero =>
        intro i hi hfu hst
        exact absurd (show _ by assumption) (by omega)
      | succ n ih =>
        intro i hi hfu hst H locs hP hD hS ls hl
        refine lv_iload (pc := 23) hx hb dX1_stepsTo_23 (lv_at hl 4 rfl) ?_
        refine lv_bipush (pc := 25) (v := 100) hx hb dX1_stepsTo_25 (by decide) ?_
        refine lv_icmp_gt (pc := 27) (tgt := 75) hx hb dX1_stepsTo_27 (by decide) (fun cd3 => ?_) (fun cd3 => ?_)
        · have ncd3 : 100 < i := (nlt (nl 100) rfl (by omega) (by omega)).mp cd3
          refine lv_ldc (pc := 75) (v := (-2000000001)) hx hb hown (hts _ q466) dX1_stepsTo_75 ?_
          refine W.widen (k := 203) (n := 1220) (by omega) (by omega) ?_
          have hq9 : (fun r H1 => r = stF (f 5) (f 6) (f 0) tg 101 0 (eR f) : Int32 → Heap → Prop) (-2000000001) H := by rw [hst, show 101 - i = 0 by omega]; rfl
          exact W.iret (v := (-2000000001)) hx hb hr (fun t ht hW => ⟨⟨_, rfl, by rw [ht]; exact hq9⟩, hS.F ht⟩) hS.2.2 dX1_stepsTo_77
        · have ncd3 : ¬ 100 < i := fun h => cd3 ((nlt (nl 100) rfl (by omega) (by omega)).mpr h)
          refine lv_iload_n (pc := 30) hx hb dX1_stepsTo_30 rfl (lv_at hl 3 rfl) ?_
          refine lv_if_eq (pc := 31) (tgt := 45) hx hb dX1_stepsTo_31 (by decide) (fun cd4 => ?_) (fun cd4 => absurd cd4 (by decide))
          refine lv_aload_n (pc := 45) hx hb dX1_stepsTo_45 rfl (lv_at hl 2 rfl) ?_
          refine va_getN (pc := 46) (D := D) (ci := 2) (v := .int ((pIt (f 5) (f 6) i (eR f)) 0)) (C := RX2) (T := TX2) (N := 8) hx hb hts in_X2 hown hK.1 hP 0 rfl rfl 0 (by decide) (hK.n nq57) (fun _ h9 => h9) rfl dX1_stepsTo_46 ?_
          refine lv_iload_n (pc := 49) hx hb dX1_stepsTo_49 rfl (lv_at hl 1 rfl) ?_
          refine lv_icmp_gt (pc := 50) (tgt := 56) hx hb dX1_stepsTo_50 (by decide) (fun cd5 => ?_) (fun cd5 => ?_)
          · have hnr9 : ¬ rch (f 0) tg ((pIt (f 5) (f 6) i (eR f)) 0) := fun h => h.elim (fun a => hup a.1) (fun a => absurd a.2 (Int32.not_le.mpr cd5))
            refine lv_aload_n (pc := 56) hx hb dX1_stepsTo_56 rfl (lv_at hl 2 rfl) ?_
            refine lv_iconst (pc := 57) (v := 0) hx hb dX1_stepsTo_57 (by decide) ?_
            refine lv_aload_n (pc := 58) hx hb dX1_stepsTo_58 rfl (lv_at hl 0 rfl) ?_
            refine va_get (pc := 59) (D := D) (ci := 1) (v := .int (f 5)) (C := RX1) (T := TX1) (N := 9) hx hb hts in_X1 hown hK.1 (ro_at hS hs0 ahs0) 0 rfl rfl 1 (by decide) (hts _ q133) (fun _ h9 => h9) rfl dX1_stepsTo_59 ?_
            refine lv_aload_n (pc := 62) hx hb dX1_stepsTo_62 rfl (lv_at hl 0 rfl) ?_
            refine va_get (pc := 63) (D := D) (ci := 1) (v := .int (f 6)) (C := RX1) (T := TX1) (N := 9) hx hb hts in_X1 hown hK.1 (ro_at hS hs0 ahs0) 0 rfl rfl 2 (by decide) (hts _ q135) (fun _ h9 => h9) rfl dX1_stepsTo_63 ?_
            have hFc := awF (Lc := [r1]) hD hS hA [0] rfl
            refine xV (pc := 66) (vx_runV (As := [.int 0, .int (f 5), .int (f 6)]) (rest := []) ⟨hx, hb, hml, hown, hts⟩ (m2_predict l za r1 (pIt (f 5) (f 6) i (eR f)) 0 (f 5) (f 6) H (hP.sub (ws' := [(r1, .inr (2, [.int ((pIt (f 5) (f 6) i (eR f)) 0), .int ((pIt (f 5) (f 6) i (eR f)) 1), .int ((pIt (f 5) (f 6) i (eR f)) 2), .int ((pIt (f 5) (f 6) i (eR f)) 3), .int ((pIt (f 5) (f 6) i (eR f)) 4), .int ((pIt (f 5) (f 6) i (eR f)) 5), .int ((pIt (f 5) (f 6) i (eR f)) 6), .int ((pIt (f 5) (f 6) i (eR f)) 7)]))]) [0] rfl) (ninL aza (fun q h => hFc q (Or.inl h)))) (cwV 3 hts (lw_V q451 q269 q270 q23 q271) rfl rfl rfl (by decide +kernel) ⟨Nat.le_of_ble_eq_true rfl, Nat.le_of_ble_eq_true rfl⟩) (preVZ hK (hZ.kept (hS.2.1 _ hZ.lt aza)) (rcv hK hP 0 rfl rfl)) rfl rfl hl.1 rfl (lv_room (Nat.le_of_ble_eq_true rfl)) dX1_stepsTo_66 ⟨show 101 + i + 1 ≤ 203 by omega, show 608 + 6 * i + 6 ≤ 1220 by omega⟩) hS hFc (fun ce q9 H1 locs1 hX hz1 hk1 hS1 hce hcv hcl => ?_) (fun H locs hp9 hz1 hk1 hS => ?_)
            · have hnone : stF (f 5) (f 6) (f 0) tg 101 0 (eR f) = -2000000001 := by rw [hst, show 101 - i = (100 - i) + 1 by omega]; rw [stF_s, cif_f hnr9, cif_f hX]
              have hS := hS1
              have hP : va_P D vwCl [(r1, .inr (2, [.int ((pIt (f 5) (f 6) i (eR f)) 0), .int ((pIt (f 5) (f 6) i (eR f)) 1), .int ((pIt (f 5) (f 6) i (eR f)) 2), .int ((pIt (f 5) (f 6) i (eR f)) 3), .int ((pIt (f 5) (f 6) i (eR f)) 4), .int ((pIt (f 5) (f 6) i (eR f)) 5), .int ((pIt (f 5) (f 6) i (eR f)) 6), .int ((pIt (f 5) (f 6) i (eR f)) 7)]))] H1 := hP.kept (fun k q hk => hk1 _ (hP k q hk).lt)
              refine vx_catch (E := RX7) (name := "TankFilter$LimitExceeded") hown [({ startPc := 0, endPc := 55, handlerPc := 78, catchType := 89 } : ExceptionTableEntry)] ({ startPc := 56, endPc := 77, handlerPc := 78, catchType := 89 } : ExceptionTableEntry) [] (by rw [htb]; rfl) (fun z hz => Or.inl (by rcases List.mem_singleton.mp hz with rfl; decide)) (by decide) (by decide) (hts _ q464) (hK.n nq278) hce hcv hcl ?_
              refine lv_astore_n (pc := 78) (lv' := [(2, .ref q9), (0, .ref h0), (1, .int tg), (3, .int 0), (4, .int (nI i))]) hx hb dX1_stepsTo_78 rfl hl (by decide) rfl (fun ls hl => ?_)
              refine lv_ldc (pc := 79) (v := (-2000000001)) hx hb hown (hts _ q466) dX1_stepsTo_79 ?_
              refine W.widen (k := 203) (n := 1220) (by omega) (by omega) ?_
              have hq9 : (fun r H1 => r = stF (f 5) (f 6) (f 0) tg 101 0 (eR f) : Int32 → Heap → Prop) (-2000000001) H1 := hnone.symm
              exact W.iret (v := (-2000000001)) hx hb hr (fun t ht hW => ⟨⟨_, rfl, by rw [ht]; exact hq9⟩, hS.F ht⟩) hS.2.2 dX1_stepsTo_81
            obtain ⟨hok, hP1⟩ := hp9
            obtain ⟨hP, hD⟩ := jn (wr := []) (w1 := [(r1, .inr (2, [.int ((pE (pIt (f 5) (f 6) i (eR f)) 0 (f 5) (f 6)) 0), .int ((pE (pIt (f 5) (f 6) i (eR f)) 0 (f 5) (f 6)) 1), .int ((pE (pIt (f 5) (f 6) i (eR f)) 0 (f 5) (f 6)) 2), .int ((pE (pIt (f 5) (f 6) i (eR f)) 0 (f 5) (f 6)) 3), .int ((pE (pIt (f 5) (f 6) i (eR f)) 0 (f 5) (f 6)) 4), .int ((pE (pIt (f 5) (f 6) i (eR f)) 0 (f 5) (f 6)) 5), .int ((pE (pIt (f 5) (f 6) i (eR f)) 0 (f 5) (f 6)) 6), .int ((pE (pIt (f 5) (f 6) i (eR f)) 0 (f 5) (f 6)) 7)]))]) hP hD [0] [] rfl rfl (by decide) (by decide) hk1 hFc hP1 (d1 (Or.inl (by simp)))
            have hP : va_P D vwCl [(r1, .inr (2, [.int ((pE (pIt (f 5) (f 6) i (eR f)) 0 (f 5) (f 6)) 0), .int ((pE (pIt (f 5) (f 6) i (eR f)) 0 (f 5) (f 6)) 1), .int ((pE (pIt (f 5) (f 6) i (eR f)) 0 (f 5) (f 6)) 2), .int ((pE (pIt (f 5) (f 6) i (eR f)) 0 (f 5) (f 6)) 3), .int ((pE (pIt (f 5) (f 6) i (eR f)) 0 (f 5) (f 6)) 4), .int ((pE (pIt (f 5) (f 6) i (eR f)) 0 (f 5) (f 6)) 5), .int ((pE (pIt (f 5) (f 6) i (eR f)) 0 (f 5) (f 6)) 6), .int ((pE (pIt (f 5) (f 6) i (eR f)) 0 (f 5) (f 6)) 7)]))] H := hP
            have hD : va_D (fun q => s.heap.size ≤ q) [(r1, .inr (2, [.int ((pE (pIt (f 5) (f 6) i (eR f)) 0 (f 5) (f 6)) 0), .int ((pE (pIt (f 5) (f 6) i (eR f)) 0 (f 5) (f 6)) 1), .int ((pE (pIt (f 5) (f 6) i (eR f)) 0 (f 5) (f 6)) 2), .int ((pE (pIt (f 5) (f 6) i (eR f)) 0 (f 5) (f 6)) 3), .int ((pE (pIt (f 5) (f 6) i (eR f)) 0 (f 5) (f 6)) 4), .int ((pE (pIt (f 5) (f 6) i (eR f)) 0 (f 5) (f 6)) 5), .int ((pE (pIt (f 5) (f 6) i (eR f)) 0 (f 5) (f 6)) 6), .int ((pE (pIt (f 5) (f 6) i (eR f)) 0 (f 5) (f 6)) 7)]))] := hD
            obtain ⟨x7, ex7⟩ : ∃ y : Int32, y = (nI i) + 1 := ⟨_, rfl⟩
            refine lv_iinc (pc := 69) (v := x7) (lv' := [(4, .int x7), (0, .ref h0), (1, .int tg), (2, .ref r1), (3, .int 0)]) hx hb dX1_stepsTo_69 hl (k := 4) rfl (by rw [ex7]; rfl) (by decide) rfl (fun ls hl => ?_)
            refine lv_goto (pc := 72) (tgt := 23) hx hb dX1_stepsTo_72 (by decide) ?_
            rw [show x7 = nI (i + 1) from (ex7.trans (nadd rfl (nl 1)))] at hl
            refine W.widen (k := 101 + (i + 1)) (n := 608 + 6 * (i + 1)) (by omega) (by omega) ?_
            exact ih  (i + 1) (by omega) (by omega) (by rw [hst, show 101 - i = (100 - i) + 1 by omega]; rw [stF_s, cif_f hnr9, cif_t hok, show 101 - (i + 1) = 100 - i by omega]; rfl) _ _ hP hD hS ls (lv_sub hl [1, 2, 3, 4, 0] rfl)
          · have hyr : rch (f 0) tg ((pIt (f 5) (f 6) i (eR f)) 0) := Or.inr ⟨hup, Int32.not_lt.mp cd5⟩
            refine lv_iload (pc := 53) hx hb dX1_stepsTo_53 (lv_at hl 4 rfl) ?_
            refine W.widen (k := 203) (n := 1220) (by omega) (by omega) ?_
            have hq9 : (fun r H1 => r = stF (f 5) (f 6) (f 0) tg 101 0 (eR f) : Int32 → Heap → Prop) (nI i) H := by rw [hst, show 101 - i = (100 - i) + 1 by omega]; rw [stF_s, cif_t hyr]
            exact W.iret (v := nI i) hx hb hr (fun t ht hW => ⟨⟨_, rfl, by rw [ht]; exact hq9⟩, hS.F ht⟩) hS.2.2 dX1_stepsTo_55
    exact loop 102 0 (Nat.zero_le _) (by omega) rfl _ _ hP hD hS ls (lv_sub hl [3, 4, 2, 1, 0] rfl)
  · have hup :  f 0 < tg := Int32.not_le.mp cd2
    refine lv_iconst (pc := 14) (v := 1) hx hb dX1_stepsTo_14 (by decide) ?_
    refine lv_goto (pc := 15) (tgt := 19) hx hb dX1_stepsTo_15 (by decide) ?_
    refine lv_istore_n (pc := 19) (lv' := [(3, .int 1), (2, .ref r1), (0, .ref h0), (1, .int tg)]) hx hb dX1_stepsTo_19 rfl hl (by decide) rfl (fun ls hl => ?_)
    refine lv_iconst (pc := 20) (v := 0) hx hb dX1_stepsTo_20 (by decide) ?_
    refine lv_istore (pc := 21) (lv' := [(4, .int 0), (3, .int 1), (2, .ref r1), (0, .ref h0), (1, .int tg)]) hx hb dX1_stepsTo_21 hl (by decide) rfl (fun ls hl => ?_)
    have loop : ∀ (n : Nat) (i : Nat), (i ≤ 101) → (102 ≤ i + n) → (stF (f 5) (f 6) (f 0) tg 101 0 (eR f) = stF (f 5) (f 6) (f 0) tg (101 - i) i (pIt (f 5) (f 6) i (eR f))) → ∀ (H : Heap) (locs : List Loc), va_P D vwCl [(r1, .inr (2, [.int ((pIt (f 5) (f 6) i (eR f)) 0), .int ((pIt (f 5) (f 6) i (eR f)) 1), .int ((pIt (f 5) (f 6) i (eR f)) 2), .int ((pIt (f 5) (f 6) i (eR f)) 3), .int ((pIt (f 5) (f 6) i (eR f)) 4), .int ((pIt (f 5) (f 6) i (eR f)) 5), .int ((pIt (f 5) (f 6) i (eR f)) 6), .int ((pIt (f 5) (f 6) i (eR f)) 7)]))] H → va_D (fun q => s.heap.size ≤ q) [(r1, .inr (2, [.int ((pIt (f 5) (f 6) i (eR f)) 0), .int ((pIt (f 5) (f 6) i (eR f)) 1), .int ((pIt (f 5) (f 6) i (eR f)) 2), .int ((pIt (f 5) (f 6) i (eR f)) 3), .int ((pIt (f 5) (f 6) i (eR f)) 4), .int ((pIt (f 5) (f 6) i (eR f)) 5), .int ((pIt (f 5) (f 6) i (eR f)) 6), .int ((pIt (f 5) (f 6) i (eR f)) 7)]))] → va_S (fun q => s.heap.size ≤ q) s.heap H locs → ∀ (ls : Array Slot), lv_has ls 5 [(0, .ref h0), (1, .int tg), (2, .ref r1), (3, .int 1), (4, .int (nI i))] → W p l e (headSpec (wsW_ yX1_stepsTo cX1_stepsTo 5 (some .int) [(0, 55, 78, 89), (56, 77, 78, 89)]) rm_m1_stepsTo).room s m ([.ref h0, .int tg] : List Value).toArray below meth c H locs (101 + i) (608 + 6 * i) (MQ below (QI (fun r H1 => r = stF (f 5) (f 6) (f 0) tg 101 0 (eR f)) (fun q => s.heap.size ≤ q)) ([.ref h0, .int tg] : List Value).toArray s 203 1220 (fun q => s.heap.size ≤ q)) (F0 m 23 ls []) := by
      intro n
      induction n with
      | zero =>
        intro i hi hfu hst
        exact absurd (show _ by assumption) (by omega)
      | succ n ih =>
        intro i hi hfu hst H locs hP hD hS ls hl
        refine lv_iload (pc := 23) hx hb dX1_stepsTo_23 (lv_at hl 4 rfl) ?_
        refine lv_bipush (pc := 25) (v := 100) hx hb dX1_stepsTo_25 (by decide) ?_
        refine lv_icmp_gt (pc := 27) (tgt := 75) hx hb dX1_stepsTo_27 (by decide) (fun cd8 => ?_) (fun cd8 => ?_)
        · have ncd8 : 100 < i := (nlt (nl 100) rfl (by omega) (by omega)).mp cd8
          refine lv_ldc (pc := 75) (v := (-2000000001)) hx hb hown (hts _ q466) dX1_stepsTo_75 ?_
          refine W.widen (k := 203) (n := 1220) (by omega) (by omega) ?_
          have hq9 : (fun r H1 => r = stF (f 5) (f 6) (f 0) tg 101 0 (eR f) : Int32 → Heap → Prop) (-2000000001) H := by rw [hst, show 101 - i = 0 by omega]; rfl
          exact W.iret (v := (-2000000001)) hx hb hr (fun t ht hW => ⟨⟨_, rfl, by rw [ht]; exact hq9⟩, hS.F ht⟩) hS.2.2 dX1_stepsTo_77
        · have ncd8 : ¬ 100 < i := fun h => cd8 ((nlt (nl 100) rfl (by omega) (by omega)).mpr h)
          refine lv_iload_n (pc := 30) hx hb dX1_stepsTo_30 rfl (lv_at hl 3 rfl) ?_
          refine lv_if_eq (pc := 31) (tgt := 45) hx hb dX1_stepsTo_31 (by decide) (fun cd9 => absurd cd9 (by decide)) (fun cd9 => ?_)
          refine lv_aload_n (pc := 34) hx hb dX1_stepsTo_34 rfl (lv_at hl 2 rfl) ?_
          refine va_getN (pc := 35) (D := D) (ci := 2) (v := .int ((pIt (f 5) (f 6) i (eR f)) 0)) (C := RX2) (T := TX2) (N := 8) hx hb hts in_X2 hown hK.1 hP 0 rfl rfl 0 (by decide) (hK.n nq57) (fun _ h9 => h9) rfl dX1_stepsTo_35 ?_
          refine lv_iload_n (pc := 38) hx hb dX1_stepsTo_38 rfl (lv_at hl 1 rfl) ?_
          refine lv_icmp_lt (pc := 39) (tgt := 56) hx hb dX1_stepsTo_39 (by decide) (fun cd10 => ?_) (fun cd10 => ?_)
          · have hnr9 : ¬ rch (f 0) tg ((pIt (f 5) (f 6) i (eR f)) 0) := fun h => h.elim (fun a => absurd a.2 (Int32.not_le.mpr cd10)) (fun a => a.1 hup)
            refine lv_aload_n (pc := 56) hx hb dX1_stepsTo_56 rfl (lv_at hl 2 rfl) ?_
            refine lv_iconst (pc := 57) (v := 0) hx hb dX1_stepsTo_57 (by decide) ?_
            refine lv_aload_n (pc := 58) hx hb dX1_stepsTo_58 rfl (lv_at hl 0 rfl) ?_
            refine va_get (pc := 59) (D := D) (ci := 1) (v := .int (f 5)) (C := RX1) (T := TX1) (N := 9) hx hb hts in_X1 hown hK.1 (ro_at hS hs0 ahs0) 0 rfl rfl 1 (by decide) (hts _ q133) (fun _ h9 => h9) rfl dX1_stepsTo_59 ?_
            refine lv_aload_n (pc := 62) hx hb dX1_stepsTo_62 rfl (lv_at hl 0 rfl) ?_
            refine va_get (pc := 63) (D := D) (ci := 1) (v := .int (f 6)) (C := RX1) (T := TX1) (N := 9) hx hb hts in_X1 hown hK.1 (ro_at hS hs0 ahs0) 0 rfl rfl 2 (by decide) (hts _ q135) (fun _ h9 => h9) rfl dX1_stepsTo_63 ?_
            have hFc := awF (Lc := [r1]) hD hS hA [0] rfl
            refine xV (pc := 66) (vx_runV (As := [.int 0, .int (f 5), .int (f 6)]) (rest := []) ⟨hx, hb, hml, hown, hts⟩ (m2_predict l za r1 (pIt (f 5) (f 6) i (eR f)) 0 (f 5) (f 6) H (hP.sub (ws' := [(r1, .inr (2, [.int ((pIt (f 5) (f 6) i (eR f)) 0), .int ((pIt (f 5) (f 6) i (eR f)) 1), .int ((pIt (f 5) (f 6) i (eR f)) 2), .int ((pIt (f 5) (f 6) i (eR f)) 3), .int ((pIt (f 5) (f 6) i (eR f)) 4), .int ((pIt (f 5) (f 6) i (eR f)) 5), .int ((pIt (f 5) (f 6) i (eR f)) 6), .int ((pIt (f 5) (f 6) i (eR f)) 7)]))]) [0] rfl) (ninL aza (fun q h => hFc q (Or.inl h)))) (cwV 3 hts (lw_V q451 q269 q270 q23 q271) rfl rfl rfl (by decide +kernel) ⟨Nat.le_of_ble_eq_true rfl, Nat.le_of_ble_eq_true rfl⟩) (preVZ hK (hZ.kept (hS.2.1 _ hZ.lt aza)) (rcv hK hP 0 rfl rfl)) rfl rfl hl.1 rfl (lv_room (Nat.le_of_ble_eq_true rfl)) dX1_stepsTo_66 ⟨show 101 + i + 1 ≤ 203 by omega, show 608 + 6 * i + 6 ≤ 1220 by omega⟩) hS hFc (fun ce q9 H1 locs1 hX hz1 hk1 hS1 hce hcv hcl => ?_) (fun H locs hp9 hz1 hk1 hS => ?_)
            · have hnone : stF (f 5) (f 6) (f 0) tg 101 0 (eR f) = -2000000001 := by rw [hst, show 101 - i = (100 - i) + 1 by omega]; rw [stF_s, cif_f hnr9, cif_f hX]
              have hS := hS1
              have hP : va_P D vwCl [(r1, .inr (2, [.int ((pIt (f 5) (f 6) i (eR f)) 0), .int ((pIt (f 5) (f 6) i (eR f)) 1), .int ((pIt (f 5) (f 6) i (eR f)) 2), .int ((pIt (f 5) (f 6) i (eR f)) 3), .int ((pIt (f 5) (f 6) i (eR f)) 4), .int ((pIt (f 5) (f 6) i (eR f)) 5), .int ((pIt (f 5) (f 6) i (eR f)) 6), .int ((pIt (f 5) (f 6) i (eR f)) 7)]))] H1 := hP.kept (fun k q hk => hk1 _ (hP k q hk).lt)
              refine vx_catch (E := RX7) (name := "TankFilter$LimitExceeded") hown [({ startPc := 0, endPc := 55, handlerPc := 78, catchType := 89 } : ExceptionTableEntry)] ({ startPc := 56, endPc := 77, handlerPc := 78, catchType := 89 } : ExceptionTableEntry) [] (by rw [htb]; rfl) (fun z hz => Or.inl (by rcases List.mem_singleton.mp hz with rfl; decide)) (by decide) (by decide) (hts _ q464) (hK.n nq278) hce hcv hcl ?_
              refine lv_astore_n (pc := 78) (lv' := [(2, .ref q9), (0, .ref h0), (1, .int tg), (3, .int 1), (4, .int (nI i))]) hx hb dX1_stepsTo_78 rfl hl (by decide) rfl (fun ls hl => ?_)
              refine lv_ldc (pc := 79) (v := (-2000000001)) hx hb hown (hts _ q466) dX1_stepsTo_79 ?_
              refine W.widen (k := 203) (n := 1220) (by omega) (by omega) ?_
              have hq9 : (fun r H1 => r = stF (f 5) (f 6) (f 0) tg 101 0 (eR f) : Int32 → Heap → Prop) (-2000000001) H1 := hnone.symm
              exact W.iret (v := (-2000000001)) hx hb hr (fun t ht hW => ⟨⟨_, rfl, by rw [ht]; exact hq9⟩, hS.F ht⟩) hS.2.2 dX1_stepsTo_81
            obtain ⟨hok, hP1⟩ := hp9
            obtain ⟨hP, hD⟩ := jn (wr := []) (w1 := [(r1, .inr (2, [.int ((pE (pIt (f 5) (f 6) i (eR f)) 0 (f 5) (f 6)) 0), .int ((pE (pIt (f 5) (f 6) i (eR f)) 0 (f 5) (f 6)) 1), .int ((pE (pIt (f 5) (f 6) i (eR f)) 0 (f 5) (f 6)) 2), .int ((pE (pIt (f 5) (f 6) i (eR f)) 0 (f 5) (f 6)) 3), .int ((pE (pIt (f 5) (f 6) i (eR f)) 0 (f 5) (f 6)) 4), .int ((pE (pIt (f 5) (f 6) i (eR f)) 0 (f 5) (f 6)) 5), .int ((pE (pIt (f 5) (f 6) i (eR f)) 0 (f 5) (f 6)) 6), .int ((pE (pIt (f 5) (f 6) i (eR f)) 0 (f 5) (f 6)) 7)]))]) hP hD [0] [] rfl rfl (by decide) (by decide) hk1 hFc hP1 (d1 (Or.inl (by simp)))
            have hP : va_P D vwCl [(r1, .inr (2, [.int ((pE (pIt (f 5) (f 6) i (eR f)) 0 (f 5) (f 6)) 0), .int ((pE (pIt (f 5) (f 6) i (eR f)) 0 (f 5) (f 6)) 1), .int ((pE (pIt (f 5) (f 6) i (eR f)) 0 (f 5) (f 6)) 2), .int ((pE (pIt (f 5) (f 6) i (eR f)) 0 (f 5) (f 6)) 3), .int ((pE (pIt (f 5) (f 6) i (eR f)) 0 (f 5) (f 6)) 4), .int ((pE (pIt (f 5) (f 6) i (eR f)) 0 (f 5) (f 6)) 5), .int ((pE (pIt (f 5) (f 6) i (eR f)) 0 (f 5) (f 6)) 6), .int ((pE (pIt (f 5) (f 6) i (eR f)) 0 (f 5) (f 6)) 7)]))] H := hP
            have hD : va_D (fun q => s.heap.size ≤ q) [(r1, .inr (2, [.int ((pE (pIt (f 5) (f 6) i (eR f)) 0 (f 5) (f 6)) 0), .int ((pE (pIt (f 5) (f 6) i (eR f)) 0 (f 5) (f 6)) 1), .int ((pE (pIt (f 5) (f 6) i (eR f)) 0 (f 5) (f 6)) 2), .int ((pE (pIt (f 5) (f 6) i (eR f)) 0 (f 5) (f 6)) 3), .int ((pE (pIt (f 5) (f 6) i (eR f)) 0 (f 5) (f 6)) 4), .int ((pE (pIt (f 5) (f 6) i (eR f)) 0 (f 5) (f 6)) 5), .int ((pE (pIt (f 5) (f 6) i (eR f)) 0 (f 5) (f 6)) 6), .int ((pE (pIt (f 5) (f 6) i (eR f)) 0 (f 5) (f 6)) 7)]))] := hD
            obtain ⟨x12, ex12⟩ : ∃ y : Int32, y = (nI i) + 1 := ⟨_, rfl⟩
            refine lv_iinc (pc := 69) (v := x12) (lv' := [(4, .int x12), (0, .ref h0), (1, .int tg), (2, .ref r1), (3, .int 1)]) hx hb dX1_stepsTo_69 hl (k := 4) rfl (by rw [ex12]; rfl) (by decide) rfl (fun ls hl => ?_)
            refine lv_goto (pc := 72) (tgt := 23) hx hb dX1_stepsTo_72 (by decide) ?_
            rw [show x12 = nI (i + 1) from (ex12.trans (nadd rfl (nl 1)))] at hl
            refine W.widen (k := 101 + (i + 1)) (n := 608 + 6 * (i + 1)) (by omega) (by omega) ?_
            exact ih  (i + 1) (by omega) (by omega) (by rw [hst, show 101 - i = (100 - i) + 1 by omega]; rw [stF_s, cif_f hnr9, cif_t hok, show 101 - (i + 1) = 100 - i by omega]; rfl) _ _ hP hD hS ls (lv_sub hl [1, 2, 3, 4, 0] rfl)
          · have hyr : rch (f 0) tg ((pIt (f 5) (f 6) i (eR f)) 0) := Or.inl ⟨hup, Int32.not_lt.mp cd10⟩
            refine lv_goto (pc := 42) (tgt := 53) hx hb dX1_stepsTo_42 (by decide) ?_
            refine lv_iload (pc := 53) hx hb dX1_stepsTo_53 (lv_at hl 4 rfl) ?_
            refine W.widen (k := 203) (n := 1220) (by omega) (by omega) ?_
            have hq9 : (fun r H1 => r = stF (f 5) (f 6) (f 0) tg 101 0 (eR f) : Int32 → Heap → Prop) (nI i) H := by rw [hst, show 101 - i = (100 - i) + 1 by omega]; rw [stF_s, cif_t hyr]
            exact W.iret (v := nI i) hx hb hr (fun t ht hW => ⟨⟨_, rfl, by rw [ht]; exact hq9⟩, hS.F ht⟩) hS.2.2 dX1_stepsTo_55
    exact loop 102 0 (Nat.zero_le _) (by omega) rfl _ _ hP hD hS ls (lv_sub hl [3, 4, 2, 1, 0] rfl)

abbrev rm_m1_steady : Room := ({ frames := 8, cells := 703, slots := 4220, locals := 172 })
set_option maxHeartbeats 4000000 in
set_option maxRecDepth 100000 in
/-- State.steady -/
theorem m1_steady (l : Launch) {D : va_G} {g : Nat → ClassId} (za : Nat) (h0 qe qs qh qa k : Nat) (gs ge : Nat → Option Nat) (f : Nat → Int32) (M : Nat → Prop) (se : Nat) (sx wh : Int32) (H : Heap) (hs0 : va_P D vwCl [(h0, .inr (1, [.ref qe, .int (f 5), .int (f 6), .ref qs, .int (f 7), .ref qh, .int (f 19), .int (f 20), .int (f 21)]))] H) (hs1 : va_P D vwCl [(qe, .inr (2, [.int (f 0), .int (f 1), .int (f 2), .int (f 3), .int (f 4), .int (f 16), .int (f 17), .int (f 18)]))] H) (hs2 : va_P D vwCl [(qs, .inl (g 4, 4, .inr (.inr (.inr (.inr gs)))))] H) (hs3 : va_P D vwCl [(qh, .inr (3, [.ref qa, .int (nI k)]))] H) (hs4 : va_P D vwCl [(qa, .inl (g 3, 24, .inr (.inr (.inr (.inr ge)))))] H) (hse : se < 4) (hsx : sx = nI se) (hsn : SnAt D M H gs f) (hro : RowOK f) : Met l yX1_steady (wsW_ yX1_steady cX1_steady 7 (some .int) [(0, 103, 113, 89), (104, 112, 113, 89)]) rm_m1_steady (va_Pc [.ref h0, .int sx, .int wh] (PZ D g za H)) (QI (fun r H1 => r = syR wh (syF (f 5) (f 6) (f (8 + se)) (f (12 + se)) 300 1 (eR f))) (fun q => H.size ≤ q)) 703 4220 (fun q => H.size ≤ q) := by
  refine hm_ofWH (cc := cX1_steady) (maxL := 7) (ret := (some .int)) (hh := [(0, 103, 113, 89), (104, 112, 113, 89)]) (by decide) rfl ?_
  intro p e s m args below meth c s₁ B hml hv
  obtain ⟨rfl, hH, hK, hZ⟩ := hv
  subst hH
  have hx := B.exec
  have hb := B.bytes
  have hr := B.returns
  have hts := atoms_spec (ws := wsW_ yX1_steady cX1_steady 7 (some .int) [(0, 103, 113, 89), (104, 112, 113, 89)]) B.pre
  have htb : c.exceptionTable.toList = tableOf [(0, 103, 113, 89), (104, 112, 113, 89)] := vx_table (x := yX1_steady) B (hts _ List.mem_cons_self)
  have hts : ∀ w ∈ lw_all, w.before _ s = true := fun w h => hts w (List.mem_cons_of_mem _ h)
  have hown : s.vm.findClass RX1 = some m.cls := findClass_of_methodNamed B.named
  have hlocks := B.notSynchronized
  have hA : ∀ q, s.heap.size ≤ q → (fun q => s.heap.size ≤ q) q := fun q h => h
  have hS : va_S (fun q => s.heap.size ≤ q) s.heap s.heap [] := va_S.rf
  have hP : va_P D vwCl [] s.heap := fun k q h => by simp at h
  have hD : va_D (fun q => s.heap.size ≤ q) [] := ⟨fun i j p q h => by simp at h, fun k q h => by simp at h⟩
  have ahs0 : ¬ (fun q => s.heap.size ≤ q) h0 := Nat.not_le.mpr (hs0 0 _ rfl).lt
  have ahs1 : ¬ (fun q => s.heap.size ≤ q) qe := Nat.not_le.mpr (hs1 0 _ rfl).lt
  have ahs2 : ¬ (fun q => s.heap.size ≤ q) qs := Nat.not_le.mpr (hs2 0 _ rfl).lt
  have ahs3 : ¬ (fun q => s.heap.size ≤ q) qh := Nat.not_le.mpr (hs3 0 _ rfl).lt
  have ahs4 : ¬ (fun q => s.heap.size ≤ q) qa := Nat.not_le.mpr (hs4 0 _ rfl).lt
  have aza : ¬ (fun q => s.heap.size ≤ q) za := Nat.not_le.mpr hZ.lt
  have hl := lv_entry ([.ref h0, .int sx, .int wh]) (n := 7) (Nat.le_of_ble_eq_true rfl)
  rw [lg_entry_eq]
  generalize (lg_sl ([.ref h0, .int sx, .int wh]) ++ List.replicate (7 - (lg_sl ([.ref h0, .int sx, .int wh])).length) Slot.unset).toArray = ls at hl ⊢
  have hl : lv_has ls 7 [(0, .ref h0), (1, .int sx), (2, .int wh)] := hl
  obtain ⟨ys, hys, _, hyS⟩ := hsn se hse
  have ahyS : ¬ (fun q => s.heap.size ≤ q) ys := Nat.not_le.mpr (p_lt hyS)
  refine lv_aload_n (pc := 0) hx hb dX1_steady_0 rfl (lv_at hl 0 rfl) ?_
  refine lv_iconst (pc := 1) (v := 0) hx hb dX1_steady_1 (by decide) ?_
  have hFc := awF (Lc := []) hD hS hA [] rfl
  refine xR (pc := 2) (vx_runV (As := [.int 0]) (rest := []) ⟨hx, hb, hml, hown, hts⟩ (m1_predicted l za h0 qe qs qh qa k gs ge f M 0 0 s.heap hs0 hs1 hs2 hs3 hs4 (by decide) rfl) (cwV 1 hts (lw_V q465 q448 q449 q22 q450) rfl rfl rfl (by decide +kernel) ⟨Nat.le_of_ble_eq_true rfl, Nat.le_of_ble_eq_true rfl⟩) (preVZ hK hZ (rcv hK hs0 0 rfl rfl)) rfl rfl hl.1 rfl (lv_room (Nat.le_of_ble_eq_true rfl)) dX1_steady_2 ⟨Nat.le_of_ble_eq_true rfl, Nat.le_of_ble_eq_true rfl⟩) hS (fun q h => hA q (Nat.le_trans hS.1 h)) (fun ce q9 H1 locs1 hX hz1 hk1 hS1 hce hcv hcl => ?_) (fun r1 H locs hp9 hz1 hk1 hS => ?_)
  · exact (hX (fun j h => absurd h (Nat.not_lt_zero j))).elim
  obtain ⟨_, hnr, hP1⟩ := hp9
  obtain ⟨hP, hD⟩ := jn (wr := []) (w1 := [(r1, .inr (2, [.int ((pIt (f 5) (f 6) 0 (eR f)) 0), .int ((pIt (f 5) (f 6) 0 (eR f)) 1), .int ((pIt (f 5) (f 6) 0 (eR f)) 2), .int ((pIt (f 5) (f 6) 0 (eR f)) 3), .int ((pIt (f 5) (f 6) 0 (eR f)) 4), .int ((pIt (f 5) (f 6) 0 (eR f)) 5), .int ((pIt (f 5) (f 6) 0 (eR f)) 6), .int ((pIt (f 5) (f 6) 0 (eR f)) 7)]))]) hP hD [] [] rfl rfl (by decide) (by decide) (fun q h1 h2 => hk1 q h1 (fun h => h2 (Or.inr h))) hFc hP1 (d1 (Or.inr hnr))
  have hP : va_P D vwCl [(r1, .inr (2, [.int ((pIt (f 5) (f 6) 0 (eR f)) 0), .int ((pIt (f 5) (f 6) 0 (eR f)) 1), .int ((pIt (f 5) (f 6) 0 (eR f)) 2), .int ((pIt (f 5) (f 6) 0 (eR f)) 3), .int ((pIt (f 5) (f 6) 0 (eR f)) 4), .int ((pIt (f 5) (f 6) 0 (eR f)) 5), .int ((pIt (f 5) (f 6) 0 (eR f)) 6), .int ((pIt (f 5) (f 6) 0 (eR f)) 7)]))] H := hP
  have hD : va_D (fun q => s.heap.size ≤ q) [(r1, .inr (2, [.int ((pIt (f 5) (f 6) 0 (eR f)) 0), .int ((pIt (f 5) (f 6) 0 (eR f)) 1), .int ((pIt (f 5) (f 6) 0 (eR f)) 2), .int ((pIt (f 5) (f 6) 0 (eR f)) 3), .int ((pIt (f 5) (f 6) 0 (eR f)) 4), .int ((pIt (f 5) (f 6) 0 (eR f)) 5), .int ((pIt (f 5) (f 6) 0 (eR f)) 6), .int ((pIt (f 5) (f 6) 0 (eR f)) 7)]))] := hD
  refine lv_astore_n (pc := 5) (lv' := [(3, .ref r1), (0, .ref h0), (1, .int sx), (2, .int wh)]) hx hb dX1_steady_5 rfl hl (by decide) rfl (fun ls hl => ?_)
  refine va_new (pc := 6) (ci := 2) (fs := [.int 0, .int 0, .int 0, .int 0, .int 0, .int 0, .int 0, .int 0]) (C := RX2) (T := TX2) (N := 8) hx hb hts in_X2 tyX2 tyX2_ok hown (hts _ q49) (hts _ q50) (hts _ q23) hK.1 hP hD hS hA rfl (fun j hj => by rcases (show j = 0 ∨ j = 1 ∨ j = 2 ∨ j = 3 ∨ j = 4 ∨ j = 5 ∨ j = 6 ∨ j = 7 by omega) with rfl | rfl | rfl | rfl | rfl | rfl | rfl | rfl <;> rfl) (Nat.le_of_ble_eq_true rfl) (Nat.le_of_ble_eq_true rfl) dX1_steady_6 (fun q2 H hP hD hS => ?_)
  have hP : va_P D vwCl [(r1, .inr (2, [.int ((pIt (f 5) (f 6) 0 (eR f)) 0), .int ((pIt (f 5) (f 6) 0 (eR f)) 1), .int ((pIt (f 5) (f 6) 0 (eR f)) 2), .int ((pIt (f 5) (f 6) 0 (eR f)) 3), .int ((pIt (f 5) (f 6) 0 (eR f)) 4), .int ((pIt (f 5) (f 6) 0 (eR f)) 5), .int ((pIt (f 5) (f 6) 0 (eR f)) 6), .int ((pIt (f 5) (f 6) 0 (eR f)) 7)])), (q2, .inr (2, [.int 0, .int 0, .int 0, .int 0, .int 0, .int 0, .int 0, .int 0]))] H := hP
  have hD : va_D (fun q => s.heap.size ≤ q) [(r1, .inr (2, [.int ((pIt (f 5) (f 6) 0 (eR f)) 0), .int ((pIt (f 5) (f 6) 0 (eR f)) 1), .int ((pIt (f 5) (f 6) 0 (eR f)) 2), .int ((pIt (f 5) (f 6) 0 (eR f)) 3), .int ((pIt (f 5) (f 6) 0 (eR f)) 4), .int ((pIt (f 5) (f 6) 0 (eR f)) 5), .int ((pIt (f 5) (f 6) 0 (eR f)) 6), .int ((pIt (f 5) (f 6) 0 (eR f)) 7)])), (q2, .inr (2, [.int 0, .int 0, .int 0, .int 0, .int 0, .int 0, .int 0, .int 0]))] := hD
  refine lv_dup (pc := 9) hx hb dX1_steady_9 rfl ?_
  have hFc := awF (Lc := [q2]) hD hS hA [1] rfl
  refine kV (pc := 10) (va_runIN (As := []) (rest := [.ref q2]) ⟨hx, hb, hml, hown, hts⟩ (m2_init l q2 H (hP.sub (ws' := [(q2, .inr (2, [.int 0, .int 0, .int 0, .int 0, .int 0, .int 0, .int 0, .int 0]))]) [1] rfl)) ⟨va_cnB 0 hts (lw_meth q53) rfl rfl rfl (hK.2.1 _ nq51) (hts _ q23) (by decide +kernel) ⟨Nat.le_of_ble_eq_true rfl, Nat.le_of_ble_eq_true rfl⟩, rfl, hts _ q52⟩ (preS hK) rfl rfl hl.1 rfl (lv_room (Nat.le_of_ble_eq_true rfl)) dX1_steady_10 ⟨Nat.le_of_ble_eq_true rfl, Nat.le_of_ble_eq_true rfl⟩) hS hFc (fun H locs hp9 hz1 hk1 hS => ?_)
  have hP1 := hp9
  obtain ⟨hP, hD⟩ := jn (wr := [(r1, .inr (2, [.int ((pIt (f 5) (f 6) 0 (eR f)) 0), .int ((pIt (f 5) (f 6) 0 (eR f)) 1), .int ((pIt (f 5) (f 6) 0 (eR f)) 2), .int ((pIt (f 5) (f 6) 0 (eR f)) 3), .int ((pIt (f 5) (f 6) 0 (eR f)) 4), .int ((pIt (f 5) (f 6) 0 (eR f)) 5), .int ((pIt (f 5) (f 6) 0 (eR f)) 6), .int ((pIt (f 5) (f 6) 0 (eR f)) 7)]))]) (w1 := [(q2, .inr (2, [.int 0, .int 0, .int 4096, .int 0, .int 4096, .int (-2000000001), .int (-2000000001), .int (-2000000001)]))]) hP hD [1] [0] rfl rfl (by decide) (by decide) hk1 hFc hP1 (d1 (Or.inl (by simp)))
  have hP : va_P D vwCl [(r1, .inr (2, [.int ((pIt (f 5) (f 6) 0 (eR f)) 0), .int ((pIt (f 5) (f 6) 0 (eR f)) 1), .int ((pIt (f 5) (f 6) 0 (eR f)) 2), .int ((pIt (f 5) (f 6) 0 (eR f)) 3), .int ((pIt (f 5) (f 6) 0 (eR f)) 4), .int ((pIt (f 5) (f 6) 0 (eR f)) 5), .int ((pIt (f 5) (f 6) 0 (eR f)) 6), .int ((pIt (f 5) (f 6) 0 (eR f)) 7)])), (q2, .inr (2, [.int 0, .int 0, .int 4096, .int 0, .int 4096, .int (-2000000001), .int (-2000000001), .int (-2000000001)]))] H := hP
  have hD : va_D (fun q => s.heap.size ≤ q) [(r1, .inr (2, [.int ((pIt (f 5) (f 6) 0 (eR f)) 0), .int ((pIt (f 5) (f 6) 0 (eR f)) 1), .int ((pIt (f 5) (f 6) 0 (eR f)) 2), .int ((pIt (f 5) (f 6) 0 (eR f)) 3), .int ((pIt (f 5) (f 6) 0 (eR f)) 4), .int ((pIt (f 5) (f 6) 0 (eR f)) 5), .int ((pIt (f 5) (f 6) 0 (eR f)) 6), .int ((pIt (f 5) (f 6) 0 (eR f)) 7)])), (q2, .inr (2, [.int 0, .int 0, .int 4096, .int 0, .int 4096, .int (-2000000001), .int (-2000000001), .int (-2000000001)]))] := hD
  refine lv_astore (pc := 13) (lv' := [(4, .ref q2), (3, .ref r1), (0, .ref h0), (1, .int sx), (2, .int wh)]) hx hb dX1_steady_13 hl (by decide) rfl (fun ls hl => ?_)
  refine lv_iconst (pc := 15) (v := 1) hx hb dX1_steady_15 (by decide) ?_
  refine lv_istore (pc := 16) (lv' := [(5, .int 1), (4, .ref q2), (3, .ref r1), (0, .ref h0), (1, .int sx), (2, .int wh)]) hx hb dX1_steady_16 hl (by decide) rfl (fun ls hl => ?_)
  have loop : ∀ (n : Nat) (i : Nat) (u w : Nat → Int32), (1 ≤ i ∧ i ≤ 301) → (302 ≤ i + n) → (EstOK u) → (syF (f 5) (f 6) (f (8 + se)) (f (12 + se)) 300 1 (eR f) = syF (f 5) (f 6) (f (8 + se)) (f (12 + se)) (301 - i) i u) → ∀ (H : Heap) (locs : List Loc), va_P D vwCl [(r1, .inr (2, [.int (u 0), .int (u 1), .int (u 2), .int (u 3), .int (u 4), .int (u 5), .int (u 6), .int (u 7)])), (q2, .inr (2, [.int (w 0), .int (w 1), .int (w 2), .int (w 3), .int (w 4), .int (w 5), .int (w 6), .int (w 7)]))] H → va_D (fun q => s.heap.size ≤ q) [(r1, .inr (2, [.int (u 0), .int (u 1), .int (u 2), .int (u 3), .int (u 4), .int (u 5), .int (u 6), .int (u 7)])), (q2, .inr (2, [.int (w 0), .int (w 1), .int (w 2), .int (w 3), .int (w 4), .int (w 5), .int (w 6), .int (w 7)]))] → va_S (fun q => s.heap.size ≤ q) s.heap H locs → ∀ (ls : Array Slot), lv_has ls 7 [(0, .ref h0), (1, .int sx), (2, .int wh), (3, .ref r1), (4, .ref q2), (5, .int (nI i))] → W p l e (headSpec (wsW_ yX1_steady cX1_steady 7 (some .int) [(0, 103, 113, 89), (104, 112, 113, 89)]) rm_m1_steady).room s m ([.ref h0, .int sx, .int wh] : List Value).toArray below meth c H locs (100 + 2 * i) (604 + 12 * i) (MQ below (QI (fun r H1 => r = syR wh (syF (f 5) (f 6) (f (8 + se)) (f (12 + se)) 300 1 (eR f))) (fun q => s.heap.size ≤ q)) ([.ref h0, .int sx, .int wh] : List Value).toArray s 703 4220 (fun q => s.heap.size ≤ q)) (F0 m 18 ls []) := by
    intro n
    induction n with
    | zero =>
      intro i u w hi hfu hEu hst
      exact absurd (show _ by assumption) (by omega)
    | succ n ih =>
      intro i u w hi hfu hEu hst H locs hP hD hS ls hl
      refine lv_iload (pc := 18) hx hb dX1_steady_18 (lv_at hl 5 rfl) ?_
      refine lv_sipush (pc := 20) (v := 300) hx hb dX1_steady_20 (by decide) ?_
      refine lv_icmp_gt (pc := 23) (tgt := 110) hx hb dX1_steady_23 (by decide) (fun cd4 => ?_) (fun cd4 => ?_)
      · have ncd4 : 300 < i := (nlt (nl 300) rfl (by omega) (by omega)).mp cd4
        refine lv_ldc (pc := 110) (v := (-2000000001)) hx hb hown (hts _ q466) dX1_steady_110 ?_
        refine W.widen (k := 703) (n := 4220) (by omega) (by omega) ?_
        have hq9 : (fun r H1 => r = syR wh (syF (f 5) (f 6) (f (8 + se)) (f (12 + se)) 300 1 (eR f)) : Int32 → Heap → Prop) (-2000000001) H := by rw [hst, show 301 - i = 0 by omega]; rfl
        exact W.iret (v := (-2000000001)) hx hb hr (fun t ht hW => ⟨⟨_, rfl, by rw [ht]; exact hq9⟩, hS.F ht⟩) hS.2.2 dX1_steady_112
      · have ncd4 : ¬ 300 < i := fun h => cd4 ((nlt (nl 300) rfl (by omega) (by omega)).mpr h)
        refine lv_aload (pc := 26) hx hb dX1_steady_26 (lv_at hl 4 rfl) ?_
        refine lv_aload_n (pc := 28) hx hb dX1_steady_28 rfl (lv_at hl 3 rfl) ?_
        have hFc := awF (Lc := [q2]) hD hS hA [1] rfl
        refine kV (pc := 29) (va_runV (As := [.ref r1]) (rest := []) ⟨hx, hb, hml, hown, hts⟩ (m2_copyFrom l q2 r1 w u H (hP.sub (ws' := [(q2, .inr (2, [.int (w 0), .int (w 1), .int (w 2), .int (w 3), .int (w 4), .int (w 5), .int (w 6), .int (w 7)]))]) [1] rfl) (hP.sub (ws' := [(r1, .inr (2, [.int (u 0), .int (u 1), .int (u 2), .int (u 3), .int (u 4), .int (u 5), .int (u 6), .int (u 7)]))]) [0] rfl) (ninW hD 0 [1] rfl rfl (by decide))) (cwV 1 hts (lw_V q221 q222 q223 q23 q224) rfl rfl rfl (by decide +kernel) ⟨Nat.le_of_ble_eq_true rfl, Nat.le_of_ble_eq_true rfl⟩) (preV hK (rcv hK hP 1 rfl rfl)) rfl rfl hl.1 rfl (lv_room (Nat.le_of_ble_eq_true rfl)) dX1_steady_29 ⟨show 100 + 2 * i + 0 ≤ 703 by omega, show 604 + 12 * i + 0 ≤ 4220 by omega⟩) hS hFc (fun H locs hp9 hz1 hk1 hS => ?_)
        have hP1 := hp9
        obtain ⟨hP, hD⟩ := jn (wr := [(r1, .inr (2, [.int (u 0), .int (u 1), .int (u 2), .int (u 3), .int (u 4), .int (u 5), .int (u 6), .int (u 7)]))]) (w1 := [(q2, .inr (2, [.int (u 0), .int (u 1), .int (u 2), .int (u 3), .int (u 4), .int (u 5), .int (u 6), .int (u 7)]))]) hP hD [1] [0] rfl rfl (by decide) (by decide) hk1 hFc hP1 (d1 (Or.inl (by simp)))
        have hP : va_P D vwCl [(r1, .inr (2, [.int (u 0), .int (u 1), .int (u 2), .int (u 3), .int (u 4), .int (u 5), .int (u 6), .int (u 7)])), (q2, .inr (2, [.int (u 0), .int (u 1), .int (u 2), .int (u 3), .int (u 4), .int (u 5), .int (u 6), .int (u 7)]))] H := hP
        have hD : va_D (fun q => s.heap.size ≤ q) [(r1, .inr (2, [.int (u 0), .int (u 1), .int (u 2), .int (u 3), .int (u 4), .int (u 5), .int (u 6), .int (u 7)])), (q2, .inr (2, [.int (u 0), .int (u 1), .int (u 2), .int (u 3), .int (u 4), .int (u 5), .int (u 6), .int (u 7)]))] := hD
        refine lv_aload_n (pc := 32) hx hb dX1_steady_32 rfl (lv_at hl 3 rfl) ?_
        refine lv_iconst (pc := 33) (v := 0) hx hb dX1_steady_33 (by decide) ?_
        refine lv_aload_n (pc := 34) hx hb dX1_steady_34 rfl (lv_at hl 0 rfl) ?_
        refine va_get (pc := 35) (D := D) (ci := 1) (v := .int (f 5)) (C := RX1) (T := TX1) (N := 9) hx hb hts in_X1 hown hK.1 (ro_at hS hs0 ahs0) 0 rfl rfl 1 (by decide) (hts _ q133) (fun _ h9 => h9) rfl dX1_steady_35 ?_
        refine lv_aload_n (pc := 38) hx hb dX1_steady_38 rfl (lv_at hl 0 rfl) ?_
        refine va_get (pc := 39) (D := D) (ci := 1) (v := .int (f 6)) (C := RX1) (T := TX1) (N := 9) hx hb hts in_X1 hown hK.1 (ro_at hS hs0 ahs0) 0 rfl rfl 2 (by decide) (hts _ q135) (fun _ h9 => h9) rfl dX1_steady_39 ?_
        have hFc := awF (Lc := [r1]) hD hS hA [0] rfl
        refine xV (pc := 42) (vx_runV (As := [.int 0, .int (f 5), .int (f 6)]) (rest := []) ⟨hx, hb, hml, hown, hts⟩ (m2_predict l za r1 u 0 (f 5) (f 6) H (hP.sub (ws' := [(r1, .inr (2, [.int (u 0), .int (u 1), .int (u 2), .int (u 3), .int (u 4), .int (u 5), .int (u 6), .int (u 7)]))]) [0] rfl) (ninL aza (fun q h => hFc q (Or.inl h)))) (cwV 3 hts (lw_V q451 q269 q270 q23 q271) rfl rfl rfl (by decide +kernel) ⟨Nat.le_of_ble_eq_true rfl, Nat.le_of_ble_eq_true rfl⟩) (preVZ hK (hZ.kept (hS.2.1 _ hZ.lt aza)) (rcv hK hP 0 rfl rfl)) rfl rfl hl.1 rfl (lv_room (Nat.le_of_ble_eq_true rfl)) dX1_steady_42 ⟨show 100 + 2 * i + 0 + 1 ≤ 703 by omega, show 604 + 12 * i + 0 + 6 ≤ 4220 by omega⟩) hS hFc (fun ce q9 H1 locs1 hX hz1 hk1 hS1 hce hcv hcl => ?_) (fun H locs hp9 hz1 hk1 hS => ?_)
        · have hnone : syF (f 5) (f 6) (f (8 + se)) (f (12 + se)) 300 1 (eR f) = none := by rw [hst, show 301 - i = (300 - i) + 1 by omega]; rw [syF_s, cif_f hX]
          have hS := hS1
          have hP : va_P D vwCl [(r1, .inr (2, [.int (u 0), .int (u 1), .int (u 2), .int (u 3), .int (u 4), .int (u 5), .int (u 6), .int (u 7)])), (q2, .inr (2, [.int (u 0), .int (u 1), .int (u 2), .int (u 3), .int (u 4), .int (u 5), .int (u 6), .int (u 7)]))] H1 := hP.kept (fun k q hk => hk1 _ (hP k q hk).lt)
          refine vx_catch (E := RX7) (name := "TankFilter$LimitExceeded") hown [] ({ startPc := 0, endPc := 103, handlerPc := 113, catchType := 89 } : ExceptionTableEntry) [({ startPc := 104, endPc := 112, handlerPc := 113, catchType := 89 } : ExceptionTableEntry)] (by rw [htb]; rfl) (fun z hz => absurd hz List.not_mem_nil) (by decide) (by decide) (hts _ q464) (hK.n nq278) hce hcv hcl ?_
          refine lv_astore_n (pc := 113) (lv' := [(3, .ref q9), (0, .ref h0), (1, .int sx), (2, .int wh), (4, .ref q2), (5, .int (nI i))]) hx hb dX1_steady_113 rfl hl (by decide) rfl (fun ls hl => ?_)
          refine lv_ldc (pc := 114) (v := (-2000000001)) hx hb hown (hts _ q466) dX1_steady_114 ?_
          refine W.widen (k := 703) (n := 4220) (by omega) (by omega) ?_
          have hq9 : (fun r H1 => r = syR wh (syF (f 5) (f 6) (f (8 + se)) (f (12 + se)) 300 1 (eR f)) : Int32 → Heap → Prop) (-2000000001) H1 := by rw [hnone]; rfl
          exact W.iret (v := (-2000000001)) hx hb hr (fun t ht hW => ⟨⟨_, rfl, by rw [ht]; exact hq9⟩, hS.F ht⟩) hS.2.2 dX1_steady_116
        obtain ⟨hok, hP1⟩ := hp9
        obtain ⟨hP, hD⟩ := jn (wr := [(q2, .inr (2, [.int (u 0), .int (u 1), .int (u 2), .int (u 3), .int (u 4), .int (u 5), .int (u 6), .int (u 7)]))]) (w1 := [(r1, .inr (2, [.int ((pE u 0 (f 5) (f 6)) 0), .int ((pE u 0 (f 5) (f 6)) 1), .int ((pE u 0 (f 5) (f 6)) 2), .int ((pE u 0 (f 5) (f 6)) 3), .int ((pE u 0 (f 5) (f 6)) 4), .int ((pE u 0 (f 5) (f 6)) 5), .int ((pE u 0 (f 5) (f 6)) 6), .int ((pE u 0 (f 5) (f 6)) 7)]))]) hP hD [0] [1] rfl rfl (by decide) (by decide) hk1 hFc hP1 (d1 (Or.inl (by simp)))
        have hP : va_P D vwCl [(q2, .inr (2, [.int (u 0), .int (u 1), .int (u 2), .int (u 3), .int (u 4), .int (u 5), .int (u 6), .int (u 7)])), (r1, .inr (2, [.int ((pE u 0 (f 5) (f 6)) 0), .int ((pE u 0 (f 5) (f 6)) 1), .int ((pE u 0 (f 5) (f 6)) 2), .int ((pE u 0 (f 5) (f 6)) 3), .int ((pE u 0 (f 5) (f 6)) 4), .int ((pE u 0 (f 5) (f 6)) 5), .int ((pE u 0 (f 5) (f 6)) 6), .int ((pE u 0 (f 5) (f 6)) 7)]))] H := hP
        have hD : va_D (fun q => s.heap.size ≤ q) [(q2, .inr (2, [.int (u 0), .int (u 1), .int (u 2), .int (u 3), .int (u 4), .int (u 5), .int (u 6), .int (u 7)])), (r1, .inr (2, [.int ((pE u 0 (f 5) (f 6)) 0), .int ((pE u 0 (f 5) (f 6)) 1), .int ((pE u 0 (f 5) (f 6)) 2), .int ((pE u 0 (f 5) (f 6)) 3), .int ((pE u 0 (f 5) (f 6)) 4), .int ((pE u 0 (f 5) (f 6)) 5), .int ((pE u 0 (f 5) (f 6)) 6), .int ((pE u 0 (f 5) (f 6)) 7)]))] := hD
        refine lv_aload_n (pc := 45) hx hb dX1_steady_45 rfl (lv_at hl 3 rfl) ?_
        refine lv_aload_n (pc := 46) hx hb dX1_steady_46 rfl (lv_at hl 0 rfl) ?_
        refine va_get (pc := 47) (D := D) (ci := 1) (v := .ref qs) (C := RX1) (T := TX1) (N := 9) hx hb hts in_X1 hown hK.1 (ro_at hS hs0 ahs0) 0 rfl rfl 3 (by decide) (hts _ q137) (fun _ h9 => h9) rfl dX1_steady_47 ?_
        refine lv_iload_n (pc := 50) hx hb dX1_steady_50 rfl (lv_at hl 1 rfl) ?_
        refine qa_ld (pc := 51) (y := ys) hx hb hK.1 (ro_at hS hs2 ahs2) 0 4 se rfl rfl hsx hse (Nat.le_of_ble_eq_true rfl) hys dX1_steady_51 ?_
        refine lv_aload_n (pc := 52) hx hb dX1_steady_52 rfl (lv_at hl 3 rfl) ?_
        refine lv_aload_n (pc := 53) hx hb dX1_steady_53 rfl (lv_at hl 0 rfl) ?_
        refine va_get (pc := 54) (D := D) (ci := 1) (v := .ref qs) (C := RX1) (T := TX1) (N := 9) hx hb hts in_X1 hown hK.1 (ro_at hS hs0 ahs0) 0 rfl rfl 3 (by decide) (hts _ q137) (fun _ h9 => h9) rfl dX1_steady_54 ?_
        refine lv_iload_n (pc := 57) hx hb dX1_steady_57 rfl (lv_at hl 1 rfl) ?_
        refine qa_ld (pc := 58) (y := ys) hx hb hK.1 (ro_at hS hs2 ahs2) 0 4 se rfl rfl hsx hse (Nat.le_of_ble_eq_true rfl) hys dX1_steady_58 ?_
        refine kIp (pc := 59) (va_runVN (As := [.ref ys]) (rest := [.ref ys, .ref r1]) ⟨hx, hb, hml, hown, hts⟩ (m2_measured l r1 ys (pE u 0 (f 5) (f 6)) (f (8 + se)) (f (12 + se)) H (hP.sub (ws' := [(r1, .inr (2, [.int ((pE u 0 (f 5) (f 6)) 0), .int ((pE u 0 (f 5) (f 6)) 1), .int ((pE u 0 (f 5) (f 6)) 2), .int ((pE u 0 (f 5) (f 6)) 3), .int ((pE u 0 (f 5) (f 6)) 4), .int ((pE u 0 (f 5) (f 6)) 5), .int ((pE u 0 (f 5) (f 6)) 6), .int ((pE u 0 (f 5) (f 6)) 7)]))]) [1] rfl) (ro_at hS hyS ahyS)) ⟨va_cnB 1 hts (lw_meth q372) rfl rfl rfl (hK.2.1 _ nq475) (hts _ q23) (by decide +kernel) ⟨Nat.le_of_ble_eq_true rfl, Nat.le_of_ble_eq_true rfl⟩, hts _ q371, hts _ qs4⟩ (preV hK (rcv hK hP 1 rfl rfl)) rfl rfl hl.1 rfl (lv_room (Nat.le_of_ble_eq_true rfl)) dX1_steady_59 ⟨show 100 + 2 * i + 1 + 0 ≤ 703 by omega, show 604 + 12 * i + 6 + 0 ≤ 4220 by omega⟩) (fun r7 hr7 => ?_)
        have hm9 : r7 = msr (f (8 + se)) (pE u 0 (f 5) (f 6)) := hr7
        subst hm9
        refine lv_iconst (pc := 62) (v := 0) hx hb dX1_steady_62 (by decide) ?_
        have hEp := pE_ok hEu hro.2.2.1 hok
        have hrj0 : ¬ cRej (e64 (pE u 0 (f 5) (f 6))) (f (8 + se)) (f (12 + se)).toInt64 (msr (f (8 + se)) (pE u 0 (f 5) (f 6))).toInt64 0 := fun h => h.1 rfl
        have hFc := awF (Lc := [r1]) hD hS hA [1] rfl
        refine xI (pc := 63) (vx_runV (As := [.ref ys, .int (msr (f (8 + se)) (pE u 0 (f 5) (f 6))), .int 0]) (rest := []) ⟨hx, hb, hml, hown, hts⟩ (m2_correct l za r1 ys (pE u 0 (f 5) (f 6)) (f (8 + se)) (f (12 + se)) (msr (f (8 + se)) (pE u 0 (f 5) (f 6))) 0 H (hP.sub (ws' := [(r1, .inr (2, [.int ((pE u 0 (f 5) (f 6)) 0), .int ((pE u 0 (f 5) (f 6)) 1), .int ((pE u 0 (f 5) (f 6)) 2), .int ((pE u 0 (f 5) (f 6)) 3), .int ((pE u 0 (f 5) (f 6)) 4), .int ((pE u 0 (f 5) (f 6)) 5), .int ((pE u 0 (f 5) (f 6)) 6), .int ((pE u 0 (f 5) (f 6)) 7)]))]) [1] rfl) (ro_at hS hyS ahyS) (ninL ahyS (fun q h => hFc q (Or.inl h))) (ninL aza (fun q h => hFc q (Or.inl h))) (cS_ne hEp (hro.2.2.2.2.1 se hse).2)) (cwV 3 hts (lw_V q476 q366 q367 q23 q368) rfl rfl rfl (by decide +kernel) ⟨Nat.le_of_ble_eq_true rfl, Nat.le_of_ble_eq_true rfl⟩) (preVZ hK (hZ.kept (hS.2.1 _ hZ.lt aza)) (rcv hK hP 1 rfl rfl)) rfl rfl hl.1 rfl (lv_room (Nat.le_of_ble_eq_true rfl)) dX1_steady_63 ⟨show 100 + 2 * i + 1 + 1 ≤ 703 by omega, show 604 + 12 * i + 6 + 6 ≤ 4220 by omega⟩) hS hFc (fun ce q9 H1 locs1 hX hz1 hk1 hS1 hce hcv hcl => ?_) (fun r8 H locs hp9 hz1 hk1 hS => ?_)
        · have hnone : syF (f 5) (f 6) (f (8 + se)) (f (12 + se)) 300 1 (eR f) = none := by rw [hst, show 301 - i = (300 - i) + 1 by omega]; rw [syF_s, cif_t hok, cif_f hX.2]
          have hS := hS1
          have hP : va_P D vwCl [(q2, .inr (2, [.int (u 0), .int (u 1), .int (u 2), .int (u 3), .int (u 4), .int (u 5), .int (u 6), .int (u 7)])), (r1, .inr (2, [.int ((pE u 0 (f 5) (f 6)) 0), .int ((pE u 0 (f 5) (f 6)) 1), .int ((pE u 0 (f 5) (f 6)) 2), .int ((pE u 0 (f 5) (f 6)) 3), .int ((pE u 0 (f 5) (f 6)) 4), .int ((pE u 0 (f 5) (f 6)) 5), .int ((pE u 0 (f 5) (f 6)) 6), .int ((pE u 0 (f 5) (f 6)) 7)]))] H1 := hP.kept (fun k q hk => hk1 _ (hP k q hk).lt)
          refine vx_catch (E := RX7) (name := "TankFilter$LimitExceeded") hown [] ({ startPc := 0, endPc := 103, handlerPc := 113, catchType := 89 } : ExceptionTableEntry) [({ startPc := 104, endPc := 112, handlerPc := 113, catchType := 89 } : ExceptionTableEntry)] (by rw [htb]; rfl) (fun z hz => absurd hz List.not_mem_nil) (by decide) (by decide) (hts _ q464) (hK.n nq278) hce hcv hcl ?_
          refine lv_astore_n (pc := 113) (lv' := [(3, .ref q9), (0, .ref h0), (1, .int sx), (2, .int wh), (4, .ref q2), (5, .int (nI i))]) hx hb dX1_steady_113 rfl hl (by decide) rfl (fun ls hl => ?_)
          refine lv_ldc (pc := 114) (v := (-2000000001)) hx hb hown (hts _ q466) dX1_steady_114 ?_
          refine W.widen (k := 703) (n := 4220) (by omega) (by omega) ?_
          have hq9 : (fun r H1 => r = syR wh (syF (f 5) (f 6) (f (8 + se)) (f (12 + se)) 300 1 (eR f)) : Int32 → Heap → Prop) (-2000000001) H1 := by rw [hnone]; rfl
          exact W.iret (v := (-2000000001)) hx hb hr (fun t ht hW => ⟨⟨_, rfl, by rw [ht]; exact hq9⟩, hS.F ht⟩) hS.2.2 dX1_steady_116
        obtain ⟨_, hco, hr8, hP1⟩ := hp9.resolve_left (fun h => hrj0 h.1)
        obtain ⟨hP, hD⟩ := jn (wr := [(q2, .inr (2, [.int (u 0), .int (u 1), .int (u 2), .int (u 3), .int (u 4), .int (u 5), .int (u 6), .int (u 7)]))]) (w1 := [(r1, .inr (2, [.int ((cE (pE u 0 (f 5) (f 6)) (f (8 + se)) (f (12 + se)) (msr (f (8 + se)) (pE u 0 (f 5) (f 6)))) 0), .int ((cE (pE u 0 (f 5) (f 6)) (f (8 + se)) (f (12 + se)) (msr (f (8 + se)) (pE u 0 (f 5) (f 6)))) 1), .int ((cE (pE u 0 (f 5) (f 6)) (f (8 + se)) (f (12 + se)) (msr (f (8 + se)) (pE u 0 (f 5) (f 6)))) 2), .int ((cE (pE u 0 (f 5) (f 6)) (f (8 + se)) (f (12 + se)) (msr (f (8 + se)) (pE u 0 (f 5) (f 6)))) 3), .int ((cE (pE u 0 (f 5) (f 6)) (f (8 + se)) (f (12 + se)) (msr (f (8 + se)) (pE u 0 (f 5) (f 6)))) 4), .int ((cE (pE u 0 (f 5) (f 6)) (f (8 + se)) (f (12 + se)) (msr (f (8 + se)) (pE u 0 (f 5) (f 6)))) 5), .int ((cE (pE u 0 (f 5) (f 6)) (f (8 + se)) (f (12 + se)) (msr (f (8 + se)) (pE u 0 (f 5) (f 6)))) 6), .int ((cE (pE u 0 (f 5) (f 6)) (f (8 + se)) (f (12 + se)) (msr (f (8 + se)) (pE u 0 (f 5) (f 6)))) 7)]))]) hP hD [1] [0] rfl rfl (by decide) (by decide) hk1 hFc hP1 (d1 (Or.inl (by simp)))
        have hP : va_P D vwCl [(q2, .inr (2, [.int (u 0), .int (u 1), .int (u 2), .int (u 3), .int (u 4), .int (u 5), .int (u 6), .int (u 7)])), (r1, .inr (2, [.int ((cE (pE u 0 (f 5) (f 6)) (f (8 + se)) (f (12 + se)) (msr (f (8 + se)) (pE u 0 (f 5) (f 6)))) 0), .int ((cE (pE u 0 (f 5) (f 6)) (f (8 + se)) (f (12 + se)) (msr (f (8 + se)) (pE u 0 (f 5) (f 6)))) 1), .int ((cE (pE u 0 (f 5) (f 6)) (f (8 + se)) (f (12 + se)) (msr (f (8 + se)) (pE u 0 (f 5) (f 6)))) 2), .int ((cE (pE u 0 (f 5) (f 6)) (f (8 + se)) (f (12 + se)) (msr (f (8 + se)) (pE u 0 (f 5) (f 6)))) 3), .int ((cE (pE u 0 (f 5) (f 6)) (f (8 + se)) (f (12 + se)) (msr (f (8 + se)) (pE u 0 (f 5) (f 6)))) 4), .int ((cE (pE u 0 (f 5) (f 6)) (f (8 + se)) (f (12 + se)) (msr (f (8 + se)) (pE u 0 (f 5) (f 6)))) 5), .int ((cE (pE u 0 (f 5) (f 6)) (f (8 + se)) (f (12 + se)) (msr (f (8 + se)) (pE u 0 (f 5) (f 6)))) 6), .int ((cE (pE u 0 (f 5) (f 6)) (f (8 + se)) (f (12 + se)) (msr (f (8 + se)) (pE u 0 (f 5) (f 6)))) 7)]))] H := hP
        have hD : va_D (fun q => s.heap.size ≤ q) [(q2, .inr (2, [.int (u 0), .int (u 1), .int (u 2), .int (u 3), .int (u 4), .int (u 5), .int (u 6), .int (u 7)])), (r1, .inr (2, [.int ((cE (pE u 0 (f 5) (f 6)) (f (8 + se)) (f (12 + se)) (msr (f (8 + se)) (pE u 0 (f 5) (f 6)))) 0), .int ((cE (pE u 0 (f 5) (f 6)) (f (8 + se)) (f (12 + se)) (msr (f (8 + se)) (pE u 0 (f 5) (f 6)))) 1), .int ((cE (pE u 0 (f 5) (f 6)) (f (8 + se)) (f (12 + se)) (msr (f (8 + se)) (pE u 0 (f 5) (f 6)))) 2), .int ((cE (pE u 0 (f 5) (f 6)) (f (8 + se)) (f (12 + se)) (msr (f (8 + se)) (pE u 0 (f 5) (f 6)))) 3), .int ((cE (pE u 0 (f 5) (f 6)) (f (8 + se)) (f (12 + se)) (msr (f (8 + se)) (pE u 0 (f 5) (f 6)))) 4), .int ((cE (pE u 0 (f 5) (f 6)) (f (8 + se)) (f (12 + se)) (msr (f (8 + se)) (pE u 0 (f 5) (f 6)))) 5), .int ((cE (pE u 0 (f 5) (f 6)) (f (8 + se)) (f (12 + se)) (msr (f (8 + se)) (pE u 0 (f 5) (f 6)))) 6), .int ((cE (pE u 0 (f 5) (f 6)) (f (8 + se)) (f (12 + se)) (msr (f (8 + se)) (pE u 0 (f 5) (f 6)))) 7)]))] := hD
        refine lv_istore (pc := 66) (lv' := [(6, .int r8), (0, .ref h0), (1, .int sx), (2, .int wh), (3, .ref r1), (4, .ref q2), (5, .int (nI i))]) hx hb dX1_steady_66 hl (by decide) rfl (fun ls hl => ?_)
        refine lv_aload_n (pc := 68) hx hb dX1_steady_68 rfl (lv_at hl 4 rfl) ?_
        refine lv_aload (pc := 69) hx hb dX1_steady_69 (lv_at hl 5 rfl) ?_
        refine kIp (pc := 71) (va_runV (As := [.ref q2]) (rest := []) ⟨hx, hb, hml, hown, hts⟩ (m2_hasCov l r1 q2 (cE (pE u 0 (f 5) (f 6)) (f (8 + se)) (f (12 + se)) (msr (f (8 + se)) (pE u 0 (f 5) (f 6)))) u H (hP.sub (ws' := [(r1, .inr (2, [.int ((cE (pE u 0 (f 5) (f 6)) (f (8 + se)) (f (12 + se)) (msr (f (8 + se)) (pE u 0 (f 5) (f 6)))) 0), .int ((cE (pE u 0 (f 5) (f 6)) (f (8 + se)) (f (12 + se)) (msr (f (8 + se)) (pE u 0 (f 5) (f 6)))) 1), .int ((cE (pE u 0 (f 5) (f 6)) (f (8 + se)) (f (12 + se)) (msr (f (8 + se)) (pE u 0 (f 5) (f 6)))) 2), .int ((cE (pE u 0 (f 5) (f 6)) (f (8 + se)) (f (12 + se)) (msr (f (8 + se)) (pE u 0 (f 5) (f 6)))) 3), .int ((cE (pE u 0 (f 5) (f 6)) (f (8 + se)) (f (12 + se)) (msr (f (8 + se)) (pE u 0 (f 5) (f 6)))) 4), .int ((cE (pE u 0 (f 5) (f 6)) (f (8 + se)) (f (12 + se)) (msr (f (8 + se)) (pE u 0 (f 5) (f 6)))) 5), .int ((cE (pE u 0 (f 5) (f 6)) (f (8 + se)) (f (12 + se)) (msr (f (8 + se)) (pE u 0 (f 5) (f 6)))) 6), .int ((cE (pE u 0 (f 5) (f 6)) (f (8 + se)) (f (12 + se)) (msr (f (8 + se)) (pE u 0 (f 5) (f 6)))) 7)]))]) [1] rfl) (hP.sub (ws' := [(q2, .inr (2, [.int (u 0), .int (u 1), .int (u 2), .int (u 3), .int (u 4), .int (u 5), .int (u 6), .int (u 7)]))]) [0] rfl)) (cwV 1 hts (lw_V q477 q478 q479 q23 q480) rfl rfl rfl (by decide +kernel) ⟨Nat.le_of_ble_eq_true rfl, Nat.le_of_ble_eq_true rfl⟩) (preV hK (rcv hK hP 1 rfl rfl)) rfl rfl hl.1 rfl (lv_room (Nat.le_of_ble_eq_true rfl)) dX1_steady_71 ⟨show 100 + 2 * i + 2 + 0 ≤ 703 by omega, show 604 + 12 * i + 12 + 0 ≤ 4220 by omega⟩) (fun r9 hr9 => ?_)
        refine lv_if_eq (pc := 74) (tgt := 104) hx hb dX1_steady_74 (by decide) (fun cd10 => ?_) (fun cd10 => ?_)
        · obtain ⟨x11, ex11⟩ : ∃ y : Int32, y = (nI i) + 1 := ⟨_, rfl⟩
          refine lv_iinc (pc := 104) (v := x11) (lv' := [(5, .int x11), (6, .int r8), (0, .ref h0), (1, .int sx), (2, .int wh), (3, .ref r1), (4, .ref q2)]) hx hb dX1_steady_104 hl (k := 6) rfl (by rw [ex11]; rfl) (by decide) rfl (fun ls hl => ?_)
          refine lv_goto (pc := 107) (tgt := 18) hx hb dX1_steady_107 (by decide) ?_
          rw [show x11 = nI (i + 1) from (ex11.trans (nadd rfl (nl 1)))] at hl
          refine W.widen (k := 100 + 2 * (i + 1)) (n := 604 + 12 * (i + 1)) (by omega) (by omega) ?_
          exact ih  (i + 1) (cE (pE u 0 (f 5) (f 6)) (f (8 + se)) (f (12 + se)) (msr (f (8 + se)) (pE u 0 (f 5) (f 6)))) u (by omega) (by omega) (cE_ok hco) (by rw [hst, show 301 - i = (300 - i) + 1 by omega]; rw [syF_s, cif_t hok, cif_t hco, cif_f (bI_eq (hr9.symm.trans cd10)), show 301 - (i + 1) = 300 - i by omega]) _ _ (hP.sub [1, 0] rfl) (hD.sub [1, 0] (by decide) rfl) hS ls (lv_sub hl [2, 3, 4, 5, 6, 0] rfl)
        · have hsome : syF (f 5) (f 6) (f (8 + se)) (f (12 + se)) 300 1 (eR f) = some (i, cE (pE u 0 (f 5) (f 6)) (f (8 + se)) (f (12 + se)) (msr (f (8 + se)) (pE u 0 (f 5) (f 6)))) := by rw [hst, show 301 - i = (300 - i) + 1 by omega]; rw [syF_s, cif_t hok, cif_t hco, cif_t (bI_ne (fun e => cd10 (hr9.trans e)))]
          refine lv_iload_n (pc := 77) hx hb dX1_steady_77 rfl (lv_at hl 3 rfl) ?_
          refine lv_ldc (pc := 78) (v := (-2000000001)) hx hb hown (hts _ q466) dX1_steady_78 ?_
          refine lv_icmp_ne (pc := 80) (tgt := 88) hx hb dX1_steady_80 (by decide) (fun cd12 => ?_) (fun cd12 => ?_)
          · refine lv_iload_n (pc := 88) hx hb dX1_steady_88 rfl (lv_at hl 3 rfl) ?_
            refine lv_if_ne (pc := 89) (tgt := 99) hx hb dX1_steady_89 (by decide) (fun cd13 => ?_) (fun cd13 => ?_)
            · refine lv_aload_n (pc := 99) hx hb dX1_steady_99 rfl (lv_at hl 4 rfl) ?_
              refine va_getN (pc := 100) (D := D) (ci := 2) (v := .int ((cE (pE u 0 (f 5) (f 6)) (f (8 + se)) (f (12 + se)) (msr (f (8 + se)) (pE u 0 (f 5) (f 6)))) 7)) (C := RX2) (T := TX2) (N := 8) hx hb hts in_X2 hown hK.1 hP 1 rfl rfl 7 (by decide) (hK.n nq74) (fun _ h9 => h9) rfl dX1_steady_100 ?_
              refine W.widen (k := 703) (n := 4220) (by omega) (by omega) ?_
              have hq9 : (fun r H1 => r = syR wh (syF (f 5) (f 6) (f (8 + se)) (f (12 + se)) 300 1 (eR f)) : Int32 → Heap → Prop) ((cE (pE u 0 (f 5) (f 6)) (f (8 + se)) (f (12 + se)) (msr (f (8 + se)) (pE u 0 (f 5) (f 6)))) 7) H := by rw [hsome, syR_some, cif_f cd12, cif_f cd13]
              exact W.iret (v := (cE (pE u 0 (f 5) (f 6)) (f (8 + se)) (f (12 + se)) (msr (f (8 + se)) (pE u 0 (f 5) (f 6)))) 7) hx hb hr (fun t ht hW => ⟨⟨_, rfl, by rw [ht]; exact hq9⟩, hS.F ht⟩) hS.2.2 dX1_steady_103
            · refine lv_aload_n (pc := 92) hx hb dX1_steady_92 rfl (lv_at hl 4 rfl) ?_
              refine va_getN (pc := 93) (D := D) (ci := 2) (v := .int ((cE (pE u 0 (f 5) (f 6)) (f (8 + se)) (f (12 + se)) (msr (f (8 + se)) (pE u 0 (f 5) (f 6)))) 6)) (C := RX2) (T := TX2) (N := 8) hx hb hts in_X2 hown hK.1 hP 1 rfl rfl 6 (by decide) (hK.n nq71) (fun _ h9 => h9) rfl dX1_steady_93 ?_
              refine lv_goto (pc := 96) (tgt := 103) hx hb dX1_steady_96 (by decide) ?_
              refine W.widen (k := 703) (n := 4220) (by omega) (by omega) ?_
              have hq9 : (fun r H1 => r = syR wh (syF (f 5) (f 6) (f (8 + se)) (f (12 + se)) 300 1 (eR f)) : Int32 → Heap → Prop) ((cE (pE u 0 (f 5) (f 6)) (f (8 + se)) (f (12 + se)) (msr (f (8 + se)) (pE u 0 (f 5) (f 6)))) 6) H := by rw [hsome, syR_some, cif_f cd12, cif_t cd13]
              exact W.iret (v := (cE (pE u 0 (f 5) (f 6)) (f (8 + se)) (f (12 + se)) (msr (f (8 + se)) (pE u 0 (f 5) (f 6)))) 6) hx hb hr (fun t ht hW => ⟨⟨_, rfl, by rw [ht]; exact hq9⟩, hS.F ht⟩) hS.2.2 dX1_steady_103
          · refine lv_iload (pc := 83) hx hb dX1_steady_83 (lv_at hl 6 rfl) ?_
            refine lv_goto (pc := 85) (tgt := 103) hx hb dX1_steady_85 (by decide) ?_
            refine W.widen (k := 703) (n := 4220) (by omega) (by omega) ?_
            have hq9 : (fun r H1 => r = syR wh (syF (f 5) (f 6) (f (8 + se)) (f (12 + se)) 300 1 (eR f)) : Int32 → Heap → Prop) (nI i) H := by rw [hsome, syR_some, cif_t cd12]
            exact W.iret (v := nI i) hx hb hr (fun t ht hW => ⟨⟨_, rfl, by rw [ht]; exact hq9⟩, hS.F ht⟩) hS.2.2 dX1_steady_103
  refine W.widen (k := 100 + 2 * 1) (n := 604 + 12 * 1) (by omega) (by omega) ?_
  exact loop 302 1 (eR f) (fun k => match k with | 0 => 0 | 1 => 0 | 2 => 4096 | 3 => 0 | 4 => 4096 | _ => -2000000001) ⟨Nat.le_refl _, by omega⟩ (by omega) hro.1 rfl _ _ hP hD hS ls (lv_sub hl [3, 4, 5, 2, 1, 0] rfl)
