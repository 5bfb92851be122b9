abbrev rm_m1_replay : Room := ({ frames := 8, cells := 126, slots := 758, locals := 172 })
set_option maxHeartbeats 4000000 in
set_option maxRecDepth 100000 in
/-- State.replay -/
theorem m1_replay (l : Launch) {D : va_G} {g : Nat → ClassId} (za : Nat) (h0 qe qs qh qa k : Nat) (gs ge : Nat → Option Nat) (f : Nat → Int32) (M : Nat → Prop) (nz : Int32) (H : Heap) (hs0 : va_P D vwCl [(h0, .inr (1, [.ref qe, .int (f 5), .int (f 6), .ref qs, .int (f 7), .ref qh, .int (f 19), .int (f 20), .int (f 21)]))] H) (hs1 : va_P D vwCl [(qe, .inr (2, [.int (f 0), .int (f 1), .int (f 2), .int (f 3), .int (f 4), .int (f 16), .int (f 17), .int (f 18)]))] H) (hs2 : va_P D vwCl [(qs, .inl (g 4, 4, .inr (.inr (.inr (.inr gs)))))] H) (hs3 : va_P D vwCl [(qh, .inr (3, [.ref qa, .int (nI k)]))] H) (hs4 : va_P D vwCl [(qa, .inl (g 3, 24, .inr (.inr (.inr (.inr ge)))))] H) (hk : k ≤ 24) (hkf : f 22 = nI k) (hsn : SnAt D M H gs f) (hev : EvAt D M H ge k f) (hro : RowOK f) (hnz : 0 ≤ nz.toInt ∧ nz.toInt ≤ 4096000) : vx_Met l yX1_replay (ws_ yX1_replay cX1_replay 8 (some .int)) rm_m1_replay (va_Pc [.ref h0, .int nz] (PZ D g za H)) (QI (fun r H1 => ∃ sm, rpE f nz k = some sm ∧ r = Int64.toInt32 sm) (fun q => H.size ≤ q)) (XL (rpE f nz k = none)) 126 758 (fun q => H.size ≤ q) := by
  refine vx_ofW (cc := cX1_replay) (maxL := 8) (ret := (some .int)) (by decide) rfl ?_
  intro p e s m args below meth c s₁ B hml htab hv
  obtain ⟨rfl, hH, hK, hZ⟩ := hv
  subst hH
  have hx := B.exec
  have hb := B.bytes
  have hr := B.returns
  have hts := atoms_spec (ws := ws_ yX1_replay cX1_replay 8 (some .int)) B.pre
  have hts : ∀ w ∈ lw_all, w.before _ s = true := fun w h => hts w (List.mem_cons_of_mem _ h)
  have hown : s.vm.findClass RX1 = some m.cls := findClass_of_methodNamed B.named
  have hlocks := B.notSynchronized
  have hA : ∀ q, s.heap.size ≤ q → (fun q => s.heap.size ≤ q) q := fun q h => h
  have hS : va_S (fun q => s.heap.size ≤ q) s.heap s.heap [] := va_S.rf
  have hP : va_P D vwCl [] s.heap := fun k q h => by simp at h
  have hD : va_D (fun q => s.heap.size ≤ q) [] := ⟨fun i j p q h => by simp at h, fun k q h => by simp at h⟩
  have ahs0 : ¬ (fun q => s.heap.size ≤ q) h0 := Nat.not_le.mpr (hs0 0 _ rfl).lt
  have ahs1 : ¬ (fun q => s.heap.size ≤ q) qe := Nat.not_le.mpr (hs1 0 _ rfl).lt
  have ahs2 : ¬ (fun q => s.heap.size ≤ q) qs := Nat.not_le.mpr (hs2 0 _ rfl).lt
  have ahs3 : ¬ (fun q => s.heap.size ≤ q) qh := Nat.not_le.mpr (hs3 0 _ rfl).lt
  have ahs4 : ¬ (fun q => s.heap.size ≤ q) qa := Nat.not_le.mpr (hs4 0 _ rfl).lt
  have aza : ¬ (fun q => s.heap.size ≤ q) za := Nat.not_le.mpr hZ.lt
  have hl := lv_entry ([.ref h0, .int nz]) (n := 8) (Nat.le_of_ble_eq_true rfl)
  rw [lg_entry_eq]
  generalize (lg_sl ([.ref h0, .int nz]) ++ List.replicate (8 - (lg_sl ([.ref h0, .int nz])).length) Slot.unset).toArray = ls at hl ⊢
  have hl : lv_has ls 8 [(0, .ref h0), (1, .int nz)] := hl
  refine lv_aload_n (pc := 0) hx hb dX1_replay_0 rfl (lv_at hl 0 rfl) ?_
  refine lv_iconst (pc := 1) (v := 0) hx hb dX1_replay_1 (by decide) ?_
  have hFc := awF (Lc := []) hD hS hA [] rfl
  refine xR (pc := 2) (vx_runV (As := [.int 0]) (rest := []) ⟨hx, hb, hml, hown, hts⟩ (m1_predicted l za h0 qe qs qh qa k gs ge f M 0 0 s.heap hs0 hs1 hs2 hs3 hs4 (by decide) rfl) (cwV 1 hts (lw_V q465 q448 q449 q22 q450) rfl rfl rfl (by decide +kernel) ⟨Nat.le_of_ble_eq_true rfl, Nat.le_of_ble_eq_true rfl⟩) (preVZ hK hZ (rcv hK hs0 0 rfl rfl)) rfl rfl hl.1 rfl (lv_room (Nat.le_of_ble_eq_true rfl)) dX1_replay_2 ⟨Nat.le_of_ble_eq_true rfl, Nat.le_of_ble_eq_true rfl⟩) hS (fun q h => hA q (Nat.le_trans hS.1 h)) (fun ce q9 H1 locs1 hX hz1 hk1 hS1 hce hcv hcl => ?_) (fun r1 H locs hp9 hz1 hk1 hS => ?_)
  · exact (hX (fun j h => absurd h (Nat.not_lt_zero j))).elim
  obtain ⟨_, hnr, hP1⟩ := hp9
  obtain ⟨hP, hD⟩ := jn (wr := []) (w1 := [(r1, .inr (2, [.int ((pIt (f 5) (f 6) 0 (eR f)) 0), .int ((pIt (f 5) (f 6) 0 (eR f)) 1), .int ((pIt (f 5) (f 6) 0 (eR f)) 2), .int ((pIt (f 5) (f 6) 0 (eR f)) 3), .int ((pIt (f 5) (f 6) 0 (eR f)) 4), .int ((pIt (f 5) (f 6) 0 (eR f)) 5), .int ((pIt (f 5) (f 6) 0 (eR f)) 6), .int ((pIt (f 5) (f 6) 0 (eR f)) 7)]))]) hP hD [] [] rfl rfl (by decide) (by decide) (fun q h1 h2 => hk1 q h1 (fun h => h2 (Or.inr h))) hFc hP1 (d1 (Or.inr hnr))
  have hP : va_P D vwCl [(r1, .inr (2, [.int ((pIt (f 5) (f 6) 0 (eR f)) 0), .int ((pIt (f 5) (f 6) 0 (eR f)) 1), .int ((pIt (f 5) (f 6) 0 (eR f)) 2), .int ((pIt (f 5) (f 6) 0 (eR f)) 3), .int ((pIt (f 5) (f 6) 0 (eR f)) 4), .int ((pIt (f 5) (f 6) 0 (eR f)) 5), .int ((pIt (f 5) (f 6) 0 (eR f)) 6), .int ((pIt (f 5) (f 6) 0 (eR f)) 7)]))] H := hP
  have hD : va_D (fun q => s.heap.size ≤ q) [(r1, .inr (2, [.int ((pIt (f 5) (f 6) 0 (eR f)) 0), .int ((pIt (f 5) (f 6) 0 (eR f)) 1), .int ((pIt (f 5) (f 6) 0 (eR f)) 2), .int ((pIt (f 5) (f 6) 0 (eR f)) 3), .int ((pIt (f 5) (f 6) 0 (eR f)) 4), .int ((pIt (f 5) (f 6) 0 (eR f)) 5), .int ((pIt (f 5) (f 6) 0 (eR f)) 6), .int ((pIt (f 5) (f 6) 0 (eR f)) 7)]))] := hD
  refine lv_astore_n (pc := 5) (lv' := [(2, .ref r1), (0, .ref h0), (1, .int nz)]) hx hb dX1_replay_5 rfl hl (by decide) rfl (fun ls hl => ?_)
  refine lv_lconst (pc := 6) (v := 0) hx hb dX1_replay_6 rfl ?_
  refine lv_lstore_n (pc := 7) (lv' := [(3, .long 0), (2, .ref r1), (0, .ref h0), (1, .int nz)]) hx hb dX1_replay_7 rfl hl (by decide) rfl (fun ls hl => ?_)
  refine lv_iconst (pc := 8) (v := 0) hx hb dX1_replay_8 (by decide) ?_
  refine lv_istore (pc := 9) (lv' := [(5, .int 0), (3, .long 0), (2, .ref r1), (0, .ref h0), (1, .int nz)]) hx hb dX1_replay_9 hl (by decide) rfl (fun ls hl => ?_)
  have loop : ∀ (n : Nat) (i : Nat) (u : Nat → Int32) (sm : Int64), (i ≤ k) → (k + 1 ≤ i + n) → (EstOK u) → (rpF f nz i = some (u, sm)) → ∀ (H : Heap) (locs : List Loc), va_P D vwCl [(r1, .inr (2, [.int (u 0), .int (u 1), .int (u 2), .int (u 3), .int (u 4), .int (u 5), .int (u 6), .int (u 7)]))] H → va_D (fun q => s.heap.size ≤ q) [(r1, .inr (2, [.int (u 0), .int (u 1), .int (u 2), .int (u 3), .int (u 4), .int (u 5), .int (u 6), .int (u 7)]))] → va_S (fun q => s.heap.size ≤ q) s.heap H locs → ∀ (ls : Array Slot), lv_has ls 8 [(0, .ref h0), (1, .int nz), (2, .ref r1), (3, .long sm), (5, .int (nI i))] → W p l e (headSpec (ws_ yX1_replay cX1_replay 8 (some .int)) rm_m1_replay).room s m ([.ref h0, .int nz] : List Value).toArray below meth c H locs (101 + i) (608 + 6 * i) (vx_MQ below (QI (fun r H1 => ∃ sm, rpE f nz k = some sm ∧ r = Int64.toInt32 sm) (fun q => s.heap.size ≤ q)) (XL (rpE f nz k = none)) ([.ref h0, .int nz] : List Value).toArray s 126 758 (fun q => s.heap.size ≤ q)) (F0 m 11 ls []) := by
    intro n
    induction n with
    | zero =>
      intro i u sm hi hfu hEu hrp
      exact absurd (show _ by assumption) (by omega)
    | succ n ih =>
      intro i u sm hi hfu hEu hrp H locs hP hD hS ls hl
      refine lv_iload (pc := 11) hx hb dX1_replay_11 (lv_at hl 4 rfl) ?_
      refine lv_aload_n (pc := 13) hx hb dX1_replay_13 rfl (lv_at hl 0 rfl) ?_
      refine va_get (pc := 14) (D := D) (ci := 1) (v := .ref qh) (C := RX1) (T := TX1) (N := 9) hx hb hts in_X1 hown hK.1 (ro_at hS hs0 ahs0) 0 rfl rfl 5 (by decide) (hts _ q141) (fun _ h9 => h9) rfl dX1_replay_14 ?_
      refine va_getN (pc := 17) (D := D) (ci := 3) (v := .int (nI k)) (C := RX3) (T := TX3) (N := 2) hx hb hts in_X3 hown hK.1 (ro_at hS hs3 ahs3) 0 rfl rfl 1 (by decide) (hK.n nq105) (fun _ h9 => h9) rfl dX1_replay_17 ?_
      refine lv_icmp_ge (pc := 20) (tgt := 101) hx hb dX1_replay_20 (by decide) (fun cd2 => ?_) (fun cd2 => ?_)
      · have ncd2 : k ≤ i := (nle rfl rfl (by omega) (by omega)).mp cd2
        refine lv_lload_n (pc := 101) hx hb dX1_replay_101 rfl (lv_at hl 3 rfl) ?_
        refine xIp (pc := 102) (vx_runSN (As := [.long sm]) (rest := []) ⟨hx, hb, hml, hown, hts⟩ (m_limited l za sm H) ⟨va_cnB 1 hts (lw_meth q274) rfl rfl rfl (hK.2.1 _ nq529) (hts _ q21) (by decide +kernel) ⟨Nat.le_of_ble_eq_true rfl, Nat.le_of_ble_eq_true rfl⟩, hts _ q273, trivial⟩ (preSZ hK (hZ.kept (hS.2.1 _ hZ.lt aza))) rfl rfl hl.1 rfl (lv_room (Nat.le_of_ble_eq_true rfl)) dX1_replay_102 ⟨show 101 + i + 1 ≤ 126 by omega, show 608 + 6 * i + 6 ≤ 758 by omega⟩) hS (fun q h => hA _ (Nat.le_trans hS.1 h)) (fun ce q9 H1 locs1 hX hz1 hk1 hS1 hce hcv hcl => ?_) (fun r3 hr3 => ?_)
        · exact vx_out (fun x hx9 => (htab x hx9).elim) hlocks hce hcv hcl (fun t ht hvm => ⟨rfl, (rpE_n ((show i = k by omega) ▸ hrp) hX), hS1.F ht⟩) hS1.2.2 (show 101 + i + 1 ≤ 126 by omega) (show 608 + 6 * i + 6 ≤ 758 by omega)
        refine vx_ret ?_
        refine W.widen (k := 126) (n := 758) (by omega) (by omega) ?_
        have hq9 : (fun r H1 => ∃ sm, rpE f nz k = some sm ∧ r = Int64.toInt32 sm : Int32 → Heap → Prop) r3 H := ⟨sm, rpE_y ((show i = k by omega) ▸ hrp) hr3.1, hr3.2⟩
        exact W.iret (v := r3) hx hb hr (fun t ht hW => ⟨⟨_, rfl, by rw [ht]; exact hq9⟩, hS.F ht⟩) hS.2.2 dX1_replay_105
      · have ncd2 : ¬ k ≤ i := fun h => cd2 ((nle rfl rfl (by omega) (by omega)).mpr h)
        refine lv_aload_n (pc := 23) hx hb dX1_replay_23 rfl (lv_at hl 0 rfl) ?_
        refine va_get (pc := 24) (D := D) (ci := 1) (v := .ref qh) (C := RX1) (T := TX1) (N := 9) hx hb hts in_X1 hown hK.1 (ro_at hS hs0 ahs0) 0 rfl rfl 5 (by decide) (hts _ q141) (fun _ h9 => h9) rfl dX1_replay_24 ?_
        refine lv_iload (pc := 27) hx hb dX1_replay_27 (lv_at hl 4 rfl) ?_
        obtain ⟨y, a, hy, _, hfa, hyE⟩ := hev i (by omega)
        have ahyE : ¬ (fun q => s.heap.size ≤ q) y := Nat.not_le.mpr (p_lt hyE)
        refine kRp (pc := 29) (va_runV (As := [.int (nI i)]) (rest := []) ⟨hx, hb, hml, hown, hts⟩ (m3_getE l qh qa i y (nI k) ge H (ro_at hS hs3 ahs3) (ro_at hS hs4 ahs4) (by omega) hy) (cwV 1 hts (lw_V q521 q522 q523 q24 q524) rfl rfl rfl (by decide +kernel) ⟨Nat.le_of_ble_eq_true rfl, Nat.le_of_ble_eq_true rfl⟩) (preV hK (rcv hK (ro_at hS hs3 ahs3) 0 rfl rfl)) rfl rfl hl.1 rfl (lv_room (Nat.le_of_ble_eq_true rfl)) dX1_replay_29 ⟨show 101 + i + 0 ≤ 126 by omega, show 608 + 6 * i + 0 ≤ 758 by omega⟩) (fun r4 hr4 => ?_)
        rw [hr4]
        refine va_castS (pc := 32) hx hb hown (hts _ q97) (hK.1.1 8 _ rfl).2 (rcv hK (ro_at hS hyE ahyE) 0 rfl rfl) dX1_replay_32 ?_
        refine lv_astore (pc := 35) (lv' := [(6, .ref y), (0, .ref h0), (1, .int nz), (2, .ref r1), (3, .long sm), (5, .int (nI i))]) hx hb dX1_replay_35 hl (by decide) rfl (fun ls hl => ?_)
        refine lv_aload (pc := 37) hx hb dX1_replay_37 (lv_at hl 0 rfl) ?_
        refine kIp (pc := 39) (va_runV (As := []) (rest := []) ⟨hx, hb, hml, hown, hts⟩ (m8_isReading l y a (f (24 + 2 * i)) H (ro_at hS hyE ahyE)) (cwV 0 hts (lw_V q525 q509 q510 q34 q511) rfl rfl rfl (by decide +kernel) ⟨Nat.le_of_ble_eq_true rfl, Nat.le_of_ble_eq_true rfl⟩) (preV hK (rcv hK (ro_at hS hyE ahyE) 0 rfl rfl)) rfl rfl hl.1 rfl (lv_room (Nat.le_of_ble_eq_true rfl)) dX1_replay_39 ⟨show 101 + i + 0 ≤ 126 by omega, show 608 + 6 * i + 0 ≤ 758 by omega⟩) (fun r5 hr5 => ?_)
        refine lv_if_eq (pc := 42) (tgt := 81) hx hb dX1_replay_42 (by decide) (fun cd6 => ?_) (fun cd6 => ?_)
        · have hm1 : f (23 + 2 * i) = -1 := by rcases row_ev hro hk hkf (by omega) hfa with h9 | ⟨j9, h1, h2, h3⟩; exact h9.2; exact absurd (by rw [h2]; exact nI_pos' (by omega)) (bI_eq (hr5.symm.trans cd6))
          refine lv_aload_n (pc := 81) hx hb dX1_replay_81 rfl (lv_at hl 3 rfl) ?_
          refine lv_aload (pc := 82) hx hb dX1_replay_82 (lv_at hl 0 rfl) ?_
          refine va_getN (pc := 84) (D := D) (ci := 8) (v := .int (f (24 + 2 * i))) (C := RX8) (T := TX8) (N := 2) hx hb hts in_X8 hown hK.1 (ro_at hS hyE ahyE) 0 rfl rfl 1 (by decide) (hK.n nq353) (fun _ h9 => h9) rfl dX1_replay_84 ?_
          refine lv_aload_n (pc := 87) hx hb dX1_replay_87 rfl (lv_at hl 1 rfl) ?_
          refine va_get (pc := 88) (D := D) (ci := 1) (v := .int (f 5)) (C := RX1) (T := TX1) (N := 9) hx hb hts in_X1 hown hK.1 (ro_at hS hs0 ahs0) 0 rfl rfl 1 (by decide) (hts _ q133) (fun _ h9 => h9) rfl dX1_replay_88 ?_
          refine lv_iload_n (pc := 91) hx hb dX1_replay_91 rfl (lv_at hl 2 rfl) ?_
          have hFc := awF (Lc := [r1]) hD hS hA [0] rfl
          refine xV (pc := 92) (vx_runV (As := [.int (f (24 + 2 * i)), .int (f 5), .int nz]) (rest := []) ⟨hx, hb, hml, hown, hts⟩ (m2_predict l za r1 u (f (24 + 2 * i)) (f 5) nz H (hP.sub (ws' := [(r1, .inr (2, [.int (u 0), .int (u 1), .int (u 2), .int (u 3), .int (u 4), .int (u 5), .int (u 6), .int (u 7)]))]) [0] rfl) (ninL aza (fun q h => hFc q (Or.inl h)))) (cwV 3 hts (lw_V q451 q269 q270 q23 q271) rfl rfl rfl (by decide +kernel) ⟨Nat.le_of_ble_eq_true rfl, Nat.le_of_ble_eq_true rfl⟩) (preVZ hK (hZ.kept (hS.2.1 _ hZ.lt aza)) (rcv hK hP 0 rfl rfl)) rfl rfl hl.1 rfl (lv_room (Nat.le_of_ble_eq_true rfl)) dX1_replay_92 ⟨show 101 + i + 1 ≤ 126 by omega, show 608 + 6 * i + 6 ≤ 758 by omega⟩) hS hFc (fun ce q9 H1 locs1 hX hz1 hk1 hS1 hce hcv hcl => ?_) (fun H locs hp9 hz1 hk1 hS => ?_)
          · exact vx_out (fun x hx9 => (htab x hx9).elim) hlocks hce hcv hcl (fun t ht hvm => ⟨rfl, (rpE_x (rp_predX hm1 hX hrp) (by omega)), hS1.F ht⟩) hS1.2.2 (show 101 + i + 1 ≤ 126 by omega) (show 608 + 6 * i + 6 ≤ 758 by omega)
          obtain ⟨hok, hP1⟩ := hp9
          obtain ⟨hP, hD⟩ := jn (wr := []) (w1 := [(r1, .inr (2, [.int ((pE u (f (24 + 2 * i)) (f 5) nz) 0), .int ((pE u (f (24 + 2 * i)) (f 5) nz) 1), .int ((pE u (f (24 + 2 * i)) (f 5) nz) 2), .int ((pE u (f (24 + 2 * i)) (f 5) nz) 3), .int ((pE u (f (24 + 2 * i)) (f 5) nz) 4), .int ((pE u (f (24 + 2 * i)) (f 5) nz) 5), .int ((pE u (f (24 + 2 * i)) (f 5) nz) 6), .int ((pE u (f (24 + 2 * i)) (f 5) nz) 7)]))]) hP hD [0] [] rfl rfl (by decide) (by decide) hk1 hFc hP1 (d1 (Or.inl (by simp)))
          have hP : va_P D vwCl [(r1, .inr (2, [.int ((pE u (f (24 + 2 * i)) (f 5) nz) 0), .int ((pE u (f (24 + 2 * i)) (f 5) nz) 1), .int ((pE u (f (24 + 2 * i)) (f 5) nz) 2), .int ((pE u (f (24 + 2 * i)) (f 5) nz) 3), .int ((pE u (f (24 + 2 * i)) (f 5) nz) 4), .int ((pE u (f (24 + 2 * i)) (f 5) nz) 5), .int ((pE u (f (24 + 2 * i)) (f 5) nz) 6), .int ((pE u (f (24 + 2 * i)) (f 5) nz) 7)]))] H := hP
          have hD : va_D (fun q => s.heap.size ≤ q) [(r1, .inr (2, [.int ((pE u (f (24 + 2 * i)) (f 5) nz) 0), .int ((pE u (f (24 + 2 * i)) (f 5) nz) 1), .int ((pE u (f (24 + 2 * i)) (f 5) nz) 2), .int ((pE u (f (24 + 2 * i)) (f 5) nz) 3), .int ((pE u (f (24 + 2 * i)) (f 5) nz) 4), .int ((pE u (f (24 + 2 * i)) (f 5) nz) 5), .int ((pE u (f (24 + 2 * i)) (f 5) nz) 6), .int ((pE u (f (24 + 2 * i)) (f 5) nz) 7)]))] := hD
          obtain ⟨x8, ex8⟩ : ∃ y : Int32, y = (nI i) + 1 := ⟨_, rfl⟩
          refine lv_iinc (pc := 95) (v := x8) (lv' := [(5, .int x8), (6, .ref y), (0, .ref h0), (1, .int nz), (2, .ref r1), (3, .long sm)]) hx hb dX1_replay_95 hl (k := 5) rfl (by rw [ex8]; rfl) (by decide) rfl (fun ls hl => ?_)
          refine lv_goto (pc := 98) (tgt := 11) hx hb dX1_replay_98 (by decide) ?_
          rw [show x8 = nI (i + 1) from (ex8.trans (nadd rfl (nl 1)))] at hl
          refine W.widen (k := 101 + (i + 1)) (n := 608 + 6 * (i + 1)) (by omega) (by omega) ?_
          exact ih  (i + 1) (pE u (f (24 + 2 * i)) (f 5) nz) sm (by omega) (by omega) (pE_ok hEu hnz hok) (rp_pred hm1 hok hrp) _ _ hP hD hS ls (lv_sub hl [2, 3, 4, 5, 0] rfl)
        · have ha0 : 0 ≤ a := bI_ne (fun e => cd6 (hr5.trans e))
          obtain ⟨j, hj, haj, hfj⟩ : ∃ j, j < 4 ∧ a = nI j ∧ f (23 + 2 * i) = nI j := by rcases row_ev hro hk hkf (by omega) hfa with h9 | h9; exact absurd ha0 h9.1; exact h9
          have hwk := whoK_of hfj hj
          have hnm : ¬ f (23 + 2 * i) = -1 := by rw [hfj]; exact nI_ne_m1 hj
          obtain ⟨ys, hys, _, hyS⟩ := hsn j hj
          have ahyS : ¬ (fun q => s.heap.size ≤ q) ys := Nat.not_le.mpr (p_lt hyS)
          refine lv_aload_n (pc := 45) hx hb dX1_replay_45 rfl (lv_at hl 3 rfl) ?_
          refine lv_aload_n (pc := 46) hx hb dX1_replay_46 rfl (lv_at hl 1 rfl) ?_
          refine va_get (pc := 47) (D := D) (ci := 1) (v := .ref qs) (C := RX1) (T := TX1) (N := 9) hx hb hts in_X1 hown hK.1 (ro_at hS hs0 ahs0) 0 rfl rfl 3 (by decide) (hts _ q137) (fun _ h9 => h9) rfl dX1_replay_47 ?_
          refine lv_aload (pc := 50) hx hb dX1_replay_50 (lv_at hl 0 rfl) ?_
          refine va_getN (pc := 52) (D := D) (ci := 8) (v := .int a) (C := RX8) (T := TX8) (N := 2) hx hb hts in_X8 hown hK.1 (ro_at hS hyE ahyE) 0 rfl rfl 0 (by decide) (hK.n nq350) (fun _ h9 => h9) rfl dX1_replay_52 ?_
          refine qa_ld (pc := 55) (y := ys) hx hb hK.1 (ro_at hS hs2 ahs2) 0 4 j rfl rfl haj hj (Nat.le_of_ble_eq_true rfl) hys dX1_replay_55 ?_
          refine lv_aload (pc := 56) hx hb dX1_replay_56 (lv_at hl 0 rfl) ?_
          refine va_getN (pc := 58) (D := D) (ci := 8) (v := .int (f (24 + 2 * i))) (C := RX8) (T := TX8) (N := 2) hx hb hts in_X8 hown hK.1 (ro_at hS hyE ahyE) 0 rfl rfl 1 (by decide) (hK.n nq353) (fun _ h9 => h9) rfl dX1_replay_58 ?_
          refine lv_iconst (pc := 61) (v := 0) hx hb dX1_replay_61 (by decide) ?_
          have hrj0 : ¬ cRej (e64 u) (f (8 + j)) (f (12 + j)).toInt64 (f (24 + 2 * i)).toInt64 0 := fun h => h.1 rfl
          have hFc := awF (Lc := [r1]) hD hS hA [0] rfl
          refine xI (pc := 62) (vx_runV (As := [.ref ys, .int (f (24 + 2 * i)), .int 0]) (rest := []) ⟨hx, hb, hml, hown, hts⟩ (m2_correct l za r1 ys u (f (8 + j)) (f (12 + j)) (f (24 + 2 * i)) 0 H (hP.sub (ws' := [(r1, .inr (2, [.int (u 0), .int (u 1), .int (u 2), .int (u 3), .int (u 4), .int (u 5), .int (u 6), .int (u 7)]))]) [0] rfl) (ro_at hS hyS ahyS) (ninL ahyS (fun q h => hFc q (Or.inl h))) (ninL aza (fun q h => hFc q (Or.inl h))) (cS_ne hEu (hro.2.2.2.2.1 j hj).2)) (cwV 3 hts (lw_V q476 q366 q367 q23 q368) rfl rfl rfl (by decide +kernel) ⟨Nat.le_of_ble_eq_true rfl, Nat.le_of_ble_eq_true rfl⟩) (preVZ hK (hZ.kept (hS.2.1 _ hZ.lt aza)) (rcv hK hP 0 rfl rfl)) rfl rfl hl.1 rfl (lv_room (Nat.le_of_ble_eq_true rfl)) dX1_replay_62 ⟨show 101 + i + 1 ≤ 126 by omega, show 608 + 6 * i + 6 ≤ 758 by omega⟩) hS hFc (fun ce q9 H1 locs1 hX hz1 hk1 hS1 hce hcv hcl => ?_) (fun r9 H locs hp9 hz1 hk1 hS => ?_)
          · exact vx_out (fun x hx9 => (htab x hx9).elim) hlocks hce hcv hcl (fun t ht hvm => ⟨rfl, (rpE_x (rp_readX hnm hwk hX.2 hrp) (by omega)), hS1.F ht⟩) hS1.2.2 (show 101 + i + 1 ≤ 126 by omega) (show 608 + 6 * i + 6 ≤ 758 by omega)
          obtain ⟨_, hco, hr9, hP1⟩ := hp9.resolve_left (fun h => hrj0 h.1)
          obtain ⟨hP, hD⟩ := jn (wr := []) (w1 := [(r1, .inr (2, [.int ((cE u (f (8 + j)) (f (12 + j)) (f (24 + 2 * i))) 0), .int ((cE u (f (8 + j)) (f (12 + j)) (f (24 + 2 * i))) 1), .int ((cE u (f (8 + j)) (f (12 + j)) (f (24 + 2 * i))) 2), .int ((cE u (f (8 + j)) (f (12 + j)) (f (24 + 2 * i))) 3), .int ((cE u (f (8 + j)) (f (12 + j)) (f (24 + 2 * i))) 4), .int ((cE u (f (8 + j)) (f (12 + j)) (f (24 + 2 * i))) 5), .int ((cE u (f (8 + j)) (f (12 + j)) (f (24 + 2 * i))) 6), .int ((cE u (f (8 + j)) (f (12 + j)) (f (24 + 2 * i))) 7)]))]) hP hD [0] [] rfl rfl (by decide) (by decide) hk1 hFc hP1 (d1 (Or.inl (by simp)))
          have hP : va_P D vwCl [(r1, .inr (2, [.int ((cE u (f (8 + j)) (f (12 + j)) (f (24 + 2 * i))) 0), .int ((cE u (f (8 + j)) (f (12 + j)) (f (24 + 2 * i))) 1), .int ((cE u (f (8 + j)) (f (12 + j)) (f (24 + 2 * i))) 2), .int ((cE u (f (8 + j)) (f (12 + j)) (f (24 + 2 * i))) 3), .int ((cE u (f (8 + j)) (f (12 + j)) (f (24 + 2 * i))) 4), .int ((cE u (f (8 + j)) (f (12 + j)) (f (24 + 2 * i))) 5), .int ((cE u (f (8 + j)) (f (12 + j)) (f (24 + 2 * i))) 6), .int ((cE u (f (8 + j)) (f (12 + j)) (f (24 + 2 * i))) 7)]))] H := hP
          have hD : va_D (fun q => s.heap.size ≤ q) [(r1, .inr (2, [.int ((cE u (f (8 + j)) (f (12 + j)) (f (24 + 2 * i))) 0), .int ((cE u (f (8 + j)) (f (12 + j)) (f (24 + 2 * i))) 1), .int ((cE u (f (8 + j)) (f (12 + j)) (f (24 + 2 * i))) 2), .int ((cE u (f (8 + j)) (f (12 + j)) (f (24 + 2 * i))) 3), .int ((cE u (f (8 + j)) (f (12 + j)) (f (24 + 2 * i))) 4), .int ((cE u (f (8 + j)) (f (12 + j)) (f (24 + 2 * i))) 5), .int ((cE u (f (8 + j)) (f (12 + j)) (f (24 + 2 * i))) 6), .int ((cE u (f (8 + j)) (f (12 + j)) (f (24 + 2 * i))) 7)]))] := hD
          refine lv_istore (pc := 65) (lv' := [(7, .int r9), (6, .ref y), (0, .ref h0), (1, .int nz), (2, .ref r1), (3, .long sm), (5, .int (nI i))]) hx hb dX1_replay_65 hl (by decide) rfl (fun ls hl => ?_)
          refine lv_lload_n (pc := 67) hx hb dX1_replay_67 rfl (lv_at hl 5 rfl) ?_
          refine lv_aload_n (pc := 68) hx hb dX1_replay_68 rfl (lv_at hl 4 rfl) ?_
          refine va_getN (pc := 69) (D := D) (ci := 2) (v := .int ((cE u (f (8 + j)) (f (12 + j)) (f (24 + 2 * i))) 5)) (C := RX2) (T := TX2) (N := 8) hx hb hts in_X2 hown hK.1 hP 0 rfl rfl 5 (by decide) (hK.n nq68) (fun _ h9 => h9) rfl dX1_replay_69 ?_
          refine lv_i2l (pc := 72) hx hb dX1_replay_72 rfl ?_
          refine kLp (pc := 73) (va_runS (As := [.long (Int32.toInt64 ((cE u (f (8 + j)) (f (12 + j)) (f (24 + 2 * i))) 5))]) (rest := [.long sm]) ⟨hx, hb, hml, hown, hts⟩ (m_abs l (Int32.toInt64 ((cE u (f (8 + j)) (f (12 + j)) (f (24 + 2 * i))) 5)) H) (va_cwS 1 hts (lw_S q526 q527 q33 q528) rfl rfl rfl (by decide +kernel) ⟨Nat.le_of_ble_eq_true rfl, Nat.le_of_ble_eq_true rfl⟩) (preS hK) rfl rfl hl.1 rfl (lv_room (Nat.le_of_ble_eq_true rfl)) dX1_replay_73 ⟨show 101 + i + 1 + 0 ≤ 126 by omega, show 608 + 6 * i + 6 + 0 ≤ 758 by omega⟩) (fun r10 hr10 => ?_)
          refine lv_ladd (pc := 76) hx hb dX1_replay_76 ?_
          refine lv_topl (fun z11 ez11 => ?_)
          refine lv_lstore_n (pc := 77) (lv' := [(3, .long z11), (7, .int r9), (6, .ref y), (0, .ref h0), (1, .int nz), (2, .ref r1), (5, .int (nI i))]) hx hb dX1_replay_77 rfl hl (by decide) rfl (fun ls hl => ?_)
          refine lv_goto (pc := 78) (tgt := 95) hx hb dX1_replay_78 (by decide) ?_
          obtain ⟨x12, ex12⟩ : ∃ y : Int32, y = (nI i) + 1 := ⟨_, rfl⟩
          refine lv_iinc (pc := 95) (v := x12) (lv' := [(5, .int x12), (3, .long z11), (7, .int r9), (6, .ref y), (0, .ref h0), (1, .int nz), (2, .ref r1)]) hx hb dX1_replay_95 hl (k := 6) rfl (by rw [ex12]; rfl) (by decide) rfl (fun ls hl => ?_)
          refine lv_goto (pc := 98) (tgt := 11) hx hb dX1_replay_98 (by decide) ?_
          rw [show x12 = nI (i + 1) from (ex12.trans (nadd rfl (nl 1)))] at hl
          refine W.widen (k := 101 + (i + 1)) (n := 608 + 6 * (i + 1)) (by omega) (by omega) ?_
          exact ih  (i + 1) (cE u (f (8 + j)) (f (12 + j)) (f (24 + 2 * i))) z11 (by omega) (by omega) (cE_ok hco) (by rw [ez11, hr10]; exact rp_read hnm hwk hco hrp) _ _ hP hD hS ls (lv_sub hl [4, 5, 6, 1, 0] rfl)
  exact loop (k + 1) 0 (eR f) 0 (Nat.zero_le _) (by omega) hro.1 rfl _ _ hP hD hS ls (lv_sub hl [3, 4, 2, 1, 0] rfl)

abbrev rm_m1_replayError : Room := ({ frames := 9, cells := 126, slots := 758, locals := 199 })
set_option maxHeartbeats 4000000 in
set_option maxRecDepth 100000 in
theorem m1_replayError (l : Launch) {D : va_G} {g : Nat → ClassId} (za : Nat) (h0 qe qs qh qa k : Nat) (gs ge : Nat → Option Nat) (f : Nat → Int32) (M : Nat → Prop) (nz : Int32) (H : Heap) (hs0 : va_P D vwCl [(h0, .inr (1, [.ref qe, .int (f 5), .int (f 6), .ref qs, .int (f 7), .ref qh, .int (f 19), .int (f 20), .int (f 21)]))] H) (hs1 : va_P D vwCl [(qe, .inr (2, [.int (f 0), .int (f 1), .int (f 2), .int (f 3), .int (f 4), .int (f 16), .int (f 17), .int (f 18)]))] H) (hs2 : va_P D vwCl [(qs, .inl (g 4, 4, .inr (.inr (.inr (.inr gs)))))] H) (hs3 : va_P D vwCl [(qh, .inr (3, [.ref qa, .int (nI k)]))] H) (hs4 : va_P D vwCl [(qa, .inl (g 3, 24, .inr (.inr (.inr (.inr ge)))))] H) (hk : k ≤ 24) (hkf : f 22 = nI k) (hsn : SnAt D M H gs f) (hev : EvAt D M H ge k f) (hro : RowOK f) (hnz : 0 ≤ nz.toInt ∧ nz.toInt ≤ 4096000) : Met l yX1_replayError (wsW_ yX1_replayError cX1_replayError 3 (some .int) [(0, 5, 6, 89)]) rm_m1_replayError (va_Pc [.ref h0, .int nz] (PZ D g za H)) (QI (fun r H1 => r = opI (rpE f nz k)) (fun q => H.size ≤ q)) 126 758 (fun q => H.size ≤ q) := by
  refine hm_ofWH (cc := cX1_replayError) (maxL := 3) (ret := (some .int)) (hh := [(0, 5, 6, 89)]) (by decide) rfl ?_
  intro p e s m args below meth c s₁ B hml hv
  obtain ⟨rfl, hH, hK, hZ⟩ := hv
  subst hH
  have hx := B.exec
  have hb := B.bytes
  have hr := B.returns
  have hts := atoms_spec (ws := wsW_ yX1_replayError cX1_replayError 3 (some .int) [(0, 5, 6, 89)]) B.pre
  have htb : c.exceptionTable.toList = tableOf [(0, 5, 6, 89)] := vx_table (x := yX1_replayError) B (hts _ List.mem_cons_self)
  have hts : ∀ w ∈ lw_all, w.before _ s = true := fun w h => hts w (List.mem_cons_of_mem _ h)
  have hown : s.vm.findClass RX1 = some m.cls := findClass_of_methodNamed B.named
  have hlocks := B.notSynchronized
  have hA : ∀ q, s.heap.size ≤ q → (fun q => s.heap.size ≤ q) q := fun q h => h
  have hS : va_S (fun q => s.heap.size ≤ q) s.heap s.heap [] := va_S.rf
  have hP : va_P D vwCl [] s.heap := fun k q h => by simp at h
  have hD : va_D (fun q => s.heap.size ≤ q) [] := ⟨fun i j p q h => by simp at h, fun k q h => by simp at h⟩
  have ahs0 : ¬ (fun q => s.heap.size ≤ q) h0 := Nat.not_le.mpr (hs0 0 _ rfl).lt
  have ahs1 : ¬ (fun q => s.heap.size ≤ q) qe := Nat.not_le.mpr (hs1 0 _ rfl).lt
  have ahs2 : ¬ (fun q => s.heap.size ≤ q) qs := Nat.not_le.mpr (hs2 0 _ rfl).lt
  have ahs3 : ¬ (fun q => s.heap.size ≤ q) qh := Nat.not_le.mpr (hs3 0 _ rfl).lt
  have ahs4 : ¬ (fun q => s.heap.size ≤ q) qa := Nat.not_le.mpr (hs4 0 _ rfl).lt
  have aza : ¬ (fun q => s.heap.size ≤ q) za := Nat.not_le.mpr hZ.lt
  have hl := lv_entry ([.ref h0, .int nz]) (n := 3) (Nat.le_of_ble_eq_true rfl)
  rw [lg_entry_eq]
  generalize (lg_sl ([.ref h0, .int nz]) ++ List.replicate (3 - (lg_sl ([.ref h0, .int nz])).length) Slot.unset).toArray = ls at hl ⊢
  have hl : lv_has ls 3 [(0, .ref h0), (1, .int nz)] := hl
  refine lv_aload_n (pc := 0) hx hb dX1_replayError_0 rfl (lv_at hl 0 rfl) ?_
  refine lv_iload_n (pc := 1) hx hb dX1_replayError_1 rfl (lv_at hl 1 rfl) ?_
  have hFc := awF (Lc := []) hD hS hA [] rfl
  refine xI (pc := 2) (vx_runV (As := [.int nz]) (rest := []) ⟨hx, hb, hml, hown, hts⟩ (m1_replay l za h0 qe qs qh qa k gs ge f M nz s.heap hs0 hs1 hs2 hs3 hs4 hk hkf hsn hev hro hnz) (cwV 1 hts (lw_V q517 q519 qs6 q22 q520) rfl rfl rfl (by decide +kernel) ⟨Nat.le_of_ble_eq_true rfl, Nat.le_of_ble_eq_true rfl⟩) (preVZ hK hZ (rcv hK hs0 0 rfl rfl)) rfl rfl hl.1 rfl (lv_room (Nat.le_of_ble_eq_true rfl)) dX1_replayError_2 ⟨Nat.le_of_ble_eq_true rfl, Nat.le_of_ble_eq_true rfl⟩) hS (fun q h => hA q (Nat.le_trans hS.1 h)) (fun ce q9 H1 locs1 hX hz1 hk1 hS1 hce hcv hcl => ?_) (fun r1 H locs hp9 hz1 hk1 hS => ?_)
  · have hS := hS1
    have hP : va_P D vwCl [] H1 := hP.kept (fun k q hk => hk1 _ (hP k q hk).lt)
    refine vx_catch (E := RX7) (name := "TankFilter$LimitExceeded") hown [] ({ startPc := 0, endPc := 5, handlerPc := 6, catchType := 89 } : ExceptionTableEntry) [] (by rw [htb]; rfl) (fun z hz => absurd hz List.not_mem_nil) (by decide) (by decide) (hts _ q464) (hK.n nq278) hce hcv hcl ?_
    refine lv_astore_n (pc := 6) (lv' := [(2, .ref q9), (0, .ref h0), (1, .int nz)]) hx hb dX1_replayError_6 rfl hl (by decide) rfl (fun ls hl => ?_)
    refine lv_ldc (pc := 7) (v := (-2000000004)) hx hb hown (hts _ q530) dX1_replayError_7 ?_
    have hq9 : (fun r H1 => r = opI (rpE f nz k) : Int32 → Heap → Prop) (-2000000004) H1 := by rw [hX]; rfl
    exact W.iret (v := (-2000000004)) hx hb hr (fun t ht hW => ⟨⟨_, rfl, by rw [ht]; exact hq9⟩, hS.F ht⟩) hS.2.2 dX1_replayError_9
  obtain ⟨sm, hsm, hrs⟩ := hp9
  have hP1 : va_P D vwCl [] H := pnil
  obtain ⟨hP, hD⟩ := jn (wr := []) (w1 := []) hP hD [] [] rfl rfl (by decide) (by decide) (fun q h1 h2 => hk1 q h1 (fun h => h2 (Or.inr h))) hFc hP1 dnil
  have hP : va_P D vwCl [] H := hP
  have hD : va_D (fun q => s.heap.size ≤ q) [] := hD
  have hq9 : (fun r H1 => r = opI (rpE f nz k) : Int32 → Heap → Prop) r1 H := by rw [hsm]; exact hrs
  exact W.iret (v := r1) hx hb hr (fun t ht hW => ⟨⟨_, rfl, by rw [ht]; exact hq9⟩, hS.F ht⟩) hS.2.2 dX1_replayError_5

abbrev rm_m1_best : Room := ({ frames := 10, cells := 1512, slots := 9096, locals := 221 })
set_option maxHeartbeats 4000000 in
set_option maxRecDepth 100000 in
theorem m1_best (l : Launch) {D : va_G} {g : Nat → ClassId} (za : Nat) (h0 qe qs qh qa k : Nat) (gs ge : Nat → Option Nat) (f : Nat → Int32) (M : Nat → Prop) (H : Heap) (hs0 : va_P D vwCl [(h0, .inr (1, [.ref qe, .int (f 5), .int (f 6), .ref qs, .int (f 7), .ref qh, .int (f 19), .int (f 20), .int (f 21)]))] H) (hs1 : va_P D vwCl [(qe, .inr (2, [.int (f 0), .int (f 1), .int (f 2), .int (f 3), .int (f 4), .int (f 16), .int (f 17), .int (f 18)]))] H) (hs2 : va_P D vwCl [(qs, .inl (g 4, 4, .inr (.inr (.inr (.inr gs)))))] H) (hs3 : va_P D vwCl [(qh, .inr (3, [.ref qa, .int (nI k)]))] H) (hs4 : va_P D vwCl [(qa, .inl (g 3, 24, .inr (.inr (.inr (.inr ge)))))] H) (hk : k ≤ 24) (hkf : f 22 = nI k) (hsn : SnAt D M H gs f) (hev : EvAt D M H ge k f) (hro : RowOK f) : Met l yX1_bestFlowNoise (ws_ yX1_bestFlowNoise cX1_bestFlowNoise 6 (some .int)) rm_m1_best (va_Pc [.ref h0] (PZ D g za H)) (QI (fun r H1 => r = bfR f k) (fun q => H.size ≤ q)) 1512 9096 (fun q => H.size ≤ q) := by
  refine Met.ofW (cc := cX1_bestFlowNoise) (maxL := 6) (ret := (some .int)) (by decide) rfl ?_
  intro p e s m args below meth c s₁ B hml hv
  obtain ⟨rfl, hH, hK, hZ⟩ := hv
  subst hH
  have hx := B.exec
  have hb := B.bytes
  have hr := B.returns
  have hts := atoms_spec (ws := ws_ yX1_bestFlowNoise cX1_bestFlowNoise 6 (some .int)) B.pre
  have hts : ∀ w ∈ lw_all, w.before _ s = true := fun w h => hts w (List.mem_cons_of_mem _ h)
  have hown : s.vm.findClass RX1 = some m.cls := findClass_of_methodNamed B.named
  have hlocks := B.notSynchronized
  have hA : ∀ q, s.heap.size ≤ q → (fun q => s.heap.size ≤ q) q := fun q h => h
  have hS : va_S (fun q => s.heap.size ≤ q) s.heap s.heap [] := va_S.rf
  have hP : va_P D vwCl [] s.heap := fun k q h => by simp at h
  have hD : va_D (fun q => s.heap.size ≤ q) [] := ⟨fun i j p q h => by simp at h, fun k q h => by simp at h⟩
  have ahs0 : ¬ (fun q => s.heap.size ≤ q) h0 := Nat.not_le.mpr (hs0 0 _ rfl).lt
  have ahs1 : ¬ (fun q => s.heap.size ≤ q) qe := Nat.not_le.mpr (hs1 0 _ rfl).lt
  have ahs2 : ¬ (fun q => s.heap.size ≤ q) qs := Nat.not_le.mpr (hs2 0 _ rfl).lt
  have ahs3 : ¬ (fun q => s.heap.size ≤ q) qh := Nat.not_le.mpr (hs3 0 _ rfl).lt
  have ahs4 : ¬ (fun q => s.heap.size ≤ q) qa := Nat.not_le.mpr (hs4 0 _ rfl).lt
  have aza : ¬ (fun q => s.heap.size ≤ q) za := Nat.not_le.mpr hZ.lt
  have hl := lv_entry ([.ref h0]) (n := 6) (Nat.le_of_ble_eq_true rfl)
  rw [lg_entry_eq]
  generalize (lg_sl ([.ref h0]) ++ List.replicate (6 - (lg_sl ([.ref h0])).length) Slot.unset).toArray = ls at hl ⊢
  have hl : lv_has ls 6 [(0, .ref h0)] := hl
  refine lv_ldc (pc := 0) (v := (-2000000001)) hx hb hown (hts _ q466) dX1_bestFlowNoise_0 ?_
  refine lv_istore_n (pc := 2) (lv' := [(1, .int (-2000000001)), (0, .ref h0)]) hx hb dX1_bestFlowNoise_2 rfl hl (by decide) rfl (fun ls hl => ?_)
  refine lv_ldc (pc := 3) (v := (-2000000001)) hx hb hown (hts _ q466) dX1_bestFlowNoise_3 ?_
  refine lv_istore_n (pc := 5) (lv' := [(2, .int (-2000000001)), (1, .int (-2000000001)), (0, .ref h0)]) hx hb dX1_bestFlowNoise_5 rfl hl (by decide) rfl (fun ls hl => ?_)
  refine lv_iconst (pc := 6) (v := 0) hx hb dX1_bestFlowNoise_6 (by decide) ?_
  refine lv_istore_n (pc := 7) (lv' := [(3, .int 0), (2, .int (-2000000001)), (1, .int (-2000000001)), (0, .ref h0)]) hx hb dX1_bestFlowNoise_7 rfl hl (by decide) rfl (fun ls hl => ?_)
  have loop : ∀ (n : Nat) (i : Nat) (bs le : Int32), (i ≤ 12) → (13 ≤ i + n) → (bfRel (bfF f k i) bs le) → ∀ (H : Heap) (locs : List Loc), va_P D vwCl [] H → va_D (fun q => s.heap.size ≤ q) [] → va_S (fun q => s.heap.size ≤ q) s.heap H locs → ∀ (ls : Array Slot), lv_has ls 6 [(0, .ref h0), (1, .int bs), (2, .int le), (3, .int (nI i))] → W p l e (headSpec (ws_ yX1_bestFlowNoise cX1_bestFlowNoise 6 (some .int)) rm_m1_best).room s m ([.ref h0] : List Value).toArray below meth c H locs (126 * i) (758 * i) (MQ below (QI (fun r H1 => r = bfR f k) (fun q => s.heap.size ≤ q)) ([.ref h0] : List Value).toArray s 1512 9096 (fun q => s.heap.size ≤ q)) (F0 m 8 ls []) := by
    intro n
    induction n with
    | zero =>
      intro i bs le hi hfu hbr
      exact absurd (show _ by assumption) (by omega)
    | succ n ih =>
      intro i bs le hi hfu hbr H locs hP hD hS ls hl
      refine lv_iload_n (pc := 8) hx hb dX1_bestFlowNoise_8 rfl (lv_at hl 3 rfl) ?_
      refine lv_bipush (pc := 9) (v := 12) hx hb dX1_bestFlowNoise_9 (by decide) ?_
      refine lv_icmp_ge (pc := 11) (tgt := 70) hx hb dX1_bestFlowNoise_11 (by decide) (fun cd1 => ?_) (fun cd1 => ?_)
      · have ncd1 : 12 ≤ i := (nle (nl 12) rfl (by omega) (by omega)).mp cd1
        refine lv_iload_n (pc := 70) hx hb dX1_bestFlowNoise_70 rfl (lv_at hl 1 rfl) ?_
        refine W.widen (k := 1512) (n := 9096) (by omega) (by omega) ?_
        have hq9 : (fun r H1 => r = bfR f k : Int32 → Heap → Prop) bs H := bf_end ((show i = 12 by omega) ▸ hbr)
        exact W.iret (v := bs) hx hb hr (fun t ht hW => ⟨⟨_, rfl, by rw [ht]; exact hq9⟩, hS.F ht⟩) hS.2.2 dX1_bestFlowNoise_71
      · have ncd1 : ¬ 12 ≤ i := fun h => cd1 ((nle (nl 12) rfl (by omega) (by omega)).mpr h)
        refine lv_iload_n (pc := 14) hx hb dX1_bestFlowNoise_14 rfl (lv_at hl 3 rfl) ?_
        refine lv_if_ne (pc := 15) (tgt := 22) hx hb dX1_bestFlowNoise_15 (by decide) (fun cd2 => ?_) (fun cd2 => ?_)
        · have ncd2 : ¬ i = 0 := fun h => cd2 ((neq rfl (nl 0) (by omega) (by omega)).mpr h)
          refine lv_iconst (pc := 22) (v := 1) hx hb dX1_bestFlowNoise_22 (by decide) ?_
          refine lv_iconst (pc := 23) (v := 2) hx hb dX1_bestFlowNoise_23 (by decide) ?_
          refine lv_iload_n (pc := 24) hx hb dX1_bestFlowNoise_24 rfl (lv_at hl 3 rfl) ?_
          refine lv_iconst (pc := 25) (v := 1) hx hb dX1_bestFlowNoise_25 (by decide) ?_
          refine lv_isub (pc := 26) hx hb dX1_bestFlowNoise_26 ?_
          refine lv_imul (pc := 27) hx hb dX1_bestFlowNoise_27 ?_
          refine lv_ishl (pc := 28) hx hb dX1_bestFlowNoise_28 ?_
          refine lv_topi (fun z3 ez3 => ?_)
          refine lv_istore (pc := 29) (lv' := [(4, .int z3), (0, .ref h0), (1, .int bs), (2, .int le), (3, .int (nI i))]) hx hb dX1_bestFlowNoise_29 hl (by decide) rfl (fun ls hl => ?_)
          have hzn : z3 = cnz i := by rw [ez3]; exact cnz_shl i (by omega) (by omega)
          refine lv_aload_n (pc := 31) hx hb dX1_bestFlowNoise_31 rfl (lv_at hl 1 rfl) ?_
          refine lv_iload (pc := 32) hx hb dX1_bestFlowNoise_32 (lv_at hl 0 rfl) ?_
          have hFc := awF (Lc := []) hD hS hA [] rfl
          refine kI (pc := 34) (vx_runVW (As := [.int z3]) (rest := []) ⟨hx, hb, hml, hown, hts⟩ (m1_replayError l za h0 qe qs qh qa k gs ge f M z3 H (ro_at hS hs0 ahs0) (ro_at hS hs1 ahs1) (ro_at hS hs2 ahs2) (ro_at hS hs3 ahs3) (ro_at hS hs4 ahs4) hk hkf (hsn.all (fun q h => hS.2.1 q h (Nat.not_le.mpr h))) (hev.all (fun q h => hS.2.1 q h (Nat.not_le.mpr h))) hro (by rw [hzn]; exact cnz_b i (by omega))) (vx_cwVW 1 hts (lw_VW q539 q514 q515 q22 q516) rfl rfl rfl (by decide +kernel) ⟨Nat.le_of_ble_eq_true rfl, Nat.le_of_ble_eq_true rfl⟩) (preVZ hK (hZ.kept (hS.2.1 _ hZ.lt aza)) (rcv hK (ro_at hS hs0 ahs0) 0 rfl rfl)) rfl rfl hl.1 rfl (lv_room (Nat.le_of_ble_eq_true rfl)) dX1_bestFlowNoise_34 ⟨show 126 * i + 126 ≤ 1512 by omega, show 758 * i + 758 ≤ 9096 by omega⟩) hS (fun q h => hA q (Nat.le_trans hS.1 h)) (fun r4 H locs hp9 hz1 hk1 hS => ?_)
          have her : r4 = opI (rpE f (cnz i) k) := by rw [← hzn]; exact hp9
          have hP1 : va_P D vwCl [] H := pnil
          obtain ⟨hP, hD⟩ := jn (wr := []) (w1 := []) hP hD [] [] rfl rfl (by decide) (by decide) (fun q h1 h2 => hk1 q h1 (fun h => h2 (Or.inr h))) hFc hP1 dnil
          have hP : va_P D vwCl [] H := hP
          have hD : va_D (fun q => s.heap.size ≤ q) [] := hD
          refine lv_istore (pc := 37) (lv' := [(5, .int r4), (4, .int z3), (0, .ref h0), (1, .int bs), (2, .int le), (3, .int (nI i))]) hx hb dX1_bestFlowNoise_37 hl (by decide) rfl (fun ls hl => ?_)
          refine lv_iload (pc := 39) hx hb dX1_bestFlowNoise_39 (lv_at hl 0 rfl) ?_
          refine lv_ldc (pc := 41) (v := (-2000000004)) hx hb hown (hts _ q530) dX1_bestFlowNoise_41 ?_
          refine lv_icmp_eq (pc := 43) (tgt := 64) hx hb dX1_bestFlowNoise_43 (by decide) (fun cd5 => ?_) (fun cd5 => ?_)
          · obtain ⟨x6, ex6⟩ : ∃ y : Int32, y = (nI i) + 1 := ⟨_, rfl⟩
            refine lv_iinc (pc := 64) (v := x6) (lv' := [(3, .int x6), (5, .int r4), (4, .int z3), (0, .ref h0), (1, .int bs), (2, .int le)]) hx hb dX1_bestFlowNoise_64 hl (k := 5) rfl (by rw [ex6]; rfl) (by decide) rfl (fun ls hl => ?_)
            refine lv_goto (pc := 67) (tgt := 8) hx hb dX1_bestFlowNoise_67 (by decide) ?_
            rw [show x6 = nI (i + 1) from (ex6.trans (nadd rfl (nl 1)))] at hl
            refine W.widen (k := 126 * (i + 1)) (n := 758 * (i + 1)) (by omega) (by omega) ?_
            exact ih  (i + 1) bs le (by omega) (by omega) (bf_A hbr her cd5) _ _ hP hD hS ls (lv_sub hl [3, 4, 5, 0] rfl)
          · refine lv_iload_n (pc := 46) hx hb dX1_bestFlowNoise_46 rfl (lv_at hl 3 rfl) ?_
            refine lv_ldc (pc := 47) (v := (-2000000001)) hx hb hown (hts _ q466) dX1_bestFlowNoise_47 ?_
            refine lv_icmp_eq (pc := 49) (tgt := 58) hx hb dX1_bestFlowNoise_49 (by decide) (fun cd7 => ?_) (fun cd7 => ?_)
            · refine lv_iload (pc := 58) hx hb dX1_bestFlowNoise_58 (lv_at hl 1 rfl) ?_
              refine lv_istore_n (pc := 60) (lv' := [(1, .int z3), (5, .int r4), (4, .int z3), (0, .ref h0), (2, .int le), (3, .int (nI i))]) hx hb dX1_bestFlowNoise_60 rfl hl (by decide) rfl (fun ls hl => ?_)
              refine lv_iload (pc := 61) hx hb dX1_bestFlowNoise_61 (lv_at hl 1 rfl) ?_
              refine lv_istore_n (pc := 63) (lv' := [(2, .int r4), (1, .int z3), (5, .int r4), (4, .int z3), (0, .ref h0), (3, .int (nI i))]) hx hb dX1_bestFlowNoise_63 rfl hl (by decide) rfl (fun ls hl => ?_)
              obtain ⟨x8, ex8⟩ : ∃ y : Int32, y = (nI i) + 1 := ⟨_, rfl⟩
              refine lv_iinc (pc := 64) (v := x8) (lv' := [(3, .int x8), (2, .int r4), (1, .int z3), (5, .int r4), (4, .int z3), (0, .ref h0)]) hx hb dX1_bestFlowNoise_64 hl (k := 5) rfl (by rw [ex8]; rfl) (by decide) rfl (fun ls hl => ?_)
              refine lv_goto (pc := 67) (tgt := 8) hx hb dX1_bestFlowNoise_67 (by decide) ?_
              rw [show x8 = nI (i + 1) from (ex8.trans (nadd rfl (nl 1)))] at hl
              refine W.widen (k := 126 * (i + 1)) (n := 758 * (i + 1)) (by omega) (by omega) ?_
              exact ih  (i + 1) z3 r4 (by omega) (by omega) (by rw [hzn]; exact bf_B (by omega) hbr her cd5 cd7) _ _ hP hD hS ls (lv_sub hl [5, 2, 1, 0] rfl)
            · refine lv_iload (pc := 52) hx hb dX1_bestFlowNoise_52 (lv_at hl 0 rfl) ?_
              refine lv_iload_n (pc := 54) hx hb dX1_bestFlowNoise_54 rfl (lv_at hl 4 rfl) ?_
              refine lv_icmp_ge (pc := 55) (tgt := 64) hx hb dX1_bestFlowNoise_55 (by decide) (fun cd9 => ?_) (fun cd9 => ?_)
              · obtain ⟨x10, ex10⟩ : ∃ y : Int32, y = (nI i) + 1 := ⟨_, rfl⟩
                refine lv_iinc (pc := 64) (v := x10) (lv' := [(3, .int x10), (5, .int r4), (4, .int z3), (0, .ref h0), (1, .int bs), (2, .int le)]) hx hb dX1_bestFlowNoise_64 hl (k := 5) rfl (by rw [ex10]; rfl) (by decide) rfl (fun ls hl => ?_)
                refine lv_goto (pc := 67) (tgt := 8) hx hb dX1_bestFlowNoise_67 (by decide) ?_
                rw [show x10 = nI (i + 1) from (ex10.trans (nadd rfl (nl 1)))] at hl
                refine W.widen (k := 126 * (i + 1)) (n := 758 * (i + 1)) (by omega) (by omega) ?_
                exact ih  (i + 1) bs le (by omega) (by omega) (bf_D hbr her cd5 cd7 (Int32.not_lt.mpr cd9)) _ _ hP hD hS ls (lv_sub hl [3, 4, 5, 0] rfl)
              · refine lv_iload (pc := 58) hx hb dX1_bestFlowNoise_58 (lv_at hl 1 rfl) ?_
                refine lv_istore_n (pc := 60) (lv' := [(1, .int z3), (5, .int r4), (4, .int z3), (0, .ref h0), (2, .int le), (3, .int (nI i))]) hx hb dX1_bestFlowNoise_60 rfl hl (by decide) rfl (fun ls hl => ?_)
                refine lv_iload (pc := 61) hx hb dX1_bestFlowNoise_61 (lv_at hl 1 rfl) ?_
                refine lv_istore_n (pc := 63) (lv' := [(2, .int r4), (1, .int z3), (5, .int r4), (4, .int z3), (0, .ref h0), (3, .int (nI i))]) hx hb dX1_bestFlowNoise_63 rfl hl (by decide) rfl (fun ls hl => ?_)
                obtain ⟨x11, ex11⟩ : ∃ y : Int32, y = (nI i) + 1 := ⟨_, rfl⟩
                refine lv_iinc (pc := 64) (v := x11) (lv' := [(3, .int x11), (2, .int r4), (1, .int z3), (5, .int r4), (4, .int z3), (0, .ref h0)]) hx hb dX1_bestFlowNoise_64 hl (k := 5) rfl (by rw [ex11]; rfl) (by decide) rfl (fun ls hl => ?_)
                refine lv_goto (pc := 67) (tgt := 8) hx hb dX1_bestFlowNoise_67 (by decide) ?_
                rw [show x11 = nI (i + 1) from (ex11.trans (nadd rfl (nl 1)))] at hl
                refine W.widen (k := 126 * (i + 1)) (n := 758 * (i + 1)) (by omega) (by omega) ?_
                exact ih  (i + 1) z3 r4 (by omega) (by omega) (by rw [hzn]; exact bf_C (by omega) hbr her cd5 cd7 (Int32.not_le.mp cd9)) _ _ hP hD hS ls (lv_sub hl [5, 2, 1, 0] rfl)
        · have ncd2 : i = 0 := (neq rfl (nl 0) (by omega) (by omega)).mp cd2
          refine lv_iconst (pc := 18) (v := 0) hx hb dX1_bestFlowNoise_18 (by decide) ?_
          refine lv_goto (pc := 19) (tgt := 29) hx hb dX1_bestFlowNoise_19 (by decide) ?_
          refine lv_istore (pc := 29) (lv' := [(4, .int 0), (0, .ref h0), (1, .int bs), (2, .int le), (3, .int (nI i))]) hx hb dX1_bestFlowNoise_29 hl (by decide) rfl (fun ls hl => ?_)
          have hzn : (0 : Int32) = cnz i := by rw [show i = 0 by omega]; rfl
          refine lv_aload_n (pc := 31) hx hb dX1_bestFlowNoise_31 rfl (lv_at hl 1 rfl) ?_
          refine lv_iload (pc := 32) hx hb dX1_bestFlowNoise_32 (lv_at hl 0 rfl) ?_
          have hFc := awF (Lc := []) hD hS hA [] rfl
          refine kI (pc := 34) (vx_runVW (As := [.int 0]) (rest := []) ⟨hx, hb, hml, hown, hts⟩ (m1_replayError l za h0 qe qs qh qa k gs ge f M 0 H (ro_at hS hs0 ahs0) (ro_at hS hs1 ahs1) (ro_at hS hs2 ahs2) (ro_at hS hs3 ahs3) (ro_at hS hs4 ahs4) hk hkf (hsn.all (fun q h => hS.2.1 q h (Nat.not_le.mpr h))) (hev.all (fun q h => hS.2.1 q h (Nat.not_le.mpr h))) hro (by rw [hzn]; exact cnz_b i (by omega))) (vx_cwVW 1 hts (lw_VW q539 q514 q515 q22 q516) rfl rfl rfl (by decide +kernel) ⟨Nat.le_of_ble_eq_true rfl, Nat.le_of_ble_eq_true rfl⟩) (preVZ hK (hZ.kept (hS.2.1 _ hZ.lt aza)) (rcv hK (ro_at hS hs0 ahs0) 0 rfl rfl)) rfl rfl hl.1 rfl (lv_room (Nat.le_of_ble_eq_true rfl)) dX1_bestFlowNoise_34 ⟨show 126 * i + 126 ≤ 1512 by omega, show 758 * i + 758 ≤ 9096 by omega⟩) hS (fun q h => hA q (Nat.le_trans hS.1 h)) (fun r12 H locs hp9 hz1 hk1 hS => ?_)
          have her : r12 = opI (rpE f (cnz i) k) := by rw [← hzn]; exact hp9
          have hP1 : va_P D vwCl [] H := pnil
          obtain ⟨hP, hD⟩ := jn (wr := []) (w1 := []) hP hD [] [] rfl rfl (by decide) (by decide) (fun q h1 h2 => hk1 q h1 (fun h => h2 (Or.inr h))) hFc hP1 dnil
          have hP : va_P D vwCl [] H := hP
          have hD : va_D (fun q => s.heap.size ≤ q) [] := hD
          refine lv_istore (pc := 37) (lv' := [(5, .int r12), (4, .int 0), (0, .ref h0), (1, .int bs), (2, .int le), (3, .int (nI i))]) hx hb dX1_bestFlowNoise_37 hl (by decide) rfl (fun ls hl => ?_)
          refine lv_iload (pc := 39) hx hb dX1_bestFlowNoise_39 (lv_at hl 0 rfl) ?_
          refine lv_ldc (pc := 41) (v := (-2000000004)) hx hb hown (hts _ q530) dX1_bestFlowNoise_41 ?_
          refine lv_icmp_eq (pc := 43) (tgt := 64) hx hb dX1_bestFlowNoise_43 (by decide) (fun cd13 => ?_) (fun cd13 => ?_)
          · obtain ⟨x14, ex14⟩ : ∃ y : Int32, y = (nI i) + 1 := ⟨_, rfl⟩
            refine lv_iinc (pc := 64) (v := x14) (lv' := [(3, .int x14), (5, .int r12), (4, .int 0), (0, .ref h0), (1, .int bs), (2, .int le)]) hx hb dX1_bestFlowNoise_64 hl (k := 5) rfl (by rw [ex14]; rfl) (by decide) rfl (fun ls hl => ?_)
            refine lv_goto (pc := 67) (tgt := 8) hx hb dX1_bestFlowNoise_67 (by decide) ?_
            rw [show x14 = nI (i + 1) from (ex14.trans (nadd rfl (nl 1)))] at hl
            refine W.widen (k := 126 * (i + 1)) (n := 758 * (i + 1)) (by omega) (by omega) ?_
            exact ih  (i + 1) bs le (by omega) (by omega) (bf_A hbr her cd13) _ _ hP hD hS ls (lv_sub hl [3, 4, 5, 0] rfl)
          · refine lv_iload_n (pc := 46) hx hb dX1_bestFlowNoise_46 rfl (lv_at hl 3 rfl) ?_
            refine lv_ldc (pc := 47) (v := (-2000000001)) hx hb hown (hts _ q466) dX1_bestFlowNoise_47 ?_
            refine lv_icmp_eq (pc := 49) (tgt := 58) hx hb dX1_bestFlowNoise_49 (by decide) (fun cd15 => ?_) (fun cd15 => ?_)
            · refine lv_iload (pc := 58) hx hb dX1_bestFlowNoise_58 (lv_at hl 1 rfl) ?_
              refine lv_istore_n (pc := 60) (lv' := [(1, .int 0), (5, .int r12), (4, .int 0), (0, .ref h0), (2, .int le), (3, .int (nI i))]) hx hb dX1_bestFlowNoise_60 rfl hl (by decide) rfl (fun ls hl => ?_)
              refine lv_iload (pc := 61) hx hb dX1_bestFlowNoise_61 (lv_at hl 1 rfl) ?_
              refine lv_istore_n (pc := 63) (lv' := [(2, .int r12), (1, .int 0), (5, .int r12), (4, .int 0), (0, .ref h0), (3, .int (nI i))]) hx hb dX1_bestFlowNoise_63 rfl hl (by decide) rfl (fun ls hl => ?_)
              obtain ⟨x16, ex16⟩ : ∃ y : Int32, y = (nI i) + 1 := ⟨_, rfl⟩
              refine lv_iinc (pc := 64) (v := x16) (lv' := [(3, .int x16), (2, .int r12), (1, .int 0), (5, .int r12), (4, .int 0), (0, .ref h0)]) hx hb dX1_bestFlowNoise_64 hl (k := 5) rfl (by rw [ex16]; rfl) (by decide) rfl (fun ls hl => ?_)
              refine lv_goto (pc := 67) (tgt := 8) hx hb dX1_bestFlowNoise_67 (by decide) ?_
              rw [show x16 = nI (i + 1) from (ex16.trans (nadd rfl (nl 1)))] at hl
              refine W.widen (k := 126 * (i + 1)) (n := 758 * (i + 1)) (by omega) (by omega) ?_
              exact ih  (i + 1) 0 r12 (by omega) (by omega) (by rw [hzn]; exact bf_B (by omega) hbr her cd13 cd15) _ _ hP hD hS ls (lv_sub hl [5, 2, 1, 0] rfl)
            · refine lv_iload (pc := 52) hx hb dX1_bestFlowNoise_52 (lv_at hl 0 rfl) ?_
              refine lv_iload_n (pc := 54) hx hb dX1_bestFlowNoise_54 rfl (lv_at hl 4 rfl) ?_
              refine lv_icmp_ge (pc := 55) (tgt := 64) hx hb dX1_bestFlowNoise_55 (by decide) (fun cd17 => ?_) (fun cd17 => ?_)
              · obtain ⟨x18, ex18⟩ : ∃ y : Int32, y = (nI i) + 1 := ⟨_, rfl⟩
                refine lv_iinc (pc := 64) (v := x18) (lv' := [(3, .int x18), (5, .int r12), (4, .int 0), (0, .ref h0), (1, .int bs), (2, .int le)]) hx hb dX1_bestFlowNoise_64 hl (k := 5) rfl (by rw [ex18]; rfl) (by decide) rfl (fun ls hl => ?_)
                refine lv_goto (pc := 67) (tgt := 8) hx hb dX1_bestFlowNoise_67 (by decide) ?_
                rw [show x18 = nI (i + 1) from (ex18.trans (nadd rfl (nl 1)))] at hl
                refine W.widen (k := 126 * (i + 1)) (n := 758 * (i + 1)) (by omega) (by omega) ?_
                exact ih  (i + 1) bs le (by omega) (by omega) (bf_D hbr her cd13 cd15 (Int32.not_lt.mpr cd17)) _ _ hP hD hS ls (lv_sub hl [3, 4, 5, 0] rfl)
              · refine lv_iload (pc := 58) hx hb dX1_bestFlowNoise_58 (lv_at hl 1 rfl) ?_
                refine lv_istore_n (pc := 60) (lv' := [(1, .int 0), (5, .int r12), (4, .int 0), (0, .ref h0), (2, .int le), (3, .int (nI i))]) hx hb dX1_bestFlowNoise_60 rfl hl (by decide) rfl (fun ls hl => ?_)
                refine lv_iload (pc := 61) hx hb dX1_bestFlowNoise_61 (lv_at hl 1 rfl) ?_
                refine lv_istore_n (pc := 63) (lv' := [(2, .int r12), (1, .int 0), (5, .int r12), (4, .int 0), (0, .ref h0), (3, .int (nI i))]) hx hb dX1_bestFlowNoise_63 rfl hl (by decide) rfl (fun ls hl => ?_)
                obtain ⟨x19, ex19⟩ : ∃ y : Int32, y = (nI i) + 1 := ⟨_, rfl⟩
                refine lv_iinc (pc := 64) (v := x19) (lv' := [(3, .int x19), (2, .int r12), (1, .int 0), (5, .int r12), (4, .int 0), (0, .ref h0)]) hx hb dX1_bestFlowNoise_64 hl (k := 5) rfl (by rw [ex19]; rfl) (by decide) rfl (fun ls hl => ?_)
                refine lv_goto (pc := 67) (tgt := 8) hx hb dX1_bestFlowNoise_67 (by decide) ?_
                rw [show x19 = nI (i + 1) from (ex19.trans (nadd rfl (nl 1)))] at hl
                refine W.widen (k := 126 * (i + 1)) (n := 758 * (i + 1)) (by omega) (by omega) ?_
                exact ih  (i + 1) 0 r12 (by omega) (by omega) (by rw [hzn]; exact bf_C (by omega) hbr her cd13 cd15 (Int32.not_le.mp cd17)) _ _ hP hD hS ls (lv_sub hl [5, 2, 1, 0] rfl)
  exact loop 13 0 (-2000000001) (-2000000001) (Nat.zero_le _) (by omega) rfl _ _ hP hD hS ls (lv_sub hl [3, 2, 1, 0] rfl)
