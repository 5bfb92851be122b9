abbrev rm_m1_predicted : Room := ({ frames := 7, cells := 101, slots := 608, locals := 149 })
set_option maxHeartbeats 4000000 in
set_option maxRecDepth 100000 in
/-- State.predicted(t) -/
theorem m1_predicted (l : Launch) {D : va_G} {g : Nat → ClassId} (za : Nat) (h0 qe qs qh qa k : Nat) (gs ge : Nat → Option Nat) (f : Nat → Int32) (M : Nat → Prop) (t : Nat) (tx : Int32) (H : Heap) (hs0 : va_P D vwCl [(h0, .inr (1, [.ref qe, .int (f 5), .int (f 6), .ref qs, .int (f 7), .ref qh, .int (f 19), .int (f 20), .int (f 21)]))] H) (hs1 : va_P D vwCl [(qe, .inr (2, [.int (f 0), .int (f 1), .int (f 2), .int (f 3), .int (f 4), .int (f 16), .int (f 17), .int (f 18)]))] H) (hs2 : va_P D vwCl [(qs, .inl (g 4, 4, .inr (.inr (.inr (.inr gs)))))] H) (hs3 : va_P D vwCl [(qh, .inr (3, [.ref qa, .int (nI k)]))] H) (hs4 : va_P D vwCl [(qa, .inl (g 3, 24, .inr (.inr (.inr (.inr ge)))))] H) (ht : t ≤ 100) (htx : tx = nI t) : vx_Met l yX1_predicted (ws_ yX1_predicted cX1_predicted 4 (some (.object "TankFilter$Estimate"))) rm_m1_predicted (va_Pc [.ref h0, .int tx] (PZ D g za H)) (QR (fun r H1 => pItOK (f 5) (f 6) t (eR f) ∧ H.size ≤ r ∧ va_P D vwCl [(r, .inr (2, [.int ((pIt (f 5) (f 6) t (eR f)) 0), .int ((pIt (f 5) (f 6) t (eR f)) 1), .int ((pIt (f 5) (f 6) t (eR f)) 2), .int ((pIt (f 5) (f 6) t (eR f)) 3), .int ((pIt (f 5) (f 6) t (eR f)) 4), .int ((pIt (f 5) (f 6) t (eR f)) 5), .int ((pIt (f 5) (f 6) t (eR f)) 6), .int ((pIt (f 5) (f 6) t (eR f)) 7)]))] H1) (fun q => H.size ≤ q)) (XL (¬ pItOK (f 5) (f 6) t (eR f))) 101 608 (fun q => H.size ≤ q) := by
  refine vx_ofW (cc := cX1_predicted) (maxL := 4) (ret := (some (.object "TankFilter$Estimate"))) (by decide) rfl ?_
  intro p e s m args below meth c s₁ B hml htab hv
  obtain ⟨rfl, hH, hK, hZ⟩ := hv
  subst hH
  have hx := B.exec
  have hb := B.bytes
  have hr := B.returns
  have hts := atoms_spec (ws := ws_ yX1_predicted cX1_predicted 4 (some (.object "TankFilter$Estimate"))) B.pre
  have hts : ∀ w ∈ lw_all, w.before _ s = true := fun w h => hts w (List.mem_cons_of_mem _ h)
  have hown : s.vm.findClass RX1 = some m.cls := findClass_of_methodNamed B.named
  have hlocks := B.notSynchronized
  have hA : ∀ q, s.heap.size ≤ q → (fun q => s.heap.size ≤ q) q := fun q h => h
  have hS : va_S (fun q => s.heap.size ≤ q) s.heap s.heap [] := va_S.rf
  have hP : va_P D vwCl [] s.heap := fun k q h => by simp at h
  have hD : va_D (fun q => s.heap.size ≤ q) [] := ⟨fun i j p q h => by simp at h, fun k q h => by simp at h⟩
  have ahs0 : ¬ (fun q => s.heap.size ≤ q) h0 := Nat.not_le.mpr (hs0 0 _ rfl).lt
  have ahs1 : ¬ (fun q => s.heap.size ≤ q) qe := Nat.not_le.mpr (hs1 0 _ rfl).lt
  have ahs2 : ¬ (fun q => s.heap.size ≤ q) qs := Nat.not_le.mpr (hs2 0 _ rfl).lt
  have ahs3 : ¬ (fun q => s.heap.size ≤ q) qh := Nat.not_le.mpr (hs3 0 _ rfl).lt
  have ahs4 : ¬ (fun q => s.heap.size ≤ q) qa := Nat.not_le.mpr (hs4 0 _ rfl).lt
  have aza : ¬ (fun q => s.heap.size ≤ q) za := Nat.not_le.mpr hZ.lt
  have hl := lv_entry ([.ref h0, .int tx]) (n := 4) (Nat.le_of_ble_eq_true rfl)
  rw [lg_entry_eq]
  generalize (lg_sl ([.ref h0, .int tx]) ++ List.replicate (4 - (lg_sl ([.ref h0, .int tx])).length) Slot.unset).toArray = ls at hl ⊢
  have hl : lv_has ls 4 [(0, .ref h0), (1, .int tx)] := hl
  refine va_new (pc := 0) (ci := 2) (fs := [.int 0, .int 0, .int 0, .int 0, .int 0, .int 0, .int 0, .int 0]) (C := RX2) (T := TX2) (N := 8) hx hb hts in_X2 tyX2 tyX2_ok hown (hts _ q49) (hts _ q50) (hts _ q23) hK.1 hP hD hS hA rfl (fun j hj => by rcases (show j = 0 ∨ j = 1 ∨ j = 2 ∨ j = 3 ∨ j = 4 ∨ j = 5 ∨ j = 6 ∨ j = 7 by omega) with rfl | rfl | rfl | rfl | rfl | rfl | rfl | rfl <;> rfl) (Nat.le_of_ble_eq_true rfl) (Nat.le_of_ble_eq_true rfl) dX1_predicted_0 (fun q1 H hP hD hS => ?_)
  have hP : va_P D vwCl [(q1, .inr (2, [.int 0, .int 0, .int 0, .int 0, .int 0, .int 0, .int 0, .int 0]))] H := hP
  have hD : va_D (fun q => s.heap.size ≤ q) [(q1, .inr (2, [.int 0, .int 0, .int 0, .int 0, .int 0, .int 0, .int 0, .int 0]))] := hD
  refine lv_dup (pc := 3) hx hb dX1_predicted_3 rfl ?_
  have hFc := awF (Lc := [q1]) hD hS hA [0] rfl
  refine kV (pc := 4) (va_runIN (As := []) (rest := [.ref q1]) ⟨hx, hb, hml, hown, hts⟩ (m2_init l q1 H (hP.sub (ws' := [(q1, .inr (2, [.int 0, .int 0, .int 0, .int 0, .int 0, .int 0, .int 0, .int 0]))]) [0] rfl)) ⟨va_cnB 0 hts (lw_meth q53) rfl rfl rfl (hK.2.1 _ nq51) (hts _ q23) (by decide +kernel) ⟨Nat.le_of_ble_eq_true rfl, Nat.le_of_ble_eq_true rfl⟩, rfl, hts _ q52⟩ (preS hK) rfl rfl hl.1 rfl (lv_room (Nat.le_of_ble_eq_true rfl)) dX1_predicted_4 ⟨Nat.le_of_ble_eq_true rfl, Nat.le_of_ble_eq_true rfl⟩) hS hFc (fun H locs hp9 hz1 hk1 hS => ?_)
  have hP1 := hp9
  obtain ⟨hP, hD⟩ := jn (wr := []) (w1 := [(q1, .inr (2, [.int 0, .int 0, .int 4096, .int 0, .int 4096, .int (-2000000001), .int (-2000000001), .int (-2000000001)]))]) hP hD [0] [] rfl rfl (by decide) (by decide) hk1 hFc hP1 (d1 (Or.inl (by simp)))
  have hP : va_P D vwCl [(q1, .inr (2, [.int 0, .int 0, .int 4096, .int 0, .int 4096, .int (-2000000001), .int (-2000000001), .int (-2000000001)]))] H := hP
  have hD : va_D (fun q => s.heap.size ≤ q) [(q1, .inr (2, [.int 0, .int 0, .int 4096, .int 0, .int 4096, .int (-2000000001), .int (-2000000001), .int (-2000000001)]))] := hD
  refine lv_astore_n (pc := 7) (lv' := [(2, .ref q1), (0, .ref h0), (1, .int tx)]) hx hb dX1_predicted_7 rfl hl (by decide) rfl (fun ls hl => ?_)
  refine lv_aload_n (pc := 8) hx hb dX1_predicted_8 rfl (lv_at hl 0 rfl) ?_
  refine lv_aload_n (pc := 9) hx hb dX1_predicted_9 rfl (lv_at hl 1 rfl) ?_
  refine va_get (pc := 10) (D := D) (ci := 1) (v := .ref qe) (C := RX1) (T := TX1) (N := 9) hx hb hts in_X1 hown hK.1 (ro_at hS hs0 ahs0) 0 rfl rfl 0 (by decide) (hts _ q131) (fun _ h9 => h9) rfl dX1_predicted_10 ?_
  have hFc := awF (Lc := [q1]) hD hS hA [0] rfl
  refine kV (pc := 13) (va_runV (As := [.ref qe]) (rest := []) ⟨hx, hb, hml, hown, hts⟩ (m2_copyFrom l q1 qe (fun k => match k with | 0 => 0 | 1 => 0 | 2 => 4096 | 3 => 0 | 4 => 4096 | _ => -2000000001) (eR f) H (hP.sub (ws' := [(q1, .inr (2, [.int 0, .int 0, .int 4096, .int 0, .int 4096, .int (-2000000001), .int (-2000000001), .int (-2000000001)]))]) [0] rfl) (ro_at hS hs1 ahs1) (ninL ahs1 (fun q h => hFc q (Or.inl h)))) (cwV 1 hts (lw_V q221 q222 q223 q23 q224) rfl rfl rfl (by decide +kernel) ⟨Nat.le_of_ble_eq_true rfl, Nat.le_of_ble_eq_true rfl⟩) (preV hK (rcv hK hP 0 rfl rfl)) rfl rfl hl.1 rfl (lv_room (Nat.le_of_ble_eq_true rfl)) dX1_predicted_13 ⟨Nat.le_of_ble_eq_true rfl, Nat.le_of_ble_eq_true rfl⟩) hS hFc (fun H locs hp9 hz1 hk1 hS => ?_)
  have hP1 := hp9
  obtain ⟨hP, hD⟩ := jn (wr := []) (w1 := [(q1, .inr (2, [.int (f 0), .int (f 1), .int (f 2), .int (f 3), .int (f 4), .int (f 16), .int (f 17), .int (f 18)]))]) hP hD [0] [] rfl rfl (by decide) (by decide) hk1 hFc hP1 (d1 (Or.inl (by simp)))
  have hP : va_P D vwCl [(q1, .inr (2, [.int (f 0), .int (f 1), .int (f 2), .int (f 3), .int (f 4), .int (f 16), .int (f 17), .int (f 18)]))] H := hP
  have hD : va_D (fun q => s.heap.size ≤ q) [(q1, .inr (2, [.int (f 0), .int (f 1), .int (f 2), .int (f 3), .int (f 4), .int (f 16), .int (f 17), .int (f 18)]))] := hD
  refine lv_iconst (pc := 16) (v := 0) hx hb dX1_predicted_16 (by decide) ?_
  refine lv_istore_n (pc := 17) (lv' := [(3, .int 0), (2, .ref q1), (0, .ref h0), (1, .int tx)]) hx hb dX1_predicted_17 rfl hl (by decide) rfl (fun ls hl => ?_)
  have loop : ∀ (n : Nat) (i : Nat), (i ≤ t) → (t + 1 ≤ i + n) → (pItOK (f 5) (f 6) i (eR f)) → ∀ (H : Heap) (locs : List Loc), va_P D vwCl [(q1, .inr (2, [.int ((pIt (f 5) (f 6) i (eR f)) 0), .int ((pIt (f 5) (f 6) i (eR f)) 1), .int ((pIt (f 5) (f 6) i (eR f)) 2), .int ((pIt (f 5) (f 6) i (eR f)) 3), .int ((pIt (f 5) (f 6) i (eR f)) 4), .int ((pIt (f 5) (f 6) i (eR f)) 5), .int ((pIt (f 5) (f 6) i (eR f)) 6), .int ((pIt (f 5) (f 6) i (eR f)) 7)]))] H → va_D (fun q => s.heap.size ≤ q) [(q1, .inr (2, [.int ((pIt (f 5) (f 6) i (eR f)) 0), .int ((pIt (f 5) (f 6) i (eR f)) 1), .int ((pIt (f 5) (f 6) i (eR f)) 2), .int ((pIt (f 5) (f 6) i (eR f)) 3), .int ((pIt (f 5) (f 6) i (eR f)) 4), .int ((pIt (f 5) (f 6) i (eR f)) 5), .int ((pIt (f 5) (f 6) i (eR f)) 6), .int ((pIt (f 5) (f 6) i (eR f)) 7)]))] → va_S (fun q => s.heap.size ≤ q) s.heap H locs → ∀ (ls : Array Slot), lv_has ls 4 [(0, .ref h0), (1, .int tx), (2, .ref q1), (3, .int (nI i))] → W p l e (headSpec (ws_ yX1_predicted cX1_predicted 4 (some (.object "TankFilter$Estimate"))) rm_m1_predicted).room s m ([.ref h0, .int tx] : List Value).toArray below meth c H locs (1 + i) (8 + 6 * i) (vx_MQ below (QR (fun r H1 => pItOK (f 5) (f 6) t (eR f) ∧ s.heap.size ≤ r ∧ va_P D vwCl [(r, .inr (2, [.int ((pIt (f 5) (f 6) t (eR f)) 0), .int ((pIt (f 5) (f 6) t (eR f)) 1), .int ((pIt (f 5) (f 6) t (eR f)) 2), .int ((pIt (f 5) (f 6) t (eR f)) 3), .int ((pIt (f 5) (f 6) t (eR f)) 4), .int ((pIt (f 5) (f 6) t (eR f)) 5), .int ((pIt (f 5) (f 6) t (eR f)) 6), .int ((pIt (f 5) (f 6) t (eR f)) 7)]))] H1) (fun q => s.heap.size ≤ q)) (XL (¬ pItOK (f 5) (f 6) t (eR f))) ([.ref h0, .int tx] : List Value).toArray s 101 608 (fun q => s.heap.size ≤ q)) (F0 m 18 ls []) := by
    intro n
    induction n with
    | zero =>
      intro i hi hfu hac
      exact absurd (show _ by assumption) (by omega)
    | succ n ih =>
      intro i hi hfu hac H locs hP hD hS ls hl
      refine lv_iload_n (pc := 18) hx hb dX1_predicted_18 rfl (lv_at hl 3 rfl) ?_
      refine lv_iload_n (pc := 19) hx hb dX1_predicted_19 rfl (lv_at hl 1 rfl) ?_
      refine lv_icmp_ge (pc := 20) (tgt := 42) hx hb dX1_predicted_20 (by decide) (fun cd4 => ?_) (fun cd4 => ?_)
      · have ncd4 : t ≤ i := (nle htx rfl (by omega) (by omega)).mp cd4
        refine lv_aload_n (pc := 42) hx hb dX1_predicted_42 rfl (lv_at hl 2 rfl) ?_
        refine vx_ret ?_
        refine W.widen (k := 101) (n := 608) (by omega) (by omega) ?_
        have hq9 : (fun r H1 => pItOK (f 5) (f 6) t (eR f) ∧ s.heap.size ≤ r ∧ va_P D vwCl [(r, .inr (2, [.int ((pIt (f 5) (f 6) t (eR f)) 0), .int ((pIt (f 5) (f 6) t (eR f)) 1), .int ((pIt (f 5) (f 6) t (eR f)) 2), .int ((pIt (f 5) (f 6) t (eR f)) 3), .int ((pIt (f 5) (f 6) t (eR f)) 4), .int ((pIt (f 5) (f 6) t (eR f)) 5), .int ((pIt (f 5) (f 6) t (eR f)) 6), .int ((pIt (f 5) (f 6) t (eR f)) 7)]))] H1 : Nat → Heap → Prop) q1 H := ⟨(show i = t by omega) ▸ hac, hD.2 0 _ rfl, by rw [show i = t by omega] at hP; exact hP⟩
        exact W.aret (v := .ref q1) hx hb hr (Or.inl ⟨_, rfl⟩) (Or.inr ⟨_, rfl⟩) (fun t ht hW => ⟨⟨_, rfl, by rw [ht]; exact hq9⟩, hS.F ht⟩) hS.2.2 dX1_predicted_43
      · have ncd4 : ¬ t ≤ i := fun h => cd4 ((nle htx rfl (by omega) (by omega)).mpr h)
        refine lv_aload_n (pc := 23) hx hb dX1_predicted_23 rfl (lv_at hl 2 rfl) ?_
        refine lv_iconst (pc := 24) (v := 0) hx hb dX1_predicted_24 (by decide) ?_
        refine lv_aload_n (pc := 25) hx hb dX1_predicted_25 rfl (lv_at hl 0 rfl) ?_
        refine va_get (pc := 26) (D := D) (ci := 1) (v := .int (f 5)) (C := RX1) (T := TX1) (N := 9) hx hb hts in_X1 hown hK.1 (ro_at hS hs0 ahs0) 0 rfl rfl 1 (by decide) (hts _ q133) (fun _ h9 => h9) rfl dX1_predicted_26 ?_
        refine lv_aload_n (pc := 29) hx hb dX1_predicted_29 rfl (lv_at hl 0 rfl) ?_
        refine va_get (pc := 30) (D := D) (ci := 1) (v := .int (f 6)) (C := RX1) (T := TX1) (N := 9) hx hb hts in_X1 hown hK.1 (ro_at hS hs0 ahs0) 0 rfl rfl 2 (by decide) (hts _ q135) (fun _ h9 => h9) rfl dX1_predicted_30 ?_
        have hFc := awF (Lc := [q1]) hD hS hA [0] rfl
        refine xV (pc := 33) (vx_runV (As := [.int 0, .int (f 5), .int (f 6)]) (rest := []) ⟨hx, hb, hml, hown, hts⟩ (m2_predict l za q1 (pIt (f 5) (f 6) i (eR f)) 0 (f 5) (f 6) H (hP.sub (ws' := [(q1, .inr (2, [.int ((pIt (f 5) (f 6) i (eR f)) 0), .int ((pIt (f 5) (f 6) i (eR f)) 1), .int ((pIt (f 5) (f 6) i (eR f)) 2), .int ((pIt (f 5) (f 6) i (eR f)) 3), .int ((pIt (f 5) (f 6) i (eR f)) 4), .int ((pIt (f 5) (f 6) i (eR f)) 5), .int ((pIt (f 5) (f 6) i (eR f)) 6), .int ((pIt (f 5) (f 6) i (eR f)) 7)]))]) [0] rfl) (ninL aza (fun q h => hFc q (Or.inl h)))) (cwV 3 hts (lw_V q451 q269 q270 q23 q271) rfl rfl rfl (by decide +kernel) ⟨Nat.le_of_ble_eq_true rfl, Nat.le_of_ble_eq_true rfl⟩) (preVZ hK (hZ.kept (hS.2.1 _ hZ.lt aza)) (rcv hK hP 0 rfl rfl)) rfl rfl hl.1 rfl (lv_room (Nat.le_of_ble_eq_true rfl)) dX1_predicted_33 ⟨show 1 + i + 1 ≤ 101 by omega, show 8 + 6 * i + 6 ≤ 608 by omega⟩) hS hFc (fun ce q9 H1 locs1 hX hz1 hk1 hS1 hce hcv hcl => ?_) (fun H locs hp9 hz1 hk1 hS => ?_)
        · exact vx_out (fun x hx9 => (htab x hx9).elim) hlocks hce hcv hcl (fun t ht hvm => ⟨rfl, (fun h => hX (h i (by omega))), hS1.F ht⟩) hS1.2.2 (show 1 + i + 1 ≤ 101 by omega) (show 8 + 6 * i + 6 ≤ 608 by omega)
        obtain ⟨hok, hP1⟩ := hp9
        obtain ⟨hP, hD⟩ := jn (wr := []) (w1 := [(q1, .inr (2, [.int ((pE (pIt (f 5) (f 6) i (eR f)) 0 (f 5) (f 6)) 0), .int ((pE (pIt (f 5) (f 6) i (eR f)) 0 (f 5) (f 6)) 1), .int ((pE (pIt (f 5) (f 6) i (eR f)) 0 (f 5) (f 6)) 2), .int ((pE (pIt (f 5) (f 6) i (eR f)) 0 (f 5) (f 6)) 3), .int ((pE (pIt (f 5) (f 6) i (eR f)) 0 (f 5) (f 6)) 4), .int ((pE (pIt (f 5) (f 6) i (eR f)) 0 (f 5) (f 6)) 5), .int ((pE (pIt (f 5) (f 6) i (eR f)) 0 (f 5) (f 6)) 6), .int ((pE (pIt (f 5) (f 6) i (eR f)) 0 (f 5) (f 6)) 7)]))]) hP hD [0] [] rfl rfl (by decide) (by decide) hk1 hFc hP1 (d1 (Or.inl (by simp)))
        have hP : va_P D vwCl [(q1, .inr (2, [.int ((pE (pIt (f 5) (f 6) i (eR f)) 0 (f 5) (f 6)) 0), .int ((pE (pIt (f 5) (f 6) i (eR f)) 0 (f 5) (f 6)) 1), .int ((pE (pIt (f 5) (f 6) i (eR f)) 0 (f 5) (f 6)) 2), .int ((pE (pIt (f 5) (f 6) i (eR f)) 0 (f 5) (f 6)) 3), .int ((pE (pIt (f 5) (f 6) i (eR f)) 0 (f 5) (f 6)) 4), .int ((pE (pIt (f 5) (f 6) i (eR f)) 0 (f 5) (f 6)) 5), .int ((pE (pIt (f 5) (f 6) i (eR f)) 0 (f 5) (f 6)) 6), .int ((pE (pIt (f 5) (f 6) i (eR f)) 0 (f 5) (f 6)) 7)]))] H := hP
        have hD : va_D (fun q => s.heap.size ≤ q) [(q1, .inr (2, [.int ((pE (pIt (f 5) (f 6) i (eR f)) 0 (f 5) (f 6)) 0), .int ((pE (pIt (f 5) (f 6) i (eR f)) 0 (f 5) (f 6)) 1), .int ((pE (pIt (f 5) (f 6) i (eR f)) 0 (f 5) (f 6)) 2), .int ((pE (pIt (f 5) (f 6) i (eR f)) 0 (f 5) (f 6)) 3), .int ((pE (pIt (f 5) (f 6) i (eR f)) 0 (f 5) (f 6)) 4), .int ((pE (pIt (f 5) (f 6) i (eR f)) 0 (f 5) (f 6)) 5), .int ((pE (pIt (f 5) (f 6) i (eR f)) 0 (f 5) (f 6)) 6), .int ((pE (pIt (f 5) (f 6) i (eR f)) 0 (f 5) (f 6)) 7)]))] := hD
        obtain ⟨x6, ex6⟩ : ∃ y : Int32, y = (nI i) + 1 := ⟨_, rfl⟩
        refine lv_iinc (pc := 36) (v := x6) (lv' := [(3, .int x6), (0, .ref h0), (1, .int tx), (2, .ref q1)]) hx hb dX1_predicted_36 hl (k := 3) rfl (by rw [ex6]; rfl) (by decide) rfl (fun ls hl => ?_)
        refine lv_goto (pc := 39) (tgt := 18) hx hb dX1_predicted_39 (by decide) ?_
        rw [show x6 = nI (i + 1) from (ex6.trans (nadd rfl (nl 1)))] at hl
        refine W.widen (k := 1 + (i + 1)) (n := 8 + 6 * (i + 1)) (by omega) (by omega) ?_
        exact ih  (i + 1) (by omega) (by omega) (fun j h => by rcases Nat.lt_or_ge j i with h1 | h1; exact hac j h1; rw [show j = i by omega]; exact hok) _ _ hP hD hS ls (lv_sub hl [1, 2, 3, 0] rfl)
  exact loop (t + 1) 0 (Nat.zero_le _) (by omega) (fun j h => absurd h (Nat.not_lt_zero j)) _ _ hP hD hS ls (lv_sub hl [2, 3, 1, 0] rfl)
