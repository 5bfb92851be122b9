abbrev rm_m0_add : Room := ({ frames := 0, cells := 0, slots := 0, locals := 0 })
set_option maxHeartbeats 4000000 in
set_option maxRecDepth 100000 in
/-- add(h, values) -/
theorem m0_add (l : Launch) {D : va_G} {g : Nat → ClassId} (h : Int64) (qv len : Nat) (v : Nat → Int32) (H : Heap) (hqv : va_P D vwCl [(qv, .inl (g 0, len, .inl v))] H) (hn : len ≤ 12) : Met l yX0_add (ws_ yX0_add cX0_add 9 (some .long)) rm_m0_add (va_Pc [.long h, .ref qv] (PH D g H)) (QL (fun r H1 => H1 = H ∧ r = hsh h v len) (fun _ => False)) 0 0 (fun _ => False) := by
  refine Met.ofW (cc := cX0_add) (maxL := 9) (ret := (some .long)) (by decide) rfl ?_
  intro p e s m args below meth c s₁ B hml hv
  obtain ⟨rfl, hH, hK⟩ := hv
  subst hH
  have hx := B.exec
  have hb := B.bytes
  have hr := B.returns
  have hts := atoms_spec (ws := ws_ yX0_add cX0_add 9 (some .long)) B.pre
  have hts : ∀ w ∈ lw_all, w.before _ s = true := fun w h => hts w (List.mem_cons_of_mem _ h)
  have hown : s.vm.findClass RX0 = some m.cls := findClass_of_methodNamed B.named
  have hlocks := B.notSynchronized
  have hS : va_S (fun _ => False) s.heap s.heap [] := va_S.rf
  have hl := lv_entry ([.long h, .ref qv]) (n := 9) (Nat.le_of_ble_eq_true rfl)
  rw [lg_entry_eq]
  generalize (lg_sl ([.long h, .ref qv]) ++ List.replicate (9 - (lg_sl ([.long h, .ref qv])).length) Slot.unset).toArray = ls at hl ⊢
  have hl : lv_has ls 9 [(0, .long h), (2, .ref qv)] := hl
  refine lv_lload_n (pc := 0) hx hb dX0_add_0 rfl (lv_at hl 0 rfl) ?_
  refine lv_lstore_n (pc := 1) (lv' := [(3, .long h), (0, .long h), (2, .ref qv)]) hx hb dX0_add_1 rfl hl (by decide) rfl (fun ls hl => ?_)
  refine lv_aload_n (pc := 2) hx hb dX0_add_2 rfl (lv_at hl 2 rfl) ?_
  refine lv_astore (pc := 3) (lv' := [(5, .ref qv), (3, .long h), (0, .long h), (2, .ref qv)]) hx hb dX0_add_3 hl (by decide) rfl (fun ls hl => ?_)
  refine lv_aload (pc := 5) hx hb dX0_add_5 (lv_at hl 0 rfl) ?_
  refine va_alen (pc := 7) (v := nI len) hx hb hK.1 hqv 0 0 rfl rfl rfl dX0_add_7 ?_
  refine lv_istore (pc := 8) (lv' := [(6, .int (nI len)), (5, .ref qv), (3, .long h), (0, .long h), (2, .ref qv)]) hx hb dX0_add_8 hl (by decide) rfl (fun ls hl => ?_)
  refine lv_iconst (pc := 10) (v := 0) hx hb dX0_add_10 (by decide) ?_
  refine lv_istore (pc := 11) (lv' := [(7, .int 0), (6, .int (nI len)), (5, .ref qv), (3, .long h), (0, .long h), (2, .ref qv)]) hx hb dX0_add_11 hl (by decide) rfl (fun ls hl => ?_)
  have loop : ∀ (n : Nat) (i : Nat) (sm : Int64), (i ≤ len) → (len + 1 ≤ i + n) → (sm = hsh h v i) → ∀ (ls : Array Slot), lv_has ls 9 [(3, .long sm), (5, .ref qv), (6, .int (nI len)), (7, .int (nI i))] → W p l e (headSpec (ws_ yX0_add cX0_add 9 (some .long)) rm_m0_add).room s m ([.long h, .ref qv] : List Value).toArray below meth c s.heap [] 0 0 (MQ below (QL (fun r H1 => H1 = s.heap ∧ r = hsh h v len) (fun _ => False)) ([.long h, .ref qv] : List Value).toArray s 0 0 (fun _ => False)) (F0 m 13 ls []) := by
    intro n
    induction n with
    | zero =>
      intro i sm hi hfu hsm
      exact absurd (show _ by assumption) (by omega)
    | succ n ih =>
      intro i sm hi hfu hsm ls hl
      refine lv_iload (pc := 13) hx hb dX0_add_13 (lv_at hl 3 rfl) ?_
      refine lv_iload (pc := 15) hx hb dX0_add_15 (lv_at hl 2 rfl) ?_
      refine lv_icmp_ge (pc := 17) (tgt := 43) hx hb dX0_add_17 (by decide) (fun cd1 => ?_) (fun cd1 => ?_)
      · have ncd1 : len ≤ i := (nle rfl rfl (by omega) (by omega)).mp cd1
        refine lv_lload_n (pc := 43) hx hb dX0_add_43 rfl (lv_at hl 0 rfl) ?_
        have hq9 : (fun r H1 => H1 = s.heap ∧ r = hsh h v len : Int64 → Heap → Prop) sm s.heap := ⟨rfl, by rw [hsm, show i = len by omega]⟩
        exact W.lret (v := sm) hx hb hr (fun t ht hW => ⟨⟨_, rfl, by rw [ht]; exact hq9⟩, hS.F ht⟩) hS.2.2 dX0_add_44
      · have ncd1 : ¬ len ≤ i := fun h => cd1 ((nle rfl rfl (by omega) (by omega)).mpr h)
        refine lv_aload (pc := 20) hx hb dX0_add_20 (lv_at hl 1 rfl) ?_
        refine lv_iload (pc := 22) hx hb dX0_add_22 (lv_at hl 3 rfl) ?_
        refine ia_ld (pc := 24) hx hb hK.1 hqv 0 0 i rfl rfl rfl (by omega) (by omega) dX0_add_24 ?_
        refine lv_istore (pc := 25) (lv' := [(8, .int (v i)), (3, .long sm), (5, .ref qv), (6, .int (nI len)), (7, .int (nI i))]) hx hb dX0_add_25 hl (by decide) rfl (fun ls hl => ?_)
        refine lv_ldc2 (pc := 27) (v := 31) hx hb hown (hts _ q560) dX0_add_27 ?_
        refine lv_lload_n (pc := 30) hx hb dX0_add_30 rfl (lv_at hl 1 rfl) ?_
        refine lv_lmul (pc := 31) hx hb dX0_add_31 ?_
        refine lv_iload (pc := 32) hx hb dX0_add_32 (lv_at hl 0 rfl) ?_
        refine lv_i2l (pc := 34) hx hb dX0_add_34 rfl ?_
        refine lv_ladd (pc := 35) hx hb dX0_add_35 ?_
        refine lv_topl (fun z2 ez2 => ?_)
        refine lv_lstore_n (pc := 36) (lv' := [(3, .long z2), (8, .int (v i)), (5, .ref qv), (6, .int (nI len)), (7, .int (nI i))]) hx hb dX0_add_36 rfl hl (by decide) rfl (fun ls hl => ?_)
        obtain ⟨x3, ex3⟩ : ∃ y : Int32, y = (nI i) + 1 := ⟨_, rfl⟩
        refine lv_iinc (pc := 37) (v := x3) (lv' := [(7, .int x3), (3, .long z2), (8, .int (v i)), (5, .ref qv), (6, .int (nI len))]) hx hb dX0_add_37 hl (k := 4) rfl (by rw [ex3]; rfl) (by decide) rfl (fun ls hl => ?_)
        refine lv_goto (pc := 40) (tgt := 13) hx hb dX0_add_40 (by decide) ?_
        rw [show x3 = nI (i + 1) from (ex3.trans (nadd rfl (nl 1)))] at hl
        exact ih  (i + 1) z2 (by omega) (by omega) (by rw [ez2, hsm]; rfl) ls (lv_sub hl [1, 3, 4, 0] rfl)
  exact loop (len + 1) 0 h (Nat.zero_le _) (by omega) rfl ls (lv_sub hl [3, 2, 1, 0] rfl)

abbrev rm_m0_digest : Room := ({ frames := 1, cells := 30, slots := 75, locals := 28 })
set_option maxHeartbeats 4000000 in
set_option maxRecDepth 100000 in
/-- digest -/
theorem m0_digest (l : Launch) {D : va_G} {g : Nat → ClassId} (xo sv sa er rd cur np : Nat) (ef f : Nat → Int32) (M : Nat → Prop) (H : Heap) (hx0 : va_P D vwCl [(xo, .inr (0, [.ref cur, .ref sv, .ref rd, .ref er]))] H) (hx1 : va_P D vwCl [(sv, .inr (3, [.ref sa, .int (nI np)]))] H) (hx3 : va_P D vwCl [(er, .inl (g 0, 3, .inl ef))] H) (hcur : StAt D g M H cur f) (hnp : np ≤ 4) : Met l yX0_digest (ws_ yX0_digest cX0_digest 9 (some .long)) rm_m0_digest (va_Pc [.ref xo] (PH D g H)) (QL (fun r H1 => r = dgV ef np f (ln f)) (fun q => H.size ≤ q)) 30 75 (fun q => H.size ≤ q) := by
  refine Met.ofW (cc := cX0_digest) (maxL := 9) (ret := (some .long)) (by decide) rfl ?_
  intro p e s m args below meth c s₁ B hml hv
  obtain ⟨rfl, hH, hK⟩ := hv
  subst hH
  have hx := B.exec
  have hb := B.bytes
  have hr := B.returns
  have hts := atoms_spec (ws := ws_ yX0_digest cX0_digest 9 (some .long)) B.pre
  have hts : ∀ w ∈ lw_all, w.before _ s = true := fun w h => hts w (List.mem_cons_of_mem _ h)
  have hown : s.vm.findClass RX0 = some m.cls := findClass_of_methodNamed B.named
  have hlocks := B.notSynchronized
  have hA : ∀ q, s.heap.size ≤ q → (fun q => s.heap.size ≤ q) q := fun q h => h
  have hS : va_S (fun q => s.heap.size ≤ q) s.heap s.heap [] := va_S.rf
  have hP : va_P D vwCl [] s.heap := fun k q h => by simp at h
  have hD : va_D (fun q => s.heap.size ≤ q) [] := ⟨fun i j p q h => by simp at h, fun k q h => by simp at h⟩
  have ahx0 : ¬ (fun q => s.heap.size ≤ q) xo := Nat.not_le.mpr (hx0 0 _ rfl).lt
  have ahx1 : ¬ (fun q => s.heap.size ≤ q) sv := Nat.not_le.mpr (hx1 0 _ rfl).lt
  have ahx3 : ¬ (fun q => s.heap.size ≤ q) er := Nat.not_le.mpr (hx3 0 _ rfl).lt
  have hl := lv_entry ([.ref xo]) (n := 9) (Nat.le_of_ble_eq_true rfl)
  rw [lg_entry_eq]
  generalize (lg_sl ([.ref xo]) ++ List.replicate (9 - (lg_sl ([.ref xo])).length) Slot.unset).toArray = ls at hl ⊢
  have hl : lv_has ls 9 [(0, .ref xo)] := hl
  have hcur0 := hcur
  obtain ⟨qe, qs, qh, qa, k, gs, ge, ⟨hk, hkf⟩, ⟨m0, m1, m2, m3, m4⟩, ⟨hs0, hs1, hs2, hs3, hs4⟩, hsn, hev⟩ := hcur
  refine lv_aload_n (pc := 0) hx hb dX0_digest_0 rfl (lv_at hl 0 rfl) ?_
  refine va_get (pc := 1) (D := D) (ci := 0) (v := .ref cur) (C := RX0) (T := TX0) (N := 4) hx hb hts in_X0 hown hK.1 hx0 0 rfl rfl 0 (by decide) (hts _ q178) (fun _ h9 => h9) rfl dX0_digest_1 ?_
  refine lv_astore_n (pc := 4) (lv' := [(1, .ref cur), (0, .ref xo)]) hx hb dX0_digest_4 rfl hl (by decide) rfl (fun ls hl => ?_)
  refine lv_aload_n (pc := 5) hx hb dX0_digest_5 rfl (lv_at hl 0 rfl) ?_
  refine va_getN (pc := 6) (D := D) (ci := 1) (v := .ref qe) (C := RX1) (T := TX1) (N := 9) hx hb hts in_X1 hown hK.1 hs0 0 rfl rfl 0 (by decide) (hK.n nq132) (fun _ h9 => h9) rfl dX0_digest_6 ?_
  refine lv_astore_n (pc := 9) (lv' := [(2, .ref qe), (1, .ref cur), (0, .ref xo)]) hx hb dX0_digest_9 rfl hl (by decide) rfl (fun ls hl => ?_)
  refine lv_ldc2 (pc := 10) (v := 12254) hx hb hown (hts _ q556) dX0_digest_10 ?_
  refine lv_bipush (pc := 13) (v := 12) hx hb dX0_digest_13 (by decide) ?_
  refine va_newa (pc := 15) (atype := .int) (ty := .int) (N' := 12) (a0 := (12, .inl (fun _ => 0))) hx hb (hts _ q191) rfl hK.1 hP hD hS hA (fun _ => rfl) (by decide) (by decide) (by decide) (Nat.le_of_ble_eq_true rfl) (Nat.le_of_ble_eq_true rfl) dX0_digest_15 (fun q1 cA H hK9 hP hD hS => ?_)
  have hcA : cA = g 0 := ra_int (hK9.2 5 _ rfl).2 (hK.1.2 0 _ rfl).2
  subst hcA
  have hP : va_P D vwCl [(q1, .inl (g 0, 12, .inl (fun _ => 0)))] H := hP
  have hD : va_D (fun q => s.heap.size ≤ q) [(q1, .inl (g 0, 12, .inl (fun _ => 0)))] := hD
  refine lv_dup (pc := 17) hx hb dX0_digest_17 rfl ?_
  refine lv_iconst (pc := 18) (v := 0) hx hb dX0_digest_18 (by decide) ?_
  refine lv_aload_n (pc := 19) hx hb dX0_digest_19 rfl (lv_at hl 2 rfl) ?_
  refine va_get (pc := 20) (D := D) (ci := 0) (v := .ref er) (C := RX0) (T := TX0) (N := 4) hx hb hts in_X0 hown hK.1 (ro_at hS hx0 ahx0) 0 rfl rfl 3 (by decide) (hts _ q181) (fun _ h9 => h9) rfl dX0_digest_20 ?_
  refine lv_iconst (pc := 23) (v := 0) hx hb dX0_digest_23 (by decide) ?_
  refine ia_ld (pc := 24) hx hb hK.1 (ro_at hS hx3 ahx3) 0 0 0 rfl rfl (nl 0) (Nat.le_of_ble_eq_true rfl) (Nat.le_of_ble_eq_true rfl) dX0_digest_24 ?_
  refine ia_st (pc := 25) (f' := (upd (fun _ => 0) 0 (ef 0))) hx hb hK.1 hP hD hS 0 0 0 rfl rfl (nl 0) (Nat.le_of_ble_eq_true rfl) (Nat.le_of_ble_eq_true rfl) (fun _ _ => rfl) dX0_digest_25 (fun H locs hP hD hS => ?_)
  have hP : va_P D vwCl [(q1, .inl (g 0, 12, .inl (upd (fun _ => 0) 0 (ef 0))))] H := hP
  have hD : va_D (fun q => s.heap.size ≤ q) [(q1, .inl (g 0, 12, .inl (upd (fun _ => 0) 0 (ef 0))))] := hD
  refine lv_dup (pc := 26) hx hb dX0_digest_26 rfl ?_
  refine lv_iconst (pc := 27) (v := 1) hx hb dX0_digest_27 (by decide) ?_
  refine lv_aload_n (pc := 28) hx hb dX0_digest_28 rfl (lv_at hl 2 rfl) ?_
  refine va_get (pc := 29) (D := D) (ci := 0) (v := .ref er) (C := RX0) (T := TX0) (N := 4) hx hb hts in_X0 hown hK.1 (ro_at hS hx0 ahx0) 0 rfl rfl 3 (by decide) (hts _ q181) (fun _ h9 => h9) rfl dX0_digest_29 ?_
  refine lv_iconst (pc := 32) (v := 1) hx hb dX0_digest_32 (by decide) ?_
  refine ia_ld (pc := 33) hx hb hK.1 (ro_at hS hx3 ahx3) 0 0 1 rfl rfl (nl 1) (Nat.le_of_ble_eq_true rfl) (Nat.le_of_ble_eq_true rfl) dX0_digest_33 ?_
  refine ia_st (pc := 34) (f' := (upd (upd (fun _ => 0) 0 (ef 0)) 1 (ef 1))) hx hb hK.1 hP hD hS 0 0 1 rfl rfl (nl 1) (Nat.le_of_ble_eq_true rfl) (Nat.le_of_ble_eq_true rfl) (fun _ _ => rfl) dX0_digest_34 (fun H locs hP hD hS => ?_)
  have hP : va_P D vwCl [(q1, .inl (g 0, 12, .inl (upd (upd (fun _ => 0) 0 (ef 0)) 1 (ef 1))))] H := hP
  have hD : va_D (fun q => s.heap.size ≤ q) [(q1, .inl (g 0, 12, .inl (upd (upd (fun _ => 0) 0 (ef 0)) 1 (ef 1))))] := hD
  refine lv_dup (pc := 35) hx hb dX0_digest_35 rfl ?_
  refine lv_iconst (pc := 36) (v := 2) hx hb dX0_digest_36 (by decide) ?_
  refine lv_aload_n (pc := 37) hx hb dX0_digest_37 rfl (lv_at hl 2 rfl) ?_
  refine va_get (pc := 38) (D := D) (ci := 0) (v := .ref er) (C := RX0) (T := TX0) (N := 4) hx hb hts in_X0 hown hK.1 (ro_at hS hx0 ahx0) 0 rfl rfl 3 (by decide) (hts _ q181) (fun _ h9 => h9) rfl dX0_digest_38 ?_
  refine lv_iconst (pc := 41) (v := 2) hx hb dX0_digest_41 (by decide) ?_
  refine ia_ld (pc := 42) hx hb hK.1 (ro_at hS hx3 ahx3) 0 0 2 rfl rfl (nl 2) (Nat.le_of_ble_eq_true rfl) (Nat.le_of_ble_eq_true rfl) dX0_digest_42 ?_
  refine ia_st (pc := 43) (f' := (upd (upd (upd (fun _ => 0) 0 (ef 0)) 1 (ef 1)) 2 (ef 2))) hx hb hK.1 hP hD hS 0 0 2 rfl rfl (nl 2) (Nat.le_of_ble_eq_true rfl) (Nat.le_of_ble_eq_true rfl) (fun _ _ => rfl) dX0_digest_43 (fun H locs hP hD hS => ?_)
  have hP : va_P D vwCl [(q1, .inl (g 0, 12, .inl (upd (upd (upd (fun _ => 0) 0 (ef 0)) 1 (ef 1)) 2 (ef 2))))] H := hP
  have hD : va_D (fun q => s.heap.size ≤ q) [(q1, .inl (g 0, 12, .inl (upd (upd (upd (fun _ => 0) 0 (ef 0)) 1 (ef 1)) 2 (ef 2))))] := hD
  refine lv_dup (pc := 44) hx hb dX0_digest_44 rfl ?_
  refine lv_iconst (pc := 45) (v := 3) hx hb dX0_digest_45 (by decide) ?_
  refine lv_aload_n (pc := 46) hx hb dX0_digest_46 rfl (lv_at hl 2 rfl) ?_
  refine va_get (pc := 47) (D := D) (ci := 0) (v := .ref sv) (C := RX0) (T := TX0) (N := 4) hx hb hts in_X0 hown hK.1 (ro_at hS hx0 ahx0) 0 rfl rfl 1 (by decide) (hts _ q179) (fun _ h9 => h9) rfl dX0_digest_47 ?_
  refine va_getN (pc := 50) (D := D) (ci := 3) (v := .int (nI np)) (C := RX3) (T := TX3) (N := 2) hx hb hts in_X3 hown hK.1 (ro_at hS hx1 ahx1) 0 rfl rfl 1 (by decide) (hK.n nq106) (fun _ h9 => h9) rfl dX0_digest_50 ?_
  refine ia_st (pc := 53) (f' := (upd (upd (upd (upd (fun _ => 0) 0 (ef 0)) 1 (ef 1)) 2 (ef 2)) 3 (nI np))) hx hb hK.1 hP hD hS 0 0 3 rfl rfl (nl 3) (Nat.le_of_ble_eq_true rfl) (Nat.le_of_ble_eq_true rfl) (fun _ _ => rfl) dX0_digest_53 (fun H locs hP hD hS => ?_)
  have hP : va_P D vwCl [(q1, .inl (g 0, 12, .inl (upd (upd (upd (upd (fun _ => 0) 0 (ef 0)) 1 (ef 1)) 2 (ef 2)) 3 (nI np))))] H := hP
  have hD : va_D (fun q => s.heap.size ≤ q) [(q1, .inl (g 0, 12, .inl (upd (upd (upd (upd (fun _ => 0) 0 (ef 0)) 1 (ef 1)) 2 (ef 2)) 3 (nI np))))] := hD
  refine lv_dup (pc := 54) hx hb dX0_digest_54 rfl ?_
  refine lv_iconst (pc := 55) (v := 4) hx hb dX0_digest_55 (by decide) ?_
  refine lv_aload_n (pc := 56) hx hb dX0_digest_56 rfl (lv_at hl 0 rfl) ?_
  refine va_getN (pc := 57) (D := D) (ci := 2) (v := .int (f 0)) (C := RX2) (T := TX2) (N := 8) hx hb hts in_X2 hown hK.1 (ro_at hS hs1 (Nat.not_le.mpr (p_lt hs1))) 0 rfl rfl 0 (by decide) (hK.n nq58) (fun _ h9 => h9) rfl dX0_digest_57 ?_
  refine ia_st (pc := 60) (f' := (upd (upd (upd (upd (upd (fun _ => 0) 0 (ef 0)) 1 (ef 1)) 2 (ef 2)) 3 (nI np)) 4 (f 0))) hx hb hK.1 hP hD hS 0 0 4 rfl rfl (nl 4) (Nat.le_of_ble_eq_true rfl) (Nat.le_of_ble_eq_true rfl) (fun _ _ => rfl) dX0_digest_60 (fun H locs hP hD hS => ?_)
  have hP : va_P D vwCl [(q1, .inl (g 0, 12, .inl (upd (upd (upd (upd (upd (fun _ => 0) 0 (ef 0)) 1 (ef 1)) 2 (ef 2)) 3 (nI np)) 4 (f 0))))] H := hP
  have hD : va_D (fun q => s.heap.size ≤ q) [(q1, .inl (g 0, 12, .inl (upd (upd (upd (upd (upd (fun _ => 0) 0 (ef 0)) 1 (ef 1)) 2 (ef 2)) 3 (nI np)) 4 (f 0))))] := hD
  refine lv_dup (pc := 61) hx hb dX0_digest_61 rfl ?_
  refine lv_iconst (pc := 62) (v := 5) hx hb dX0_digest_62 (by decide) ?_
  refine lv_aload_n (pc := 63) hx hb dX0_digest_63 rfl (lv_at hl 0 rfl) ?_
  refine va_getN (pc := 64) (D := D) (ci := 2) (v := .int (f 1)) (C := RX2) (T := TX2) (N := 8) hx hb hts in_X2 hown hK.1 (ro_at hS hs1 (Nat.not_le.mpr (p_lt hs1))) 0 rfl rfl 1 (by decide) (hK.n nq60) (fun _ h9 => h9) rfl dX0_digest_64 ?_
  refine ia_st (pc := 67) (f' := (upd (upd (upd (upd (upd (upd (fun _ => 0) 0 (ef 0)) 1 (ef 1)) 2 (ef 2)) 3 (nI np)) 4 (f 0)) 5 (f 1))) hx hb hK.1 hP hD hS 0 0 5 rfl rfl (nl 5) (Nat.le_of_ble_eq_true rfl) (Nat.le_of_ble_eq_true rfl) (fun _ _ => rfl) dX0_digest_67 (fun H locs hP hD hS => ?_)
  have hP : va_P D vwCl [(q1, .inl (g 0, 12, .inl (upd (upd (upd (upd (upd (upd (fun _ => 0) 0 (ef 0)) 1 (ef 1)) 2 (ef 2)) 3 (nI np)) 4 (f 0)) 5 (f 1))))] H := hP
  have hD : va_D (fun q => s.heap.size ≤ q) [(q1, .inl (g 0, 12, .inl (upd (upd (upd (upd (upd (upd (fun _ => 0) 0 (ef 0)) 1 (ef 1)) 2 (ef 2)) 3 (nI np)) 4 (f 0)) 5 (f 1))))] := hD
  refine lv_dup (pc := 68) hx hb dX0_digest_68 rfl ?_
  refine lv_bipush (pc := 69) (v := 6) hx hb dX0_digest_69 (by decide) ?_
  refine lv_aload_n (pc := 71) hx hb dX0_digest_71 rfl (lv_at hl 0 rfl) ?_
  refine va_getN (pc := 72) (D := D) (ci := 2) (v := .int (f 2)) (C := RX2) (T := TX2) (N := 8) hx hb hts in_X2 hown hK.1 (ro_at hS hs1 (Nat.not_le.mpr (p_lt hs1))) 0 rfl rfl 2 (by decide) (hK.n nq62) (fun _ h9 => h9) rfl dX0_digest_72 ?_
  refine ia_st (pc := 75) (f' := (upd (upd (upd (upd (upd (upd (upd (fun _ => 0) 0 (ef 0)) 1 (ef 1)) 2 (ef 2)) 3 (nI np)) 4 (f 0)) 5 (f 1)) 6 (f 2))) hx hb hK.1 hP hD hS 0 0 6 rfl rfl (nl 6) (Nat.le_of_ble_eq_true rfl) (Nat.le_of_ble_eq_true rfl) (fun _ _ => rfl) dX0_digest_75 (fun H locs hP hD hS => ?_)
  have hP : va_P D vwCl [(q1, .inl (g 0, 12, .inl (upd (upd (upd (upd (upd (upd (upd (fun _ => 0) 0 (ef 0)) 1 (ef 1)) 2 (ef 2)) 3 (nI np)) 4 (f 0)) 5 (f 1)) 6 (f 2))))] H := hP
  have hD : va_D (fun q => s.heap.size ≤ q) [(q1, .inl (g 0, 12, .inl (upd (upd (upd (upd (upd (upd (upd (fun _ => 0) 0 (ef 0)) 1 (ef 1)) 2 (ef 2)) 3 (nI np)) 4 (f 0)) 5 (f 1)) 6 (f 2))))] := hD
  refine lv_dup (pc := 76) hx hb dX0_digest_76 rfl ?_
  refine lv_bipush (pc := 77) (v := 7) hx hb dX0_digest_77 (by decide) ?_
  refine lv_aload_n (pc := 79) hx hb dX0_digest_79 rfl (lv_at hl 0 rfl) ?_
  refine va_getN (pc := 80) (D := D) (ci := 2) (v := .int (f 3)) (C := RX2) (T := TX2) (N := 8) hx hb hts in_X2 hown hK.1 (ro_at hS hs1 (Nat.not_le.mpr (p_lt hs1))) 0 rfl rfl 3 (by decide) (hK.n nq64) (fun _ h9 => h9) rfl dX0_digest_80 ?_
  refine ia_st (pc := 83) (f' := (upd (upd (upd (upd (upd (upd (upd (upd (fun _ => 0) 0 (ef 0)) 1 (ef 1)) 2 (ef 2)) 3 (nI np)) 4 (f 0)) 5 (f 1)) 6 (f 2)) 7 (f 3))) hx hb hK.1 hP hD hS 0 0 7 rfl rfl (nl 7) (Nat.le_of_ble_eq_true rfl) (Nat.le_of_ble_eq_true rfl) (fun _ _ => rfl) dX0_digest_83 (fun H locs hP hD hS => ?_)
  have hP : va_P D vwCl [(q1, .inl (g 0, 12, .inl (upd (upd (upd (upd (upd (upd (upd (upd (fun _ => 0) 0 (ef 0)) 1 (ef 1)) 2 (ef 2)) 3 (nI np)) 4 (f 0)) 5 (f 1)) 6 (f 2)) 7 (f 3))))] H := hP
  have hD : va_D (fun q => s.heap.size ≤ q) [(q1, .inl (g 0, 12, .inl (upd (upd (upd (upd (upd (upd (upd (upd (fun _ => 0) 0 (ef 0)) 1 (ef 1)) 2 (ef 2)) 3 (nI np)) 4 (f 0)) 5 (f 1)) 6 (f 2)) 7 (f 3))))] := hD
  refine lv_dup (pc := 84) hx hb dX0_digest_84 rfl ?_
  refine lv_bipush (pc := 85) (v := 8) hx hb dX0_digest_85 (by decide) ?_
  refine lv_aload_n (pc := 87) hx hb dX0_digest_87 rfl (lv_at hl 0 rfl) ?_
  refine va_getN (pc := 88) (D := D) (ci := 2) (v := .int (f 4)) (C := RX2) (T := TX2) (N := 8) hx hb hts in_X2 hown hK.1 (ro_at hS hs1 (Nat.not_le.mpr (p_lt hs1))) 0 rfl rfl 4 (by decide) (hK.n nq66) (fun _ h9 => h9) rfl dX0_digest_88 ?_
  refine ia_st (pc := 91) (f' := (upd (upd (upd (upd (upd (upd (upd (upd (upd (fun _ => 0) 0 (ef 0)) 1 (ef 1)) 2 (ef 2)) 3 (nI np)) 4 (f 0)) 5 (f 1)) 6 (f 2)) 7 (f 3)) 8 (f 4))) hx hb hK.1 hP hD hS 0 0 8 rfl rfl (nl 8) (Nat.le_of_ble_eq_true rfl) (Nat.le_of_ble_eq_true rfl) (fun _ _ => rfl) dX0_digest_91 (fun H locs hP hD hS => ?_)
  have hP : va_P D vwCl [(q1, .inl (g 0, 12, .inl (upd (upd (upd (upd (upd (upd (upd (upd (upd (fun _ => 0) 0 (ef 0)) 1 (ef 1)) 2 (ef 2)) 3 (nI np)) 4 (f 0)) 5 (f 1)) 6 (f 2)) 7 (f 3)) 8 (f 4))))] H := hP
  have hD : va_D (fun q => s.heap.size ≤ q) [(q1, .inl (g 0, 12, .inl (upd (upd (upd (upd (upd (upd (upd (upd (upd (fun _ => 0) 0 (ef 0)) 1 (ef 1)) 2 (ef 2)) 3 (nI np)) 4 (f 0)) 5 (f 1)) 6 (f 2)) 7 (f 3)) 8 (f 4))))] := hD
  refine lv_dup (pc := 92) hx hb dX0_digest_92 rfl ?_
  refine lv_bipush (pc := 93) (v := 9) hx hb dX0_digest_93 (by decide) ?_
  refine lv_aload_n (pc := 95) hx hb dX0_digest_95 rfl (lv_at hl 1 rfl) ?_
  refine va_getN (pc := 96) (D := D) (ci := 1) (v := .int (f 5)) (C := RX1) (T := TX1) (N := 9) hx hb hts in_X1 hown hK.1 (ro_at hS hs0 (Nat.not_le.mpr (p_lt hs0))) 0 rfl rfl 1 (by decide) (hK.n nq134) (fun _ h9 => h9) rfl dX0_digest_96 ?_
  refine ia_st (pc := 99) (f' := (upd (upd (upd (upd (upd (upd (upd (upd (upd (upd (fun _ => 0) 0 (ef 0)) 1 (ef 1)) 2 (ef 2)) 3 (nI np)) 4 (f 0)) 5 (f 1)) 6 (f 2)) 7 (f 3)) 8 (f 4)) 9 (f 5))) hx hb hK.1 hP hD hS 0 0 9 rfl rfl (nl 9) (Nat.le_of_ble_eq_true rfl) (Nat.le_of_ble_eq_true rfl) (fun _ _ => rfl) dX0_digest_99 (fun H locs hP hD hS => ?_)
  have hP : va_P D vwCl [(q1, .inl (g 0, 12, .inl (upd (upd (upd (upd (upd (upd (upd (upd (upd (upd (fun _ => 0) 0 (ef 0)) 1 (ef 1)) 2 (ef 2)) 3 (nI np)) 4 (f 0)) 5 (f 1)) 6 (f 2)) 7 (f 3)) 8 (f 4)) 9 (f 5))))] H := hP
  have hD : va_D (fun q => s.heap.size ≤ q) [(q1, .inl (g 0, 12, .inl (upd (upd (upd (upd (upd (upd (upd (upd (upd (upd (fun _ => 0) 0 (ef 0)) 1 (ef 1)) 2 (ef 2)) 3 (nI np)) 4 (f 0)) 5 (f 1)) 6 (f 2)) 7 (f 3)) 8 (f 4)) 9 (f 5))))] := hD
  refine lv_dup (pc := 100) hx hb dX0_digest_100 rfl ?_
  refine lv_bipush (pc := 101) (v := 10) hx hb dX0_digest_101 (by decide) ?_
  refine lv_aload_n (pc := 103) hx hb dX0_digest_103 rfl (lv_at hl 1 rfl) ?_
  refine va_getN (pc := 104) (D := D) (ci := 1) (v := .int (f 6)) (C := RX1) (T := TX1) (N := 9) hx hb hts in_X1 hown hK.1 (ro_at hS hs0 (Nat.not_le.mpr (p_lt hs0))) 0 rfl rfl 2 (by decide) (hK.n nq136) (fun _ h9 => h9) rfl dX0_digest_104 ?_
  refine ia_st (pc := 107) (f' := (upd (upd (upd (upd (upd (upd (upd (upd (upd (upd (upd (fun _ => 0) 0 (ef 0)) 1 (ef 1)) 2 (ef 2)) 3 (nI np)) 4 (f 0)) 5 (f 1)) 6 (f 2)) 7 (f 3)) 8 (f 4)) 9 (f 5)) 10 (f 6))) hx hb hK.1 hP hD hS 0 0 10 rfl rfl (nl 10) (Nat.le_of_ble_eq_true rfl) (Nat.le_of_ble_eq_true rfl) (fun _ _ => rfl) dX0_digest_107 (fun H locs hP hD hS => ?_)
  have hP : va_P D vwCl [(q1, .inl (g 0, 12, .inl (upd (upd (upd (upd (upd (upd (upd (upd (upd (upd (upd (fun _ => 0) 0 (ef 0)) 1 (ef 1)) 2 (ef 2)) 3 (nI np)) 4 (f 0)) 5 (f 1)) 6 (f 2)) 7 (f 3)) 8 (f 4)) 9 (f 5)) 10 (f 6))))] H := hP
  have hD : va_D (fun q => s.heap.size ≤ q) [(q1, .inl (g 0, 12, .inl (upd (upd (upd (upd (upd (upd (upd (upd (upd (upd (upd (fun _ => 0) 0 (ef 0)) 1 (ef 1)) 2 (ef 2)) 3 (nI np)) 4 (f 0)) 5 (f 1)) 6 (f 2)) 7 (f 3)) 8 (f 4)) 9 (f 5)) 10 (f 6))))] := hD
  refine lv_dup (pc := 108) hx hb dX0_digest_108 rfl ?_
  refine lv_bipush (pc := 109) (v := 11) hx hb dX0_digest_109 (by decide) ?_
  refine lv_aload_n (pc := 111) hx hb dX0_digest_111 rfl (lv_at hl 1 rfl) ?_
  refine va_getN (pc := 112) (D := D) (ci := 1) (v := .int (f 7)) (C := RX1) (T := TX1) (N := 9) hx hb hts in_X1 hown hK.1 (ro_at hS hs0 (Nat.not_le.mpr (p_lt hs0))) 0 rfl rfl 4 (by decide) (hK.n nq140) (fun _ h9 => h9) rfl dX0_digest_112 ?_
  refine ia_st (pc := 115) (f' := (v12 ef np f)) hx hb hK.1 hP hD hS 0 0 11 rfl rfl (nl 11) (Nat.le_of_ble_eq_true rfl) (Nat.le_of_ble_eq_true rfl) (j12 rfl rfl rfl rfl rfl rfl rfl rfl rfl rfl rfl rfl) dX0_digest_115 (fun H locs hP hD hS => ?_)
  have hP : va_P D vwCl [(q1, .inl (g 0, 12, .inl (v12 ef np f)))] H := hP
  have hD : va_D (fun q => s.heap.size ≤ q) [(q1, .inl (g 0, 12, .inl (v12 ef np f)))] := hD
  refine kLp (pc := 116) (va_runS (As := [.long 12254, .ref q1]) (rest := []) ⟨hx, hb, hml, hown, hts⟩ (m0_add l 12254 q1 12 (v12 ef np f) H (hP.sub (ws' := [(q1, .inl (g 0, 12, .inl (v12 ef np f)))]) [0] rfl) (by decide)) (va_cwS 2 hts (lw_S q557 q558 q21 q559) rfl rfl rfl (by decide +kernel) ⟨Nat.le_of_ble_eq_true rfl, Nat.le_of_ble_eq_true rfl⟩) (preS hK) rfl rfl hl.1 rfl (lv_room (Nat.le_of_ble_eq_true rfl)) dX0_digest_116 ⟨Nat.le_of_ble_eq_true rfl, Nat.le_of_ble_eq_true rfl⟩) (fun r2 hr2 => ?_)
  refine lv_lstore_n (pc := 119) (lv' := [(3, .long r2), (2, .ref qe), (1, .ref cur), (0, .ref xo)]) hx hb dX0_digest_119 rfl hl (by decide) rfl (fun ls hl => ?_)
  refine lv_aload_n (pc := 120) hx hb dX0_digest_120 rfl (lv_at hl 2 rfl) ?_
  refine va_getN (pc := 121) (D := D) (ci := 1) (v := .ref qs) (C := RX1) (T := TX1) (N := 9) hx hb hts in_X1 hown hK.1 (ro_at hS hs0 (Nat.not_le.mpr (p_lt hs0))) 0 rfl rfl 3 (by decide) (hK.n nq138) (fun _ h9 => h9) rfl dX0_digest_121 ?_
  refine lv_astore (pc := 124) (lv' := [(5, .ref qs), (3, .long r2), (2, .ref qe), (1, .ref cur), (0, .ref xo)]) hx hb dX0_digest_124 hl (by decide) rfl (fun ls hl => ?_)
  refine lv_aload (pc := 126) hx hb dX0_digest_126 (lv_at hl 0 rfl) ?_
  refine va_alen (pc := 128) (v := 4) hx hb hK.1 (ro_at hS hs2 (Nat.not_le.mpr (p_lt hs2))) 0 4 rfl rfl rfl dX0_digest_128 ?_
  refine lv_istore (pc := 129) (lv' := [(6, .int 4), (5, .ref qs), (3, .long r2), (2, .ref qe), (1, .ref cur), (0, .ref xo)]) hx hb dX0_digest_129 hl (by decide) rfl (fun ls hl => ?_)
  refine lv_iconst (pc := 131) (v := 0) hx hb dX0_digest_131 (by decide) ?_
  refine lv_istore (pc := 132) (lv' := [(7, .int 0), (6, .int 4), (5, .ref qs), (3, .long r2), (2, .ref qe), (1, .ref cur), (0, .ref xo)]) hx hb dX0_digest_132 hl (by decide) rfl (fun ls hl => ?_)
  have loop : ∀ (n : Nat) (i : Nat) (h1 : Int64), (i ≤ 4) → (5 ≤ i + n) → (h1 = dgS f (hsh 12254 (v12 ef np f) 12) i) → ∀ (H : Heap) (locs : List Loc), va_P D vwCl [] H → va_D (fun q => s.heap.size ≤ q) [] → va_S (fun q => s.heap.size ≤ q) s.heap H locs → ∀ (ls : Array Slot), lv_has ls 9 [(0, .ref xo), (1, .ref cur), (2, .ref qe), (3, .long h1), (5, .ref qs), (6, .int 4), (7, .int (nI i))] → W p l e (headSpec (ws_ yX0_digest cX0_digest 9 (some .long)) rm_m0_digest).room s m ([.ref xo] : List Value).toArray below meth c H locs (1 + i) (12 + 2 * i) (MQ below (QL (fun r H1 => r = dgV ef np f (ln f)) (fun q => s.heap.size ≤ q)) ([.ref xo] : List Value).toArray s 30 75 (fun q => s.heap.size ≤ q)) (F0 m 134 ls []) := by
    intro n
    induction n with
    | zero =>
      intro i h1 hi hfu hh1
      exact absurd (show _ by assumption) (by omega)
    | succ n ih =>
      intro i h1 hi hfu hh1 H locs hP hD hS ls hl
      refine lv_iload (pc := 134) hx hb dX0_digest_134 (lv_at hl 6 rfl) ?_
      refine lv_iload (pc := 136) hx hb dX0_digest_136 (lv_at hl 5 rfl) ?_
      refine lv_icmp_ge (pc := 138) (tgt := 178) hx hb dX0_digest_138 (by decide) (fun cd3 => ?_) (fun cd3 => ?_)
      · have ncd3 : 4 ≤ i := (nle (nl 4) rfl (by omega) (by omega)).mp cd3
        refine lv_lload_n (pc := 178) hx hb dX0_digest_178 rfl (lv_at hl 3 rfl) ?_
        refine lv_bipush (pc := 179) (v := 7) hx hb dX0_digest_179 (by decide) ?_
        refine va_newa (pc := 181) (atype := .int) (ty := .int) (N' := 7) (a0 := (7, .inl (fun _ => 0))) hx hb (hts _ q191) rfl hK.1 hP hD hS hA (fun _ => rfl) (by decide) (by decide) (by decide) (show 1 + i + 1 ≤ 30 by omega) (show 12 + 2 * i + 7 ≤ 75 by omega) dX0_digest_181 (fun q4 cA H hK9 hP hD hS => ?_)
        have hcA : cA = g 0 := ra_int (hK9.2 5 _ rfl).2 (hK.1.2 0 _ rfl).2
        subst hcA
        have hP : va_P D vwCl [(q4, .inl (g 0, 7, .inl (fun _ => 0)))] H := hP
        have hD : va_D (fun q => s.heap.size ≤ q) [(q4, .inl (g 0, 7, .inl (fun _ => 0)))] := hD
        refine lv_dup (pc := 183) hx hb dX0_digest_183 rfl ?_
        refine lv_iconst (pc := 184) (v := 0) hx hb dX0_digest_184 (by decide) ?_
        refine lv_aload_n (pc := 185) hx hb dX0_digest_185 rfl (lv_at hl 2 rfl) ?_
        refine va_getN (pc := 186) (D := D) (ci := 2) (v := .int (f 16)) (C := RX2) (T := TX2) (N := 8) hx hb hts in_X2 hown hK.1 (ro_at hS hs1 (Nat.not_le.mpr (p_lt hs1))) 0 rfl rfl 5 (by decide) (hK.n nq69) (fun _ h9 => h9) rfl dX0_digest_186 ?_
        refine ia_st (pc := 189) (f' := (upd (fun _ => 0) 0 (f 16))) hx hb hK.1 hP hD hS 0 0 0 rfl rfl (nl 0) (Nat.le_of_ble_eq_true rfl) (Nat.le_of_ble_eq_true rfl) (fun _ _ => rfl) dX0_digest_189 (fun H locs hP hD hS => ?_)
        have hP : va_P D vwCl [(q4, .inl (g 0, 7, .inl (upd (fun _ => 0) 0 (f 16))))] H := hP
        have hD : va_D (fun q => s.heap.size ≤ q) [(q4, .inl (g 0, 7, .inl (upd (fun _ => 0) 0 (f 16))))] := hD
        refine lv_dup (pc := 190) hx hb dX0_digest_190 rfl ?_
        refine lv_iconst (pc := 191) (v := 1) hx hb dX0_digest_191 (by decide) ?_
        refine lv_aload_n (pc := 192) hx hb dX0_digest_192 rfl (lv_at hl 2 rfl) ?_
        refine va_getN (pc := 193) (D := D) (ci := 2) (v := .int (f 17)) (C := RX2) (T := TX2) (N := 8) hx hb hts in_X2 hown hK.1 (ro_at hS hs1 (Nat.not_le.mpr (p_lt hs1))) 0 rfl rfl 6 (by decide) (hK.n nq72) (fun _ h9 => h9) rfl dX0_digest_193 ?_
        refine ia_st (pc := 196) (f' := (upd (upd (fun _ => 0) 0 (f 16)) 1 (f 17))) hx hb hK.1 hP hD hS 0 0 1 rfl rfl (nl 1) (Nat.le_of_ble_eq_true rfl) (Nat.le_of_ble_eq_true rfl) (fun _ _ => rfl) dX0_digest_196 (fun H locs hP hD hS => ?_)
        have hP : va_P D vwCl [(q4, .inl (g 0, 7, .inl (upd (upd (fun _ => 0) 0 (f 16)) 1 (f 17))))] H := hP
        have hD : va_D (fun q => s.heap.size ≤ q) [(q4, .inl (g 0, 7, .inl (upd (upd (fun _ => 0) 0 (f 16)) 1 (f 17))))] := hD
        refine lv_dup (pc := 197) hx hb dX0_digest_197 rfl ?_
        refine lv_iconst (pc := 198) (v := 2) hx hb dX0_digest_198 (by decide) ?_
        refine lv_aload_n (pc := 199) hx hb dX0_digest_199 rfl (lv_at hl 2 rfl) ?_
        refine va_getN (pc := 200) (D := D) (ci := 2) (v := .int (f 18)) (C := RX2) (T := TX2) (N := 8) hx hb hts in_X2 hown hK.1 (ro_at hS hs1 (Nat.not_le.mpr (p_lt hs1))) 0 rfl rfl 7 (by decide) (hK.n nq75) (fun _ h9 => h9) rfl dX0_digest_200 ?_
        refine ia_st (pc := 203) (f' := (upd (upd (upd (fun _ => 0) 0 (f 16)) 1 (f 17)) 2 (f 18))) hx hb hK.1 hP hD hS 0 0 2 rfl rfl (nl 2) (Nat.le_of_ble_eq_true rfl) (Nat.le_of_ble_eq_true rfl) (fun _ _ => rfl) dX0_digest_203 (fun H locs hP hD hS => ?_)
        have hP : va_P D vwCl [(q4, .inl (g 0, 7, .inl (upd (upd (upd (fun _ => 0) 0 (f 16)) 1 (f 17)) 2 (f 18))))] H := hP
        have hD : va_D (fun q => s.heap.size ≤ q) [(q4, .inl (g 0, 7, .inl (upd (upd (upd (fun _ => 0) 0 (f 16)) 1 (f 17)) 2 (f 18))))] := hD
        refine lv_dup (pc := 204) hx hb dX0_digest_204 rfl ?_
        refine lv_iconst (pc := 205) (v := 3) hx hb dX0_digest_205 (by decide) ?_
        refine lv_aload_n (pc := 206) hx hb dX0_digest_206 rfl (lv_at hl 1 rfl) ?_
        refine va_getN (pc := 207) (D := D) (ci := 1) (v := .int (f 19)) (C := RX1) (T := TX1) (N := 9) hx hb hts in_X1 hown hK.1 (ro_at hS hs0 (Nat.not_le.mpr (p_lt hs0))) 0 rfl rfl 6 (by decide) (hK.n nq144) (fun _ h9 => h9) rfl dX0_digest_207 ?_
        refine ia_st (pc := 210) (f' := (upd (upd (upd (upd (fun _ => 0) 0 (f 16)) 1 (f 17)) 2 (f 18)) 3 (f 19))) hx hb hK.1 hP hD hS 0 0 3 rfl rfl (nl 3) (Nat.le_of_ble_eq_true rfl) (Nat.le_of_ble_eq_true rfl) (fun _ _ => rfl) dX0_digest_210 (fun H locs hP hD hS => ?_)
        have hP : va_P D vwCl [(q4, .inl (g 0, 7, .inl (upd (upd (upd (upd (fun _ => 0) 0 (f 16)) 1 (f 17)) 2 (f 18)) 3 (f 19))))] H := hP
        have hD : va_D (fun q => s.heap.size ≤ q) [(q4, .inl (g 0, 7, .inl (upd (upd (upd (upd (fun _ => 0) 0 (f 16)) 1 (f 17)) 2 (f 18)) 3 (f 19))))] := hD
        refine lv_dup (pc := 211) hx hb dX0_digest_211 rfl ?_
        refine lv_iconst (pc := 212) (v := 4) hx hb dX0_digest_212 (by decide) ?_
        refine lv_aload_n (pc := 213) hx hb dX0_digest_213 rfl (lv_at hl 1 rfl) ?_
        refine va_getN (pc := 214) (D := D) (ci := 1) (v := .int (f 20)) (C := RX1) (T := TX1) (N := 9) hx hb hts in_X1 hown hK.1 (ro_at hS hs0 (Nat.not_le.mpr (p_lt hs0))) 0 rfl rfl 7 (by decide) (hK.n nq146) (fun _ h9 => h9) rfl dX0_digest_214 ?_
        refine ia_st (pc := 217) (f' := (upd (upd (upd (upd (upd (fun _ => 0) 0 (f 16)) 1 (f 17)) 2 (f 18)) 3 (f 19)) 4 (f 20))) hx hb hK.1 hP hD hS 0 0 4 rfl rfl (nl 4) (Nat.le_of_ble_eq_true rfl) (Nat.le_of_ble_eq_true rfl) (fun _ _ => rfl) dX0_digest_217 (fun H locs hP hD hS => ?_)
        have hP : va_P D vwCl [(q4, .inl (g 0, 7, .inl (upd (upd (upd (upd (upd (fun _ => 0) 0 (f 16)) 1 (f 17)) 2 (f 18)) 3 (f 19)) 4 (f 20))))] H := hP
        have hD : va_D (fun q => s.heap.size ≤ q) [(q4, .inl (g 0, 7, .inl (upd (upd (upd (upd (upd (fun _ => 0) 0 (f 16)) 1 (f 17)) 2 (f 18)) 3 (f 19)) 4 (f 20))))] := hD
        refine lv_dup (pc := 218) hx hb dX0_digest_218 rfl ?_
        refine lv_iconst (pc := 219) (v := 5) hx hb dX0_digest_219 (by decide) ?_
        refine lv_aload_n (pc := 220) hx hb dX0_digest_220 rfl (lv_at hl 1 rfl) ?_
        refine va_getN (pc := 221) (D := D) (ci := 1) (v := .int (f 21)) (C := RX1) (T := TX1) (N := 9) hx hb hts in_X1 hown hK.1 (ro_at hS hs0 (Nat.not_le.mpr (p_lt hs0))) 0 rfl rfl 8 (by decide) (hK.n nq148) (fun _ h9 => h9) rfl dX0_digest_221 ?_
        refine ia_st (pc := 224) (f' := (upd (upd (upd (upd (upd (upd (fun _ => 0) 0 (f 16)) 1 (f 17)) 2 (f 18)) 3 (f 19)) 4 (f 20)) 5 (f 21))) hx hb hK.1 hP hD hS 0 0 5 rfl rfl (nl 5) (Nat.le_of_ble_eq_true rfl) (Nat.le_of_ble_eq_true rfl) (fun _ _ => rfl) dX0_digest_224 (fun H locs hP hD hS => ?_)
        have hP : va_P D vwCl [(q4, .inl (g 0, 7, .inl (upd (upd (upd (upd (upd (upd (fun _ => 0) 0 (f 16)) 1 (f 17)) 2 (f 18)) 3 (f 19)) 4 (f 20)) 5 (f 21))))] H := hP
        have hD : va_D (fun q => s.heap.size ≤ q) [(q4, .inl (g 0, 7, .inl (upd (upd (upd (upd (upd (upd (fun _ => 0) 0 (f 16)) 1 (f 17)) 2 (f 18)) 3 (f 19)) 4 (f 20)) 5 (f 21))))] := hD
        refine lv_dup (pc := 225) hx hb dX0_digest_225 rfl ?_
        refine lv_bipush (pc := 226) (v := 6) hx hb dX0_digest_226 (by decide) ?_
        refine lv_aload_n (pc := 228) hx hb dX0_digest_228 rfl (lv_at hl 1 rfl) ?_
        refine va_getN (pc := 229) (D := D) (ci := 1) (v := .ref qh) (C := RX1) (T := TX1) (N := 9) hx hb hts in_X1 hown hK.1 (ro_at hS hs0 (Nat.not_le.mpr (p_lt hs0))) 0 rfl rfl 5 (by decide) (hK.n nq142) (fun _ h9 => h9) rfl dX0_digest_229 ?_
        refine va_getN (pc := 232) (D := D) (ci := 3) (v := .int (nI k)) (C := RX3) (T := TX3) (N := 2) hx hb hts in_X3 hown hK.1 (ro_at hS hs3 (Nat.not_le.mpr (p_lt hs3))) 0 rfl rfl 1 (by decide) (hK.n nq106) (fun _ h9 => h9) rfl dX0_digest_232 ?_
        refine ia_st (pc := 235) (f' := (fun j => f (16 + j))) hx hb hK.1 hP hD hS 0 0 6 rfl rfl (nl 6) (Nat.le_of_ble_eq_true rfl) (Nat.le_of_ble_eq_true rfl) (j7 rfl rfl rfl rfl rfl rfl hkf.symm) dX0_digest_235 (fun H locs hP hD hS => ?_)
        have hP : va_P D vwCl [(q4, .inl (g 0, 7, .inl (fun j => f (16 + j))))] H := hP
        have hD : va_D (fun q => s.heap.size ≤ q) [(q4, .inl (g 0, 7, .inl (fun j => f (16 + j))))] := hD
        refine kLp (pc := 236) (va_runS (As := [.long h1, .ref q4]) (rest := []) ⟨hx, hb, hml, hown, hts⟩ (m0_add l h1 q4 7 (fun j => f (16 + j)) H (hP.sub (ws' := [(q4, .inl (g 0, 7, .inl (fun j => f (16 + j))))]) [0] rfl) (by decide)) (va_cwS 2 hts (lw_S q557 q558 q21 q559) rfl rfl rfl (by decide +kernel) ⟨Nat.le_of_ble_eq_true rfl, Nat.le_of_ble_eq_true rfl⟩) (preS hK) rfl rfl hl.1 rfl (lv_room (Nat.le_of_ble_eq_true rfl)) dX0_digest_236 ⟨show 1 + i + 1 + 0 ≤ 30 by omega, show 12 + 2 * i + 7 + 0 ≤ 75 by omega⟩) (fun r5 hr5 => ?_)
        refine lv_lstore_n (pc := 239) (lv' := [(3, .long r5), (0, .ref xo), (1, .ref cur), (2, .ref qe), (5, .ref qs), (6, .int 4), (7, .int (nI i))]) hx hb dX0_digest_239 rfl hl (by decide) rfl (fun ls hl => ?_)
        refine lv_iconst (pc := 240) (v := 0) hx hb dX0_digest_240 (by decide) ?_
        refine lv_istore (pc := 241) (lv' := [(5, .int 0), (3, .long r5), (0, .ref xo), (1, .ref cur), (2, .ref qe), (6, .int 4), (7, .int (nI i))]) hx hb dX0_digest_241 hl (by decide) rfl (fun ls hl => ?_)
        have loop2 : ∀ (n : Nat) (j : Nat) (h2 : Int64), (j ≤ k) → (k + 1 ≤ j + n) → (h2 = dgE f (hsh (dgS f (hsh 12254 (v12 ef np f) 12) 4) (fun j => f (16 + j)) 7) j) → ∀ (H : Heap) (locs : List Loc), va_P D vwCl [] H → va_D (fun q => s.heap.size ≤ q) [] → va_S (fun q => s.heap.size ≤ q) s.heap H locs → ∀ (ls : Array Slot), lv_has ls 9 [(0, .ref xo), (1, .ref cur), (3, .long h2), (5, .int (nI j))] → W p l e (headSpec (ws_ yX0_digest cX0_digest 9 (some .long)) rm_m0_digest).room s m ([.ref xo] : List Value).toArray below meth c H locs (6 + j) (27 + 2 * j) (MQ below (QL (fun r H1 => r = dgV ef np f (ln f)) (fun q => s.heap.size ≤ q)) ([.ref xo] : List Value).toArray s 30 75 (fun q => s.heap.size ≤ q)) (F0 m 243 ls []) := by
          intro n
          induction n with
          | zero =>
            intro j h2 hj hfu2 hh2
            exact absurd (show _ by assumption) (by omega)
          | succ n ih =>
            intro j h2 hj hfu2 hh2 H locs hP hD hS ls hl
            refine lv_iload (pc := 243) hx hb dX0_digest_243 (lv_at hl 3 rfl) ?_
            refine lv_aload_n (pc := 245) hx hb dX0_digest_245 rfl (lv_at hl 1 rfl) ?_
            refine va_getN (pc := 246) (D := D) (ci := 1) (v := .ref qh) (C := RX1) (T := TX1) (N := 9) hx hb hts in_X1 hown hK.1 (ro_at hS hs0 (Nat.not_le.mpr (p_lt hs0))) 0 rfl rfl 5 (by decide) (hK.n nq142) (fun _ h9 => h9) rfl dX0_digest_246 ?_
            refine va_getN (pc := 249) (D := D) (ci := 3) (v := .int (nI k)) (C := RX3) (T := TX3) (N := 2) hx hb hts in_X3 hown hK.1 (ro_at hS hs3 (Nat.not_le.mpr (p_lt hs3))) 0 rfl rfl 1 (by decide) (hK.n nq106) (fun _ h9 => h9) rfl dX0_digest_249 ?_
            refine lv_icmp_ge (pc := 252) (tgt := 311) hx hb dX0_digest_252 (by decide) (fun cd6 => ?_) (fun cd6 => ?_)
            · have ncd6 : k ≤ j := (nle rfl rfl (by omega) (by omega)).mp cd6
              refine lv_lload_n (pc := 311) hx hb dX0_digest_311 rfl (lv_at hl 2 rfl) ?_
              refine W.widen (k := 30) (n := 75) (by omega) (by omega) ?_
              have hq9 : (fun r H1 => r = dgV ef np f (ln f) : Int64 → Heap → Prop) h2 H := by rw [hh2, show j = k by omega, ← ln_of hkf hk]; rfl
              exact W.lret (v := h2) hx hb hr (fun t ht hW => ⟨⟨_, rfl, by rw [ht]; exact hq9⟩, hS.F ht⟩) hS.2.2 dX0_digest_312
            · have ncd6 : ¬ k ≤ j := fun h => cd6 ((nle rfl rfl (by omega) (by omega)).mpr h)
              obtain ⟨y, a, hy, _, hfa, hyE⟩ := hev j (by omega)
              refine lv_aload_n (pc := 255) hx hb dX0_digest_255 rfl (lv_at hl 1 rfl) ?_
              refine va_getN (pc := 256) (D := D) (ci := 1) (v := .ref qh) (C := RX1) (T := TX1) (N := 9) hx hb hts in_X1 hown hK.1 (ro_at hS hs0 (Nat.not_le.mpr (p_lt hs0))) 0 rfl rfl 5 (by decide) (hK.n nq142) (fun _ h9 => h9) rfl dX0_digest_256 ?_
              refine lv_iload (pc := 259) hx hb dX0_digest_259 (lv_at hl 3 rfl) ?_
              refine kRp (pc := 261) (va_runV (As := [.int (nI j)]) (rest := []) ⟨hx, hb, hml, hown, hts⟩ (m3_getE l qh qa j y (nI k) ge H (ro_at hS hs3 (Nat.not_le.mpr (p_lt hs3))) (ro_at hS hs4 (Nat.not_le.mpr (p_lt hs4))) (by omega) hy) (cwV 1 hts (lw_V q561 q522 q523 q24 q524) rfl rfl rfl (by decide +kernel) ⟨Nat.le_of_ble_eq_true rfl, Nat.le_of_ble_eq_true rfl⟩) (preV hK (rcv hK (ro_at hS hs3 (Nat.not_le.mpr (p_lt hs3))) 0 rfl rfl)) rfl rfl hl.1 rfl (lv_room (Nat.le_of_ble_eq_true rfl)) dX0_digest_261 ⟨show 6 + j + 0 ≤ 30 by omega, show 27 + 2 * j + 0 ≤ 75 by omega⟩) (fun r7 hr7 => ?_)
              rw [hr7]
              refine va_castS (pc := 264) hx hb hown (hts _ q342) (hK.1.1 8 _ rfl).2 (rcv hK (ro_at hS hyE (Nat.not_le.mpr (p_lt hyE))) 0 rfl rfl) dX0_digest_264 ?_
              refine lv_astore (pc := 267) (lv' := [(6, .ref y), (0, .ref xo), (1, .ref cur), (3, .long h2), (5, .int (nI j))]) hx hb dX0_digest_267 hl (by decide) rfl (fun ls hl => ?_)
              refine lv_lload_n (pc := 269) hx hb dX0_digest_269 rfl (lv_at hl 3 rfl) ?_
              refine lv_iconst (pc := 270) (v := 2) hx hb dX0_digest_270 (by decide) ?_
              refine va_newa (pc := 271) (atype := .int) (ty := .int) (N' := 2) (a0 := (2, .inl (fun _ => 0))) hx hb (hts _ q191) rfl hK.1 hP hD hS hA (fun _ => rfl) (by decide) (by decide) (by decide) (show 6 + j + 1 ≤ 30 by omega) (show 27 + 2 * j + 2 ≤ 75 by omega) dX0_digest_271 (fun q8 cA H hK9 hP hD hS => ?_)
              have hcA : cA = g 0 := ra_int (hK9.2 5 _ rfl).2 (hK.1.2 0 _ rfl).2
              subst hcA
              have hP : va_P D vwCl [(q8, .inl (g 0, 2, .inl (fun _ => 0)))] H := hP
              have hD : va_D (fun q => s.heap.size ≤ q) [(q8, .inl (g 0, 2, .inl (fun _ => 0)))] := hD
              refine lv_dup (pc := 273) hx hb dX0_digest_273 rfl ?_
              refine lv_iconst (pc := 274) (v := 0) hx hb dX0_digest_274 (by decide) ?_
              refine lv_aload (pc := 275) hx hb dX0_digest_275 (lv_at hl 0 rfl) ?_
              refine kIp (pc := 277) (va_runV (As := []) (rest := [.int 0, .ref q8, .ref q8, .long h2]) ⟨hx, hb, hml, hown, hts⟩ (m8_isReading l y a (f (24 + 2 * j)) H (ro_at hS hyE (Nat.not_le.mpr (p_lt hyE)))) (cwV 0 hts (lw_V q562 q509 q510 q34 q511) rfl rfl rfl (by decide +kernel) ⟨Nat.le_of_ble_eq_true rfl, Nat.le_of_ble_eq_true rfl⟩) (preV hK (rcv hK (ro_at hS hyE (Nat.not_le.mpr (p_lt hyE))) 0 rfl rfl)) rfl rfl hl.1 rfl (lv_room (Nat.le_of_ble_eq_true rfl)) dX0_digest_277 ⟨show 6 + j + 1 + 0 ≤ 30 by omega, show 27 + 2 * j + 2 + 0 ≤ 75 by omega⟩) (fun r9 hr9 => ?_)
              refine lv_if_eq (pc := 280) (tgt := 291) hx hb dX0_digest_280 (by decide) (fun cd10 => ?_) (fun cd10 => ?_)
              · refine lv_iconst (pc := 291) (v := (-1)) hx hb dX0_digest_291 (by decide) ?_
                refine ia_st (pc := 292) (f' := (upd (fun _ => 0) 0 (-1))) hx hb hK.1 hP hD hS 0 0 0 rfl rfl (nl 0) (Nat.le_of_ble_eq_true rfl) (Nat.le_of_ble_eq_true rfl) (fun _ _ => rfl) dX0_digest_292 (fun H locs hP hD hS => ?_)
                have hP : va_P D vwCl [(q8, .inl (g 0, 2, .inl (upd (fun _ => 0) 0 (-1))))] H := hP
                have hD : va_D (fun q => s.heap.size ≤ q) [(q8, .inl (g 0, 2, .inl (upd (fun _ => 0) 0 (-1))))] := hD
                refine lv_dup (pc := 293) hx hb dX0_digest_293 rfl ?_
                refine lv_iconst (pc := 294) (v := 1) hx hb dX0_digest_294 (by decide) ?_
                refine lv_aload (pc := 295) hx hb dX0_digest_295 (lv_at hl 0 rfl) ?_
                refine va_getN (pc := 297) (D := D) (ci := 8) (v := .int (f (24 + 2 * j))) (C := RX8) (T := TX8) (N := 2) hx hb hts in_X8 hown hK.1 (ro_at hS hyE (Nat.not_le.mpr (p_lt hyE))) 0 rfl rfl 1 (by decide) (hK.n nq354) (fun _ h9 => h9) rfl dX0_digest_297 ?_
                refine ia_st (pc := 300) (f' := (v2 (f (23 + 2 * j)) (f (24 + 2 * j)))) hx hb hK.1 hP hD hS 0 0 1 rfl rfl (nl 1) (Nat.le_of_ble_eq_true rfl) (Nat.le_of_ble_eq_true rfl) (j2 ((hfa.trans (evw_neg (bI_eq (hr9.symm.trans cd10)))).symm) rfl) dX0_digest_300 (fun H locs hP hD hS => ?_)
                have hP : va_P D vwCl [(q8, .inl (g 0, 2, .inl (v2 (f (23 + 2 * j)) (f (24 + 2 * j)))))] H := hP
                have hD : va_D (fun q => s.heap.size ≤ q) [(q8, .inl (g 0, 2, .inl (v2 (f (23 + 2 * j)) (f (24 + 2 * j)))))] := hD
                refine kLp (pc := 301) (va_runS (As := [.long h2, .ref q8]) (rest := []) ⟨hx, hb, hml, hown, hts⟩ (m0_add l h2 q8 2 (v2 (f (23 + 2 * j)) (f (24 + 2 * j))) H (hP.sub (ws' := [(q8, .inl (g 0, 2, .inl (v2 (f (23 + 2 * j)) (f (24 + 2 * j)))))]) [0] rfl) (by decide)) (va_cwS 2 hts (lw_S q557 q558 q21 q559) rfl rfl rfl (by decide +kernel) ⟨Nat.le_of_ble_eq_true rfl, Nat.le_of_ble_eq_true rfl⟩) (preS hK) rfl rfl hl.1 rfl (lv_room (Nat.le_of_ble_eq_true rfl)) dX0_digest_301 ⟨show 6 + j + 1 + 0 ≤ 30 by omega, show 27 + 2 * j + 2 + 0 ≤ 75 by omega⟩) (fun r11 hr11 => ?_)
                refine lv_lstore_n (pc := 304) (lv' := [(3, .long r11), (6, .ref y), (0, .ref xo), (1, .ref cur), (5, .int (nI j))]) hx hb dX0_digest_304 rfl hl (by decide) rfl (fun ls hl => ?_)
                obtain ⟨x12, ex12⟩ : ∃ y : Int32, y = (nI j) + 1 := ⟨_, rfl⟩
                refine lv_iinc (pc := 305) (v := x12) (lv' := [(5, .int x12), (3, .long r11), (6, .ref y), (0, .ref xo), (1, .ref cur)]) hx hb dX0_digest_305 hl (k := 4) rfl (by rw [ex12]; rfl) (by decide) rfl (fun ls hl => ?_)
                refine lv_goto (pc := 308) (tgt := 243) hx hb dX0_digest_308 (by decide) ?_
                rw [show x12 = nI (j + 1) from (ex12.trans (nadd rfl (nl 1)))] at hl
                refine W.widen (k := 6 + (j + 1)) (n := 27 + 2 * (j + 1)) (by omega) (by omega) ?_
                exact ih  (j + 1) r11 (by omega) (by omega) (by rw [hr11, hh2]; rfl) _ _ (hP.sub [] rfl) (hD.sub [] (by decide) rfl) hS ls (lv_sub hl [3, 4, 1, 0] rfl)
              · refine lv_aload (pc := 283) hx hb dX0_digest_283 (lv_at hl 0 rfl) ?_
                refine va_getN (pc := 285) (D := D) (ci := 8) (v := .int a) (C := RX8) (T := TX8) (N := 2) hx hb hts in_X8 hown hK.1 (ro_at hS hyE (Nat.not_le.mpr (p_lt hyE))) 0 rfl rfl 0 (by decide) (hK.n nq351) (fun _ h9 => h9) rfl dX0_digest_285 ?_
                refine lv_goto (pc := 288) (tgt := 292) hx hb dX0_digest_288 (by decide) ?_
                refine ia_st (pc := 292) (f' := (upd (fun _ => 0) 0 a)) hx hb hK.1 hP hD hS 0 0 0 rfl rfl (nl 0) (Nat.le_of_ble_eq_true rfl) (Nat.le_of_ble_eq_true rfl) (fun _ _ => rfl) dX0_digest_292 (fun H locs hP hD hS => ?_)
                have hP : va_P D vwCl [(q8, .inl (g 0, 2, .inl (upd (fun _ => 0) 0 a)))] H := hP
                have hD : va_D (fun q => s.heap.size ≤ q) [(q8, .inl (g 0, 2, .inl (upd (fun _ => 0) 0 a)))] := hD
                refine lv_dup (pc := 293) hx hb dX0_digest_293 rfl ?_
                refine lv_iconst (pc := 294) (v := 1) hx hb dX0_digest_294 (by decide) ?_
                refine lv_aload (pc := 295) hx hb dX0_digest_295 (lv_at hl 0 rfl) ?_
                refine va_getN (pc := 297) (D := D) (ci := 8) (v := .int (f (24 + 2 * j))) (C := RX8) (T := TX8) (N := 2) hx hb hts in_X8 hown hK.1 (ro_at hS hyE (Nat.not_le.mpr (p_lt hyE))) 0 rfl rfl 1 (by decide) (hK.n nq354) (fun _ h9 => h9) rfl dX0_digest_297 ?_
                refine ia_st (pc := 300) (f' := (v2 (f (23 + 2 * j)) (f (24 + 2 * j)))) hx hb hK.1 hP hD hS 0 0 1 rfl rfl (nl 1) (Nat.le_of_ble_eq_true rfl) (Nat.le_of_ble_eq_true rfl) (j2 ((hfa.trans (evw_pos (bI_ne (fun e => cd10 (hr9.trans e))))).symm) rfl) dX0_digest_300 (fun H locs hP hD hS => ?_)
                have hP : va_P D vwCl [(q8, .inl (g 0, 2, .inl (v2 (f (23 + 2 * j)) (f (24 + 2 * j)))))] H := hP
                have hD : va_D (fun q => s.heap.size ≤ q) [(q8, .inl (g 0, 2, .inl (v2 (f (23 + 2 * j)) (f (24 + 2 * j)))))] := hD
                refine kLp (pc := 301) (va_runS (As := [.long h2, .ref q8]) (rest := []) ⟨hx, hb, hml, hown, hts⟩ (m0_add l h2 q8 2 (v2 (f (23 + 2 * j)) (f (24 + 2 * j))) H (hP.sub (ws' := [(q8, .inl (g 0, 2, .inl (v2 (f (23 + 2 * j)) (f (24 + 2 * j)))))]) [0] rfl) (by decide)) (va_cwS 2 hts (lw_S q557 q558 q21 q559) rfl rfl rfl (by decide +kernel) ⟨Nat.le_of_ble_eq_true rfl, Nat.le_of_ble_eq_true rfl⟩) (preS hK) rfl rfl hl.1 rfl (lv_room (Nat.le_of_ble_eq_true rfl)) dX0_digest_301 ⟨show 6 + j + 1 + 0 ≤ 30 by omega, show 27 + 2 * j + 2 + 0 ≤ 75 by omega⟩) (fun r13 hr13 => ?_)
                refine lv_lstore_n (pc := 304) (lv' := [(3, .long r13), (6, .ref y), (0, .ref xo), (1, .ref cur), (5, .int (nI j))]) hx hb dX0_digest_304 rfl hl (by decide) rfl (fun ls hl => ?_)
                obtain ⟨x14, ex14⟩ : ∃ y : Int32, y = (nI j) + 1 := ⟨_, rfl⟩
                refine lv_iinc (pc := 305) (v := x14) (lv' := [(5, .int x14), (3, .long r13), (6, .ref y), (0, .ref xo), (1, .ref cur)]) hx hb dX0_digest_305 hl (k := 4) rfl (by rw [ex14]; rfl) (by decide) rfl (fun ls hl => ?_)
                refine lv_goto (pc := 308) (tgt := 243) hx hb dX0_digest_308 (by decide) ?_
                rw [show x14 = nI (j + 1) from (ex14.trans (nadd rfl (nl 1)))] at hl
                refine W.widen (k := 6 + (j + 1)) (n := 27 + 2 * (j + 1)) (by omega) (by omega) ?_
                exact ih  (j + 1) r13 (by omega) (by omega) (by rw [hr13, hh2]; rfl) _ _ (hP.sub [] rfl) (hD.sub [] (by decide) rfl) hS ls (lv_sub hl [3, 4, 1, 0] rfl)
        refine W.widen (k := 6 + 0) (n := 27 + 2 * 0) (by omega) (by omega) ?_
        exact loop2 (k + 1) 0 r5 (Nat.zero_le _) (by omega) (by rw [hr5, hh1, show i = 4 by omega]; rfl) _ _ (hP.sub [] rfl) (hD.sub [] (by decide) rfl) hS ls (lv_sub hl [2, 3, 1, 0] rfl)
      · have ncd3 : ¬ 4 ≤ i := fun h => cd3 ((nle (nl 4) rfl (by omega) (by omega)).mpr h)
        obtain ⟨ys, hys, _, hyS⟩ := hsn i (by omega)
        refine lv_aload (pc := 141) hx hb dX0_digest_141 (lv_at hl 4 rfl) ?_
        refine lv_iload (pc := 143) hx hb dX0_digest_143 (lv_at hl 6 rfl) ?_
        refine qa_ld (pc := 145) (y := ys) hx hb hK.1 (ro_at hS hs2 (Nat.not_le.mpr (p_lt hs2))) 0 4 i rfl rfl rfl (by omega) (Nat.le_of_ble_eq_true rfl) hys dX0_digest_145 ?_
        refine lv_astore (pc := 146) (lv' := [(8, .ref ys), (0, .ref xo), (1, .ref cur), (2, .ref qe), (3, .long h1), (5, .ref qs), (6, .int 4), (7, .int (nI i))]) hx hb dX0_digest_146 hl (by decide) rfl (fun ls hl => ?_)
        refine lv_lload_n (pc := 148) hx hb dX0_digest_148 rfl (lv_at hl 4 rfl) ?_
        refine lv_iconst (pc := 149) (v := 2) hx hb dX0_digest_149 (by decide) ?_
        refine va_newa (pc := 150) (atype := .int) (ty := .int) (N' := 2) (a0 := (2, .inl (fun _ => 0))) hx hb (hts _ q191) rfl hK.1 hP hD hS hA (fun _ => rfl) (by decide) (by decide) (by decide) (show 1 + i + 1 ≤ 30 by omega) (show 12 + 2 * i + 2 ≤ 75 by omega) dX0_digest_150 (fun q15 cA H hK9 hP hD hS => ?_)
        have hcA : cA = g 0 := ra_int (hK9.2 5 _ rfl).2 (hK.1.2 0 _ rfl).2
        subst hcA
        have hP : va_P D vwCl [(q15, .inl (g 0, 2, .inl (fun _ => 0)))] H := hP
        have hD : va_D (fun q => s.heap.size ≤ q) [(q15, .inl (g 0, 2, .inl (fun _ => 0)))] := hD
        refine lv_dup (pc := 152) hx hb dX0_digest_152 rfl ?_
        refine lv_iconst (pc := 153) (v := 0) hx hb dX0_digest_153 (by decide) ?_
        refine lv_aload (pc := 154) hx hb dX0_digest_154 (lv_at hl 0 rfl) ?_
        refine va_getN (pc := 156) (D := D) (ci := 4) (v := .int (f (8 + i))) (C := RX4) (T := TX4) (N := 2) hx hb hts in_X4 hown hK.1 (ro_at hS hyS (Nat.not_le.mpr (p_lt hyS))) 0 rfl rfl 0 (by decide) (hK.n nq119) (fun _ h9 => h9) rfl dX0_digest_156 ?_
        refine ia_st (pc := 159) (f' := (upd (fun _ => 0) 0 (f (8 + i)))) hx hb hK.1 hP hD hS 0 0 0 rfl rfl (nl 0) (Nat.le_of_ble_eq_true rfl) (Nat.le_of_ble_eq_true rfl) (fun _ _ => rfl) dX0_digest_159 (fun H locs hP hD hS => ?_)
        have hP : va_P D vwCl [(q15, .inl (g 0, 2, .inl (upd (fun _ => 0) 0 (f (8 + i)))))] H := hP
        have hD : va_D (fun q => s.heap.size ≤ q) [(q15, .inl (g 0, 2, .inl (upd (fun _ => 0) 0 (f (8 + i)))))] := hD
        refine lv_dup (pc := 160) hx hb dX0_digest_160 rfl ?_
        refine lv_iconst (pc := 161) (v := 1) hx hb dX0_digest_161 (by decide) ?_
        refine lv_aload (pc := 162) hx hb dX0_digest_162 (lv_at hl 0 rfl) ?_
        refine va_getN (pc := 164) (D := D) (ci := 4) (v := .int (f (12 + i))) (C := RX4) (T := TX4) (N := 2) hx hb hts in_X4 hown hK.1 (ro_at hS hyS (Nat.not_le.mpr (p_lt hyS))) 0 rfl rfl 1 (by decide) (hK.n nq122) (fun _ h9 => h9) rfl dX0_digest_164 ?_
        refine ia_st (pc := 167) (f' := (v2 (f (8 + i)) (f (12 + i)))) hx hb hK.1 hP hD hS 0 0 1 rfl rfl (nl 1) (Nat.le_of_ble_eq_true rfl) (Nat.le_of_ble_eq_true rfl) (j2 rfl rfl) dX0_digest_167 (fun H locs hP hD hS => ?_)
        have hP : va_P D vwCl [(q15, .inl (g 0, 2, .inl (v2 (f (8 + i)) (f (12 + i)))))] H := hP
        have hD : va_D (fun q => s.heap.size ≤ q) [(q15, .inl (g 0, 2, .inl (v2 (f (8 + i)) (f (12 + i)))))] := hD
        refine kLp (pc := 168) (va_runS (As := [.long h1, .ref q15]) (rest := []) ⟨hx, hb, hml, hown, hts⟩ (m0_add l h1 q15 2 (v2 (f (8 + i)) (f (12 + i))) H (hP.sub (ws' := [(q15, .inl (g 0, 2, .inl (v2 (f (8 + i)) (f (12 + i)))))]) [0] rfl) (by decide)) (va_cwS 2 hts (lw_S q557 q558 q21 q559) rfl rfl rfl (by decide +kernel) ⟨Nat.le_of_ble_eq_true rfl, Nat.le_of_ble_eq_true rfl⟩) (preS hK) rfl rfl hl.1 rfl (lv_room (Nat.le_of_ble_eq_true rfl)) dX0_digest_168 ⟨show 1 + i + 1 + 0 ≤ 30 by omega, show 12 + 2 * i + 2 + 0 ≤ 75 by omega⟩) (fun r16 hr16 => ?_)
        refine lv_lstore_n (pc := 171) (lv' := [(3, .long r16), (8, .ref ys), (0, .ref xo), (1, .ref cur), (2, .ref qe), (5, .ref qs), (6, .int 4), (7, .int (nI i))]) hx hb dX0_digest_171 rfl hl (by decide) rfl (fun ls hl => ?_)
        obtain ⟨x17, ex17⟩ : ∃ y : Int32, y = (nI i) + 1 := ⟨_, rfl⟩
        refine lv_iinc (pc := 172) (v := x17) (lv' := [(7, .int x17), (3, .long r16), (8, .ref ys), (0, .ref xo), (1, .ref cur), (2, .ref qe), (5, .ref qs), (6, .int 4)]) hx hb dX0_digest_172 hl (k := 7) rfl (by rw [ex17]; rfl) (by decide) rfl (fun ls hl => ?_)
        refine lv_goto (pc := 175) (tgt := 134) hx hb dX0_digest_175 (by decide) ?_
        rw [show x17 = nI (i + 1) from (ex17.trans (nadd rfl (nl 1)))] at hl
        refine W.widen (k := 1 + (i + 1)) (n := 12 + 2 * (i + 1)) (by omega) (by omega) ?_
        exact ih  (i + 1) r16 (by omega) (by omega) (by rw [hr16, hh1]; rfl) _ _ (hP.sub [] rfl) (hD.sub [] (by decide) rfl) hS ls (lv_sub hl [3, 4, 5, 1, 6, 7, 0] rfl)
  exact loop 5 0 r2 (Nat.zero_le _) (by omega) hr2 _ _ (hP.sub [] rfl) (hD.sub [] (by decide) rfl) hS ls (lv_sub hl [6, 5, 4, 3, 2, 1, 0] rfl)

abbrev rm_m0_init : Room := ({ frames := 3, cells := 10, slots := 58, locals := 54 })
set_option maxHeartbeats 4000000 in
set_option maxRecDepth 100000 in
/-- TankFilter() -/
theorem m0_init (l : Launch) {D : va_G} {g : Nat → ClassId} (xo : Nat) (H : Heap) (hP : va_P D vwCl [(xo, .inr (0, [.null, .null, .null, .null]))] H) : Met l yX0_init (ws_ yX0_init cX0_init 1 none) rm_m0_init (va_Pc [.ref xo] (PH D g H)) (QV (fun H1 => ∃ (sv sa er rd cu qe qs qh qa qn : Nat), va_P D vwCl [(xo, .inr (0, [.ref cu, .ref sv, .ref rd, .ref er])), (sv, .inr (3, [.ref sa, .int 0])), (sa, .inl (g 2, 4, .inr (.inr (.inr (.inr (fun _ => none)))))), (er, .inl (g 0, 3, .inl (fun _ => 0))), (rd, .inr (5, [])), (cu, .inr (1, [.ref qe, .int 0, .int 64, .ref qs, .int 9, .ref qh, .int 0, .int 0, .int 0])), (qe, .inr (2, [.int 0, .int 0, .int 4096, .int 0, .int 4096, .int (-2000000001), .int (-2000000001), .int (-2000000001)])), (qs, .inl (g 4, 4, .inr (.inr (.inr (.inr (fun _ => some qn)))))), (qh, .inr (3, [.ref qa, .int 0])), (qa, .inl (g 3, 24, .inr (.inr (.inr (.inr (fun _ => none)))))), (qn, .inr (4, [.int 0, .int 4096]))] H1 ∧ va_D (Aw [xo] H.size) [(xo, .inr (0, [.ref cu, .ref sv, .ref rd, .ref er])), (sv, .inr (3, [.ref sa, .int 0])), (sa, .inl (g 2, 4, .inr (.inr (.inr (.inr (fun _ => none)))))), (er, .inl (g 0, 3, .inl (fun _ => 0))), (rd, .inr (5, [])), (cu, .inr (1, [.ref qe, .int 0, .int 64, .ref qs, .int 9, .ref qh, .int 0, .int 0, .int 0])), (qe, .inr (2, [.int 0, .int 0, .int 4096, .int 0, .int 4096, .int (-2000000001), .int (-2000000001), .int (-2000000001)])), (qs, .inl (g 4, 4, .inr (.inr (.inr (.inr (fun _ => some qn)))))), (qh, .inr (3, [.ref qa, .int 0])), (qa, .inl (g 3, 24, .inr (.inr (.inr (.inr (fun _ => none)))))), (qn, .inr (4, [.int 0, .int 4096]))]) (Aw [xo] H.size)) 10 58 (Aw [xo] H.size) := by
  refine Met.ofW (cc := cX0_init) (maxL := 1) (ret := none) (by decide) rfl ?_
  intro p e s m args below meth c s₁ B hml hv
  obtain ⟨rfl, hH, hK⟩ := hv
  subst hH
  have hx := B.exec
  have hb := B.bytes
  have hr := B.returns
  have hts := atoms_spec (ws := ws_ yX0_init cX0_init 1 none) B.pre
  have hts : ∀ w ∈ lw_all, w.before _ s = true := fun w h => hts w (List.mem_cons_of_mem _ h)
  have hown : s.vm.findClass RX0 = some m.cls := findClass_of_methodNamed B.named
  have hlocks := B.notSynchronized
  have hin : meth.name = "<init>" := (name_of_methodNamed B.named B.method).1
  have hA : ∀ q, s.heap.size ≤ q → (Aw [xo] s.heap.size) q := fun q h => Or.inr h
  have hS : va_S (Aw [xo] s.heap.size) s.heap s.heap [] := va_S.rf
  have hD : va_D (Aw [xo] s.heap.size) [(xo, .inr (0, [.null, .null, .null, .null]))] := d1 (Or.inl (by simp))
  have hl := lv_entry ([.ref xo]) (n := 1) (Nat.le_of_ble_eq_true rfl)
  rw [lg_entry_eq]
  generalize (lg_sl ([.ref xo]) ++ List.replicate (1 - (lg_sl ([.ref xo])).length) Slot.unset).toArray = ls at hl ⊢
  have hl : lv_has ls 1 [(0, .ref xo)] := hl
  refine lv_aload_n (pc := 0) hx hb dX0_init_0 rfl (lv_at hl 0 rfl) ?_
  refine W.objInit hx hb hown (hts _ q40) (hts _ q41) (hts _ q42) rfl (by rw [hml]; exact hl.1) rfl dX0_init_1 (Nat.le_of_ble_eq_true rfl) (Nat.le_of_ble_eq_true rfl) ?_
  refine W.eq (g2 := F0 m 4 ls []) rfl ?_
  refine lv_aload_n (pc := 4) hx hb dX0_init_4 rfl (lv_at hl 0 rfl) ?_
  refine va_new (pc := 5) (ci := 1) (fs := [.null, .int 0, .int 0, .null, .int 0, .null, .int 0, .int 0, .int 0]) (C := RX1) (T := TX1) (N := 9) hx hb hts in_X1 tyX1 tyX1_ok hown (hts _ q43) (hts _ q44) (hts _ q22) hK.1 hP hD hS hA rfl (fun j hj => by rcases (show j = 0 ∨ j = 1 ∨ j = 2 ∨ j = 3 ∨ j = 4 ∨ j = 5 ∨ j = 6 ∨ j = 7 ∨ j = 8 by omega) with rfl | rfl | rfl | rfl | rfl | rfl | rfl | rfl | rfl <;> rfl) (Nat.le_of_ble_eq_true rfl) (Nat.le_of_ble_eq_true rfl) dX0_init_5 (fun q1 H hP hD hS => ?_)
  have hP : va_P D vwCl [(xo, .inr (0, [.null, .null, .null, .null])), (q1, .inr (1, [.null, .int 0, .int 0, .null, .int 0, .null, .int 0, .int 0, .int 0]))] H := hP
  have hD : va_D (Aw [xo] s.heap.size) [(xo, .inr (0, [.null, .null, .null, .null])), (q1, .inr (1, [.null, .int 0, .int 0, .null, .int 0, .null, .int 0, .int 0, .int 0]))] := hD
  refine lv_dup (pc := 8) hx hb dX0_init_8 rfl ?_
  have hFc := awF (Lc := [q1]) hD hS hA [1] rfl
  refine kV (pc := 9) (va_runI (As := []) (rest := [.ref q1, .ref xo]) ⟨hx, hb, hml, hown, hts⟩ (m1_init l q1 H (hP.sub (ws' := [(q1, .inr (1, [.null, .int 0, .int 0, .null, .int 0, .null, .int 0, .int 0, .int 0]))]) [1] rfl)) (cwI 0 hts (lw_meth q47) rfl rfl rfl (hts _ q22) (hts _ q45) (hts _ q46) rfl (by decide +kernel) ⟨Nat.le_of_ble_eq_true rfl, Nat.le_of_ble_eq_true rfl⟩) (preS hK) rfl rfl hl.1 rfl (lv_room (Nat.le_of_ble_eq_true rfl)) dX0_init_9 ⟨Nat.le_of_ble_eq_true rfl, Nat.le_of_ble_eq_true rfl⟩) hS hFc (fun H locs hp9 hz1 hk1 hS => ?_)
  obtain ⟨ze, zs, zh, zb, zn, hP1, hD1⟩ := hp9
  obtain ⟨hP, hD⟩ := jn (wr := [(xo, .inr (0, [.null, .null, .null, .null]))]) (w1 := [(q1, .inr (1, [.ref ze, .int 0, .int 64, .ref zs, .int 9, .ref zh, .int 0, .int 0, .int 0])), (ze, .inr (2, [.int 0, .int 0, .int 4096, .int 0, .int 4096, .int (-2000000001), .int (-2000000001), .int (-2000000001)])), (zs, .inl (g 4, 4, .inr (.inr (.inr (.inr (fun _ => some zn)))))), (zh, .inr (3, [.ref zb, .int 0])), (zb, .inl (g 3, 24, .inr (.inr (.inr (.inr (fun _ => none)))))), (zn, .inr (4, [.int 0, .int 4096]))]) hP hD [1] [0] rfl rfl (by decide) (by decide) hk1 hFc hP1 hD1
  have hP : va_P D vwCl [(xo, .inr (0, [.null, .null, .null, .null])), (q1, .inr (1, [.ref ze, .int 0, .int 64, .ref zs, .int 9, .ref zh, .int 0, .int 0, .int 0])), (ze, .inr (2, [.int 0, .int 0, .int 4096, .int 0, .int 4096, .int (-2000000001), .int (-2000000001), .int (-2000000001)])), (zs, .inl (g 4, 4, .inr (.inr (.inr (.inr (fun _ => some zn)))))), (zh, .inr (3, [.ref zb, .int 0])), (zb, .inl (g 3, 24, .inr (.inr (.inr (.inr (fun _ => none)))))), (zn, .inr (4, [.int 0, .int 4096]))] H := hP
  have hD : va_D (Aw [xo] s.heap.size) [(xo, .inr (0, [.null, .null, .null, .null])), (q1, .inr (1, [.ref ze, .int 0, .int 64, .ref zs, .int 9, .ref zh, .int 0, .int 0, .int 0])), (ze, .inr (2, [.int 0, .int 0, .int 4096, .int 0, .int 4096, .int (-2000000001), .int (-2000000001), .int (-2000000001)])), (zs, .inl (g 4, 4, .inr (.inr (.inr (.inr (fun _ => some zn)))))), (zh, .inr (3, [.ref zb, .int 0])), (zb, .inl (g 3, 24, .inr (.inr (.inr (.inr (fun _ => none)))))), (zn, .inr (4, [.int 0, .int 4096]))] := hD
  refine va_put (pc := 12) (D := D) (ci := 0) (v := .ref q1) (ty := .object "TankFilter$State") (C := RX0) (T := TX0) (N := 4) hx hb hts in_X0 tyX0 tyX0_ok nmX0 hown hK.1 hP hD hS 0 rfl rfl 0 (by decide) (hts _ q178) (fun _ h9 => h9) rfl (by decide +kernel) rfl rfl (Nat.le_of_ble_eq_true rfl) dX0_init_12 (fun H locs hP hD hS => ?_)
  have hP : va_P D vwCl [(xo, .inr (0, [.ref q1, .null, .null, .null])), (q1, .inr (1, [.ref ze, .int 0, .int 64, .ref zs, .int 9, .ref zh, .int 0, .int 0, .int 0])), (ze, .inr (2, [.int 0, .int 0, .int 4096, .int 0, .int 4096, .int (-2000000001), .int (-2000000001), .int (-2000000001)])), (zs, .inl (g 4, 4, .inr (.inr (.inr (.inr (fun _ => some zn)))))), (zh, .inr (3, [.ref zb, .int 0])), (zb, .inl (g 3, 24, .inr (.inr (.inr (.inr (fun _ => none)))))), (zn, .inr (4, [.int 0, .int 4096]))] H := hP
  have hD : va_D (Aw [xo] s.heap.size) [(xo, .inr (0, [.ref q1, .null, .null, .null])), (q1, .inr (1, [.ref ze, .int 0, .int 64, .ref zs, .int 9, .ref zh, .int 0, .int 0, .int 0])), (ze, .inr (2, [.int 0, .int 0, .int 4096, .int 0, .int 4096, .int (-2000000001), .int (-2000000001), .int (-2000000001)])), (zs, .inl (g 4, 4, .inr (.inr (.inr (.inr (fun _ => some zn)))))), (zh, .inr (3, [.ref zb, .int 0])), (zb, .inl (g 3, 24, .inr (.inr (.inr (.inr (fun _ => none)))))), (zn, .inr (4, [.int 0, .int 4096]))] := hD
  refine lv_aload_n (pc := 15) hx hb dX0_init_15 rfl (lv_at hl 0 rfl) ?_
  refine va_new (pc := 16) (ci := 3) (fs := [.null, .int 0]) (C := RX3) (T := TX3) (N := 2) hx hb hts in_X3 tyX3 tyX3_ok hown (hts _ q168) (hts _ q96) (hts _ q24) hK.1 hP hD hS hA rfl (fun j hj => by rcases (show j = 0 ∨ j = 1 by omega) with rfl | rfl <;> rfl) (Nat.le_of_ble_eq_true rfl) (Nat.le_of_ble_eq_true rfl) dX0_init_16 (fun q3 H hP hD hS => ?_)
  have hP : va_P D vwCl [(xo, .inr (0, [.ref q1, .null, .null, .null])), (q1, .inr (1, [.ref ze, .int 0, .int 64, .ref zs, .int 9, .ref zh, .int 0, .int 0, .int 0])), (ze, .inr (2, [.int 0, .int 0, .int 4096, .int 0, .int 4096, .int (-2000000001), .int (-2000000001), .int (-2000000001)])), (zs, .inl (g 4, 4, .inr (.inr (.inr (.inr (fun _ => some zn)))))), (zh, .inr (3, [.ref zb, .int 0])), (zb, .inl (g 3, 24, .inr (.inr (.inr (.inr (fun _ => none)))))), (zn, .inr (4, [.int 0, .int 4096])), (q3, .inr (3, [.null, .int 0]))] H := hP
  have hD : va_D (Aw [xo] s.heap.size) [(xo, .inr (0, [.ref q1, .null, .null, .null])), (q1, .inr (1, [.ref ze, .int 0, .int 64, .ref zs, .int 9, .ref zh, .int 0, .int 0, .int 0])), (ze, .inr (2, [.int 0, .int 0, .int 4096, .int 0, .int 4096, .int (-2000000001), .int (-2000000001), .int (-2000000001)])), (zs, .inl (g 4, 4, .inr (.inr (.inr (.inr (fun _ => some zn)))))), (zh, .inr (3, [.ref zb, .int 0])), (zb, .inl (g 3, 24, .inr (.inr (.inr (.inr (fun _ => none)))))), (zn, .inr (4, [.int 0, .int 4096])), (q3, .inr (3, [.null, .int 0]))] := hD
  refine lv_dup (pc := 19) hx hb dX0_init_19 rfl ?_
  refine lv_iconst (pc := 20) (v := 4) hx hb dX0_init_20 (by decide) ?_
  refine va_newq (pc := 21) (N' := 4) (C := RX1) hx hb hown (hts _ q43) hK.2.2.1 hK.1 hP hD hS hA (by decide) (by decide) (by decide) (Nat.le_of_ble_eq_true rfl) (Nat.le_of_ble_eq_true rfl) dX0_init_21 (fun q4 cA H hK9 hP hD hS => ?_)
  have hcA : cA = g 2 := ra_one (hK9.2 5 _ rfl).2 (hK.1.2 2 _ rfl).2
  subst hcA
  have hP : va_P D vwCl [(xo, .inr (0, [.ref q1, .null, .null, .null])), (q1, .inr (1, [.ref ze, .int 0, .int 64, .ref zs, .int 9, .ref zh, .int 0, .int 0, .int 0])), (ze, .inr (2, [.int 0, .int 0, .int 4096, .int 0, .int 4096, .int (-2000000001), .int (-2000000001), .int (-2000000001)])), (zs, .inl (g 4, 4, .inr (.inr (.inr (.inr (fun _ => some zn)))))), (zh, .inr (3, [.ref zb, .int 0])), (zb, .inl (g 3, 24, .inr (.inr (.inr (.inr (fun _ => none)))))), (zn, .inr (4, [.int 0, .int 4096])), (q3, .inr (3, [.null, .int 0])), (q4, .inl (g 2, 4, .inr (.inr (.inr (.inr (fun _ => none))))))] H := hP
  have hD : va_D (Aw [xo] s.heap.size) [(xo, .inr (0, [.ref q1, .null, .null, .null])), (q1, .inr (1, [.ref ze, .int 0, .int 64, .ref zs, .int 9, .ref zh, .int 0, .int 0, .int 0])), (ze, .inr (2, [.int 0, .int 0, .int 4096, .int 0, .int 4096, .int (-2000000001), .int (-2000000001), .int (-2000000001)])), (zs, .inl (g 4, 4, .inr (.inr (.inr (.inr (fun _ => some zn)))))), (zh, .inr (3, [.ref zb, .int 0])), (zb, .inl (g 3, 24, .inr (.inr (.inr (.inr (fun _ => none)))))), (zn, .inr (4, [.int 0, .int 4096])), (q3, .inr (3, [.null, .int 0])), (q4, .inl (g 2, 4, .inr (.inr (.inr (.inr (fun _ => none))))))] := hD
  have hFc := awF (Lc := [q3]) hD hS hA [7] rfl
  refine kV (pc := 24) (va_runI (As := [.ref q4]) (rest := [.ref q3, .ref xo]) ⟨hx, hb, hml, hown, hts⟩ (m3_initS l q3 q4 H (hP.sub (ws' := [(q3, .inr (3, [.null, .int 0]))]) [7] rfl)) (cwI 1 hts (lw_meth q101) rfl rfl rfl (hts _ q24) (hts _ q170) (hts _ q100) rfl (by decide +kernel) ⟨Nat.le_of_ble_eq_true rfl, Nat.le_of_ble_eq_true rfl⟩) (preS hK) rfl rfl hl.1 rfl (lv_room (Nat.le_of_ble_eq_true rfl)) dX0_init_24 ⟨Nat.le_of_ble_eq_true rfl, Nat.le_of_ble_eq_true rfl⟩) hS hFc (fun H locs hp9 hz1 hk1 hS => ?_)
  have hP1 := hp9
  obtain ⟨hP, hD⟩ := jn (wr := [(xo, .inr (0, [.ref q1, .null, .null, .null])), (q1, .inr (1, [.ref ze, .int 0, .int 64, .ref zs, .int 9, .ref zh, .int 0, .int 0, .int 0])), (ze, .inr (2, [.int 0, .int 0, .int 4096, .int 0, .int 4096, .int (-2000000001), .int (-2000000001), .int (-2000000001)])), (zs, .inl (g 4, 4, .inr (.inr (.inr (.inr (fun _ => some zn)))))), (zh, .inr (3, [.ref zb, .int 0])), (zb, .inl (g 3, 24, .inr (.inr (.inr (.inr (fun _ => none)))))), (zn, .inr (4, [.int 0, .int 4096])), (q4, .inl (g 2, 4, .inr (.inr (.inr (.inr (fun _ => none))))))]) (w1 := [(q3, .inr (3, [.ref q4, .int 0]))]) hP hD [7] [0, 1, 2, 3, 4, 5, 6, 8] rfl rfl (by decide) (by decide) hk1 hFc hP1 (d1 (Or.inl (by simp)))
  have hP : va_P D vwCl [(xo, .inr (0, [.ref q1, .null, .null, .null])), (q1, .inr (1, [.ref ze, .int 0, .int 64, .ref zs, .int 9, .ref zh, .int 0, .int 0, .int 0])), (ze, .inr (2, [.int 0, .int 0, .int 4096, .int 0, .int 4096, .int (-2000000001), .int (-2000000001), .int (-2000000001)])), (zs, .inl (g 4, 4, .inr (.inr (.inr (.inr (fun _ => some zn)))))), (zh, .inr (3, [.ref zb, .int 0])), (zb, .inl (g 3, 24, .inr (.inr (.inr (.inr (fun _ => none)))))), (zn, .inr (4, [.int 0, .int 4096])), (q4, .inl (g 2, 4, .inr (.inr (.inr (.inr (fun _ => none)))))), (q3, .inr (3, [.ref q4, .int 0]))] H := hP
  have hD : va_D (Aw [xo] s.heap.size) [(xo, .inr (0, [.ref q1, .null, .null, .null])), (q1, .inr (1, [.ref ze, .int 0, .int 64, .ref zs, .int 9, .ref zh, .int 0, .int 0, .int 0])), (ze, .inr (2, [.int 0, .int 0, .int 4096, .int 0, .int 4096, .int (-2000000001), .int (-2000000001), .int (-2000000001)])), (zs, .inl (g 4, 4, .inr (.inr (.inr (.inr (fun _ => some zn)))))), (zh, .inr (3, [.ref zb, .int 0])), (zb, .inl (g 3, 24, .inr (.inr (.inr (.inr (fun _ => none)))))), (zn, .inr (4, [.int 0, .int 4096])), (q4, .inl (g 2, 4, .inr (.inr (.inr (.inr (fun _ => none)))))), (q3, .inr (3, [.ref q4, .int 0]))] := hD
  refine va_putF (pc := 27) (D := D) (ci := 0) (v := .ref q3) (ty := .object "TankFilter$Recent") (C := RX0) (T := TX0) (N := 4) hx hb hts in_X0 tyX0 tyX0_ok nmX0 hown hK.1 hP hD hS 0 rfl rfl 1 (by decide) (hts _ q179) (fun _ h9 => h9) rfl hin rfl (by decide +kernel) rfl rfl (Nat.le_of_ble_eq_true rfl) dX0_init_27 (fun H locs hP hD hS => ?_)
  have hP : va_P D vwCl [(xo, .inr (0, [.ref q1, .ref q3, .null, .null])), (q1, .inr (1, [.ref ze, .int 0, .int 64, .ref zs, .int 9, .ref zh, .int 0, .int 0, .int 0])), (ze, .inr (2, [.int 0, .int 0, .int 4096, .int 0, .int 4096, .int (-2000000001), .int (-2000000001), .int (-2000000001)])), (zs, .inl (g 4, 4, .inr (.inr (.inr (.inr (fun _ => some zn)))))), (zh, .inr (3, [.ref zb, .int 0])), (zb, .inl (g 3, 24, .inr (.inr (.inr (.inr (fun _ => none)))))), (zn, .inr (4, [.int 0, .int 4096])), (q4, .inl (g 2, 4, .inr (.inr (.inr (.inr (fun _ => none)))))), (q3, .inr (3, [.ref q4, .int 0]))] H := hP
  have hD : va_D (Aw [xo] s.heap.size) [(xo, .inr (0, [.ref q1, .ref q3, .null, .null])), (q1, .inr (1, [.ref ze, .int 0, .int 64, .ref zs, .int 9, .ref zh, .int 0, .int 0, .int 0])), (ze, .inr (2, [.int 0, .int 0, .int 4096, .int 0, .int 4096, .int (-2000000001), .int (-2000000001), .int (-2000000001)])), (zs, .inl (g 4, 4, .inr (.inr (.inr (.inr (fun _ => some zn)))))), (zh, .inr (3, [.ref zb, .int 0])), (zb, .inl (g 3, 24, .inr (.inr (.inr (.inr (fun _ => none)))))), (zn, .inr (4, [.int 0, .int 4096])), (q4, .inl (g 2, 4, .inr (.inr (.inr (.inr (fun _ => none)))))), (q3, .inr (3, [.ref q4, .int 0]))] := hD
  refine lv_aload_n (pc := 30) hx hb dX0_init_30 rfl (lv_at hl 0 rfl) ?_
  refine va_new (pc := 31) (ci := 5) (fs := []) (C := RX5) (T := TX5) (N := 0) hx hb hts in_X5 tyX5 tyX5_ok hown (hts _ q171) (hts _ q172) (hts _ q27) hK.1 hP hD hS hA rfl (fun j hj => absurd hj (Nat.not_lt_zero j)) (Nat.le_of_ble_eq_true rfl) (Nat.le_of_ble_eq_true rfl) dX0_init_31 (fun q6 H hP hD hS => ?_)
  have hP : va_P D vwCl [(xo, .inr (0, [.ref q1, .ref q3, .null, .null])), (q1, .inr (1, [.ref ze, .int 0, .int 64, .ref zs, .int 9, .ref zh, .int 0, .int 0, .int 0])), (ze, .inr (2, [.int 0, .int 0, .int 4096, .int 0, .int 4096, .int (-2000000001), .int (-2000000001), .int (-2000000001)])), (zs, .inl (g 4, 4, .inr (.inr (.inr (.inr (fun _ => some zn)))))), (zh, .inr (3, [.ref zb, .int 0])), (zb, .inl (g 3, 24, .inr (.inr (.inr (.inr (fun _ => none)))))), (zn, .inr (4, [.int 0, .int 4096])), (q4, .inl (g 2, 4, .inr (.inr (.inr (.inr (fun _ => none)))))), (q3, .inr (3, [.ref q4, .int 0])), (q6, .inr (5, []))] H := hP
  have hD : va_D (Aw [xo] s.heap.size) [(xo, .inr (0, [.ref q1, .ref q3, .null, .null])), (q1, .inr (1, [.ref ze, .int 0, .int 64, .ref zs, .int 9, .ref zh, .int 0, .int 0, .int 0])), (ze, .inr (2, [.int 0, .int 0, .int 4096, .int 0, .int 4096, .int (-2000000001), .int (-2000000001), .int (-2000000001)])), (zs, .inl (g 4, 4, .inr (.inr (.inr (.inr (fun _ => some zn)))))), (zh, .inr (3, [.ref zb, .int 0])), (zb, .inl (g 3, 24, .inr (.inr (.inr (.inr (fun _ => none)))))), (zn, .inr (4, [.int 0, .int 4096])), (q4, .inl (g 2, 4, .inr (.inr (.inr (.inr (fun _ => none)))))), (q3, .inr (3, [.ref q4, .int 0])), (q6, .inr (5, []))] := hD
  refine lv_dup (pc := 34) hx hb dX0_init_34 rfl ?_
  have hFc := awF (Lc := [q6]) hD hS hA [9] rfl
  refine kV (pc := 35) (va_runIN (As := []) (rest := [.ref q6, .ref xo]) ⟨hx, hb, hml, hown, hts⟩ (m5_init l q6 H (hP.sub (ws' := [(q6, .inr (5, []))]) [9] rfl)) ⟨va_cnB 0 hts (lw_meth q175) rfl rfl rfl (hK.2.1 _ nq173) (hts _ q27) (by decide +kernel) ⟨Nat.le_of_ble_eq_true rfl, Nat.le_of_ble_eq_true rfl⟩, rfl, hts _ q174⟩ (preS hK) rfl rfl hl.1 rfl (lv_room (Nat.le_of_ble_eq_true rfl)) dX0_init_35 ⟨Nat.le_of_ble_eq_true rfl, Nat.le_of_ble_eq_true rfl⟩) hS hFc (fun H locs hp9 hz1 hk1 hS => ?_)
  have hP1 := hp9
  obtain ⟨hP, hD⟩ := jn (wr := [(xo, .inr (0, [.ref q1, .ref q3, .null, .null])), (q1, .inr (1, [.ref ze, .int 0, .int 64, .ref zs, .int 9, .ref zh, .int 0, .int 0, .int 0])), (ze, .inr (2, [.int 0, .int 0, .int 4096, .int 0, .int 4096, .int (-2000000001), .int (-2000000001), .int (-2000000001)])), (zs, .inl (g 4, 4, .inr (.inr (.inr (.inr (fun _ => some zn)))))), (zh, .inr (3, [.ref zb, .int 0])), (zb, .inl (g 3, 24, .inr (.inr (.inr (.inr (fun _ => none)))))), (zn, .inr (4, [.int 0, .int 4096])), (q4, .inl (g 2, 4, .inr (.inr (.inr (.inr (fun _ => none)))))), (q3, .inr (3, [.ref q4, .int 0]))]) (w1 := [(q6, .inr (5, []))]) hP hD [9] [0, 1, 2, 3, 4, 5, 6, 7, 8] rfl rfl (by decide) (by decide) hk1 hFc hP1 (d1 (Or.inl (by simp)))
  have hP : va_P D vwCl [(xo, .inr (0, [.ref q1, .ref q3, .null, .null])), (q1, .inr (1, [.ref ze, .int 0, .int 64, .ref zs, .int 9, .ref zh, .int 0, .int 0, .int 0])), (ze, .inr (2, [.int 0, .int 0, .int 4096, .int 0, .int 4096, .int (-2000000001), .int (-2000000001), .int (-2000000001)])), (zs, .inl (g 4, 4, .inr (.inr (.inr (.inr (fun _ => some zn)))))), (zh, .inr (3, [.ref zb, .int 0])), (zb, .inl (g 3, 24, .inr (.inr (.inr (.inr (fun _ => none)))))), (zn, .inr (4, [.int 0, .int 4096])), (q4, .inl (g 2, 4, .inr (.inr (.inr (.inr (fun _ => none)))))), (q3, .inr (3, [.ref q4, .int 0])), (q6, .inr (5, []))] H := hP
  have hD : va_D (Aw [xo] s.heap.size) [(xo, .inr (0, [.ref q1, .ref q3, .null, .null])), (q1, .inr (1, [.ref ze, .int 0, .int 64, .ref zs, .int 9, .ref zh, .int 0, .int 0, .int 0])), (ze, .inr (2, [.int 0, .int 0, .int 4096, .int 0, .int 4096, .int (-2000000001), .int (-2000000001), .int (-2000000001)])), (zs, .inl (g 4, 4, .inr (.inr (.inr (.inr (fun _ => some zn)))))), (zh, .inr (3, [.ref zb, .int 0])), (zb, .inl (g 3, 24, .inr (.inr (.inr (.inr (fun _ => none)))))), (zn, .inr (4, [.int 0, .int 4096])), (q4, .inl (g 2, 4, .inr (.inr (.inr (.inr (fun _ => none)))))), (q3, .inr (3, [.ref q4, .int 0])), (q6, .inr (5, []))] := hD
  refine va_putF (pc := 38) (D := D) (ci := 0) (v := .ref q6) (ty := .object "TankFilter$Readings") (C := RX0) (T := TX0) (N := 4) hx hb hts in_X0 tyX0 tyX0_ok nmX0 hown hK.1 hP hD hS 0 rfl rfl 2 (by decide) (hts _ q180) (fun _ h9 => h9) rfl hin rfl (by decide +kernel) rfl rfl (Nat.le_of_ble_eq_true rfl) dX0_init_38 (fun H locs hP hD hS => ?_)
  have hP : va_P D vwCl [(xo, .inr (0, [.ref q1, .ref q3, .ref q6, .null])), (q1, .inr (1, [.ref ze, .int 0, .int 64, .ref zs, .int 9, .ref zh, .int 0, .int 0, .int 0])), (ze, .inr (2, [.int 0, .int 0, .int 4096, .int 0, .int 4096, .int (-2000000001), .int (-2000000001), .int (-2000000001)])), (zs, .inl (g 4, 4, .inr (.inr (.inr (.inr (fun _ => some zn)))))), (zh, .inr (3, [.ref zb, .int 0])), (zb, .inl (g 3, 24, .inr (.inr (.inr (.inr (fun _ => none)))))), (zn, .inr (4, [.int 0, .int 4096])), (q4, .inl (g 2, 4, .inr (.inr (.inr (.inr (fun _ => none)))))), (q3, .inr (3, [.ref q4, .int 0])), (q6, .inr (5, []))] H := hP
  have hD : va_D (Aw [xo] s.heap.size) [(xo, .inr (0, [.ref q1, .ref q3, .ref q6, .null])), (q1, .inr (1, [.ref ze, .int 0, .int 64, .ref zs, .int 9, .ref zh, .int 0, .int 0, .int 0])), (ze, .inr (2, [.int 0, .int 0, .int 4096, .int 0, .int 4096, .int (-2000000001), .int (-2000000001), .int (-2000000001)])), (zs, .inl (g 4, 4, .inr (.inr (.inr (.inr (fun _ => some zn)))))), (zh, .inr (3, [.ref zb, .int 0])), (zb, .inl (g 3, 24, .inr (.inr (.inr (.inr (fun _ => none)))))), (zn, .inr (4, [.int 0, .int 4096])), (q4, .inl (g 2, 4, .inr (.inr (.inr (.inr (fun _ => none)))))), (q3, .inr (3, [.ref q4, .int 0])), (q6, .inr (5, []))] := hD
  refine lv_aload_n (pc := 41) hx hb dX0_init_41 rfl (lv_at hl 0 rfl) ?_
  refine lv_iconst (pc := 42) (v := 3) hx hb dX0_init_42 (by decide) ?_
  refine va_newa (pc := 43) (atype := .int) (ty := .int) (N' := 3) (a0 := (3, .inl (fun _ => 0))) hx hb (hts _ q191) rfl hK.1 hP hD hS hA (fun _ => rfl) (by decide) (by decide) (by decide) (Nat.le_of_ble_eq_true rfl) (Nat.le_of_ble_eq_true rfl) dX0_init_43 (fun q8 cA H hK9 hP hD hS => ?_)
  have hcA : cA = g 0 := ra_int (hK9.2 5 _ rfl).2 (hK.1.2 0 _ rfl).2
  subst hcA
  have hP : va_P D vwCl [(xo, .inr (0, [.ref q1, .ref q3, .ref q6, .null])), (q1, .inr (1, [.ref ze, .int 0, .int 64, .ref zs, .int 9, .ref zh, .int 0, .int 0, .int 0])), (ze, .inr (2, [.int 0, .int 0, .int 4096, .int 0, .int 4096, .int (-2000000001), .int (-2000000001), .int (-2000000001)])), (zs, .inl (g 4, 4, .inr (.inr (.inr (.inr (fun _ => some zn)))))), (zh, .inr (3, [.ref zb, .int 0])), (zb, .inl (g 3, 24, .inr (.inr (.inr (.inr (fun _ => none)))))), (zn, .inr (4, [.int 0, .int 4096])), (q4, .inl (g 2, 4, .inr (.inr (.inr (.inr (fun _ => none)))))), (q3, .inr (3, [.ref q4, .int 0])), (q6, .inr (5, [])), (q8, .inl (g 0, 3, .inl (fun _ => 0)))] H := hP
  have hD : va_D (Aw [xo] s.heap.size) [(xo, .inr (0, [.ref q1, .ref q3, .ref q6, .null])), (q1, .inr (1, [.ref ze, .int 0, .int 64, .ref zs, .int 9, .ref zh, .int 0, .int 0, .int 0])), (ze, .inr (2, [.int 0, .int 0, .int 4096, .int 0, .int 4096, .int (-2000000001), .int (-2000000001), .int (-2000000001)])), (zs, .inl (g 4, 4, .inr (.inr (.inr (.inr (fun _ => some zn)))))), (zh, .inr (3, [.ref zb, .int 0])), (zb, .inl (g 3, 24, .inr (.inr (.inr (.inr (fun _ => none)))))), (zn, .inr (4, [.int 0, .int 4096])), (q4, .inl (g 2, 4, .inr (.inr (.inr (.inr (fun _ => none)))))), (q3, .inr (3, [.ref q4, .int 0])), (q6, .inr (5, [])), (q8, .inl (g 0, 3, .inl (fun _ => 0)))] := hD
  refine va_putF (pc := 45) (D := D) (ci := 0) (v := .ref q8) (ty := .array .int) (C := RX0) (T := TX0) (N := 4) hx hb hts in_X0 tyX0 tyX0_ok nmX0 hown hK.1 hP hD hS 0 rfl rfl 3 (by decide) (hts _ q181) (fun _ h9 => h9) rfl hin rfl (by decide +kernel) rfl rfl (Nat.le_of_ble_eq_true rfl) dX0_init_45 (fun H locs hP hD hS => ?_)
  have hP : va_P D vwCl [(xo, .inr (0, [.ref q1, .ref q3, .ref q6, .ref q8])), (q1, .inr (1, [.ref ze, .int 0, .int 64, .ref zs, .int 9, .ref zh, .int 0, .int 0, .int 0])), (ze, .inr (2, [.int 0, .int 0, .int 4096, .int 0, .int 4096, .int (-2000000001), .int (-2000000001), .int (-2000000001)])), (zs, .inl (g 4, 4, .inr (.inr (.inr (.inr (fun _ => some zn)))))), (zh, .inr (3, [.ref zb, .int 0])), (zb, .inl (g 3, 24, .inr (.inr (.inr (.inr (fun _ => none)))))), (zn, .inr (4, [.int 0, .int 4096])), (q4, .inl (g 2, 4, .inr (.inr (.inr (.inr (fun _ => none)))))), (q3, .inr (3, [.ref q4, .int 0])), (q6, .inr (5, [])), (q8, .inl (g 0, 3, .inl (fun _ => 0)))] H := hP
  have hD : va_D (Aw [xo] s.heap.size) [(xo, .inr (0, [.ref q1, .ref q3, .ref q6, .ref q8])), (q1, .inr (1, [.ref ze, .int 0, .int 64, .ref zs, .int 9, .ref zh, .int 0, .int 0, .int 0])), (ze, .inr (2, [.int 0, .int 0, .int 4096, .int 0, .int 4096, .int (-2000000001), .int (-2000000001), .int (-2000000001)])), (zs, .inl (g 4, 4, .inr (.inr (.inr (.inr (fun _ => some zn)))))), (zh, .inr (3, [.ref zb, .int 0])), (zb, .inl (g 3, 24, .inr (.inr (.inr (.inr (fun _ => none)))))), (zn, .inr (4, [.int 0, .int 4096])), (q4, .inl (g 2, 4, .inr (.inr (.inr (.inr (fun _ => none)))))), (q3, .inr (3, [.ref q4, .int 0])), (q6, .inr (5, [])), (q8, .inl (g 0, 3, .inl (fun _ => 0)))] := hD
  have hq9 : (fun H1 => ∃ (sv sa er rd cu qe qs qh qa qn : Nat), va_P D vwCl [(xo, .inr (0, [.ref cu, .ref sv, .ref rd, .ref er])), (sv, .inr (3, [.ref sa, .int 0])), (sa, .inl (g 2, 4, .inr (.inr (.inr (.inr (fun _ => none)))))), (er, .inl (g 0, 3, .inl (fun _ => 0))), (rd, .inr (5, [])), (cu, .inr (1, [.ref qe, .int 0, .int 64, .ref qs, .int 9, .ref qh, .int 0, .int 0, .int 0])), (qe, .inr (2, [.int 0, .int 0, .int 4096, .int 0, .int 4096, .int (-2000000001), .int (-2000000001), .int (-2000000001)])), (qs, .inl (g 4, 4, .inr (.inr (.inr (.inr (fun _ => some qn)))))), (qh, .inr (3, [.ref qa, .int 0])), (qa, .inl (g 3, 24, .inr (.inr (.inr (.inr (fun _ => none)))))), (qn, .inr (4, [.int 0, .int 4096]))] H1 ∧ va_D (Aw [xo] s.heap.size) [(xo, .inr (0, [.ref cu, .ref sv, .ref rd, .ref er])), (sv, .inr (3, [.ref sa, .int 0])), (sa, .inl (g 2, 4, .inr (.inr (.inr (.inr (fun _ => none)))))), (er, .inl (g 0, 3, .inl (fun _ => 0))), (rd, .inr (5, [])), (cu, .inr (1, [.ref qe, .int 0, .int 64, .ref qs, .int 9, .ref qh, .int 0, .int 0, .int 0])), (qe, .inr (2, [.int 0, .int 0, .int 4096, .int 0, .int 4096, .int (-2000000001), .int (-2000000001), .int (-2000000001)])), (qs, .inl (g 4, 4, .inr (.inr (.inr (.inr (fun _ => some qn)))))), (qh, .inr (3, [.ref qa, .int 0])), (qa, .inl (g 3, 24, .inr (.inr (.inr (.inr (fun _ => none)))))), (qn, .inr (4, [.int 0, .int 4096]))] : Heap → Prop) H := ⟨q3, q4, q8, q6, q1, ze, zs, zh, zb, zn, hP.sub [0, 8, 7, 10, 9, 1, 2, 3, 4, 5, 6] rfl, hD.sub [0, 8, 7, 10, 9, 1, 2, 3, 4, 5, 6] (by decide) rfl⟩
  exact W.vret hx hb hr (fun t ht hW => ⟨⟨rfl, by rw [ht]; exact hq9⟩, hS.F ht⟩) hS.2.2 dX0_init_48
