/-! the worlds' classes; X5 has no fields -/
def TX5 : u_T := fun _ => ("", "", "", false)
def tyX5 : Nat → FieldType := fun _ => .int
theorem tyX5_ok : ∀ k, k < 0 → parseFieldDescriptor (TX5 k).2.2.1 = some (tyX5 k) := fun k h => absurd h (Nat.not_lt_zero k)
theorem in_X5 : ∀ w ∈ u_ws RX5 TX5 0, w ∈ lw_all := fun w h => by simp [u_ws] at h
abbrev vwCl : List vw_C := [(RX0, TX0, 4), (RX1, TX1, 9), (RX2, TX2, 8), (RX3, TX3, 2), (RX4, TX4, 2), (RX5, TX5, 0), (RX6, TX6, 9), (RX7, TX7, 6), (RX8, TX8, 2)]
abbrev tyG (g : Nat → ClassId) : List (ClassId × FieldType) := [(g 0, .int), (g 1, .long), (g 2, .object RX1), (g 3, .object RX8), (g 4, .object RX4)]
/-! words that don't ride in the list: links among nest mates, a cast -/
def NF : List (String × Nat × String × String × String) := [("TankFilter$State", 85, "TankFilter$Estimate", "x", "I"), ("TankFilter", 111, "TankFilter$Estimate", "x", "I"), ("TankFilter", 114, "TankFilter$Estimate", "v", "I"), ("TankFilter", 117, "TankFilter$Estimate", "a", "I"), ("TankFilter", 171, "TankFilter$Estimate", "b", "I"), ("TankFilter", 120, "TankFilter$Estimate", "c", "I"), ("TankFilter$State", 126, "TankFilter$Estimate", "innovation", "I"), ("TankFilter", 174, "TankFilter$Estimate", "innovation", "I"), ("TankFilter$State", 103, "TankFilter$Estimate", "levelGain", "I"), ("TankFilter", 177, "TankFilter$Estimate", "levelGain", "I"), ("TankFilter$State", 106, "TankFilter$Estimate", "flowGain", "I"), ("TankFilter", 180, "TankFilter$Estimate", "flowGain", "I"), ("TankFilter$State", 109, "TankFilter$Recent", "size", "I"), ("TankFilter", 96, "TankFilter$Recent", "size", "I"), ("TankFilter$Estimate", 46, "TankFilter$Sensor", "kind", "I"), ("TankFilter", 223, "TankFilter$Sensor", "kind", "I"), ("TankFilter$Estimate", 57, "TankFilter$Sensor", "variance", "I"), ("TankFilter", 145, "TankFilter$Sensor", "variance", "I"), ("TankFilter", 100, "TankFilter$State", "estimate", "LTankFilter$Estimate;"), ("TankFilter", 135, "TankFilter$State", "levelNoise", "I"), ("TankFilter", 132, "TankFilter$State", "flowNoise", "I"), ("TankFilter", 141, "TankFilter$State", "sensors", "[LTankFilter$Sensor;"), ("TankFilter", 155, "TankFilter$State", "gate", "I"), ("TankFilter", 93, "TankFilter$State", "history", "LTankFilter$Recent;"), ("TankFilter", 123, "TankFilter$State", "accepted", "I"), ("TankFilter", 126, "TankFilter$State", "rejected", "I"), ("TankFilter", 129, "TankFilter$State", "missed", "I"), ("TankFilter$State", 120, "TankFilter$Event", "sensor", "I"), ("TankFilter", 234, "TankFilter$Event", "sensor", "I"), ("TankFilter$State", 123, "TankFilter$Event", "value", "I"), ("TankFilter", 237, "TankFilter$Event", "value", "I")]
def NM : List (String × Nat × MethodName) := [("TankFilter$State", 11, ⟨"TankFilter$Estimate", "<init>", "()V"⟩), ("TankFilter", 50, ⟨"TankFilter$Readings", "<init>", "()V"⟩), ("TankFilter", 106, ⟨"TankFilter$Estimate", "<init>", "()V"⟩), ("TankFilter$Estimate", 37, ⟨"TankFilter", "limited", "(J)I"⟩), ("TankFilter$Estimate", 66, ⟨"TankFilter", "div", "(JJ)J"⟩), ("TankFilter$Estimate", 69, ⟨"TankFilter", "mul", "(JJ)J"⟩), ("TankFilter$State", 91, ⟨"TankFilter$Estimate", "measured", "(LTankFilter$Sensor;)I"⟩), ("TankFilter$State", 135, ⟨"TankFilter", "limited", "(J)I"⟩)]
def NWL : List Cond := NF.map (fun t => Cond.fieldLinkNest t.1 t.2.1 t.2.2.1 t.2.2.2.1 t.2.2.2.2 "TankFilter") ++ (NM.map (fun t => Cond.methodLinkNest t.1 t.2.1 t.2.2 "TankFilter") ++ [Cond.castable "TankFilter$LimitExceeded" "TankFilter$LimitExceeded"])
theorem nq57 : Cond.fieldLinkNest "TankFilter$State" 85 "TankFilter$Estimate" "x" "I" "TankFilter" ∈ NWL := List.mem_of_getElem? (i := 0) rfl
theorem nq58 : Cond.fieldLinkNest "TankFilter" 111 "TankFilter$Estimate" "x" "I" "TankFilter" ∈ NWL := List.mem_of_getElem? (i := 1) rfl
theorem nq60 : Cond.fieldLinkNest "TankFilter" 114 "TankFilter$Estimate" "v" "I" "TankFilter" ∈ NWL := List.mem_of_getElem? (i := 2) rfl
theorem nq62 : Cond.fieldLinkNest "TankFilter" 117 "TankFilter$Estimate" "a" "I" "TankFilter" ∈ NWL := List.mem_of_getElem? (i := 3) rfl
theorem nq64 : Cond.fieldLinkNest "TankFilter" 171 "TankFilter$Estimate" "b" "I" "TankFilter" ∈ NWL := List.mem_of_getElem? (i := 4) rfl
theorem nq66 : Cond.fieldLinkNest "TankFilter" 120 "TankFilter$Estimate" "c" "I" "TankFilter" ∈ NWL := List.mem_of_getElem? (i := 5) rfl
theorem nq68 : Cond.fieldLinkNest "TankFilter$State" 126 "TankFilter$Estimate" "innovation" "I" "TankFilter" ∈ NWL := List.mem_of_getElem? (i := 6) rfl
theorem nq69 : Cond.fieldLinkNest "TankFilter" 174 "TankFilter$Estimate" "innovation" "I" "TankFilter" ∈ NWL := List.mem_of_getElem? (i := 7) rfl
theorem nq71 : Cond.fieldLinkNest "TankFilter$State" 103 "TankFilter$Estimate" "levelGain" "I" "TankFilter" ∈ NWL := List.mem_of_getElem? (i := 8) rfl
theorem nq72 : Cond.fieldLinkNest "TankFilter" 177 "TankFilter$Estimate" "levelGain" "I" "TankFilter" ∈ NWL := List.mem_of_getElem? (i := 9) rfl
theorem nq74 : Cond.fieldLinkNest "TankFilter$State" 106 "TankFilter$Estimate" "flowGain" "I" "TankFilter" ∈ NWL := List.mem_of_getElem? (i := 10) rfl
theorem nq75 : Cond.fieldLinkNest "TankFilter" 180 "TankFilter$Estimate" "flowGain" "I" "TankFilter" ∈ NWL := List.mem_of_getElem? (i := 11) rfl
theorem nq105 : Cond.fieldLinkNest "TankFilter$State" 109 "TankFilter$Recent" "size" "I" "TankFilter" ∈ NWL := List.mem_of_getElem? (i := 12) rfl
theorem nq106 : Cond.fieldLinkNest "TankFilter" 96 "TankFilter$Recent" "size" "I" "TankFilter" ∈ NWL := List.mem_of_getElem? (i := 13) rfl
theorem nq118 : Cond.fieldLinkNest "TankFilter$Estimate" 46 "TankFilter$Sensor" "kind" "I" "TankFilter" ∈ NWL := List.mem_of_getElem? (i := 14) rfl
theorem nq119 : Cond.fieldLinkNest "TankFilter" 223 "TankFilter$Sensor" "kind" "I" "TankFilter" ∈ NWL := List.mem_of_getElem? (i := 15) rfl
theorem nq121 : Cond.fieldLinkNest "TankFilter$Estimate" 57 "TankFilter$Sensor" "variance" "I" "TankFilter" ∈ NWL := List.mem_of_getElem? (i := 16) rfl
theorem nq122 : Cond.fieldLinkNest "TankFilter" 145 "TankFilter$Sensor" "variance" "I" "TankFilter" ∈ NWL := List.mem_of_getElem? (i := 17) rfl
theorem nq132 : Cond.fieldLinkNest "TankFilter" 100 "TankFilter$State" "estimate" "LTankFilter$Estimate;" "TankFilter" ∈ NWL := List.mem_of_getElem? (i := 18) rfl
theorem nq134 : Cond.fieldLinkNest "TankFilter" 135 "TankFilter$State" "levelNoise" "I" "TankFilter" ∈ NWL := List.mem_of_getElem? (i := 19) rfl
theorem nq136 : Cond.fieldLinkNest "TankFilter" 132 "TankFilter$State" "flowNoise" "I" "TankFilter" ∈ NWL := List.mem_of_getElem? (i := 20) rfl
theorem nq138 : Cond.fieldLinkNest "TankFilter" 141 "TankFilter$State" "sensors" "[LTankFilter$Sensor;" "TankFilter" ∈ NWL := List.mem_of_getElem? (i := 21) rfl
theorem nq140 : Cond.fieldLinkNest "TankFilter" 155 "TankFilter$State" "gate" "I" "TankFilter" ∈ NWL := List.mem_of_getElem? (i := 22) rfl
theorem nq142 : Cond.fieldLinkNest "TankFilter" 93 "TankFilter$State" "history" "LTankFilter$Recent;" "TankFilter" ∈ NWL := List.mem_of_getElem? (i := 23) rfl
theorem nq144 : Cond.fieldLinkNest "TankFilter" 123 "TankFilter$State" "accepted" "I" "TankFilter" ∈ NWL := List.mem_of_getElem? (i := 24) rfl
theorem nq146 : Cond.fieldLinkNest "TankFilter" 126 "TankFilter$State" "rejected" "I" "TankFilter" ∈ NWL := List.mem_of_getElem? (i := 25) rfl
theorem nq148 : Cond.fieldLinkNest "TankFilter" 129 "TankFilter$State" "missed" "I" "TankFilter" ∈ NWL := List.mem_of_getElem? (i := 26) rfl
theorem nq350 : Cond.fieldLinkNest "TankFilter$State" 120 "TankFilter$Event" "sensor" "I" "TankFilter" ∈ NWL := List.mem_of_getElem? (i := 27) rfl
theorem nq351 : Cond.fieldLinkNest "TankFilter" 234 "TankFilter$Event" "sensor" "I" "TankFilter" ∈ NWL := List.mem_of_getElem? (i := 28) rfl
theorem nq353 : Cond.fieldLinkNest "TankFilter$State" 123 "TankFilter$Event" "value" "I" "TankFilter" ∈ NWL := List.mem_of_getElem? (i := 29) rfl
theorem nq354 : Cond.fieldLinkNest "TankFilter" 237 "TankFilter$Event" "value" "I" "TankFilter" ∈ NWL := List.mem_of_getElem? (i := 30) rfl
theorem nq51 : Cond.methodLinkNest "TankFilter$State" 11 ⟨"TankFilter$Estimate", "<init>", "()V"⟩ "TankFilter" ∈ NWL := List.mem_of_getElem? (i := 31) rfl
theorem nq173 : Cond.methodLinkNest "TankFilter" 50 ⟨"TankFilter$Readings", "<init>", "()V"⟩ "TankFilter" ∈ NWL := List.mem_of_getElem? (i := 32) rfl
theorem nq242 : Cond.methodLinkNest "TankFilter" 106 ⟨"TankFilter$Estimate", "<init>", "()V"⟩ "TankFilter" ∈ NWL := List.mem_of_getElem? (i := 33) rfl
theorem nq272 : Cond.methodLinkNest "TankFilter$Estimate" 37 ⟨"TankFilter", "limited", "(J)I"⟩ "TankFilter" ∈ NWL := List.mem_of_getElem? (i := 34) rfl
theorem nq374 : Cond.methodLinkNest "TankFilter$Estimate" 66 ⟨"TankFilter", "div", "(JJ)J"⟩ "TankFilter" ∈ NWL := List.mem_of_getElem? (i := 35) rfl
theorem nq382 : Cond.methodLinkNest "TankFilter$Estimate" 69 ⟨"TankFilter", "mul", "(JJ)J"⟩ "TankFilter" ∈ NWL := List.mem_of_getElem? (i := 36) rfl
theorem nq475 : Cond.methodLinkNest "TankFilter$State" 91 ⟨"TankFilter$Estimate", "measured", "(LTankFilter$Sensor;)I"⟩ "TankFilter" ∈ NWL := List.mem_of_getElem? (i := 37) rfl
theorem nq529 : Cond.methodLinkNest "TankFilter$State" 135 ⟨"TankFilter", "limited", "(J)I"⟩ "TankFilter" ∈ NWL := List.mem_of_getElem? (i := 38) rfl
theorem nq278 : Cond.castable "TankFilter$LimitExceeded" "TankFilter$LimitExceeded" ∈ NWL := List.mem_of_getElem? (i := 39) rfl
theorem NWL_tbl : ∀ w ∈ NWL, w ∈ lw_tbl := by
  show ∀ w ∈ [Cond.fieldLinkNest "TankFilter$State" 85 "TankFilter$Estimate" "x" "I" "TankFilter", Cond.fieldLinkNest "TankFilter" 111 "TankFilter$Estimate" "x" "I" "TankFilter", Cond.fieldLinkNest "TankFilter" 114 "TankFilter$Estimate" "v" "I" "TankFilter", Cond.fieldLinkNest "TankFilter" 117 "TankFilter$Estimate" "a" "I" "TankFilter", Cond.fieldLinkNest "TankFilter" 171 "TankFilter$Estimate" "b" "I" "TankFilter", Cond.fieldLinkNest "TankFilter" 120 "TankFilter$Estimate" "c" "I" "TankFilter", Cond.fieldLinkNest "TankFilter$State" 126 "TankFilter$Estimate" "innovation" "I" "TankFilter", Cond.fieldLinkNest "TankFilter" 174 "TankFilter$Estimate" "innovation" "I" "TankFilter", Cond.fieldLinkNest "TankFilter$State" 103 "TankFilter$Estimate" "levelGain" "I" "TankFilter", Cond.fieldLinkNest "TankFilter" 177 "TankFilter$Estimate" "levelGain" "I" "TankFilter", Cond.fieldLinkNest "TankFilter$State" 106 "TankFilter$Estimate" "flowGain" "I" "TankFilter", Cond.fieldLinkNest "TankFilter" 180 "TankFilter$Estimate" "flowGain" "I" "TankFilter", Cond.fieldLinkNest "TankFilter$State" 109 "TankFilter$Recent" "size" "I" "TankFilter", Cond.fieldLinkNest "TankFilter" 96 "TankFilter$Recent" "size" "I" "TankFilter", Cond.fieldLinkNest "TankFilter$Estimate" 46 "TankFilter$Sensor" "kind" "I" "TankFilter", Cond.fieldLinkNest "TankFilter" 223 "TankFilter$Sensor" "kind" "I" "TankFilter", Cond.fieldLinkNest "TankFilter$Estimate" 57 "TankFilter$Sensor" "variance" "I" "TankFilter", Cond.fieldLinkNest "TankFilter" 145 "TankFilter$Sensor" "variance" "I" "TankFilter", Cond.fieldLinkNest "TankFilter" 100 "TankFilter$State" "estimate" "LTankFilter$Estimate;" "TankFilter", Cond.fieldLinkNest "TankFilter" 135 "TankFilter$State" "levelNoise" "I" "TankFilter", Cond.fieldLinkNest "TankFilter" 132 "TankFilter$State" "flowNoise" "I" "TankFilter", Cond.fieldLinkNest "TankFilter" 141 "TankFilter$State" "sensors" "[LTankFilter$Sensor;" "TankFilter", Cond.fieldLinkNest "TankFilter" 155 "TankFilter$State" "gate" "I" "TankFilter", Cond.fieldLinkNest "TankFilter" 93 "TankFilter$State" "history" "LTankFilter$Recent;" "TankFilter", Cond.fieldLinkNest "TankFilter" 123 "TankFilter$State" "accepted" "I" "TankFilter", Cond.fieldLinkNest "TankFilter" 126 "TankFilter$State" "rejected" "I" "TankFilter", Cond.fieldLinkNest "TankFilter" 129 "TankFilter$State" "missed" "I" "TankFilter", Cond.fieldLinkNest "TankFilter$State" 120 "TankFilter$Event" "sensor" "I" "TankFilter", Cond.fieldLinkNest "TankFilter" 234 "TankFilter$Event" "sensor" "I" "TankFilter", Cond.fieldLinkNest "TankFilter$State" 123 "TankFilter$Event" "value" "I" "TankFilter", Cond.fieldLinkNest "TankFilter" 237 "TankFilter$Event" "value" "I" "TankFilter", Cond.methodLinkNest "TankFilter$State" 11 ⟨"TankFilter$Estimate", "<init>", "()V"⟩ "TankFilter", Cond.methodLinkNest "TankFilter" 50 ⟨"TankFilter$Readings", "<init>", "()V"⟩ "TankFilter", Cond.methodLinkNest "TankFilter" 106 ⟨"TankFilter$Estimate", "<init>", "()V"⟩ "TankFilter", Cond.methodLinkNest "TankFilter$Estimate" 37 ⟨"TankFilter", "limited", "(J)I"⟩ "TankFilter", Cond.methodLinkNest "TankFilter$Estimate" 66 ⟨"TankFilter", "div", "(JJ)J"⟩ "TankFilter", Cond.methodLinkNest "TankFilter$Estimate" 69 ⟨"TankFilter", "mul", "(JJ)J"⟩ "TankFilter", Cond.methodLinkNest "TankFilter$State" 91 ⟨"TankFilter$Estimate", "measured", "(LTankFilter$Sensor;)I"⟩ "TankFilter", Cond.methodLinkNest "TankFilter$State" 135 ⟨"TankFilter", "limited", "(J)I"⟩ "TankFilter", Cond.castable "TankFilter$LimitExceeded" "TankFilter$LimitExceeded"], w ∈ lw_tbl
  exact List.forall_mem_cons.mpr ⟨q57, List.forall_mem_cons.mpr ⟨q58, List.forall_mem_cons.mpr ⟨q60, List.forall_mem_cons.mpr ⟨q62, List.forall_mem_cons.mpr ⟨q64, List.forall_mem_cons.mpr ⟨q66, List.forall_mem_cons.mpr ⟨q68, List.forall_mem_cons.mpr ⟨q69, List.forall_mem_cons.mpr ⟨q71, List.forall_mem_cons.mpr ⟨q72, List.forall_mem_cons.mpr ⟨q74, List.forall_mem_cons.mpr ⟨q75, List.forall_mem_cons.mpr ⟨q105, List.forall_mem_cons.mpr ⟨q106, List.forall_mem_cons.mpr ⟨q118, List.forall_mem_cons.mpr ⟨q119, List.forall_mem_cons.mpr ⟨q121, List.forall_mem_cons.mpr ⟨q122, List.forall_mem_cons.mpr ⟨q132, List.forall_mem_cons.mpr ⟨q134, List.forall_mem_cons.mpr ⟨q136, List.forall_mem_cons.mpr ⟨q138, List.forall_mem_cons.mpr ⟨q140, List.forall_mem_cons.mpr ⟨q142, List.forall_mem_cons.mpr ⟨q144, List.forall_mem_cons.mpr ⟨q146, List.forall_mem_cons.mpr ⟨q148, List.forall_mem_cons.mpr ⟨q350, List.forall_mem_cons.mpr ⟨q351, List.forall_mem_cons.mpr ⟨q353, List.forall_mem_cons.mpr ⟨q354, List.forall_mem_cons.mpr ⟨q51, List.forall_mem_cons.mpr ⟨q173, List.forall_mem_cons.mpr ⟨q242, List.forall_mem_cons.mpr ⟨q272, List.forall_mem_cons.mpr ⟨q374, List.forall_mem_cons.mpr ⟨q382, List.forall_mem_cons.mpr ⟨q475, List.forall_mem_cons.mpr ⟨q529, List.forall_mem_cons.mpr ⟨q278, fun _ h => absurd h List.not_mem_nil⟩⟩⟩⟩⟩⟩⟩⟩⟩⟩⟩⟩⟩⟩⟩⟩⟩⟩⟩⟩⟩⟩⟩⟩⟩⟩⟩⟩⟩⟩⟩⟩⟩⟩⟩⟩⟩⟩⟩⟩
theorem NWL_on : ∀ w ∈ NWL, w.onTables = true := by
  intro w hw
  rcases List.mem_append.mp hw with h | h
  · obtain ⟨t, -, rfl⟩ := List.mem_map.mp h
    rfl
  · rcases List.mem_append.mp h with h | h
    · obtain ⟨t, -, rfl⟩ := List.mem_map.mp h
      rfl
    · rw [List.mem_singleton.mp h]
      rfl
def yTest : MethodName := ⟨"TankFilter$Test", "passes", "(Ljava/lang/Object;)Z"⟩
/-- what is known of the classes all through a run -/
def KK (D : va_G) (g : Nat → ClassId) (U : State) : Prop := va_K D vwCl (tyG g) U ∧ (∀ w ∈ NWL, va_Nw w U) ∧ va_AO RX1 U ∧ va_AO RX8 U ∧ va_AO RX4 U ∧ va_Fw RX5 yTest yX5_passes U
theorem KK.n {D : va_G} {g : Nat → ClassId} {s : State} {args : Array Value} (h : KK D g s) {w : Cond} (hw : w ∈ NWL) : w.before args s = true := va_Nw.use (NWL_on w hw) (h.2.1 w hw)
theorem KK.same {D : va_G} {g : Nat → ClassId} {u U : State} (e : u.vm = U.vm) (h : KK D g u) : KK D g U := by
  have ha : u.vm.Alike U.vm := by rw [e]; exact Vm.Alike.refl _
  obtain ⟨h1, h2, h3, h4, h5, h6⟩ := h
  exact ⟨va_K.moved ha h1, fun w hw => va_Nw.same (NWL_on w hw) e (h2 w hw), h3.moved ha, h4.moved ha, h5.moved ha, h6.moved ⟨by decide, by decide⟩ ha⟩
theorem KK.warm {D : va_G} {g : Nat → ClassId} {s U : State} (hW : s.WarmedH U.vm) (h : KK D g s) : KK D g U := by
  have ha := hW.alike
  obtain ⟨h1, h2, h3, h4, h5, h6⟩ := h
  refine ⟨va_K.moved ha h1, fun w hw => ?_, h3.moved ha, h4.moved ha, h5.moved ha, h6.moved ⟨by decide, by decide⟩ ha⟩
  have h0 := h2 w hw
  rcases List.mem_append.mp hw with h | h
  · obtain ⟨t, -, rfl⟩ := List.mem_map.mp h
    exact va_Nw.warmF hW h0
  · rcases List.mem_append.mp h with h | h
    · obtain ⟨t, -, rfl⟩ := List.mem_map.mp h
      exact va_Nw.warmM hW h0
    · rw [List.mem_singleton.mp h] at h0 ⊢
      exact va_Nw.warmC hW h0
/-- the two statics of Throwable, their cell at za -/
def ZZ (za : Nat) (U : State) (H : Heap) : Prop := va_Zq "java/lang/Throwable" "UNASSIGNED_STACK" "[Ljava/lang/StackTraceElement;" (fun q => q ≠ za) U H ∧ va_Zq "java/lang/Throwable" "SUPPRESSED_SENTINEL" "Ljava/util/List;" (fun q => q ≠ za) U H
theorem ZZ.moved {za : Nat} {u U : State} {H : Heap} (hvm : u.vm.Alike U.vm) (h : ZZ za u H) : ZZ za U H := ⟨h.1.moved hvm, h.2.moved hvm⟩
theorem ZZ.kept {za : Nat} {U : State} {H H1 : Heap} (h : ZZ za U H) (hq : H1[za]? = H[za]?) : ZZ za U H1 := ⟨h.1.kept (fun a _ h => by rw [Decidable.of_not_not h]; exact hq), h.2.kept (fun a _ h => by rw [Decidable.of_not_not h]; exact hq)⟩
theorem zq_lt {C n d : String} {za : Nat} {U : State} {H : Heap} (h : va_Zq C n d (fun q => q ≠ za) U H) : za < H.size := by
  rcases h with h | ⟨t, h⟩
  · obtain ⟨cf, kf, fi, f, a, cell, -, -, -, -, h1, h2⟩ := h
    have ha : a = za := by
      apply Decidable.of_not_not
      intro hne
      exact h2.2.2 hne
    rw [← ha]; exact (Array.getElem?_eq_some_iff.mp h1).1
  · obtain ⟨cf, kf, fi, f, a, cell, -, -, -, -, h1, h2⟩ := h
    have ha : a = za := by
      apply Decidable.of_not_not
      intro hne
      exact h2.2.2 hne
    rw [← ha]; exact (Array.getElem?_eq_some_iff.mp h1).1
theorem ZZ.lt {za : Nat} {U : State} {H : Heap} (h : ZZ za U H) : za < H.size := zq_lt h.1
/-- a contract's start: the heap by name -/
def PH (D : va_G) (g : Nat → ClassId) (H : Heap) (U : State) : Prop := U.heap = H ∧ KK D g U
def PZ (D : va_G) (g : Nat → ClassId) (za : Nat) (H : Heap) (U : State) : Prop := U.heap = H ∧ KK D g U ∧ ZZ za U H
theorem preS {D : va_G} {g : Nat → ClassId} {s : State} {H : Heap} {As : List Value} (hK : KK D g s) : PreS s H (va_Pc As (PH D g H)) As := ⟨fun a9 U g9 mk q => ⟨q.1, q.2.1, KK.same (u := U) (U := U.calling g9 mk a9) rfl q.2.2⟩, fun _ hU hW => ⟨rfl, hU, hK.warm hW⟩⟩
theorem preSZ {D : va_G} {g : Nat → ClassId} {za : Nat} {s : State} {H : Heap} {As : List Value} (hK : KK D g s) (hZ : ZZ za s H) : PreS s H (va_Pc As (PZ D g za H)) As := ⟨fun a9 U g9 mk q => ⟨q.1, q.2.1, KK.same (u := U) (U := U.calling g9 mk a9) rfl q.2.2.1, ZZ.moved (u := U) (U := U.calling g9 mk _) (Vm.Alike.refl U.vm) q.2.2.2⟩, fun _ hU hW => ⟨rfl, hU, hK.warm hW, hZ.moved hW.alike⟩⟩
theorem preV {D : va_G} {g : Nat → ClassId} {s : State} {H : Heap} {C : String} {b : Addr} {As : List Value} (hK : KK D g s) (hr : ∃ cellB : Cell, H[b]? = some cellB ∧ cellB.vm.isStatics = false ∧ s.vm.findClass C = some cellB.cls) : PreV s H C b (va_Pc (.ref b :: As) (PH D g H)) As := ⟨fun a9 U g9 mk q => ⟨q.1, q.2.1, KK.same (u := U) (U := U.calling g9 mk a9) rfl q.2.2⟩, hr, fun _ hU hW => ⟨rfl, hU, hK.warm hW⟩⟩
theorem preVZ {D : va_G} {g : Nat → ClassId} {za : Nat} {s : State} {H : Heap} {C : String} {b : Addr} {As : List Value} (hK : KK D g s) (hZ : ZZ za s H) (hr : ∃ cellB : Cell, H[b]? = some cellB ∧ cellB.vm.isStatics = false ∧ s.vm.findClass C = some cellB.cls) : PreV s H C b (va_Pc (.ref b :: As) (PZ D g za H)) As := ⟨fun a9 U g9 mk q => ⟨q.1, q.2.1, KK.same (u := U) (U := U.calling g9 mk a9) rfl q.2.2.1, ZZ.moved (u := U) (U := U.calling g9 mk _) (Vm.Alike.refl U.vm) q.2.2.2⟩, hr, fun _ hU hW => ⟨rfl, hU, hK.warm hW, hZ.moved hW.alike⟩⟩
/-- which cells a method may change: those of L, and new ones -/
def Aw (L : List Nat) (n : Nat) : Nat → Prop := fun q => q ∈ L ∨ n ≤ q
/-- ends: the answer and the heap behind it -/
def QI (post : Int32 → Heap → Prop) (A : Nat → Prop) : Array Value → State → Outcome → State → Prop := fun _ st oc t => (∃ r : Int32, oc = .returned (some (.int r)) ∧ post r t.heap) ∧ va_F A st t
def QL (post : Int64 → Heap → Prop) (A : Nat → Prop) : Array Value → State → Outcome → State → Prop := fun _ st oc t => (∃ r : Int64, oc = .returned (some (.long r)) ∧ post r t.heap) ∧ va_F A st t
def QR (post : Nat → Heap → Prop) (A : Nat → Prop) : Array Value → State → Outcome → State → Prop := fun _ st oc t => (∃ r : Nat, oc = .returned (some (.ref r)) ∧ post r t.heap) ∧ va_F A st t
def QV (post : Heap → Prop) (A : Nat → Prop) : Array Value → State → Outcome → State → Prop := fun _ st oc t => (oc = .returned none ∧ post t.heap) ∧ va_F A st t
/-- LimitExceeded leaves, and P holds: nothing old has changed -/
def XL (P : Prop) : String → State → State → Prop := fun E st t => E = RX7 ∧ P ∧ va_F (fun q => st.heap.size ≤ q) st t
section SRULES
variable {p : Program} {l : Launch} {e : Env} {R : Room} {s : State} {m : MethodId} {args : Array Value} {below : List Frame} {meth : Method} {c : Code} {H : Heap} {locs : List Loc} {cells slots : Nat} {Q : State → Prop}
variable {pc : Nat} {ls : Array Slot} {rest st0 : List Value} {a : Array Value} {A0 A1 : Nat → Prop} {H0 : Heap} {mc ms : Nat}
theorem st_same {T T' : State} {locs' : List Loc} {cells' slots' : Nat} (X : Stand p l e R s m args below meth c T locs cells slots) (X' : Stand p l e R s m args below meth c T' locs' cells' slots') (h : T'.heap = T.heap) : Stand p l e R s m args below meth c T' locs cells slots := by
  have h1 := X.same
  have h2 := X'.same
  have e1 : (T.setVm s.vm).heap = T.heap := rfl
  have e2 : (T'.setVm s.vm).heap = T.heap := h
  refine { X' with same := ?_ }
  obtain ⟨a1, a2, a3, a4, a5, a6⟩ := h1
  obtain ⟨b1, b2, b3, b4, b5, b6⟩ := h2
  refine ⟨b1, b2, ?_, b4, ?_, ?_⟩
  · rw [e2]; rw [e1] at a3; exact a3
  · rw [e2]; rw [e1] at a5; exact a5
  · rw [e2]; rw [e1] at a6; exact a6
theorem kI {post : Int32 → Heap → Prop} (hr : va_Run p l e R s m args below meth c H locs cells slots mc ms (F0 m pc ls st0) rest (QI post A1 a) A1) (hS : va_S A0 H0 H locs) (hA : ∀ q, A1 q → A0 q)
    (kk : ∀ (r : Int32) (H1 : Heap) (locs1 : List Loc), post r H1 → H.size ≤ H1.size → (∀ q : Nat, q < H.size → ¬ A1 q → H1[q]? = H[q]?) → va_S A0 H0 H1 locs1 → W p l e R s m args below meth c H1 locs1 (cells + mc) (slots + ms) Q (F0 m (pc + 3) ls (.int r :: rest))) : W p l e R s m args below meth c H locs cells slots Q (F0 m pc ls st0) := by
  intro T hT X
  obtain ⟨v, st₀, t, T', L, h0, X', hL, e1, e2, ⟨⟨r, hv, hp⟩, hF⟩, st⟩ := hr T hT X
  cases hv
  obtain ⟨k1, k2, k3⟩ := vx_keep h0 e1 hS (fun q _ h => hA q h) hA hL hF
  obtain ⟨t2, a1, b1⟩ := kk r T'.heap (locs ++ L) (by rw [e1]; exact hp) k1 k2 k3 T' rfl X'
  exact ⟨t2, st t2 a1, b1⟩
theorem xI {post : Int32 → Heap → Prop} {P : Prop} (hr : vx_Run p l e R s m args below meth c H locs cells slots mc ms (F0 m pc ls st0) rest (QI post A1 a) (XL P) A1) (hS : va_S A0 H0 H locs) (hA : ∀ q, A1 q → A0 q)
    (kx : ∀ (ce : Cell) (q9 : Addr) (H1 : Heap) (locs1 : List Loc), P → H.size ≤ H1.size → (∀ q : Nat, q < H.size → H1[q]? = H[q]?) → va_S A0 H0 H1 locs1 → H1[q9]? = some ce → ce.vm = .none → s.vm.findClass RX7 = some ce.cls → vx_W p l e R s m args below meth c H1 locs1 (cells + mc) (slots + ms) Q (F0 m pc ls rest) q9)
    (kk : ∀ (r : Int32) (H1 : Heap) (locs1 : List Loc), post r H1 → H.size ≤ H1.size → (∀ q : Nat, q < H.size → ¬ A1 q → H1[q]? = H[q]?) → va_S A0 H0 H1 locs1 → W p l e R s m args below meth c H1 locs1 (cells + mc) (slots + ms) Q (F0 m (pc + 3) ls (.int r :: rest))) : W p l e R s m args below meth c H locs cells slots Q (F0 m pc ls st0) := by
  intro T hT X
  rcases hr T hT X with ⟨v, st₀, t, T', L, h0, X', hL, e1, e2, ⟨⟨r, hv, hp⟩, hF⟩, st⟩ | ⟨q, st₀, t, T', L, E, ce, h0, X', hL, e1, e2, ⟨hE, hP, hF⟩, hce, hcv, hcl, st⟩
  · cases hv
    obtain ⟨k1, k2, k3⟩ := vx_keep h0 e1 hS (fun q _ h => hA q h) hA hL hF
    obtain ⟨t2, a1, b1⟩ := kk r T'.heap (locs ++ L) (by rw [e1]; exact hp) k1 k2 k3 T' rfl X'
    exact ⟨t2, st t2 a1, b1⟩
  · subst hE
    rw [h0] at hF
    obtain ⟨k1, k2, k3⟩ := vx_keep h0 e1 hS (fun q h1 h2 => absurd h1 (Nat.not_lt.mpr h2)) hA hL hF
    obtain ⟨t2, a1, b1⟩ := kx ce q T'.heap (locs ++ L) hP k1 (fun q h => k2 q h (Nat.not_le.mpr h)) k3 (by rw [e1]; exact hce) hcv hcl T' rfl X'
    exact ⟨t2, st.trans a1, b1⟩
theorem kIp {post : Int32 → Prop} {free : Addr → Prop} (hr : va_Run p l e R s m args below meth c H locs cells slots mc ms (F0 m pc ls st0) rest (QI (fun r H1 => H1 = H ∧ post r) A1 a) free)
    (kk : ∀ (r : Int32), post r → W p l e R s m args below meth c H locs cells slots Q (F0 m (pc + 3) ls (.int r :: rest))) : W p l e R s m args below meth c H locs cells slots Q (F0 m pc ls st0) := by
  intro T hT X
  obtain ⟨v, st₀, t, T', L, h0, X', hL, e1, e2, ⟨⟨r, hv, hh, hp⟩, hF⟩, st⟩ := hr T hT X
  cases hv
  have hT' : T'.heap = H := e1.trans hh
  obtain ⟨t2, a1, b1⟩ := kk r hp T' hT' (st_same X X' (hT'.trans hT.symm))
  exact ⟨t2, st t2 a1, b1⟩
theorem xIp {post : Int32 → Prop} {P : Prop} (hr : vx_Run p l e R s m args below meth c H locs cells slots mc ms (F0 m pc ls st0) rest (QI (fun r H1 => H1 = H ∧ post r) A1 a) (XL P) A1) (hS : va_S A0 H0 H locs) (hA : ∀ q, A1 q → A0 q)
    (kx : ∀ (ce : Cell) (q9 : Addr) (H1 : Heap) (locs1 : List Loc), P → H.size ≤ H1.size → (∀ q : Nat, q < H.size → H1[q]? = H[q]?) → va_S A0 H0 H1 locs1 → H1[q9]? = some ce → ce.vm = .none → s.vm.findClass RX7 = some ce.cls → vx_W p l e R s m args below meth c H1 locs1 (cells + mc) (slots + ms) Q (F0 m pc ls rest) q9)
    (kk : ∀ (r : Int32), post r → W p l e R s m args below meth c H locs cells slots Q (F0 m (pc + 3) ls (.int r :: rest))) : W p l e R s m args below meth c H locs cells slots Q (F0 m pc ls st0) := by
  intro T hT X
  rcases hr T hT X with ⟨v, st₀, t, T', L, h0, X', hL, e1, e2, ⟨⟨r, hv, hh, hp⟩, hF⟩, st⟩ | ⟨q, st₀, t, T', L, E, ce, h0, X', hL, e1, e2, ⟨hE, hP, hF⟩, hce, hcv, hcl, st⟩
  · cases hv
    have hT' : T'.heap = H := e1.trans hh
    obtain ⟨t2, a1, b1⟩ := kk r hp T' hT' (st_same X X' (hT'.trans hT.symm))
    exact ⟨t2, st t2 a1, b1⟩
  · subst hE
    rw [h0] at hF
    obtain ⟨k1, k2, k3⟩ := vx_keep h0 e1 hS (fun q h1 h2 => absurd h1 (Nat.not_lt.mpr h2)) hA hL hF
    obtain ⟨t2, a1, b1⟩ := kx ce q T'.heap (locs ++ L) hP k1 (fun q h => k2 q h (Nat.not_le.mpr h)) k3 (by rw [e1]; exact hce) hcv hcl T' rfl X'
    exact ⟨t2, st.trans a1, b1⟩
theorem kL {post : Int64 → Heap → Prop} (hr : va_Run p l e R s m args below meth c H locs cells slots mc ms (F0 m pc ls st0) rest (QL post A1 a) A1) (hS : va_S A0 H0 H locs) (hA : ∀ q, A1 q → A0 q)
    (kk : ∀ (r : Int64) (H1 : Heap) (locs1 : List Loc), post r H1 → H.size ≤ H1.size → (∀ q : Nat, q < H.size → ¬ A1 q → H1[q]? = H[q]?) → va_S A0 H0 H1 locs1 → W p l e R s m args below meth c H1 locs1 (cells + mc) (slots + ms) Q (F0 m (pc + 3) ls (.long r :: rest))) : W p l e R s m args below meth c H locs cells slots Q (F0 m pc ls st0) := by
  intro T hT X
  obtain ⟨v, st₀, t, T', L, h0, X', hL, e1, e2, ⟨⟨r, hv, hp⟩, hF⟩, st⟩ := hr T hT X
  cases hv
  obtain ⟨k1, k2, k3⟩ := vx_keep h0 e1 hS (fun q _ h => hA q h) hA hL hF
  obtain ⟨t2, a1, b1⟩ := kk r T'.heap (locs ++ L) (by rw [e1]; exact hp) k1 k2 k3 T' rfl X'
  exact ⟨t2, st t2 a1, b1⟩
theorem xL {post : Int64 → Heap → Prop} {P : Prop} (hr : vx_Run p l e R s m args below meth c H locs cells slots mc ms (F0 m pc ls st0) rest (QL post A1 a) (XL P) A1) (hS : va_S A0 H0 H locs) (hA : ∀ q, A1 q → A0 q)
    (kx : ∀ (ce : Cell) (q9 : Addr) (H1 : Heap) (locs1 : List Loc), P → H.size ≤ H1.size → (∀ q : Nat, q < H.size → H1[q]? = H[q]?) → va_S A0 H0 H1 locs1 → H1[q9]? = some ce → ce.vm = .none → s.vm.findClass RX7 = some ce.cls → vx_W p l e R s m args below meth c H1 locs1 (cells + mc) (slots + ms) Q (F0 m pc ls rest) q9)
    (kk : ∀ (r : Int64) (H1 : Heap) (locs1 : List Loc), post r H1 → H.size ≤ H1.size → (∀ q : Nat, q < H.size → ¬ A1 q → H1[q]? = H[q]?) → va_S A0 H0 H1 locs1 → W p l e R s m args below meth c H1 locs1 (cells + mc) (slots + ms) Q (F0 m (pc + 3) ls (.long r :: rest))) : W p l e R s m args below meth c H locs cells slots Q (F0 m pc ls st0) := by
  intro T hT X
  rcases hr T hT X with ⟨v, st₀, t, T', L, h0, X', hL, e1, e2, ⟨⟨r, hv, hp⟩, hF⟩, st⟩ | ⟨q, st₀, t, T', L, E, ce, h0, X', hL, e1, e2, ⟨hE, hP, hF⟩, hce, hcv, hcl, st⟩
  · cases hv
    obtain ⟨k1, k2, k3⟩ := vx_keep h0 e1 hS (fun q _ h => hA q h) hA hL hF
    obtain ⟨t2, a1, b1⟩ := kk r T'.heap (locs ++ L) (by rw [e1]; exact hp) k1 k2 k3 T' rfl X'
    exact ⟨t2, st t2 a1, b1⟩
  · subst hE
    rw [h0] at hF
    obtain ⟨k1, k2, k3⟩ := vx_keep h0 e1 hS (fun q h1 h2 => absurd h1 (Nat.not_lt.mpr h2)) hA hL hF
    obtain ⟨t2, a1, b1⟩ := kx ce q T'.heap (locs ++ L) hP k1 (fun q h => k2 q h (Nat.not_le.mpr h)) k3 (by rw [e1]; exact hce) hcv hcl T' rfl X'
    exact ⟨t2, st.trans a1, b1⟩
theorem kLp {post : Int64 → Prop} {free : Addr → Prop} (hr : va_Run p l e R s m args below meth c H locs cells slots mc ms (F0 m pc ls st0) rest (QL (fun r H1 => H1 = H ∧ post r) A1 a) free)
    (kk : ∀ (r : Int64), post r → W p l e R s m args below meth c H locs cells slots Q (F0 m (pc + 3) ls (.long r :: rest))) : W p l e R s m args below meth c H locs cells slots Q (F0 m pc ls st0) := by
  intro T hT X
  obtain ⟨v, st₀, t, T', L, h0, X', hL, e1, e2, ⟨⟨r, hv, hh, hp⟩, hF⟩, st⟩ := hr T hT X
  cases hv
  have hT' : T'.heap = H := e1.trans hh
  obtain ⟨t2, a1, b1⟩ := kk r hp T' hT' (st_same X X' (hT'.trans hT.symm))
  exact ⟨t2, st t2 a1, b1⟩
theorem xLp {post : Int64 → Prop} {P : Prop} (hr : vx_Run p l e R s m args below meth c H locs cells slots mc ms (F0 m pc ls st0) rest (QL (fun r H1 => H1 = H ∧ post r) A1 a) (XL P) A1) (hS : va_S A0 H0 H locs) (hA : ∀ q, A1 q → A0 q)
    (kx : ∀ (ce : Cell) (q9 : Addr) (H1 : Heap) (locs1 : List Loc), P → H.size ≤ H1.size → (∀ q : Nat, q < H.size → H1[q]? = H[q]?) → va_S A0 H0 H1 locs1 → H1[q9]? = some ce → ce.vm = .none → s.vm.findClass RX7 = some ce.cls → vx_W p l e R s m args below meth c H1 locs1 (cells + mc) (slots + ms) Q (F0 m pc ls rest) q9)
    (kk : ∀ (r : Int64), post r → W p l e R s m args below meth c H locs cells slots Q (F0 m (pc + 3) ls (.long r :: rest))) : W p l e R s m args below meth c H locs cells slots Q (F0 m pc ls st0) := by
  intro T hT X
  rcases hr T hT X with ⟨v, st₀, t, T', L, h0, X', hL, e1, e2, ⟨⟨r, hv, hh, hp⟩, hF⟩, st⟩ | ⟨q, st₀, t, T', L, E, ce, h0, X', hL, e1, e2, ⟨hE, hP, hF⟩, hce, hcv, hcl, st⟩
  · cases hv
    have hT' : T'.heap = H := e1.trans hh
    obtain ⟨t2, a1, b1⟩ := kk r hp T' hT' (st_same X X' (hT'.trans hT.symm))
    exact ⟨t2, st t2 a1, b1⟩
  · subst hE
    rw [h0] at hF
    obtain ⟨k1, k2, k3⟩ := vx_keep h0 e1 hS (fun q h1 h2 => absurd h1 (Nat.not_lt.mpr h2)) hA hL hF
    obtain ⟨t2, a1, b1⟩ := kx ce q T'.heap (locs ++ L) hP k1 (fun q h => k2 q h (Nat.not_le.mpr h)) k3 (by rw [e1]; exact hce) hcv hcl T' rfl X'
    exact ⟨t2, st.trans a1, b1⟩
theorem kR {post : Nat → Heap → Prop} (hr : va_Run p l e R s m args below meth c H locs cells slots mc ms (F0 m pc ls st0) rest (QR post A1 a) A1) (hS : va_S A0 H0 H locs) (hA : ∀ q, A1 q → A0 q)
    (kk : ∀ (r : Nat) (H1 : Heap) (locs1 : List Loc), post r H1 → H.size ≤ H1.size → (∀ q : Nat, q < H.size → ¬ A1 q → H1[q]? = H[q]?) → va_S A0 H0 H1 locs1 → W p l e R s m args below meth c H1 locs1 (cells + mc) (slots + ms) Q (F0 m (pc + 3) ls (.ref r :: rest))) : W p l e R s m args below meth c H locs cells slots Q (F0 m pc ls st0) := by
  intro T hT X
  obtain ⟨v, st₀, t, T', L, h0, X', hL, e1, e2, ⟨⟨r, hv, hp⟩, hF⟩, st⟩ := hr T hT X
  cases hv
  obtain ⟨k1, k2, k3⟩ := vx_keep h0 e1 hS (fun q _ h => hA q h) hA hL hF
  obtain ⟨t2, a1, b1⟩ := kk r T'.heap (locs ++ L) (by rw [e1]; exact hp) k1 k2 k3 T' rfl X'
  exact ⟨t2, st t2 a1, b1⟩
theorem xR {post : Nat → Heap → Prop} {P : Prop} (hr : vx_Run p l e R s m args below meth c H locs cells slots mc ms (F0 m pc ls st0) rest (QR post A1 a) (XL P) A1) (hS : va_S A0 H0 H locs) (hA : ∀ q, A1 q → A0 q)
    (kx : ∀ (ce : Cell) (q9 : Addr) (H1 : Heap) (locs1 : List Loc), P → H.size ≤ H1.size → (∀ q : Nat, q < H.size → H1[q]? = H[q]?) → va_S A0 H0 H1 locs1 → H1[q9]? = some ce → ce.vm = .none → s.vm.findClass RX7 = some ce.cls → vx_W p l e R s m args below meth c H1 locs1 (cells + mc) (slots + ms) Q (F0 m pc ls rest) q9)
    (kk : ∀ (r : Nat) (H1 : Heap) (locs1 : List Loc), post r H1 → H.size ≤ H1.size → (∀ q : Nat, q < H.size → ¬ A1 q → H1[q]? = H[q]?) → va_S A0 H0 H1 locs1 → W p l e R s m args below meth c H1 locs1 (cells + mc) (slots + ms) Q (F0 m (pc + 3) ls (.ref r :: rest))) : W p l e R s m args below meth c H locs cells slots Q (F0 m pc ls st0) := by
  intro T hT X
  rcases hr T hT X with ⟨v, st₀, t, T', L, h0, X', hL, e1, e2, ⟨⟨r, hv, hp⟩, hF⟩, st⟩ | ⟨q, st₀, t, T', L, E, ce, h0, X', hL, e1, e2, ⟨hE, hP, hF⟩, hce, hcv, hcl, st⟩
  · cases hv
    obtain ⟨k1, k2, k3⟩ := vx_keep h0 e1 hS (fun q _ h => hA q h) hA hL hF
    obtain ⟨t2, a1, b1⟩ := kk r T'.heap (locs ++ L) (by rw [e1]; exact hp) k1 k2 k3 T' rfl X'
    exact ⟨t2, st t2 a1, b1⟩
  · subst hE
    rw [h0] at hF
    obtain ⟨k1, k2, k3⟩ := vx_keep h0 e1 hS (fun q h1 h2 => absurd h1 (Nat.not_lt.mpr h2)) hA hL hF
    obtain ⟨t2, a1, b1⟩ := kx ce q T'.heap (locs ++ L) hP k1 (fun q h => k2 q h (Nat.not_le.mpr h)) k3 (by rw [e1]; exact hce) hcv hcl T' rfl X'
    exact ⟨t2, st.trans a1, b1⟩
theorem kRp {post : Nat → Prop} {free : Addr → Prop} (hr : va_Run p l e R s m args below meth c H locs cells slots mc ms (F0 m pc ls st0) rest (QR (fun r H1 => H1 = H ∧ post r) A1 a) free)
    (kk : ∀ (r : Nat), post r → W p l e R s m args below meth c H locs cells slots Q (F0 m (pc + 3) ls (.ref r :: rest))) : W p l e R s m args below meth c H locs cells slots Q (F0 m pc ls st0) := by
  intro T hT X
  obtain ⟨v, st₀, t, T', L, h0, X', hL, e1, e2, ⟨⟨r, hv, hh, hp⟩, hF⟩, st⟩ := hr T hT X
  cases hv
  have hT' : T'.heap = H := e1.trans hh
  obtain ⟨t2, a1, b1⟩ := kk r hp T' hT' (st_same X X' (hT'.trans hT.symm))
  exact ⟨t2, st t2 a1, b1⟩
theorem xRp {post : Nat → Prop} {P : Prop} (hr : vx_Run p l e R s m args below meth c H locs cells slots mc ms (F0 m pc ls st0) rest (QR (fun r H1 => H1 = H ∧ post r) A1 a) (XL P) A1) (hS : va_S A0 H0 H locs) (hA : ∀ q, A1 q → A0 q)
    (kx : ∀ (ce : Cell) (q9 : Addr) (H1 : Heap) (locs1 : List Loc), P → H.size ≤ H1.size → (∀ q : Nat, q < H.size → H1[q]? = H[q]?) → va_S A0 H0 H1 locs1 → H1[q9]? = some ce → ce.vm = .none → s.vm.findClass RX7 = some ce.cls → vx_W p l e R s m args below meth c H1 locs1 (cells + mc) (slots + ms) Q (F0 m pc ls rest) q9)
    (kk : ∀ (r : Nat), post r → W p l e R s m args below meth c H locs cells slots Q (F0 m (pc + 3) ls (.ref r :: rest))) : W p l e R s m args below meth c H locs cells slots Q (F0 m pc ls st0) := by
  intro T hT X
  rcases hr T hT X with ⟨v, st₀, t, T', L, h0, X', hL, e1, e2, ⟨⟨r, hv, hh, hp⟩, hF⟩, st⟩ | ⟨q, st₀, t, T', L, E, ce, h0, X', hL, e1, e2, ⟨hE, hP, hF⟩, hce, hcv, hcl, st⟩
  · cases hv
    have hT' : T'.heap = H := e1.trans hh
    obtain ⟨t2, a1, b1⟩ := kk r hp T' hT' (st_same X X' (hT'.trans hT.symm))
    exact ⟨t2, st t2 a1, b1⟩
  · subst hE
    rw [h0] at hF
    obtain ⟨k1, k2, k3⟩ := vx_keep h0 e1 hS (fun q h1 h2 => absurd h1 (Nat.not_lt.mpr h2)) hA hL hF
    obtain ⟨t2, a1, b1⟩ := kx ce q T'.heap (locs ++ L) hP k1 (fun q h => k2 q h (Nat.not_le.mpr h)) k3 (by rw [e1]; exact hce) hcv hcl T' rfl X'
    exact ⟨t2, st.trans a1, b1⟩
theorem kV {post : Heap → Prop} (hr : va_Run p l e R s m args below meth c H locs cells slots mc ms (F0 m pc ls st0) rest (QV post A1 a) A1) (hS : va_S A0 H0 H locs) (hA : ∀ q, A1 q → A0 q)
    (kk : ∀ (H1 : Heap) (locs1 : List Loc), post H1 → H.size ≤ H1.size → (∀ q : Nat, q < H.size → ¬ A1 q → H1[q]? = H[q]?) → va_S A0 H0 H1 locs1 → W p l e R s m args below meth c H1 locs1 (cells + mc) (slots + ms) Q (F0 m (pc + 3) ls rest)) : W p l e R s m args below meth c H locs cells slots Q (F0 m pc ls st0) := by
  intro T hT X
  obtain ⟨v, st₀, t, T', L, h0, X', hL, e1, e2, ⟨⟨hv, hp⟩, hF⟩, st⟩ := hr T hT X
  cases hv
  obtain ⟨k1, k2, k3⟩ := vx_keep h0 e1 hS (fun q _ h => hA q h) hA hL hF
  obtain ⟨t2, a1, b1⟩ := kk T'.heap (locs ++ L) (by rw [e1]; exact hp) k1 k2 k3 T' rfl X'
  exact ⟨t2, st t2 a1, b1⟩
theorem xV {post : Heap → Prop} {P : Prop} (hr : vx_Run p l e R s m args below meth c H locs cells slots mc ms (F0 m pc ls st0) rest (QV post A1 a) (XL P) A1) (hS : va_S A0 H0 H locs) (hA : ∀ q, A1 q → A0 q)
    (kx : ∀ (ce : Cell) (q9 : Addr) (H1 : Heap) (locs1 : List Loc), P → H.size ≤ H1.size → (∀ q : Nat, q < H.size → H1[q]? = H[q]?) → va_S A0 H0 H1 locs1 → H1[q9]? = some ce → ce.vm = .none → s.vm.findClass RX7 = some ce.cls → vx_W p l e R s m args below meth c H1 locs1 (cells + mc) (slots + ms) Q (F0 m pc ls rest) q9)
    (kk : ∀ (H1 : Heap) (locs1 : List Loc), post H1 → H.size ≤ H1.size → (∀ q : Nat, q < H.size → ¬ A1 q → H1[q]? = H[q]?) → va_S A0 H0 H1 locs1 → W p l e R s m args below meth c H1 locs1 (cells + mc) (slots + ms) Q (F0 m (pc + 3) ls rest)) : W p l e R s m args below meth c H locs cells slots Q (F0 m pc ls st0) := by
  intro T hT X
  rcases hr T hT X with ⟨v, st₀, t, T', L, h0, X', hL, e1, e2, ⟨⟨hv, hp⟩, hF⟩, st⟩ | ⟨q, st₀, t, T', L, E, ce, h0, X', hL, e1, e2, ⟨hE, hP, hF⟩, hce, hcv, hcl, st⟩
  · cases hv
    obtain ⟨k1, k2, k3⟩ := vx_keep h0 e1 hS (fun q _ h => hA q h) hA hL hF
    obtain ⟨t2, a1, b1⟩ := kk T'.heap (locs ++ L) (by rw [e1]; exact hp) k1 k2 k3 T' rfl X'
    exact ⟨t2, st t2 a1, b1⟩
  · subst hE
    rw [h0] at hF
    obtain ⟨k1, k2, k3⟩ := vx_keep h0 e1 hS (fun q h1 h2 => absurd h1 (Nat.not_lt.mpr h2)) hA hL hF
    obtain ⟨t2, a1, b1⟩ := kx ce q T'.heap (locs ++ L) hP k1 (fun q h => k2 q h (Nat.not_le.mpr h)) k3 (by rw [e1]; exact hce) hcv hcl T' rfl X'
    exact ⟨t2, st.trans a1, b1⟩
end SRULES
/-- a cell that the method doesn't write, now -/
theorem ro_at {A : Nat → Prop} {H0 H : Heap} {locs : List Loc} {D : va_G} {cl : List vw_C} {q : Nat × va_E} (hS : va_S A H0 H locs) (h : va_P D cl [q] H0) (hn : ¬ A q.1) : va_P D cl [q] H := h.kept (fun k x hx => by
  have hz : k < 1 := (List.getElem?_eq_some_iff.mp hx).1
  rw [show k = 0 by omega] at hx
  cases hx
  exact hS.2.1 _ (h 0 _ rfl).lt hn)
theorem dOf {A : Nat → Prop} {ws : va_W} (h : (ws.map (·.1)).Nodup) (hA : ∀ q ∈ ws.map (·.1), A q) : va_D A ws := by
  refine ⟨fun i j x y hi hj hxy => ?_, fun k q hk => hA _ (List.mem_map.mpr ⟨q, List.mem_of_getElem? hk, rfl⟩)⟩
  have h1 : (ws.map (·.1))[i]? = some x.1 := by rw [List.getElem?_map, hi]; rfl
  have h2 : (ws.map (·.1))[j]? = some y.1 := by rw [List.getElem?_map, hj]; rfl
  rw [hxy] at h1
  have l1 := (List.getElem?_eq_some_iff.mp h1).1
  exact (List.getElem?_inj l1 h).mp (h1.trans h2.symm)
theorem d1 {A : Nat → Prop} {a : Nat} {e : va_E} (h : A a) : va_D A [(a, e)] := dOf (by simp) (by simpa using h)
theorem va_D.ne {A : Nat → Prop} {ws : va_W} (hD : va_D A ws) (i j : Nat) {p q : Nat × va_E} (hi : ws[i]? = some p) (hj : ws[j]? = some q) (h : i ≠ j) : p.1 ≠ q.1 := fun e => h (hD.1 i j p q hi hj e)
theorem awF {A0 : Nat → Prop} {ws : va_W} {H0 H : Heap} {locs : List Loc} {Lc : List Nat} (hD : va_D A0 ws) (hS : va_S A0 H0 H locs) (hA : ∀ q, H0.size ≤ q → A0 q) (isC : List Nat) (hC : isC.map (fun i => (ws[i]?).map (·.1)) = Lc.map some) : ∀ q, Aw Lc H.size q → A0 q := by
  intro q h
  rcases h with h | h
  · obtain ⟨k, hk⟩ := List.getElem?_of_mem h
    have h1 : (isC.map (fun i => (ws[i]?).map (·.1)))[k]? = some (some q) := by rw [hC, List.getElem?_map, hk]; rfl
    rw [List.getElem?_map] at h1
    cases hi : isC[k]? with
    | none => rw [hi] at h1; cases h1
    | some i =>
      rw [hi] at h1
      have h2 : (ws[i]?).map (·.1) = some q := Option.some.inj h1
      cases hw : ws[i]? with
      | none => rw [hw] at h2; cases h2
      | some x =>
        rw [hw] at h2
        cases h2
        exact hD.2 i x hw
  · exact hA q (Nat.le_trans hS.1 h)
/-- behind a call: the caller's other cells, and those that come back -/
theorem jn {A0 : Nat → Prop} {D : va_G} {cl : List vw_C} {ws wr w1 : va_W} {Lc : List Nat} {H H1 : Heap} (hP : va_P D cl ws H) (hD : va_D A0 ws) (isC isR : List Nat) (hC : isC.map (fun i => (ws[i]?).map (·.1)) = Lc.map some) (hR : isR.map (fun i => ws[i]?) = wr.map some) (hn : va_nd isR = true) (hdis : ∀ i ∈ isR, i ∉ isC)
    (hk : ∀ q : Nat, q < H.size → ¬ Aw Lc H.size q → H1[q]? = H[q]?) (hF : ∀ q, Aw Lc H.size q → A0 q) (hP1 : va_P D cl w1 H1) (hD1 : va_D (Aw Lc H.size) w1) : va_P D cl (wr ++ w1) H1 ∧ va_D A0 (wr ++ w1) := by
  have atR : ∀ (k : Nat) (q : Nat × va_E), wr[k]? = some q → ∃ i, isR[k]? = some i ∧ ws[i]? = some q := by
    intro k q hq
    have h1 : (isR.map (fun i => ws[i]?))[k]? = some (some q) := by rw [hR, List.getElem?_map, hq]; rfl
    rw [List.getElem?_map] at h1
    cases hi : isR[k]? with
    | none => rw [hi] at h1; cases h1
    | some i => rw [hi] at h1; exact ⟨i, rfl, Option.some.inj h1⟩
  have apart : ∀ (k : Nat) (q : Nat × va_E), wr[k]? = some q → q.1 < H.size ∧ ¬ Aw Lc H.size q.1 := by
    intro k q hq
    obtain ⟨i, h1, h2⟩ := atR k q hq
    have hl := (hP i q h2).lt
    refine ⟨hl, fun h => ?_⟩
    rcases h with h | h
    · obtain ⟨k2, hk2⟩ := List.getElem?_of_mem h
      have h3 : (isC.map (fun i => (ws[i]?).map (·.1)))[k2]? = some (some q.1) := by rw [hC, List.getElem?_map, hk2]; rfl
      rw [List.getElem?_map] at h3
      cases hj : isC[k2]? with
      | none => rw [hj] at h3; cases h3
      | some j =>
        rw [hj] at h3
        have h4 : (ws[j]?).map (·.1) = some q.1 := Option.some.inj h3
        cases hw : ws[j]? with
        | none => rw [hw] at h4; cases h4
        | some x =>
          rw [hw] at h4
          have h5 : x.1 = q.1 := Option.some.inj h4
          have hij := hD.1 i j q x h2 hw h5.symm
          subst hij
          exact hdis i (List.mem_of_getElem? h1) (List.mem_of_getElem? hj)
    · omega
  refine ⟨va_P.app (fun k q hq => ?_) hP1, va_D.app (hD.sub isR hn hR) (hD1.weaken (fun k q _ h => hF q.1 h)) (fun i j x y hx hy hxy => ?_)⟩
  · obtain ⟨i, h1, h2⟩ := atR k q hq
    obtain ⟨g1, g2⟩ := apart k q hq
    exact (hP i q h2).kept (hk q.1 g1 g2)
  · exact (apart i x hx).2 (by rw [hxy]; exact hD1.2 j y hy)
/-- a method with handlers that doesn't throw -/
theorem hm_ofWH {l : Launch} {y : MethodName} {ws ws' : List Cond} {rm : Room} {Pc : Array Value → State → Prop} {Qc : Array Value → State → Outcome → State → Prop} {mc ms : Nat} {free : Addr → Prop} {cc : ByteArray} {maxL : Nat} {ret : Option FieldType} {hh : List (Nat × Nat × Nat × Nat)}
    (hy : plainName y.cls = true) (hw : ws = Cond.codeWith y cc maxL ret hh :: ws')
    (body : ∀ p e s m args below meth c s₁, BodyLoose p l y (headSpec ws rm) cc maxL ret e s m args below meth c s₁ → c.maxLocals = maxL → Pc args s →
      W p l e (headSpec ws rm).room s m args below meth c s.heap [] 0 0 (MQ below Qc args s mc ms free) (entryFrame m args maxL)) : Met l y ws rm Pc Qc mc ms free := by
  refine MetFree.of_bodyS (code := cc) (maxLocals := maxL) (ret := ret) hy ?_ ?_
  · intro args s m h hn
    obtain ⟨m9, meth, c, hn9, h1, h2, h3, h4, -, h5, h6, -⟩ := Cond.codeWith_spec (atoms_spec (ws := ws) h _ (by rw [hw]; exact List.mem_cons_self))
    cases hn.symm.trans hn9
    exact ⟨meth, c, h1, h2, h3, h4, h5, h6⟩
  · intro p e s m args below meth c s₁ B hml hP _
    have hh0 : s₁.heap = s.heap := by rw [B.state]; rfl
    obtain ⟨t, a1, o, b1, b2, b3⟩ := body p e s m args below meth c s₁ B hml hP s₁ hh0 (Stand.of_body B)
    exact ⟨t, o, a1, b1, b2, ⟨b3.1, b3.2⟩⟩
/-- a truth as an int -/
noncomputable def bI (P : Prop) : Int32 := @ite Int32 P (Classical.propDecidable P) 1 0
theorem bI_t {P : Prop} (h : P) : bI P = 1 := by unfold bI; exact if_pos h
theorem bI_f {P : Prop} (h : ¬ P) : bI P = 0 := by unfold bI; exact if_neg h
theorem bI_ne {P : Prop} (h : ¬ bI P = 0) : P := Classical.byContradiction fun q => h (bI_f q)
theorem bI_eq {P : Prop} (h : bI P = 0) : ¬ P := fun q => by rw [bI_t q] at h; exact absurd h (by decide)
theorem bI_01 (P : Prop) : bI P = 0 ∨ bI P = 1 := by
  by_cases h : P
  · exact Or.inr (bI_t h)
  · exact Or.inl (bI_f h)
theorem bI_nar (P : Prop) : narrow .boolean (.int (bI P)) = .int (bI P) := by
  rcases bI_01 P with h | h <;> rw [h] <;> rfl
theorem bI_congr {P P' : Prop} (h : P ↔ P') : bI P = bI P' := by rw [propext h]
