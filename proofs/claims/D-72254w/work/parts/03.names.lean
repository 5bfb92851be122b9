/-! java/lang/Object -/
set_option maxRecDepth 100000
def RJ4 : String := "java/lang/Object"
abbrev cJ4_init : ByteArray := object_method_1_code
def yJ4_init : MethodName := ⟨RJ4, "<init>", "()V"⟩
theorem dJ4_init_0 : decode cJ4_init 0 = .ok (.return_, 1) := by decide +kernel
theorem q41 : (Jvm.Cond.instanceMethod ({ cls := "java/lang/Object", name := "<init>", desc := "()V" } : Jvm.MethodName)) ∈ lw_all := lw_g (lw_at lw_m1 21 rfl) rfl
theorem q42 : (Jvm.Cond.code ({ cls := "java/lang/Object", name := "<init>", desc := "()V" } : Jvm.MethodName) object_method_1_code (1 : Nat) (Option.none : Option Jvm.ClassFile.FieldType)) ∈ lw_all := lw_g (lw_at lw_m1 22 rfl) rfl

/-! java/lang/Math -/
set_option maxRecDepth 100000
def RJ3 : String := "java/lang/Math"
abbrev cJ3_max : ByteArray := prog_13_method_66_code
def yJ3_max : MethodName := ⟨RJ3, "max", "(JJ)J"⟩
def dkwJ3_max_0 : List UInt8 := [30, 32, 148, 155, 0, 7, 30, 167, 0, 4, 32, 173]
abbrev dktJ3_max_0 : List UInt8 := dkwJ3_max_0 ++ []
theorem dksJ3_max_0 : cJ3_max.data.toList.drop 0 = dktJ3_max_0 := by decide +kernel
theorem dJ3_max_0 : decode cJ3_max 0 = .ok (.lload_n 0, 1) := dk_30 (dk_at dksJ3_max_0 0 rfl rfl)
theorem dJ3_max_1 : decode cJ3_max 1 = .ok (.lload_n 2, 1) := dk_32 (dk_at dksJ3_max_0 1 rfl rfl)
theorem dJ3_max_2 : decode cJ3_max 2 = .ok (.lcmp, 1) := dk_148 (dk_at dksJ3_max_0 2 rfl rfl)
theorem dJ3_max_3 : decode cJ3_max 3 = .ok (.ifCond .lt 7, 3) := dk_155 0 7 (dk_at dksJ3_max_0 3 rfl rfl)
theorem dJ3_max_6 : decode cJ3_max 6 = .ok (.lload_n 0, 1) := dk_30 (dk_at dksJ3_max_0 6 rfl rfl)
theorem dJ3_max_7 : decode cJ3_max 7 = .ok (.goto 4, 3) := dk_167 0 4 (dk_at dksJ3_max_0 7 rfl rfl)
theorem dJ3_max_10 : decode cJ3_max 10 = .ok (.lload_n 2, 1) := dk_32 (dk_at dksJ3_max_0 10 rfl rfl)
theorem dJ3_max_11 : decode cJ3_max 11 = .ok (.lreturn, 1) := dk_173 (dk_at dksJ3_max_0 11 rfl rfl)
abbrev cJ3_floorDiv : ByteArray := prog_13_method_49_code
def yJ3_floorDiv : MethodName := ⟨RJ3, "floorDiv", "(JJ)J"⟩
def dkwJ3_floorDiv_1 : List UInt8 := [10, 101, 173, 22, 4, 173]
abbrev dktJ3_floorDiv_1 : List UInt8 := dkwJ3_floorDiv_1 ++ []
def dkwJ3_floorDiv_0 : List UInt8 := [30, 32, 109, 55, 4, 30, 32, 131, 9, 148, 156, 0, 17, 22, 4, 32, 105, 30, 148, 153, 0, 8, 22, 4]
abbrev dktJ3_floorDiv_0 : List UInt8 := dkwJ3_floorDiv_0 ++ dktJ3_floorDiv_1
theorem dksJ3_floorDiv_0 : cJ3_floorDiv.data.toList.drop 0 = dktJ3_floorDiv_0 := by decide +kernel
theorem dksJ3_floorDiv_1 : cJ3_floorDiv.data.toList.drop 24 = dktJ3_floorDiv_1 := dk_seg dksJ3_floorDiv_0 24 rfl rfl
theorem dJ3_floorDiv_0 : decode cJ3_floorDiv 0 = .ok (.lload_n 0, 1) := dk_30 (dk_at dksJ3_floorDiv_0 0 rfl rfl)
theorem dJ3_floorDiv_1 : decode cJ3_floorDiv 1 = .ok (.lload_n 2, 1) := dk_32 (dk_at dksJ3_floorDiv_0 1 rfl rfl)
theorem dJ3_floorDiv_2 : decode cJ3_floorDiv 2 = .ok (.ldiv, 1) := dk_109 (dk_at dksJ3_floorDiv_0 2 rfl rfl)
theorem dJ3_floorDiv_3 : decode cJ3_floorDiv 3 = .ok (.lstore 4, 2) := dk_55 4 (dk_at dksJ3_floorDiv_0 3 rfl rfl)
theorem dJ3_floorDiv_5 : decode cJ3_floorDiv 5 = .ok (.lload_n 0, 1) := dk_30 (dk_at dksJ3_floorDiv_0 5 rfl rfl)
theorem dJ3_floorDiv_6 : decode cJ3_floorDiv 6 = .ok (.lload_n 2, 1) := dk_32 (dk_at dksJ3_floorDiv_0 6 rfl rfl)
theorem dJ3_floorDiv_7 : decode cJ3_floorDiv 7 = .ok (.lxor, 1) := dk_131 (dk_at dksJ3_floorDiv_0 7 rfl rfl)
theorem dJ3_floorDiv_8 : decode cJ3_floorDiv 8 = .ok (.lconst 0, 1) := dk_9 (dk_at dksJ3_floorDiv_0 8 rfl rfl)
theorem dJ3_floorDiv_9 : decode cJ3_floorDiv 9 = .ok (.lcmp, 1) := dk_148 (dk_at dksJ3_floorDiv_0 9 rfl rfl)
theorem dJ3_floorDiv_10 : decode cJ3_floorDiv 10 = .ok (.ifCond .ge 17, 3) := dk_156 0 17 (dk_at dksJ3_floorDiv_0 10 rfl rfl)
theorem dJ3_floorDiv_13 : decode cJ3_floorDiv 13 = .ok (.lload 4, 2) := dk_22 4 (dk_at dksJ3_floorDiv_0 13 rfl rfl)
theorem dJ3_floorDiv_15 : decode cJ3_floorDiv 15 = .ok (.lload_n 2, 1) := dk_32 (dk_at dksJ3_floorDiv_0 15 rfl rfl)
theorem dJ3_floorDiv_16 : decode cJ3_floorDiv 16 = .ok (.lmul, 1) := dk_105 (dk_at dksJ3_floorDiv_0 16 rfl rfl)
theorem dJ3_floorDiv_17 : decode cJ3_floorDiv 17 = .ok (.lload_n 0, 1) := dk_30 (dk_at dksJ3_floorDiv_0 17 rfl rfl)
theorem dJ3_floorDiv_18 : decode cJ3_floorDiv 18 = .ok (.lcmp, 1) := dk_148 (dk_at dksJ3_floorDiv_0 18 rfl rfl)
theorem dJ3_floorDiv_19 : decode cJ3_floorDiv 19 = .ok (.ifCond .eq 8, 3) := dk_153 0 8 (dk_at dksJ3_floorDiv_0 19 rfl rfl)
theorem dJ3_floorDiv_22 : decode cJ3_floorDiv 22 = .ok (.lload 4, 2) := dk_22 4 (dk_at dksJ3_floorDiv_0 22 rfl rfl)
theorem dJ3_floorDiv_24 : decode cJ3_floorDiv 24 = .ok (.lconst 1, 1) := dk_10 (dk_at dksJ3_floorDiv_1 0 rfl rfl)
theorem dJ3_floorDiv_25 : decode cJ3_floorDiv 25 = .ok (.lsub, 1) := dk_101 (dk_at dksJ3_floorDiv_1 1 rfl rfl)
theorem dJ3_floorDiv_26 : decode cJ3_floorDiv 26 = .ok (.lreturn, 1) := dk_173 (dk_at dksJ3_floorDiv_1 2 rfl rfl)
theorem dJ3_floorDiv_27 : decode cJ3_floorDiv 27 = .ok (.lload 4, 2) := dk_22 4 (dk_at dksJ3_floorDiv_1 3 rfl rfl)
theorem dJ3_floorDiv_29 : decode cJ3_floorDiv 29 = .ok (.lreturn, 1) := dk_173 (dk_at dksJ3_floorDiv_1 5 rfl rfl)
abbrev cJ3_abs : ByteArray := prog_13_method_61_code
def yJ3_abs : MethodName := ⟨RJ3, "abs", "(J)J"⟩
def dkwJ3_abs_0 : List UInt8 := [30, 9, 148, 156, 0, 8, 30, 117, 167, 0, 4, 30, 173]
abbrev dktJ3_abs_0 : List UInt8 := dkwJ3_abs_0 ++ []
theorem dksJ3_abs_0 : cJ3_abs.data.toList.drop 0 = dktJ3_abs_0 := by decide +kernel
theorem dJ3_abs_0 : decode cJ3_abs 0 = .ok (.lload_n 0, 1) := dk_30 (dk_at dksJ3_abs_0 0 rfl rfl)
theorem dJ3_abs_1 : decode cJ3_abs 1 = .ok (.lconst 0, 1) := dk_9 (dk_at dksJ3_abs_0 1 rfl rfl)
theorem dJ3_abs_2 : decode cJ3_abs 2 = .ok (.lcmp, 1) := dk_148 (dk_at dksJ3_abs_0 2 rfl rfl)
theorem dJ3_abs_3 : decode cJ3_abs 3 = .ok (.ifCond .ge 8, 3) := dk_156 0 8 (dk_at dksJ3_abs_0 3 rfl rfl)
theorem dJ3_abs_6 : decode cJ3_abs 6 = .ok (.lload_n 0, 1) := dk_30 (dk_at dksJ3_abs_0 6 rfl rfl)
theorem dJ3_abs_7 : decode cJ3_abs 7 = .ok (.lneg, 1) := dk_117 (dk_at dksJ3_abs_0 7 rfl rfl)
theorem dJ3_abs_8 : decode cJ3_abs 8 = .ok (.goto 4, 3) := dk_167 0 4 (dk_at dksJ3_abs_0 8 rfl rfl)
theorem dJ3_abs_11 : decode cJ3_abs 11 = .ok (.lload_n 0, 1) := dk_30 (dk_at dksJ3_abs_0 11 rfl rfl)
theorem dJ3_abs_12 : decode cJ3_abs 12 = .ok (.lreturn, 1) := dk_173 (dk_at dksJ3_abs_0 12 rfl rfl)
theorem q33 : (Jvm.Cond.initialized "java/lang/Math") ∈ lw_all := lw_g (lw_at lw_m1 13 rfl) rfl
theorem q340 : (Jvm.Cond.static ({ cls := "java/lang/Math", name := "max", desc := "(JJ)J" } : Jvm.MethodName)) ∈ lw_all := lw_g (lw_at lw_m2 80 rfl) rfl
theorem q341 : (Jvm.Cond.code ({ cls := "java/lang/Math", name := "max", desc := "(JJ)J" } : Jvm.MethodName) prog_13_method_66_code (4 : Nat) (Option.some Jvm.ClassFile.FieldType.long)) ∈ lw_all := lw_g (lw_at lw_m2 81 rfl) rfl
theorem q380 : (Jvm.Cond.static ({ cls := "java/lang/Math", name := "floorDiv", desc := "(JJ)J" } : Jvm.MethodName)) ∈ lw_all := lw_g (lw_at lw_m2 120 rfl) rfl
theorem q381 : (Jvm.Cond.code ({ cls := "java/lang/Math", name := "floorDiv", desc := "(JJ)J" } : Jvm.MethodName) prog_13_method_49_code (6 : Nat) (Option.some Jvm.ClassFile.FieldType.long)) ∈ lw_all := lw_g (lw_at lw_m2 121 rfl) rfl
theorem q527 : (Jvm.Cond.static ({ cls := "java/lang/Math", name := "abs", desc := "(J)J" } : Jvm.MethodName)) ∈ lw_all := lw_g (lw_at lw_m3 27 rfl) rfl
theorem q528 : (Jvm.Cond.code ({ cls := "java/lang/Math", name := "abs", desc := "(J)J" } : Jvm.MethodName) prog_13_method_61_code (2 : Nat) (Option.some Jvm.ClassFile.FieldType.long)) ∈ lw_all := lw_g (lw_at lw_m3 28 rfl) rfl

/-! java/lang/Exception -/
set_option maxRecDepth 100000
def RJ2 : String := "java/lang/Exception"
abbrev cJ2_init : ByteArray := prog_12_method_5_code
def yJ2_init : MethodName := ⟨RJ2, "<init>", "(Ljava/lang/String;Ljava/lang/Throwable;ZZ)V"⟩
def dkwJ2_init_0 : List UInt8 := [42, 43, 44, 29, 21, 4, 183, 0, 16, 177]
abbrev dktJ2_init_0 : List UInt8 := dkwJ2_init_0 ++ []
theorem dksJ2_init_0 : cJ2_init.data.toList.drop 0 = dktJ2_init_0 := by decide +kernel
theorem dJ2_init_0 : decode cJ2_init 0 = .ok (.aload_n 0, 1) := dk_42 (dk_at dksJ2_init_0 0 rfl rfl)
theorem dJ2_init_1 : decode cJ2_init 1 = .ok (.aload_n 1, 1) := dk_43 (dk_at dksJ2_init_0 1 rfl rfl)
theorem dJ2_init_2 : decode cJ2_init 2 = .ok (.aload_n 2, 1) := dk_44 (dk_at dksJ2_init_0 2 rfl rfl)
theorem dJ2_init_3 : decode cJ2_init 3 = .ok (.iload_n 3, 1) := dk_29 (dk_at dksJ2_init_0 3 rfl rfl)
theorem dJ2_init_4 : decode cJ2_init 4 = .ok (.iload 4, 2) := dk_21 4 (dk_at dksJ2_init_0 4 rfl rfl)
theorem dJ2_init_6 : decode cJ2_init 6 = .ok (.invokespecial 16, 3) := dk_183 0 16 (dk_at dksJ2_init_0 6 rfl rfl)
theorem dJ2_init_9 : decode cJ2_init 9 = .ok (.return_, 1) := dk_177 (dk_at dksJ2_init_0 9 rfl rfl)
theorem q31 : (Jvm.Cond.initialized "java/lang/Exception") ∈ lw_all := lw_g (lw_at lw_m1 11 rfl) rfl
theorem q279 : (Jvm.Cond.declares ({ cls := "java/lang/Exception", name := "<init>", desc := "()V" } : Jvm.MethodName)) ∈ lw_tbl := lw_at lw_m2 19 rfl
theorem q280 : (Jvm.Cond.declares ({ cls := "java/lang/Exception", name := "<init>", desc := "(Ljava/lang/String;)V" } : Jvm.MethodName)) ∈ lw_tbl := lw_at lw_m2 20 rfl
theorem q317 : (Jvm.Cond.instanceMethod ({ cls := "java/lang/Exception", name := "<init>", desc := "(Ljava/lang/String;Ljava/lang/Throwable;ZZ)V" } : Jvm.MethodName)) ∈ lw_all := lw_g (lw_at lw_m2 57 rfl) rfl
theorem q318 : (Jvm.Cond.code ({ cls := "java/lang/Exception", name := "<init>", desc := "(Ljava/lang/String;Ljava/lang/Throwable;ZZ)V" } : Jvm.MethodName) prog_12_method_5_code (5 : Nat) (Option.none : Option Jvm.ClassFile.FieldType)) ∈ lw_all := lw_g (lw_at lw_m2 58 rfl) rfl
theorem q319 : (Jvm.Cond.methodLink "java/lang/Exception" (16 : Nat) ({ cls := "java/lang/Throwable", name := "<init>", desc := "(Ljava/lang/String;Ljava/lang/Throwable;ZZ)V" } : Jvm.MethodName)) ∈ lw_all := lw_g (lw_at lw_m2 59 rfl) rfl

/-! java/lang/Throwable -/
set_option maxRecDepth 100000
def RJ1 : String := "java/lang/Throwable"
def TJ1 : u_T := fun k => match k with
  | 0 => ("java/lang/Throwable", "cause", "Ljava/lang/Throwable;", false)
  | 1 => ("java/lang/Throwable", "stackTrace", "[Ljava/lang/StackTraceElement;", false)
  | 2 => ("java/lang/Throwable", "suppressedExceptions", "Ljava/util/List;", false)
  | 3 => ("java/lang/Throwable", "detailMessage", "Ljava/lang/String;", false)
  | _ => ("java/lang/Throwable", "backtrace", "Ljava/lang/Object;", false)
def tyJ1 : Nat → FieldType := fun k => match k with
  | 0 => .object "java/lang/Throwable"
  | 1 => .array (.object "java/lang/StackTraceElement")
  | 2 => .object "java/util/List"
  | 3 => .object "java/lang/String"
  | _ => .object "java/lang/Object"
abbrev wsJ10 : List Cond := u_ws RJ1 TJ1 5
theorem nmJ1 : ∀ a, a < 5 → ∀ b, b < 5 → a ≠ b → (TJ1 a).2.1 ≠ (TJ1 b).2.1 := by decide +kernel
theorem tyJ1_ok : ∀ k, k < 5 → parseFieldDescriptor (TJ1 k).2.2.1 = some (tyJ1 k) := by decide +kernel
abbrev cJ1_init : ByteArray := prog_15_method_1_code
def yJ1_init : MethodName := ⟨RJ1, "<init>", "()V"⟩
def dkwJ1_init_1 : List UInt8 := [182, 0, 27, 87, 177]
abbrev dktJ1_init_1 : List UInt8 := dkwJ1_init_1 ++ []
def dkwJ1_init_0 : List UInt8 := [42, 183, 0, 1, 42, 42, 181, 0, 7, 42, 178, 0, 13, 181, 0, 17, 42, 178, 0, 20, 181, 0, 24, 42]
abbrev dktJ1_init_0 : List UInt8 := dkwJ1_init_0 ++ dktJ1_init_1
theorem dksJ1_init_0 : cJ1_init.data.toList.drop 0 = dktJ1_init_0 := by decide +kernel
theorem dksJ1_init_1 : cJ1_init.data.toList.drop 24 = dktJ1_init_1 := dk_seg dksJ1_init_0 24 rfl rfl
theorem dJ1_init_0 : decode cJ1_init 0 = .ok (.aload_n 0, 1) := dk_42 (dk_at dksJ1_init_0 0 rfl rfl)
theorem dJ1_init_1 : decode cJ1_init 1 = .ok (.invokespecial 1, 3) := dk_183 0 1 (dk_at dksJ1_init_0 1 rfl rfl)
theorem dJ1_init_4 : decode cJ1_init 4 = .ok (.aload_n 0, 1) := dk_42 (dk_at dksJ1_init_0 4 rfl rfl)
theorem dJ1_init_5 : decode cJ1_init 5 = .ok (.aload_n 0, 1) := dk_42 (dk_at dksJ1_init_0 5 rfl rfl)
theorem dJ1_init_6 : decode cJ1_init 6 = .ok (.putfield 7, 3) := dk_181 0 7 (dk_at dksJ1_init_0 6 rfl rfl)
theorem dJ1_init_9 : decode cJ1_init 9 = .ok (.aload_n 0, 1) := dk_42 (dk_at dksJ1_init_0 9 rfl rfl)
theorem dJ1_init_10 : decode cJ1_init 10 = .ok (.getstatic 13, 3) := dk_178 0 13 (dk_at dksJ1_init_0 10 rfl rfl)
theorem dJ1_init_13 : decode cJ1_init 13 = .ok (.putfield 17, 3) := dk_181 0 17 (dk_at dksJ1_init_0 13 rfl rfl)
theorem dJ1_init_16 : decode cJ1_init 16 = .ok (.aload_n 0, 1) := dk_42 (dk_at dksJ1_init_0 16 rfl rfl)
theorem dJ1_init_17 : decode cJ1_init 17 = .ok (.getstatic 20, 3) := dk_178 0 20 (dk_at dksJ1_init_0 17 rfl rfl)
theorem dJ1_init_20 : decode cJ1_init 20 = .ok (.putfield 24, 3) := dk_181 0 24 (dk_at dksJ1_init_0 20 rfl rfl)
theorem dJ1_init_23 : decode cJ1_init 23 = .ok (.aload_n 0, 1) := dk_42 (dk_at dksJ1_init_0 23 rfl rfl)
theorem dJ1_init_24 : decode cJ1_init 24 = .ok (.invokevirtual 27, 3) := dk_182 0 27 (dk_at dksJ1_init_1 0 rfl rfl)
theorem dJ1_init_27 : decode cJ1_init 27 = .ok (.pop, 1) := dk_87 (dk_at dksJ1_init_1 3 rfl rfl)
theorem dJ1_init_28 : decode cJ1_init 28 = .ok (.return_, 1) := dk_177 (dk_at dksJ1_init_1 4 rfl rfl)
abbrev cJ1_init_2 : ByteArray := prog_15_method_5_code
def yJ1_init_2 : MethodName := ⟨RJ1, "<init>", "(Ljava/lang/String;Ljava/lang/Throwable;ZZ)V"⟩
def dkwJ1_init_2_2 : List UInt8 := [44, 181, 0, 7, 29, 154, 0, 8, 42, 1, 181, 0, 24, 177]
abbrev dktJ1_init_2_2 : List UInt8 := dkwJ1_init_2_2 ++ []
def dkwJ1_init_2_1 : List UInt8 := [21, 4, 153, 0, 11, 42, 182, 0, 27, 87, 167, 0, 8, 42, 1, 181, 0, 17, 42, 43, 181, 0, 31, 42]
abbrev dktJ1_init_2_1 : List UInt8 := dkwJ1_init_2_1 ++ dktJ1_init_2_2
def dkwJ1_init_2_0 : List UInt8 := [42, 183, 0, 1, 42, 42, 181, 0, 7, 42, 178, 0, 13, 181, 0, 17, 42, 178, 0, 20, 181, 0, 24]
abbrev dktJ1_init_2_0 : List UInt8 := dkwJ1_init_2_0 ++ dktJ1_init_2_1
theorem dksJ1_init_2_0 : cJ1_init_2.data.toList.drop 0 = dktJ1_init_2_0 := by decide +kernel
theorem dksJ1_init_2_1 : cJ1_init_2.data.toList.drop 23 = dktJ1_init_2_1 := dk_seg dksJ1_init_2_0 23 rfl rfl
theorem dksJ1_init_2_2 : cJ1_init_2.data.toList.drop 47 = dktJ1_init_2_2 := dk_seg dksJ1_init_2_1 24 rfl rfl
theorem dJ1_init_2_0 : decode cJ1_init_2 0 = .ok (.aload_n 0, 1) := dk_42 (dk_at dksJ1_init_2_0 0 rfl rfl)
theorem dJ1_init_2_1 : decode cJ1_init_2 1 = .ok (.invokespecial 1, 3) := dk_183 0 1 (dk_at dksJ1_init_2_0 1 rfl rfl)
theorem dJ1_init_2_4 : decode cJ1_init_2 4 = .ok (.aload_n 0, 1) := dk_42 (dk_at dksJ1_init_2_0 4 rfl rfl)
theorem dJ1_init_2_5 : decode cJ1_init_2 5 = .ok (.aload_n 0, 1) := dk_42 (dk_at dksJ1_init_2_0 5 rfl rfl)
theorem dJ1_init_2_6 : decode cJ1_init_2 6 = .ok (.putfield 7, 3) := dk_181 0 7 (dk_at dksJ1_init_2_0 6 rfl rfl)
theorem dJ1_init_2_9 : decode cJ1_init_2 9 = .ok (.aload_n 0, 1) := dk_42 (dk_at dksJ1_init_2_0 9 rfl rfl)
theorem dJ1_init_2_10 : decode cJ1_init_2 10 = .ok (.getstatic 13, 3) := dk_178 0 13 (dk_at dksJ1_init_2_0 10 rfl rfl)
theorem dJ1_init_2_13 : decode cJ1_init_2 13 = .ok (.putfield 17, 3) := dk_181 0 17 (dk_at dksJ1_init_2_0 13 rfl rfl)
theorem dJ1_init_2_16 : decode cJ1_init_2 16 = .ok (.aload_n 0, 1) := dk_42 (dk_at dksJ1_init_2_0 16 rfl rfl)
theorem dJ1_init_2_17 : decode cJ1_init_2 17 = .ok (.getstatic 20, 3) := dk_178 0 20 (dk_at dksJ1_init_2_0 17 rfl rfl)
theorem dJ1_init_2_20 : decode cJ1_init_2 20 = .ok (.putfield 24, 3) := dk_181 0 24 (dk_at dksJ1_init_2_0 20 rfl rfl)
theorem dJ1_init_2_23 : decode cJ1_init_2 23 = .ok (.iload 4, 2) := dk_21 4 (dk_at dksJ1_init_2_1 0 rfl rfl)
theorem dJ1_init_2_25 : decode cJ1_init_2 25 = .ok (.ifCond .eq 11, 3) := dk_153 0 11 (dk_at dksJ1_init_2_1 2 rfl rfl)
theorem dJ1_init_2_28 : decode cJ1_init_2 28 = .ok (.aload_n 0, 1) := dk_42 (dk_at dksJ1_init_2_1 5 rfl rfl)
theorem dJ1_init_2_29 : decode cJ1_init_2 29 = .ok (.invokevirtual 27, 3) := dk_182 0 27 (dk_at dksJ1_init_2_1 6 rfl rfl)
theorem dJ1_init_2_32 : decode cJ1_init_2 32 = .ok (.pop, 1) := dk_87 (dk_at dksJ1_init_2_1 9 rfl rfl)
theorem dJ1_init_2_33 : decode cJ1_init_2 33 = .ok (.goto 8, 3) := dk_167 0 8 (dk_at dksJ1_init_2_1 10 rfl rfl)
theorem dJ1_init_2_36 : decode cJ1_init_2 36 = .ok (.aload_n 0, 1) := dk_42 (dk_at dksJ1_init_2_1 13 rfl rfl)
theorem dJ1_init_2_37 : decode cJ1_init_2 37 = .ok (.aconst_null, 1) := dk_1 (dk_at dksJ1_init_2_1 14 rfl rfl)
theorem dJ1_init_2_38 : decode cJ1_init_2 38 = .ok (.putfield 17, 3) := dk_181 0 17 (dk_at dksJ1_init_2_1 15 rfl rfl)
theorem dJ1_init_2_41 : decode cJ1_init_2 41 = .ok (.aload_n 0, 1) := dk_42 (dk_at dksJ1_init_2_1 18 rfl rfl)
theorem dJ1_init_2_42 : decode cJ1_init_2 42 = .ok (.aload_n 1, 1) := dk_43 (dk_at dksJ1_init_2_1 19 rfl rfl)
theorem dJ1_init_2_43 : decode cJ1_init_2 43 = .ok (.putfield 31, 3) := dk_181 0 31 (dk_at dksJ1_init_2_1 20 rfl rfl)
theorem dJ1_init_2_46 : decode cJ1_init_2 46 = .ok (.aload_n 0, 1) := dk_42 (dk_at dksJ1_init_2_1 23 rfl rfl)
theorem dJ1_init_2_47 : decode cJ1_init_2 47 = .ok (.aload_n 2, 1) := dk_44 (dk_at dksJ1_init_2_2 0 rfl rfl)
theorem dJ1_init_2_48 : decode cJ1_init_2 48 = .ok (.putfield 7, 3) := dk_181 0 7 (dk_at dksJ1_init_2_2 1 rfl rfl)
theorem dJ1_init_2_51 : decode cJ1_init_2 51 = .ok (.iload_n 3, 1) := dk_29 (dk_at dksJ1_init_2_2 4 rfl rfl)
theorem dJ1_init_2_52 : decode cJ1_init_2 52 = .ok (.ifCond .ne 8, 3) := dk_154 0 8 (dk_at dksJ1_init_2_2 5 rfl rfl)
theorem dJ1_init_2_55 : decode cJ1_init_2 55 = .ok (.aload_n 0, 1) := dk_42 (dk_at dksJ1_init_2_2 8 rfl rfl)
theorem dJ1_init_2_56 : decode cJ1_init_2 56 = .ok (.aconst_null, 1) := dk_1 (dk_at dksJ1_init_2_2 9 rfl rfl)
theorem dJ1_init_2_57 : decode cJ1_init_2 57 = .ok (.putfield 24, 3) := dk_181 0 24 (dk_at dksJ1_init_2_2 10 rfl rfl)
theorem dJ1_init_2_60 : decode cJ1_init_2 60 = .ok (.return_, 1) := dk_177 (dk_at dksJ1_init_2_2 13 rfl rfl)
theorem q30 : (Jvm.Cond.initialized "java/lang/Throwable") ∈ lw_all := lw_g (lw_at lw_m1 10 rfl) rfl
theorem q281 : (Jvm.Cond.declares ({ cls := "java/lang/Throwable", name := "<init>", desc := "()V" } : Jvm.MethodName)) ∈ lw_tbl := lw_at lw_m2 21 rfl
theorem q282 : (Jvm.Cond.declares ({ cls := "java/lang/Throwable", name := "<init>", desc := "(Ljava/lang/String;)V" } : Jvm.MethodName)) ∈ lw_tbl := lw_at lw_m2 22 rfl
theorem q286 : (Jvm.Cond.lays "java/lang/Throwable" "java/lang/Throwable" "cause" "Ljava/lang/Throwable;") ∈ lw_all := lw_g (lw_at lw_m2 26 rfl) rfl
theorem q288 : (Jvm.Cond.lays "java/lang/Throwable" "java/lang/Throwable" "stackTrace" "[Ljava/lang/StackTraceElement;") ∈ lw_all := lw_g (lw_at lw_m2 28 rfl) rfl
theorem q290 : (Jvm.Cond.lays "java/lang/Throwable" "java/lang/Throwable" "suppressedExceptions" "Ljava/util/List;") ∈ lw_all := lw_g (lw_at lw_m2 30 rfl) rfl
theorem q292 : (Jvm.Cond.lays "java/lang/Throwable" "java/lang/Throwable" "detailMessage" "Ljava/lang/String;") ∈ lw_all := lw_g (lw_at lw_m2 32 rfl) rfl
theorem q294 : (Jvm.Cond.lays "java/lang/Throwable" "java/lang/Throwable" "backtrace" "Ljava/lang/Object;") ∈ lw_all := lw_g (lw_at lw_m2 34 rfl) rfl
theorem q295 : (Jvm.Cond.fieldLink "java/lang/Throwable" (198 : Nat) "java/lang/Throwable" "backtrace" "Ljava/lang/Object;") ∈ lw_all := lw_g (lw_at lw_m2 35 rfl) rfl
theorem q296 : (Jvm.Cond.superclass "java/lang/Throwable" "java/lang/Object") ∈ lw_all := lw_g (lw_at lw_m2 36 rfl) rfl
theorem q297 : (Jvm.Cond.instanceMethod ({ cls := "java/lang/Throwable", name := "<init>", desc := "()V" } : Jvm.MethodName)) ∈ lw_all := lw_g (lw_at lw_m2 37 rfl) rfl
theorem q298 : (Jvm.Cond.code ({ cls := "java/lang/Throwable", name := "<init>", desc := "()V" } : Jvm.MethodName) prog_15_method_1_code (1 : Nat) (Option.none : Option Jvm.ClassFile.FieldType)) ∈ lw_all := lw_g (lw_at lw_m2 38 rfl) rfl
theorem q299 : (Jvm.Cond.methodLink "java/lang/Throwable" (1 : Nat) ({ cls := "java/lang/Object", name := "<init>", desc := "()V" } : Jvm.MethodName)) ∈ lw_all := lw_g (lw_at lw_m2 39 rfl) rfl
theorem q300 : (Jvm.Cond.fieldLink "java/lang/Throwable" (13 : Nat) "java/lang/Throwable" "UNASSIGNED_STACK" "[Ljava/lang/StackTraceElement;") ∈ lw_all := lw_g (lw_at lw_m2 40 rfl) rfl
theorem q301 : (Jvm.Cond.laysStatic "java/lang/Throwable" "UNASSIGNED_STACK" "[Ljava/lang/StackTraceElement;") ∈ lw_tbl := lw_at lw_m2 41 rfl
theorem q302 : (Jvm.Cond.fieldLink "java/lang/Throwable" (20 : Nat) "java/lang/Throwable" "SUPPRESSED_SENTINEL" "Ljava/util/List;") ∈ lw_all := lw_g (lw_at lw_m2 42 rfl) rfl
theorem q303 : (Jvm.Cond.laysStatic "java/lang/Throwable" "SUPPRESSED_SENTINEL" "Ljava/util/List;") ∈ lw_tbl := lw_at lw_m2 43 rfl
theorem q304 : (Jvm.Cond.methodLink "java/lang/Throwable" (27 : Nat) ({ cls := "java/lang/Throwable", name := "fillInStackTrace", desc := "()Ljava/lang/Throwable;" } : Jvm.MethodName)) ∈ lw_all := lw_g (lw_at lw_m2 44 rfl) rfl
theorem q305 : (Jvm.Cond.instanceMethod ({ cls := "java/lang/Throwable", name := "fillInStackTrace", desc := "()Ljava/lang/Throwable;" } : Jvm.MethodName)) ∈ lw_all := lw_g (lw_at lw_m2 45 rfl) rfl
theorem q306 : (Jvm.Cond.sameMethod "java/lang/Throwable" "java/lang/Throwable" "fillInStackTrace" "()Ljava/lang/Throwable;") ∈ lw_all := lw_g (lw_at lw_m2 46 rfl) rfl
theorem q307 : (Jvm.Cond.codeSync ({ cls := "java/lang/Throwable", name := "fillInStackTrace", desc := "()Ljava/lang/Throwable;" } : Jvm.MethodName) prog_15_method_18_code (1 : Nat) (Option.some (Jvm.ClassFile.FieldType.object "java/lang/Throwable"))) ∈ lw_all := lw_g (lw_at lw_m2 47 rfl) rfl
theorem q308 : (Jvm.Cond.methodLink "java/lang/Throwable" (202 : Nat) ({ cls := "java/lang/Throwable", name := "fillInStackTrace", desc := "(I)Ljava/lang/Throwable;" } : Jvm.MethodName)) ∈ lw_all := lw_g (lw_at lw_m2 48 rfl) rfl
theorem q309 : (Jvm.Cond.privateMethod ({ cls := "java/lang/Throwable", name := "fillInStackTrace", desc := "(I)Ljava/lang/Throwable;" } : Jvm.MethodName)) ∈ lw_tbl := lw_at lw_m2 49 rfl
theorem q310 : (Jvm.Cond.instanceMethod ({ cls := "java/lang/Throwable", name := "fillInStackTrace", desc := "(I)Ljava/lang/Throwable;" } : Jvm.MethodName)) ∈ lw_all := lw_g (lw_at lw_m2 50 rfl) rfl
theorem q311 : (Jvm.Cond.instantiable "java/lang/Throwable" (6 : Nat)) ∈ lw_all := lw_g (lw_at lw_m2 51 rfl) rfl
theorem q312 : (Jvm.Cond.native ({ cls := "java/lang/Throwable", name := "fillInStackTrace", desc := "(I)Ljava/lang/Throwable;" } : Jvm.MethodName)) ∈ lw_all := lw_g (lw_at lw_m2 52 rfl) rfl
theorem q320 : (Jvm.Cond.instanceMethod ({ cls := "java/lang/Throwable", name := "<init>", desc := "(Ljava/lang/String;Ljava/lang/Throwable;ZZ)V" } : Jvm.MethodName)) ∈ lw_all := lw_g (lw_at lw_m2 60 rfl) rfl
theorem q321 : (Jvm.Cond.code ({ cls := "java/lang/Throwable", name := "<init>", desc := "(Ljava/lang/String;Ljava/lang/Throwable;ZZ)V" } : Jvm.MethodName) prog_15_method_5_code (5 : Nat) (Option.none : Option Jvm.ClassFile.FieldType)) ∈ lw_all := lw_g (lw_at lw_m2 61 rfl) rfl
theorem q322 : (Jvm.Cond.fieldLink "java/lang/Throwable" (198 : Nat) "java/lang/Throwable" "backtrace" "Ljava/lang/Object;") ∈ lw_all := lw_g (lw_at lw_m2 62 rfl) rfl
theorem q323 : (Jvm.Cond.fieldLink "java/lang/Throwable" (31 : Nat) "java/lang/Throwable" "detailMessage" "Ljava/lang/String;") ∈ lw_all := lw_g (lw_at lw_m2 63 rfl) rfl
theorem q324 : (Jvm.Cond.fieldLink "java/lang/Throwable" (7 : Nat) "java/lang/Throwable" "cause" "Ljava/lang/Throwable;") ∈ lw_all := lw_g (lw_at lw_m2 64 rfl) rfl
theorem q325 : (Jvm.Cond.fieldLink "java/lang/Throwable" (17 : Nat) "java/lang/Throwable" "stackTrace" "[Ljava/lang/StackTraceElement;") ∈ lw_all := lw_g (lw_at lw_m2 65 rfl) rfl
theorem q326 : (Jvm.Cond.fieldLink "java/lang/Throwable" (24 : Nat) "java/lang/Throwable" "suppressedExceptions" "Ljava/util/List;") ∈ lw_all := lw_g (lw_at lw_m2 66 rfl) rfl
theorem q327 : (Jvm.Cond.soleField "java/lang/Throwable" "backtrace") ∈ lw_all := lw_g (lw_at lw_m2 67 rfl) rfl
theorem q328 : (Jvm.Cond.soleField "java/lang/Throwable" "detailMessage") ∈ lw_all := lw_g (lw_at lw_m2 68 rfl) rfl
theorem q329 : (Jvm.Cond.soleField "java/lang/Throwable" "cause") ∈ lw_all := lw_g (lw_at lw_m2 69 rfl) rfl
theorem q330 : (Jvm.Cond.soleField "java/lang/Throwable" "stackTrace") ∈ lw_all := lw_g (lw_at lw_m2 70 rfl) rfl
theorem q332 : (Jvm.Cond.soleField "java/lang/Throwable" "depth") ∈ lw_all := lw_g (lw_at lw_m2 72 rfl) rfl
theorem q333 : (Jvm.Cond.soleField "java/lang/Throwable" "suppressedExceptions") ∈ lw_all := lw_g (lw_at lw_m2 73 rfl) rfl
theorem q801 : (Jvm.Cond.sameMethod "java/lang/Throwable" "java/lang/Throwable" "fillInStackTrace" "(I)Ljava/lang/Throwable;") ∈ lw_all := lw_g (lw_at lw_m4 61 rfl) rfl
theorem in_J1 : ∀ w ∈ wsJ10, w ∈ lw_all := lw_in wsJ10 [286, 288, 290, 292, 294] (by decide +kernel) (by decide +kernel)

/-! java/util/Arrays -/
set_option maxRecDepth 100000
def RJ0 : String := "java/util/Arrays"
abbrev cJ0_fill : ByteArray := prog_16_method_117_code
def yJ0_fill : MethodName := ⟨RJ0, "fill", "([Ljava/lang/Object;Ljava/lang/Object;)V"⟩
def dkwJ0_fill_0 : List UInt8 := [3, 61, 42, 190, 62, 28, 29, 162, 0, 13, 42, 28, 43, 83, 132, 2, 1, 167, 255, 244, 177]
abbrev dktJ0_fill_0 : List UInt8 := dkwJ0_fill_0 ++ []
theorem dksJ0_fill_0 : cJ0_fill.data.toList.drop 0 = dktJ0_fill_0 := by decide +kernel
theorem dJ0_fill_0 : decode cJ0_fill 0 = .ok (.iconst 0, 1) := dk_3 (dk_at dksJ0_fill_0 0 rfl rfl)
theorem dJ0_fill_1 : decode cJ0_fill 1 = .ok (.istore_n 2, 1) := dk_61 (dk_at dksJ0_fill_0 1 rfl rfl)
theorem dJ0_fill_2 : decode cJ0_fill 2 = .ok (.aload_n 0, 1) := dk_42 (dk_at dksJ0_fill_0 2 rfl rfl)
theorem dJ0_fill_3 : decode cJ0_fill 3 = .ok (.arraylength, 1) := dk_190 (dk_at dksJ0_fill_0 3 rfl rfl)
theorem dJ0_fill_4 : decode cJ0_fill 4 = .ok (.istore_n 3, 1) := dk_62 (dk_at dksJ0_fill_0 4 rfl rfl)
theorem dJ0_fill_5 : decode cJ0_fill 5 = .ok (.iload_n 2, 1) := dk_28 (dk_at dksJ0_fill_0 5 rfl rfl)
theorem dJ0_fill_6 : decode cJ0_fill 6 = .ok (.iload_n 3, 1) := dk_29 (dk_at dksJ0_fill_0 6 rfl rfl)
theorem dJ0_fill_7 : decode cJ0_fill 7 = .ok (.if_icmp .ge 13, 3) := dk_162 0 13 (dk_at dksJ0_fill_0 7 rfl rfl)
theorem dJ0_fill_10 : decode cJ0_fill 10 = .ok (.aload_n 0, 1) := dk_42 (dk_at dksJ0_fill_0 10 rfl rfl)
theorem dJ0_fill_11 : decode cJ0_fill 11 = .ok (.iload_n 2, 1) := dk_28 (dk_at dksJ0_fill_0 11 rfl rfl)
theorem dJ0_fill_12 : decode cJ0_fill 12 = .ok (.aload_n 1, 1) := dk_43 (dk_at dksJ0_fill_0 12 rfl rfl)
theorem dJ0_fill_13 : decode cJ0_fill 13 = .ok (.aastore, 1) := dk_83 (dk_at dksJ0_fill_0 13 rfl rfl)
theorem dJ0_fill_14 : decode cJ0_fill 14 = .ok (.iinc 2 1, 3) := dk_132 2 1 (dk_at dksJ0_fill_0 14 rfl rfl)
theorem dJ0_fill_17 : decode cJ0_fill 17 = .ok (.goto (-12), 3) := dk_167 255 244 (dk_at dksJ0_fill_0 17 rfl rfl)
theorem dJ0_fill_20 : decode cJ0_fill 20 = .ok (.return_, 1) := dk_177 (dk_at dksJ0_fill_0 20 rfl rfl)
theorem q26 : (Jvm.Cond.initialized "java/util/Arrays") ∈ lw_all := lw_g (lw_at lw_m1 6 rfl) rfl
theorem q129 : (Jvm.Cond.static ({ cls := "java/util/Arrays", name := "fill", desc := "([Ljava/lang/Object;Ljava/lang/Object;)V" } : Jvm.MethodName)) ∈ lw_all := lw_g (lw_at lw_m1 109 rfl) rfl
theorem q130 : (Jvm.Cond.code ({ cls := "java/util/Arrays", name := "fill", desc := "([Ljava/lang/Object;Ljava/lang/Object;)V" } : Jvm.MethodName) prog_16_method_117_code (4 : Nat) (Option.none : Option Jvm.ClassFile.FieldType)) ∈ lw_all := lw_g (lw_at lw_m1 110 rfl) rfl

/-! TankFilter$LimitExceeded -/
set_option maxRecDepth 100000
def RX7 : String := "TankFilter$LimitExceeded"
def TX7 : u_T := fun k => match k with
  | 0 => ("java/lang/Throwable", "cause", "Ljava/lang/Throwable;", false)
  | 1 => ("java/lang/Throwable", "stackTrace", "[Ljava/lang/StackTraceElement;", false)
  | 2 => ("java/lang/Throwable", "suppressedExceptions", "Ljava/util/List;", false)
  | 3 => ("java/lang/Throwable", "detailMessage", "Ljava/lang/String;", false)
  | 4 => ("java/lang/Throwable", "backtrace", "Ljava/lang/Object;", false)
  | _ => ("java/lang/Throwable", "depth", "I", false)
def tyX7 : Nat → FieldType := fun k => match k with
  | 0 => .object "java/lang/Throwable"
  | 1 => .array (.object "java/lang/StackTraceElement")
  | 2 => .object "java/util/List"
  | 3 => .object "java/lang/String"
  | 4 => .object "java/lang/Object"
  | _ => .int
abbrev wsX70 : List Cond := u_ws RX7 TX7 6
theorem nmX7 : ∀ a, a < 6 → ∀ b, b < 6 → a ≠ b → (TX7 a).2.1 ≠ (TX7 b).2.1 := by decide +kernel
theorem tyX7_ok : ∀ k, k < 6 → parseFieldDescriptor (TX7 k).2.2.1 = some (tyX7 k) := by decide +kernel
abbrev cX7_init : ByteArray := prog_4_method_1_code
def yX7_init : MethodName := ⟨RX7, "<init>", "()V"⟩
def dkwX7_init_0 : List UInt8 := [42, 1, 1, 3, 3, 183, 0, 1, 177]
abbrev dktX7_init_0 : List UInt8 := dkwX7_init_0 ++ []
theorem dksX7_init_0 : cX7_init.data.toList.drop 0 = dktX7_init_0 := by decide +kernel
theorem dX7_init_0 : decode cX7_init 0 = .ok (.aload_n 0, 1) := dk_42 (dk_at dksX7_init_0 0 rfl rfl)
theorem dX7_init_1 : decode cX7_init 1 = .ok (.aconst_null, 1) := dk_1 (dk_at dksX7_init_0 1 rfl rfl)
theorem dX7_init_2 : decode cX7_init 2 = .ok (.aconst_null, 1) := dk_1 (dk_at dksX7_init_0 2 rfl rfl)
theorem dX7_init_3 : decode cX7_init 3 = .ok (.iconst 0, 1) := dk_3 (dk_at dksX7_init_0 3 rfl rfl)
theorem dX7_init_4 : decode cX7_init 4 = .ok (.iconst 0, 1) := dk_3 (dk_at dksX7_init_0 4 rfl rfl)
theorem dX7_init_5 : decode cX7_init 5 = .ok (.invokespecial 1, 3) := dk_183 0 1 (dk_at dksX7_init_0 5 rfl rfl)
theorem dX7_init_8 : decode cX7_init 8 = .ok (.return_, 1) := dk_177 (dk_at dksX7_init_0 8 rfl rfl)
theorem q32 : (Jvm.Cond.initialized "TankFilter$LimitExceeded") ∈ lw_all := lw_g (lw_at lw_m1 12 rfl) rfl
theorem q277 : (Jvm.Cond.instantiable "TankFilter$LimitExceeded" (6 : Nat)) ∈ lw_all := lw_g (lw_at lw_m2 17 rfl) rfl
theorem q278 : (Jvm.Cond.castable "TankFilter$LimitExceeded" "TankFilter$LimitExceeded") ∈ lw_tbl := lw_at lw_m2 18 rfl
theorem q283 : (Jvm.Cond.selects "TankFilter$LimitExceeded" ({ cls := "java/lang/Throwable", name := "fillInStackTrace", desc := "(I)Ljava/lang/Throwable;" } : Jvm.MethodName) ({ cls := "java/lang/Throwable", name := "fillInStackTrace", desc := "(I)Ljava/lang/Throwable;" } : Jvm.MethodName)) ∈ lw_all := lw_g (lw_at lw_m2 23 rfl) rfl
theorem q284 : (Jvm.Cond.selects "TankFilter$LimitExceeded" ({ cls := "java/lang/Throwable", name := "fillInStackTrace", desc := "()Ljava/lang/Throwable;" } : Jvm.MethodName) ({ cls := "java/lang/Throwable", name := "fillInStackTrace", desc := "()Ljava/lang/Throwable;" } : Jvm.MethodName)) ∈ lw_all := lw_g (lw_at lw_m2 24 rfl) rfl
theorem q285 : (Jvm.Cond.lays "TankFilter$LimitExceeded" "java/lang/Throwable" "cause" "Ljava/lang/Throwable;") ∈ lw_all := lw_g (lw_at lw_m2 25 rfl) rfl
theorem q287 : (Jvm.Cond.lays "TankFilter$LimitExceeded" "java/lang/Throwable" "stackTrace" "[Ljava/lang/StackTraceElement;") ∈ lw_all := lw_g (lw_at lw_m2 27 rfl) rfl
theorem q289 : (Jvm.Cond.lays "TankFilter$LimitExceeded" "java/lang/Throwable" "suppressedExceptions" "Ljava/util/List;") ∈ lw_all := lw_g (lw_at lw_m2 29 rfl) rfl
theorem q291 : (Jvm.Cond.lays "TankFilter$LimitExceeded" "java/lang/Throwable" "detailMessage" "Ljava/lang/String;") ∈ lw_all := lw_g (lw_at lw_m2 31 rfl) rfl
theorem q293 : (Jvm.Cond.lays "TankFilter$LimitExceeded" "java/lang/Throwable" "backtrace" "Ljava/lang/Object;") ∈ lw_all := lw_g (lw_at lw_m2 33 rfl) rfl
theorem q314 : (Jvm.Cond.instanceMethod ({ cls := "TankFilter$LimitExceeded", name := "<init>", desc := "()V" } : Jvm.MethodName)) ∈ lw_all := lw_g (lw_at lw_m2 54 rfl) rfl
theorem q315 : (Jvm.Cond.code ({ cls := "TankFilter$LimitExceeded", name := "<init>", desc := "()V" } : Jvm.MethodName) prog_4_method_1_code (1 : Nat) (Option.none : Option Jvm.ClassFile.FieldType)) ∈ lw_all := lw_g (lw_at lw_m2 55 rfl) rfl
theorem q316 : (Jvm.Cond.methodLink "TankFilter$LimitExceeded" (1 : Nat) ({ cls := "java/lang/Exception", name := "<init>", desc := "(Ljava/lang/String;Ljava/lang/Throwable;ZZ)V" } : Jvm.MethodName)) ∈ lw_all := lw_g (lw_at lw_m2 56 rfl) rfl
theorem q331 : (Jvm.Cond.lays "TankFilter$LimitExceeded" "java/lang/Throwable" "depth" "I") ∈ lw_all := lw_g (lw_at lw_m2 71 rfl) rfl
theorem q334 : (Jvm.Cond.superclass "TankFilter$LimitExceeded" "java/lang/Exception") ∈ lw_all := lw_g (lw_at lw_m2 74 rfl) rfl
theorem in_X7 : ∀ w ∈ wsX70, w ∈ lw_all := lw_in wsX70 [285, 287, 289, 291, 293, 331] (by decide +kernel) (by decide +kernel)

/-! TankFilter$Event -/
set_option maxRecDepth 100000
def RX8 : String := "TankFilter$Event"
def TX8 : u_T := fun k => match k with
  | 0 => ("TankFilter$Event", "sensor", "I", true)
  | _ => ("TankFilter$Event", "value", "I", true)
def tyX8 : Nat → FieldType := fun k => match k with
  | 0 => .int
  | _ => .int
abbrev wsX80 : List Cond := u_ws RX8 TX8 2
theorem nmX8 : ∀ a, a < 2 → ∀ b, b < 2 → a ≠ b → (TX8 a).2.1 ≠ (TX8 b).2.1 := by decide +kernel
theorem tyX8_ok : ∀ k, k < 2 → parseFieldDescriptor (TX8 k).2.2.1 = some (tyX8 k) := by decide +kernel
abbrev cX8_init : ByteArray := prog_3_method_1_code
def yX8_init : MethodName := ⟨RX8, "<init>", "(II)V"⟩
def dkwX8_init_0 : List UInt8 := [42, 183, 0, 1, 42, 27, 181, 0, 7, 42, 28, 181, 0, 13, 177]
abbrev dktX8_init_0 : List UInt8 := dkwX8_init_0 ++ []
theorem dksX8_init_0 : cX8_init.data.toList.drop 0 = dktX8_init_0 := by decide +kernel
theorem dX8_init_0 : decode cX8_init 0 = .ok (.aload_n 0, 1) := dk_42 (dk_at dksX8_init_0 0 rfl rfl)
theorem dX8_init_1 : decode cX8_init 1 = .ok (.invokespecial 1, 3) := dk_183 0 1 (dk_at dksX8_init_0 1 rfl rfl)
theorem dX8_init_4 : decode cX8_init 4 = .ok (.aload_n 0, 1) := dk_42 (dk_at dksX8_init_0 4 rfl rfl)
theorem dX8_init_5 : decode cX8_init 5 = .ok (.iload_n 1, 1) := dk_27 (dk_at dksX8_init_0 5 rfl rfl)
theorem dX8_init_6 : decode cX8_init 6 = .ok (.putfield 7, 3) := dk_181 0 7 (dk_at dksX8_init_0 6 rfl rfl)
theorem dX8_init_9 : decode cX8_init 9 = .ok (.aload_n 0, 1) := dk_42 (dk_at dksX8_init_0 9 rfl rfl)
theorem dX8_init_10 : decode cX8_init 10 = .ok (.iload_n 2, 1) := dk_28 (dk_at dksX8_init_0 10 rfl rfl)
theorem dX8_init_11 : decode cX8_init 11 = .ok (.putfield 13, 3) := dk_181 0 13 (dk_at dksX8_init_0 11 rfl rfl)
theorem dX8_init_14 : decode cX8_init 14 = .ok (.return_, 1) := dk_177 (dk_at dksX8_init_0 14 rfl rfl)
abbrev cX8_isReading : ByteArray := prog_3_method_2_code
def yX8_isReading : MethodName := ⟨RX8, "isReading", "()Z"⟩
def dkwX8_isReading_0 : List UInt8 := [42, 180, 0, 7, 155, 0, 7, 4, 167, 0, 4, 3, 172]
abbrev dktX8_isReading_0 : List UInt8 := dkwX8_isReading_0 ++ []
theorem dksX8_isReading_0 : cX8_isReading.data.toList.drop 0 = dktX8_isReading_0 := by decide +kernel
theorem dX8_isReading_0 : decode cX8_isReading 0 = .ok (.aload_n 0, 1) := dk_42 (dk_at dksX8_isReading_0 0 rfl rfl)
theorem dX8_isReading_1 : decode cX8_isReading 1 = .ok (.getfield 7, 3) := dk_180 0 7 (dk_at dksX8_isReading_0 1 rfl rfl)
theorem dX8_isReading_4 : decode cX8_isReading 4 = .ok (.ifCond .lt 7, 3) := dk_155 0 7 (dk_at dksX8_isReading_0 4 rfl rfl)
theorem dX8_isReading_7 : decode cX8_isReading 7 = .ok (.iconst 1, 1) := dk_4 (dk_at dksX8_isReading_0 7 rfl rfl)
theorem dX8_isReading_8 : decode cX8_isReading 8 = .ok (.goto 4, 3) := dk_167 0 4 (dk_at dksX8_isReading_0 8 rfl rfl)
theorem dX8_isReading_11 : decode cX8_isReading 11 = .ok (.iconst 0, 1) := dk_3 (dk_at dksX8_isReading_0 11 rfl rfl)
theorem dX8_isReading_12 : decode cX8_isReading 12 = .ok (.ireturn, 1) := dk_172 (dk_at dksX8_isReading_0 12 rfl rfl)
theorem q34 : (Jvm.Cond.initialized "TankFilter$Event") ∈ lw_all := lw_g (lw_at lw_m1 14 rfl) rfl
theorem q343 : (Jvm.Cond.instantiable "TankFilter$Event" (2 : Nat)) ∈ lw_all := lw_g (lw_at lw_m2 83 rfl) rfl
theorem q346 : (Jvm.Cond.instanceMethod ({ cls := "TankFilter$Event", name := "<init>", desc := "(II)V" } : Jvm.MethodName)) ∈ lw_all := lw_g (lw_at lw_m2 86 rfl) rfl
theorem q347 : (Jvm.Cond.code ({ cls := "TankFilter$Event", name := "<init>", desc := "(II)V" } : Jvm.MethodName) prog_3_method_1_code (3 : Nat) (Option.none : Option Jvm.ClassFile.FieldType)) ∈ lw_all := lw_g (lw_at lw_m2 87 rfl) rfl
theorem q348 : (Jvm.Cond.methodLink "TankFilter$Event" (1 : Nat) ({ cls := "java/lang/Object", name := "<init>", desc := "()V" } : Jvm.MethodName)) ∈ lw_all := lw_g (lw_at lw_m2 88 rfl) rfl
theorem q349 : (Jvm.Cond.fieldLink "TankFilter$Event" (7 : Nat) "TankFilter$Event" "sensor" "I") ∈ lw_all := lw_g (lw_at lw_m2 89 rfl) rfl
theorem q352 : (Jvm.Cond.fieldLink "TankFilter$Event" (13 : Nat) "TankFilter$Event" "value" "I") ∈ lw_all := lw_g (lw_at lw_m2 92 rfl) rfl
theorem q355 : (Jvm.Cond.laysFinal "TankFilter$Event" "TankFilter$Event" "sensor" "I") ∈ lw_all := lw_g (lw_at lw_m2 95 rfl) rfl
theorem q356 : (Jvm.Cond.soleField "TankFilter$Event" "sensor") ∈ lw_all := lw_g (lw_at lw_m2 96 rfl) rfl
theorem q357 : (Jvm.Cond.laysFinal "TankFilter$Event" "TankFilter$Event" "value" "I") ∈ lw_all := lw_g (lw_at lw_m2 97 rfl) rfl
theorem q358 : (Jvm.Cond.soleField "TankFilter$Event" "value") ∈ lw_all := lw_g (lw_at lw_m2 98 rfl) rfl
theorem q359 : (Jvm.Cond.superclass "TankFilter$Event" "java/lang/Object") ∈ lw_all := lw_g (lw_at lw_m2 99 rfl) rfl
theorem q509 : (Jvm.Cond.instanceMethod ({ cls := "TankFilter$Event", name := "isReading", desc := "()Z" } : Jvm.MethodName)) ∈ lw_all := lw_g (lw_at lw_m3 9 rfl) rfl
theorem q510 : (Jvm.Cond.selects "TankFilter$Event" ({ cls := "TankFilter$Event", name := "isReading", desc := "()Z" } : Jvm.MethodName) ({ cls := "TankFilter$Event", name := "isReading", desc := "()Z" } : Jvm.MethodName)) ∈ lw_all := lw_g (lw_at lw_m3 10 rfl) rfl
theorem q511 : (Jvm.Cond.code ({ cls := "TankFilter$Event", name := "isReading", desc := "()Z" } : Jvm.MethodName) prog_3_method_2_code (1 : Nat) (Option.some Jvm.ClassFile.FieldType.boolean)) ∈ lw_all := lw_g (lw_at lw_m3 11 rfl) rfl
theorem in_X8 : ∀ w ∈ wsX80, w ∈ lw_all := lw_in wsX80 [355, 357] (by decide +kernel) (by decide +kernel)

/-! TankFilter$Readings -/
set_option maxRecDepth 100000
def RX5 : String := "TankFilter$Readings"
abbrev cX5_init : ByteArray := prog_5_method_1_code
def yX5_init : MethodName := ⟨RX5, "<init>", "()V"⟩
theorem dX5_init_0 : decode cX5_init 0 = .ok (.aload_n 0, 1) := by decide +kernel
theorem dX5_init_1 : decode cX5_init 1 = .ok (.invokespecial 1, 3) := by decide +kernel
theorem dX5_init_4 : decode cX5_init 4 = .ok (.return_, 1) := by decide +kernel
abbrev cX5_passes : ByteArray := prog_5_method_3_code
def yX5_passes : MethodName := ⟨RX5, "passes", "(Ljava/lang/Object;)Z"⟩
def dkwX5_passes_0 : List UInt8 := [42, 43, 192, 0, 8, 182, 0, 13, 172]
abbrev dktX5_passes_0 : List UInt8 := dkwX5_passes_0 ++ []
theorem dksX5_passes_0 : cX5_passes.data.toList.drop 0 = dktX5_passes_0 := by decide +kernel
theorem dX5_passes_0 : decode cX5_passes 0 = .ok (.aload_n 0, 1) := dk_42 (dk_at dksX5_passes_0 0 rfl rfl)
theorem dX5_passes_1 : decode cX5_passes 1 = .ok (.aload_n 1, 1) := dk_43 (dk_at dksX5_passes_0 1 rfl rfl)
theorem dX5_passes_2 : decode cX5_passes 2 = .ok (.checkcast 8, 3) := dk_192 0 8 (dk_at dksX5_passes_0 2 rfl rfl)
theorem dX5_passes_5 : decode cX5_passes 5 = .ok (.invokevirtual 13, 3) := dk_182 0 13 (dk_at dksX5_passes_0 5 rfl rfl)
theorem dX5_passes_8 : decode cX5_passes 8 = .ok (.ireturn, 1) := dk_172 (dk_at dksX5_passes_0 8 rfl rfl)
abbrev cX5_passes_2 : ByteArray := prog_5_method_2_code
def yX5_passes_2 : MethodName := ⟨RX5, "passes", "(LTankFilter$Event;)Z"⟩
theorem dX5_passes_2_0 : decode cX5_passes_2 0 = .ok (.aload_n 1, 1) := by decide +kernel
theorem dX5_passes_2_1 : decode cX5_passes_2 1 = .ok (.invokevirtual 7, 3) := by decide +kernel
theorem dX5_passes_2_4 : decode cX5_passes_2 4 = .ok (.ireturn, 1) := by decide +kernel
theorem q27 : (Jvm.Cond.initialized "TankFilter$Readings") ∈ lw_all := lw_g (lw_at lw_m1 7 rfl) rfl
theorem q172 : (Jvm.Cond.instantiable "TankFilter$Readings" (0 : Nat)) ∈ lw_all := lw_g (lw_at lw_m1 152 rfl) rfl
theorem q174 : (Jvm.Cond.instanceMethod ({ cls := "TankFilter$Readings", name := "<init>", desc := "()V" } : Jvm.MethodName)) ∈ lw_all := lw_g (lw_at lw_m1 154 rfl) rfl
theorem q175 : (Jvm.Cond.code ({ cls := "TankFilter$Readings", name := "<init>", desc := "()V" } : Jvm.MethodName) prog_5_method_1_code (1 : Nat) (Option.none : Option Jvm.ClassFile.FieldType)) ∈ lw_all := lw_g (lw_at lw_m1 155 rfl) rfl
theorem q176 : (Jvm.Cond.methodLink "TankFilter$Readings" (1 : Nat) ({ cls := "java/lang/Object", name := "<init>", desc := "()V" } : Jvm.MethodName)) ∈ lw_all := lw_g (lw_at lw_m1 156 rfl) rfl
theorem q177 : (Jvm.Cond.superclass "TankFilter$Readings" "java/lang/Object") ∈ lw_all := lw_g (lw_at lw_m1 157 rfl) rfl
theorem q497 : (Jvm.Cond.castable "TankFilter$Readings" "TankFilter$Test") ∈ lw_tbl := lw_at lw_m2 237 rfl
theorem q498 : (Jvm.Cond.selects "TankFilter$Readings" ({ cls := "TankFilter$Test", name := "passes", desc := "(Ljava/lang/Object;)Z" } : Jvm.MethodName) ({ cls := "TankFilter$Readings", name := "passes", desc := "(Ljava/lang/Object;)Z" } : Jvm.MethodName)) ∈ lw_all := lw_g (lw_at lw_m2 238 rfl) rfl
theorem q499 : (Jvm.Cond.unhidden "TankFilter$Readings" "passes" "(Ljava/lang/Object;)Z") ∈ lw_tbl := lw_at lw_m2 239 rfl
theorem q500 : (Jvm.Cond.instanceMethod ({ cls := "TankFilter$Readings", name := "passes", desc := "(Ljava/lang/Object;)Z" } : Jvm.MethodName)) ∈ lw_all := lw_g (lw_at lw_m3 0 rfl) rfl
theorem q501 : (Jvm.Cond.publicMethod ({ cls := "TankFilter$Readings", name := "passes", desc := "(Ljava/lang/Object;)Z" } : Jvm.MethodName)) ∈ lw_tbl := lw_at lw_m3 1 rfl
theorem q502 : (Jvm.Cond.code ({ cls := "TankFilter$Readings", name := "passes", desc := "(Ljava/lang/Object;)Z" } : Jvm.MethodName) prog_5_method_3_code (2 : Nat) (Option.some Jvm.ClassFile.FieldType.boolean)) ∈ lw_all := lw_g (lw_at lw_m3 2 rfl) rfl
theorem q503 : (Jvm.Cond.classLink "TankFilter$Readings" (8 : Nat) "TankFilter$Event") ∈ lw_all := lw_g (lw_at lw_m3 3 rfl) rfl
theorem q504 : (Jvm.Cond.methodLink "TankFilter$Readings" (13 : Nat) ({ cls := "TankFilter$Readings", name := "passes", desc := "(LTankFilter$Event;)Z" } : Jvm.MethodName)) ∈ lw_all := lw_g (lw_at lw_m3 4 rfl) rfl
theorem q505 : (Jvm.Cond.instanceMethod ({ cls := "TankFilter$Readings", name := "passes", desc := "(LTankFilter$Event;)Z" } : Jvm.MethodName)) ∈ lw_all := lw_g (lw_at lw_m3 5 rfl) rfl
theorem q506 : (Jvm.Cond.selects "TankFilter$Readings" ({ cls := "TankFilter$Readings", name := "passes", desc := "(LTankFilter$Event;)Z" } : Jvm.MethodName) ({ cls := "TankFilter$Readings", name := "passes", desc := "(LTankFilter$Event;)Z" } : Jvm.MethodName)) ∈ lw_all := lw_g (lw_at lw_m3 6 rfl) rfl
theorem q507 : (Jvm.Cond.code ({ cls := "TankFilter$Readings", name := "passes", desc := "(LTankFilter$Event;)Z" } : Jvm.MethodName) prog_5_method_2_code (2 : Nat) (Option.some Jvm.ClassFile.FieldType.boolean)) ∈ lw_all := lw_g (lw_at lw_m3 7 rfl) rfl
theorem q508 : (Jvm.Cond.methodLink "TankFilter$Readings" (7 : Nat) ({ cls := "TankFilter$Event", name := "isReading", desc := "()Z" } : Jvm.MethodName)) ∈ lw_all := lw_g (lw_at lw_m3 8 rfl) rfl

/-! TankFilter$Sensor -/
set_option maxRecDepth 100000
def RX4 : String := "TankFilter$Sensor"
def TX4 : u_T := fun k => match k with
  | 0 => ("TankFilter$Sensor", "kind", "I", true)
  | _ => ("TankFilter$Sensor", "variance", "I", true)
def tyX4 : Nat → FieldType := fun k => match k with
  | 0 => .int
  | _ => .int
abbrev wsX40 : List Cond := u_ws RX4 TX4 2
theorem nmX4 : ∀ a, a < 2 → ∀ b, b < 2 → a ≠ b → (TX4 a).2.1 ≠ (TX4 b).2.1 := by decide +kernel
theorem tyX4_ok : ∀ k, k < 2 → parseFieldDescriptor (TX4 k).2.2.1 = some (tyX4 k) := by decide +kernel
abbrev cX4_init : ByteArray := prog_7_method_1_code
def yX4_init : MethodName := ⟨RX4, "<init>", "(II)V"⟩
def dkwX4_init_0 : List UInt8 := [42, 183, 0, 1, 42, 27, 181, 0, 7, 42, 28, 181, 0, 13, 177]
abbrev dktX4_init_0 : List UInt8 := dkwX4_init_0 ++ []
theorem dksX4_init_0 : cX4_init.data.toList.drop 0 = dktX4_init_0 := by decide +kernel
theorem dX4_init_0 : decode cX4_init 0 = .ok (.aload_n 0, 1) := dk_42 (dk_at dksX4_init_0 0 rfl rfl)
theorem dX4_init_1 : decode cX4_init 1 = .ok (.invokespecial 1, 3) := dk_183 0 1 (dk_at dksX4_init_0 1 rfl rfl)
theorem dX4_init_4 : decode cX4_init 4 = .ok (.aload_n 0, 1) := dk_42 (dk_at dksX4_init_0 4 rfl rfl)
theorem dX4_init_5 : decode cX4_init 5 = .ok (.iload_n 1, 1) := dk_27 (dk_at dksX4_init_0 5 rfl rfl)
theorem dX4_init_6 : decode cX4_init 6 = .ok (.putfield 7, 3) := dk_181 0 7 (dk_at dksX4_init_0 6 rfl rfl)
theorem dX4_init_9 : decode cX4_init 9 = .ok (.aload_n 0, 1) := dk_42 (dk_at dksX4_init_0 9 rfl rfl)
theorem dX4_init_10 : decode cX4_init 10 = .ok (.iload_n 2, 1) := dk_28 (dk_at dksX4_init_0 10 rfl rfl)
theorem dX4_init_11 : decode cX4_init 11 = .ok (.putfield 13, 3) := dk_181 0 13 (dk_at dksX4_init_0 11 rfl rfl)
theorem dX4_init_14 : decode cX4_init 14 = .ok (.return_, 1) := dk_177 (dk_at dksX4_init_0 14 rfl rfl)
theorem q25 : (Jvm.Cond.initialized "TankFilter$Sensor") ∈ lw_all := lw_g (lw_at lw_m1 5 rfl) rfl
theorem q112 : (Jvm.Cond.instantiable "TankFilter$Sensor" (2 : Nat)) ∈ lw_all := lw_g (lw_at lw_m1 92 rfl) rfl
theorem q114 : (Jvm.Cond.instanceMethod ({ cls := "TankFilter$Sensor", name := "<init>", desc := "(II)V" } : Jvm.MethodName)) ∈ lw_all := lw_g (lw_at lw_m1 94 rfl) rfl
theorem q115 : (Jvm.Cond.code ({ cls := "TankFilter$Sensor", name := "<init>", desc := "(II)V" } : Jvm.MethodName) prog_7_method_1_code (3 : Nat) (Option.none : Option Jvm.ClassFile.FieldType)) ∈ lw_all := lw_g (lw_at lw_m1 95 rfl) rfl
theorem q116 : (Jvm.Cond.methodLink "TankFilter$Sensor" (1 : Nat) ({ cls := "java/lang/Object", name := "<init>", desc := "()V" } : Jvm.MethodName)) ∈ lw_all := lw_g (lw_at lw_m1 96 rfl) rfl
theorem q117 : (Jvm.Cond.fieldLink "TankFilter$Sensor" (7 : Nat) "TankFilter$Sensor" "kind" "I") ∈ lw_all := lw_g (lw_at lw_m1 97 rfl) rfl
theorem q120 : (Jvm.Cond.fieldLink "TankFilter$Sensor" (13 : Nat) "TankFilter$Sensor" "variance" "I") ∈ lw_all := lw_g (lw_at lw_m1 100 rfl) rfl
theorem q123 : (Jvm.Cond.laysFinal "TankFilter$Sensor" "TankFilter$Sensor" "kind" "I") ∈ lw_all := lw_g (lw_at lw_m1 103 rfl) rfl
theorem q124 : (Jvm.Cond.soleField "TankFilter$Sensor" "kind") ∈ lw_all := lw_g (lw_at lw_m1 104 rfl) rfl
theorem q125 : (Jvm.Cond.laysFinal "TankFilter$Sensor" "TankFilter$Sensor" "variance" "I") ∈ lw_all := lw_g (lw_at lw_m1 105 rfl) rfl
theorem q126 : (Jvm.Cond.soleField "TankFilter$Sensor" "variance") ∈ lw_all := lw_g (lw_at lw_m1 106 rfl) rfl
theorem q127 : (Jvm.Cond.superclass "TankFilter$Sensor" "java/lang/Object") ∈ lw_all := lw_g (lw_at lw_m1 107 rfl) rfl
theorem in_X4 : ∀ w ∈ wsX40, w ∈ lw_all := lw_in wsX40 [123, 125] (by decide +kernel) (by decide +kernel)

/-! TankFilter$Recent -/
set_option maxRecDepth 100000
def RX3 : String := "TankFilter$Recent"
def TX3 : u_T := fun k => match k with
  | 0 => ("TankFilter$Recent", "elements", "[Ljava/lang/Object;", true)
  | _ => ("TankFilter$Recent", "size", "I", false)
def tyX3 : Nat → FieldType := fun k => match k with
  | 0 => .array (.object "java/lang/Object")
  | _ => .int
abbrev wsX30 : List Cond := u_ws RX3 TX3 2
theorem nmX3 : ∀ a, a < 2 → ∀ b, b < 2 → a ≠ b → (TX3 a).2.1 ≠ (TX3 b).2.1 := by decide +kernel
theorem tyX3_ok : ∀ k, k < 2 → parseFieldDescriptor (TX3 k).2.2.1 = some (tyX3 k) := by decide +kernel
abbrev cX3_init : ByteArray := prog_6_method_1_code
def yX3_init : MethodName := ⟨RX3, "<init>", "([Ljava/lang/Object;)V"⟩
def dkwX3_init_0 : List UInt8 := [42, 183, 0, 1, 42, 43, 181, 0, 7, 177]
abbrev dktX3_init_0 : List UInt8 := dkwX3_init_0 ++ []
theorem dksX3_init_0 : cX3_init.data.toList.drop 0 = dktX3_init_0 := by decide +kernel
theorem dX3_init_0 : decode cX3_init 0 = .ok (.aload_n 0, 1) := dk_42 (dk_at dksX3_init_0 0 rfl rfl)
theorem dX3_init_1 : decode cX3_init 1 = .ok (.invokespecial 1, 3) := dk_183 0 1 (dk_at dksX3_init_0 1 rfl rfl)
theorem dX3_init_4 : decode cX3_init 4 = .ok (.aload_n 0, 1) := dk_42 (dk_at dksX3_init_0 4 rfl rfl)
theorem dX3_init_5 : decode cX3_init 5 = .ok (.aload_n 1, 1) := dk_43 (dk_at dksX3_init_0 5 rfl rfl)
theorem dX3_init_6 : decode cX3_init 6 = .ok (.putfield 7, 3) := dk_181 0 7 (dk_at dksX3_init_0 6 rfl rfl)
theorem dX3_init_9 : decode cX3_init 9 = .ok (.return_, 1) := dk_177 (dk_at dksX3_init_0 9 rfl rfl)
abbrev cX3_copyFrom : ByteArray := prog_6_method_5_code
def yX3_copyFrom : MethodName := ⟨RX3, "copyFrom", "(LTankFilter$Recent;)V"⟩
def dkwX3_copyFrom_1 : List UInt8 := [181, 0, 13, 177]
abbrev dktX3_copyFrom_1 : List UInt8 := dkwX3_copyFrom_1 ++ []
def dkwX3_copyFrom_0 : List UInt8 := [43, 180, 0, 7, 3, 42, 180, 0, 7, 3, 43, 180, 0, 13, 184, 0, 17, 42, 43, 180, 0, 13]
abbrev dktX3_copyFrom_0 : List UInt8 := dkwX3_copyFrom_0 ++ dktX3_copyFrom_1
theorem dksX3_copyFrom_0 : cX3_copyFrom.data.toList.drop 0 = dktX3_copyFrom_0 := by decide +kernel
theorem dksX3_copyFrom_1 : cX3_copyFrom.data.toList.drop 22 = dktX3_copyFrom_1 := dk_seg dksX3_copyFrom_0 22 rfl rfl
theorem dX3_copyFrom_0 : decode cX3_copyFrom 0 = .ok (.aload_n 1, 1) := dk_43 (dk_at dksX3_copyFrom_0 0 rfl rfl)
theorem dX3_copyFrom_1 : decode cX3_copyFrom 1 = .ok (.getfield 7, 3) := dk_180 0 7 (dk_at dksX3_copyFrom_0 1 rfl rfl)
theorem dX3_copyFrom_4 : decode cX3_copyFrom 4 = .ok (.iconst 0, 1) := dk_3 (dk_at dksX3_copyFrom_0 4 rfl rfl)
theorem dX3_copyFrom_5 : decode cX3_copyFrom 5 = .ok (.aload_n 0, 1) := dk_42 (dk_at dksX3_copyFrom_0 5 rfl rfl)
theorem dX3_copyFrom_6 : decode cX3_copyFrom 6 = .ok (.getfield 7, 3) := dk_180 0 7 (dk_at dksX3_copyFrom_0 6 rfl rfl)
theorem dX3_copyFrom_9 : decode cX3_copyFrom 9 = .ok (.iconst 0, 1) := dk_3 (dk_at dksX3_copyFrom_0 9 rfl rfl)
theorem dX3_copyFrom_10 : decode cX3_copyFrom 10 = .ok (.aload_n 1, 1) := dk_43 (dk_at dksX3_copyFrom_0 10 rfl rfl)
theorem dX3_copyFrom_11 : decode cX3_copyFrom 11 = .ok (.getfield 13, 3) := dk_180 0 13 (dk_at dksX3_copyFrom_0 11 rfl rfl)
theorem dX3_copyFrom_14 : decode cX3_copyFrom 14 = .ok (.invokestatic 17, 3) := dk_184 0 17 (dk_at dksX3_copyFrom_0 14 rfl rfl)
theorem dX3_copyFrom_17 : decode cX3_copyFrom 17 = .ok (.aload_n 0, 1) := dk_42 (dk_at dksX3_copyFrom_0 17 rfl rfl)
theorem dX3_copyFrom_18 : decode cX3_copyFrom 18 = .ok (.aload_n 1, 1) := dk_43 (dk_at dksX3_copyFrom_0 18 rfl rfl)
theorem dX3_copyFrom_19 : decode cX3_copyFrom 19 = .ok (.getfield 13, 3) := dk_180 0 13 (dk_at dksX3_copyFrom_0 19 rfl rfl)
theorem dX3_copyFrom_22 : decode cX3_copyFrom 22 = .ok (.putfield 13, 3) := dk_181 0 13 (dk_at dksX3_copyFrom_1 0 rfl rfl)
theorem dX3_copyFrom_25 : decode cX3_copyFrom 25 = .ok (.return_, 1) := dk_177 (dk_at dksX3_copyFrom_1 3 rfl rfl)
abbrev cX3_add : ByteArray := prog_6_method_2_code
def yX3_add : MethodName := ⟨RX3, "add", "(Ljava/lang/Object;)V"⟩
def dkwX3_add_2 : List UInt8 := [180, 0, 13, 43, 83, 42, 89, 180, 0, 13, 4, 96, 181, 0, 13, 177]
abbrev dktX3_add_2 : List UInt8 := dkwX3_add_2 ++ []
def dkwX3_add_1 : List UInt8 := [180, 0, 13, 4, 100, 184, 0, 17, 42, 89, 180, 0, 13, 4, 100, 181, 0, 13, 42, 180, 0, 7, 42]
abbrev dktX3_add_1 : List UInt8 := dkwX3_add_1 ++ dktX3_add_2
def dkwX3_add_0 : List UInt8 := [42, 180, 0, 13, 42, 180, 0, 7, 190, 160, 0, 32, 42, 180, 0, 7, 4, 42, 180, 0, 7, 3, 42]
abbrev dktX3_add_0 : List UInt8 := dkwX3_add_0 ++ dktX3_add_1
theorem dksX3_add_0 : cX3_add.data.toList.drop 0 = dktX3_add_0 := by decide +kernel
theorem dksX3_add_1 : cX3_add.data.toList.drop 23 = dktX3_add_1 := dk_seg dksX3_add_0 23 rfl rfl
theorem dksX3_add_2 : cX3_add.data.toList.drop 46 = dktX3_add_2 := dk_seg dksX3_add_1 23 rfl rfl
theorem dX3_add_0 : decode cX3_add 0 = .ok (.aload_n 0, 1) := dk_42 (dk_at dksX3_add_0 0 rfl rfl)
theorem dX3_add_1 : decode cX3_add 1 = .ok (.getfield 13, 3) := dk_180 0 13 (dk_at dksX3_add_0 1 rfl rfl)
theorem dX3_add_4 : decode cX3_add 4 = .ok (.aload_n 0, 1) := dk_42 (dk_at dksX3_add_0 4 rfl rfl)
theorem dX3_add_5 : decode cX3_add 5 = .ok (.getfield 7, 3) := dk_180 0 7 (dk_at dksX3_add_0 5 rfl rfl)
theorem dX3_add_8 : decode cX3_add 8 = .ok (.arraylength, 1) := dk_190 (dk_at dksX3_add_0 8 rfl rfl)
theorem dX3_add_9 : decode cX3_add 9 = .ok (.if_icmp .ne 32, 3) := dk_160 0 32 (dk_at dksX3_add_0 9 rfl rfl)
theorem dX3_add_12 : decode cX3_add 12 = .ok (.aload_n 0, 1) := dk_42 (dk_at dksX3_add_0 12 rfl rfl)
theorem dX3_add_13 : decode cX3_add 13 = .ok (.getfield 7, 3) := dk_180 0 7 (dk_at dksX3_add_0 13 rfl rfl)
theorem dX3_add_16 : decode cX3_add 16 = .ok (.iconst 1, 1) := dk_4 (dk_at dksX3_add_0 16 rfl rfl)
theorem dX3_add_17 : decode cX3_add 17 = .ok (.aload_n 0, 1) := dk_42 (dk_at dksX3_add_0 17 rfl rfl)
theorem dX3_add_18 : decode cX3_add 18 = .ok (.getfield 7, 3) := dk_180 0 7 (dk_at dksX3_add_0 18 rfl rfl)
theorem dX3_add_21 : decode cX3_add 21 = .ok (.iconst 0, 1) := dk_3 (dk_at dksX3_add_0 21 rfl rfl)
theorem dX3_add_22 : decode cX3_add 22 = .ok (.aload_n 0, 1) := dk_42 (dk_at dksX3_add_0 22 rfl rfl)
theorem dX3_add_23 : decode cX3_add 23 = .ok (.getfield 13, 3) := dk_180 0 13 (dk_at dksX3_add_1 0 rfl rfl)
theorem dX3_add_26 : decode cX3_add 26 = .ok (.iconst 1, 1) := dk_4 (dk_at dksX3_add_1 3 rfl rfl)
theorem dX3_add_27 : decode cX3_add 27 = .ok (.isub, 1) := dk_100 (dk_at dksX3_add_1 4 rfl rfl)
theorem dX3_add_28 : decode cX3_add 28 = .ok (.invokestatic 17, 3) := dk_184 0 17 (dk_at dksX3_add_1 5 rfl rfl)
theorem dX3_add_31 : decode cX3_add 31 = .ok (.aload_n 0, 1) := dk_42 (dk_at dksX3_add_1 8 rfl rfl)
theorem dX3_add_32 : decode cX3_add 32 = .ok (.dup, 1) := dk_89 (dk_at dksX3_add_1 9 rfl rfl)
theorem dX3_add_33 : decode cX3_add 33 = .ok (.getfield 13, 3) := dk_180 0 13 (dk_at dksX3_add_1 10 rfl rfl)
theorem dX3_add_36 : decode cX3_add 36 = .ok (.iconst 1, 1) := dk_4 (dk_at dksX3_add_1 13 rfl rfl)
theorem dX3_add_37 : decode cX3_add 37 = .ok (.isub, 1) := dk_100 (dk_at dksX3_add_1 14 rfl rfl)
theorem dX3_add_38 : decode cX3_add 38 = .ok (.putfield 13, 3) := dk_181 0 13 (dk_at dksX3_add_1 15 rfl rfl)
theorem dX3_add_41 : decode cX3_add 41 = .ok (.aload_n 0, 1) := dk_42 (dk_at dksX3_add_1 18 rfl rfl)
theorem dX3_add_42 : decode cX3_add 42 = .ok (.getfield 7, 3) := dk_180 0 7 (dk_at dksX3_add_1 19 rfl rfl)
theorem dX3_add_45 : decode cX3_add 45 = .ok (.aload_n 0, 1) := dk_42 (dk_at dksX3_add_1 22 rfl rfl)
theorem dX3_add_46 : decode cX3_add 46 = .ok (.getfield 13, 3) := dk_180 0 13 (dk_at dksX3_add_2 0 rfl rfl)
theorem dX3_add_49 : decode cX3_add 49 = .ok (.aload_n 1, 1) := dk_43 (dk_at dksX3_add_2 3 rfl rfl)
theorem dX3_add_50 : decode cX3_add 50 = .ok (.aastore, 1) := dk_83 (dk_at dksX3_add_2 4 rfl rfl)
theorem dX3_add_51 : decode cX3_add 51 = .ok (.aload_n 0, 1) := dk_42 (dk_at dksX3_add_2 5 rfl rfl)
theorem dX3_add_52 : decode cX3_add 52 = .ok (.dup, 1) := dk_89 (dk_at dksX3_add_2 6 rfl rfl)
theorem dX3_add_53 : decode cX3_add 53 = .ok (.getfield 13, 3) := dk_180 0 13 (dk_at dksX3_add_2 7 rfl rfl)
theorem dX3_add_56 : decode cX3_add 56 = .ok (.iconst 1, 1) := dk_4 (dk_at dksX3_add_2 10 rfl rfl)
theorem dX3_add_57 : decode cX3_add 57 = .ok (.iadd, 1) := dk_96 (dk_at dksX3_add_2 11 rfl rfl)
theorem dX3_add_58 : decode cX3_add 58 = .ok (.putfield 13, 3) := dk_181 0 13 (dk_at dksX3_add_2 12 rfl rfl)
theorem dX3_add_61 : decode cX3_add 61 = .ok (.return_, 1) := dk_177 (dk_at dksX3_add_2 15 rfl rfl)
abbrev cX3_any : ByteArray := prog_6_method_6_code
def yX3_any : MethodName := ⟨RX3, "any", "(LTankFilter$Test;)Z"⟩
def dkwX3_any_1 : List UInt8 := [185, 0, 23, 2, 0, 153, 0, 7, 4, 167, 0, 4, 3, 61, 132, 3, 1, 167, 255, 220, 28, 172]
abbrev dktX3_any_1 : List UInt8 := dkwX3_any_1 ++ []
def dkwX3_any_0 : List UInt8 := [3, 61, 3, 62, 29, 42, 180, 0, 13, 162, 0, 34, 28, 154, 0, 18, 43, 42, 180, 0, 7, 29, 50]
abbrev dktX3_any_0 : List UInt8 := dkwX3_any_0 ++ dktX3_any_1
theorem dksX3_any_0 : cX3_any.data.toList.drop 0 = dktX3_any_0 := by decide +kernel
theorem dksX3_any_1 : cX3_any.data.toList.drop 23 = dktX3_any_1 := dk_seg dksX3_any_0 23 rfl rfl
theorem dX3_any_0 : decode cX3_any 0 = .ok (.iconst 0, 1) := dk_3 (dk_at dksX3_any_0 0 rfl rfl)
theorem dX3_any_1 : decode cX3_any 1 = .ok (.istore_n 2, 1) := dk_61 (dk_at dksX3_any_0 1 rfl rfl)
theorem dX3_any_2 : decode cX3_any 2 = .ok (.iconst 0, 1) := dk_3 (dk_at dksX3_any_0 2 rfl rfl)
theorem dX3_any_3 : decode cX3_any 3 = .ok (.istore_n 3, 1) := dk_62 (dk_at dksX3_any_0 3 rfl rfl)
theorem dX3_any_4 : decode cX3_any 4 = .ok (.iload_n 3, 1) := dk_29 (dk_at dksX3_any_0 4 rfl rfl)
theorem dX3_any_5 : decode cX3_any 5 = .ok (.aload_n 0, 1) := dk_42 (dk_at dksX3_any_0 5 rfl rfl)
theorem dX3_any_6 : decode cX3_any 6 = .ok (.getfield 13, 3) := dk_180 0 13 (dk_at dksX3_any_0 6 rfl rfl)
theorem dX3_any_9 : decode cX3_any 9 = .ok (.if_icmp .ge 34, 3) := dk_162 0 34 (dk_at dksX3_any_0 9 rfl rfl)
theorem dX3_any_12 : decode cX3_any 12 = .ok (.iload_n 2, 1) := dk_28 (dk_at dksX3_any_0 12 rfl rfl)
theorem dX3_any_13 : decode cX3_any 13 = .ok (.ifCond .ne 18, 3) := dk_154 0 18 (dk_at dksX3_any_0 13 rfl rfl)
theorem dX3_any_16 : decode cX3_any 16 = .ok (.aload_n 1, 1) := dk_43 (dk_at dksX3_any_0 16 rfl rfl)
theorem dX3_any_17 : decode cX3_any 17 = .ok (.aload_n 0, 1) := dk_42 (dk_at dksX3_any_0 17 rfl rfl)
theorem dX3_any_18 : decode cX3_any 18 = .ok (.getfield 7, 3) := dk_180 0 7 (dk_at dksX3_any_0 18 rfl rfl)
theorem dX3_any_21 : decode cX3_any 21 = .ok (.iload_n 3, 1) := dk_29 (dk_at dksX3_any_0 21 rfl rfl)
theorem dX3_any_22 : decode cX3_any 22 = .ok (.aaload, 1) := dk_50 (dk_at dksX3_any_0 22 rfl rfl)
theorem dX3_any_23 : decode cX3_any 23 = .ok (.invokeinterface 23 2, 5) := by decide +kernel
theorem dX3_any_28 : decode cX3_any 28 = .ok (.ifCond .eq 7, 3) := dk_153 0 7 (dk_at dksX3_any_1 5 rfl rfl)
theorem dX3_any_31 : decode cX3_any 31 = .ok (.iconst 1, 1) := dk_4 (dk_at dksX3_any_1 8 rfl rfl)
theorem dX3_any_32 : decode cX3_any 32 = .ok (.goto 4, 3) := dk_167 0 4 (dk_at dksX3_any_1 9 rfl rfl)
theorem dX3_any_35 : decode cX3_any 35 = .ok (.iconst 0, 1) := dk_3 (dk_at dksX3_any_1 12 rfl rfl)
theorem dX3_any_36 : decode cX3_any 36 = .ok (.istore_n 2, 1) := dk_61 (dk_at dksX3_any_1 13 rfl rfl)
theorem dX3_any_37 : decode cX3_any 37 = .ok (.iinc 3 1, 3) := dk_132 3 1 (dk_at dksX3_any_1 14 rfl rfl)
theorem dX3_any_40 : decode cX3_any 40 = .ok (.goto (-36), 3) := dk_167 255 220 (dk_at dksX3_any_1 17 rfl rfl)
theorem dX3_any_43 : decode cX3_any 43 = .ok (.iload_n 2, 1) := dk_28 (dk_at dksX3_any_1 20 rfl rfl)
theorem dX3_any_44 : decode cX3_any 44 = .ok (.ireturn, 1) := dk_172 (dk_at dksX3_any_1 21 rfl rfl)
abbrev cX3_get : ByteArray := prog_6_method_3_code
def yX3_get : MethodName := ⟨RX3, "get", "(I)Ljava/lang/Object;"⟩
def dkwX3_get_0 : List UInt8 := [42, 180, 0, 7, 27, 50, 176]
abbrev dktX3_get_0 : List UInt8 := dkwX3_get_0 ++ []
theorem dksX3_get_0 : cX3_get.data.toList.drop 0 = dktX3_get_0 := by decide +kernel
theorem dX3_get_0 : decode cX3_get 0 = .ok (.aload_n 0, 1) := dk_42 (dk_at dksX3_get_0 0 rfl rfl)
theorem dX3_get_1 : decode cX3_get 1 = .ok (.getfield 7, 3) := dk_180 0 7 (dk_at dksX3_get_0 1 rfl rfl)
theorem dX3_get_4 : decode cX3_get 4 = .ok (.iload_n 1, 1) := dk_27 (dk_at dksX3_get_0 4 rfl rfl)
theorem dX3_get_5 : decode cX3_get 5 = .ok (.aaload, 1) := dk_50 (dk_at dksX3_get_0 5 rfl rfl)
theorem dX3_get_6 : decode cX3_get 6 = .ok (.areturn, 1) := dk_176 (dk_at dksX3_get_0 6 rfl rfl)
abbrev cX3_removeLast : ByteArray := prog_6_method_4_code
def yX3_removeLast : MethodName := ⟨RX3, "removeLast", "()Ljava/lang/Object;"⟩
def dkwX3_removeLast_0 : List UInt8 := [42, 89, 180, 0, 13, 4, 100, 181, 0, 13, 42, 180, 0, 7, 42, 180, 0, 13, 50, 176]
abbrev dktX3_removeLast_0 : List UInt8 := dkwX3_removeLast_0 ++ []
theorem dksX3_removeLast_0 : cX3_removeLast.data.toList.drop 0 = dktX3_removeLast_0 := by decide +kernel
theorem dX3_removeLast_0 : decode cX3_removeLast 0 = .ok (.aload_n 0, 1) := dk_42 (dk_at dksX3_removeLast_0 0 rfl rfl)
theorem dX3_removeLast_1 : decode cX3_removeLast 1 = .ok (.dup, 1) := dk_89 (dk_at dksX3_removeLast_0 1 rfl rfl)
theorem dX3_removeLast_2 : decode cX3_removeLast 2 = .ok (.getfield 13, 3) := dk_180 0 13 (dk_at dksX3_removeLast_0 2 rfl rfl)
theorem dX3_removeLast_5 : decode cX3_removeLast 5 = .ok (.iconst 1, 1) := dk_4 (dk_at dksX3_removeLast_0 5 rfl rfl)
theorem dX3_removeLast_6 : decode cX3_removeLast 6 = .ok (.isub, 1) := dk_100 (dk_at dksX3_removeLast_0 6 rfl rfl)
theorem dX3_removeLast_7 : decode cX3_removeLast 7 = .ok (.putfield 13, 3) := dk_181 0 13 (dk_at dksX3_removeLast_0 7 rfl rfl)
theorem dX3_removeLast_10 : decode cX3_removeLast 10 = .ok (.aload_n 0, 1) := dk_42 (dk_at dksX3_removeLast_0 10 rfl rfl)
theorem dX3_removeLast_11 : decode cX3_removeLast 11 = .ok (.getfield 7, 3) := dk_180 0 7 (dk_at dksX3_removeLast_0 11 rfl rfl)
theorem dX3_removeLast_14 : decode cX3_removeLast 14 = .ok (.aload_n 0, 1) := dk_42 (dk_at dksX3_removeLast_0 14 rfl rfl)
theorem dX3_removeLast_15 : decode cX3_removeLast 15 = .ok (.getfield 13, 3) := dk_180 0 13 (dk_at dksX3_removeLast_0 15 rfl rfl)
theorem dX3_removeLast_18 : decode cX3_removeLast 18 = .ok (.aaload, 1) := dk_50 (dk_at dksX3_removeLast_0 18 rfl rfl)
theorem dX3_removeLast_19 : decode cX3_removeLast 19 = .ok (.areturn, 1) := dk_176 (dk_at dksX3_removeLast_0 19 rfl rfl)
theorem q24 : (Jvm.Cond.initialized "TankFilter$Recent") ∈ lw_all := lw_g (lw_at lw_m1 4 rfl) rfl
theorem q96 : (Jvm.Cond.instantiable "TankFilter$Recent" (2 : Nat)) ∈ lw_all := lw_g (lw_at lw_m1 76 rfl) rfl
theorem q100 : (Jvm.Cond.instanceMethod ({ cls := "TankFilter$Recent", name := "<init>", desc := "([Ljava/lang/Object;)V" } : Jvm.MethodName)) ∈ lw_all := lw_g (lw_at lw_m1 80 rfl) rfl
theorem q101 : (Jvm.Cond.code ({ cls := "TankFilter$Recent", name := "<init>", desc := "([Ljava/lang/Object;)V" } : Jvm.MethodName) prog_6_method_1_code (2 : Nat) (Option.none : Option Jvm.ClassFile.FieldType)) ∈ lw_all := lw_g (lw_at lw_m1 81 rfl) rfl
theorem q102 : (Jvm.Cond.methodLink "TankFilter$Recent" (1 : Nat) ({ cls := "java/lang/Object", name := "<init>", desc := "()V" } : Jvm.MethodName)) ∈ lw_all := lw_g (lw_at lw_m1 82 rfl) rfl
theorem q103 : (Jvm.Cond.fieldLink "TankFilter$Recent" (7 : Nat) "TankFilter$Recent" "elements" "[Ljava/lang/Object;") ∈ lw_all := lw_g (lw_at lw_m1 83 rfl) rfl
theorem q104 : (Jvm.Cond.fieldLink "TankFilter$Recent" (13 : Nat) "TankFilter$Recent" "size" "I") ∈ lw_all := lw_g (lw_at lw_m1 84 rfl) rfl
theorem q107 : (Jvm.Cond.laysFinal "TankFilter$Recent" "TankFilter$Recent" "elements" "[Ljava/lang/Object;") ∈ lw_all := lw_g (lw_at lw_m1 87 rfl) rfl
theorem q108 : (Jvm.Cond.soleField "TankFilter$Recent" "elements") ∈ lw_all := lw_g (lw_at lw_m1 88 rfl) rfl
theorem q109 : (Jvm.Cond.lays "TankFilter$Recent" "TankFilter$Recent" "size" "I") ∈ lw_all := lw_g (lw_at lw_m1 89 rfl) rfl
theorem q110 : (Jvm.Cond.soleField "TankFilter$Recent" "size") ∈ lw_all := lw_g (lw_at lw_m1 90 rfl) rfl
theorem q111 : (Jvm.Cond.superclass "TankFilter$Recent" "java/lang/Object") ∈ lw_all := lw_g (lw_at lw_m1 91 rfl) rfl
theorem q229 : (Jvm.Cond.instanceMethod ({ cls := "TankFilter$Recent", name := "copyFrom", desc := "(LTankFilter$Recent;)V" } : Jvm.MethodName)) ∈ lw_all := lw_g (lw_at lw_m1 209 rfl) rfl
theorem q230 : (Jvm.Cond.selects "TankFilter$Recent" ({ cls := "TankFilter$Recent", name := "copyFrom", desc := "(LTankFilter$Recent;)V" } : Jvm.MethodName) ({ cls := "TankFilter$Recent", name := "copyFrom", desc := "(LTankFilter$Recent;)V" } : Jvm.MethodName)) ∈ lw_all := lw_g (lw_at lw_m1 210 rfl) rfl
theorem q231 : (Jvm.Cond.code ({ cls := "TankFilter$Recent", name := "copyFrom", desc := "(LTankFilter$Recent;)V" } : Jvm.MethodName) prog_6_method_5_code (2 : Nat) (Option.none : Option Jvm.ClassFile.FieldType)) ∈ lw_all := lw_g (lw_at lw_m1 211 rfl) rfl
theorem q232 : (Jvm.Cond.methodLink "TankFilter$Recent" (17 : Nat) ({ cls := "java/lang/System", name := "arraycopy", desc := "(Ljava/lang/Object;ILjava/lang/Object;II)V" } : Jvm.MethodName)) ∈ lw_all := lw_g (lw_at lw_m1 212 rfl) rfl
theorem q238 : (Jvm.Cond.instanceMethod ({ cls := "TankFilter$Recent", name := "add", desc := "(Ljava/lang/Object;)V" } : Jvm.MethodName)) ∈ lw_all := lw_g (lw_at lw_m1 218 rfl) rfl
theorem q239 : (Jvm.Cond.selects "TankFilter$Recent" ({ cls := "TankFilter$Recent", name := "add", desc := "(Ljava/lang/Object;)V" } : Jvm.MethodName) ({ cls := "TankFilter$Recent", name := "add", desc := "(Ljava/lang/Object;)V" } : Jvm.MethodName)) ∈ lw_all := lw_g (lw_at lw_m1 219 rfl) rfl
theorem q240 : (Jvm.Cond.code ({ cls := "TankFilter$Recent", name := "add", desc := "(Ljava/lang/Object;)V" } : Jvm.MethodName) prog_6_method_2_code (2 : Nat) (Option.none : Option Jvm.ClassFile.FieldType)) ∈ lw_all := lw_g (lw_at lw_m1 220 rfl) rfl
theorem q490 : (Jvm.Cond.instanceMethod ({ cls := "TankFilter$Recent", name := "any", desc := "(LTankFilter$Test;)Z" } : Jvm.MethodName)) ∈ lw_all := lw_g (lw_at lw_m2 230 rfl) rfl
theorem q491 : (Jvm.Cond.selects "TankFilter$Recent" ({ cls := "TankFilter$Recent", name := "any", desc := "(LTankFilter$Test;)Z" } : Jvm.MethodName) ({ cls := "TankFilter$Recent", name := "any", desc := "(LTankFilter$Test;)Z" } : Jvm.MethodName)) ∈ lw_all := lw_g (lw_at lw_m2 231 rfl) rfl
theorem q492 : (Jvm.Cond.code ({ cls := "TankFilter$Recent", name := "any", desc := "(LTankFilter$Test;)Z" } : Jvm.MethodName) prog_6_method_6_code (4 : Nat) (Option.some Jvm.ClassFile.FieldType.boolean)) ∈ lw_all := lw_g (lw_at lw_m2 232 rfl) rfl
theorem q493 : (Jvm.Cond.interfaceEntry "TankFilter$Recent" (23 : Nat)) ∈ lw_tbl := lw_at lw_m2 233 rfl
theorem q494 : (Jvm.Cond.methodLink "TankFilter$Recent" (23 : Nat) ({ cls := "TankFilter$Test", name := "passes", desc := "(Ljava/lang/Object;)Z" } : Jvm.MethodName)) ∈ lw_all := lw_g (lw_at lw_m2 234 rfl) rfl
theorem q522 : (Jvm.Cond.instanceMethod ({ cls := "TankFilter$Recent", name := "get", desc := "(I)Ljava/lang/Object;" } : Jvm.MethodName)) ∈ lw_all := lw_g (lw_at lw_m3 22 rfl) rfl
theorem q523 : (Jvm.Cond.selects "TankFilter$Recent" ({ cls := "TankFilter$Recent", name := "get", desc := "(I)Ljava/lang/Object;" } : Jvm.MethodName) ({ cls := "TankFilter$Recent", name := "get", desc := "(I)Ljava/lang/Object;" } : Jvm.MethodName)) ∈ lw_all := lw_g (lw_at lw_m3 23 rfl) rfl
theorem q524 : (Jvm.Cond.code ({ cls := "TankFilter$Recent", name := "get", desc := "(I)Ljava/lang/Object;" } : Jvm.MethodName) prog_6_method_3_code (2 : Nat) (Option.some (Jvm.ClassFile.FieldType.object "java/lang/Object"))) ∈ lw_all := lw_g (lw_at lw_m3 24 rfl) rfl
theorem q545 : (Jvm.Cond.instanceMethod ({ cls := "TankFilter$Recent", name := "removeLast", desc := "()Ljava/lang/Object;" } : Jvm.MethodName)) ∈ lw_all := lw_g (lw_at lw_m3 45 rfl) rfl
theorem q546 : (Jvm.Cond.selects "TankFilter$Recent" ({ cls := "TankFilter$Recent", name := "removeLast", desc := "()Ljava/lang/Object;" } : Jvm.MethodName) ({ cls := "TankFilter$Recent", name := "removeLast", desc := "()Ljava/lang/Object;" } : Jvm.MethodName)) ∈ lw_all := lw_g (lw_at lw_m3 46 rfl) rfl
theorem q547 : (Jvm.Cond.code ({ cls := "TankFilter$Recent", name := "removeLast", desc := "()Ljava/lang/Object;" } : Jvm.MethodName) prog_6_method_4_code (1 : Nat) (Option.some (Jvm.ClassFile.FieldType.object "java/lang/Object"))) ∈ lw_all := lw_g (lw_at lw_m3 47 rfl) rfl
theorem in_X3 : ∀ w ∈ wsX30, w ∈ lw_all := lw_in wsX30 [107, 109] (by decide +kernel) (by decide +kernel)

/-! TankFilter$Estimate -/
set_option maxRecDepth 100000
def RX2 : String := "TankFilter$Estimate"
def TX2 : u_T := fun k => match k with
  | 0 => ("TankFilter$Estimate", "x", "I", false)
  | 1 => ("TankFilter$Estimate", "v", "I", false)
  | 2 => ("TankFilter$Estimate", "a", "I", false)
  | 3 => ("TankFilter$Estimate", "b", "I", false)
  | 4 => ("TankFilter$Estimate", "c", "I", false)
  | 5 => ("TankFilter$Estimate", "innovation", "I", false)
  | 6 => ("TankFilter$Estimate", "levelGain", "I", false)
  | _ => ("TankFilter$Estimate", "flowGain", "I", false)
def tyX2 : Nat → FieldType := fun k => match k with
  | 0 => .int
  | 1 => .int
  | 2 => .int
  | 3 => .int
  | 4 => .int
  | 5 => .int
  | 6 => .int
  | _ => .int
abbrev wsX20 : List Cond := u_ws RX2 TX2 8
theorem nmX2 : ∀ a, a < 8 → ∀ b, b < 8 → a ≠ b → (TX2 a).2.1 ≠ (TX2 b).2.1 := by decide +kernel
theorem tyX2_ok : ∀ k, k < 8 → parseFieldDescriptor (TX2 k).2.2.1 = some (tyX2 k) := by decide +kernel
abbrev cX2_init : ByteArray := prog_2_method_1_code
def yX2_init : MethodName := ⟨RX2, "<init>", "()V"⟩
def dkwX2_init_1 : List UInt8 := [42, 18, 18, 181, 0, 22, 42, 18, 18, 181, 0, 25, 177]
abbrev dktX2_init_1 : List UInt8 := dkwX2_init_1 ++ []
def dkwX2_init_0 : List UInt8 := [42, 183, 0, 3, 42, 17, 16, 0, 181, 0, 9, 42, 17, 16, 0, 181, 0, 15, 42, 18, 18, 181, 0, 19]
abbrev dktX2_init_0 : List UInt8 := dkwX2_init_0 ++ dktX2_init_1
theorem dksX2_init_0 : cX2_init.data.toList.drop 0 = dktX2_init_0 := by decide +kernel
theorem dksX2_init_1 : cX2_init.data.toList.drop 24 = dktX2_init_1 := dk_seg dksX2_init_0 24 rfl rfl
theorem dX2_init_0 : decode cX2_init 0 = .ok (.aload_n 0, 1) := dk_42 (dk_at dksX2_init_0 0 rfl rfl)
theorem dX2_init_1 : decode cX2_init 1 = .ok (.invokespecial 3, 3) := dk_183 0 3 (dk_at dksX2_init_0 1 rfl rfl)
theorem dX2_init_4 : decode cX2_init 4 = .ok (.aload_n 0, 1) := dk_42 (dk_at dksX2_init_0 4 rfl rfl)
theorem dX2_init_5 : decode cX2_init 5 = .ok (.sipush 4096, 3) := dk_17 16 0 (dk_at dksX2_init_0 5 rfl rfl)
theorem dX2_init_8 : decode cX2_init 8 = .ok (.putfield 9, 3) := dk_181 0 9 (dk_at dksX2_init_0 8 rfl rfl)
theorem dX2_init_11 : decode cX2_init 11 = .ok (.aload_n 0, 1) := dk_42 (dk_at dksX2_init_0 11 rfl rfl)
theorem dX2_init_12 : decode cX2_init 12 = .ok (.sipush 4096, 3) := dk_17 16 0 (dk_at dksX2_init_0 12 rfl rfl)
theorem dX2_init_15 : decode cX2_init 15 = .ok (.putfield 15, 3) := dk_181 0 15 (dk_at dksX2_init_0 15 rfl rfl)
theorem dX2_init_18 : decode cX2_init 18 = .ok (.aload_n 0, 1) := dk_42 (dk_at dksX2_init_0 18 rfl rfl)
theorem dX2_init_19 : decode cX2_init 19 = .ok (.ldc 18, 2) := dk_18 18 (dk_at dksX2_init_0 19 rfl rfl)
theorem dX2_init_21 : decode cX2_init 21 = .ok (.putfield 19, 3) := dk_181 0 19 (dk_at dksX2_init_0 21 rfl rfl)
theorem dX2_init_24 : decode cX2_init 24 = .ok (.aload_n 0, 1) := dk_42 (dk_at dksX2_init_1 0 rfl rfl)
theorem dX2_init_25 : decode cX2_init 25 = .ok (.ldc 18, 2) := dk_18 18 (dk_at dksX2_init_1 1 rfl rfl)
theorem dX2_init_27 : decode cX2_init 27 = .ok (.putfield 22, 3) := dk_181 0 22 (dk_at dksX2_init_1 3 rfl rfl)
theorem dX2_init_30 : decode cX2_init 30 = .ok (.aload_n 0, 1) := dk_42 (dk_at dksX2_init_1 6 rfl rfl)
theorem dX2_init_31 : decode cX2_init 31 = .ok (.ldc 18, 2) := dk_18 18 (dk_at dksX2_init_1 7 rfl rfl)
theorem dX2_init_33 : decode cX2_init 33 = .ok (.putfield 25, 3) := dk_181 0 25 (dk_at dksX2_init_1 9 rfl rfl)
theorem dX2_init_36 : decode cX2_init 36 = .ok (.return_, 1) := dk_177 (dk_at dksX2_init_1 12 rfl rfl)
abbrev cX2_copyFrom : ByteArray := prog_2_method_2_code
def yX2_copyFrom : MethodName := ⟨RX2, "copyFrom", "(LTankFilter$Estimate;)V"⟩
def dkwX2_copyFrom_2 : List UInt8 := [42, 43, 180, 0, 22, 181, 0, 22, 42, 43, 180, 0, 25, 181, 0, 25, 177]
abbrev dktX2_copyFrom_2 : List UInt8 := dkwX2_copyFrom_2 ++ []
def dkwX2_copyFrom_1 : List UInt8 := [42, 43, 180, 0, 34, 181, 0, 34, 42, 43, 180, 0, 15, 181, 0, 15, 42, 43, 180, 0, 19, 181, 0, 19]
abbrev dktX2_copyFrom_1 : List UInt8 := dkwX2_copyFrom_1 ++ dktX2_copyFrom_2
def dkwX2_copyFrom_0 : List UInt8 := [42, 43, 180, 0, 28, 181, 0, 28, 42, 43, 180, 0, 31, 181, 0, 31, 42, 43, 180, 0, 9, 181, 0, 9]
abbrev dktX2_copyFrom_0 : List UInt8 := dkwX2_copyFrom_0 ++ dktX2_copyFrom_1
theorem dksX2_copyFrom_0 : cX2_copyFrom.data.toList.drop 0 = dktX2_copyFrom_0 := by decide +kernel
theorem dksX2_copyFrom_1 : cX2_copyFrom.data.toList.drop 24 = dktX2_copyFrom_1 := dk_seg dksX2_copyFrom_0 24 rfl rfl
theorem dksX2_copyFrom_2 : cX2_copyFrom.data.toList.drop 48 = dktX2_copyFrom_2 := dk_seg dksX2_copyFrom_1 24 rfl rfl
theorem dX2_copyFrom_0 : decode cX2_copyFrom 0 = .ok (.aload_n 0, 1) := dk_42 (dk_at dksX2_copyFrom_0 0 rfl rfl)
theorem dX2_copyFrom_1 : decode cX2_copyFrom 1 = .ok (.aload_n 1, 1) := dk_43 (dk_at dksX2_copyFrom_0 1 rfl rfl)
theorem dX2_copyFrom_2 : decode cX2_copyFrom 2 = .ok (.getfield 28, 3) := dk_180 0 28 (dk_at dksX2_copyFrom_0 2 rfl rfl)
theorem dX2_copyFrom_5 : decode cX2_copyFrom 5 = .ok (.putfield 28, 3) := dk_181 0 28 (dk_at dksX2_copyFrom_0 5 rfl rfl)
theorem dX2_copyFrom_8 : decode cX2_copyFrom 8 = .ok (.aload_n 0, 1) := dk_42 (dk_at dksX2_copyFrom_0 8 rfl rfl)
theorem dX2_copyFrom_9 : decode cX2_copyFrom 9 = .ok (.aload_n 1, 1) := dk_43 (dk_at dksX2_copyFrom_0 9 rfl rfl)
theorem dX2_copyFrom_10 : decode cX2_copyFrom 10 = .ok (.getfield 31, 3) := dk_180 0 31 (dk_at dksX2_copyFrom_0 10 rfl rfl)
theorem dX2_copyFrom_13 : decode cX2_copyFrom 13 = .ok (.putfield 31, 3) := dk_181 0 31 (dk_at dksX2_copyFrom_0 13 rfl rfl)
theorem dX2_copyFrom_16 : decode cX2_copyFrom 16 = .ok (.aload_n 0, 1) := dk_42 (dk_at dksX2_copyFrom_0 16 rfl rfl)
theorem dX2_copyFrom_17 : decode cX2_copyFrom 17 = .ok (.aload_n 1, 1) := dk_43 (dk_at dksX2_copyFrom_0 17 rfl rfl)
theorem dX2_copyFrom_18 : decode cX2_copyFrom 18 = .ok (.getfield 9, 3) := dk_180 0 9 (dk_at dksX2_copyFrom_0 18 rfl rfl)
theorem dX2_copyFrom_21 : decode cX2_copyFrom 21 = .ok (.putfield 9, 3) := dk_181 0 9 (dk_at dksX2_copyFrom_0 21 rfl rfl)
theorem dX2_copyFrom_24 : decode cX2_copyFrom 24 = .ok (.aload_n 0, 1) := dk_42 (dk_at dksX2_copyFrom_1 0 rfl rfl)
theorem dX2_copyFrom_25 : decode cX2_copyFrom 25 = .ok (.aload_n 1, 1) := dk_43 (dk_at dksX2_copyFrom_1 1 rfl rfl)
theorem dX2_copyFrom_26 : decode cX2_copyFrom 26 = .ok (.getfield 34, 3) := dk_180 0 34 (dk_at dksX2_copyFrom_1 2 rfl rfl)
theorem dX2_copyFrom_29 : decode cX2_copyFrom 29 = .ok (.putfield 34, 3) := dk_181 0 34 (dk_at dksX2_copyFrom_1 5 rfl rfl)
theorem dX2_copyFrom_32 : decode cX2_copyFrom 32 = .ok (.aload_n 0, 1) := dk_42 (dk_at dksX2_copyFrom_1 8 rfl rfl)
theorem dX2_copyFrom_33 : decode cX2_copyFrom 33 = .ok (.aload_n 1, 1) := dk_43 (dk_at dksX2_copyFrom_1 9 rfl rfl)
theorem dX2_copyFrom_34 : decode cX2_copyFrom 34 = .ok (.getfield 15, 3) := dk_180 0 15 (dk_at dksX2_copyFrom_1 10 rfl rfl)
theorem dX2_copyFrom_37 : decode cX2_copyFrom 37 = .ok (.putfield 15, 3) := dk_181 0 15 (dk_at dksX2_copyFrom_1 13 rfl rfl)
theorem dX2_copyFrom_40 : decode cX2_copyFrom 40 = .ok (.aload_n 0, 1) := dk_42 (dk_at dksX2_copyFrom_1 16 rfl rfl)
theorem dX2_copyFrom_41 : decode cX2_copyFrom 41 = .ok (.aload_n 1, 1) := dk_43 (dk_at dksX2_copyFrom_1 17 rfl rfl)
theorem dX2_copyFrom_42 : decode cX2_copyFrom 42 = .ok (.getfield 19, 3) := dk_180 0 19 (dk_at dksX2_copyFrom_1 18 rfl rfl)
theorem dX2_copyFrom_45 : decode cX2_copyFrom 45 = .ok (.putfield 19, 3) := dk_181 0 19 (dk_at dksX2_copyFrom_1 21 rfl rfl)
theorem dX2_copyFrom_48 : decode cX2_copyFrom 48 = .ok (.aload_n 0, 1) := dk_42 (dk_at dksX2_copyFrom_2 0 rfl rfl)
theorem dX2_copyFrom_49 : decode cX2_copyFrom 49 = .ok (.aload_n 1, 1) := dk_43 (dk_at dksX2_copyFrom_2 1 rfl rfl)
theorem dX2_copyFrom_50 : decode cX2_copyFrom 50 = .ok (.getfield 22, 3) := dk_180 0 22 (dk_at dksX2_copyFrom_2 2 rfl rfl)
theorem dX2_copyFrom_53 : decode cX2_copyFrom 53 = .ok (.putfield 22, 3) := dk_181 0 22 (dk_at dksX2_copyFrom_2 5 rfl rfl)
theorem dX2_copyFrom_56 : decode cX2_copyFrom 56 = .ok (.aload_n 0, 1) := dk_42 (dk_at dksX2_copyFrom_2 8 rfl rfl)
theorem dX2_copyFrom_57 : decode cX2_copyFrom 57 = .ok (.aload_n 1, 1) := dk_43 (dk_at dksX2_copyFrom_2 9 rfl rfl)
theorem dX2_copyFrom_58 : decode cX2_copyFrom 58 = .ok (.getfield 25, 3) := dk_180 0 25 (dk_at dksX2_copyFrom_2 10 rfl rfl)
theorem dX2_copyFrom_61 : decode cX2_copyFrom 61 = .ok (.putfield 25, 3) := dk_181 0 25 (dk_at dksX2_copyFrom_2 13 rfl rfl)
theorem dX2_copyFrom_64 : decode cX2_copyFrom 64 = .ok (.return_, 1) := dk_177 (dk_at dksX2_copyFrom_2 16 rfl rfl)
abbrev cX2_predict : ByteArray := prog_2_method_3_code
def yX2_predict : MethodName := ⟨RX2, "predict", "(III)V"⟩
def dkwX2_predict_4 : List UInt8 := [21, 7, 181, 0, 15, 177]
abbrev dktX2_predict_4 : List UInt8 := dkwX2_predict_4 ++ []
def dkwX2_predict_3 : List UInt8 := [184, 0, 37, 54, 7, 42, 21, 4, 181, 0, 28, 42, 21, 5, 181, 0, 9, 42, 21, 6, 181, 0, 34, 42]
abbrev dktX2_predict_3 : List UInt8 := dkwX2_predict_3 ++ dktX2_predict_4
def dkwX2_predict_2 : List UInt8 := [42, 180, 0, 34, 133, 42, 180, 0, 15, 133, 97, 184, 0, 37, 54, 6, 42, 180, 0, 15, 133, 29, 133, 97]
abbrev dktX2_predict_2 : List UInt8 := dkwX2_predict_2 ++ dktX2_predict_3
def dkwX2_predict_1 : List UInt8 := [20, 0, 41, 42, 180, 0, 34, 133, 105, 97, 42, 180, 0, 15, 133, 97, 28, 133, 97, 184, 0, 43, 54, 5]
abbrev dktX2_predict_1 : List UInt8 := dkwX2_predict_1 ++ dktX2_predict_2
def dkwX2_predict_0 : List UInt8 := [42, 180, 0, 28, 133, 42, 180, 0, 31, 133, 97, 27, 133, 97, 184, 0, 37, 54, 4, 42, 180, 0, 9, 133]
abbrev dktX2_predict_0 : List UInt8 := dkwX2_predict_0 ++ dktX2_predict_1
theorem dksX2_predict_0 : cX2_predict.data.toList.drop 0 = dktX2_predict_0 := by decide +kernel
theorem dksX2_predict_1 : cX2_predict.data.toList.drop 24 = dktX2_predict_1 := dk_seg dksX2_predict_0 24 rfl rfl
theorem dksX2_predict_2 : cX2_predict.data.toList.drop 48 = dktX2_predict_2 := dk_seg dksX2_predict_1 24 rfl rfl
theorem dksX2_predict_3 : cX2_predict.data.toList.drop 72 = dktX2_predict_3 := dk_seg dksX2_predict_2 24 rfl rfl
theorem dksX2_predict_4 : cX2_predict.data.toList.drop 96 = dktX2_predict_4 := dk_seg dksX2_predict_3 24 rfl rfl
theorem dX2_predict_0 : decode cX2_predict 0 = .ok (.aload_n 0, 1) := dk_42 (dk_at dksX2_predict_0 0 rfl rfl)
theorem dX2_predict_1 : decode cX2_predict 1 = .ok (.getfield 28, 3) := dk_180 0 28 (dk_at dksX2_predict_0 1 rfl rfl)
theorem dX2_predict_4 : decode cX2_predict 4 = .ok (.i2l, 1) := dk_133 (dk_at dksX2_predict_0 4 rfl rfl)
theorem dX2_predict_5 : decode cX2_predict 5 = .ok (.aload_n 0, 1) := dk_42 (dk_at dksX2_predict_0 5 rfl rfl)
theorem dX2_predict_6 : decode cX2_predict 6 = .ok (.getfield 31, 3) := dk_180 0 31 (dk_at dksX2_predict_0 6 rfl rfl)
theorem dX2_predict_9 : decode cX2_predict 9 = .ok (.i2l, 1) := dk_133 (dk_at dksX2_predict_0 9 rfl rfl)
theorem dX2_predict_10 : decode cX2_predict 10 = .ok (.ladd, 1) := dk_97 (dk_at dksX2_predict_0 10 rfl rfl)
theorem dX2_predict_11 : decode cX2_predict 11 = .ok (.iload_n 1, 1) := dk_27 (dk_at dksX2_predict_0 11 rfl rfl)
theorem dX2_predict_12 : decode cX2_predict 12 = .ok (.i2l, 1) := dk_133 (dk_at dksX2_predict_0 12 rfl rfl)
theorem dX2_predict_13 : decode cX2_predict 13 = .ok (.ladd, 1) := dk_97 (dk_at dksX2_predict_0 13 rfl rfl)
theorem dX2_predict_14 : decode cX2_predict 14 = .ok (.invokestatic 37, 3) := dk_184 0 37 (dk_at dksX2_predict_0 14 rfl rfl)
theorem dX2_predict_17 : decode cX2_predict 17 = .ok (.istore 4, 2) := dk_54 4 (dk_at dksX2_predict_0 17 rfl rfl)
theorem dX2_predict_19 : decode cX2_predict 19 = .ok (.aload_n 0, 1) := dk_42 (dk_at dksX2_predict_0 19 rfl rfl)
theorem dX2_predict_20 : decode cX2_predict 20 = .ok (.getfield 9, 3) := dk_180 0 9 (dk_at dksX2_predict_0 20 rfl rfl)
theorem dX2_predict_23 : decode cX2_predict 23 = .ok (.i2l, 1) := dk_133 (dk_at dksX2_predict_0 23 rfl rfl)
theorem dX2_predict_24 : decode cX2_predict 24 = .ok (.ldc2_w 41, 3) := dk_20 0 41 (dk_at dksX2_predict_1 0 rfl rfl)
theorem dX2_predict_27 : decode cX2_predict 27 = .ok (.aload_n 0, 1) := dk_42 (dk_at dksX2_predict_1 3 rfl rfl)
theorem dX2_predict_28 : decode cX2_predict 28 = .ok (.getfield 34, 3) := dk_180 0 34 (dk_at dksX2_predict_1 4 rfl rfl)
theorem dX2_predict_31 : decode cX2_predict 31 = .ok (.i2l, 1) := dk_133 (dk_at dksX2_predict_1 7 rfl rfl)
theorem dX2_predict_32 : decode cX2_predict 32 = .ok (.lmul, 1) := dk_105 (dk_at dksX2_predict_1 8 rfl rfl)
theorem dX2_predict_33 : decode cX2_predict 33 = .ok (.ladd, 1) := dk_97 (dk_at dksX2_predict_1 9 rfl rfl)
theorem dX2_predict_34 : decode cX2_predict 34 = .ok (.aload_n 0, 1) := dk_42 (dk_at dksX2_predict_1 10 rfl rfl)
theorem dX2_predict_35 : decode cX2_predict 35 = .ok (.getfield 15, 3) := dk_180 0 15 (dk_at dksX2_predict_1 11 rfl rfl)
theorem dX2_predict_38 : decode cX2_predict 38 = .ok (.i2l, 1) := dk_133 (dk_at dksX2_predict_1 14 rfl rfl)
theorem dX2_predict_39 : decode cX2_predict 39 = .ok (.ladd, 1) := dk_97 (dk_at dksX2_predict_1 15 rfl rfl)
theorem dX2_predict_40 : decode cX2_predict 40 = .ok (.iload_n 2, 1) := dk_28 (dk_at dksX2_predict_1 16 rfl rfl)
theorem dX2_predict_41 : decode cX2_predict 41 = .ok (.i2l, 1) := dk_133 (dk_at dksX2_predict_1 17 rfl rfl)
theorem dX2_predict_42 : decode cX2_predict 42 = .ok (.ladd, 1) := dk_97 (dk_at dksX2_predict_1 18 rfl rfl)
theorem dX2_predict_43 : decode cX2_predict 43 = .ok (.invokestatic 43, 3) := dk_184 0 43 (dk_at dksX2_predict_1 19 rfl rfl)
theorem dX2_predict_46 : decode cX2_predict 46 = .ok (.istore 5, 2) := dk_54 5 (dk_at dksX2_predict_1 22 rfl rfl)
theorem dX2_predict_48 : decode cX2_predict 48 = .ok (.aload_n 0, 1) := dk_42 (dk_at dksX2_predict_2 0 rfl rfl)
theorem dX2_predict_49 : decode cX2_predict 49 = .ok (.getfield 34, 3) := dk_180 0 34 (dk_at dksX2_predict_2 1 rfl rfl)
theorem dX2_predict_52 : decode cX2_predict 52 = .ok (.i2l, 1) := dk_133 (dk_at dksX2_predict_2 4 rfl rfl)
theorem dX2_predict_53 : decode cX2_predict 53 = .ok (.aload_n 0, 1) := dk_42 (dk_at dksX2_predict_2 5 rfl rfl)
theorem dX2_predict_54 : decode cX2_predict 54 = .ok (.getfield 15, 3) := dk_180 0 15 (dk_at dksX2_predict_2 6 rfl rfl)
theorem dX2_predict_57 : decode cX2_predict 57 = .ok (.i2l, 1) := dk_133 (dk_at dksX2_predict_2 9 rfl rfl)
theorem dX2_predict_58 : decode cX2_predict 58 = .ok (.ladd, 1) := dk_97 (dk_at dksX2_predict_2 10 rfl rfl)
theorem dX2_predict_59 : decode cX2_predict 59 = .ok (.invokestatic 37, 3) := dk_184 0 37 (dk_at dksX2_predict_2 11 rfl rfl)
theorem dX2_predict_62 : decode cX2_predict 62 = .ok (.istore 6, 2) := dk_54 6 (dk_at dksX2_predict_2 14 rfl rfl)
theorem dX2_predict_64 : decode cX2_predict 64 = .ok (.aload_n 0, 1) := dk_42 (dk_at dksX2_predict_2 16 rfl rfl)
theorem dX2_predict_65 : decode cX2_predict 65 = .ok (.getfield 15, 3) := dk_180 0 15 (dk_at dksX2_predict_2 17 rfl rfl)
theorem dX2_predict_68 : decode cX2_predict 68 = .ok (.i2l, 1) := dk_133 (dk_at dksX2_predict_2 20 rfl rfl)
theorem dX2_predict_69 : decode cX2_predict 69 = .ok (.iload_n 3, 1) := dk_29 (dk_at dksX2_predict_2 21 rfl rfl)
theorem dX2_predict_70 : decode cX2_predict 70 = .ok (.i2l, 1) := dk_133 (dk_at dksX2_predict_2 22 rfl rfl)
theorem dX2_predict_71 : decode cX2_predict 71 = .ok (.ladd, 1) := dk_97 (dk_at dksX2_predict_2 23 rfl rfl)
theorem dX2_predict_72 : decode cX2_predict 72 = .ok (.invokestatic 37, 3) := dk_184 0 37 (dk_at dksX2_predict_3 0 rfl rfl)
theorem dX2_predict_75 : decode cX2_predict 75 = .ok (.istore 7, 2) := dk_54 7 (dk_at dksX2_predict_3 3 rfl rfl)
theorem dX2_predict_77 : decode cX2_predict 77 = .ok (.aload_n 0, 1) := dk_42 (dk_at dksX2_predict_3 5 rfl rfl)
theorem dX2_predict_78 : decode cX2_predict 78 = .ok (.iload 4, 2) := dk_21 4 (dk_at dksX2_predict_3 6 rfl rfl)
theorem dX2_predict_80 : decode cX2_predict 80 = .ok (.putfield 28, 3) := dk_181 0 28 (dk_at dksX2_predict_3 8 rfl rfl)
theorem dX2_predict_83 : decode cX2_predict 83 = .ok (.aload_n 0, 1) := dk_42 (dk_at dksX2_predict_3 11 rfl rfl)
theorem dX2_predict_84 : decode cX2_predict 84 = .ok (.iload 5, 2) := dk_21 5 (dk_at dksX2_predict_3 12 rfl rfl)
theorem dX2_predict_86 : decode cX2_predict 86 = .ok (.putfield 9, 3) := dk_181 0 9 (dk_at dksX2_predict_3 14 rfl rfl)
theorem dX2_predict_89 : decode cX2_predict 89 = .ok (.aload_n 0, 1) := dk_42 (dk_at dksX2_predict_3 17 rfl rfl)
theorem dX2_predict_90 : decode cX2_predict 90 = .ok (.iload 6, 2) := dk_21 6 (dk_at dksX2_predict_3 18 rfl rfl)
theorem dX2_predict_92 : decode cX2_predict 92 = .ok (.putfield 34, 3) := dk_181 0 34 (dk_at dksX2_predict_3 20 rfl rfl)
theorem dX2_predict_95 : decode cX2_predict 95 = .ok (.aload_n 0, 1) := dk_42 (dk_at dksX2_predict_3 23 rfl rfl)
theorem dX2_predict_96 : decode cX2_predict 96 = .ok (.iload 7, 2) := dk_21 7 (dk_at dksX2_predict_4 0 rfl rfl)
theorem dX2_predict_98 : decode cX2_predict 98 = .ok (.putfield 15, 3) := dk_181 0 15 (dk_at dksX2_predict_4 2 rfl rfl)
theorem dX2_predict_101 : decode cX2_predict 101 = .ok (.return_, 1) := dk_177 (dk_at dksX2_predict_4 5 rfl rfl)
abbrev cX2_positive : ByteArray := prog_2_method_5_code
def yX2_positive : MethodName := ⟨RX2, "positive", "(J)I"⟩
def dkwX2_positive_0 : List UInt8 := [9, 30, 184, 0, 51, 184, 0, 37, 172]
abbrev dktX2_positive_0 : List UInt8 := dkwX2_positive_0 ++ []
theorem dksX2_positive_0 : cX2_positive.data.toList.drop 0 = dktX2_positive_0 := by decide +kernel
theorem dX2_positive_0 : decode cX2_positive 0 = .ok (.lconst 0, 1) := dk_9 (dk_at dksX2_positive_0 0 rfl rfl)
theorem dX2_positive_1 : decode cX2_positive 1 = .ok (.lload_n 0, 1) := dk_30 (dk_at dksX2_positive_0 1 rfl rfl)
theorem dX2_positive_2 : decode cX2_positive 2 = .ok (.invokestatic 51, 3) := dk_184 0 51 (dk_at dksX2_positive_0 2 rfl rfl)
theorem dX2_positive_5 : decode cX2_positive 5 = .ok (.invokestatic 37, 3) := dk_184 0 37 (dk_at dksX2_positive_0 5 rfl rfl)
theorem dX2_positive_8 : decode cX2_positive 8 = .ok (.ireturn, 1) := dk_172 (dk_at dksX2_positive_0 8 rfl rfl)
abbrev cX2_correct : ByteArray := prog_2_method_6_code
def yX2_correct : MethodName := ⟨RX2, "correct", "(LTankFilter$Sensor;II)Z"⟩
def dkwX2_correct_14 : List UInt8 := [22, 11, 136, 181, 0, 25, 4, 172]
abbrev dktX2_correct_14 : List UInt8 := dkwX2_correct_14 ++ []
def dkwX2_correct_13 : List UInt8 := [181, 0, 34, 42, 21, 17, 181, 0, 15, 42, 22, 7, 136, 181, 0, 19, 42, 22, 9, 136, 181, 0, 22, 42]
abbrev dktX2_correct_13 : List UInt8 := dkwX2_correct_13 ++ dktX2_correct_14
def dkwX2_correct_12 : List UInt8 := [54, 17, 42, 21, 13, 181, 0, 28, 42, 21, 14, 181, 0, 31, 42, 21, 15, 181, 0, 9, 42, 21, 16]
abbrev dktX2_correct_12 : List UInt8 := dkwX2_correct_12 ++ dktX2_correct_13
def dkwX2_correct_11 : List UInt8 := [153, 0, 11, 42, 180, 0, 34, 133, 167, 0, 8, 42, 180, 0, 15, 133, 184, 0, 69, 101, 184, 0, 43]
abbrev dktX2_correct_11 : List UInt8 := dkwX2_correct_11 ++ dktX2_correct_12
def dkwX2_correct_10 : List UInt8 := [180, 0, 15, 133, 184, 0, 69, 101, 184, 0, 37, 54, 16, 42, 180, 0, 15, 133, 22, 11, 21, 4]
abbrev dktX2_correct_10 : List UInt8 := dkwX2_correct_10 ++ dktX2_correct_11
def dkwX2_correct_9 : List UInt8 := [54, 15, 42, 180, 0, 34, 133, 22, 9, 21, 4, 153, 0, 11, 42, 180, 0, 34, 133, 167, 0, 8, 42]
abbrev dktX2_correct_9 : List UInt8 := dkwX2_correct_9 ++ dktX2_correct_10
def dkwX2_correct_8 : List UInt8 := [153, 0, 11, 42, 180, 0, 9, 133, 167, 0, 8, 42, 180, 0, 34, 133, 184, 0, 69, 101, 184, 0, 43]
abbrev dktX2_correct_8 : List UInt8 := dkwX2_correct_8 ++ dktX2_correct_9
def dkwX2_correct_7 : List UInt8 := [22, 11, 22, 7, 184, 0, 69, 97, 184, 0, 37, 54, 14, 42, 180, 0, 9, 133, 22, 9, 21, 4]
abbrev dktX2_correct_7 : List UInt8 := dkwX2_correct_7 ++ dktX2_correct_8
def dkwX2_correct_6 : List UInt8 := [42, 180, 0, 28, 133, 22, 9, 22, 7, 184, 0, 69, 97, 184, 0, 37, 54, 13, 42, 180, 0, 31, 133]
abbrev dktX2_correct_6 : List UInt8 := dkwX2_correct_6 ++ dktX2_correct_7
def dkwX2_correct_5 : List UInt8 := [42, 180, 0, 34, 133, 167, 0, 8, 42, 180, 0, 15, 133, 22, 5, 184, 0, 66, 184, 0, 37, 133, 55, 11]
abbrev dktX2_correct_5 : List UInt8 := dkwX2_correct_5 ++ dktX2_correct_6
def dkwX2_correct_4 : List UInt8 := [167, 0, 8, 42, 180, 0, 34, 133, 22, 5, 184, 0, 66, 184, 0, 37, 133, 55, 9, 21, 4, 153, 0, 11]
abbrev dktX2_correct_4 : List UInt8 := dkwX2_correct_4 ++ dktX2_correct_5
def dkwX2_correct_3 : List UInt8 := [158, 0, 12, 42, 22, 7, 136, 181, 0, 19, 3, 172, 21, 4, 153, 0, 11, 42, 180, 0, 9, 133]
abbrev dktX2_correct_3 : List UInt8 := dkwX2_correct_3 ++ dktX2_correct_4
def dkwX2_correct_2 : List UInt8 := [101, 55, 7, 29, 153, 0, 30, 22, 7, 22, 7, 105, 29, 133, 22, 5, 105, 20, 0, 64, 105, 148]
abbrev dktX2_correct_2 : List UInt8 := dkwX2_correct_2 ++ dktX2_correct_3
def dkwX2_correct_1 : List UInt8 := [167, 0, 7, 42, 180, 0, 15, 133, 43, 180, 0, 57, 133, 97, 55, 5, 28, 133, 42, 43, 182, 0, 60, 133]
abbrev dktX2_correct_1 : List UInt8 := dkwX2_correct_1 ++ dktX2_correct_2
def dkwX2_correct_0 : List UInt8 := [43, 180, 0, 46, 154, 0, 7, 4, 167, 0, 4, 3, 54, 4, 21, 4, 153, 0, 10, 42, 180, 0, 9]
abbrev dktX2_correct_0 : List UInt8 := dkwX2_correct_0 ++ dktX2_correct_1
theorem dksX2_correct_0 : cX2_correct.data.toList.drop 0 = dktX2_correct_0 := by decide +kernel
theorem dksX2_correct_1 : cX2_correct.data.toList.drop 23 = dktX2_correct_1 := dk_seg dksX2_correct_0 23 rfl rfl
theorem dksX2_correct_2 : cX2_correct.data.toList.drop 47 = dktX2_correct_2 := dk_seg dksX2_correct_1 24 rfl rfl
theorem dksX2_correct_3 : cX2_correct.data.toList.drop 69 = dktX2_correct_3 := dk_seg dksX2_correct_2 22 rfl rfl
theorem dksX2_correct_4 : cX2_correct.data.toList.drop 91 = dktX2_correct_4 := dk_seg dksX2_correct_3 22 rfl rfl
theorem dksX2_correct_5 : cX2_correct.data.toList.drop 115 = dktX2_correct_5 := dk_seg dksX2_correct_4 24 rfl rfl
theorem dksX2_correct_6 : cX2_correct.data.toList.drop 139 = dktX2_correct_6 := dk_seg dksX2_correct_5 24 rfl rfl
theorem dksX2_correct_7 : cX2_correct.data.toList.drop 162 = dktX2_correct_7 := dk_seg dksX2_correct_6 23 rfl rfl
theorem dksX2_correct_8 : cX2_correct.data.toList.drop 184 = dktX2_correct_8 := dk_seg dksX2_correct_7 22 rfl rfl
theorem dksX2_correct_9 : cX2_correct.data.toList.drop 207 = dktX2_correct_9 := dk_seg dksX2_correct_8 23 rfl rfl
theorem dksX2_correct_10 : cX2_correct.data.toList.drop 230 = dktX2_correct_10 := dk_seg dksX2_correct_9 23 rfl rfl
theorem dksX2_correct_11 : cX2_correct.data.toList.drop 252 = dktX2_correct_11 := dk_seg dksX2_correct_10 22 rfl rfl
theorem dksX2_correct_12 : cX2_correct.data.toList.drop 275 = dktX2_correct_12 := dk_seg dksX2_correct_11 23 rfl rfl
theorem dksX2_correct_13 : cX2_correct.data.toList.drop 298 = dktX2_correct_13 := dk_seg dksX2_correct_12 23 rfl rfl
theorem dksX2_correct_14 : cX2_correct.data.toList.drop 322 = dktX2_correct_14 := dk_seg dksX2_correct_13 24 rfl rfl
theorem dX2_correct_0 : decode cX2_correct 0 = .ok (.aload_n 1, 1) := dk_43 (dk_at dksX2_correct_0 0 rfl rfl)
theorem dX2_correct_1 : decode cX2_correct 1 = .ok (.getfield 46, 3) := dk_180 0 46 (dk_at dksX2_correct_0 1 rfl rfl)
theorem dX2_correct_4 : decode cX2_correct 4 = .ok (.ifCond .ne 7, 3) := dk_154 0 7 (dk_at dksX2_correct_0 4 rfl rfl)
theorem dX2_correct_7 : decode cX2_correct 7 = .ok (.iconst 1, 1) := dk_4 (dk_at dksX2_correct_0 7 rfl rfl)
theorem dX2_correct_8 : decode cX2_correct 8 = .ok (.goto 4, 3) := dk_167 0 4 (dk_at dksX2_correct_0 8 rfl rfl)
theorem dX2_correct_11 : decode cX2_correct 11 = .ok (.iconst 0, 1) := dk_3 (dk_at dksX2_correct_0 11 rfl rfl)
theorem dX2_correct_12 : decode cX2_correct 12 = .ok (.istore 4, 2) := dk_54 4 (dk_at dksX2_correct_0 12 rfl rfl)
theorem dX2_correct_14 : decode cX2_correct 14 = .ok (.iload 4, 2) := dk_21 4 (dk_at dksX2_correct_0 14 rfl rfl)
theorem dX2_correct_16 : decode cX2_correct 16 = .ok (.ifCond .eq 10, 3) := dk_153 0 10 (dk_at dksX2_correct_0 16 rfl rfl)
theorem dX2_correct_19 : decode cX2_correct 19 = .ok (.aload_n 0, 1) := dk_42 (dk_at dksX2_correct_0 19 rfl rfl)
theorem dX2_correct_20 : decode cX2_correct 20 = .ok (.getfield 9, 3) := dk_180 0 9 (dk_at dksX2_correct_0 20 rfl rfl)
theorem dX2_correct_23 : decode cX2_correct 23 = .ok (.goto 7, 3) := dk_167 0 7 (dk_at dksX2_correct_1 0 rfl rfl)
theorem dX2_correct_26 : decode cX2_correct 26 = .ok (.aload_n 0, 1) := dk_42 (dk_at dksX2_correct_1 3 rfl rfl)
theorem dX2_correct_27 : decode cX2_correct 27 = .ok (.getfield 15, 3) := dk_180 0 15 (dk_at dksX2_correct_1 4 rfl rfl)
theorem dX2_correct_30 : decode cX2_correct 30 = .ok (.i2l, 1) := dk_133 (dk_at dksX2_correct_1 7 rfl rfl)
theorem dX2_correct_31 : decode cX2_correct 31 = .ok (.aload_n 1, 1) := dk_43 (dk_at dksX2_correct_1 8 rfl rfl)
theorem dX2_correct_32 : decode cX2_correct 32 = .ok (.getfield 57, 3) := dk_180 0 57 (dk_at dksX2_correct_1 9 rfl rfl)
theorem dX2_correct_35 : decode cX2_correct 35 = .ok (.i2l, 1) := dk_133 (dk_at dksX2_correct_1 12 rfl rfl)
theorem dX2_correct_36 : decode cX2_correct 36 = .ok (.ladd, 1) := dk_97 (dk_at dksX2_correct_1 13 rfl rfl)
theorem dX2_correct_37 : decode cX2_correct 37 = .ok (.lstore 5, 2) := dk_55 5 (dk_at dksX2_correct_1 14 rfl rfl)
theorem dX2_correct_39 : decode cX2_correct 39 = .ok (.iload_n 2, 1) := dk_28 (dk_at dksX2_correct_1 16 rfl rfl)
theorem dX2_correct_40 : decode cX2_correct 40 = .ok (.i2l, 1) := dk_133 (dk_at dksX2_correct_1 17 rfl rfl)
theorem dX2_correct_41 : decode cX2_correct 41 = .ok (.aload_n 0, 1) := dk_42 (dk_at dksX2_correct_1 18 rfl rfl)
theorem dX2_correct_42 : decode cX2_correct 42 = .ok (.aload_n 1, 1) := dk_43 (dk_at dksX2_correct_1 19 rfl rfl)
theorem dX2_correct_43 : decode cX2_correct 43 = .ok (.invokevirtual 60, 3) := dk_182 0 60 (dk_at dksX2_correct_1 20 rfl rfl)
theorem dX2_correct_46 : decode cX2_correct 46 = .ok (.i2l, 1) := dk_133 (dk_at dksX2_correct_1 23 rfl rfl)
theorem dX2_correct_47 : decode cX2_correct 47 = .ok (.lsub, 1) := dk_101 (dk_at dksX2_correct_2 0 rfl rfl)
theorem dX2_correct_48 : decode cX2_correct 48 = .ok (.lstore 7, 2) := dk_55 7 (dk_at dksX2_correct_2 1 rfl rfl)
theorem dX2_correct_50 : decode cX2_correct 50 = .ok (.iload_n 3, 1) := dk_29 (dk_at dksX2_correct_2 3 rfl rfl)
theorem dX2_correct_51 : decode cX2_correct 51 = .ok (.ifCond .eq 30, 3) := dk_153 0 30 (dk_at dksX2_correct_2 4 rfl rfl)
theorem dX2_correct_54 : decode cX2_correct 54 = .ok (.lload 7, 2) := dk_22 7 (dk_at dksX2_correct_2 7 rfl rfl)
theorem dX2_correct_56 : decode cX2_correct 56 = .ok (.lload 7, 2) := dk_22 7 (dk_at dksX2_correct_2 9 rfl rfl)
theorem dX2_correct_58 : decode cX2_correct 58 = .ok (.lmul, 1) := dk_105 (dk_at dksX2_correct_2 11 rfl rfl)
theorem dX2_correct_59 : decode cX2_correct 59 = .ok (.iload_n 3, 1) := dk_29 (dk_at dksX2_correct_2 12 rfl rfl)
theorem dX2_correct_60 : decode cX2_correct 60 = .ok (.i2l, 1) := dk_133 (dk_at dksX2_correct_2 13 rfl rfl)
theorem dX2_correct_61 : decode cX2_correct 61 = .ok (.lload 5, 2) := dk_22 5 (dk_at dksX2_correct_2 14 rfl rfl)
theorem dX2_correct_63 : decode cX2_correct 63 = .ok (.lmul, 1) := dk_105 (dk_at dksX2_correct_2 16 rfl rfl)
theorem dX2_correct_64 : decode cX2_correct 64 = .ok (.ldc2_w 64, 3) := dk_20 0 64 (dk_at dksX2_correct_2 17 rfl rfl)
theorem dX2_correct_67 : decode cX2_correct 67 = .ok (.lmul, 1) := dk_105 (dk_at dksX2_correct_2 20 rfl rfl)
theorem dX2_correct_68 : decode cX2_correct 68 = .ok (.lcmp, 1) := dk_148 (dk_at dksX2_correct_2 21 rfl rfl)
theorem dX2_correct_69 : decode cX2_correct 69 = .ok (.ifCond .le 12, 3) := dk_158 0 12 (dk_at dksX2_correct_3 0 rfl rfl)
theorem dX2_correct_72 : decode cX2_correct 72 = .ok (.aload_n 0, 1) := dk_42 (dk_at dksX2_correct_3 3 rfl rfl)
theorem dX2_correct_73 : decode cX2_correct 73 = .ok (.lload 7, 2) := dk_22 7 (dk_at dksX2_correct_3 4 rfl rfl)
theorem dX2_correct_75 : decode cX2_correct 75 = .ok (.l2i, 1) := dk_136 (dk_at dksX2_correct_3 6 rfl rfl)
theorem dX2_correct_76 : decode cX2_correct 76 = .ok (.putfield 19, 3) := dk_181 0 19 (dk_at dksX2_correct_3 7 rfl rfl)
theorem dX2_correct_79 : decode cX2_correct 79 = .ok (.iconst 0, 1) := dk_3 (dk_at dksX2_correct_3 10 rfl rfl)
theorem dX2_correct_80 : decode cX2_correct 80 = .ok (.ireturn, 1) := dk_172 (dk_at dksX2_correct_3 11 rfl rfl)
theorem dX2_correct_81 : decode cX2_correct 81 = .ok (.iload 4, 2) := dk_21 4 (dk_at dksX2_correct_3 12 rfl rfl)
theorem dX2_correct_83 : decode cX2_correct 83 = .ok (.ifCond .eq 11, 3) := dk_153 0 11 (dk_at dksX2_correct_3 14 rfl rfl)
theorem dX2_correct_86 : decode cX2_correct 86 = .ok (.aload_n 0, 1) := dk_42 (dk_at dksX2_correct_3 17 rfl rfl)
theorem dX2_correct_87 : decode cX2_correct 87 = .ok (.getfield 9, 3) := dk_180 0 9 (dk_at dksX2_correct_3 18 rfl rfl)
theorem dX2_correct_90 : decode cX2_correct 90 = .ok (.i2l, 1) := dk_133 (dk_at dksX2_correct_3 21 rfl rfl)
theorem dX2_correct_91 : decode cX2_correct 91 = .ok (.goto 8, 3) := dk_167 0 8 (dk_at dksX2_correct_4 0 rfl rfl)
theorem dX2_correct_94 : decode cX2_correct 94 = .ok (.aload_n 0, 1) := dk_42 (dk_at dksX2_correct_4 3 rfl rfl)
theorem dX2_correct_95 : decode cX2_correct 95 = .ok (.getfield 34, 3) := dk_180 0 34 (dk_at dksX2_correct_4 4 rfl rfl)
theorem dX2_correct_98 : decode cX2_correct 98 = .ok (.i2l, 1) := dk_133 (dk_at dksX2_correct_4 7 rfl rfl)
theorem dX2_correct_99 : decode cX2_correct 99 = .ok (.lload 5, 2) := dk_22 5 (dk_at dksX2_correct_4 8 rfl rfl)
theorem dX2_correct_101 : decode cX2_correct 101 = .ok (.invokestatic 66, 3) := dk_184 0 66 (dk_at dksX2_correct_4 10 rfl rfl)
theorem dX2_correct_104 : decode cX2_correct 104 = .ok (.invokestatic 37, 3) := dk_184 0 37 (dk_at dksX2_correct_4 13 rfl rfl)
theorem dX2_correct_107 : decode cX2_correct 107 = .ok (.i2l, 1) := dk_133 (dk_at dksX2_correct_4 16 rfl rfl)
theorem dX2_correct_108 : decode cX2_correct 108 = .ok (.lstore 9, 2) := dk_55 9 (dk_at dksX2_correct_4 17 rfl rfl)
theorem dX2_correct_110 : decode cX2_correct 110 = .ok (.iload 4, 2) := dk_21 4 (dk_at dksX2_correct_4 19 rfl rfl)
theorem dX2_correct_112 : decode cX2_correct 112 = .ok (.ifCond .eq 11, 3) := dk_153 0 11 (dk_at dksX2_correct_4 21 rfl rfl)
theorem dX2_correct_115 : decode cX2_correct 115 = .ok (.aload_n 0, 1) := dk_42 (dk_at dksX2_correct_5 0 rfl rfl)
theorem dX2_correct_116 : decode cX2_correct 116 = .ok (.getfield 34, 3) := dk_180 0 34 (dk_at dksX2_correct_5 1 rfl rfl)
theorem dX2_correct_119 : decode cX2_correct 119 = .ok (.i2l, 1) := dk_133 (dk_at dksX2_correct_5 4 rfl rfl)
theorem dX2_correct_120 : decode cX2_correct 120 = .ok (.goto 8, 3) := dk_167 0 8 (dk_at dksX2_correct_5 5 rfl rfl)
theorem dX2_correct_123 : decode cX2_correct 123 = .ok (.aload_n 0, 1) := dk_42 (dk_at dksX2_correct_5 8 rfl rfl)
theorem dX2_correct_124 : decode cX2_correct 124 = .ok (.getfield 15, 3) := dk_180 0 15 (dk_at dksX2_correct_5 9 rfl rfl)
theorem dX2_correct_127 : decode cX2_correct 127 = .ok (.i2l, 1) := dk_133 (dk_at dksX2_correct_5 12 rfl rfl)
theorem dX2_correct_128 : decode cX2_correct 128 = .ok (.lload 5, 2) := dk_22 5 (dk_at dksX2_correct_5 13 rfl rfl)
theorem dX2_correct_130 : decode cX2_correct 130 = .ok (.invokestatic 66, 3) := dk_184 0 66 (dk_at dksX2_correct_5 15 rfl rfl)
theorem dX2_correct_133 : decode cX2_correct 133 = .ok (.invokestatic 37, 3) := dk_184 0 37 (dk_at dksX2_correct_5 18 rfl rfl)
theorem dX2_correct_136 : decode cX2_correct 136 = .ok (.i2l, 1) := dk_133 (dk_at dksX2_correct_5 21 rfl rfl)
theorem dX2_correct_137 : decode cX2_correct 137 = .ok (.lstore 11, 2) := dk_55 11 (dk_at dksX2_correct_5 22 rfl rfl)
theorem dX2_correct_139 : decode cX2_correct 139 = .ok (.aload_n 0, 1) := dk_42 (dk_at dksX2_correct_6 0 rfl rfl)
theorem dX2_correct_140 : decode cX2_correct 140 = .ok (.getfield 28, 3) := dk_180 0 28 (dk_at dksX2_correct_6 1 rfl rfl)
theorem dX2_correct_143 : decode cX2_correct 143 = .ok (.i2l, 1) := dk_133 (dk_at dksX2_correct_6 4 rfl rfl)
theorem dX2_correct_144 : decode cX2_correct 144 = .ok (.lload 9, 2) := dk_22 9 (dk_at dksX2_correct_6 5 rfl rfl)
theorem dX2_correct_146 : decode cX2_correct 146 = .ok (.lload 7, 2) := dk_22 7 (dk_at dksX2_correct_6 7 rfl rfl)
theorem dX2_correct_148 : decode cX2_correct 148 = .ok (.invokestatic 69, 3) := dk_184 0 69 (dk_at dksX2_correct_6 9 rfl rfl)
theorem dX2_correct_151 : decode cX2_correct 151 = .ok (.ladd, 1) := dk_97 (dk_at dksX2_correct_6 12 rfl rfl)
theorem dX2_correct_152 : decode cX2_correct 152 = .ok (.invokestatic 37, 3) := dk_184 0 37 (dk_at dksX2_correct_6 13 rfl rfl)
theorem dX2_correct_155 : decode cX2_correct 155 = .ok (.istore 13, 2) := dk_54 13 (dk_at dksX2_correct_6 16 rfl rfl)
theorem dX2_correct_157 : decode cX2_correct 157 = .ok (.aload_n 0, 1) := dk_42 (dk_at dksX2_correct_6 18 rfl rfl)
theorem dX2_correct_158 : decode cX2_correct 158 = .ok (.getfield 31, 3) := dk_180 0 31 (dk_at dksX2_correct_6 19 rfl rfl)
theorem dX2_correct_161 : decode cX2_correct 161 = .ok (.i2l, 1) := dk_133 (dk_at dksX2_correct_6 22 rfl rfl)
theorem dX2_correct_162 : decode cX2_correct 162 = .ok (.lload 11, 2) := dk_22 11 (dk_at dksX2_correct_7 0 rfl rfl)
theorem dX2_correct_164 : decode cX2_correct 164 = .ok (.lload 7, 2) := dk_22 7 (dk_at dksX2_correct_7 2 rfl rfl)
theorem dX2_correct_166 : decode cX2_correct 166 = .ok (.invokestatic 69, 3) := dk_184 0 69 (dk_at dksX2_correct_7 4 rfl rfl)
theorem dX2_correct_169 : decode cX2_correct 169 = .ok (.ladd, 1) := dk_97 (dk_at dksX2_correct_7 7 rfl rfl)
theorem dX2_correct_170 : decode cX2_correct 170 = .ok (.invokestatic 37, 3) := dk_184 0 37 (dk_at dksX2_correct_7 8 rfl rfl)
theorem dX2_correct_173 : decode cX2_correct 173 = .ok (.istore 14, 2) := dk_54 14 (dk_at dksX2_correct_7 11 rfl rfl)
theorem dX2_correct_175 : decode cX2_correct 175 = .ok (.aload_n 0, 1) := dk_42 (dk_at dksX2_correct_7 13 rfl rfl)
theorem dX2_correct_176 : decode cX2_correct 176 = .ok (.getfield 9, 3) := dk_180 0 9 (dk_at dksX2_correct_7 14 rfl rfl)
theorem dX2_correct_179 : decode cX2_correct 179 = .ok (.i2l, 1) := dk_133 (dk_at dksX2_correct_7 17 rfl rfl)
theorem dX2_correct_180 : decode cX2_correct 180 = .ok (.lload 9, 2) := dk_22 9 (dk_at dksX2_correct_7 18 rfl rfl)
theorem dX2_correct_182 : decode cX2_correct 182 = .ok (.iload 4, 2) := dk_21 4 (dk_at dksX2_correct_7 20 rfl rfl)
theorem dX2_correct_184 : decode cX2_correct 184 = .ok (.ifCond .eq 11, 3) := dk_153 0 11 (dk_at dksX2_correct_8 0 rfl rfl)
theorem dX2_correct_187 : decode cX2_correct 187 = .ok (.aload_n 0, 1) := dk_42 (dk_at dksX2_correct_8 3 rfl rfl)
theorem dX2_correct_188 : decode cX2_correct 188 = .ok (.getfield 9, 3) := dk_180 0 9 (dk_at dksX2_correct_8 4 rfl rfl)
theorem dX2_correct_191 : decode cX2_correct 191 = .ok (.i2l, 1) := dk_133 (dk_at dksX2_correct_8 7 rfl rfl)
theorem dX2_correct_192 : decode cX2_correct 192 = .ok (.goto 8, 3) := dk_167 0 8 (dk_at dksX2_correct_8 8 rfl rfl)
theorem dX2_correct_195 : decode cX2_correct 195 = .ok (.aload_n 0, 1) := dk_42 (dk_at dksX2_correct_8 11 rfl rfl)
theorem dX2_correct_196 : decode cX2_correct 196 = .ok (.getfield 34, 3) := dk_180 0 34 (dk_at dksX2_correct_8 12 rfl rfl)
theorem dX2_correct_199 : decode cX2_correct 199 = .ok (.i2l, 1) := dk_133 (dk_at dksX2_correct_8 15 rfl rfl)
theorem dX2_correct_200 : decode cX2_correct 200 = .ok (.invokestatic 69, 3) := dk_184 0 69 (dk_at dksX2_correct_8 16 rfl rfl)
theorem dX2_correct_203 : decode cX2_correct 203 = .ok (.lsub, 1) := dk_101 (dk_at dksX2_correct_8 19 rfl rfl)
theorem dX2_correct_204 : decode cX2_correct 204 = .ok (.invokestatic 43, 3) := dk_184 0 43 (dk_at dksX2_correct_8 20 rfl rfl)
theorem dX2_correct_207 : decode cX2_correct 207 = .ok (.istore 15, 2) := dk_54 15 (dk_at dksX2_correct_9 0 rfl rfl)
theorem dX2_correct_209 : decode cX2_correct 209 = .ok (.aload_n 0, 1) := dk_42 (dk_at dksX2_correct_9 2 rfl rfl)
theorem dX2_correct_210 : decode cX2_correct 210 = .ok (.getfield 34, 3) := dk_180 0 34 (dk_at dksX2_correct_9 3 rfl rfl)
theorem dX2_correct_213 : decode cX2_correct 213 = .ok (.i2l, 1) := dk_133 (dk_at dksX2_correct_9 6 rfl rfl)
theorem dX2_correct_214 : decode cX2_correct 214 = .ok (.lload 9, 2) := dk_22 9 (dk_at dksX2_correct_9 7 rfl rfl)
theorem dX2_correct_216 : decode cX2_correct 216 = .ok (.iload 4, 2) := dk_21 4 (dk_at dksX2_correct_9 9 rfl rfl)
theorem dX2_correct_218 : decode cX2_correct 218 = .ok (.ifCond .eq 11, 3) := dk_153 0 11 (dk_at dksX2_correct_9 11 rfl rfl)
theorem dX2_correct_221 : decode cX2_correct 221 = .ok (.aload_n 0, 1) := dk_42 (dk_at dksX2_correct_9 14 rfl rfl)
theorem dX2_correct_222 : decode cX2_correct 222 = .ok (.getfield 34, 3) := dk_180 0 34 (dk_at dksX2_correct_9 15 rfl rfl)
theorem dX2_correct_225 : decode cX2_correct 225 = .ok (.i2l, 1) := dk_133 (dk_at dksX2_correct_9 18 rfl rfl)
theorem dX2_correct_226 : decode cX2_correct 226 = .ok (.goto 8, 3) := dk_167 0 8 (dk_at dksX2_correct_9 19 rfl rfl)
theorem dX2_correct_229 : decode cX2_correct 229 = .ok (.aload_n 0, 1) := dk_42 (dk_at dksX2_correct_9 22 rfl rfl)
theorem dX2_correct_230 : decode cX2_correct 230 = .ok (.getfield 15, 3) := dk_180 0 15 (dk_at dksX2_correct_10 0 rfl rfl)
theorem dX2_correct_233 : decode cX2_correct 233 = .ok (.i2l, 1) := dk_133 (dk_at dksX2_correct_10 3 rfl rfl)
theorem dX2_correct_234 : decode cX2_correct 234 = .ok (.invokestatic 69, 3) := dk_184 0 69 (dk_at dksX2_correct_10 4 rfl rfl)
theorem dX2_correct_237 : decode cX2_correct 237 = .ok (.lsub, 1) := dk_101 (dk_at dksX2_correct_10 7 rfl rfl)
theorem dX2_correct_238 : decode cX2_correct 238 = .ok (.invokestatic 37, 3) := dk_184 0 37 (dk_at dksX2_correct_10 8 rfl rfl)
theorem dX2_correct_241 : decode cX2_correct 241 = .ok (.istore 16, 2) := dk_54 16 (dk_at dksX2_correct_10 11 rfl rfl)
theorem dX2_correct_243 : decode cX2_correct 243 = .ok (.aload_n 0, 1) := dk_42 (dk_at dksX2_correct_10 13 rfl rfl)
theorem dX2_correct_244 : decode cX2_correct 244 = .ok (.getfield 15, 3) := dk_180 0 15 (dk_at dksX2_correct_10 14 rfl rfl)
theorem dX2_correct_247 : decode cX2_correct 247 = .ok (.i2l, 1) := dk_133 (dk_at dksX2_correct_10 17 rfl rfl)
theorem dX2_correct_248 : decode cX2_correct 248 = .ok (.lload 11, 2) := dk_22 11 (dk_at dksX2_correct_10 18 rfl rfl)
theorem dX2_correct_250 : decode cX2_correct 250 = .ok (.iload 4, 2) := dk_21 4 (dk_at dksX2_correct_10 20 rfl rfl)
theorem dX2_correct_252 : decode cX2_correct 252 = .ok (.ifCond .eq 11, 3) := dk_153 0 11 (dk_at dksX2_correct_11 0 rfl rfl)
theorem dX2_correct_255 : decode cX2_correct 255 = .ok (.aload_n 0, 1) := dk_42 (dk_at dksX2_correct_11 3 rfl rfl)
theorem dX2_correct_256 : decode cX2_correct 256 = .ok (.getfield 34, 3) := dk_180 0 34 (dk_at dksX2_correct_11 4 rfl rfl)
theorem dX2_correct_259 : decode cX2_correct 259 = .ok (.i2l, 1) := dk_133 (dk_at dksX2_correct_11 7 rfl rfl)
theorem dX2_correct_260 : decode cX2_correct 260 = .ok (.goto 8, 3) := dk_167 0 8 (dk_at dksX2_correct_11 8 rfl rfl)
theorem dX2_correct_263 : decode cX2_correct 263 = .ok (.aload_n 0, 1) := dk_42 (dk_at dksX2_correct_11 11 rfl rfl)
theorem dX2_correct_264 : decode cX2_correct 264 = .ok (.getfield 15, 3) := dk_180 0 15 (dk_at dksX2_correct_11 12 rfl rfl)
theorem dX2_correct_267 : decode cX2_correct 267 = .ok (.i2l, 1) := dk_133 (dk_at dksX2_correct_11 15 rfl rfl)
theorem dX2_correct_268 : decode cX2_correct 268 = .ok (.invokestatic 69, 3) := dk_184 0 69 (dk_at dksX2_correct_11 16 rfl rfl)
theorem dX2_correct_271 : decode cX2_correct 271 = .ok (.lsub, 1) := dk_101 (dk_at dksX2_correct_11 19 rfl rfl)
theorem dX2_correct_272 : decode cX2_correct 272 = .ok (.invokestatic 43, 3) := dk_184 0 43 (dk_at dksX2_correct_11 20 rfl rfl)
theorem dX2_correct_275 : decode cX2_correct 275 = .ok (.istore 17, 2) := dk_54 17 (dk_at dksX2_correct_12 0 rfl rfl)
theorem dX2_correct_277 : decode cX2_correct 277 = .ok (.aload_n 0, 1) := dk_42 (dk_at dksX2_correct_12 2 rfl rfl)
theorem dX2_correct_278 : decode cX2_correct 278 = .ok (.iload 13, 2) := dk_21 13 (dk_at dksX2_correct_12 3 rfl rfl)
theorem dX2_correct_280 : decode cX2_correct 280 = .ok (.putfield 28, 3) := dk_181 0 28 (dk_at dksX2_correct_12 5 rfl rfl)
theorem dX2_correct_283 : decode cX2_correct 283 = .ok (.aload_n 0, 1) := dk_42 (dk_at dksX2_correct_12 8 rfl rfl)
theorem dX2_correct_284 : decode cX2_correct 284 = .ok (.iload 14, 2) := dk_21 14 (dk_at dksX2_correct_12 9 rfl rfl)
theorem dX2_correct_286 : decode cX2_correct 286 = .ok (.putfield 31, 3) := dk_181 0 31 (dk_at dksX2_correct_12 11 rfl rfl)
theorem dX2_correct_289 : decode cX2_correct 289 = .ok (.aload_n 0, 1) := dk_42 (dk_at dksX2_correct_12 14 rfl rfl)
theorem dX2_correct_290 : decode cX2_correct 290 = .ok (.iload 15, 2) := dk_21 15 (dk_at dksX2_correct_12 15 rfl rfl)
theorem dX2_correct_292 : decode cX2_correct 292 = .ok (.putfield 9, 3) := dk_181 0 9 (dk_at dksX2_correct_12 17 rfl rfl)
theorem dX2_correct_295 : decode cX2_correct 295 = .ok (.aload_n 0, 1) := dk_42 (dk_at dksX2_correct_12 20 rfl rfl)
theorem dX2_correct_296 : decode cX2_correct 296 = .ok (.iload 16, 2) := dk_21 16 (dk_at dksX2_correct_12 21 rfl rfl)
theorem dX2_correct_298 : decode cX2_correct 298 = .ok (.putfield 34, 3) := dk_181 0 34 (dk_at dksX2_correct_13 0 rfl rfl)
theorem dX2_correct_301 : decode cX2_correct 301 = .ok (.aload_n 0, 1) := dk_42 (dk_at dksX2_correct_13 3 rfl rfl)
theorem dX2_correct_302 : decode cX2_correct 302 = .ok (.iload 17, 2) := dk_21 17 (dk_at dksX2_correct_13 4 rfl rfl)
theorem dX2_correct_304 : decode cX2_correct 304 = .ok (.putfield 15, 3) := dk_181 0 15 (dk_at dksX2_correct_13 6 rfl rfl)
theorem dX2_correct_307 : decode cX2_correct 307 = .ok (.aload_n 0, 1) := dk_42 (dk_at dksX2_correct_13 9 rfl rfl)
theorem dX2_correct_308 : decode cX2_correct 308 = .ok (.lload 7, 2) := dk_22 7 (dk_at dksX2_correct_13 10 rfl rfl)
theorem dX2_correct_310 : decode cX2_correct 310 = .ok (.l2i, 1) := dk_136 (dk_at dksX2_correct_13 12 rfl rfl)
theorem dX2_correct_311 : decode cX2_correct 311 = .ok (.putfield 19, 3) := dk_181 0 19 (dk_at dksX2_correct_13 13 rfl rfl)
theorem dX2_correct_314 : decode cX2_correct 314 = .ok (.aload_n 0, 1) := dk_42 (dk_at dksX2_correct_13 16 rfl rfl)
theorem dX2_correct_315 : decode cX2_correct 315 = .ok (.lload 9, 2) := dk_22 9 (dk_at dksX2_correct_13 17 rfl rfl)
theorem dX2_correct_317 : decode cX2_correct 317 = .ok (.l2i, 1) := dk_136 (dk_at dksX2_correct_13 19 rfl rfl)
theorem dX2_correct_318 : decode cX2_correct 318 = .ok (.putfield 22, 3) := dk_181 0 22 (dk_at dksX2_correct_13 20 rfl rfl)
theorem dX2_correct_321 : decode cX2_correct 321 = .ok (.aload_n 0, 1) := dk_42 (dk_at dksX2_correct_13 23 rfl rfl)
theorem dX2_correct_322 : decode cX2_correct 322 = .ok (.lload 11, 2) := dk_22 11 (dk_at dksX2_correct_14 0 rfl rfl)
theorem dX2_correct_324 : decode cX2_correct 324 = .ok (.l2i, 1) := dk_136 (dk_at dksX2_correct_14 2 rfl rfl)
theorem dX2_correct_325 : decode cX2_correct 325 = .ok (.putfield 25, 3) := dk_181 0 25 (dk_at dksX2_correct_14 3 rfl rfl)
theorem dX2_correct_328 : decode cX2_correct 328 = .ok (.iconst 1, 1) := dk_4 (dk_at dksX2_correct_14 6 rfl rfl)
theorem dX2_correct_329 : decode cX2_correct 329 = .ok (.ireturn, 1) := dk_172 (dk_at dksX2_correct_14 7 rfl rfl)
abbrev cX2_measured : ByteArray := prog_2_method_4_code
def yX2_measured : MethodName := ⟨RX2, "measured", "(LTankFilter$Sensor;)I"⟩
def dkwX2_measured_0 : List UInt8 := [43, 180, 0, 46, 154, 0, 10, 42, 180, 0, 28, 167, 0, 7, 42, 180, 0, 31, 172]
abbrev dktX2_measured_0 : List UInt8 := dkwX2_measured_0 ++ []
theorem dksX2_measured_0 : cX2_measured.data.toList.drop 0 = dktX2_measured_0 := by decide +kernel
theorem dX2_measured_0 : decode cX2_measured 0 = .ok (.aload_n 1, 1) := dk_43 (dk_at dksX2_measured_0 0 rfl rfl)
theorem dX2_measured_1 : decode cX2_measured 1 = .ok (.getfield 46, 3) := dk_180 0 46 (dk_at dksX2_measured_0 1 rfl rfl)
theorem dX2_measured_4 : decode cX2_measured 4 = .ok (.ifCond .ne 10, 3) := dk_154 0 10 (dk_at dksX2_measured_0 4 rfl rfl)
theorem dX2_measured_7 : decode cX2_measured 7 = .ok (.aload_n 0, 1) := dk_42 (dk_at dksX2_measured_0 7 rfl rfl)
theorem dX2_measured_8 : decode cX2_measured 8 = .ok (.getfield 28, 3) := dk_180 0 28 (dk_at dksX2_measured_0 8 rfl rfl)
theorem dX2_measured_11 : decode cX2_measured 11 = .ok (.goto 7, 3) := dk_167 0 7 (dk_at dksX2_measured_0 11 rfl rfl)
theorem dX2_measured_14 : decode cX2_measured 14 = .ok (.aload_n 0, 1) := dk_42 (dk_at dksX2_measured_0 14 rfl rfl)
theorem dX2_measured_15 : decode cX2_measured 15 = .ok (.getfield 31, 3) := dk_180 0 31 (dk_at dksX2_measured_0 15 rfl rfl)
theorem dX2_measured_18 : decode cX2_measured 18 = .ok (.ireturn, 1) := dk_172 (dk_at dksX2_measured_0 18 rfl rfl)
abbrev cX2_hasCovariances : ByteArray := prog_2_method_7_code
def yX2_hasCovariances : MethodName := ⟨RX2, "hasCovariances", "(LTankFilter$Estimate;)Z"⟩
def dkwX2_hasCovariances_1 : List UInt8 := [180, 0, 15, 43, 180, 0, 15, 160, 0, 7, 4, 167, 0, 4, 3, 172]
abbrev dktX2_hasCovariances_1 : List UInt8 := dkwX2_hasCovariances_1 ++ []
def dkwX2_hasCovariances_0 : List UInt8 := [42, 180, 0, 9, 43, 180, 0, 9, 160, 0, 29, 42, 180, 0, 34, 43, 180, 0, 34, 160, 0, 18, 42]
abbrev dktX2_hasCovariances_0 : List UInt8 := dkwX2_hasCovariances_0 ++ dktX2_hasCovariances_1
theorem dksX2_hasCovariances_0 : cX2_hasCovariances.data.toList.drop 0 = dktX2_hasCovariances_0 := by decide +kernel
theorem dksX2_hasCovariances_1 : cX2_hasCovariances.data.toList.drop 23 = dktX2_hasCovariances_1 := dk_seg dksX2_hasCovariances_0 23 rfl rfl
theorem dX2_hasCovariances_0 : decode cX2_hasCovariances 0 = .ok (.aload_n 0, 1) := dk_42 (dk_at dksX2_hasCovariances_0 0 rfl rfl)
theorem dX2_hasCovariances_1 : decode cX2_hasCovariances 1 = .ok (.getfield 9, 3) := dk_180 0 9 (dk_at dksX2_hasCovariances_0 1 rfl rfl)
theorem dX2_hasCovariances_4 : decode cX2_hasCovariances 4 = .ok (.aload_n 1, 1) := dk_43 (dk_at dksX2_hasCovariances_0 4 rfl rfl)
theorem dX2_hasCovariances_5 : decode cX2_hasCovariances 5 = .ok (.getfield 9, 3) := dk_180 0 9 (dk_at dksX2_hasCovariances_0 5 rfl rfl)
theorem dX2_hasCovariances_8 : decode cX2_hasCovariances 8 = .ok (.if_icmp .ne 29, 3) := dk_160 0 29 (dk_at dksX2_hasCovariances_0 8 rfl rfl)
theorem dX2_hasCovariances_11 : decode cX2_hasCovariances 11 = .ok (.aload_n 0, 1) := dk_42 (dk_at dksX2_hasCovariances_0 11 rfl rfl)
theorem dX2_hasCovariances_12 : decode cX2_hasCovariances 12 = .ok (.getfield 34, 3) := dk_180 0 34 (dk_at dksX2_hasCovariances_0 12 rfl rfl)
theorem dX2_hasCovariances_15 : decode cX2_hasCovariances 15 = .ok (.aload_n 1, 1) := dk_43 (dk_at dksX2_hasCovariances_0 15 rfl rfl)
theorem dX2_hasCovariances_16 : decode cX2_hasCovariances 16 = .ok (.getfield 34, 3) := dk_180 0 34 (dk_at dksX2_hasCovariances_0 16 rfl rfl)
theorem dX2_hasCovariances_19 : decode cX2_hasCovariances 19 = .ok (.if_icmp .ne 18, 3) := dk_160 0 18 (dk_at dksX2_hasCovariances_0 19 rfl rfl)
theorem dX2_hasCovariances_22 : decode cX2_hasCovariances 22 = .ok (.aload_n 0, 1) := dk_42 (dk_at dksX2_hasCovariances_0 22 rfl rfl)
theorem dX2_hasCovariances_23 : decode cX2_hasCovariances 23 = .ok (.getfield 15, 3) := dk_180 0 15 (dk_at dksX2_hasCovariances_1 0 rfl rfl)
theorem dX2_hasCovariances_26 : decode cX2_hasCovariances 26 = .ok (.aload_n 1, 1) := dk_43 (dk_at dksX2_hasCovariances_1 3 rfl rfl)
theorem dX2_hasCovariances_27 : decode cX2_hasCovariances 27 = .ok (.getfield 15, 3) := dk_180 0 15 (dk_at dksX2_hasCovariances_1 4 rfl rfl)
theorem dX2_hasCovariances_30 : decode cX2_hasCovariances 30 = .ok (.if_icmp .ne 7, 3) := dk_160 0 7 (dk_at dksX2_hasCovariances_1 7 rfl rfl)
theorem dX2_hasCovariances_33 : decode cX2_hasCovariances 33 = .ok (.iconst 1, 1) := dk_4 (dk_at dksX2_hasCovariances_1 10 rfl rfl)
theorem dX2_hasCovariances_34 : decode cX2_hasCovariances 34 = .ok (.goto 4, 3) := dk_167 0 4 (dk_at dksX2_hasCovariances_1 11 rfl rfl)
theorem dX2_hasCovariances_37 : decode cX2_hasCovariances 37 = .ok (.iconst 0, 1) := dk_3 (dk_at dksX2_hasCovariances_1 14 rfl rfl)
theorem dX2_hasCovariances_38 : decode cX2_hasCovariances 38 = .ok (.ireturn, 1) := dk_172 (dk_at dksX2_hasCovariances_1 15 rfl rfl)
theorem q23 : (Jvm.Cond.initialized "TankFilter$Estimate") ∈ lw_all := lw_g (lw_at lw_m1 3 rfl) rfl
theorem q50 : (Jvm.Cond.instantiable "TankFilter$Estimate" (8 : Nat)) ∈ lw_all := lw_g (lw_at lw_m1 30 rfl) rfl
theorem q52 : (Jvm.Cond.instanceMethod ({ cls := "TankFilter$Estimate", name := "<init>", desc := "()V" } : Jvm.MethodName)) ∈ lw_all := lw_g (lw_at lw_m1 32 rfl) rfl
theorem q53 : (Jvm.Cond.code ({ cls := "TankFilter$Estimate", name := "<init>", desc := "()V" } : Jvm.MethodName) prog_2_method_1_code (1 : Nat) (Option.none : Option Jvm.ClassFile.FieldType)) ∈ lw_all := lw_g (lw_at lw_m1 33 rfl) rfl
theorem q54 : (Jvm.Cond.methodLink "TankFilter$Estimate" (3 : Nat) ({ cls := "java/lang/Object", name := "<init>", desc := "()V" } : Jvm.MethodName)) ∈ lw_all := lw_g (lw_at lw_m1 34 rfl) rfl
theorem q55 : (Jvm.Cond.constant "TankFilter$Estimate" (18 : Nat) (-2000000001 : Int32)) ∈ lw_all := lw_g (lw_at lw_m1 35 rfl) rfl
theorem q56 : (Jvm.Cond.fieldLink "TankFilter$Estimate" (28 : Nat) "TankFilter$Estimate" "x" "I") ∈ lw_all := lw_g (lw_at lw_m1 36 rfl) rfl
theorem q59 : (Jvm.Cond.fieldLink "TankFilter$Estimate" (31 : Nat) "TankFilter$Estimate" "v" "I") ∈ lw_all := lw_g (lw_at lw_m1 39 rfl) rfl
theorem q61 : (Jvm.Cond.fieldLink "TankFilter$Estimate" (9 : Nat) "TankFilter$Estimate" "a" "I") ∈ lw_all := lw_g (lw_at lw_m1 41 rfl) rfl
theorem q63 : (Jvm.Cond.fieldLink "TankFilter$Estimate" (34 : Nat) "TankFilter$Estimate" "b" "I") ∈ lw_all := lw_g (lw_at lw_m1 43 rfl) rfl
theorem q65 : (Jvm.Cond.fieldLink "TankFilter$Estimate" (15 : Nat) "TankFilter$Estimate" "c" "I") ∈ lw_all := lw_g (lw_at lw_m1 45 rfl) rfl
theorem q67 : (Jvm.Cond.fieldLink "TankFilter$Estimate" (19 : Nat) "TankFilter$Estimate" "innovation" "I") ∈ lw_all := lw_g (lw_at lw_m1 47 rfl) rfl
theorem q70 : (Jvm.Cond.fieldLink "TankFilter$Estimate" (22 : Nat) "TankFilter$Estimate" "levelGain" "I") ∈ lw_all := lw_g (lw_at lw_m1 50 rfl) rfl
theorem q73 : (Jvm.Cond.fieldLink "TankFilter$Estimate" (25 : Nat) "TankFilter$Estimate" "flowGain" "I") ∈ lw_all := lw_g (lw_at lw_m1 53 rfl) rfl
theorem q76 : (Jvm.Cond.lays "TankFilter$Estimate" "TankFilter$Estimate" "x" "I") ∈ lw_all := lw_g (lw_at lw_m1 56 rfl) rfl
theorem q77 : (Jvm.Cond.soleField "TankFilter$Estimate" "x") ∈ lw_all := lw_g (lw_at lw_m1 57 rfl) rfl
theorem q78 : (Jvm.Cond.lays "TankFilter$Estimate" "TankFilter$Estimate" "v" "I") ∈ lw_all := lw_g (lw_at lw_m1 58 rfl) rfl
theorem q79 : (Jvm.Cond.soleField "TankFilter$Estimate" "v") ∈ lw_all := lw_g (lw_at lw_m1 59 rfl) rfl
theorem q80 : (Jvm.Cond.lays "TankFilter$Estimate" "TankFilter$Estimate" "a" "I") ∈ lw_all := lw_g (lw_at lw_m1 60 rfl) rfl
theorem q81 : (Jvm.Cond.soleField "TankFilter$Estimate" "a") ∈ lw_all := lw_g (lw_at lw_m1 61 rfl) rfl
theorem q82 : (Jvm.Cond.lays "TankFilter$Estimate" "TankFilter$Estimate" "b" "I") ∈ lw_all := lw_g (lw_at lw_m1 62 rfl) rfl
theorem q83 : (Jvm.Cond.soleField "TankFilter$Estimate" "b") ∈ lw_all := lw_g (lw_at lw_m1 63 rfl) rfl
theorem q84 : (Jvm.Cond.lays "TankFilter$Estimate" "TankFilter$Estimate" "c" "I") ∈ lw_all := lw_g (lw_at lw_m1 64 rfl) rfl
theorem q85 : (Jvm.Cond.soleField "TankFilter$Estimate" "c") ∈ lw_all := lw_g (lw_at lw_m1 65 rfl) rfl
theorem q86 : (Jvm.Cond.lays "TankFilter$Estimate" "TankFilter$Estimate" "innovation" "I") ∈ lw_all := lw_g (lw_at lw_m1 66 rfl) rfl
theorem q87 : (Jvm.Cond.soleField "TankFilter$Estimate" "innovation") ∈ lw_all := lw_g (lw_at lw_m1 67 rfl) rfl
theorem q88 : (Jvm.Cond.lays "TankFilter$Estimate" "TankFilter$Estimate" "levelGain" "I") ∈ lw_all := lw_g (lw_at lw_m1 68 rfl) rfl
theorem q89 : (Jvm.Cond.soleField "TankFilter$Estimate" "levelGain") ∈ lw_all := lw_g (lw_at lw_m1 69 rfl) rfl
theorem q90 : (Jvm.Cond.lays "TankFilter$Estimate" "TankFilter$Estimate" "flowGain" "I") ∈ lw_all := lw_g (lw_at lw_m1 70 rfl) rfl
theorem q91 : (Jvm.Cond.soleField "TankFilter$Estimate" "flowGain") ∈ lw_all := lw_g (lw_at lw_m1 71 rfl) rfl
theorem q92 : (Jvm.Cond.superclass "TankFilter$Estimate" "java/lang/Object") ∈ lw_all := lw_g (lw_at lw_m1 72 rfl) rfl
theorem q118 : (Jvm.Cond.fieldLinkNest "TankFilter$Estimate" (46 : Nat) "TankFilter$Sensor" "kind" "I" "TankFilter") ∈ lw_tbl := lw_at lw_m1 98 rfl
theorem q121 : (Jvm.Cond.fieldLinkNest "TankFilter$Estimate" (57 : Nat) "TankFilter$Sensor" "variance" "I" "TankFilter") ∈ lw_tbl := lw_at lw_m1 101 rfl
theorem q222 : (Jvm.Cond.instanceMethod ({ cls := "TankFilter$Estimate", name := "copyFrom", desc := "(LTankFilter$Estimate;)V" } : Jvm.MethodName)) ∈ lw_all := lw_g (lw_at lw_m1 202 rfl) rfl
theorem q223 : (Jvm.Cond.selects "TankFilter$Estimate" ({ cls := "TankFilter$Estimate", name := "copyFrom", desc := "(LTankFilter$Estimate;)V" } : Jvm.MethodName) ({ cls := "TankFilter$Estimate", name := "copyFrom", desc := "(LTankFilter$Estimate;)V" } : Jvm.MethodName)) ∈ lw_all := lw_g (lw_at lw_m1 203 rfl) rfl
theorem q224 : (Jvm.Cond.code ({ cls := "TankFilter$Estimate", name := "copyFrom", desc := "(LTankFilter$Estimate;)V" } : Jvm.MethodName) prog_2_method_2_code (2 : Nat) (Option.none : Option Jvm.ClassFile.FieldType)) ∈ lw_all := lw_g (lw_at lw_m1 204 rfl) rfl
theorem q269 : (Jvm.Cond.instanceMethod ({ cls := "TankFilter$Estimate", name := "predict", desc := "(III)V" } : Jvm.MethodName)) ∈ lw_all := lw_g (lw_at lw_m2 9 rfl) rfl
theorem q270 : (Jvm.Cond.selects "TankFilter$Estimate" ({ cls := "TankFilter$Estimate", name := "predict", desc := "(III)V" } : Jvm.MethodName) ({ cls := "TankFilter$Estimate", name := "predict", desc := "(III)V" } : Jvm.MethodName)) ∈ lw_all := lw_g (lw_at lw_m2 10 rfl) rfl
theorem q271 : (Jvm.Cond.code ({ cls := "TankFilter$Estimate", name := "predict", desc := "(III)V" } : Jvm.MethodName) prog_2_method_3_code (8 : Nat) (Option.none : Option Jvm.ClassFile.FieldType)) ∈ lw_all := lw_g (lw_at lw_m2 11 rfl) rfl
theorem q272 : (Jvm.Cond.methodLinkNest "TankFilter$Estimate" (37 : Nat) ({ cls := "TankFilter", name := "limited", desc := "(J)I" } : Jvm.MethodName) "TankFilter") ∈ lw_tbl := lw_at lw_m2 12 rfl
theorem q335 : (Jvm.Cond.constantLong "TankFilter$Estimate" (41 : Nat) (2 : Int64)) ∈ lw_all := lw_g (lw_at lw_m2 75 rfl) rfl
theorem q336 : (Jvm.Cond.methodLink "TankFilter$Estimate" (43 : Nat) ({ cls := "TankFilter$Estimate", name := "positive", desc := "(J)I" } : Jvm.MethodName)) ∈ lw_all := lw_g (lw_at lw_m2 76 rfl) rfl
theorem q337 : (Jvm.Cond.static ({ cls := "TankFilter$Estimate", name := "positive", desc := "(J)I" } : Jvm.MethodName)) ∈ lw_all := lw_g (lw_at lw_m2 77 rfl) rfl
theorem q338 : (Jvm.Cond.code ({ cls := "TankFilter$Estimate", name := "positive", desc := "(J)I" } : Jvm.MethodName) prog_2_method_5_code (2 : Nat) (Option.some Jvm.ClassFile.FieldType.int)) ∈ lw_all := lw_g (lw_at lw_m2 78 rfl) rfl
theorem q339 : (Jvm.Cond.methodLink "TankFilter$Estimate" (51 : Nat) ({ cls := "java/lang/Math", name := "max", desc := "(JJ)J" } : Jvm.MethodName)) ∈ lw_all := lw_g (lw_at lw_m2 79 rfl) rfl
theorem q366 : (Jvm.Cond.instanceMethod ({ cls := "TankFilter$Estimate", name := "correct", desc := "(LTankFilter$Sensor;II)Z" } : Jvm.MethodName)) ∈ lw_all := lw_g (lw_at lw_m2 106 rfl) rfl
theorem q367 : (Jvm.Cond.selects "TankFilter$Estimate" ({ cls := "TankFilter$Estimate", name := "correct", desc := "(LTankFilter$Sensor;II)Z" } : Jvm.MethodName) ({ cls := "TankFilter$Estimate", name := "correct", desc := "(LTankFilter$Sensor;II)Z" } : Jvm.MethodName)) ∈ lw_all := lw_g (lw_at lw_m2 107 rfl) rfl
theorem q368 : (Jvm.Cond.code ({ cls := "TankFilter$Estimate", name := "correct", desc := "(LTankFilter$Sensor;II)Z" } : Jvm.MethodName) prog_2_method_6_code (18 : Nat) (Option.some Jvm.ClassFile.FieldType.boolean)) ∈ lw_all := lw_g (lw_at lw_m2 108 rfl) rfl
theorem q369 : (Jvm.Cond.methodLink "TankFilter$Estimate" (60 : Nat) ({ cls := "TankFilter$Estimate", name := "measured", desc := "(LTankFilter$Sensor;)I" } : Jvm.MethodName)) ∈ lw_all := lw_g (lw_at lw_m2 109 rfl) rfl
theorem q370 : (Jvm.Cond.privateMethod ({ cls := "TankFilter$Estimate", name := "measured", desc := "(LTankFilter$Sensor;)I" } : Jvm.MethodName)) ∈ lw_tbl := lw_at lw_m2 110 rfl
theorem q371 : (Jvm.Cond.instanceMethod ({ cls := "TankFilter$Estimate", name := "measured", desc := "(LTankFilter$Sensor;)I" } : Jvm.MethodName)) ∈ lw_all := lw_g (lw_at lw_m2 111 rfl) rfl
theorem q372 : (Jvm.Cond.code ({ cls := "TankFilter$Estimate", name := "measured", desc := "(LTankFilter$Sensor;)I" } : Jvm.MethodName) prog_2_method_4_code (2 : Nat) (Option.some Jvm.ClassFile.FieldType.int)) ∈ lw_all := lw_g (lw_at lw_m2 112 rfl) rfl
theorem q373 : (Jvm.Cond.constantLong "TankFilter$Estimate" (64 : Nat) (4096 : Int64)) ∈ lw_all := lw_g (lw_at lw_m2 113 rfl) rfl
theorem q374 : (Jvm.Cond.methodLinkNest "TankFilter$Estimate" (66 : Nat) ({ cls := "TankFilter", name := "div", desc := "(JJ)J" } : Jvm.MethodName) "TankFilter") ∈ lw_tbl := lw_at lw_m2 114 rfl
theorem q382 : (Jvm.Cond.methodLinkNest "TankFilter$Estimate" (69 : Nat) ({ cls := "TankFilter", name := "mul", desc := "(JJ)J" } : Jvm.MethodName) "TankFilter") ∈ lw_tbl := lw_at lw_m2 122 rfl
theorem q478 : (Jvm.Cond.instanceMethod ({ cls := "TankFilter$Estimate", name := "hasCovariances", desc := "(LTankFilter$Estimate;)Z" } : Jvm.MethodName)) ∈ lw_all := lw_g (lw_at lw_m2 218 rfl) rfl
theorem q479 : (Jvm.Cond.selects "TankFilter$Estimate" ({ cls := "TankFilter$Estimate", name := "hasCovariances", desc := "(LTankFilter$Estimate;)Z" } : Jvm.MethodName) ({ cls := "TankFilter$Estimate", name := "hasCovariances", desc := "(LTankFilter$Estimate;)Z" } : Jvm.MethodName)) ∈ lw_all := lw_g (lw_at lw_m2 219 rfl) rfl
theorem q480 : (Jvm.Cond.code ({ cls := "TankFilter$Estimate", name := "hasCovariances", desc := "(LTankFilter$Estimate;)Z" } : Jvm.MethodName) prog_2_method_7_code (2 : Nat) (Option.some Jvm.ClassFile.FieldType.boolean)) ∈ lw_all := lw_g (lw_at lw_m2 220 rfl) rfl
theorem in_X2 : ∀ w ∈ wsX20, w ∈ lw_all := lw_in wsX20 [76, 78, 80, 82, 84, 86, 88, 90] (by decide +kernel) (by decide +kernel)

/-! TankFilter$State -/
set_option maxRecDepth 100000
def RX1 : String := "TankFilter$State"
def TX1 : u_T := fun k => match k with
  | 0 => ("TankFilter$State", "estimate", "LTankFilter$Estimate;", true)
  | 1 => ("TankFilter$State", "levelNoise", "I", false)
  | 2 => ("TankFilter$State", "flowNoise", "I", false)
  | 3 => ("TankFilter$State", "sensors", "[LTankFilter$Sensor;", true)
  | 4 => ("TankFilter$State", "gate", "I", false)
  | 5 => ("TankFilter$State", "history", "LTankFilter$Recent;", true)
  | 6 => ("TankFilter$State", "accepted", "I", false)
  | 7 => ("TankFilter$State", "rejected", "I", false)
  | _ => ("TankFilter$State", "missed", "I", false)
def tyX1 : Nat → FieldType := fun k => match k with
  | 0 => .object "TankFilter$Estimate"
  | 1 => .int
  | 2 => .int
  | 3 => .array (.object "TankFilter$Sensor")
  | 4 => .int
  | 5 => .object "TankFilter$Recent"
  | 6 => .int
  | 7 => .int
  | _ => .int
abbrev wsX10 : List Cond := u_ws RX1 TX1 9
theorem nmX1 : ∀ a, a < 9 → ∀ b, b < 9 → a ≠ b → (TX1 a).2.1 ≠ (TX1 b).2.1 := by decide +kernel
theorem tyX1_ok : ∀ k, k < 9 → parseFieldDescriptor (TX1 k).2.2.1 = some (tyX1 k) := by decide +kernel
abbrev cX1_init : ByteArray := prog_8_method_1_code
def yX1_init : MethodName := ⟨RX1, "<init>", "()V"⟩
def dkwX1_init_3 : List UInt8 := [177]
abbrev dktX1_init_3 : List UInt8 := dkwX1_init_3 ++ []
def dkwX1_init_2 : List UInt8 := [183, 0, 35, 181, 0, 38, 42, 180, 0, 24, 187, 0, 22, 89, 3, 17, 16, 0, 183, 0, 42, 184, 0, 45]
abbrev dktX1_init_2 : List UInt8 := dkwX1_init_2 ++ dktX1_init_3
def dkwX1_init_1 : List UInt8 := [189, 0, 22, 181, 0, 24, 42, 16, 9, 181, 0, 28, 42, 187, 0, 31, 89, 16, 24, 189, 0, 33]
abbrev dktX1_init_1 : List UInt8 := dkwX1_init_1 ++ dktX1_init_2
def dkwX1_init_0 : List UInt8 := [42, 183, 0, 3, 42, 187, 0, 9, 89, 183, 0, 11, 181, 0, 12, 42, 16, 64, 181, 0, 18, 42, 7]
abbrev dktX1_init_0 : List UInt8 := dkwX1_init_0 ++ dktX1_init_1
theorem dksX1_init_0 : cX1_init.data.toList.drop 0 = dktX1_init_0 := by decide +kernel
theorem dksX1_init_1 : cX1_init.data.toList.drop 23 = dktX1_init_1 := dk_seg dksX1_init_0 23 rfl rfl
theorem dksX1_init_2 : cX1_init.data.toList.drop 45 = dktX1_init_2 := dk_seg dksX1_init_1 22 rfl rfl
theorem dksX1_init_3 : cX1_init.data.toList.drop 69 = dktX1_init_3 := dk_seg dksX1_init_2 24 rfl rfl
theorem dX1_init_0 : decode cX1_init 0 = .ok (.aload_n 0, 1) := dk_42 (dk_at dksX1_init_0 0 rfl rfl)
theorem dX1_init_1 : decode cX1_init 1 = .ok (.invokespecial 3, 3) := dk_183 0 3 (dk_at dksX1_init_0 1 rfl rfl)
theorem dX1_init_4 : decode cX1_init 4 = .ok (.aload_n 0, 1) := dk_42 (dk_at dksX1_init_0 4 rfl rfl)
theorem dX1_init_5 : decode cX1_init 5 = .ok (.new 9, 3) := dk_187 0 9 (dk_at dksX1_init_0 5 rfl rfl)
theorem dX1_init_8 : decode cX1_init 8 = .ok (.dup, 1) := dk_89 (dk_at dksX1_init_0 8 rfl rfl)
theorem dX1_init_9 : decode cX1_init 9 = .ok (.invokespecial 11, 3) := dk_183 0 11 (dk_at dksX1_init_0 9 rfl rfl)
theorem dX1_init_12 : decode cX1_init 12 = .ok (.putfield 12, 3) := dk_181 0 12 (dk_at dksX1_init_0 12 rfl rfl)
theorem dX1_init_15 : decode cX1_init 15 = .ok (.aload_n 0, 1) := dk_42 (dk_at dksX1_init_0 15 rfl rfl)
theorem dX1_init_16 : decode cX1_init 16 = .ok (.bipush 64, 2) := dk_16 64 (dk_at dksX1_init_0 16 rfl rfl)
theorem dX1_init_18 : decode cX1_init 18 = .ok (.putfield 18, 3) := dk_181 0 18 (dk_at dksX1_init_0 18 rfl rfl)
theorem dX1_init_21 : decode cX1_init 21 = .ok (.aload_n 0, 1) := dk_42 (dk_at dksX1_init_0 21 rfl rfl)
theorem dX1_init_22 : decode cX1_init 22 = .ok (.iconst 4, 1) := dk_7 (dk_at dksX1_init_0 22 rfl rfl)
theorem dX1_init_23 : decode cX1_init 23 = .ok (.anewarray 22, 3) := dk_189 0 22 (dk_at dksX1_init_1 0 rfl rfl)
theorem dX1_init_26 : decode cX1_init 26 = .ok (.putfield 24, 3) := dk_181 0 24 (dk_at dksX1_init_1 3 rfl rfl)
theorem dX1_init_29 : decode cX1_init 29 = .ok (.aload_n 0, 1) := dk_42 (dk_at dksX1_init_1 6 rfl rfl)
theorem dX1_init_30 : decode cX1_init 30 = .ok (.bipush 9, 2) := dk_16 9 (dk_at dksX1_init_1 7 rfl rfl)
theorem dX1_init_32 : decode cX1_init 32 = .ok (.putfield 28, 3) := dk_181 0 28 (dk_at dksX1_init_1 9 rfl rfl)
theorem dX1_init_35 : decode cX1_init 35 = .ok (.aload_n 0, 1) := dk_42 (dk_at dksX1_init_1 12 rfl rfl)
theorem dX1_init_36 : decode cX1_init 36 = .ok (.new 31, 3) := dk_187 0 31 (dk_at dksX1_init_1 13 rfl rfl)
theorem dX1_init_39 : decode cX1_init 39 = .ok (.dup, 1) := dk_89 (dk_at dksX1_init_1 16 rfl rfl)
theorem dX1_init_40 : decode cX1_init 40 = .ok (.bipush 24, 2) := dk_16 24 (dk_at dksX1_init_1 17 rfl rfl)
theorem dX1_init_42 : decode cX1_init 42 = .ok (.anewarray 33, 3) := dk_189 0 33 (dk_at dksX1_init_1 19 rfl rfl)
theorem dX1_init_45 : decode cX1_init 45 = .ok (.invokespecial 35, 3) := dk_183 0 35 (dk_at dksX1_init_2 0 rfl rfl)
theorem dX1_init_48 : decode cX1_init 48 = .ok (.putfield 38, 3) := dk_181 0 38 (dk_at dksX1_init_2 3 rfl rfl)
theorem dX1_init_51 : decode cX1_init 51 = .ok (.aload_n 0, 1) := dk_42 (dk_at dksX1_init_2 6 rfl rfl)
theorem dX1_init_52 : decode cX1_init 52 = .ok (.getfield 24, 3) := dk_180 0 24 (dk_at dksX1_init_2 7 rfl rfl)
theorem dX1_init_55 : decode cX1_init 55 = .ok (.new 22, 3) := dk_187 0 22 (dk_at dksX1_init_2 10 rfl rfl)
theorem dX1_init_58 : decode cX1_init 58 = .ok (.dup, 1) := dk_89 (dk_at dksX1_init_2 13 rfl rfl)
theorem dX1_init_59 : decode cX1_init 59 = .ok (.iconst 0, 1) := dk_3 (dk_at dksX1_init_2 14 rfl rfl)
theorem dX1_init_60 : decode cX1_init 60 = .ok (.sipush 4096, 3) := dk_17 16 0 (dk_at dksX1_init_2 15 rfl rfl)
theorem dX1_init_63 : decode cX1_init 63 = .ok (.invokespecial 42, 3) := dk_183 0 42 (dk_at dksX1_init_2 18 rfl rfl)
theorem dX1_init_66 : decode cX1_init 66 = .ok (.invokestatic 45, 3) := dk_184 0 45 (dk_at dksX1_init_2 21 rfl rfl)
theorem dX1_init_69 : decode cX1_init 69 = .ok (.return_, 1) := dk_177 (dk_at dksX1_init_3 0 rfl rfl)
abbrev cX1_copy : ByteArray := prog_8_method_2_code
def yX1_copy : MethodName := ⟨RX1, "copy", "()LTankFilter$State;"⟩
def dkwX1_copy_3 : List UInt8 := [180, 0, 68, 181, 0, 68, 43, 42, 180, 0, 71, 181, 0, 71, 43, 42, 180, 0, 74, 181, 0, 74, 43, 176]
abbrev dktX1_copy_3 : List UInt8 := dkwX1_copy_3 ++ []
def dkwX1_copy_2 : List UInt8 := [184, 0, 59, 43, 42, 180, 0, 28, 181, 0, 28, 43, 180, 0, 38, 42, 180, 0, 38, 182, 0, 65, 43, 42]
abbrev dktX1_copy_2 : List UInt8 := dkwX1_copy_2 ++ dktX1_copy_3
def dkwX1_copy_1 : List UInt8 := [181, 0, 56, 43, 42, 180, 0, 18, 181, 0, 18, 42, 180, 0, 24, 3, 43, 180, 0, 24, 3, 7]
abbrev dktX1_copy_1 : List UInt8 := dkwX1_copy_1 ++ dktX1_copy_2
def dkwX1_copy_0 : List UInt8 := [187, 0, 13, 89, 183, 0, 51, 76, 43, 180, 0, 12, 42, 180, 0, 12, 182, 0, 52, 43, 42, 180, 0, 56]
abbrev dktX1_copy_0 : List UInt8 := dkwX1_copy_0 ++ dktX1_copy_1
theorem dksX1_copy_0 : cX1_copy.data.toList.drop 0 = dktX1_copy_0 := by decide +kernel
theorem dksX1_copy_1 : cX1_copy.data.toList.drop 24 = dktX1_copy_1 := dk_seg dksX1_copy_0 24 rfl rfl
theorem dksX1_copy_2 : cX1_copy.data.toList.drop 46 = dktX1_copy_2 := dk_seg dksX1_copy_1 22 rfl rfl
theorem dksX1_copy_3 : cX1_copy.data.toList.drop 70 = dktX1_copy_3 := dk_seg dksX1_copy_2 24 rfl rfl
theorem dX1_copy_0 : decode cX1_copy 0 = .ok (.new 13, 3) := dk_187 0 13 (dk_at dksX1_copy_0 0 rfl rfl)
theorem dX1_copy_3 : decode cX1_copy 3 = .ok (.dup, 1) := dk_89 (dk_at dksX1_copy_0 3 rfl rfl)
theorem dX1_copy_4 : decode cX1_copy 4 = .ok (.invokespecial 51, 3) := dk_183 0 51 (dk_at dksX1_copy_0 4 rfl rfl)
theorem dX1_copy_7 : decode cX1_copy 7 = .ok (.astore_n 1, 1) := dk_76 (dk_at dksX1_copy_0 7 rfl rfl)
theorem dX1_copy_8 : decode cX1_copy 8 = .ok (.aload_n 1, 1) := dk_43 (dk_at dksX1_copy_0 8 rfl rfl)
theorem dX1_copy_9 : decode cX1_copy 9 = .ok (.getfield 12, 3) := dk_180 0 12 (dk_at dksX1_copy_0 9 rfl rfl)
theorem dX1_copy_12 : decode cX1_copy 12 = .ok (.aload_n 0, 1) := dk_42 (dk_at dksX1_copy_0 12 rfl rfl)
theorem dX1_copy_13 : decode cX1_copy 13 = .ok (.getfield 12, 3) := dk_180 0 12 (dk_at dksX1_copy_0 13 rfl rfl)
theorem dX1_copy_16 : decode cX1_copy 16 = .ok (.invokevirtual 52, 3) := dk_182 0 52 (dk_at dksX1_copy_0 16 rfl rfl)
theorem dX1_copy_19 : decode cX1_copy 19 = .ok (.aload_n 1, 1) := dk_43 (dk_at dksX1_copy_0 19 rfl rfl)
theorem dX1_copy_20 : decode cX1_copy 20 = .ok (.aload_n 0, 1) := dk_42 (dk_at dksX1_copy_0 20 rfl rfl)
theorem dX1_copy_21 : decode cX1_copy 21 = .ok (.getfield 56, 3) := dk_180 0 56 (dk_at dksX1_copy_0 21 rfl rfl)
theorem dX1_copy_24 : decode cX1_copy 24 = .ok (.putfield 56, 3) := dk_181 0 56 (dk_at dksX1_copy_1 0 rfl rfl)
theorem dX1_copy_27 : decode cX1_copy 27 = .ok (.aload_n 1, 1) := dk_43 (dk_at dksX1_copy_1 3 rfl rfl)
theorem dX1_copy_28 : decode cX1_copy 28 = .ok (.aload_n 0, 1) := dk_42 (dk_at dksX1_copy_1 4 rfl rfl)
theorem dX1_copy_29 : decode cX1_copy 29 = .ok (.getfield 18, 3) := dk_180 0 18 (dk_at dksX1_copy_1 5 rfl rfl)
theorem dX1_copy_32 : decode cX1_copy 32 = .ok (.putfield 18, 3) := dk_181 0 18 (dk_at dksX1_copy_1 8 rfl rfl)
theorem dX1_copy_35 : decode cX1_copy 35 = .ok (.aload_n 0, 1) := dk_42 (dk_at dksX1_copy_1 11 rfl rfl)
theorem dX1_copy_36 : decode cX1_copy 36 = .ok (.getfield 24, 3) := dk_180 0 24 (dk_at dksX1_copy_1 12 rfl rfl)
theorem dX1_copy_39 : decode cX1_copy 39 = .ok (.iconst 0, 1) := dk_3 (dk_at dksX1_copy_1 15 rfl rfl)
theorem dX1_copy_40 : decode cX1_copy 40 = .ok (.aload_n 1, 1) := dk_43 (dk_at dksX1_copy_1 16 rfl rfl)
theorem dX1_copy_41 : decode cX1_copy 41 = .ok (.getfield 24, 3) := dk_180 0 24 (dk_at dksX1_copy_1 17 rfl rfl)
theorem dX1_copy_44 : decode cX1_copy 44 = .ok (.iconst 0, 1) := dk_3 (dk_at dksX1_copy_1 20 rfl rfl)
theorem dX1_copy_45 : decode cX1_copy 45 = .ok (.iconst 4, 1) := dk_7 (dk_at dksX1_copy_1 21 rfl rfl)
theorem dX1_copy_46 : decode cX1_copy 46 = .ok (.invokestatic 59, 3) := dk_184 0 59 (dk_at dksX1_copy_2 0 rfl rfl)
theorem dX1_copy_49 : decode cX1_copy 49 = .ok (.aload_n 1, 1) := dk_43 (dk_at dksX1_copy_2 3 rfl rfl)
theorem dX1_copy_50 : decode cX1_copy 50 = .ok (.aload_n 0, 1) := dk_42 (dk_at dksX1_copy_2 4 rfl rfl)
theorem dX1_copy_51 : decode cX1_copy 51 = .ok (.getfield 28, 3) := dk_180 0 28 (dk_at dksX1_copy_2 5 rfl rfl)
theorem dX1_copy_54 : decode cX1_copy 54 = .ok (.putfield 28, 3) := dk_181 0 28 (dk_at dksX1_copy_2 8 rfl rfl)
theorem dX1_copy_57 : decode cX1_copy 57 = .ok (.aload_n 1, 1) := dk_43 (dk_at dksX1_copy_2 11 rfl rfl)
theorem dX1_copy_58 : decode cX1_copy 58 = .ok (.getfield 38, 3) := dk_180 0 38 (dk_at dksX1_copy_2 12 rfl rfl)
theorem dX1_copy_61 : decode cX1_copy 61 = .ok (.aload_n 0, 1) := dk_42 (dk_at dksX1_copy_2 15 rfl rfl)
theorem dX1_copy_62 : decode cX1_copy 62 = .ok (.getfield 38, 3) := dk_180 0 38 (dk_at dksX1_copy_2 16 rfl rfl)
theorem dX1_copy_65 : decode cX1_copy 65 = .ok (.invokevirtual 65, 3) := dk_182 0 65 (dk_at dksX1_copy_2 19 rfl rfl)
theorem dX1_copy_68 : decode cX1_copy 68 = .ok (.aload_n 1, 1) := dk_43 (dk_at dksX1_copy_2 22 rfl rfl)
theorem dX1_copy_69 : decode cX1_copy 69 = .ok (.aload_n 0, 1) := dk_42 (dk_at dksX1_copy_2 23 rfl rfl)
theorem dX1_copy_70 : decode cX1_copy 70 = .ok (.getfield 68, 3) := dk_180 0 68 (dk_at dksX1_copy_3 0 rfl rfl)
theorem dX1_copy_73 : decode cX1_copy 73 = .ok (.putfield 68, 3) := dk_181 0 68 (dk_at dksX1_copy_3 3 rfl rfl)
theorem dX1_copy_76 : decode cX1_copy 76 = .ok (.aload_n 1, 1) := dk_43 (dk_at dksX1_copy_3 6 rfl rfl)
theorem dX1_copy_77 : decode cX1_copy 77 = .ok (.aload_n 0, 1) := dk_42 (dk_at dksX1_copy_3 7 rfl rfl)
theorem dX1_copy_78 : decode cX1_copy 78 = .ok (.getfield 71, 3) := dk_180 0 71 (dk_at dksX1_copy_3 8 rfl rfl)
theorem dX1_copy_81 : decode cX1_copy 81 = .ok (.putfield 71, 3) := dk_181 0 71 (dk_at dksX1_copy_3 11 rfl rfl)
theorem dX1_copy_84 : decode cX1_copy 84 = .ok (.aload_n 1, 1) := dk_43 (dk_at dksX1_copy_3 14 rfl rfl)
theorem dX1_copy_85 : decode cX1_copy 85 = .ok (.aload_n 0, 1) := dk_42 (dk_at dksX1_copy_3 15 rfl rfl)
theorem dX1_copy_86 : decode cX1_copy 86 = .ok (.getfield 74, 3) := dk_180 0 74 (dk_at dksX1_copy_3 16 rfl rfl)
theorem dX1_copy_89 : decode cX1_copy 89 = .ok (.putfield 74, 3) := dk_181 0 74 (dk_at dksX1_copy_3 19 rfl rfl)
theorem dX1_copy_92 : decode cX1_copy 92 = .ok (.aload_n 1, 1) := dk_43 (dk_at dksX1_copy_3 22 rfl rfl)
theorem dX1_copy_93 : decode cX1_copy 93 = .ok (.areturn, 1) := dk_176 (dk_at dksX1_copy_3 23 rfl rfl)
abbrev cX1_predicted : ByteArray := prog_8_method_3_code
def yX1_predicted : MethodName := ⟨RX1, "predicted", "(I)LTankFilter$Estimate;"⟩
def dkwX1_predicted_1 : List UInt8 := [3, 42, 180, 0, 56, 42, 180, 0, 18, 182, 0, 77, 132, 3, 1, 167, 255, 235, 44, 176]
abbrev dktX1_predicted_1 : List UInt8 := dkwX1_predicted_1 ++ []
def dkwX1_predicted_0 : List UInt8 := [187, 0, 9, 89, 183, 0, 11, 77, 44, 42, 180, 0, 12, 182, 0, 52, 3, 62, 29, 27, 162, 0, 22, 44]
abbrev dktX1_predicted_0 : List UInt8 := dkwX1_predicted_0 ++ dktX1_predicted_1
theorem dksX1_predicted_0 : cX1_predicted.data.toList.drop 0 = dktX1_predicted_0 := by decide +kernel
theorem dksX1_predicted_1 : cX1_predicted.data.toList.drop 24 = dktX1_predicted_1 := dk_seg dksX1_predicted_0 24 rfl rfl
theorem dX1_predicted_0 : decode cX1_predicted 0 = .ok (.new 9, 3) := dk_187 0 9 (dk_at dksX1_predicted_0 0 rfl rfl)
theorem dX1_predicted_3 : decode cX1_predicted 3 = .ok (.dup, 1) := dk_89 (dk_at dksX1_predicted_0 3 rfl rfl)
theorem dX1_predicted_4 : decode cX1_predicted 4 = .ok (.invokespecial 11, 3) := dk_183 0 11 (dk_at dksX1_predicted_0 4 rfl rfl)
theorem dX1_predicted_7 : decode cX1_predicted 7 = .ok (.astore_n 2, 1) := dk_77 (dk_at dksX1_predicted_0 7 rfl rfl)
theorem dX1_predicted_8 : decode cX1_predicted 8 = .ok (.aload_n 2, 1) := dk_44 (dk_at dksX1_predicted_0 8 rfl rfl)
theorem dX1_predicted_9 : decode cX1_predicted 9 = .ok (.aload_n 0, 1) := dk_42 (dk_at dksX1_predicted_0 9 rfl rfl)
theorem dX1_predicted_10 : decode cX1_predicted 10 = .ok (.getfield 12, 3) := dk_180 0 12 (dk_at dksX1_predicted_0 10 rfl rfl)
theorem dX1_predicted_13 : decode cX1_predicted 13 = .ok (.invokevirtual 52, 3) := dk_182 0 52 (dk_at dksX1_predicted_0 13 rfl rfl)
theorem dX1_predicted_16 : decode cX1_predicted 16 = .ok (.iconst 0, 1) := dk_3 (dk_at dksX1_predicted_0 16 rfl rfl)
theorem dX1_predicted_17 : decode cX1_predicted 17 = .ok (.istore_n 3, 1) := dk_62 (dk_at dksX1_predicted_0 17 rfl rfl)
theorem dX1_predicted_18 : decode cX1_predicted 18 = .ok (.iload_n 3, 1) := dk_29 (dk_at dksX1_predicted_0 18 rfl rfl)
theorem dX1_predicted_19 : decode cX1_predicted 19 = .ok (.iload_n 1, 1) := dk_27 (dk_at dksX1_predicted_0 19 rfl rfl)
theorem dX1_predicted_20 : decode cX1_predicted 20 = .ok (.if_icmp .ge 22, 3) := dk_162 0 22 (dk_at dksX1_predicted_0 20 rfl rfl)
theorem dX1_predicted_23 : decode cX1_predicted 23 = .ok (.aload_n 2, 1) := dk_44 (dk_at dksX1_predicted_0 23 rfl rfl)
theorem dX1_predicted_24 : decode cX1_predicted 24 = .ok (.iconst 0, 1) := dk_3 (dk_at dksX1_predicted_1 0 rfl rfl)
theorem dX1_predicted_25 : decode cX1_predicted 25 = .ok (.aload_n 0, 1) := dk_42 (dk_at dksX1_predicted_1 1 rfl rfl)
theorem dX1_predicted_26 : decode cX1_predicted 26 = .ok (.getfield 56, 3) := dk_180 0 56 (dk_at dksX1_predicted_1 2 rfl rfl)
theorem dX1_predicted_29 : decode cX1_predicted 29 = .ok (.aload_n 0, 1) := dk_42 (dk_at dksX1_predicted_1 5 rfl rfl)
theorem dX1_predicted_30 : decode cX1_predicted 30 = .ok (.getfield 18, 3) := dk_180 0 18 (dk_at dksX1_predicted_1 6 rfl rfl)
theorem dX1_predicted_33 : decode cX1_predicted 33 = .ok (.invokevirtual 77, 3) := dk_182 0 77 (dk_at dksX1_predicted_1 9 rfl rfl)
theorem dX1_predicted_36 : decode cX1_predicted 36 = .ok (.iinc 3 1, 3) := dk_132 3 1 (dk_at dksX1_predicted_1 12 rfl rfl)
theorem dX1_predicted_39 : decode cX1_predicted 39 = .ok (.goto (-21), 3) := dk_167 255 235 (dk_at dksX1_predicted_1 15 rfl rfl)
theorem dX1_predicted_42 : decode cX1_predicted 42 = .ok (.aload_n 2, 1) := dk_44 (dk_at dksX1_predicted_1 18 rfl rfl)
theorem dX1_predicted_43 : decode cX1_predicted 43 = .ok (.areturn, 1) := dk_176 (dk_at dksX1_predicted_1 19 rfl rfl)
abbrev cX1_stepsTo : ByteArray := prog_8_method_4_code
def yX1_stepsTo : MethodName := ⟨RX1, "stepsTo", "(I)I"⟩
def dkwX1_stepsTo_3 : List UInt8 := [132, 4, 1, 167, 255, 207, 18, 88, 172, 77, 18, 88, 172]
abbrev dktX1_stepsTo_3 : List UInt8 := dkwX1_stepsTo_3 ++ []
def dkwX1_stepsTo_2 : List UInt8 := [180, 0, 85, 27, 163, 0, 6, 21, 4, 172, 44, 3, 42, 180, 0, 56, 42, 180, 0, 18, 182, 0, 77]
abbrev dktX1_stepsTo_2 : List UInt8 := dkwX1_stepsTo_2 ++ dktX1_stepsTo_3
def dkwX1_stepsTo_1 : List UInt8 := [21, 4, 16, 100, 163, 0, 48, 29, 153, 0, 14, 44, 180, 0, 85, 27, 161, 0, 17, 167, 0, 11, 44]
abbrev dktX1_stepsTo_1 : List UInt8 := dkwX1_stepsTo_1 ++ dktX1_stepsTo_2
def dkwX1_stepsTo_0 : List UInt8 := [42, 3, 182, 0, 81, 77, 44, 180, 0, 85, 27, 162, 0, 7, 4, 167, 0, 4, 3, 62, 3, 54, 4]
abbrev dktX1_stepsTo_0 : List UInt8 := dkwX1_stepsTo_0 ++ dktX1_stepsTo_1
theorem dksX1_stepsTo_0 : cX1_stepsTo.data.toList.drop 0 = dktX1_stepsTo_0 := by decide +kernel
theorem dksX1_stepsTo_1 : cX1_stepsTo.data.toList.drop 23 = dktX1_stepsTo_1 := dk_seg dksX1_stepsTo_0 23 rfl rfl
theorem dksX1_stepsTo_2 : cX1_stepsTo.data.toList.drop 46 = dktX1_stepsTo_2 := dk_seg dksX1_stepsTo_1 23 rfl rfl
theorem dksX1_stepsTo_3 : cX1_stepsTo.data.toList.drop 69 = dktX1_stepsTo_3 := dk_seg dksX1_stepsTo_2 23 rfl rfl
theorem dX1_stepsTo_0 : decode cX1_stepsTo 0 = .ok (.aload_n 0, 1) := dk_42 (dk_at dksX1_stepsTo_0 0 rfl rfl)
theorem dX1_stepsTo_1 : decode cX1_stepsTo 1 = .ok (.iconst 0, 1) := dk_3 (dk_at dksX1_stepsTo_0 1 rfl rfl)
theorem dX1_stepsTo_2 : decode cX1_stepsTo 2 = .ok (.invokevirtual 81, 3) := dk_182 0 81 (dk_at dksX1_stepsTo_0 2 rfl rfl)
theorem dX1_stepsTo_5 : decode cX1_stepsTo 5 = .ok (.astore_n 2, 1) := dk_77 (dk_at dksX1_stepsTo_0 5 rfl rfl)
theorem dX1_stepsTo_6 : decode cX1_stepsTo 6 = .ok (.aload_n 2, 1) := dk_44 (dk_at dksX1_stepsTo_0 6 rfl rfl)
theorem dX1_stepsTo_7 : decode cX1_stepsTo 7 = .ok (.getfield 85, 3) := dk_180 0 85 (dk_at dksX1_stepsTo_0 7 rfl rfl)
theorem dX1_stepsTo_10 : decode cX1_stepsTo 10 = .ok (.iload_n 1, 1) := dk_27 (dk_at dksX1_stepsTo_0 10 rfl rfl)
theorem dX1_stepsTo_11 : decode cX1_stepsTo 11 = .ok (.if_icmp .ge 7, 3) := dk_162 0 7 (dk_at dksX1_stepsTo_0 11 rfl rfl)
theorem dX1_stepsTo_14 : decode cX1_stepsTo 14 = .ok (.iconst 1, 1) := dk_4 (dk_at dksX1_stepsTo_0 14 rfl rfl)
theorem dX1_stepsTo_15 : decode cX1_stepsTo 15 = .ok (.goto 4, 3) := dk_167 0 4 (dk_at dksX1_stepsTo_0 15 rfl rfl)
theorem dX1_stepsTo_18 : decode cX1_stepsTo 18 = .ok (.iconst 0, 1) := dk_3 (dk_at dksX1_stepsTo_0 18 rfl rfl)
theorem dX1_stepsTo_19 : decode cX1_stepsTo 19 = .ok (.istore_n 3, 1) := dk_62 (dk_at dksX1_stepsTo_0 19 rfl rfl)
theorem dX1_stepsTo_20 : decode cX1_stepsTo 20 = .ok (.iconst 0, 1) := dk_3 (dk_at dksX1_stepsTo_0 20 rfl rfl)
theorem dX1_stepsTo_21 : decode cX1_stepsTo 21 = .ok (.istore 4, 2) := dk_54 4 (dk_at dksX1_stepsTo_0 21 rfl rfl)
theorem dX1_stepsTo_23 : decode cX1_stepsTo 23 = .ok (.iload 4, 2) := dk_21 4 (dk_at dksX1_stepsTo_1 0 rfl rfl)
theorem dX1_stepsTo_25 : decode cX1_stepsTo 25 = .ok (.bipush 100, 2) := dk_16 100 (dk_at dksX1_stepsTo_1 2 rfl rfl)
theorem dX1_stepsTo_27 : decode cX1_stepsTo 27 = .ok (.if_icmp .gt 48, 3) := dk_163 0 48 (dk_at dksX1_stepsTo_1 4 rfl rfl)
theorem dX1_stepsTo_30 : decode cX1_stepsTo 30 = .ok (.iload_n 3, 1) := dk_29 (dk_at dksX1_stepsTo_1 7 rfl rfl)
theorem dX1_stepsTo_31 : decode cX1_stepsTo 31 = .ok (.ifCond .eq 14, 3) := dk_153 0 14 (dk_at dksX1_stepsTo_1 8 rfl rfl)
theorem dX1_stepsTo_34 : decode cX1_stepsTo 34 = .ok (.aload_n 2, 1) := dk_44 (dk_at dksX1_stepsTo_1 11 rfl rfl)
theorem dX1_stepsTo_35 : decode cX1_stepsTo 35 = .ok (.getfield 85, 3) := dk_180 0 85 (dk_at dksX1_stepsTo_1 12 rfl rfl)
theorem dX1_stepsTo_38 : decode cX1_stepsTo 38 = .ok (.iload_n 1, 1) := dk_27 (dk_at dksX1_stepsTo_1 15 rfl rfl)
theorem dX1_stepsTo_39 : decode cX1_stepsTo 39 = .ok (.if_icmp .lt 17, 3) := dk_161 0 17 (dk_at dksX1_stepsTo_1 16 rfl rfl)
theorem dX1_stepsTo_42 : decode cX1_stepsTo 42 = .ok (.goto 11, 3) := dk_167 0 11 (dk_at dksX1_stepsTo_1 19 rfl rfl)
theorem dX1_stepsTo_45 : decode cX1_stepsTo 45 = .ok (.aload_n 2, 1) := dk_44 (dk_at dksX1_stepsTo_1 22 rfl rfl)
theorem dX1_stepsTo_46 : decode cX1_stepsTo 46 = .ok (.getfield 85, 3) := dk_180 0 85 (dk_at dksX1_stepsTo_2 0 rfl rfl)
theorem dX1_stepsTo_49 : decode cX1_stepsTo 49 = .ok (.iload_n 1, 1) := dk_27 (dk_at dksX1_stepsTo_2 3 rfl rfl)
theorem dX1_stepsTo_50 : decode cX1_stepsTo 50 = .ok (.if_icmp .gt 6, 3) := dk_163 0 6 (dk_at dksX1_stepsTo_2 4 rfl rfl)
theorem dX1_stepsTo_53 : decode cX1_stepsTo 53 = .ok (.iload 4, 2) := dk_21 4 (dk_at dksX1_stepsTo_2 7 rfl rfl)
theorem dX1_stepsTo_55 : decode cX1_stepsTo 55 = .ok (.ireturn, 1) := dk_172 (dk_at dksX1_stepsTo_2 9 rfl rfl)
theorem dX1_stepsTo_56 : decode cX1_stepsTo 56 = .ok (.aload_n 2, 1) := dk_44 (dk_at dksX1_stepsTo_2 10 rfl rfl)
theorem dX1_stepsTo_57 : decode cX1_stepsTo 57 = .ok (.iconst 0, 1) := dk_3 (dk_at dksX1_stepsTo_2 11 rfl rfl)
theorem dX1_stepsTo_58 : decode cX1_stepsTo 58 = .ok (.aload_n 0, 1) := dk_42 (dk_at dksX1_stepsTo_2 12 rfl rfl)
theorem dX1_stepsTo_59 : decode cX1_stepsTo 59 = .ok (.getfield 56, 3) := dk_180 0 56 (dk_at dksX1_stepsTo_2 13 rfl rfl)
theorem dX1_stepsTo_62 : decode cX1_stepsTo 62 = .ok (.aload_n 0, 1) := dk_42 (dk_at dksX1_stepsTo_2 16 rfl rfl)
theorem dX1_stepsTo_63 : decode cX1_stepsTo 63 = .ok (.getfield 18, 3) := dk_180 0 18 (dk_at dksX1_stepsTo_2 17 rfl rfl)
theorem dX1_stepsTo_66 : decode cX1_stepsTo 66 = .ok (.invokevirtual 77, 3) := dk_182 0 77 (dk_at dksX1_stepsTo_2 20 rfl rfl)
theorem dX1_stepsTo_69 : decode cX1_stepsTo 69 = .ok (.iinc 4 1, 3) := dk_132 4 1 (dk_at dksX1_stepsTo_3 0 rfl rfl)
theorem dX1_stepsTo_72 : decode cX1_stepsTo 72 = .ok (.goto (-49), 3) := dk_167 255 207 (dk_at dksX1_stepsTo_3 3 rfl rfl)
theorem dX1_stepsTo_75 : decode cX1_stepsTo 75 = .ok (.ldc 88, 2) := dk_18 88 (dk_at dksX1_stepsTo_3 6 rfl rfl)
theorem dX1_stepsTo_77 : decode cX1_stepsTo 77 = .ok (.ireturn, 1) := dk_172 (dk_at dksX1_stepsTo_3 8 rfl rfl)
theorem dX1_stepsTo_78 : decode cX1_stepsTo 78 = .ok (.astore_n 2, 1) := dk_77 (dk_at dksX1_stepsTo_3 9 rfl rfl)
theorem dX1_stepsTo_79 : decode cX1_stepsTo 79 = .ok (.ldc 88, 2) := dk_18 88 (dk_at dksX1_stepsTo_3 10 rfl rfl)
theorem dX1_stepsTo_81 : decode cX1_stepsTo 81 = .ok (.ireturn, 1) := dk_172 (dk_at dksX1_stepsTo_3 12 rfl rfl)
abbrev cX1_steady : ByteArray := prog_8_method_5_code
def yX1_steady : MethodName := ⟨RX1, "steady", "(II)I"⟩
def dkwX1_steady_4 : List UInt8 := [180, 0, 103, 167, 0, 7, 45, 180, 0, 106, 172, 132, 5, 1, 167, 255, 167, 18, 88, 172, 78, 18, 88, 172]
abbrev dktX1_steady_4 : List UInt8 := dkwX1_steady_4 ++ []
def dkwX1_steady_3 : List UInt8 := [182, 0, 99, 153, 0, 30, 28, 18, 88, 160, 0, 8, 21, 5, 167, 0, 18, 28, 154, 0, 10, 45]
abbrev dktX1_steady_3 : List UInt8 := dkwX1_steady_3 ++ dktX1_steady_4
def dkwX1_steady_2 : List UInt8 := [180, 0, 24, 27, 50, 45, 42, 180, 0, 24, 27, 50, 182, 0, 91, 3, 182, 0, 95, 54, 6, 45, 25, 4]
abbrev dktX1_steady_2 : List UInt8 := dkwX1_steady_2 ++ dktX1_steady_3
def dkwX1_steady_1 : List UInt8 := [163, 0, 87, 25, 4, 45, 182, 0, 52, 45, 3, 42, 180, 0, 56, 42, 180, 0, 18, 182, 0, 77, 45, 42]
abbrev dktX1_steady_1 : List UInt8 := dkwX1_steady_1 ++ dktX1_steady_2
def dkwX1_steady_0 : List UInt8 := [42, 3, 182, 0, 81, 78, 187, 0, 9, 89, 183, 0, 11, 58, 4, 4, 54, 5, 21, 5, 17, 1, 44]
abbrev dktX1_steady_0 : List UInt8 := dkwX1_steady_0 ++ dktX1_steady_1
theorem dksX1_steady_0 : cX1_steady.data.toList.drop 0 = dktX1_steady_0 := by decide +kernel
theorem dksX1_steady_1 : cX1_steady.data.toList.drop 23 = dktX1_steady_1 := dk_seg dksX1_steady_0 23 rfl rfl
theorem dksX1_steady_2 : cX1_steady.data.toList.drop 47 = dktX1_steady_2 := dk_seg dksX1_steady_1 24 rfl rfl
theorem dksX1_steady_3 : cX1_steady.data.toList.drop 71 = dktX1_steady_3 := dk_seg dksX1_steady_2 24 rfl rfl
theorem dksX1_steady_4 : cX1_steady.data.toList.drop 93 = dktX1_steady_4 := dk_seg dksX1_steady_3 22 rfl rfl
theorem dX1_steady_0 : decode cX1_steady 0 = .ok (.aload_n 0, 1) := dk_42 (dk_at dksX1_steady_0 0 rfl rfl)
theorem dX1_steady_1 : decode cX1_steady 1 = .ok (.iconst 0, 1) := dk_3 (dk_at dksX1_steady_0 1 rfl rfl)
theorem dX1_steady_2 : decode cX1_steady 2 = .ok (.invokevirtual 81, 3) := dk_182 0 81 (dk_at dksX1_steady_0 2 rfl rfl)
theorem dX1_steady_5 : decode cX1_steady 5 = .ok (.astore_n 3, 1) := dk_78 (dk_at dksX1_steady_0 5 rfl rfl)
theorem dX1_steady_6 : decode cX1_steady 6 = .ok (.new 9, 3) := dk_187 0 9 (dk_at dksX1_steady_0 6 rfl rfl)
theorem dX1_steady_9 : decode cX1_steady 9 = .ok (.dup, 1) := dk_89 (dk_at dksX1_steady_0 9 rfl rfl)
theorem dX1_steady_10 : decode cX1_steady 10 = .ok (.invokespecial 11, 3) := dk_183 0 11 (dk_at dksX1_steady_0 10 rfl rfl)
theorem dX1_steady_13 : decode cX1_steady 13 = .ok (.astore 4, 2) := dk_58 4 (dk_at dksX1_steady_0 13 rfl rfl)
theorem dX1_steady_15 : decode cX1_steady 15 = .ok (.iconst 1, 1) := dk_4 (dk_at dksX1_steady_0 15 rfl rfl)
theorem dX1_steady_16 : decode cX1_steady 16 = .ok (.istore 5, 2) := dk_54 5 (dk_at dksX1_steady_0 16 rfl rfl)
theorem dX1_steady_18 : decode cX1_steady 18 = .ok (.iload 5, 2) := dk_21 5 (dk_at dksX1_steady_0 18 rfl rfl)
theorem dX1_steady_20 : decode cX1_steady 20 = .ok (.sipush 300, 3) := dk_17 1 44 (dk_at dksX1_steady_0 20 rfl rfl)
theorem dX1_steady_23 : decode cX1_steady 23 = .ok (.if_icmp .gt 87, 3) := dk_163 0 87 (dk_at dksX1_steady_1 0 rfl rfl)
theorem dX1_steady_26 : decode cX1_steady 26 = .ok (.aload 4, 2) := dk_25 4 (dk_at dksX1_steady_1 3 rfl rfl)
theorem dX1_steady_28 : decode cX1_steady 28 = .ok (.aload_n 3, 1) := dk_45 (dk_at dksX1_steady_1 5 rfl rfl)
theorem dX1_steady_29 : decode cX1_steady 29 = .ok (.invokevirtual 52, 3) := dk_182 0 52 (dk_at dksX1_steady_1 6 rfl rfl)
theorem dX1_steady_32 : decode cX1_steady 32 = .ok (.aload_n 3, 1) := dk_45 (dk_at dksX1_steady_1 9 rfl rfl)
theorem dX1_steady_33 : decode cX1_steady 33 = .ok (.iconst 0, 1) := dk_3 (dk_at dksX1_steady_1 10 rfl rfl)
theorem dX1_steady_34 : decode cX1_steady 34 = .ok (.aload_n 0, 1) := dk_42 (dk_at dksX1_steady_1 11 rfl rfl)
theorem dX1_steady_35 : decode cX1_steady 35 = .ok (.getfield 56, 3) := dk_180 0 56 (dk_at dksX1_steady_1 12 rfl rfl)
theorem dX1_steady_38 : decode cX1_steady 38 = .ok (.aload_n 0, 1) := dk_42 (dk_at dksX1_steady_1 15 rfl rfl)
theorem dX1_steady_39 : decode cX1_steady 39 = .ok (.getfield 18, 3) := dk_180 0 18 (dk_at dksX1_steady_1 16 rfl rfl)
theorem dX1_steady_42 : decode cX1_steady 42 = .ok (.invokevirtual 77, 3) := dk_182 0 77 (dk_at dksX1_steady_1 19 rfl rfl)
theorem dX1_steady_45 : decode cX1_steady 45 = .ok (.aload_n 3, 1) := dk_45 (dk_at dksX1_steady_1 22 rfl rfl)
theorem dX1_steady_46 : decode cX1_steady 46 = .ok (.aload_n 0, 1) := dk_42 (dk_at dksX1_steady_1 23 rfl rfl)
theorem dX1_steady_47 : decode cX1_steady 47 = .ok (.getfield 24, 3) := dk_180 0 24 (dk_at dksX1_steady_2 0 rfl rfl)
theorem dX1_steady_50 : decode cX1_steady 50 = .ok (.iload_n 1, 1) := dk_27 (dk_at dksX1_steady_2 3 rfl rfl)
theorem dX1_steady_51 : decode cX1_steady 51 = .ok (.aaload, 1) := dk_50 (dk_at dksX1_steady_2 4 rfl rfl)
theorem dX1_steady_52 : decode cX1_steady 52 = .ok (.aload_n 3, 1) := dk_45 (dk_at dksX1_steady_2 5 rfl rfl)
theorem dX1_steady_53 : decode cX1_steady 53 = .ok (.aload_n 0, 1) := dk_42 (dk_at dksX1_steady_2 6 rfl rfl)
theorem dX1_steady_54 : decode cX1_steady 54 = .ok (.getfield 24, 3) := dk_180 0 24 (dk_at dksX1_steady_2 7 rfl rfl)
theorem dX1_steady_57 : decode cX1_steady 57 = .ok (.iload_n 1, 1) := dk_27 (dk_at dksX1_steady_2 10 rfl rfl)
theorem dX1_steady_58 : decode cX1_steady 58 = .ok (.aaload, 1) := dk_50 (dk_at dksX1_steady_2 11 rfl rfl)
theorem dX1_steady_59 : decode cX1_steady 59 = .ok (.invokevirtual 91, 3) := dk_182 0 91 (dk_at dksX1_steady_2 12 rfl rfl)
theorem dX1_steady_62 : decode cX1_steady 62 = .ok (.iconst 0, 1) := dk_3 (dk_at dksX1_steady_2 15 rfl rfl)
theorem dX1_steady_63 : decode cX1_steady 63 = .ok (.invokevirtual 95, 3) := dk_182 0 95 (dk_at dksX1_steady_2 16 rfl rfl)
theorem dX1_steady_66 : decode cX1_steady 66 = .ok (.istore 6, 2) := dk_54 6 (dk_at dksX1_steady_2 19 rfl rfl)
theorem dX1_steady_68 : decode cX1_steady 68 = .ok (.aload_n 3, 1) := dk_45 (dk_at dksX1_steady_2 21 rfl rfl)
theorem dX1_steady_69 : decode cX1_steady 69 = .ok (.aload 4, 2) := dk_25 4 (dk_at dksX1_steady_2 22 rfl rfl)
theorem dX1_steady_71 : decode cX1_steady 71 = .ok (.invokevirtual 99, 3) := dk_182 0 99 (dk_at dksX1_steady_3 0 rfl rfl)
theorem dX1_steady_74 : decode cX1_steady 74 = .ok (.ifCond .eq 30, 3) := dk_153 0 30 (dk_at dksX1_steady_3 3 rfl rfl)
theorem dX1_steady_77 : decode cX1_steady 77 = .ok (.iload_n 2, 1) := dk_28 (dk_at dksX1_steady_3 6 rfl rfl)
theorem dX1_steady_78 : decode cX1_steady 78 = .ok (.ldc 88, 2) := dk_18 88 (dk_at dksX1_steady_3 7 rfl rfl)
theorem dX1_steady_80 : decode cX1_steady 80 = .ok (.if_icmp .ne 8, 3) := dk_160 0 8 (dk_at dksX1_steady_3 9 rfl rfl)
theorem dX1_steady_83 : decode cX1_steady 83 = .ok (.iload 5, 2) := dk_21 5 (dk_at dksX1_steady_3 12 rfl rfl)
theorem dX1_steady_85 : decode cX1_steady 85 = .ok (.goto 18, 3) := dk_167 0 18 (dk_at dksX1_steady_3 14 rfl rfl)
theorem dX1_steady_88 : decode cX1_steady 88 = .ok (.iload_n 2, 1) := dk_28 (dk_at dksX1_steady_3 17 rfl rfl)
theorem dX1_steady_89 : decode cX1_steady 89 = .ok (.ifCond .ne 10, 3) := dk_154 0 10 (dk_at dksX1_steady_3 18 rfl rfl)
theorem dX1_steady_92 : decode cX1_steady 92 = .ok (.aload_n 3, 1) := dk_45 (dk_at dksX1_steady_3 21 rfl rfl)
theorem dX1_steady_93 : decode cX1_steady 93 = .ok (.getfield 103, 3) := dk_180 0 103 (dk_at dksX1_steady_4 0 rfl rfl)
theorem dX1_steady_96 : decode cX1_steady 96 = .ok (.goto 7, 3) := dk_167 0 7 (dk_at dksX1_steady_4 3 rfl rfl)
theorem dX1_steady_99 : decode cX1_steady 99 = .ok (.aload_n 3, 1) := dk_45 (dk_at dksX1_steady_4 6 rfl rfl)
theorem dX1_steady_100 : decode cX1_steady 100 = .ok (.getfield 106, 3) := dk_180 0 106 (dk_at dksX1_steady_4 7 rfl rfl)
theorem dX1_steady_103 : decode cX1_steady 103 = .ok (.ireturn, 1) := dk_172 (dk_at dksX1_steady_4 10 rfl rfl)
theorem dX1_steady_104 : decode cX1_steady 104 = .ok (.iinc 5 1, 3) := dk_132 5 1 (dk_at dksX1_steady_4 11 rfl rfl)
theorem dX1_steady_107 : decode cX1_steady 107 = .ok (.goto (-89), 3) := dk_167 255 167 (dk_at dksX1_steady_4 14 rfl rfl)
theorem dX1_steady_110 : decode cX1_steady 110 = .ok (.ldc 88, 2) := dk_18 88 (dk_at dksX1_steady_4 17 rfl rfl)
theorem dX1_steady_112 : decode cX1_steady 112 = .ok (.ireturn, 1) := dk_172 (dk_at dksX1_steady_4 19 rfl rfl)
theorem dX1_steady_113 : decode cX1_steady 113 = .ok (.astore_n 3, 1) := dk_78 (dk_at dksX1_steady_4 20 rfl rfl)
theorem dX1_steady_114 : decode cX1_steady 114 = .ok (.ldc 88, 2) := dk_18 88 (dk_at dksX1_steady_4 21 rfl rfl)
theorem dX1_steady_116 : decode cX1_steady 116 = .ok (.ireturn, 1) := dk_172 (dk_at dksX1_steady_4 23 rfl rfl)
abbrev cX1_replayError : ByteArray := prog_8_method_7_code
def yX1_replayError : MethodName := ⟨RX1, "replayError", "(I)I"⟩
def dkwX1_replayError_0 : List UInt8 := [42, 27, 182, 0, 139, 172, 77, 18, 143, 172]
abbrev dktX1_replayError_0 : List UInt8 := dkwX1_replayError_0 ++ []
theorem dksX1_replayError_0 : cX1_replayError.data.toList.drop 0 = dktX1_replayError_0 := by decide +kernel
theorem dX1_replayError_0 : decode cX1_replayError 0 = .ok (.aload_n 0, 1) := dk_42 (dk_at dksX1_replayError_0 0 rfl rfl)
theorem dX1_replayError_1 : decode cX1_replayError 1 = .ok (.iload_n 1, 1) := dk_27 (dk_at dksX1_replayError_0 1 rfl rfl)
theorem dX1_replayError_2 : decode cX1_replayError 2 = .ok (.invokevirtual 139, 3) := dk_182 0 139 (dk_at dksX1_replayError_0 2 rfl rfl)
theorem dX1_replayError_5 : decode cX1_replayError 5 = .ok (.ireturn, 1) := dk_172 (dk_at dksX1_replayError_0 5 rfl rfl)
theorem dX1_replayError_6 : decode cX1_replayError 6 = .ok (.astore_n 2, 1) := dk_77 (dk_at dksX1_replayError_0 6 rfl rfl)
theorem dX1_replayError_7 : decode cX1_replayError 7 = .ok (.ldc 143, 2) := dk_18 143 (dk_at dksX1_replayError_0 7 rfl rfl)
theorem dX1_replayError_9 : decode cX1_replayError 9 = .ok (.ireturn, 1) := dk_172 (dk_at dksX1_replayError_0 9 rfl rfl)
abbrev cX1_replay : ByteArray := prog_8_method_6_code
def yX1_replay : MethodName := ⟨RX1, "replay", "(I)I"⟩
def dkwX1_replay_4 : List UInt8 := [182, 0, 77, 132, 5, 1, 167, 255, 169, 33, 184, 0, 135, 172]
abbrev dktX1_replay_4 : List UInt8 := dkwX1_replay_4 ++ []
def dkwX1_replay_3 : List UInt8 := [180, 0, 126, 133, 184, 0, 129, 97, 66, 167, 0, 17, 44, 25, 6, 180, 0, 123, 42, 180, 0, 56, 27]
abbrev dktX1_replay_3 : List UInt8 := dkwX1_replay_3 ++ dktX1_replay_4
def dkwX1_replay_2 : List UInt8 := [180, 0, 24, 25, 6, 180, 0, 120, 50, 25, 6, 180, 0, 123, 3, 182, 0, 95, 54, 7, 33, 44]
abbrev dktX1_replay_2 : List UInt8 := dkwX1_replay_2 ++ dktX1_replay_3
def dkwX1_replay_1 : List UInt8 := [180, 0, 38, 21, 5, 182, 0, 112, 192, 0, 33, 58, 6, 25, 6, 182, 0, 116, 153, 0, 39, 44, 42]
abbrev dktX1_replay_1 : List UInt8 := dkwX1_replay_1 ++ dktX1_replay_2
def dkwX1_replay_0 : List UInt8 := [42, 3, 182, 0, 81, 77, 9, 66, 3, 54, 5, 21, 5, 42, 180, 0, 38, 180, 0, 109, 162, 0, 81, 42]
abbrev dktX1_replay_0 : List UInt8 := dkwX1_replay_0 ++ dktX1_replay_1
theorem dksX1_replay_0 : cX1_replay.data.toList.drop 0 = dktX1_replay_0 := by decide +kernel
theorem dksX1_replay_1 : cX1_replay.data.toList.drop 24 = dktX1_replay_1 := dk_seg dksX1_replay_0 24 rfl rfl
theorem dksX1_replay_2 : cX1_replay.data.toList.drop 47 = dktX1_replay_2 := dk_seg dksX1_replay_1 23 rfl rfl
theorem dksX1_replay_3 : cX1_replay.data.toList.drop 69 = dktX1_replay_3 := dk_seg dksX1_replay_2 22 rfl rfl
theorem dksX1_replay_4 : cX1_replay.data.toList.drop 92 = dktX1_replay_4 := dk_seg dksX1_replay_3 23 rfl rfl
theorem dX1_replay_0 : decode cX1_replay 0 = .ok (.aload_n 0, 1) := dk_42 (dk_at dksX1_replay_0 0 rfl rfl)
theorem dX1_replay_1 : decode cX1_replay 1 = .ok (.iconst 0, 1) := dk_3 (dk_at dksX1_replay_0 1 rfl rfl)
theorem dX1_replay_2 : decode cX1_replay 2 = .ok (.invokevirtual 81, 3) := dk_182 0 81 (dk_at dksX1_replay_0 2 rfl rfl)
theorem dX1_replay_5 : decode cX1_replay 5 = .ok (.astore_n 2, 1) := dk_77 (dk_at dksX1_replay_0 5 rfl rfl)
theorem dX1_replay_6 : decode cX1_replay 6 = .ok (.lconst 0, 1) := dk_9 (dk_at dksX1_replay_0 6 rfl rfl)
theorem dX1_replay_7 : decode cX1_replay 7 = .ok (.lstore_n 3, 1) := dk_66 (dk_at dksX1_replay_0 7 rfl rfl)
theorem dX1_replay_8 : decode cX1_replay 8 = .ok (.iconst 0, 1) := dk_3 (dk_at dksX1_replay_0 8 rfl rfl)
theorem dX1_replay_9 : decode cX1_replay 9 = .ok (.istore 5, 2) := dk_54 5 (dk_at dksX1_replay_0 9 rfl rfl)
theorem dX1_replay_11 : decode cX1_replay 11 = .ok (.iload 5, 2) := dk_21 5 (dk_at dksX1_replay_0 11 rfl rfl)
theorem dX1_replay_13 : decode cX1_replay 13 = .ok (.aload_n 0, 1) := dk_42 (dk_at dksX1_replay_0 13 rfl rfl)
theorem dX1_replay_14 : decode cX1_replay 14 = .ok (.getfield 38, 3) := dk_180 0 38 (dk_at dksX1_replay_0 14 rfl rfl)
theorem dX1_replay_17 : decode cX1_replay 17 = .ok (.getfield 109, 3) := dk_180 0 109 (dk_at dksX1_replay_0 17 rfl rfl)
theorem dX1_replay_20 : decode cX1_replay 20 = .ok (.if_icmp .ge 81, 3) := dk_162 0 81 (dk_at dksX1_replay_0 20 rfl rfl)
theorem dX1_replay_23 : decode cX1_replay 23 = .ok (.aload_n 0, 1) := dk_42 (dk_at dksX1_replay_0 23 rfl rfl)
theorem dX1_replay_24 : decode cX1_replay 24 = .ok (.getfield 38, 3) := dk_180 0 38 (dk_at dksX1_replay_1 0 rfl rfl)
theorem dX1_replay_27 : decode cX1_replay 27 = .ok (.iload 5, 2) := dk_21 5 (dk_at dksX1_replay_1 3 rfl rfl)
theorem dX1_replay_29 : decode cX1_replay 29 = .ok (.invokevirtual 112, 3) := dk_182 0 112 (dk_at dksX1_replay_1 5 rfl rfl)
theorem dX1_replay_32 : decode cX1_replay 32 = .ok (.checkcast 33, 3) := dk_192 0 33 (dk_at dksX1_replay_1 8 rfl rfl)
theorem dX1_replay_35 : decode cX1_replay 35 = .ok (.astore 6, 2) := dk_58 6 (dk_at dksX1_replay_1 11 rfl rfl)
theorem dX1_replay_37 : decode cX1_replay 37 = .ok (.aload 6, 2) := dk_25 6 (dk_at dksX1_replay_1 13 rfl rfl)
theorem dX1_replay_39 : decode cX1_replay 39 = .ok (.invokevirtual 116, 3) := dk_182 0 116 (dk_at dksX1_replay_1 15 rfl rfl)
theorem dX1_replay_42 : decode cX1_replay 42 = .ok (.ifCond .eq 39, 3) := dk_153 0 39 (dk_at dksX1_replay_1 18 rfl rfl)
theorem dX1_replay_45 : decode cX1_replay 45 = .ok (.aload_n 2, 1) := dk_44 (dk_at dksX1_replay_1 21 rfl rfl)
theorem dX1_replay_46 : decode cX1_replay 46 = .ok (.aload_n 0, 1) := dk_42 (dk_at dksX1_replay_1 22 rfl rfl)
theorem dX1_replay_47 : decode cX1_replay 47 = .ok (.getfield 24, 3) := dk_180 0 24 (dk_at dksX1_replay_2 0 rfl rfl)
theorem dX1_replay_50 : decode cX1_replay 50 = .ok (.aload 6, 2) := dk_25 6 (dk_at dksX1_replay_2 3 rfl rfl)
theorem dX1_replay_52 : decode cX1_replay 52 = .ok (.getfield 120, 3) := dk_180 0 120 (dk_at dksX1_replay_2 5 rfl rfl)
theorem dX1_replay_55 : decode cX1_replay 55 = .ok (.aaload, 1) := dk_50 (dk_at dksX1_replay_2 8 rfl rfl)
theorem dX1_replay_56 : decode cX1_replay 56 = .ok (.aload 6, 2) := dk_25 6 (dk_at dksX1_replay_2 9 rfl rfl)
theorem dX1_replay_58 : decode cX1_replay 58 = .ok (.getfield 123, 3) := dk_180 0 123 (dk_at dksX1_replay_2 11 rfl rfl)
theorem dX1_replay_61 : decode cX1_replay 61 = .ok (.iconst 0, 1) := dk_3 (dk_at dksX1_replay_2 14 rfl rfl)
theorem dX1_replay_62 : decode cX1_replay 62 = .ok (.invokevirtual 95, 3) := dk_182 0 95 (dk_at dksX1_replay_2 15 rfl rfl)
theorem dX1_replay_65 : decode cX1_replay 65 = .ok (.istore 7, 2) := dk_54 7 (dk_at dksX1_replay_2 18 rfl rfl)
theorem dX1_replay_67 : decode cX1_replay 67 = .ok (.lload_n 3, 1) := dk_33 (dk_at dksX1_replay_2 20 rfl rfl)
theorem dX1_replay_68 : decode cX1_replay 68 = .ok (.aload_n 2, 1) := dk_44 (dk_at dksX1_replay_2 21 rfl rfl)
theorem dX1_replay_69 : decode cX1_replay 69 = .ok (.getfield 126, 3) := dk_180 0 126 (dk_at dksX1_replay_3 0 rfl rfl)
theorem dX1_replay_72 : decode cX1_replay 72 = .ok (.i2l, 1) := dk_133 (dk_at dksX1_replay_3 3 rfl rfl)
theorem dX1_replay_73 : decode cX1_replay 73 = .ok (.invokestatic 129, 3) := dk_184 0 129 (dk_at dksX1_replay_3 4 rfl rfl)
theorem dX1_replay_76 : decode cX1_replay 76 = .ok (.ladd, 1) := dk_97 (dk_at dksX1_replay_3 7 rfl rfl)
theorem dX1_replay_77 : decode cX1_replay 77 = .ok (.lstore_n 3, 1) := dk_66 (dk_at dksX1_replay_3 8 rfl rfl)
theorem dX1_replay_78 : decode cX1_replay 78 = .ok (.goto 17, 3) := dk_167 0 17 (dk_at dksX1_replay_3 9 rfl rfl)
theorem dX1_replay_81 : decode cX1_replay 81 = .ok (.aload_n 2, 1) := dk_44 (dk_at dksX1_replay_3 12 rfl rfl)
theorem dX1_replay_82 : decode cX1_replay 82 = .ok (.aload 6, 2) := dk_25 6 (dk_at dksX1_replay_3 13 rfl rfl)
theorem dX1_replay_84 : decode cX1_replay 84 = .ok (.getfield 123, 3) := dk_180 0 123 (dk_at dksX1_replay_3 15 rfl rfl)
theorem dX1_replay_87 : decode cX1_replay 87 = .ok (.aload_n 0, 1) := dk_42 (dk_at dksX1_replay_3 18 rfl rfl)
theorem dX1_replay_88 : decode cX1_replay 88 = .ok (.getfield 56, 3) := dk_180 0 56 (dk_at dksX1_replay_3 19 rfl rfl)
theorem dX1_replay_91 : decode cX1_replay 91 = .ok (.iload_n 1, 1) := dk_27 (dk_at dksX1_replay_3 22 rfl rfl)
theorem dX1_replay_92 : decode cX1_replay 92 = .ok (.invokevirtual 77, 3) := dk_182 0 77 (dk_at dksX1_replay_4 0 rfl rfl)
theorem dX1_replay_95 : decode cX1_replay 95 = .ok (.iinc 5 1, 3) := dk_132 5 1 (dk_at dksX1_replay_4 3 rfl rfl)
theorem dX1_replay_98 : decode cX1_replay 98 = .ok (.goto (-87), 3) := dk_167 255 169 (dk_at dksX1_replay_4 6 rfl rfl)
theorem dX1_replay_101 : decode cX1_replay 101 = .ok (.lload_n 3, 1) := dk_33 (dk_at dksX1_replay_4 9 rfl rfl)
theorem dX1_replay_102 : decode cX1_replay 102 = .ok (.invokestatic 135, 3) := dk_184 0 135 (dk_at dksX1_replay_4 10 rfl rfl)
theorem dX1_replay_105 : decode cX1_replay 105 = .ok (.ireturn, 1) := dk_172 (dk_at dksX1_replay_4 13 rfl rfl)
abbrev cX1_bestFlowNoise : ByteArray := prog_8_method_8_code
def yX1_bestFlowNoise : MethodName := ⟨RX1, "bestFlowNoise", "()I"⟩
def dkwX1_bestFlowNoise_3 : List UInt8 := [172]
abbrev dktX1_bestFlowNoise_3 : List UInt8 := dkwX1_bestFlowNoise_3 ++ []
def dkwX1_bestFlowNoise_2 : List UInt8 := [18, 88, 159, 0, 9, 21, 5, 28, 162, 0, 9, 21, 4, 60, 21, 5, 61, 132, 3, 1, 167, 255, 197, 27]
abbrev dktX1_bestFlowNoise_2 : List UInt8 := dkwX1_bestFlowNoise_2 ++ dktX1_bestFlowNoise_3
def dkwX1_bestFlowNoise_1 : List UInt8 := [29, 4, 100, 104, 120, 54, 4, 42, 21, 4, 182, 0, 144, 54, 5, 21, 5, 18, 143, 159, 0, 21, 27]
abbrev dktX1_bestFlowNoise_1 : List UInt8 := dkwX1_bestFlowNoise_1 ++ dktX1_bestFlowNoise_2
def dkwX1_bestFlowNoise_0 : List UInt8 := [18, 88, 60, 18, 88, 61, 3, 62, 29, 16, 12, 162, 0, 59, 29, 154, 0, 7, 3, 167, 0, 10, 4, 5]
abbrev dktX1_bestFlowNoise_0 : List UInt8 := dkwX1_bestFlowNoise_0 ++ dktX1_bestFlowNoise_1
theorem dksX1_bestFlowNoise_0 : cX1_bestFlowNoise.data.toList.drop 0 = dktX1_bestFlowNoise_0 := by decide +kernel
theorem dksX1_bestFlowNoise_1 : cX1_bestFlowNoise.data.toList.drop 24 = dktX1_bestFlowNoise_1 := dk_seg dksX1_bestFlowNoise_0 24 rfl rfl
theorem dksX1_bestFlowNoise_2 : cX1_bestFlowNoise.data.toList.drop 47 = dktX1_bestFlowNoise_2 := dk_seg dksX1_bestFlowNoise_1 23 rfl rfl
theorem dksX1_bestFlowNoise_3 : cX1_bestFlowNoise.data.toList.drop 71 = dktX1_bestFlowNoise_3 := dk_seg dksX1_bestFlowNoise_2 24 rfl rfl
theorem dX1_bestFlowNoise_0 : decode cX1_bestFlowNoise 0 = .ok (.ldc 88, 2) := dk_18 88 (dk_at dksX1_bestFlowNoise_0 0 rfl rfl)
theorem dX1_bestFlowNoise_2 : decode cX1_bestFlowNoise 2 = .ok (.istore_n 1, 1) := dk_60 (dk_at dksX1_bestFlowNoise_0 2 rfl rfl)
theorem dX1_bestFlowNoise_3 : decode cX1_bestFlowNoise 3 = .ok (.ldc 88, 2) := dk_18 88 (dk_at dksX1_bestFlowNoise_0 3 rfl rfl)
theorem dX1_bestFlowNoise_5 : decode cX1_bestFlowNoise 5 = .ok (.istore_n 2, 1) := dk_61 (dk_at dksX1_bestFlowNoise_0 5 rfl rfl)
theorem dX1_bestFlowNoise_6 : decode cX1_bestFlowNoise 6 = .ok (.iconst 0, 1) := dk_3 (dk_at dksX1_bestFlowNoise_0 6 rfl rfl)
theorem dX1_bestFlowNoise_7 : decode cX1_bestFlowNoise 7 = .ok (.istore_n 3, 1) := dk_62 (dk_at dksX1_bestFlowNoise_0 7 rfl rfl)
theorem dX1_bestFlowNoise_8 : decode cX1_bestFlowNoise 8 = .ok (.iload_n 3, 1) := dk_29 (dk_at dksX1_bestFlowNoise_0 8 rfl rfl)
theorem dX1_bestFlowNoise_9 : decode cX1_bestFlowNoise 9 = .ok (.bipush 12, 2) := dk_16 12 (dk_at dksX1_bestFlowNoise_0 9 rfl rfl)
theorem dX1_bestFlowNoise_11 : decode cX1_bestFlowNoise 11 = .ok (.if_icmp .ge 59, 3) := dk_162 0 59 (dk_at dksX1_bestFlowNoise_0 11 rfl rfl)
theorem dX1_bestFlowNoise_14 : decode cX1_bestFlowNoise 14 = .ok (.iload_n 3, 1) := dk_29 (dk_at dksX1_bestFlowNoise_0 14 rfl rfl)
theorem dX1_bestFlowNoise_15 : decode cX1_bestFlowNoise 15 = .ok (.ifCond .ne 7, 3) := dk_154 0 7 (dk_at dksX1_bestFlowNoise_0 15 rfl rfl)
theorem dX1_bestFlowNoise_18 : decode cX1_bestFlowNoise 18 = .ok (.iconst 0, 1) := dk_3 (dk_at dksX1_bestFlowNoise_0 18 rfl rfl)
theorem dX1_bestFlowNoise_19 : decode cX1_bestFlowNoise 19 = .ok (.goto 10, 3) := dk_167 0 10 (dk_at dksX1_bestFlowNoise_0 19 rfl rfl)
theorem dX1_bestFlowNoise_22 : decode cX1_bestFlowNoise 22 = .ok (.iconst 1, 1) := dk_4 (dk_at dksX1_bestFlowNoise_0 22 rfl rfl)
theorem dX1_bestFlowNoise_23 : decode cX1_bestFlowNoise 23 = .ok (.iconst 2, 1) := dk_5 (dk_at dksX1_bestFlowNoise_0 23 rfl rfl)
theorem dX1_bestFlowNoise_24 : decode cX1_bestFlowNoise 24 = .ok (.iload_n 3, 1) := dk_29 (dk_at dksX1_bestFlowNoise_1 0 rfl rfl)
theorem dX1_bestFlowNoise_25 : decode cX1_bestFlowNoise 25 = .ok (.iconst 1, 1) := dk_4 (dk_at dksX1_bestFlowNoise_1 1 rfl rfl)
theorem dX1_bestFlowNoise_26 : decode cX1_bestFlowNoise 26 = .ok (.isub, 1) := dk_100 (dk_at dksX1_bestFlowNoise_1 2 rfl rfl)
theorem dX1_bestFlowNoise_27 : decode cX1_bestFlowNoise 27 = .ok (.imul, 1) := dk_104 (dk_at dksX1_bestFlowNoise_1 3 rfl rfl)
theorem dX1_bestFlowNoise_28 : decode cX1_bestFlowNoise 28 = .ok (.ishl, 1) := dk_120 (dk_at dksX1_bestFlowNoise_1 4 rfl rfl)
theorem dX1_bestFlowNoise_29 : decode cX1_bestFlowNoise 29 = .ok (.istore 4, 2) := dk_54 4 (dk_at dksX1_bestFlowNoise_1 5 rfl rfl)
theorem dX1_bestFlowNoise_31 : decode cX1_bestFlowNoise 31 = .ok (.aload_n 0, 1) := dk_42 (dk_at dksX1_bestFlowNoise_1 7 rfl rfl)
theorem dX1_bestFlowNoise_32 : decode cX1_bestFlowNoise 32 = .ok (.iload 4, 2) := dk_21 4 (dk_at dksX1_bestFlowNoise_1 8 rfl rfl)
theorem dX1_bestFlowNoise_34 : decode cX1_bestFlowNoise 34 = .ok (.invokevirtual 144, 3) := dk_182 0 144 (dk_at dksX1_bestFlowNoise_1 10 rfl rfl)
theorem dX1_bestFlowNoise_37 : decode cX1_bestFlowNoise 37 = .ok (.istore 5, 2) := dk_54 5 (dk_at dksX1_bestFlowNoise_1 13 rfl rfl)
theorem dX1_bestFlowNoise_39 : decode cX1_bestFlowNoise 39 = .ok (.iload 5, 2) := dk_21 5 (dk_at dksX1_bestFlowNoise_1 15 rfl rfl)
theorem dX1_bestFlowNoise_41 : decode cX1_bestFlowNoise 41 = .ok (.ldc 143, 2) := dk_18 143 (dk_at dksX1_bestFlowNoise_1 17 rfl rfl)
theorem dX1_bestFlowNoise_43 : decode cX1_bestFlowNoise 43 = .ok (.if_icmp .eq 21, 3) := dk_159 0 21 (dk_at dksX1_bestFlowNoise_1 19 rfl rfl)
theorem dX1_bestFlowNoise_46 : decode cX1_bestFlowNoise 46 = .ok (.iload_n 1, 1) := dk_27 (dk_at dksX1_bestFlowNoise_1 22 rfl rfl)
theorem dX1_bestFlowNoise_47 : decode cX1_bestFlowNoise 47 = .ok (.ldc 88, 2) := dk_18 88 (dk_at dksX1_bestFlowNoise_2 0 rfl rfl)
theorem dX1_bestFlowNoise_49 : decode cX1_bestFlowNoise 49 = .ok (.if_icmp .eq 9, 3) := dk_159 0 9 (dk_at dksX1_bestFlowNoise_2 2 rfl rfl)
theorem dX1_bestFlowNoise_52 : decode cX1_bestFlowNoise 52 = .ok (.iload 5, 2) := dk_21 5 (dk_at dksX1_bestFlowNoise_2 5 rfl rfl)
theorem dX1_bestFlowNoise_54 : decode cX1_bestFlowNoise 54 = .ok (.iload_n 2, 1) := dk_28 (dk_at dksX1_bestFlowNoise_2 7 rfl rfl)
theorem dX1_bestFlowNoise_55 : decode cX1_bestFlowNoise 55 = .ok (.if_icmp .ge 9, 3) := dk_162 0 9 (dk_at dksX1_bestFlowNoise_2 8 rfl rfl)
theorem dX1_bestFlowNoise_58 : decode cX1_bestFlowNoise 58 = .ok (.iload 4, 2) := dk_21 4 (dk_at dksX1_bestFlowNoise_2 11 rfl rfl)
theorem dX1_bestFlowNoise_60 : decode cX1_bestFlowNoise 60 = .ok (.istore_n 1, 1) := dk_60 (dk_at dksX1_bestFlowNoise_2 13 rfl rfl)
theorem dX1_bestFlowNoise_61 : decode cX1_bestFlowNoise 61 = .ok (.iload 5, 2) := dk_21 5 (dk_at dksX1_bestFlowNoise_2 14 rfl rfl)
theorem dX1_bestFlowNoise_63 : decode cX1_bestFlowNoise 63 = .ok (.istore_n 2, 1) := dk_61 (dk_at dksX1_bestFlowNoise_2 16 rfl rfl)
theorem dX1_bestFlowNoise_64 : decode cX1_bestFlowNoise 64 = .ok (.iinc 3 1, 3) := dk_132 3 1 (dk_at dksX1_bestFlowNoise_2 17 rfl rfl)
theorem dX1_bestFlowNoise_67 : decode cX1_bestFlowNoise 67 = .ok (.goto (-59), 3) := dk_167 255 197 (dk_at dksX1_bestFlowNoise_2 20 rfl rfl)
theorem dX1_bestFlowNoise_70 : decode cX1_bestFlowNoise 70 = .ok (.iload_n 1, 1) := dk_27 (dk_at dksX1_bestFlowNoise_2 23 rfl rfl)
theorem dX1_bestFlowNoise_71 : decode cX1_bestFlowNoise 71 = .ok (.ireturn, 1) := dk_172 (dk_at dksX1_bestFlowNoise_3 0 rfl rfl)
theorem q22 : (Jvm.Cond.initialized "TankFilter$State") ∈ lw_all := lw_g (lw_at lw_m1 2 rfl) rfl
theorem q44 : (Jvm.Cond.instantiable "TankFilter$State" (9 : Nat)) ∈ lw_all := lw_g (lw_at lw_m1 24 rfl) rfl
theorem q46 : (Jvm.Cond.instanceMethod ({ cls := "TankFilter$State", name := "<init>", desc := "()V" } : Jvm.MethodName)) ∈ lw_all := lw_g (lw_at lw_m1 26 rfl) rfl
theorem q47 : (Jvm.Cond.code ({ cls := "TankFilter$State", name := "<init>", desc := "()V" } : Jvm.MethodName) prog_8_method_1_code (1 : Nat) (Option.none : Option Jvm.ClassFile.FieldType)) ∈ lw_all := lw_g (lw_at lw_m1 27 rfl) rfl
theorem q48 : (Jvm.Cond.methodLink "TankFilter$State" (3 : Nat) ({ cls := "java/lang/Object", name := "<init>", desc := "()V" } : Jvm.MethodName)) ∈ lw_all := lw_g (lw_at lw_m1 28 rfl) rfl
theorem q49 : (Jvm.Cond.classLink "TankFilter$State" (9 : Nat) "TankFilter$Estimate") ∈ lw_all := lw_g (lw_at lw_m1 29 rfl) rfl
theorem q51 : (Jvm.Cond.methodLinkNest "TankFilter$State" (11 : Nat) ({ cls := "TankFilter$Estimate", name := "<init>", desc := "()V" } : Jvm.MethodName) "TankFilter") ∈ lw_tbl := lw_at lw_m1 31 rfl
theorem q57 : (Jvm.Cond.fieldLinkNest "TankFilter$State" (85 : Nat) "TankFilter$Estimate" "x" "I" "TankFilter") ∈ lw_tbl := lw_at lw_m1 37 rfl
theorem q68 : (Jvm.Cond.fieldLinkNest "TankFilter$State" (126 : Nat) "TankFilter$Estimate" "innovation" "I" "TankFilter") ∈ lw_tbl := lw_at lw_m1 48 rfl
theorem q71 : (Jvm.Cond.fieldLinkNest "TankFilter$State" (103 : Nat) "TankFilter$Estimate" "levelGain" "I" "TankFilter") ∈ lw_tbl := lw_at lw_m1 51 rfl
theorem q74 : (Jvm.Cond.fieldLinkNest "TankFilter$State" (106 : Nat) "TankFilter$Estimate" "flowGain" "I" "TankFilter") ∈ lw_tbl := lw_at lw_m1 54 rfl
theorem q93 : (Jvm.Cond.classLink "TankFilter$State" (22 : Nat) "TankFilter$Sensor") ∈ lw_all := lw_g (lw_at lw_m1 73 rfl) rfl
theorem q95 : (Jvm.Cond.classLink "TankFilter$State" (31 : Nat) "TankFilter$Recent") ∈ lw_all := lw_g (lw_at lw_m1 75 rfl) rfl
theorem q97 : (Jvm.Cond.classLink "TankFilter$State" (33 : Nat) "TankFilter$Event") ∈ lw_all := lw_g (lw_at lw_m1 77 rfl) rfl
theorem q99 : (Jvm.Cond.methodLink "TankFilter$State" (35 : Nat) ({ cls := "TankFilter$Recent", name := "<init>", desc := "([Ljava/lang/Object;)V" } : Jvm.MethodName)) ∈ lw_all := lw_g (lw_at lw_m1 79 rfl) rfl
theorem q105 : (Jvm.Cond.fieldLinkNest "TankFilter$State" (109 : Nat) "TankFilter$Recent" "size" "I" "TankFilter") ∈ lw_tbl := lw_at lw_m1 85 rfl
theorem q113 : (Jvm.Cond.methodLink "TankFilter$State" (42 : Nat) ({ cls := "TankFilter$Sensor", name := "<init>", desc := "(II)V" } : Jvm.MethodName)) ∈ lw_all := lw_g (lw_at lw_m1 93 rfl) rfl
theorem q128 : (Jvm.Cond.methodLink "TankFilter$State" (45 : Nat) ({ cls := "java/util/Arrays", name := "fill", desc := "([Ljava/lang/Object;Ljava/lang/Object;)V" } : Jvm.MethodName)) ∈ lw_all := lw_g (lw_at lw_m1 108 rfl) rfl
theorem q131 : (Jvm.Cond.fieldLink "TankFilter$State" (12 : Nat) "TankFilter$State" "estimate" "LTankFilter$Estimate;") ∈ lw_all := lw_g (lw_at lw_m1 111 rfl) rfl
theorem q133 : (Jvm.Cond.fieldLink "TankFilter$State" (56 : Nat) "TankFilter$State" "levelNoise" "I") ∈ lw_all := lw_g (lw_at lw_m1 113 rfl) rfl
theorem q135 : (Jvm.Cond.fieldLink "TankFilter$State" (18 : Nat) "TankFilter$State" "flowNoise" "I") ∈ lw_all := lw_g (lw_at lw_m1 115 rfl) rfl
theorem q137 : (Jvm.Cond.fieldLink "TankFilter$State" (24 : Nat) "TankFilter$State" "sensors" "[LTankFilter$Sensor;") ∈ lw_all := lw_g (lw_at lw_m1 117 rfl) rfl
theorem q139 : (Jvm.Cond.fieldLink "TankFilter$State" (28 : Nat) "TankFilter$State" "gate" "I") ∈ lw_all := lw_g (lw_at lw_m1 119 rfl) rfl
theorem q141 : (Jvm.Cond.fieldLink "TankFilter$State" (38 : Nat) "TankFilter$State" "history" "LTankFilter$Recent;") ∈ lw_all := lw_g (lw_at lw_m1 121 rfl) rfl
theorem q143 : (Jvm.Cond.fieldLink "TankFilter$State" (68 : Nat) "TankFilter$State" "accepted" "I") ∈ lw_all := lw_g (lw_at lw_m1 123 rfl) rfl
theorem q145 : (Jvm.Cond.fieldLink "TankFilter$State" (71 : Nat) "TankFilter$State" "rejected" "I") ∈ lw_all := lw_g (lw_at lw_m1 125 rfl) rfl
theorem q147 : (Jvm.Cond.fieldLink "TankFilter$State" (74 : Nat) "TankFilter$State" "missed" "I") ∈ lw_all := lw_g (lw_at lw_m1 127 rfl) rfl
theorem q149 : (Jvm.Cond.laysFinal "TankFilter$State" "TankFilter$State" "estimate" "LTankFilter$Estimate;") ∈ lw_all := lw_g (lw_at lw_m1 129 rfl) rfl
theorem q150 : (Jvm.Cond.soleField "TankFilter$State" "estimate") ∈ lw_all := lw_g (lw_at lw_m1 130 rfl) rfl
theorem q151 : (Jvm.Cond.lays "TankFilter$State" "TankFilter$State" "levelNoise" "I") ∈ lw_all := lw_g (lw_at lw_m1 131 rfl) rfl
theorem q152 : (Jvm.Cond.soleField "TankFilter$State" "levelNoise") ∈ lw_all := lw_g (lw_at lw_m1 132 rfl) rfl
theorem q153 : (Jvm.Cond.lays "TankFilter$State" "TankFilter$State" "flowNoise" "I") ∈ lw_all := lw_g (lw_at lw_m1 133 rfl) rfl
theorem q154 : (Jvm.Cond.soleField "TankFilter$State" "flowNoise") ∈ lw_all := lw_g (lw_at lw_m1 134 rfl) rfl
theorem q155 : (Jvm.Cond.laysFinal "TankFilter$State" "TankFilter$State" "sensors" "[LTankFilter$Sensor;") ∈ lw_all := lw_g (lw_at lw_m1 135 rfl) rfl
theorem q156 : (Jvm.Cond.soleField "TankFilter$State" "sensors") ∈ lw_all := lw_g (lw_at lw_m1 136 rfl) rfl
theorem q157 : (Jvm.Cond.lays "TankFilter$State" "TankFilter$State" "gate" "I") ∈ lw_all := lw_g (lw_at lw_m1 137 rfl) rfl
theorem q158 : (Jvm.Cond.soleField "TankFilter$State" "gate") ∈ lw_all := lw_g (lw_at lw_m1 138 rfl) rfl
theorem q159 : (Jvm.Cond.laysFinal "TankFilter$State" "TankFilter$State" "history" "LTankFilter$Recent;") ∈ lw_all := lw_g (lw_at lw_m1 139 rfl) rfl
theorem q160 : (Jvm.Cond.soleField "TankFilter$State" "history") ∈ lw_all := lw_g (lw_at lw_m1 140 rfl) rfl
theorem q161 : (Jvm.Cond.lays "TankFilter$State" "TankFilter$State" "accepted" "I") ∈ lw_all := lw_g (lw_at lw_m1 141 rfl) rfl
theorem q162 : (Jvm.Cond.soleField "TankFilter$State" "accepted") ∈ lw_all := lw_g (lw_at lw_m1 142 rfl) rfl
theorem q163 : (Jvm.Cond.lays "TankFilter$State" "TankFilter$State" "rejected" "I") ∈ lw_all := lw_g (lw_at lw_m1 143 rfl) rfl
theorem q164 : (Jvm.Cond.soleField "TankFilter$State" "rejected") ∈ lw_all := lw_g (lw_at lw_m1 144 rfl) rfl
theorem q165 : (Jvm.Cond.lays "TankFilter$State" "TankFilter$State" "missed" "I") ∈ lw_all := lw_g (lw_at lw_m1 145 rfl) rfl
theorem q166 : (Jvm.Cond.soleField "TankFilter$State" "missed") ∈ lw_all := lw_g (lw_at lw_m1 146 rfl) rfl
theorem q167 : (Jvm.Cond.superclass "TankFilter$State" "java/lang/Object") ∈ lw_all := lw_g (lw_at lw_m1 147 rfl) rfl
theorem q216 : (Jvm.Cond.instanceMethod ({ cls := "TankFilter$State", name := "copy", desc := "()LTankFilter$State;" } : Jvm.MethodName)) ∈ lw_all := lw_g (lw_at lw_m1 196 rfl) rfl
theorem q217 : (Jvm.Cond.selects "TankFilter$State" ({ cls := "TankFilter$State", name := "copy", desc := "()LTankFilter$State;" } : Jvm.MethodName) ({ cls := "TankFilter$State", name := "copy", desc := "()LTankFilter$State;" } : Jvm.MethodName)) ∈ lw_all := lw_g (lw_at lw_m1 197 rfl) rfl
theorem q218 : (Jvm.Cond.code ({ cls := "TankFilter$State", name := "copy", desc := "()LTankFilter$State;" } : Jvm.MethodName) prog_8_method_2_code (2 : Nat) (Option.some (Jvm.ClassFile.FieldType.object "TankFilter$State"))) ∈ lw_all := lw_g (lw_at lw_m1 198 rfl) rfl
theorem q219 : (Jvm.Cond.classLink "TankFilter$State" (13 : Nat) "TankFilter$State") ∈ lw_all := lw_g (lw_at lw_m1 199 rfl) rfl
theorem q220 : (Jvm.Cond.methodLink "TankFilter$State" (51 : Nat) ({ cls := "TankFilter$State", name := "<init>", desc := "()V" } : Jvm.MethodName)) ∈ lw_all := lw_g (lw_at lw_m1 200 rfl) rfl
theorem q221 : (Jvm.Cond.methodLink "TankFilter$State" (52 : Nat) ({ cls := "TankFilter$Estimate", name := "copyFrom", desc := "(LTankFilter$Estimate;)V" } : Jvm.MethodName)) ∈ lw_all := lw_g (lw_at lw_m1 201 rfl) rfl
theorem q225 : (Jvm.Cond.methodLink "TankFilter$State" (59 : Nat) ({ cls := "java/lang/System", name := "arraycopy", desc := "(Ljava/lang/Object;ILjava/lang/Object;II)V" } : Jvm.MethodName)) ∈ lw_all := lw_g (lw_at lw_m1 205 rfl) rfl
theorem q228 : (Jvm.Cond.methodLink "TankFilter$State" (65 : Nat) ({ cls := "TankFilter$Recent", name := "copyFrom", desc := "(LTankFilter$Recent;)V" } : Jvm.MethodName)) ∈ lw_all := lw_g (lw_at lw_m1 208 rfl) rfl
theorem q350 : (Jvm.Cond.fieldLinkNest "TankFilter$State" (120 : Nat) "TankFilter$Event" "sensor" "I" "TankFilter") ∈ lw_tbl := lw_at lw_m2 90 rfl
theorem q353 : (Jvm.Cond.fieldLinkNest "TankFilter$State" (123 : Nat) "TankFilter$Event" "value" "I" "TankFilter") ∈ lw_tbl := lw_at lw_m2 93 rfl
theorem q448 : (Jvm.Cond.instanceMethod ({ cls := "TankFilter$State", name := "predicted", desc := "(I)LTankFilter$Estimate;" } : Jvm.MethodName)) ∈ lw_all := lw_g (lw_at lw_m2 188 rfl) rfl
theorem q449 : (Jvm.Cond.selects "TankFilter$State" ({ cls := "TankFilter$State", name := "predicted", desc := "(I)LTankFilter$Estimate;" } : Jvm.MethodName) ({ cls := "TankFilter$State", name := "predicted", desc := "(I)LTankFilter$Estimate;" } : Jvm.MethodName)) ∈ lw_all := lw_g (lw_at lw_m2 189 rfl) rfl
theorem q450 : (Jvm.Cond.code ({ cls := "TankFilter$State", name := "predicted", desc := "(I)LTankFilter$Estimate;" } : Jvm.MethodName) prog_8_method_3_code (4 : Nat) (Option.some (Jvm.ClassFile.FieldType.object "TankFilter$Estimate"))) ∈ lw_all := lw_g (lw_at lw_m2 190 rfl) rfl
theorem q451 : (Jvm.Cond.methodLink "TankFilter$State" (77 : Nat) ({ cls := "TankFilter$Estimate", name := "predict", desc := "(III)V" } : Jvm.MethodName)) ∈ lw_all := lw_g (lw_at lw_m2 191 rfl) rfl
theorem q461 : (Jvm.Cond.instanceMethod ({ cls := "TankFilter$State", name := "stepsTo", desc := "(I)I" } : Jvm.MethodName)) ∈ lw_all := lw_g (lw_at lw_m2 201 rfl) rfl
theorem q462 : (Jvm.Cond.selects "TankFilter$State" ({ cls := "TankFilter$State", name := "stepsTo", desc := "(I)I" } : Jvm.MethodName) ({ cls := "TankFilter$State", name := "stepsTo", desc := "(I)I" } : Jvm.MethodName)) ∈ lw_all := lw_g (lw_at lw_m2 202 rfl) rfl
theorem q463 : (Jvm.Cond.codeWith ({ cls := "TankFilter$State", name := "stepsTo", desc := "(I)I" } : Jvm.MethodName) prog_8_method_4_code (5 : Nat) (Option.some Jvm.ClassFile.FieldType.int) [((0 : Nat), (55 : Nat), (78 : Nat), (89 : Nat)), ((56 : Nat), (77 : Nat), (78 : Nat), (89 : Nat))]) ∈ lw_all := lw_g (lw_at lw_m2 203 rfl) rfl
theorem q464 : (Jvm.Cond.classLink "TankFilter$State" (89 : Nat) "TankFilter$LimitExceeded") ∈ lw_all := lw_g (lw_at lw_m2 204 rfl) rfl
theorem q465 : (Jvm.Cond.methodLink "TankFilter$State" (81 : Nat) ({ cls := "TankFilter$State", name := "predicted", desc := "(I)LTankFilter$Estimate;" } : Jvm.MethodName)) ∈ lw_all := lw_g (lw_at lw_m2 205 rfl) rfl
theorem q466 : (Jvm.Cond.constant "TankFilter$State" (88 : Nat) (-2000000001 : Int32)) ∈ lw_all := lw_g (lw_at lw_m2 206 rfl) rfl
theorem q472 : (Jvm.Cond.instanceMethod ({ cls := "TankFilter$State", name := "steady", desc := "(II)I" } : Jvm.MethodName)) ∈ lw_all := lw_g (lw_at lw_m2 212 rfl) rfl
theorem q473 : (Jvm.Cond.selects "TankFilter$State" ({ cls := "TankFilter$State", name := "steady", desc := "(II)I" } : Jvm.MethodName) ({ cls := "TankFilter$State", name := "steady", desc := "(II)I" } : Jvm.MethodName)) ∈ lw_all := lw_g (lw_at lw_m2 213 rfl) rfl
theorem q474 : (Jvm.Cond.codeWith ({ cls := "TankFilter$State", name := "steady", desc := "(II)I" } : Jvm.MethodName) prog_8_method_5_code (7 : Nat) (Option.some Jvm.ClassFile.FieldType.int) [((0 : Nat), (103 : Nat), (113 : Nat), (89 : Nat)), ((104 : Nat), (112 : Nat), (113 : Nat), (89 : Nat))]) ∈ lw_all := lw_g (lw_at lw_m2 214 rfl) rfl
theorem q475 : (Jvm.Cond.methodLinkNest "TankFilter$State" (91 : Nat) ({ cls := "TankFilter$Estimate", name := "measured", desc := "(LTankFilter$Sensor;)I" } : Jvm.MethodName) "TankFilter") ∈ lw_tbl := lw_at lw_m2 215 rfl
theorem q476 : (Jvm.Cond.methodLink "TankFilter$State" (95 : Nat) ({ cls := "TankFilter$Estimate", name := "correct", desc := "(LTankFilter$Sensor;II)Z" } : Jvm.MethodName)) ∈ lw_all := lw_g (lw_at lw_m2 216 rfl) rfl
theorem q477 : (Jvm.Cond.methodLink "TankFilter$State" (99 : Nat) ({ cls := "TankFilter$Estimate", name := "hasCovariances", desc := "(LTankFilter$Estimate;)Z" } : Jvm.MethodName)) ∈ lw_all := lw_g (lw_at lw_m2 217 rfl) rfl
theorem q514 : (Jvm.Cond.instanceMethod ({ cls := "TankFilter$State", name := "replayError", desc := "(I)I" } : Jvm.MethodName)) ∈ lw_all := lw_g (lw_at lw_m3 14 rfl) rfl
theorem q515 : (Jvm.Cond.selects "TankFilter$State" ({ cls := "TankFilter$State", name := "replayError", desc := "(I)I" } : Jvm.MethodName) ({ cls := "TankFilter$State", name := "replayError", desc := "(I)I" } : Jvm.MethodName)) ∈ lw_all := lw_g (lw_at lw_m3 15 rfl) rfl
theorem q516 : (Jvm.Cond.codeWith ({ cls := "TankFilter$State", name := "replayError", desc := "(I)I" } : Jvm.MethodName) prog_8_method_7_code (3 : Nat) (Option.some Jvm.ClassFile.FieldType.int) [((0 : Nat), (5 : Nat), (6 : Nat), (89 : Nat))]) ∈ lw_all := lw_g (lw_at lw_m3 16 rfl) rfl
theorem q517 : (Jvm.Cond.methodLink "TankFilter$State" (139 : Nat) ({ cls := "TankFilter$State", name := "replay", desc := "(I)I" } : Jvm.MethodName)) ∈ lw_all := lw_g (lw_at lw_m3 17 rfl) rfl
theorem q518 : (Jvm.Cond.privateMethod ({ cls := "TankFilter$State", name := "replay", desc := "(I)I" } : Jvm.MethodName)) ∈ lw_tbl := lw_at lw_m3 18 rfl
theorem q519 : (Jvm.Cond.instanceMethod ({ cls := "TankFilter$State", name := "replay", desc := "(I)I" } : Jvm.MethodName)) ∈ lw_all := lw_g (lw_at lw_m3 19 rfl) rfl
theorem q520 : (Jvm.Cond.code ({ cls := "TankFilter$State", name := "replay", desc := "(I)I" } : Jvm.MethodName) prog_8_method_6_code (8 : Nat) (Option.some Jvm.ClassFile.FieldType.int)) ∈ lw_all := lw_g (lw_at lw_m3 20 rfl) rfl
theorem q521 : (Jvm.Cond.methodLink "TankFilter$State" (112 : Nat) ({ cls := "TankFilter$Recent", name := "get", desc := "(I)Ljava/lang/Object;" } : Jvm.MethodName)) ∈ lw_all := lw_g (lw_at lw_m3 21 rfl) rfl
theorem q525 : (Jvm.Cond.methodLink "TankFilter$State" (116 : Nat) ({ cls := "TankFilter$Event", name := "isReading", desc := "()Z" } : Jvm.MethodName)) ∈ lw_all := lw_g (lw_at lw_m3 25 rfl) rfl
theorem q526 : (Jvm.Cond.methodLink "TankFilter$State" (129 : Nat) ({ cls := "java/lang/Math", name := "abs", desc := "(J)J" } : Jvm.MethodName)) ∈ lw_all := lw_g (lw_at lw_m3 26 rfl) rfl
theorem q529 : (Jvm.Cond.methodLinkNest "TankFilter$State" (135 : Nat) ({ cls := "TankFilter", name := "limited", desc := "(J)I" } : Jvm.MethodName) "TankFilter") ∈ lw_tbl := lw_at lw_m3 29 rfl
theorem q530 : (Jvm.Cond.constant "TankFilter$State" (143 : Nat) (-2000000004 : Int32)) ∈ lw_all := lw_g (lw_at lw_m3 30 rfl) rfl
theorem q536 : (Jvm.Cond.instanceMethod ({ cls := "TankFilter$State", name := "bestFlowNoise", desc := "()I" } : Jvm.MethodName)) ∈ lw_all := lw_g (lw_at lw_m3 36 rfl) rfl
theorem q537 : (Jvm.Cond.selects "TankFilter$State" ({ cls := "TankFilter$State", name := "bestFlowNoise", desc := "()I" } : Jvm.MethodName) ({ cls := "TankFilter$State", name := "bestFlowNoise", desc := "()I" } : Jvm.MethodName)) ∈ lw_all := lw_g (lw_at lw_m3 37 rfl) rfl
theorem q538 : (Jvm.Cond.code ({ cls := "TankFilter$State", name := "bestFlowNoise", desc := "()I" } : Jvm.MethodName) prog_8_method_8_code (6 : Nat) (Option.some Jvm.ClassFile.FieldType.int)) ∈ lw_all := lw_g (lw_at lw_m3 38 rfl) rfl
theorem q539 : (Jvm.Cond.methodLink "TankFilter$State" (144 : Nat) ({ cls := "TankFilter$State", name := "replayError", desc := "(I)I" } : Jvm.MethodName)) ∈ lw_all := lw_g (lw_at lw_m3 39 rfl) rfl
theorem in_X1 : ∀ w ∈ wsX10, w ∈ lw_all := lw_in wsX10 [149, 151, 153, 155, 157, 159, 161, 163, 165] (by decide +kernel) (by decide +kernel)

theorem q94 : (Jvm.Cond.arrayOver (Jvm.ClassFile.FieldType.object "TankFilter$Sensor")) ∈ lw_tbl := lw_at lw_m1 74 rfl
set_option maxRecDepth 100000
theorem q98 : (Jvm.Cond.arrayOver (Jvm.ClassFile.FieldType.object "TankFilter$Event")) ∈ lw_tbl := lw_at lw_m1 78 rfl
theorem q169 : (Jvm.Cond.arrayOver (Jvm.ClassFile.FieldType.object "TankFilter$State")) ∈ lw_tbl := lw_at lw_m1 149 rfl
theorem q191 : (Jvm.Cond.arrayClass Jvm.ClassFile.FieldType.int) ∈ lw_all := lw_g (lw_at lw_m1 171 rfl) rfl
theorem q602 : (Jvm.Cond.arrayClass Jvm.ClassFile.FieldType.long) ∈ lw_all := lw_g (lw_at lw_m3 102 rfl) rfl

theorem q29 : (Jvm.Cond.initialized "java/lang/System") ∈ lw_all := lw_g (lw_at lw_m1 9 rfl) rfl
set_option maxRecDepth 100000
theorem q226 : (Jvm.Cond.static ({ cls := "java/lang/System", name := "arraycopy", desc := "(Ljava/lang/Object;ILjava/lang/Object;II)V" } : Jvm.MethodName)) ∈ lw_all := lw_g (lw_at lw_m1 206 rfl) rfl
theorem q227 : (Jvm.Cond.native ({ cls := "java/lang/System", name := "arraycopy", desc := "(Ljava/lang/Object;ILjava/lang/Object;II)V" } : Jvm.MethodName)) ∈ lw_all := lw_g (lw_at lw_m1 207 rfl) rfl

theorem q495 : (Jvm.Cond.interfaceMethod "TankFilter$Test" "TankFilter$Test" "passes" "(Ljava/lang/Object;)Z") ∈ lw_tbl := lw_at lw_m2 235 rfl
set_option maxRecDepth 100000
theorem q496 : (Jvm.Cond.declares ({ cls := "TankFilter$Test", name := "passes", desc := "(Ljava/lang/Object;)Z" } : Jvm.MethodName)) ∈ lw_tbl := lw_at lw_m2 236 rfl

theorem q20 : (Jvm.Cond.initialized "TankFilterLaw") ∈ lw_all := lw_g (lw_at lw_m1 0 rfl) rfl
set_option maxRecDepth 100000
theorem q35 : (Jvm.Cond.classLink "TankFilterLaw" (7 : Nat) "TankFilter") ∈ lw_all := lw_g (lw_at lw_m1 15 rfl) rfl
theorem q37 : (Jvm.Cond.methodLink "TankFilterLaw" (9 : Nat) ({ cls := "TankFilter", name := "<init>", desc := "()V" } : Jvm.MethodName)) ∈ lw_all := lw_g (lw_at lw_m1 17 rfl) rfl
theorem q192 : (Jvm.Cond.methodLink "TankFilterLaw" (13 : Nat) ({ cls := "TankFilter", name := "reset", desc := "(IIII)I" } : Jvm.MethodName)) ∈ lw_all := lw_g (lw_at lw_m1 172 rfl) rfl
theorem q244 : (Jvm.Cond.methodLink "TankFilterLaw" (18 : Nat) ({ cls := "TankFilter", name := "setProcessNoise", desc := "(II)I" } : Jvm.MethodName)) ∈ lw_all := lw_g (lw_at lw_m1 224 rfl) rfl
theorem q248 : (Jvm.Cond.methodLink "TankFilterLaw" (23 : Nat) ({ cls := "TankFilter", name := "setSensor", desc := "(III)I" } : Jvm.MethodName)) ∈ lw_all := lw_g (lw_at lw_m1 228 rfl) rfl
theorem q258 : (Jvm.Cond.methodLink "TankFilterLaw" (28 : Nat) ({ cls := "TankFilter", name := "setGate", desc := "(I)I" } : Jvm.MethodName)) ∈ lw_all := lw_g (lw_at lw_m1 238 rfl) rfl
theorem q263 : (Jvm.Cond.methodLink "TankFilterLaw" (33 : Nat) ({ cls := "TankFilter", name := "predict", desc := "(I)I" } : Jvm.MethodName)) ∈ lw_all := lw_g (lw_at lw_m2 3 rfl) rfl
theorem q361 : (Jvm.Cond.methodLink "TankFilterLaw" (37 : Nat) ({ cls := "TankFilter", name := "correct", desc := "(II)I" } : Jvm.MethodName)) ∈ lw_all := lw_g (lw_at lw_m2 101 rfl) rfl
theorem q386 : (Jvm.Cond.methodLink "TankFilterLaw" (41 : Nat) ({ cls := "TankFilter", name := "miss", desc := "(I)I" } : Jvm.MethodName)) ∈ lw_all := lw_g (lw_at lw_m2 126 rfl) rfl
theorem q390 : (Jvm.Cond.methodLink "TankFilterLaw" (45 : Nat) ({ cls := "TankFilter", name := "level", desc := "()I" } : Jvm.MethodName)) ∈ lw_all := lw_g (lw_at lw_m2 130 rfl) rfl
theorem q394 : (Jvm.Cond.methodLink "TankFilterLaw" (50 : Nat) ({ cls := "TankFilter", name := "flow", desc := "()I" } : Jvm.MethodName)) ∈ lw_all := lw_g (lw_at lw_m2 134 rfl) rfl
theorem q398 : (Jvm.Cond.methodLink "TankFilterLaw" (54 : Nat) ({ cls := "TankFilter", name := "levelVariance", desc := "()I" } : Jvm.MethodName)) ∈ lw_all := lw_g (lw_at lw_m2 138 rfl) rfl
theorem q402 : (Jvm.Cond.methodLink "TankFilterLaw" (58 : Nat) ({ cls := "TankFilter", name := "covariance", desc := "()I" } : Jvm.MethodName)) ∈ lw_all := lw_g (lw_at lw_m2 142 rfl) rfl
theorem q406 : (Jvm.Cond.methodLink "TankFilterLaw" (62 : Nat) ({ cls := "TankFilter", name := "flowVariance", desc := "()I" } : Jvm.MethodName)) ∈ lw_all := lw_g (lw_at lw_m2 146 rfl) rfl
theorem q410 : (Jvm.Cond.methodLink "TankFilterLaw" (66 : Nat) ({ cls := "TankFilter", name := "innovation", desc := "()I" } : Jvm.MethodName)) ∈ lw_all := lw_g (lw_at lw_m2 150 rfl) rfl
theorem q414 : (Jvm.Cond.methodLink "TankFilterLaw" (70 : Nat) ({ cls := "TankFilter", name := "levelGain", desc := "()I" } : Jvm.MethodName)) ∈ lw_all := lw_g (lw_at lw_m2 154 rfl) rfl
theorem q418 : (Jvm.Cond.methodLink "TankFilterLaw" (74 : Nat) ({ cls := "TankFilter", name := "flowGain", desc := "()I" } : Jvm.MethodName)) ∈ lw_all := lw_g (lw_at lw_m2 158 rfl) rfl
theorem q422 : (Jvm.Cond.methodLink "TankFilterLaw" (78 : Nat) ({ cls := "TankFilter", name := "accepted", desc := "()I" } : Jvm.MethodName)) ∈ lw_all := lw_g (lw_at lw_m2 162 rfl) rfl
theorem q426 : (Jvm.Cond.methodLink "TankFilterLaw" (82 : Nat) ({ cls := "TankFilter", name := "rejected", desc := "()I" } : Jvm.MethodName)) ∈ lw_all := lw_g (lw_at lw_m2 166 rfl) rfl
theorem q430 : (Jvm.Cond.methodLink "TankFilterLaw" (86 : Nat) ({ cls := "TankFilter", name := "missed", desc := "()I" } : Jvm.MethodName)) ∈ lw_all := lw_g (lw_at lw_m2 170 rfl) rfl
theorem q434 : (Jvm.Cond.methodLink "TankFilterLaw" (90 : Nat) ({ cls := "TankFilter", name := "historyLength", desc := "()I" } : Jvm.MethodName)) ∈ lw_all := lw_g (lw_at lw_m2 174 rfl) rfl
theorem q438 : (Jvm.Cond.methodLink "TankFilterLaw" (94 : Nat) ({ cls := "TankFilter", name := "forecast", desc := "(I)I" } : Jvm.MethodName)) ∈ lw_all := lw_g (lw_at lw_m2 178 rfl) rfl
theorem q452 : (Jvm.Cond.methodLink "TankFilterLaw" (98 : Nat) ({ cls := "TankFilter", name := "forecastVariance", desc := "(I)I" } : Jvm.MethodName)) ∈ lw_all := lw_g (lw_at lw_m2 192 rfl) rfl
theorem q456 : (Jvm.Cond.methodLink "TankFilterLaw" (102 : Nat) ({ cls := "TankFilter", name := "stepsTo", desc := "(I)I" } : Jvm.MethodName)) ∈ lw_all := lw_g (lw_at lw_m2 196 rfl) rfl
theorem q467 : (Jvm.Cond.methodLink "TankFilterLaw" (106 : Nat) ({ cls := "TankFilter", name := "steadyCycles", desc := "(I)I" } : Jvm.MethodName)) ∈ lw_all := lw_g (lw_at lw_m2 207 rfl) rfl
theorem q481 : (Jvm.Cond.methodLink "TankFilterLaw" (110 : Nat) ({ cls := "TankFilter", name := "steadyGain", desc := "(II)I" } : Jvm.MethodName)) ∈ lw_all := lw_g (lw_at lw_m2 221 rfl) rfl
theorem q485 : (Jvm.Cond.methodLink "TankFilterLaw" (114 : Nat) ({ cls := "TankFilter", name := "replayError", desc := "(I)I" } : Jvm.MethodName)) ∈ lw_all := lw_g (lw_at lw_m2 225 rfl) rfl
theorem q531 : (Jvm.Cond.methodLink "TankFilterLaw" (118 : Nat) ({ cls := "TankFilter", name := "bestFlowNoise", desc := "()I" } : Jvm.MethodName)) ∈ lw_all := lw_g (lw_at lw_m3 31 rfl) rfl
theorem q540 : (Jvm.Cond.methodLink "TankFilterLaw" (122 : Nat) ({ cls := "TankFilter", name := "undo", desc := "()I" } : Jvm.MethodName)) ∈ lw_all := lw_g (lw_at lw_m3 40 rfl) rfl
theorem q548 : (Jvm.Cond.methodLink "TankFilterLaw" (126 : Nat) ({ cls := "TankFilter", name := "errorCount", desc := "(I)I" } : Jvm.MethodName)) ∈ lw_all := lw_g (lw_at lw_m3 48 rfl) rfl
theorem q552 : (Jvm.Cond.methodLink "TankFilterLaw" (130 : Nat) ({ cls := "TankFilter", name := "digest", desc := "()J" } : Jvm.MethodName)) ∈ lw_all := lw_g (lw_at lw_m3 52 rfl) rfl
theorem q563 : (Jvm.Cond.classLink "TankFilterLaw" (10 : Nat) "TankFilterModel") ∈ lw_all := lw_g (lw_at lw_m3 63 rfl) rfl
theorem q565 : (Jvm.Cond.methodLink "TankFilterLaw" (12 : Nat) ({ cls := "TankFilterModel", name := "<init>", desc := "()V" } : Jvm.MethodName)) ∈ lw_all := lw_g (lw_at lw_m3 65 rfl) rfl
theorem q603 : (Jvm.Cond.methodLink "TankFilterLaw" (17 : Nat) ({ cls := "TankFilterModel", name := "reset", desc := "(IIII)I" } : Jvm.MethodName)) ∈ lw_all := lw_g (lw_at lw_m3 103 rfl) rfl
theorem q623 : (Jvm.Cond.methodLink "TankFilterLaw" (22 : Nat) ({ cls := "TankFilterModel", name := "setProcessNoise", desc := "(II)I" } : Jvm.MethodName)) ∈ lw_all := lw_g (lw_at lw_m3 123 rfl) rfl
theorem q627 : (Jvm.Cond.methodLink "TankFilterLaw" (27 : Nat) ({ cls := "TankFilterModel", name := "setSensor", desc := "(III)I" } : Jvm.MethodName)) ∈ lw_all := lw_g (lw_at lw_m3 127 rfl) rfl
theorem q634 : (Jvm.Cond.methodLink "TankFilterLaw" (32 : Nat) ({ cls := "TankFilterModel", name := "setGate", desc := "(I)I" } : Jvm.MethodName)) ∈ lw_all := lw_g (lw_at lw_m3 134 rfl) rfl
theorem q638 : (Jvm.Cond.methodLink "TankFilterLaw" (36 : Nat) ({ cls := "TankFilterModel", name := "predict", desc := "(I)I" } : Jvm.MethodName)) ∈ lw_all := lw_g (lw_at lw_m3 138 rfl) rfl
theorem q665 : (Jvm.Cond.methodLink "TankFilterLaw" (40 : Nat) ({ cls := "TankFilterModel", name := "correct", desc := "(II)I" } : Jvm.MethodName)) ∈ lw_all := lw_g (lw_at lw_m3 165 rfl) rfl
theorem q684 : (Jvm.Cond.methodLink "TankFilterLaw" (44 : Nat) ({ cls := "TankFilterModel", name := "miss", desc := "(I)I" } : Jvm.MethodName)) ∈ lw_all := lw_g (lw_at lw_m3 184 rfl) rfl
theorem q688 : (Jvm.Cond.methodLink "TankFilterLaw" (49 : Nat) ({ cls := "TankFilterModel", name := "level", desc := "()I" } : Jvm.MethodName)) ∈ lw_all := lw_g (lw_at lw_m3 188 rfl) rfl
theorem q692 : (Jvm.Cond.methodLink "TankFilterLaw" (53 : Nat) ({ cls := "TankFilterModel", name := "flow", desc := "()I" } : Jvm.MethodName)) ∈ lw_all := lw_g (lw_at lw_m3 192 rfl) rfl
theorem q696 : (Jvm.Cond.methodLink "TankFilterLaw" (57 : Nat) ({ cls := "TankFilterModel", name := "levelVariance", desc := "()I" } : Jvm.MethodName)) ∈ lw_all := lw_g (lw_at lw_m3 196 rfl) rfl
theorem q700 : (Jvm.Cond.methodLink "TankFilterLaw" (61 : Nat) ({ cls := "TankFilterModel", name := "covariance", desc := "()I" } : Jvm.MethodName)) ∈ lw_all := lw_g (lw_at lw_m3 200 rfl) rfl
theorem q704 : (Jvm.Cond.methodLink "TankFilterLaw" (65 : Nat) ({ cls := "TankFilterModel", name := "flowVariance", desc := "()I" } : Jvm.MethodName)) ∈ lw_all := lw_g (lw_at lw_m3 204 rfl) rfl
theorem q708 : (Jvm.Cond.methodLink "TankFilterLaw" (69 : Nat) ({ cls := "TankFilterModel", name := "innovation", desc := "()I" } : Jvm.MethodName)) ∈ lw_all := lw_g (lw_at lw_m3 208 rfl) rfl
theorem q712 : (Jvm.Cond.methodLink "TankFilterLaw" (73 : Nat) ({ cls := "TankFilterModel", name := "levelGain", desc := "()I" } : Jvm.MethodName)) ∈ lw_all := lw_g (lw_at lw_m3 212 rfl) rfl
theorem q716 : (Jvm.Cond.methodLink "TankFilterLaw" (77 : Nat) ({ cls := "TankFilterModel", name := "flowGain", desc := "()I" } : Jvm.MethodName)) ∈ lw_all := lw_g (lw_at lw_m3 216 rfl) rfl
theorem q720 : (Jvm.Cond.methodLink "TankFilterLaw" (81 : Nat) ({ cls := "TankFilterModel", name := "accepted", desc := "()I" } : Jvm.MethodName)) ∈ lw_all := lw_g (lw_at lw_m3 220 rfl) rfl
theorem q724 : (Jvm.Cond.methodLink "TankFilterLaw" (85 : Nat) ({ cls := "TankFilterModel", name := "rejected", desc := "()I" } : Jvm.MethodName)) ∈ lw_all := lw_g (lw_at lw_m3 224 rfl) rfl
theorem q728 : (Jvm.Cond.methodLink "TankFilterLaw" (89 : Nat) ({ cls := "TankFilterModel", name := "missed", desc := "()I" } : Jvm.MethodName)) ∈ lw_all := lw_g (lw_at lw_m3 228 rfl) rfl
theorem q732 : (Jvm.Cond.methodLink "TankFilterLaw" (93 : Nat) ({ cls := "TankFilterModel", name := "historyLength", desc := "()I" } : Jvm.MethodName)) ∈ lw_all := lw_g (lw_at lw_m3 232 rfl) rfl
theorem q736 : (Jvm.Cond.methodLink "TankFilterLaw" (97 : Nat) ({ cls := "TankFilterModel", name := "forecast", desc := "(I)I" } : Jvm.MethodName)) ∈ lw_all := lw_g (lw_at lw_m3 236 rfl) rfl
theorem q744 : (Jvm.Cond.methodLink "TankFilterLaw" (101 : Nat) ({ cls := "TankFilterModel", name := "forecastVariance", desc := "(I)I" } : Jvm.MethodName)) ∈ lw_all := lw_g (lw_at lw_m4 4 rfl) rfl
theorem q748 : (Jvm.Cond.methodLink "TankFilterLaw" (105 : Nat) ({ cls := "TankFilterModel", name := "stepsTo", desc := "(I)I" } : Jvm.MethodName)) ∈ lw_all := lw_g (lw_at lw_m4 8 rfl) rfl
theorem q752 : (Jvm.Cond.methodLink "TankFilterLaw" (109 : Nat) ({ cls := "TankFilterModel", name := "steadyCycles", desc := "(I)I" } : Jvm.MethodName)) ∈ lw_all := lw_g (lw_at lw_m4 12 rfl) rfl
theorem q760 : (Jvm.Cond.methodLink "TankFilterLaw" (113 : Nat) ({ cls := "TankFilterModel", name := "steadyGain", desc := "(II)I" } : Jvm.MethodName)) ∈ lw_all := lw_g (lw_at lw_m4 20 rfl) rfl
theorem q764 : (Jvm.Cond.methodLink "TankFilterLaw" (117 : Nat) ({ cls := "TankFilterModel", name := "replayError", desc := "(I)I" } : Jvm.MethodName)) ∈ lw_all := lw_g (lw_at lw_m4 24 rfl) rfl
theorem q778 : (Jvm.Cond.methodLink "TankFilterLaw" (121 : Nat) ({ cls := "TankFilterModel", name := "bestFlowNoise", desc := "()I" } : Jvm.MethodName)) ∈ lw_all := lw_g (lw_at lw_m4 38 rfl) rfl
theorem q783 : (Jvm.Cond.methodLink "TankFilterLaw" (125 : Nat) ({ cls := "TankFilterModel", name := "undo", desc := "()I" } : Jvm.MethodName)) ∈ lw_all := lw_g (lw_at lw_m4 43 rfl) rfl
theorem q787 : (Jvm.Cond.methodLink "TankFilterLaw" (129 : Nat) ({ cls := "TankFilterModel", name := "errorCount", desc := "(I)I" } : Jvm.MethodName)) ∈ lw_all := lw_g (lw_at lw_m4 47 rfl) rfl
theorem q791 : (Jvm.Cond.methodLink "TankFilterLaw" (134 : Nat) ({ cls := "TankFilterModel", name := "digest", desc := "()J" } : Jvm.MethodName)) ∈ lw_all := lw_g (lw_at lw_m4 51 rfl) rfl
