/-! TankFilter -/
set_option maxRecDepth 100000
def RX0 : String := "TankFilter"
def TX0 : u_T := fun k => match k with
  | 0 => ("TankFilter", "current", "LTankFilter$State;", false)
  | 1 => ("TankFilter", "saved", "LTankFilter$Recent;", true)
  | 2 => ("TankFilter", "readings", "LTankFilter$Readings;", true)
  | _ => ("TankFilter", "errors", "[I", true)
def tyX0 : Nat → FieldType := fun k => match k with
  | 0 => .object "TankFilter$State"
  | 1 => .object "TankFilter$Recent"
  | 2 => .object "TankFilter$Readings"
  | _ => .array .int
abbrev wsX00 : List Cond := u_ws RX0 TX0 4
theorem nmX0 : ∀ a, a < 4 → ∀ b, b < 4 → a ≠ b → (TX0 a).2.1 ≠ (TX0 b).2.1 := by decide +kernel
theorem tyX0_ok : ∀ k, k < 4 → parseFieldDescriptor (TX0 k).2.2.1 = some (tyX0 k) := by decide +kernel
abbrev cX0_init : ByteArray := prog_1_method_5_code
def yX0_init : MethodName := ⟨RX0, "<init>", "()V"⟩
def dkwX0_init_2 : List UInt8 := [177]
abbrev dktX0_init_2 : List UInt8 := dkwX0_init_2 ++ []
def dkwX0_init_1 : List UInt8 := [183, 0, 41, 181, 0, 44, 42, 187, 0, 48, 89, 183, 0, 50, 181, 0, 51, 42, 6, 188, 10, 181, 0, 55]
abbrev dktX0_init_1 : List UInt8 := dkwX0_init_1 ++ dktX0_init_2
def dkwX0_init_0 : List UInt8 := [42, 183, 0, 29, 42, 187, 0, 32, 89, 183, 0, 34, 181, 0, 35, 42, 187, 0, 39, 89, 7, 189, 0, 32]
abbrev dktX0_init_0 : List UInt8 := dkwX0_init_0 ++ dktX0_init_1
theorem dksX0_init_0 : cX0_init.data.toList.drop 0 = dktX0_init_0 := by decide +kernel
theorem dksX0_init_1 : cX0_init.data.toList.drop 24 = dktX0_init_1 := dk_seg dksX0_init_0 24 rfl rfl
theorem dksX0_init_2 : cX0_init.data.toList.drop 48 = dktX0_init_2 := dk_seg dksX0_init_1 24 rfl rfl
theorem dX0_init_0 : decode cX0_init 0 = .ok (.aload_n 0, 1) := dk_42 (dk_at dksX0_init_0 0 rfl rfl)
theorem dX0_init_1 : decode cX0_init 1 = .ok (.invokespecial 29, 3) := dk_183 0 29 (dk_at dksX0_init_0 1 rfl rfl)
theorem dX0_init_4 : decode cX0_init 4 = .ok (.aload_n 0, 1) := dk_42 (dk_at dksX0_init_0 4 rfl rfl)
theorem dX0_init_5 : decode cX0_init 5 = .ok (.new 32, 3) := dk_187 0 32 (dk_at dksX0_init_0 5 rfl rfl)
theorem dX0_init_8 : decode cX0_init 8 = .ok (.dup, 1) := dk_89 (dk_at dksX0_init_0 8 rfl rfl)
theorem dX0_init_9 : decode cX0_init 9 = .ok (.invokespecial 34, 3) := dk_183 0 34 (dk_at dksX0_init_0 9 rfl rfl)
theorem dX0_init_12 : decode cX0_init 12 = .ok (.putfield 35, 3) := dk_181 0 35 (dk_at dksX0_init_0 12 rfl rfl)
theorem dX0_init_15 : decode cX0_init 15 = .ok (.aload_n 0, 1) := dk_42 (dk_at dksX0_init_0 15 rfl rfl)
theorem dX0_init_16 : decode cX0_init 16 = .ok (.new 39, 3) := dk_187 0 39 (dk_at dksX0_init_0 16 rfl rfl)
theorem dX0_init_19 : decode cX0_init 19 = .ok (.dup, 1) := dk_89 (dk_at dksX0_init_0 19 rfl rfl)
theorem dX0_init_20 : decode cX0_init 20 = .ok (.iconst 4, 1) := dk_7 (dk_at dksX0_init_0 20 rfl rfl)
theorem dX0_init_21 : decode cX0_init 21 = .ok (.anewarray 32, 3) := dk_189 0 32 (dk_at dksX0_init_0 21 rfl rfl)
theorem dX0_init_24 : decode cX0_init 24 = .ok (.invokespecial 41, 3) := dk_183 0 41 (dk_at dksX0_init_1 0 rfl rfl)
theorem dX0_init_27 : decode cX0_init 27 = .ok (.putfield 44, 3) := dk_181 0 44 (dk_at dksX0_init_1 3 rfl rfl)
theorem dX0_init_30 : decode cX0_init 30 = .ok (.aload_n 0, 1) := dk_42 (dk_at dksX0_init_1 6 rfl rfl)
theorem dX0_init_31 : decode cX0_init 31 = .ok (.new 48, 3) := dk_187 0 48 (dk_at dksX0_init_1 7 rfl rfl)
theorem dX0_init_34 : decode cX0_init 34 = .ok (.dup, 1) := dk_89 (dk_at dksX0_init_1 10 rfl rfl)
theorem dX0_init_35 : decode cX0_init 35 = .ok (.invokespecial 50, 3) := dk_183 0 50 (dk_at dksX0_init_1 11 rfl rfl)
theorem dX0_init_38 : decode cX0_init 38 = .ok (.putfield 51, 3) := dk_181 0 51 (dk_at dksX0_init_1 14 rfl rfl)
theorem dX0_init_41 : decode cX0_init 41 = .ok (.aload_n 0, 1) := dk_42 (dk_at dksX0_init_1 17 rfl rfl)
theorem dX0_init_42 : decode cX0_init 42 = .ok (.iconst 3, 1) := dk_6 (dk_at dksX0_init_1 18 rfl rfl)
theorem dX0_init_43 : decode cX0_init 43 = .ok (.newarray .int, 2) := dk_188_10 (dk_at dksX0_init_1 19 rfl rfl)
theorem dX0_init_45 : decode cX0_init 45 = .ok (.putfield 55, 3) := dk_181 0 55 (dk_at dksX0_init_1 21 rfl rfl)
theorem dX0_init_48 : decode cX0_init 48 = .ok (.return_, 1) := dk_177 (dk_at dksX0_init_2 0 rfl rfl)
abbrev cX0_reset : ByteArray := prog_1_method_11_code
def yX0_reset : MethodName := ⟨RX0, "reset", "(IIII)I"⟩
def dkwX0_reset_6 : List UInt8 := [25, 5, 3, 181, 0, 129, 21, 6, 172]
abbrev dktX0_reset_6 : List UInt8 := dkwX0_reset_6 ++ []
def dkwX0_reset_5 : List UInt8 := [181, 0, 120, 25, 5, 180, 0, 93, 3, 181, 0, 96, 25, 5, 3, 181, 0, 123, 25, 5, 3, 181, 0, 126]
abbrev dktX0_reset_5 : List UInt8 := dkwX0_reset_5 ++ dktX0_reset_6
def dkwX0_reset_4 : List UInt8 := [180, 0, 100, 28, 181, 0, 114, 25, 5, 180, 0, 100, 29, 181, 0, 117, 25, 5, 180, 0, 100, 21, 4]
abbrev dktX0_reset_4 : List UInt8 := dkwX0_reset_4 ++ dktX0_reset_5
def dkwX0_reset_3 : List UInt8 := [180, 0, 100, 187, 0, 104, 89, 183, 0, 106, 182, 0, 107, 25, 5, 180, 0, 100, 27, 181, 0, 111, 25, 5]
abbrev dktX0_reset_3 : List UInt8 := dkwX0_reset_3 ++ dktX0_reset_4
def dkwX0_reset_2 : List UInt8 := [18, 59, 182, 0, 86, 172, 42, 182, 0, 90, 58, 5, 25, 5, 180, 0, 93, 180, 0, 96, 54, 6, 25, 5]
abbrev dktX0_reset_2 : List UInt8 := dkwX0_reset_2 ++ dktX0_reset_3
def dkwX0_reset_1 : List UInt8 := [20, 0, 76, 184, 0, 7, 153, 0, 16, 21, 4, 133, 9, 20, 0, 76, 184, 0, 7, 154, 0, 10, 42]
abbrev dktX0_reset_1 : List UInt8 := dkwX0_reset_1 ++ dktX0_reset_2
def dkwX0_reset_0 : List UInt8 := [27, 184, 0, 78, 153, 0, 42, 28, 133, 20, 0, 82, 20, 0, 84, 184, 0, 7, 153, 0, 28, 29, 133, 9]
abbrev dktX0_reset_0 : List UInt8 := dkwX0_reset_0 ++ dktX0_reset_1
theorem dksX0_reset_0 : cX0_reset.data.toList.drop 0 = dktX0_reset_0 := by decide +kernel
theorem dksX0_reset_1 : cX0_reset.data.toList.drop 24 = dktX0_reset_1 := dk_seg dksX0_reset_0 24 rfl rfl
theorem dksX0_reset_2 : cX0_reset.data.toList.drop 47 = dktX0_reset_2 := dk_seg dksX0_reset_1 23 rfl rfl
theorem dksX0_reset_3 : cX0_reset.data.toList.drop 71 = dktX0_reset_3 := dk_seg dksX0_reset_2 24 rfl rfl
theorem dksX0_reset_4 : cX0_reset.data.toList.drop 95 = dktX0_reset_4 := dk_seg dksX0_reset_3 24 rfl rfl
theorem dksX0_reset_5 : cX0_reset.data.toList.drop 118 = dktX0_reset_5 := dk_seg dksX0_reset_4 23 rfl rfl
theorem dksX0_reset_6 : cX0_reset.data.toList.drop 142 = dktX0_reset_6 := dk_seg dksX0_reset_5 24 rfl rfl
theorem dX0_reset_0 : decode cX0_reset 0 = .ok (.iload_n 1, 1) := dk_27 (dk_at dksX0_reset_0 0 rfl rfl)
theorem dX0_reset_1 : decode cX0_reset 1 = .ok (.invokestatic 78, 3) := dk_184 0 78 (dk_at dksX0_reset_0 1 rfl rfl)
theorem dX0_reset_4 : decode cX0_reset 4 = .ok (.ifCond .eq 42, 3) := dk_153 0 42 (dk_at dksX0_reset_0 4 rfl rfl)
theorem dX0_reset_7 : decode cX0_reset 7 = .ok (.iload_n 2, 1) := dk_28 (dk_at dksX0_reset_0 7 rfl rfl)
theorem dX0_reset_8 : decode cX0_reset 8 = .ok (.i2l, 1) := dk_133 (dk_at dksX0_reset_0 8 rfl rfl)
theorem dX0_reset_9 : decode cX0_reset 9 = .ok (.ldc2_w 82, 3) := dk_20 0 82 (dk_at dksX0_reset_0 9 rfl rfl)
theorem dX0_reset_12 : decode cX0_reset 12 = .ok (.ldc2_w 84, 3) := dk_20 0 84 (dk_at dksX0_reset_0 12 rfl rfl)
theorem dX0_reset_15 : decode cX0_reset 15 = .ok (.invokestatic 7, 3) := dk_184 0 7 (dk_at dksX0_reset_0 15 rfl rfl)
theorem dX0_reset_18 : decode cX0_reset 18 = .ok (.ifCond .eq 28, 3) := dk_153 0 28 (dk_at dksX0_reset_0 18 rfl rfl)
theorem dX0_reset_21 : decode cX0_reset 21 = .ok (.iload_n 3, 1) := dk_29 (dk_at dksX0_reset_0 21 rfl rfl)
theorem dX0_reset_22 : decode cX0_reset 22 = .ok (.i2l, 1) := dk_133 (dk_at dksX0_reset_0 22 rfl rfl)
theorem dX0_reset_23 : decode cX0_reset 23 = .ok (.lconst 0, 1) := dk_9 (dk_at dksX0_reset_0 23 rfl rfl)
theorem dX0_reset_24 : decode cX0_reset 24 = .ok (.ldc2_w 76, 3) := dk_20 0 76 (dk_at dksX0_reset_1 0 rfl rfl)
theorem dX0_reset_27 : decode cX0_reset 27 = .ok (.invokestatic 7, 3) := dk_184 0 7 (dk_at dksX0_reset_1 3 rfl rfl)
theorem dX0_reset_30 : decode cX0_reset 30 = .ok (.ifCond .eq 16, 3) := dk_153 0 16 (dk_at dksX0_reset_1 6 rfl rfl)
theorem dX0_reset_33 : decode cX0_reset 33 = .ok (.iload 4, 2) := dk_21 4 (dk_at dksX0_reset_1 9 rfl rfl)
theorem dX0_reset_35 : decode cX0_reset 35 = .ok (.i2l, 1) := dk_133 (dk_at dksX0_reset_1 11 rfl rfl)
theorem dX0_reset_36 : decode cX0_reset 36 = .ok (.lconst 0, 1) := dk_9 (dk_at dksX0_reset_1 12 rfl rfl)
theorem dX0_reset_37 : decode cX0_reset 37 = .ok (.ldc2_w 76, 3) := dk_20 0 76 (dk_at dksX0_reset_1 13 rfl rfl)
theorem dX0_reset_40 : decode cX0_reset 40 = .ok (.invokestatic 7, 3) := dk_184 0 7 (dk_at dksX0_reset_1 16 rfl rfl)
theorem dX0_reset_43 : decode cX0_reset 43 = .ok (.ifCond .ne 10, 3) := dk_154 0 10 (dk_at dksX0_reset_1 19 rfl rfl)
theorem dX0_reset_46 : decode cX0_reset 46 = .ok (.aload_n 0, 1) := dk_42 (dk_at dksX0_reset_1 22 rfl rfl)
theorem dX0_reset_47 : decode cX0_reset 47 = .ok (.ldc 59, 2) := dk_18 59 (dk_at dksX0_reset_2 0 rfl rfl)
theorem dX0_reset_49 : decode cX0_reset 49 = .ok (.invokevirtual 86, 3) := dk_182 0 86 (dk_at dksX0_reset_2 2 rfl rfl)
theorem dX0_reset_52 : decode cX0_reset 52 = .ok (.ireturn, 1) := dk_172 (dk_at dksX0_reset_2 5 rfl rfl)
theorem dX0_reset_53 : decode cX0_reset 53 = .ok (.aload_n 0, 1) := dk_42 (dk_at dksX0_reset_2 6 rfl rfl)
theorem dX0_reset_54 : decode cX0_reset 54 = .ok (.invokevirtual 90, 3) := dk_182 0 90 (dk_at dksX0_reset_2 7 rfl rfl)
theorem dX0_reset_57 : decode cX0_reset 57 = .ok (.astore 5, 2) := dk_58 5 (dk_at dksX0_reset_2 10 rfl rfl)
theorem dX0_reset_59 : decode cX0_reset 59 = .ok (.aload 5, 2) := dk_25 5 (dk_at dksX0_reset_2 12 rfl rfl)
theorem dX0_reset_61 : decode cX0_reset 61 = .ok (.getfield 93, 3) := dk_180 0 93 (dk_at dksX0_reset_2 14 rfl rfl)
theorem dX0_reset_64 : decode cX0_reset 64 = .ok (.getfield 96, 3) := dk_180 0 96 (dk_at dksX0_reset_2 17 rfl rfl)
theorem dX0_reset_67 : decode cX0_reset 67 = .ok (.istore 6, 2) := dk_54 6 (dk_at dksX0_reset_2 20 rfl rfl)
theorem dX0_reset_69 : decode cX0_reset 69 = .ok (.aload 5, 2) := dk_25 5 (dk_at dksX0_reset_2 22 rfl rfl)
theorem dX0_reset_71 : decode cX0_reset 71 = .ok (.getfield 100, 3) := dk_180 0 100 (dk_at dksX0_reset_3 0 rfl rfl)
theorem dX0_reset_74 : decode cX0_reset 74 = .ok (.new 104, 3) := dk_187 0 104 (dk_at dksX0_reset_3 3 rfl rfl)
theorem dX0_reset_77 : decode cX0_reset 77 = .ok (.dup, 1) := dk_89 (dk_at dksX0_reset_3 6 rfl rfl)
theorem dX0_reset_78 : decode cX0_reset 78 = .ok (.invokespecial 106, 3) := dk_183 0 106 (dk_at dksX0_reset_3 7 rfl rfl)
theorem dX0_reset_81 : decode cX0_reset 81 = .ok (.invokevirtual 107, 3) := dk_182 0 107 (dk_at dksX0_reset_3 10 rfl rfl)
theorem dX0_reset_84 : decode cX0_reset 84 = .ok (.aload 5, 2) := dk_25 5 (dk_at dksX0_reset_3 13 rfl rfl)
theorem dX0_reset_86 : decode cX0_reset 86 = .ok (.getfield 100, 3) := dk_180 0 100 (dk_at dksX0_reset_3 15 rfl rfl)
theorem dX0_reset_89 : decode cX0_reset 89 = .ok (.iload_n 1, 1) := dk_27 (dk_at dksX0_reset_3 18 rfl rfl)
theorem dX0_reset_90 : decode cX0_reset 90 = .ok (.putfield 111, 3) := dk_181 0 111 (dk_at dksX0_reset_3 19 rfl rfl)
theorem dX0_reset_93 : decode cX0_reset 93 = .ok (.aload 5, 2) := dk_25 5 (dk_at dksX0_reset_3 22 rfl rfl)
theorem dX0_reset_95 : decode cX0_reset 95 = .ok (.getfield 100, 3) := dk_180 0 100 (dk_at dksX0_reset_4 0 rfl rfl)
theorem dX0_reset_98 : decode cX0_reset 98 = .ok (.iload_n 2, 1) := dk_28 (dk_at dksX0_reset_4 3 rfl rfl)
theorem dX0_reset_99 : decode cX0_reset 99 = .ok (.putfield 114, 3) := dk_181 0 114 (dk_at dksX0_reset_4 4 rfl rfl)
theorem dX0_reset_102 : decode cX0_reset 102 = .ok (.aload 5, 2) := dk_25 5 (dk_at dksX0_reset_4 7 rfl rfl)
theorem dX0_reset_104 : decode cX0_reset 104 = .ok (.getfield 100, 3) := dk_180 0 100 (dk_at dksX0_reset_4 9 rfl rfl)
theorem dX0_reset_107 : decode cX0_reset 107 = .ok (.iload_n 3, 1) := dk_29 (dk_at dksX0_reset_4 12 rfl rfl)
theorem dX0_reset_108 : decode cX0_reset 108 = .ok (.putfield 117, 3) := dk_181 0 117 (dk_at dksX0_reset_4 13 rfl rfl)
theorem dX0_reset_111 : decode cX0_reset 111 = .ok (.aload 5, 2) := dk_25 5 (dk_at dksX0_reset_4 16 rfl rfl)
theorem dX0_reset_113 : decode cX0_reset 113 = .ok (.getfield 100, 3) := dk_180 0 100 (dk_at dksX0_reset_4 18 rfl rfl)
theorem dX0_reset_116 : decode cX0_reset 116 = .ok (.iload 4, 2) := dk_21 4 (dk_at dksX0_reset_4 21 rfl rfl)
theorem dX0_reset_118 : decode cX0_reset 118 = .ok (.putfield 120, 3) := dk_181 0 120 (dk_at dksX0_reset_5 0 rfl rfl)
theorem dX0_reset_121 : decode cX0_reset 121 = .ok (.aload 5, 2) := dk_25 5 (dk_at dksX0_reset_5 3 rfl rfl)
theorem dX0_reset_123 : decode cX0_reset 123 = .ok (.getfield 93, 3) := dk_180 0 93 (dk_at dksX0_reset_5 5 rfl rfl)
theorem dX0_reset_126 : decode cX0_reset 126 = .ok (.iconst 0, 1) := dk_3 (dk_at dksX0_reset_5 8 rfl rfl)
theorem dX0_reset_127 : decode cX0_reset 127 = .ok (.putfield 96, 3) := dk_181 0 96 (dk_at dksX0_reset_5 9 rfl rfl)
theorem dX0_reset_130 : decode cX0_reset 130 = .ok (.aload 5, 2) := dk_25 5 (dk_at dksX0_reset_5 12 rfl rfl)
theorem dX0_reset_132 : decode cX0_reset 132 = .ok (.iconst 0, 1) := dk_3 (dk_at dksX0_reset_5 14 rfl rfl)
theorem dX0_reset_133 : decode cX0_reset 133 = .ok (.putfield 123, 3) := dk_181 0 123 (dk_at dksX0_reset_5 15 rfl rfl)
theorem dX0_reset_136 : decode cX0_reset 136 = .ok (.aload 5, 2) := dk_25 5 (dk_at dksX0_reset_5 18 rfl rfl)
theorem dX0_reset_138 : decode cX0_reset 138 = .ok (.iconst 0, 1) := dk_3 (dk_at dksX0_reset_5 20 rfl rfl)
theorem dX0_reset_139 : decode cX0_reset 139 = .ok (.putfield 126, 3) := dk_181 0 126 (dk_at dksX0_reset_5 21 rfl rfl)
theorem dX0_reset_142 : decode cX0_reset 142 = .ok (.aload 5, 2) := dk_25 5 (dk_at dksX0_reset_6 0 rfl rfl)
theorem dX0_reset_144 : decode cX0_reset 144 = .ok (.iconst 0, 1) := dk_3 (dk_at dksX0_reset_6 2 rfl rfl)
theorem dX0_reset_145 : decode cX0_reset 145 = .ok (.putfield 129, 3) := dk_181 0 129 (dk_at dksX0_reset_6 3 rfl rfl)
theorem dX0_reset_148 : decode cX0_reset 148 = .ok (.iload 6, 2) := dk_21 6 (dk_at dksX0_reset_6 6 rfl rfl)
theorem dX0_reset_150 : decode cX0_reset 150 = .ok (.ireturn, 1) := dk_172 (dk_at dksX0_reset_6 8 rfl rfl)
abbrev cX0_isLarge : ByteArray := prog_1_method_10_code
def yX0_isLarge : MethodName := ⟨RX0, "isLarge", "(I)Z"⟩
def dkwX0_isLarge_0 : List UInt8 := [26, 133, 20, 0, 74, 20, 0, 76, 184, 0, 7, 172]
abbrev dktX0_isLarge_0 : List UInt8 := dkwX0_isLarge_0 ++ []
theorem dksX0_isLarge_0 : cX0_isLarge.data.toList.drop 0 = dktX0_isLarge_0 := by decide +kernel
theorem dX0_isLarge_0 : decode cX0_isLarge 0 = .ok (.iload_n 0, 1) := dk_26 (dk_at dksX0_isLarge_0 0 rfl rfl)
theorem dX0_isLarge_1 : decode cX0_isLarge 1 = .ok (.i2l, 1) := dk_133 (dk_at dksX0_isLarge_0 1 rfl rfl)
theorem dX0_isLarge_2 : decode cX0_isLarge 2 = .ok (.ldc2_w 74, 3) := dk_20 0 74 (dk_at dksX0_isLarge_0 2 rfl rfl)
theorem dX0_isLarge_5 : decode cX0_isLarge 5 = .ok (.ldc2_w 76, 3) := dk_20 0 76 (dk_at dksX0_isLarge_0 5 rfl rfl)
theorem dX0_isLarge_8 : decode cX0_isLarge 8 = .ok (.invokestatic 7, 3) := dk_184 0 7 (dk_at dksX0_isLarge_0 8 rfl rfl)
theorem dX0_isLarge_11 : decode cX0_isLarge 11 = .ok (.ireturn, 1) := dk_172 (dk_at dksX0_isLarge_0 11 rfl rfl)
abbrev cX0_inRange : ByteArray := prog_1_method_1_code
def yX0_inRange : MethodName := ⟨RX0, "inRange", "(JJJ)Z"⟩
def dkwX0_inRange_0 : List UInt8 := [30, 32, 148, 155, 0, 14, 30, 22, 4, 148, 157, 0, 7, 4, 167, 0, 4, 3, 172]
abbrev dktX0_inRange_0 : List UInt8 := dkwX0_inRange_0 ++ []
theorem dksX0_inRange_0 : cX0_inRange.data.toList.drop 0 = dktX0_inRange_0 := by decide +kernel
theorem dX0_inRange_0 : decode cX0_inRange 0 = .ok (.lload_n 0, 1) := dk_30 (dk_at dksX0_inRange_0 0 rfl rfl)
theorem dX0_inRange_1 : decode cX0_inRange 1 = .ok (.lload_n 2, 1) := dk_32 (dk_at dksX0_inRange_0 1 rfl rfl)
theorem dX0_inRange_2 : decode cX0_inRange 2 = .ok (.lcmp, 1) := dk_148 (dk_at dksX0_inRange_0 2 rfl rfl)
theorem dX0_inRange_3 : decode cX0_inRange 3 = .ok (.ifCond .lt 14, 3) := dk_155 0 14 (dk_at dksX0_inRange_0 3 rfl rfl)
theorem dX0_inRange_6 : decode cX0_inRange 6 = .ok (.lload_n 0, 1) := dk_30 (dk_at dksX0_inRange_0 6 rfl rfl)
theorem dX0_inRange_7 : decode cX0_inRange 7 = .ok (.lload 4, 2) := dk_22 4 (dk_at dksX0_inRange_0 7 rfl rfl)
theorem dX0_inRange_9 : decode cX0_inRange 9 = .ok (.lcmp, 1) := dk_148 (dk_at dksX0_inRange_0 9 rfl rfl)
theorem dX0_inRange_10 : decode cX0_inRange 10 = .ok (.ifCond .gt 7, 3) := dk_157 0 7 (dk_at dksX0_inRange_0 10 rfl rfl)
theorem dX0_inRange_13 : decode cX0_inRange 13 = .ok (.iconst 1, 1) := dk_4 (dk_at dksX0_inRange_0 13 rfl rfl)
theorem dX0_inRange_14 : decode cX0_inRange 14 = .ok (.goto 4, 3) := dk_167 0 4 (dk_at dksX0_inRange_0 14 rfl rfl)
theorem dX0_inRange_17 : decode cX0_inRange 17 = .ok (.iconst 0, 1) := dk_3 (dk_at dksX0_inRange_0 17 rfl rfl)
theorem dX0_inRange_18 : decode cX0_inRange 18 = .ok (.ireturn, 1) := dk_172 (dk_at dksX0_inRange_0 18 rfl rfl)
abbrev cX0_error : ByteArray := prog_1_method_6_code
def yX0_error : MethodName := ⟨RX0, "error", "(I)I"⟩
def dkwX0_error_0 : List UInt8 := [42, 180, 0, 55, 18, 59, 27, 100, 92, 46, 4, 96, 79, 27, 172]
abbrev dktX0_error_0 : List UInt8 := dkwX0_error_0 ++ []
theorem dksX0_error_0 : cX0_error.data.toList.drop 0 = dktX0_error_0 := by decide +kernel
theorem dX0_error_0 : decode cX0_error 0 = .ok (.aload_n 0, 1) := dk_42 (dk_at dksX0_error_0 0 rfl rfl)
theorem dX0_error_1 : decode cX0_error 1 = .ok (.getfield 55, 3) := dk_180 0 55 (dk_at dksX0_error_0 1 rfl rfl)
theorem dX0_error_4 : decode cX0_error 4 = .ok (.ldc 59, 2) := dk_18 59 (dk_at dksX0_error_0 4 rfl rfl)
theorem dX0_error_6 : decode cX0_error 6 = .ok (.iload_n 1, 1) := dk_27 (dk_at dksX0_error_0 6 rfl rfl)
theorem dX0_error_7 : decode cX0_error 7 = .ok (.isub, 1) := dk_100 (dk_at dksX0_error_0 7 rfl rfl)
theorem dX0_error_8 : decode cX0_error 8 = .ok (.dup2, 1) := dk_92 (dk_at dksX0_error_0 8 rfl rfl)
theorem dX0_error_9 : decode cX0_error 9 = .ok (.iaload, 1) := dk_46 (dk_at dksX0_error_0 9 rfl rfl)
theorem dX0_error_10 : decode cX0_error 10 = .ok (.iconst 1, 1) := dk_4 (dk_at dksX0_error_0 10 rfl rfl)
theorem dX0_error_11 : decode cX0_error 11 = .ok (.iadd, 1) := dk_96 (dk_at dksX0_error_0 11 rfl rfl)
theorem dX0_error_12 : decode cX0_error 12 = .ok (.iastore, 1) := dk_79 (dk_at dksX0_error_0 12 rfl rfl)
theorem dX0_error_13 : decode cX0_error 13 = .ok (.iload_n 1, 1) := dk_27 (dk_at dksX0_error_0 13 rfl rfl)
theorem dX0_error_14 : decode cX0_error 14 = .ok (.ireturn, 1) := dk_172 (dk_at dksX0_error_0 14 rfl rfl)
abbrev cX0_change : ByteArray := prog_1_method_8_code
def yX0_change : MethodName := ⟨RX0, "change", "()LTankFilter$State;"⟩
def dkwX0_change_0 : List UInt8 := [42, 42, 180, 0, 35, 182, 0, 64, 182, 0, 68, 42, 180, 0, 35, 176]
abbrev dktX0_change_0 : List UInt8 := dkwX0_change_0 ++ []
theorem dksX0_change_0 : cX0_change.data.toList.drop 0 = dktX0_change_0 := by decide +kernel
theorem dX0_change_0 : decode cX0_change 0 = .ok (.aload_n 0, 1) := dk_42 (dk_at dksX0_change_0 0 rfl rfl)
theorem dX0_change_1 : decode cX0_change 1 = .ok (.aload_n 0, 1) := dk_42 (dk_at dksX0_change_0 1 rfl rfl)
theorem dX0_change_2 : decode cX0_change 2 = .ok (.getfield 35, 3) := dk_180 0 35 (dk_at dksX0_change_0 2 rfl rfl)
theorem dX0_change_5 : decode cX0_change 5 = .ok (.invokevirtual 64, 3) := dk_182 0 64 (dk_at dksX0_change_0 5 rfl rfl)
theorem dX0_change_8 : decode cX0_change 8 = .ok (.invokevirtual 68, 3) := dk_182 0 68 (dk_at dksX0_change_0 8 rfl rfl)
theorem dX0_change_11 : decode cX0_change 11 = .ok (.aload_n 0, 1) := dk_42 (dk_at dksX0_change_0 11 rfl rfl)
theorem dX0_change_12 : decode cX0_change 12 = .ok (.getfield 35, 3) := dk_180 0 35 (dk_at dksX0_change_0 12 rfl rfl)
theorem dX0_change_15 : decode cX0_change 15 = .ok (.areturn, 1) := dk_176 (dk_at dksX0_change_0 15 rfl rfl)
abbrev cX0_commit : ByteArray := prog_1_method_7_code
def yX0_commit : MethodName := ⟨RX0, "commit", "(LTankFilter$State;)V"⟩
def dkwX0_commit_0 : List UInt8 := [42, 180, 0, 44, 42, 180, 0, 35, 182, 0, 60, 42, 43, 181, 0, 35, 177]
abbrev dktX0_commit_0 : List UInt8 := dkwX0_commit_0 ++ []
theorem dksX0_commit_0 : cX0_commit.data.toList.drop 0 = dktX0_commit_0 := by decide +kernel
theorem dX0_commit_0 : decode cX0_commit 0 = .ok (.aload_n 0, 1) := dk_42 (dk_at dksX0_commit_0 0 rfl rfl)
theorem dX0_commit_1 : decode cX0_commit 1 = .ok (.getfield 44, 3) := dk_180 0 44 (dk_at dksX0_commit_0 1 rfl rfl)
theorem dX0_commit_4 : decode cX0_commit 4 = .ok (.aload_n 0, 1) := dk_42 (dk_at dksX0_commit_0 4 rfl rfl)
theorem dX0_commit_5 : decode cX0_commit 5 = .ok (.getfield 35, 3) := dk_180 0 35 (dk_at dksX0_commit_0 5 rfl rfl)
theorem dX0_commit_8 : decode cX0_commit 8 = .ok (.invokevirtual 60, 3) := dk_182 0 60 (dk_at dksX0_commit_0 8 rfl rfl)
theorem dX0_commit_11 : decode cX0_commit 11 = .ok (.aload_n 0, 1) := dk_42 (dk_at dksX0_commit_0 11 rfl rfl)
theorem dX0_commit_12 : decode cX0_commit 12 = .ok (.aload_n 1, 1) := dk_43 (dk_at dksX0_commit_0 12 rfl rfl)
theorem dX0_commit_13 : decode cX0_commit 13 = .ok (.putfield 35, 3) := dk_181 0 35 (dk_at dksX0_commit_0 13 rfl rfl)
theorem dX0_commit_16 : decode cX0_commit 16 = .ok (.return_, 1) := dk_177 (dk_at dksX0_commit_0 16 rfl rfl)
abbrev cX0_setProcessNoise : ByteArray := prog_1_method_12_code
def yX0_setProcessNoise : MethodName := ⟨RX0, "setProcessNoise", "(II)I"⟩
def dkwX0_setProcessNoise_2 : List UInt8 := [181, 0, 135, 25, 4, 28, 181, 0, 132, 29, 172]
abbrev dktX0_setProcessNoise_2 : List UInt8 := dkwX0_setProcessNoise_2 ++ []
def dkwX0_setProcessNoise_1 : List UInt8 := [42, 18, 59, 182, 0, 86, 172, 42, 180, 0, 35, 180, 0, 132, 62, 42, 182, 0, 90, 58, 4, 25, 4, 27]
abbrev dktX0_setProcessNoise_1 : List UInt8 := dkwX0_setProcessNoise_1 ++ dktX0_setProcessNoise_2
def dkwX0_setProcessNoise_0 : List UInt8 := [27, 133, 9, 20, 0, 84, 184, 0, 7, 153, 0, 15, 28, 133, 9, 20, 0, 84, 184, 0, 7, 154, 0, 10]
abbrev dktX0_setProcessNoise_0 : List UInt8 := dkwX0_setProcessNoise_0 ++ dktX0_setProcessNoise_1
theorem dksX0_setProcessNoise_0 : cX0_setProcessNoise.data.toList.drop 0 = dktX0_setProcessNoise_0 := by decide +kernel
theorem dksX0_setProcessNoise_1 : cX0_setProcessNoise.data.toList.drop 24 = dktX0_setProcessNoise_1 := dk_seg dksX0_setProcessNoise_0 24 rfl rfl
theorem dksX0_setProcessNoise_2 : cX0_setProcessNoise.data.toList.drop 48 = dktX0_setProcessNoise_2 := dk_seg dksX0_setProcessNoise_1 24 rfl rfl
theorem dX0_setProcessNoise_0 : decode cX0_setProcessNoise 0 = .ok (.iload_n 1, 1) := dk_27 (dk_at dksX0_setProcessNoise_0 0 rfl rfl)
theorem dX0_setProcessNoise_1 : decode cX0_setProcessNoise 1 = .ok (.i2l, 1) := dk_133 (dk_at dksX0_setProcessNoise_0 1 rfl rfl)
theorem dX0_setProcessNoise_2 : decode cX0_setProcessNoise 2 = .ok (.lconst 0, 1) := dk_9 (dk_at dksX0_setProcessNoise_0 2 rfl rfl)
theorem dX0_setProcessNoise_3 : decode cX0_setProcessNoise 3 = .ok (.ldc2_w 84, 3) := dk_20 0 84 (dk_at dksX0_setProcessNoise_0 3 rfl rfl)
theorem dX0_setProcessNoise_6 : decode cX0_setProcessNoise 6 = .ok (.invokestatic 7, 3) := dk_184 0 7 (dk_at dksX0_setProcessNoise_0 6 rfl rfl)
theorem dX0_setProcessNoise_9 : decode cX0_setProcessNoise 9 = .ok (.ifCond .eq 15, 3) := dk_153 0 15 (dk_at dksX0_setProcessNoise_0 9 rfl rfl)
theorem dX0_setProcessNoise_12 : decode cX0_setProcessNoise 12 = .ok (.iload_n 2, 1) := dk_28 (dk_at dksX0_setProcessNoise_0 12 rfl rfl)
theorem dX0_setProcessNoise_13 : decode cX0_setProcessNoise 13 = .ok (.i2l, 1) := dk_133 (dk_at dksX0_setProcessNoise_0 13 rfl rfl)
theorem dX0_setProcessNoise_14 : decode cX0_setProcessNoise 14 = .ok (.lconst 0, 1) := dk_9 (dk_at dksX0_setProcessNoise_0 14 rfl rfl)
theorem dX0_setProcessNoise_15 : decode cX0_setProcessNoise 15 = .ok (.ldc2_w 84, 3) := dk_20 0 84 (dk_at dksX0_setProcessNoise_0 15 rfl rfl)
theorem dX0_setProcessNoise_18 : decode cX0_setProcessNoise 18 = .ok (.invokestatic 7, 3) := dk_184 0 7 (dk_at dksX0_setProcessNoise_0 18 rfl rfl)
theorem dX0_setProcessNoise_21 : decode cX0_setProcessNoise 21 = .ok (.ifCond .ne 10, 3) := dk_154 0 10 (dk_at dksX0_setProcessNoise_0 21 rfl rfl)
theorem dX0_setProcessNoise_24 : decode cX0_setProcessNoise 24 = .ok (.aload_n 0, 1) := dk_42 (dk_at dksX0_setProcessNoise_1 0 rfl rfl)
theorem dX0_setProcessNoise_25 : decode cX0_setProcessNoise 25 = .ok (.ldc 59, 2) := dk_18 59 (dk_at dksX0_setProcessNoise_1 1 rfl rfl)
theorem dX0_setProcessNoise_27 : decode cX0_setProcessNoise 27 = .ok (.invokevirtual 86, 3) := dk_182 0 86 (dk_at dksX0_setProcessNoise_1 3 rfl rfl)
theorem dX0_setProcessNoise_30 : decode cX0_setProcessNoise 30 = .ok (.ireturn, 1) := dk_172 (dk_at dksX0_setProcessNoise_1 6 rfl rfl)
theorem dX0_setProcessNoise_31 : decode cX0_setProcessNoise 31 = .ok (.aload_n 0, 1) := dk_42 (dk_at dksX0_setProcessNoise_1 7 rfl rfl)
theorem dX0_setProcessNoise_32 : decode cX0_setProcessNoise 32 = .ok (.getfield 35, 3) := dk_180 0 35 (dk_at dksX0_setProcessNoise_1 8 rfl rfl)
theorem dX0_setProcessNoise_35 : decode cX0_setProcessNoise 35 = .ok (.getfield 132, 3) := dk_180 0 132 (dk_at dksX0_setProcessNoise_1 11 rfl rfl)
theorem dX0_setProcessNoise_38 : decode cX0_setProcessNoise 38 = .ok (.istore_n 3, 1) := dk_62 (dk_at dksX0_setProcessNoise_1 14 rfl rfl)
theorem dX0_setProcessNoise_39 : decode cX0_setProcessNoise 39 = .ok (.aload_n 0, 1) := dk_42 (dk_at dksX0_setProcessNoise_1 15 rfl rfl)
theorem dX0_setProcessNoise_40 : decode cX0_setProcessNoise 40 = .ok (.invokevirtual 90, 3) := dk_182 0 90 (dk_at dksX0_setProcessNoise_1 16 rfl rfl)
theorem dX0_setProcessNoise_43 : decode cX0_setProcessNoise 43 = .ok (.astore 4, 2) := dk_58 4 (dk_at dksX0_setProcessNoise_1 19 rfl rfl)
theorem dX0_setProcessNoise_45 : decode cX0_setProcessNoise 45 = .ok (.aload 4, 2) := dk_25 4 (dk_at dksX0_setProcessNoise_1 21 rfl rfl)
theorem dX0_setProcessNoise_47 : decode cX0_setProcessNoise 47 = .ok (.iload_n 1, 1) := dk_27 (dk_at dksX0_setProcessNoise_1 23 rfl rfl)
theorem dX0_setProcessNoise_48 : decode cX0_setProcessNoise 48 = .ok (.putfield 135, 3) := dk_181 0 135 (dk_at dksX0_setProcessNoise_2 0 rfl rfl)
theorem dX0_setProcessNoise_51 : decode cX0_setProcessNoise 51 = .ok (.aload 4, 2) := dk_25 4 (dk_at dksX0_setProcessNoise_2 3 rfl rfl)
theorem dX0_setProcessNoise_53 : decode cX0_setProcessNoise 53 = .ok (.iload_n 2, 1) := dk_28 (dk_at dksX0_setProcessNoise_2 5 rfl rfl)
theorem dX0_setProcessNoise_54 : decode cX0_setProcessNoise 54 = .ok (.putfield 132, 3) := dk_181 0 132 (dk_at dksX0_setProcessNoise_2 6 rfl rfl)
theorem dX0_setProcessNoise_57 : decode cX0_setProcessNoise 57 = .ok (.iload_n 3, 1) := dk_29 (dk_at dksX0_setProcessNoise_2 9 rfl rfl)
theorem dX0_setProcessNoise_58 : decode cX0_setProcessNoise 58 = .ok (.ireturn, 1) := dk_172 (dk_at dksX0_setProcessNoise_2 10 rfl rfl)
abbrev cX0_setSensor : ByteArray := prog_1_method_13_code
def yX0_setSensor : MethodName := ⟨RX0, "setSensor", "(III)I"⟩
def dkwX0_setSensor_3 : List UInt8 := [21, 4, 172]
abbrev dktX0_setSensor_3 : List UInt8 := dkwX0_setSensor_3 ++ []
def dkwX0_setSensor_2 : List UInt8 := [180, 0, 145, 54, 4, 42, 182, 0, 90, 180, 0, 141, 27, 187, 0, 146, 89, 28, 29, 183, 0, 150, 83]
abbrev dktX0_setSensor_2 : List UInt8 := dkwX0_setSensor_2 ++ dktX0_setSensor_3
def dkwX0_setSensor_1 : List UInt8 := [184, 0, 7, 154, 0, 10, 42, 18, 59, 182, 0, 86, 172, 42, 180, 0, 35, 180, 0, 141, 27, 50]
abbrev dktX0_setSensor_1 : List UInt8 := dkwX0_setSensor_1 ++ dktX0_setSensor_2
def dkwX0_setSensor_0 : List UInt8 := [27, 184, 0, 138, 153, 0, 25, 28, 133, 9, 10, 184, 0, 7, 153, 0, 15, 29, 133, 10, 20, 0, 76]
abbrev dktX0_setSensor_0 : List UInt8 := dkwX0_setSensor_0 ++ dktX0_setSensor_1
theorem dksX0_setSensor_0 : cX0_setSensor.data.toList.drop 0 = dktX0_setSensor_0 := by decide +kernel
theorem dksX0_setSensor_1 : cX0_setSensor.data.toList.drop 23 = dktX0_setSensor_1 := dk_seg dksX0_setSensor_0 23 rfl rfl
theorem dksX0_setSensor_2 : cX0_setSensor.data.toList.drop 45 = dktX0_setSensor_2 := dk_seg dksX0_setSensor_1 22 rfl rfl
theorem dksX0_setSensor_3 : cX0_setSensor.data.toList.drop 68 = dktX0_setSensor_3 := dk_seg dksX0_setSensor_2 23 rfl rfl
theorem dX0_setSensor_0 : decode cX0_setSensor 0 = .ok (.iload_n 1, 1) := dk_27 (dk_at dksX0_setSensor_0 0 rfl rfl)
theorem dX0_setSensor_1 : decode cX0_setSensor 1 = .ok (.invokestatic 138, 3) := dk_184 0 138 (dk_at dksX0_setSensor_0 1 rfl rfl)
theorem dX0_setSensor_4 : decode cX0_setSensor 4 = .ok (.ifCond .eq 25, 3) := dk_153 0 25 (dk_at dksX0_setSensor_0 4 rfl rfl)
theorem dX0_setSensor_7 : decode cX0_setSensor 7 = .ok (.iload_n 2, 1) := dk_28 (dk_at dksX0_setSensor_0 7 rfl rfl)
theorem dX0_setSensor_8 : decode cX0_setSensor 8 = .ok (.i2l, 1) := dk_133 (dk_at dksX0_setSensor_0 8 rfl rfl)
theorem dX0_setSensor_9 : decode cX0_setSensor 9 = .ok (.lconst 0, 1) := dk_9 (dk_at dksX0_setSensor_0 9 rfl rfl)
theorem dX0_setSensor_10 : decode cX0_setSensor 10 = .ok (.lconst 1, 1) := dk_10 (dk_at dksX0_setSensor_0 10 rfl rfl)
theorem dX0_setSensor_11 : decode cX0_setSensor 11 = .ok (.invokestatic 7, 3) := dk_184 0 7 (dk_at dksX0_setSensor_0 11 rfl rfl)
theorem dX0_setSensor_14 : decode cX0_setSensor 14 = .ok (.ifCond .eq 15, 3) := dk_153 0 15 (dk_at dksX0_setSensor_0 14 rfl rfl)
theorem dX0_setSensor_17 : decode cX0_setSensor 17 = .ok (.iload_n 3, 1) := dk_29 (dk_at dksX0_setSensor_0 17 rfl rfl)
theorem dX0_setSensor_18 : decode cX0_setSensor 18 = .ok (.i2l, 1) := dk_133 (dk_at dksX0_setSensor_0 18 rfl rfl)
theorem dX0_setSensor_19 : decode cX0_setSensor 19 = .ok (.lconst 1, 1) := dk_10 (dk_at dksX0_setSensor_0 19 rfl rfl)
theorem dX0_setSensor_20 : decode cX0_setSensor 20 = .ok (.ldc2_w 76, 3) := dk_20 0 76 (dk_at dksX0_setSensor_0 20 rfl rfl)
theorem dX0_setSensor_23 : decode cX0_setSensor 23 = .ok (.invokestatic 7, 3) := dk_184 0 7 (dk_at dksX0_setSensor_1 0 rfl rfl)
theorem dX0_setSensor_26 : decode cX0_setSensor 26 = .ok (.ifCond .ne 10, 3) := dk_154 0 10 (dk_at dksX0_setSensor_1 3 rfl rfl)
theorem dX0_setSensor_29 : decode cX0_setSensor 29 = .ok (.aload_n 0, 1) := dk_42 (dk_at dksX0_setSensor_1 6 rfl rfl)
theorem dX0_setSensor_30 : decode cX0_setSensor 30 = .ok (.ldc 59, 2) := dk_18 59 (dk_at dksX0_setSensor_1 7 rfl rfl)
theorem dX0_setSensor_32 : decode cX0_setSensor 32 = .ok (.invokevirtual 86, 3) := dk_182 0 86 (dk_at dksX0_setSensor_1 9 rfl rfl)
theorem dX0_setSensor_35 : decode cX0_setSensor 35 = .ok (.ireturn, 1) := dk_172 (dk_at dksX0_setSensor_1 12 rfl rfl)
theorem dX0_setSensor_36 : decode cX0_setSensor 36 = .ok (.aload_n 0, 1) := dk_42 (dk_at dksX0_setSensor_1 13 rfl rfl)
theorem dX0_setSensor_37 : decode cX0_setSensor 37 = .ok (.getfield 35, 3) := dk_180 0 35 (dk_at dksX0_setSensor_1 14 rfl rfl)
theorem dX0_setSensor_40 : decode cX0_setSensor 40 = .ok (.getfield 141, 3) := dk_180 0 141 (dk_at dksX0_setSensor_1 17 rfl rfl)
theorem dX0_setSensor_43 : decode cX0_setSensor 43 = .ok (.iload_n 1, 1) := dk_27 (dk_at dksX0_setSensor_1 20 rfl rfl)
theorem dX0_setSensor_44 : decode cX0_setSensor 44 = .ok (.aaload, 1) := dk_50 (dk_at dksX0_setSensor_1 21 rfl rfl)
theorem dX0_setSensor_45 : decode cX0_setSensor 45 = .ok (.getfield 145, 3) := dk_180 0 145 (dk_at dksX0_setSensor_2 0 rfl rfl)
theorem dX0_setSensor_48 : decode cX0_setSensor 48 = .ok (.istore 4, 2) := dk_54 4 (dk_at dksX0_setSensor_2 3 rfl rfl)
theorem dX0_setSensor_50 : decode cX0_setSensor 50 = .ok (.aload_n 0, 1) := dk_42 (dk_at dksX0_setSensor_2 5 rfl rfl)
theorem dX0_setSensor_51 : decode cX0_setSensor 51 = .ok (.invokevirtual 90, 3) := dk_182 0 90 (dk_at dksX0_setSensor_2 6 rfl rfl)
theorem dX0_setSensor_54 : decode cX0_setSensor 54 = .ok (.getfield 141, 3) := dk_180 0 141 (dk_at dksX0_setSensor_2 9 rfl rfl)
theorem dX0_setSensor_57 : decode cX0_setSensor 57 = .ok (.iload_n 1, 1) := dk_27 (dk_at dksX0_setSensor_2 12 rfl rfl)
theorem dX0_setSensor_58 : decode cX0_setSensor 58 = .ok (.new 146, 3) := dk_187 0 146 (dk_at dksX0_setSensor_2 13 rfl rfl)
theorem dX0_setSensor_61 : decode cX0_setSensor 61 = .ok (.dup, 1) := dk_89 (dk_at dksX0_setSensor_2 16 rfl rfl)
theorem dX0_setSensor_62 : decode cX0_setSensor 62 = .ok (.iload_n 2, 1) := dk_28 (dk_at dksX0_setSensor_2 17 rfl rfl)
theorem dX0_setSensor_63 : decode cX0_setSensor 63 = .ok (.iload_n 3, 1) := dk_29 (dk_at dksX0_setSensor_2 18 rfl rfl)
theorem dX0_setSensor_64 : decode cX0_setSensor 64 = .ok (.invokespecial 150, 3) := dk_183 0 150 (dk_at dksX0_setSensor_2 19 rfl rfl)
theorem dX0_setSensor_67 : decode cX0_setSensor 67 = .ok (.aastore, 1) := dk_83 (dk_at dksX0_setSensor_2 22 rfl rfl)
theorem dX0_setSensor_68 : decode cX0_setSensor 68 = .ok (.iload 4, 2) := dk_21 4 (dk_at dksX0_setSensor_3 0 rfl rfl)
theorem dX0_setSensor_70 : decode cX0_setSensor 70 = .ok (.ireturn, 1) := dk_172 (dk_at dksX0_setSensor_3 2 rfl rfl)
abbrev cX0_isSensor : ByteArray := prog_1_method_9_code
def yX0_isSensor : MethodName := ⟨RX0, "isSensor", "(I)Z"⟩
def dkwX0_isSensor_0 : List UInt8 := [26, 133, 9, 20, 0, 72, 184, 0, 7, 172]
abbrev dktX0_isSensor_0 : List UInt8 := dkwX0_isSensor_0 ++ []
theorem dksX0_isSensor_0 : cX0_isSensor.data.toList.drop 0 = dktX0_isSensor_0 := by decide +kernel
theorem dX0_isSensor_0 : decode cX0_isSensor 0 = .ok (.iload_n 0, 1) := dk_26 (dk_at dksX0_isSensor_0 0 rfl rfl)
theorem dX0_isSensor_1 : decode cX0_isSensor 1 = .ok (.i2l, 1) := dk_133 (dk_at dksX0_isSensor_0 1 rfl rfl)
theorem dX0_isSensor_2 : decode cX0_isSensor 2 = .ok (.lconst 0, 1) := dk_9 (dk_at dksX0_isSensor_0 2 rfl rfl)
theorem dX0_isSensor_3 : decode cX0_isSensor 3 = .ok (.ldc2_w 72, 3) := dk_20 0 72 (dk_at dksX0_isSensor_0 3 rfl rfl)
theorem dX0_isSensor_6 : decode cX0_isSensor 6 = .ok (.invokestatic 7, 3) := dk_184 0 7 (dk_at dksX0_isSensor_0 6 rfl rfl)
theorem dX0_isSensor_9 : decode cX0_isSensor 9 = .ok (.ireturn, 1) := dk_172 (dk_at dksX0_isSensor_0 9 rfl rfl)
abbrev cX0_setGate : ByteArray := prog_1_method_14_code
def yX0_setGate : MethodName := ⟨RX0, "setGate", "(I)I"⟩
def dkwX0_setGate_1 : List UInt8 := [180, 0, 155, 61, 42, 182, 0, 90, 27, 181, 0, 155, 28, 172]
abbrev dktX0_setGate_1 : List UInt8 := dkwX0_setGate_1 ++ []
def dkwX0_setGate_0 : List UInt8 := [27, 133, 9, 20, 0, 153, 184, 0, 7, 154, 0, 10, 42, 18, 59, 182, 0, 86, 172, 42, 180, 0, 35]
abbrev dktX0_setGate_0 : List UInt8 := dkwX0_setGate_0 ++ dktX0_setGate_1
theorem dksX0_setGate_0 : cX0_setGate.data.toList.drop 0 = dktX0_setGate_0 := by decide +kernel
theorem dksX0_setGate_1 : cX0_setGate.data.toList.drop 23 = dktX0_setGate_1 := dk_seg dksX0_setGate_0 23 rfl rfl
theorem dX0_setGate_0 : decode cX0_setGate 0 = .ok (.iload_n 1, 1) := dk_27 (dk_at dksX0_setGate_0 0 rfl rfl)
theorem dX0_setGate_1 : decode cX0_setGate 1 = .ok (.i2l, 1) := dk_133 (dk_at dksX0_setGate_0 1 rfl rfl)
theorem dX0_setGate_2 : decode cX0_setGate 2 = .ok (.lconst 0, 1) := dk_9 (dk_at dksX0_setGate_0 2 rfl rfl)
theorem dX0_setGate_3 : decode cX0_setGate 3 = .ok (.ldc2_w 153, 3) := dk_20 0 153 (dk_at dksX0_setGate_0 3 rfl rfl)
theorem dX0_setGate_6 : decode cX0_setGate 6 = .ok (.invokestatic 7, 3) := dk_184 0 7 (dk_at dksX0_setGate_0 6 rfl rfl)
theorem dX0_setGate_9 : decode cX0_setGate 9 = .ok (.ifCond .ne 10, 3) := dk_154 0 10 (dk_at dksX0_setGate_0 9 rfl rfl)
theorem dX0_setGate_12 : decode cX0_setGate 12 = .ok (.aload_n 0, 1) := dk_42 (dk_at dksX0_setGate_0 12 rfl rfl)
theorem dX0_setGate_13 : decode cX0_setGate 13 = .ok (.ldc 59, 2) := dk_18 59 (dk_at dksX0_setGate_0 13 rfl rfl)
theorem dX0_setGate_15 : decode cX0_setGate 15 = .ok (.invokevirtual 86, 3) := dk_182 0 86 (dk_at dksX0_setGate_0 15 rfl rfl)
theorem dX0_setGate_18 : decode cX0_setGate 18 = .ok (.ireturn, 1) := dk_172 (dk_at dksX0_setGate_0 18 rfl rfl)
theorem dX0_setGate_19 : decode cX0_setGate 19 = .ok (.aload_n 0, 1) := dk_42 (dk_at dksX0_setGate_0 19 rfl rfl)
theorem dX0_setGate_20 : decode cX0_setGate 20 = .ok (.getfield 35, 3) := dk_180 0 35 (dk_at dksX0_setGate_0 20 rfl rfl)
theorem dX0_setGate_23 : decode cX0_setGate 23 = .ok (.getfield 155, 3) := dk_180 0 155 (dk_at dksX0_setGate_1 0 rfl rfl)
theorem dX0_setGate_26 : decode cX0_setGate 26 = .ok (.istore_n 2, 1) := dk_61 (dk_at dksX0_setGate_1 3 rfl rfl)
theorem dX0_setGate_27 : decode cX0_setGate 27 = .ok (.aload_n 0, 1) := dk_42 (dk_at dksX0_setGate_1 4 rfl rfl)
theorem dX0_setGate_28 : decode cX0_setGate 28 = .ok (.invokevirtual 90, 3) := dk_182 0 90 (dk_at dksX0_setGate_1 5 rfl rfl)
theorem dX0_setGate_31 : decode cX0_setGate 31 = .ok (.iload_n 1, 1) := dk_27 (dk_at dksX0_setGate_1 8 rfl rfl)
theorem dX0_setGate_32 : decode cX0_setGate 32 = .ok (.putfield 155, 3) := dk_181 0 155 (dk_at dksX0_setGate_1 9 rfl rfl)
theorem dX0_setGate_35 : decode cX0_setGate 35 = .ok (.iload_n 2, 1) := dk_28 (dk_at dksX0_setGate_1 12 rfl rfl)
theorem dX0_setGate_36 : decode cX0_setGate 36 = .ok (.ireturn, 1) := dk_172 (dk_at dksX0_setGate_1 13 rfl rfl)
abbrev cX0_predict : ByteArray := prog_1_method_15_code
def yX0_predict : MethodName := ⟨RX0, "predict", "(I)I"⟩
def dkwX0_predict_3 : List UInt8 := [180, 0, 100, 180, 0, 111, 172, 77, 42, 18, 166, 182, 0, 86, 172]
abbrev dktX0_predict_3 : List UInt8 := dkwX0_predict_3 ++ []
def dkwX0_predict_2 : List UInt8 := [180, 0, 93, 187, 0, 162, 89, 18, 164, 27, 183, 0, 165, 182, 0, 60, 42, 44, 182, 0, 68, 44]
abbrev dktX0_predict_2 : List UInt8 := dkwX0_predict_2 ++ dktX0_predict_3
def dkwX0_predict_1 : List UInt8 := [180, 0, 35, 182, 0, 64, 77, 44, 180, 0, 100, 27, 44, 180, 0, 135, 44, 180, 0, 132, 182, 0, 158, 44]
abbrev dktX0_predict_1 : List UInt8 := dkwX0_predict_1 ++ dktX0_predict_2
def dkwX0_predict_0 : List UInt8 := [27, 133, 20, 0, 82, 20, 0, 84, 184, 0, 7, 154, 0, 10, 42, 18, 59, 182, 0, 86, 172, 42]
abbrev dktX0_predict_0 : List UInt8 := dkwX0_predict_0 ++ dktX0_predict_1
theorem dksX0_predict_0 : cX0_predict.data.toList.drop 0 = dktX0_predict_0 := by decide +kernel
theorem dksX0_predict_1 : cX0_predict.data.toList.drop 22 = dktX0_predict_1 := dk_seg dksX0_predict_0 22 rfl rfl
theorem dksX0_predict_2 : cX0_predict.data.toList.drop 46 = dktX0_predict_2 := dk_seg dksX0_predict_1 24 rfl rfl
theorem dksX0_predict_3 : cX0_predict.data.toList.drop 68 = dktX0_predict_3 := dk_seg dksX0_predict_2 22 rfl rfl
theorem dX0_predict_0 : decode cX0_predict 0 = .ok (.iload_n 1, 1) := dk_27 (dk_at dksX0_predict_0 0 rfl rfl)
theorem dX0_predict_1 : decode cX0_predict 1 = .ok (.i2l, 1) := dk_133 (dk_at dksX0_predict_0 1 rfl rfl)
theorem dX0_predict_2 : decode cX0_predict 2 = .ok (.ldc2_w 82, 3) := dk_20 0 82 (dk_at dksX0_predict_0 2 rfl rfl)
theorem dX0_predict_5 : decode cX0_predict 5 = .ok (.ldc2_w 84, 3) := dk_20 0 84 (dk_at dksX0_predict_0 5 rfl rfl)
theorem dX0_predict_8 : decode cX0_predict 8 = .ok (.invokestatic 7, 3) := dk_184 0 7 (dk_at dksX0_predict_0 8 rfl rfl)
theorem dX0_predict_11 : decode cX0_predict 11 = .ok (.ifCond .ne 10, 3) := dk_154 0 10 (dk_at dksX0_predict_0 11 rfl rfl)
theorem dX0_predict_14 : decode cX0_predict 14 = .ok (.aload_n 0, 1) := dk_42 (dk_at dksX0_predict_0 14 rfl rfl)
theorem dX0_predict_15 : decode cX0_predict 15 = .ok (.ldc 59, 2) := dk_18 59 (dk_at dksX0_predict_0 15 rfl rfl)
theorem dX0_predict_17 : decode cX0_predict 17 = .ok (.invokevirtual 86, 3) := dk_182 0 86 (dk_at dksX0_predict_0 17 rfl rfl)
theorem dX0_predict_20 : decode cX0_predict 20 = .ok (.ireturn, 1) := dk_172 (dk_at dksX0_predict_0 20 rfl rfl)
theorem dX0_predict_21 : decode cX0_predict 21 = .ok (.aload_n 0, 1) := dk_42 (dk_at dksX0_predict_0 21 rfl rfl)
theorem dX0_predict_22 : decode cX0_predict 22 = .ok (.getfield 35, 3) := dk_180 0 35 (dk_at dksX0_predict_1 0 rfl rfl)
theorem dX0_predict_25 : decode cX0_predict 25 = .ok (.invokevirtual 64, 3) := dk_182 0 64 (dk_at dksX0_predict_1 3 rfl rfl)
theorem dX0_predict_28 : decode cX0_predict 28 = .ok (.astore_n 2, 1) := dk_77 (dk_at dksX0_predict_1 6 rfl rfl)
theorem dX0_predict_29 : decode cX0_predict 29 = .ok (.aload_n 2, 1) := dk_44 (dk_at dksX0_predict_1 7 rfl rfl)
theorem dX0_predict_30 : decode cX0_predict 30 = .ok (.getfield 100, 3) := dk_180 0 100 (dk_at dksX0_predict_1 8 rfl rfl)
theorem dX0_predict_33 : decode cX0_predict 33 = .ok (.iload_n 1, 1) := dk_27 (dk_at dksX0_predict_1 11 rfl rfl)
theorem dX0_predict_34 : decode cX0_predict 34 = .ok (.aload_n 2, 1) := dk_44 (dk_at dksX0_predict_1 12 rfl rfl)
theorem dX0_predict_35 : decode cX0_predict 35 = .ok (.getfield 135, 3) := dk_180 0 135 (dk_at dksX0_predict_1 13 rfl rfl)
theorem dX0_predict_38 : decode cX0_predict 38 = .ok (.aload_n 2, 1) := dk_44 (dk_at dksX0_predict_1 16 rfl rfl)
theorem dX0_predict_39 : decode cX0_predict 39 = .ok (.getfield 132, 3) := dk_180 0 132 (dk_at dksX0_predict_1 17 rfl rfl)
theorem dX0_predict_42 : decode cX0_predict 42 = .ok (.invokevirtual 158, 3) := dk_182 0 158 (dk_at dksX0_predict_1 20 rfl rfl)
theorem dX0_predict_45 : decode cX0_predict 45 = .ok (.aload_n 2, 1) := dk_44 (dk_at dksX0_predict_1 23 rfl rfl)
theorem dX0_predict_46 : decode cX0_predict 46 = .ok (.getfield 93, 3) := dk_180 0 93 (dk_at dksX0_predict_2 0 rfl rfl)
theorem dX0_predict_49 : decode cX0_predict 49 = .ok (.new 162, 3) := dk_187 0 162 (dk_at dksX0_predict_2 3 rfl rfl)
theorem dX0_predict_52 : decode cX0_predict 52 = .ok (.dup, 1) := dk_89 (dk_at dksX0_predict_2 6 rfl rfl)
theorem dX0_predict_53 : decode cX0_predict 53 = .ok (.ldc 164, 2) := dk_18 164 (dk_at dksX0_predict_2 7 rfl rfl)
theorem dX0_predict_55 : decode cX0_predict 55 = .ok (.iload_n 1, 1) := dk_27 (dk_at dksX0_predict_2 9 rfl rfl)
theorem dX0_predict_56 : decode cX0_predict 56 = .ok (.invokespecial 165, 3) := dk_183 0 165 (dk_at dksX0_predict_2 10 rfl rfl)
theorem dX0_predict_59 : decode cX0_predict 59 = .ok (.invokevirtual 60, 3) := dk_182 0 60 (dk_at dksX0_predict_2 13 rfl rfl)
theorem dX0_predict_62 : decode cX0_predict 62 = .ok (.aload_n 0, 1) := dk_42 (dk_at dksX0_predict_2 16 rfl rfl)
theorem dX0_predict_63 : decode cX0_predict 63 = .ok (.aload_n 2, 1) := dk_44 (dk_at dksX0_predict_2 17 rfl rfl)
theorem dX0_predict_64 : decode cX0_predict 64 = .ok (.invokevirtual 68, 3) := dk_182 0 68 (dk_at dksX0_predict_2 18 rfl rfl)
theorem dX0_predict_67 : decode cX0_predict 67 = .ok (.aload_n 2, 1) := dk_44 (dk_at dksX0_predict_2 21 rfl rfl)
theorem dX0_predict_68 : decode cX0_predict 68 = .ok (.getfield 100, 3) := dk_180 0 100 (dk_at dksX0_predict_3 0 rfl rfl)
theorem dX0_predict_71 : decode cX0_predict 71 = .ok (.getfield 111, 3) := dk_180 0 111 (dk_at dksX0_predict_3 3 rfl rfl)
theorem dX0_predict_74 : decode cX0_predict 74 = .ok (.ireturn, 1) := dk_172 (dk_at dksX0_predict_3 6 rfl rfl)
theorem dX0_predict_75 : decode cX0_predict 75 = .ok (.astore_n 2, 1) := dk_77 (dk_at dksX0_predict_3 7 rfl rfl)
theorem dX0_predict_76 : decode cX0_predict 76 = .ok (.aload_n 0, 1) := dk_42 (dk_at dksX0_predict_3 8 rfl rfl)
theorem dX0_predict_77 : decode cX0_predict 77 = .ok (.ldc 166, 2) := dk_18 166 (dk_at dksX0_predict_3 9 rfl rfl)
theorem dX0_predict_79 : decode cX0_predict 79 = .ok (.invokevirtual 86, 3) := dk_182 0 86 (dk_at dksX0_predict_3 11 rfl rfl)
theorem dX0_predict_82 : decode cX0_predict 82 = .ok (.ireturn, 1) := dk_172 (dk_at dksX0_predict_3 14 rfl rfl)
abbrev cX0_limited : ByteArray := prog_1_method_2_code
def yX0_limited : MethodName := ⟨RX0, "limited", "(J)I"⟩
def dkwX0_limited_0 : List UInt8 := [30, 20, 0, 3, 20, 0, 5, 184, 0, 7, 154, 0, 11, 187, 0, 11, 89, 183, 0, 13, 191, 30, 136, 172]
abbrev dktX0_limited_0 : List UInt8 := dkwX0_limited_0 ++ []
theorem dksX0_limited_0 : cX0_limited.data.toList.drop 0 = dktX0_limited_0 := by decide +kernel
theorem dX0_limited_0 : decode cX0_limited 0 = .ok (.lload_n 0, 1) := dk_30 (dk_at dksX0_limited_0 0 rfl rfl)
theorem dX0_limited_1 : decode cX0_limited 1 = .ok (.ldc2_w 3, 3) := dk_20 0 3 (dk_at dksX0_limited_0 1 rfl rfl)
theorem dX0_limited_4 : decode cX0_limited 4 = .ok (.ldc2_w 5, 3) := dk_20 0 5 (dk_at dksX0_limited_0 4 rfl rfl)
theorem dX0_limited_7 : decode cX0_limited 7 = .ok (.invokestatic 7, 3) := dk_184 0 7 (dk_at dksX0_limited_0 7 rfl rfl)
theorem dX0_limited_10 : decode cX0_limited 10 = .ok (.ifCond .ne 11, 3) := dk_154 0 11 (dk_at dksX0_limited_0 10 rfl rfl)
theorem dX0_limited_13 : decode cX0_limited 13 = .ok (.new 11, 3) := dk_187 0 11 (dk_at dksX0_limited_0 13 rfl rfl)
theorem dX0_limited_16 : decode cX0_limited 16 = .ok (.dup, 1) := dk_89 (dk_at dksX0_limited_0 16 rfl rfl)
theorem dX0_limited_17 : decode cX0_limited 17 = .ok (.invokespecial 13, 3) := dk_183 0 13 (dk_at dksX0_limited_0 17 rfl rfl)
theorem dX0_limited_20 : decode cX0_limited 20 = .ok (.athrow, 1) := dk_191 (dk_at dksX0_limited_0 20 rfl rfl)
theorem dX0_limited_21 : decode cX0_limited 21 = .ok (.lload_n 0, 1) := dk_30 (dk_at dksX0_limited_0 21 rfl rfl)
theorem dX0_limited_22 : decode cX0_limited 22 = .ok (.l2i, 1) := dk_136 (dk_at dksX0_limited_0 22 rfl rfl)
theorem dX0_limited_23 : decode cX0_limited 23 = .ok (.ireturn, 1) := dk_172 (dk_at dksX0_limited_0 23 rfl rfl)
abbrev cX0_correct : ByteArray := prog_1_method_16_code
def yX0_correct : MethodName := ⟨RX0, "correct", "(II)I"⟩
def dkwX0_correct_5 : List UInt8 := [167, 0, 4, 3, 172, 78, 42, 18, 166, 182, 0, 86, 172]
abbrev dktX0_correct_5 : List UInt8 := dkwX0_correct_5 ++ []
def dkwX0_correct_4 : List UInt8 := [187, 0, 162, 89, 27, 28, 183, 0, 165, 182, 0, 60, 42, 45, 182, 0, 68, 21, 4, 153, 0, 7, 4]
abbrev dktX0_correct_4 : List UInt8 := dkwX0_correct_4 ++ dktX0_correct_5
def dkwX0_correct_3 : List UInt8 := [45, 89, 180, 0, 126, 21, 4, 153, 0, 7, 3, 167, 0, 4, 4, 96, 181, 0, 126, 45, 180, 0, 93]
abbrev dktX0_correct_3 : List UInt8 := dkwX0_correct_3 ++ dktX0_correct_4
def dkwX0_correct_2 : List UInt8 := [182, 0, 167, 54, 4, 45, 89, 180, 0, 123, 21, 4, 153, 0, 7, 4, 167, 0, 4, 3, 96, 181, 0, 123]
abbrev dktX0_correct_2 : List UInt8 := dkwX0_correct_2 ++ dktX0_correct_3
def dkwX0_correct_1 : List UInt8 := [180, 0, 35, 182, 0, 64, 78, 45, 180, 0, 100, 45, 180, 0, 141, 27, 50, 28, 45, 180, 0, 155]
abbrev dktX0_correct_1 : List UInt8 := dkwX0_correct_1 ++ dktX0_correct_2
def dkwX0_correct_0 : List UInt8 := [27, 184, 0, 138, 153, 0, 10, 28, 184, 0, 78, 154, 0, 10, 42, 18, 59, 182, 0, 86, 172, 42]
abbrev dktX0_correct_0 : List UInt8 := dkwX0_correct_0 ++ dktX0_correct_1
theorem dksX0_correct_0 : cX0_correct.data.toList.drop 0 = dktX0_correct_0 := by decide +kernel
theorem dksX0_correct_1 : cX0_correct.data.toList.drop 22 = dktX0_correct_1 := dk_seg dksX0_correct_0 22 rfl rfl
theorem dksX0_correct_2 : cX0_correct.data.toList.drop 44 = dktX0_correct_2 := dk_seg dksX0_correct_1 22 rfl rfl
theorem dksX0_correct_3 : cX0_correct.data.toList.drop 68 = dktX0_correct_3 := dk_seg dksX0_correct_2 24 rfl rfl
theorem dksX0_correct_4 : cX0_correct.data.toList.drop 91 = dktX0_correct_4 := dk_seg dksX0_correct_3 23 rfl rfl
theorem dksX0_correct_5 : cX0_correct.data.toList.drop 114 = dktX0_correct_5 := dk_seg dksX0_correct_4 23 rfl rfl
theorem dX0_correct_0 : decode cX0_correct 0 = .ok (.iload_n 1, 1) := dk_27 (dk_at dksX0_correct_0 0 rfl rfl)
theorem dX0_correct_1 : decode cX0_correct 1 = .ok (.invokestatic 138, 3) := dk_184 0 138 (dk_at dksX0_correct_0 1 rfl rfl)
theorem dX0_correct_4 : decode cX0_correct 4 = .ok (.ifCond .eq 10, 3) := dk_153 0 10 (dk_at dksX0_correct_0 4 rfl rfl)
theorem dX0_correct_7 : decode cX0_correct 7 = .ok (.iload_n 2, 1) := dk_28 (dk_at dksX0_correct_0 7 rfl rfl)
theorem dX0_correct_8 : decode cX0_correct 8 = .ok (.invokestatic 78, 3) := dk_184 0 78 (dk_at dksX0_correct_0 8 rfl rfl)
theorem dX0_correct_11 : decode cX0_correct 11 = .ok (.ifCond .ne 10, 3) := dk_154 0 10 (dk_at dksX0_correct_0 11 rfl rfl)
theorem dX0_correct_14 : decode cX0_correct 14 = .ok (.aload_n 0, 1) := dk_42 (dk_at dksX0_correct_0 14 rfl rfl)
theorem dX0_correct_15 : decode cX0_correct 15 = .ok (.ldc 59, 2) := dk_18 59 (dk_at dksX0_correct_0 15 rfl rfl)
theorem dX0_correct_17 : decode cX0_correct 17 = .ok (.invokevirtual 86, 3) := dk_182 0 86 (dk_at dksX0_correct_0 17 rfl rfl)
theorem dX0_correct_20 : decode cX0_correct 20 = .ok (.ireturn, 1) := dk_172 (dk_at dksX0_correct_0 20 rfl rfl)
theorem dX0_correct_21 : decode cX0_correct 21 = .ok (.aload_n 0, 1) := dk_42 (dk_at dksX0_correct_0 21 rfl rfl)
theorem dX0_correct_22 : decode cX0_correct 22 = .ok (.getfield 35, 3) := dk_180 0 35 (dk_at dksX0_correct_1 0 rfl rfl)
theorem dX0_correct_25 : decode cX0_correct 25 = .ok (.invokevirtual 64, 3) := dk_182 0 64 (dk_at dksX0_correct_1 3 rfl rfl)
theorem dX0_correct_28 : decode cX0_correct 28 = .ok (.astore_n 3, 1) := dk_78 (dk_at dksX0_correct_1 6 rfl rfl)
theorem dX0_correct_29 : decode cX0_correct 29 = .ok (.aload_n 3, 1) := dk_45 (dk_at dksX0_correct_1 7 rfl rfl)
theorem dX0_correct_30 : decode cX0_correct 30 = .ok (.getfield 100, 3) := dk_180 0 100 (dk_at dksX0_correct_1 8 rfl rfl)
theorem dX0_correct_33 : decode cX0_correct 33 = .ok (.aload_n 3, 1) := dk_45 (dk_at dksX0_correct_1 11 rfl rfl)
theorem dX0_correct_34 : decode cX0_correct 34 = .ok (.getfield 141, 3) := dk_180 0 141 (dk_at dksX0_correct_1 12 rfl rfl)
theorem dX0_correct_37 : decode cX0_correct 37 = .ok (.iload_n 1, 1) := dk_27 (dk_at dksX0_correct_1 15 rfl rfl)
theorem dX0_correct_38 : decode cX0_correct 38 = .ok (.aaload, 1) := dk_50 (dk_at dksX0_correct_1 16 rfl rfl)
theorem dX0_correct_39 : decode cX0_correct 39 = .ok (.iload_n 2, 1) := dk_28 (dk_at dksX0_correct_1 17 rfl rfl)
theorem dX0_correct_40 : decode cX0_correct 40 = .ok (.aload_n 3, 1) := dk_45 (dk_at dksX0_correct_1 18 rfl rfl)
theorem dX0_correct_41 : decode cX0_correct 41 = .ok (.getfield 155, 3) := dk_180 0 155 (dk_at dksX0_correct_1 19 rfl rfl)
theorem dX0_correct_44 : decode cX0_correct 44 = .ok (.invokevirtual 167, 3) := dk_182 0 167 (dk_at dksX0_correct_2 0 rfl rfl)
theorem dX0_correct_47 : decode cX0_correct 47 = .ok (.istore 4, 2) := dk_54 4 (dk_at dksX0_correct_2 3 rfl rfl)
theorem dX0_correct_49 : decode cX0_correct 49 = .ok (.aload_n 3, 1) := dk_45 (dk_at dksX0_correct_2 5 rfl rfl)
theorem dX0_correct_50 : decode cX0_correct 50 = .ok (.dup, 1) := dk_89 (dk_at dksX0_correct_2 6 rfl rfl)
theorem dX0_correct_51 : decode cX0_correct 51 = .ok (.getfield 123, 3) := dk_180 0 123 (dk_at dksX0_correct_2 7 rfl rfl)
theorem dX0_correct_54 : decode cX0_correct 54 = .ok (.iload 4, 2) := dk_21 4 (dk_at dksX0_correct_2 10 rfl rfl)
theorem dX0_correct_56 : decode cX0_correct 56 = .ok (.ifCond .eq 7, 3) := dk_153 0 7 (dk_at dksX0_correct_2 12 rfl rfl)
theorem dX0_correct_59 : decode cX0_correct 59 = .ok (.iconst 1, 1) := dk_4 (dk_at dksX0_correct_2 15 rfl rfl)
theorem dX0_correct_60 : decode cX0_correct 60 = .ok (.goto 4, 3) := dk_167 0 4 (dk_at dksX0_correct_2 16 rfl rfl)
theorem dX0_correct_63 : decode cX0_correct 63 = .ok (.iconst 0, 1) := dk_3 (dk_at dksX0_correct_2 19 rfl rfl)
theorem dX0_correct_64 : decode cX0_correct 64 = .ok (.iadd, 1) := dk_96 (dk_at dksX0_correct_2 20 rfl rfl)
theorem dX0_correct_65 : decode cX0_correct 65 = .ok (.putfield 123, 3) := dk_181 0 123 (dk_at dksX0_correct_2 21 rfl rfl)
theorem dX0_correct_68 : decode cX0_correct 68 = .ok (.aload_n 3, 1) := dk_45 (dk_at dksX0_correct_3 0 rfl rfl)
theorem dX0_correct_69 : decode cX0_correct 69 = .ok (.dup, 1) := dk_89 (dk_at dksX0_correct_3 1 rfl rfl)
theorem dX0_correct_70 : decode cX0_correct 70 = .ok (.getfield 126, 3) := dk_180 0 126 (dk_at dksX0_correct_3 2 rfl rfl)
theorem dX0_correct_73 : decode cX0_correct 73 = .ok (.iload 4, 2) := dk_21 4 (dk_at dksX0_correct_3 5 rfl rfl)
theorem dX0_correct_75 : decode cX0_correct 75 = .ok (.ifCond .eq 7, 3) := dk_153 0 7 (dk_at dksX0_correct_3 7 rfl rfl)
theorem dX0_correct_78 : decode cX0_correct 78 = .ok (.iconst 0, 1) := dk_3 (dk_at dksX0_correct_3 10 rfl rfl)
theorem dX0_correct_79 : decode cX0_correct 79 = .ok (.goto 4, 3) := dk_167 0 4 (dk_at dksX0_correct_3 11 rfl rfl)
theorem dX0_correct_82 : decode cX0_correct 82 = .ok (.iconst 1, 1) := dk_4 (dk_at dksX0_correct_3 14 rfl rfl)
theorem dX0_correct_83 : decode cX0_correct 83 = .ok (.iadd, 1) := dk_96 (dk_at dksX0_correct_3 15 rfl rfl)
theorem dX0_correct_84 : decode cX0_correct 84 = .ok (.putfield 126, 3) := dk_181 0 126 (dk_at dksX0_correct_3 16 rfl rfl)
theorem dX0_correct_87 : decode cX0_correct 87 = .ok (.aload_n 3, 1) := dk_45 (dk_at dksX0_correct_3 19 rfl rfl)
theorem dX0_correct_88 : decode cX0_correct 88 = .ok (.getfield 93, 3) := dk_180 0 93 (dk_at dksX0_correct_3 20 rfl rfl)
theorem dX0_correct_91 : decode cX0_correct 91 = .ok (.new 162, 3) := dk_187 0 162 (dk_at dksX0_correct_4 0 rfl rfl)
theorem dX0_correct_94 : decode cX0_correct 94 = .ok (.dup, 1) := dk_89 (dk_at dksX0_correct_4 3 rfl rfl)
theorem dX0_correct_95 : decode cX0_correct 95 = .ok (.iload_n 1, 1) := dk_27 (dk_at dksX0_correct_4 4 rfl rfl)
theorem dX0_correct_96 : decode cX0_correct 96 = .ok (.iload_n 2, 1) := dk_28 (dk_at dksX0_correct_4 5 rfl rfl)
theorem dX0_correct_97 : decode cX0_correct 97 = .ok (.invokespecial 165, 3) := dk_183 0 165 (dk_at dksX0_correct_4 6 rfl rfl)
theorem dX0_correct_100 : decode cX0_correct 100 = .ok (.invokevirtual 60, 3) := dk_182 0 60 (dk_at dksX0_correct_4 9 rfl rfl)
theorem dX0_correct_103 : decode cX0_correct 103 = .ok (.aload_n 0, 1) := dk_42 (dk_at dksX0_correct_4 12 rfl rfl)
theorem dX0_correct_104 : decode cX0_correct 104 = .ok (.aload_n 3, 1) := dk_45 (dk_at dksX0_correct_4 13 rfl rfl)
theorem dX0_correct_105 : decode cX0_correct 105 = .ok (.invokevirtual 68, 3) := dk_182 0 68 (dk_at dksX0_correct_4 14 rfl rfl)
theorem dX0_correct_108 : decode cX0_correct 108 = .ok (.iload 4, 2) := dk_21 4 (dk_at dksX0_correct_4 17 rfl rfl)
theorem dX0_correct_110 : decode cX0_correct 110 = .ok (.ifCond .eq 7, 3) := dk_153 0 7 (dk_at dksX0_correct_4 19 rfl rfl)
theorem dX0_correct_113 : decode cX0_correct 113 = .ok (.iconst 1, 1) := dk_4 (dk_at dksX0_correct_4 22 rfl rfl)
theorem dX0_correct_114 : decode cX0_correct 114 = .ok (.goto 4, 3) := dk_167 0 4 (dk_at dksX0_correct_5 0 rfl rfl)
theorem dX0_correct_117 : decode cX0_correct 117 = .ok (.iconst 0, 1) := dk_3 (dk_at dksX0_correct_5 3 rfl rfl)
theorem dX0_correct_118 : decode cX0_correct 118 = .ok (.ireturn, 1) := dk_172 (dk_at dksX0_correct_5 4 rfl rfl)
theorem dX0_correct_119 : decode cX0_correct 119 = .ok (.astore_n 3, 1) := dk_78 (dk_at dksX0_correct_5 5 rfl rfl)
theorem dX0_correct_120 : decode cX0_correct 120 = .ok (.aload_n 0, 1) := dk_42 (dk_at dksX0_correct_5 6 rfl rfl)
theorem dX0_correct_121 : decode cX0_correct 121 = .ok (.ldc 166, 2) := dk_18 166 (dk_at dksX0_correct_5 7 rfl rfl)
theorem dX0_correct_123 : decode cX0_correct 123 = .ok (.invokevirtual 86, 3) := dk_182 0 86 (dk_at dksX0_correct_5 9 rfl rfl)
theorem dX0_correct_126 : decode cX0_correct 126 = .ok (.ireturn, 1) := dk_172 (dk_at dksX0_correct_5 12 rfl rfl)
abbrev cX0_div : ByteArray := prog_1_method_4_code
def yX0_div : MethodName := ⟨RX0, "div", "(JJ)J"⟩
def dkwX0_div_0 : List UInt8 := [30, 20, 0, 19, 105, 32, 20, 0, 27, 109, 97, 32, 184, 0, 21, 173]
abbrev dktX0_div_0 : List UInt8 := dkwX0_div_0 ++ []
theorem dksX0_div_0 : cX0_div.data.toList.drop 0 = dktX0_div_0 := by decide +kernel
theorem dX0_div_0 : decode cX0_div 0 = .ok (.lload_n 0, 1) := dk_30 (dk_at dksX0_div_0 0 rfl rfl)
theorem dX0_div_1 : decode cX0_div 1 = .ok (.ldc2_w 19, 3) := dk_20 0 19 (dk_at dksX0_div_0 1 rfl rfl)
theorem dX0_div_4 : decode cX0_div 4 = .ok (.lmul, 1) := dk_105 (dk_at dksX0_div_0 4 rfl rfl)
theorem dX0_div_5 : decode cX0_div 5 = .ok (.lload_n 2, 1) := dk_32 (dk_at dksX0_div_0 5 rfl rfl)
theorem dX0_div_6 : decode cX0_div 6 = .ok (.ldc2_w 27, 3) := dk_20 0 27 (dk_at dksX0_div_0 6 rfl rfl)
theorem dX0_div_9 : decode cX0_div 9 = .ok (.ldiv, 1) := dk_109 (dk_at dksX0_div_0 9 rfl rfl)
theorem dX0_div_10 : decode cX0_div 10 = .ok (.ladd, 1) := dk_97 (dk_at dksX0_div_0 10 rfl rfl)
theorem dX0_div_11 : decode cX0_div 11 = .ok (.lload_n 2, 1) := dk_32 (dk_at dksX0_div_0 11 rfl rfl)
theorem dX0_div_12 : decode cX0_div 12 = .ok (.invokestatic 21, 3) := dk_184 0 21 (dk_at dksX0_div_0 12 rfl rfl)
theorem dX0_div_15 : decode cX0_div 15 = .ok (.lreturn, 1) := dk_173 (dk_at dksX0_div_0 15 rfl rfl)
abbrev cX0_mul : ByteArray := prog_1_method_3_code
def yX0_mul : MethodName := ⟨RX0, "mul", "(JJ)J"⟩
def dkwX0_mul_0 : List UInt8 := [30, 32, 105, 20, 0, 17, 97, 20, 0, 19, 184, 0, 21, 173]
abbrev dktX0_mul_0 : List UInt8 := dkwX0_mul_0 ++ []
theorem dksX0_mul_0 : cX0_mul.data.toList.drop 0 = dktX0_mul_0 := by decide +kernel
theorem dX0_mul_0 : decode cX0_mul 0 = .ok (.lload_n 0, 1) := dk_30 (dk_at dksX0_mul_0 0 rfl rfl)
theorem dX0_mul_1 : decode cX0_mul 1 = .ok (.lload_n 2, 1) := dk_32 (dk_at dksX0_mul_0 1 rfl rfl)
theorem dX0_mul_2 : decode cX0_mul 2 = .ok (.lmul, 1) := dk_105 (dk_at dksX0_mul_0 2 rfl rfl)
theorem dX0_mul_3 : decode cX0_mul 3 = .ok (.ldc2_w 17, 3) := dk_20 0 17 (dk_at dksX0_mul_0 3 rfl rfl)
theorem dX0_mul_6 : decode cX0_mul 6 = .ok (.ladd, 1) := dk_97 (dk_at dksX0_mul_0 6 rfl rfl)
theorem dX0_mul_7 : decode cX0_mul 7 = .ok (.ldc2_w 19, 3) := dk_20 0 19 (dk_at dksX0_mul_0 7 rfl rfl)
theorem dX0_mul_10 : decode cX0_mul 10 = .ok (.invokestatic 21, 3) := dk_184 0 21 (dk_at dksX0_mul_0 10 rfl rfl)
theorem dX0_mul_13 : decode cX0_mul 13 = .ok (.lreturn, 1) := dk_173 (dk_at dksX0_mul_0 13 rfl rfl)
abbrev cX0_miss : ByteArray := prog_1_method_17_code
def yX0_miss : MethodName := ⟨RX0, "miss", "(I)I"⟩
def dkwX0_miss_1 : List UInt8 := [4, 96, 181, 0, 129, 44, 180, 0, 129, 172]
abbrev dktX0_miss_1 : List UInt8 := dkwX0_miss_1 ++ []
def dkwX0_miss_0 : List UInt8 := [27, 184, 0, 138, 154, 0, 10, 42, 18, 59, 182, 0, 86, 172, 42, 182, 0, 90, 77, 44, 89, 180, 0, 129]
abbrev dktX0_miss_0 : List UInt8 := dkwX0_miss_0 ++ dktX0_miss_1
theorem dksX0_miss_0 : cX0_miss.data.toList.drop 0 = dktX0_miss_0 := by decide +kernel
theorem dksX0_miss_1 : cX0_miss.data.toList.drop 24 = dktX0_miss_1 := dk_seg dksX0_miss_0 24 rfl rfl
theorem dX0_miss_0 : decode cX0_miss 0 = .ok (.iload_n 1, 1) := dk_27 (dk_at dksX0_miss_0 0 rfl rfl)
theorem dX0_miss_1 : decode cX0_miss 1 = .ok (.invokestatic 138, 3) := dk_184 0 138 (dk_at dksX0_miss_0 1 rfl rfl)
theorem dX0_miss_4 : decode cX0_miss 4 = .ok (.ifCond .ne 10, 3) := dk_154 0 10 (dk_at dksX0_miss_0 4 rfl rfl)
theorem dX0_miss_7 : decode cX0_miss 7 = .ok (.aload_n 0, 1) := dk_42 (dk_at dksX0_miss_0 7 rfl rfl)
theorem dX0_miss_8 : decode cX0_miss 8 = .ok (.ldc 59, 2) := dk_18 59 (dk_at dksX0_miss_0 8 rfl rfl)
theorem dX0_miss_10 : decode cX0_miss 10 = .ok (.invokevirtual 86, 3) := dk_182 0 86 (dk_at dksX0_miss_0 10 rfl rfl)
theorem dX0_miss_13 : decode cX0_miss 13 = .ok (.ireturn, 1) := dk_172 (dk_at dksX0_miss_0 13 rfl rfl)
theorem dX0_miss_14 : decode cX0_miss 14 = .ok (.aload_n 0, 1) := dk_42 (dk_at dksX0_miss_0 14 rfl rfl)
theorem dX0_miss_15 : decode cX0_miss 15 = .ok (.invokevirtual 90, 3) := dk_182 0 90 (dk_at dksX0_miss_0 15 rfl rfl)
theorem dX0_miss_18 : decode cX0_miss 18 = .ok (.astore_n 2, 1) := dk_77 (dk_at dksX0_miss_0 18 rfl rfl)
theorem dX0_miss_19 : decode cX0_miss 19 = .ok (.aload_n 2, 1) := dk_44 (dk_at dksX0_miss_0 19 rfl rfl)
theorem dX0_miss_20 : decode cX0_miss 20 = .ok (.dup, 1) := dk_89 (dk_at dksX0_miss_0 20 rfl rfl)
theorem dX0_miss_21 : decode cX0_miss 21 = .ok (.getfield 129, 3) := dk_180 0 129 (dk_at dksX0_miss_0 21 rfl rfl)
theorem dX0_miss_24 : decode cX0_miss 24 = .ok (.iconst 1, 1) := dk_4 (dk_at dksX0_miss_1 0 rfl rfl)
theorem dX0_miss_25 : decode cX0_miss 25 = .ok (.iadd, 1) := dk_96 (dk_at dksX0_miss_1 1 rfl rfl)
theorem dX0_miss_26 : decode cX0_miss 26 = .ok (.putfield 129, 3) := dk_181 0 129 (dk_at dksX0_miss_1 2 rfl rfl)
theorem dX0_miss_29 : decode cX0_miss 29 = .ok (.aload_n 2, 1) := dk_44 (dk_at dksX0_miss_1 5 rfl rfl)
theorem dX0_miss_30 : decode cX0_miss 30 = .ok (.getfield 129, 3) := dk_180 0 129 (dk_at dksX0_miss_1 6 rfl rfl)
theorem dX0_miss_33 : decode cX0_miss 33 = .ok (.ireturn, 1) := dk_172 (dk_at dksX0_miss_1 9 rfl rfl)
abbrev cX0_level : ByteArray := prog_1_method_18_code
def yX0_level : MethodName := ⟨RX0, "level", "()I"⟩
def dkwX0_level_0 : List UInt8 := [42, 180, 0, 35, 180, 0, 100, 180, 0, 111, 172]
abbrev dktX0_level_0 : List UInt8 := dkwX0_level_0 ++ []
theorem dksX0_level_0 : cX0_level.data.toList.drop 0 = dktX0_level_0 := by decide +kernel
theorem dX0_level_0 : decode cX0_level 0 = .ok (.aload_n 0, 1) := dk_42 (dk_at dksX0_level_0 0 rfl rfl)
theorem dX0_level_1 : decode cX0_level 1 = .ok (.getfield 35, 3) := dk_180 0 35 (dk_at dksX0_level_0 1 rfl rfl)
theorem dX0_level_4 : decode cX0_level 4 = .ok (.getfield 100, 3) := dk_180 0 100 (dk_at dksX0_level_0 4 rfl rfl)
theorem dX0_level_7 : decode cX0_level 7 = .ok (.getfield 111, 3) := dk_180 0 111 (dk_at dksX0_level_0 7 rfl rfl)
theorem dX0_level_10 : decode cX0_level 10 = .ok (.ireturn, 1) := dk_172 (dk_at dksX0_level_0 10 rfl rfl)
abbrev cX0_flow : ByteArray := prog_1_method_19_code
def yX0_flow : MethodName := ⟨RX0, "flow", "()I"⟩
def dkwX0_flow_0 : List UInt8 := [42, 180, 0, 35, 180, 0, 100, 180, 0, 114, 172]
abbrev dktX0_flow_0 : List UInt8 := dkwX0_flow_0 ++ []
theorem dksX0_flow_0 : cX0_flow.data.toList.drop 0 = dktX0_flow_0 := by decide +kernel
theorem dX0_flow_0 : decode cX0_flow 0 = .ok (.aload_n 0, 1) := dk_42 (dk_at dksX0_flow_0 0 rfl rfl)
theorem dX0_flow_1 : decode cX0_flow 1 = .ok (.getfield 35, 3) := dk_180 0 35 (dk_at dksX0_flow_0 1 rfl rfl)
theorem dX0_flow_4 : decode cX0_flow 4 = .ok (.getfield 100, 3) := dk_180 0 100 (dk_at dksX0_flow_0 4 rfl rfl)
theorem dX0_flow_7 : decode cX0_flow 7 = .ok (.getfield 114, 3) := dk_180 0 114 (dk_at dksX0_flow_0 7 rfl rfl)
theorem dX0_flow_10 : decode cX0_flow 10 = .ok (.ireturn, 1) := dk_172 (dk_at dksX0_flow_0 10 rfl rfl)
abbrev cX0_levelVariance : ByteArray := prog_1_method_20_code
def yX0_levelVariance : MethodName := ⟨RX0, "levelVariance", "()I"⟩
def dkwX0_levelVariance_0 : List UInt8 := [42, 180, 0, 35, 180, 0, 100, 180, 0, 117, 172]
abbrev dktX0_levelVariance_0 : List UInt8 := dkwX0_levelVariance_0 ++ []
theorem dksX0_levelVariance_0 : cX0_levelVariance.data.toList.drop 0 = dktX0_levelVariance_0 := by decide +kernel
theorem dX0_levelVariance_0 : decode cX0_levelVariance 0 = .ok (.aload_n 0, 1) := dk_42 (dk_at dksX0_levelVariance_0 0 rfl rfl)
theorem dX0_levelVariance_1 : decode cX0_levelVariance 1 = .ok (.getfield 35, 3) := dk_180 0 35 (dk_at dksX0_levelVariance_0 1 rfl rfl)
theorem dX0_levelVariance_4 : decode cX0_levelVariance 4 = .ok (.getfield 100, 3) := dk_180 0 100 (dk_at dksX0_levelVariance_0 4 rfl rfl)
theorem dX0_levelVariance_7 : decode cX0_levelVariance 7 = .ok (.getfield 117, 3) := dk_180 0 117 (dk_at dksX0_levelVariance_0 7 rfl rfl)
theorem dX0_levelVariance_10 : decode cX0_levelVariance 10 = .ok (.ireturn, 1) := dk_172 (dk_at dksX0_levelVariance_0 10 rfl rfl)
abbrev cX0_covariance : ByteArray := prog_1_method_21_code
def yX0_covariance : MethodName := ⟨RX0, "covariance", "()I"⟩
def dkwX0_covariance_0 : List UInt8 := [42, 180, 0, 35, 180, 0, 100, 180, 0, 171, 172]
abbrev dktX0_covariance_0 : List UInt8 := dkwX0_covariance_0 ++ []
theorem dksX0_covariance_0 : cX0_covariance.data.toList.drop 0 = dktX0_covariance_0 := by decide +kernel
theorem dX0_covariance_0 : decode cX0_covariance 0 = .ok (.aload_n 0, 1) := dk_42 (dk_at dksX0_covariance_0 0 rfl rfl)
theorem dX0_covariance_1 : decode cX0_covariance 1 = .ok (.getfield 35, 3) := dk_180 0 35 (dk_at dksX0_covariance_0 1 rfl rfl)
theorem dX0_covariance_4 : decode cX0_covariance 4 = .ok (.getfield 100, 3) := dk_180 0 100 (dk_at dksX0_covariance_0 4 rfl rfl)
theorem dX0_covariance_7 : decode cX0_covariance 7 = .ok (.getfield 171, 3) := dk_180 0 171 (dk_at dksX0_covariance_0 7 rfl rfl)
theorem dX0_covariance_10 : decode cX0_covariance 10 = .ok (.ireturn, 1) := dk_172 (dk_at dksX0_covariance_0 10 rfl rfl)
abbrev cX0_flowVariance : ByteArray := prog_1_method_22_code
def yX0_flowVariance : MethodName := ⟨RX0, "flowVariance", "()I"⟩
def dkwX0_flowVariance_0 : List UInt8 := [42, 180, 0, 35, 180, 0, 100, 180, 0, 120, 172]
abbrev dktX0_flowVariance_0 : List UInt8 := dkwX0_flowVariance_0 ++ []
theorem dksX0_flowVariance_0 : cX0_flowVariance.data.toList.drop 0 = dktX0_flowVariance_0 := by decide +kernel
theorem dX0_flowVariance_0 : decode cX0_flowVariance 0 = .ok (.aload_n 0, 1) := dk_42 (dk_at dksX0_flowVariance_0 0 rfl rfl)
theorem dX0_flowVariance_1 : decode cX0_flowVariance 1 = .ok (.getfield 35, 3) := dk_180 0 35 (dk_at dksX0_flowVariance_0 1 rfl rfl)
theorem dX0_flowVariance_4 : decode cX0_flowVariance 4 = .ok (.getfield 100, 3) := dk_180 0 100 (dk_at dksX0_flowVariance_0 4 rfl rfl)
theorem dX0_flowVariance_7 : decode cX0_flowVariance 7 = .ok (.getfield 120, 3) := dk_180 0 120 (dk_at dksX0_flowVariance_0 7 rfl rfl)
theorem dX0_flowVariance_10 : decode cX0_flowVariance 10 = .ok (.ireturn, 1) := dk_172 (dk_at dksX0_flowVariance_0 10 rfl rfl)
abbrev cX0_innovation : ByteArray := prog_1_method_23_code
def yX0_innovation : MethodName := ⟨RX0, "innovation", "()I"⟩
def dkwX0_innovation_0 : List UInt8 := [42, 180, 0, 35, 180, 0, 100, 180, 0, 174, 172]
abbrev dktX0_innovation_0 : List UInt8 := dkwX0_innovation_0 ++ []
theorem dksX0_innovation_0 : cX0_innovation.data.toList.drop 0 = dktX0_innovation_0 := by decide +kernel
theorem dX0_innovation_0 : decode cX0_innovation 0 = .ok (.aload_n 0, 1) := dk_42 (dk_at dksX0_innovation_0 0 rfl rfl)
theorem dX0_innovation_1 : decode cX0_innovation 1 = .ok (.getfield 35, 3) := dk_180 0 35 (dk_at dksX0_innovation_0 1 rfl rfl)
theorem dX0_innovation_4 : decode cX0_innovation 4 = .ok (.getfield 100, 3) := dk_180 0 100 (dk_at dksX0_innovation_0 4 rfl rfl)
theorem dX0_innovation_7 : decode cX0_innovation 7 = .ok (.getfield 174, 3) := dk_180 0 174 (dk_at dksX0_innovation_0 7 rfl rfl)
theorem dX0_innovation_10 : decode cX0_innovation 10 = .ok (.ireturn, 1) := dk_172 (dk_at dksX0_innovation_0 10 rfl rfl)
abbrev cX0_levelGain : ByteArray := prog_1_method_24_code
def yX0_levelGain : MethodName := ⟨RX0, "levelGain", "()I"⟩
def dkwX0_levelGain_0 : List UInt8 := [42, 180, 0, 35, 180, 0, 100, 180, 0, 177, 172]
abbrev dktX0_levelGain_0 : List UInt8 := dkwX0_levelGain_0 ++ []
theorem dksX0_levelGain_0 : cX0_levelGain.data.toList.drop 0 = dktX0_levelGain_0 := by decide +kernel
theorem dX0_levelGain_0 : decode cX0_levelGain 0 = .ok (.aload_n 0, 1) := dk_42 (dk_at dksX0_levelGain_0 0 rfl rfl)
theorem dX0_levelGain_1 : decode cX0_levelGain 1 = .ok (.getfield 35, 3) := dk_180 0 35 (dk_at dksX0_levelGain_0 1 rfl rfl)
theorem dX0_levelGain_4 : decode cX0_levelGain 4 = .ok (.getfield 100, 3) := dk_180 0 100 (dk_at dksX0_levelGain_0 4 rfl rfl)
theorem dX0_levelGain_7 : decode cX0_levelGain 7 = .ok (.getfield 177, 3) := dk_180 0 177 (dk_at dksX0_levelGain_0 7 rfl rfl)
theorem dX0_levelGain_10 : decode cX0_levelGain 10 = .ok (.ireturn, 1) := dk_172 (dk_at dksX0_levelGain_0 10 rfl rfl)
abbrev cX0_flowGain : ByteArray := prog_1_method_25_code
def yX0_flowGain : MethodName := ⟨RX0, "flowGain", "()I"⟩
def dkwX0_flowGain_0 : List UInt8 := [42, 180, 0, 35, 180, 0, 100, 180, 0, 180, 172]
abbrev dktX0_flowGain_0 : List UInt8 := dkwX0_flowGain_0 ++ []
theorem dksX0_flowGain_0 : cX0_flowGain.data.toList.drop 0 = dktX0_flowGain_0 := by decide +kernel
theorem dX0_flowGain_0 : decode cX0_flowGain 0 = .ok (.aload_n 0, 1) := dk_42 (dk_at dksX0_flowGain_0 0 rfl rfl)
theorem dX0_flowGain_1 : decode cX0_flowGain 1 = .ok (.getfield 35, 3) := dk_180 0 35 (dk_at dksX0_flowGain_0 1 rfl rfl)
theorem dX0_flowGain_4 : decode cX0_flowGain 4 = .ok (.getfield 100, 3) := dk_180 0 100 (dk_at dksX0_flowGain_0 4 rfl rfl)
theorem dX0_flowGain_7 : decode cX0_flowGain 7 = .ok (.getfield 180, 3) := dk_180 0 180 (dk_at dksX0_flowGain_0 7 rfl rfl)
theorem dX0_flowGain_10 : decode cX0_flowGain 10 = .ok (.ireturn, 1) := dk_172 (dk_at dksX0_flowGain_0 10 rfl rfl)
abbrev cX0_accepted : ByteArray := prog_1_method_26_code
def yX0_accepted : MethodName := ⟨RX0, "accepted", "()I"⟩
def dkwX0_accepted_0 : List UInt8 := [42, 180, 0, 35, 180, 0, 123, 172]
abbrev dktX0_accepted_0 : List UInt8 := dkwX0_accepted_0 ++ []
theorem dksX0_accepted_0 : cX0_accepted.data.toList.drop 0 = dktX0_accepted_0 := by decide +kernel
theorem dX0_accepted_0 : decode cX0_accepted 0 = .ok (.aload_n 0, 1) := dk_42 (dk_at dksX0_accepted_0 0 rfl rfl)
theorem dX0_accepted_1 : decode cX0_accepted 1 = .ok (.getfield 35, 3) := dk_180 0 35 (dk_at dksX0_accepted_0 1 rfl rfl)
theorem dX0_accepted_4 : decode cX0_accepted 4 = .ok (.getfield 123, 3) := dk_180 0 123 (dk_at dksX0_accepted_0 4 rfl rfl)
theorem dX0_accepted_7 : decode cX0_accepted 7 = .ok (.ireturn, 1) := dk_172 (dk_at dksX0_accepted_0 7 rfl rfl)
abbrev cX0_rejected : ByteArray := prog_1_method_27_code
def yX0_rejected : MethodName := ⟨RX0, "rejected", "()I"⟩
def dkwX0_rejected_0 : List UInt8 := [42, 180, 0, 35, 180, 0, 126, 172]
abbrev dktX0_rejected_0 : List UInt8 := dkwX0_rejected_0 ++ []
theorem dksX0_rejected_0 : cX0_rejected.data.toList.drop 0 = dktX0_rejected_0 := by decide +kernel
theorem dX0_rejected_0 : decode cX0_rejected 0 = .ok (.aload_n 0, 1) := dk_42 (dk_at dksX0_rejected_0 0 rfl rfl)
theorem dX0_rejected_1 : decode cX0_rejected 1 = .ok (.getfield 35, 3) := dk_180 0 35 (dk_at dksX0_rejected_0 1 rfl rfl)
theorem dX0_rejected_4 : decode cX0_rejected 4 = .ok (.getfield 126, 3) := dk_180 0 126 (dk_at dksX0_rejected_0 4 rfl rfl)
theorem dX0_rejected_7 : decode cX0_rejected 7 = .ok (.ireturn, 1) := dk_172 (dk_at dksX0_rejected_0 7 rfl rfl)
abbrev cX0_missed : ByteArray := prog_1_method_28_code
def yX0_missed : MethodName := ⟨RX0, "missed", "()I"⟩
def dkwX0_missed_0 : List UInt8 := [42, 180, 0, 35, 180, 0, 129, 172]
abbrev dktX0_missed_0 : List UInt8 := dkwX0_missed_0 ++ []
theorem dksX0_missed_0 : cX0_missed.data.toList.drop 0 = dktX0_missed_0 := by decide +kernel
theorem dX0_missed_0 : decode cX0_missed 0 = .ok (.aload_n 0, 1) := dk_42 (dk_at dksX0_missed_0 0 rfl rfl)
theorem dX0_missed_1 : decode cX0_missed 1 = .ok (.getfield 35, 3) := dk_180 0 35 (dk_at dksX0_missed_0 1 rfl rfl)
theorem dX0_missed_4 : decode cX0_missed 4 = .ok (.getfield 129, 3) := dk_180 0 129 (dk_at dksX0_missed_0 4 rfl rfl)
theorem dX0_missed_7 : decode cX0_missed 7 = .ok (.ireturn, 1) := dk_172 (dk_at dksX0_missed_0 7 rfl rfl)
abbrev cX0_historyLength : ByteArray := prog_1_method_29_code
def yX0_historyLength : MethodName := ⟨RX0, "historyLength", "()I"⟩
def dkwX0_historyLength_0 : List UInt8 := [42, 180, 0, 35, 180, 0, 93, 180, 0, 96, 172]
abbrev dktX0_historyLength_0 : List UInt8 := dkwX0_historyLength_0 ++ []
theorem dksX0_historyLength_0 : cX0_historyLength.data.toList.drop 0 = dktX0_historyLength_0 := by decide +kernel
theorem dX0_historyLength_0 : decode cX0_historyLength 0 = .ok (.aload_n 0, 1) := dk_42 (dk_at dksX0_historyLength_0 0 rfl rfl)
theorem dX0_historyLength_1 : decode cX0_historyLength 1 = .ok (.getfield 35, 3) := dk_180 0 35 (dk_at dksX0_historyLength_0 1 rfl rfl)
theorem dX0_historyLength_4 : decode cX0_historyLength 4 = .ok (.getfield 93, 3) := dk_180 0 93 (dk_at dksX0_historyLength_0 4 rfl rfl)
theorem dX0_historyLength_7 : decode cX0_historyLength 7 = .ok (.getfield 96, 3) := dk_180 0 96 (dk_at dksX0_historyLength_0 7 rfl rfl)
theorem dX0_historyLength_10 : decode cX0_historyLength 10 = .ok (.ireturn, 1) := dk_172 (dk_at dksX0_historyLength_0 10 rfl rfl)
abbrev cX0_forecast : ByteArray := prog_1_method_31_code
def yX0_forecast : MethodName := ⟨RX0, "forecast", "(I)I"⟩
def dkwX0_forecast_0 : List UInt8 := [42, 27, 3, 182, 0, 189, 172]
abbrev dktX0_forecast_0 : List UInt8 := dkwX0_forecast_0 ++ []
theorem dksX0_forecast_0 : cX0_forecast.data.toList.drop 0 = dktX0_forecast_0 := by decide +kernel
theorem dX0_forecast_0 : decode cX0_forecast 0 = .ok (.aload_n 0, 1) := dk_42 (dk_at dksX0_forecast_0 0 rfl rfl)
theorem dX0_forecast_1 : decode cX0_forecast 1 = .ok (.iload_n 1, 1) := dk_27 (dk_at dksX0_forecast_0 1 rfl rfl)
theorem dX0_forecast_2 : decode cX0_forecast 2 = .ok (.iconst 0, 1) := dk_3 (dk_at dksX0_forecast_0 2 rfl rfl)
theorem dX0_forecast_3 : decode cX0_forecast 3 = .ok (.invokevirtual 189, 3) := dk_182 0 189 (dk_at dksX0_forecast_0 3 rfl rfl)
theorem dX0_forecast_6 : decode cX0_forecast 6 = .ok (.ireturn, 1) := dk_172 (dk_at dksX0_forecast_0 6 rfl rfl)
abbrev cX0_forecastOf : ByteArray := prog_1_method_30_code
def yX0_forecastOf : MethodName := ⟨RX0, "forecastOf", "(IZ)I"⟩
def dkwX0_forecastOf_2 : List UInt8 := [182, 0, 86, 172]
abbrev dktX0_forecastOf_2 : List UInt8 := dkwX0_forecastOf_2 ++ []
def dkwX0_forecastOf_1 : List UInt8 := [182, 0, 185, 78, 28, 153, 0, 10, 45, 180, 0, 117, 167, 0, 7, 45, 180, 0, 111, 172, 78, 42, 18, 166]
abbrev dktX0_forecastOf_1 : List UInt8 := dkwX0_forecastOf_1 ++ dktX0_forecastOf_2
def dkwX0_forecastOf_0 : List UInt8 := [27, 133, 9, 20, 0, 183, 184, 0, 7, 154, 0, 10, 42, 18, 59, 182, 0, 86, 172, 42, 180, 0, 35, 27]
abbrev dktX0_forecastOf_0 : List UInt8 := dkwX0_forecastOf_0 ++ dktX0_forecastOf_1
theorem dksX0_forecastOf_0 : cX0_forecastOf.data.toList.drop 0 = dktX0_forecastOf_0 := by decide +kernel
theorem dksX0_forecastOf_1 : cX0_forecastOf.data.toList.drop 24 = dktX0_forecastOf_1 := dk_seg dksX0_forecastOf_0 24 rfl rfl
theorem dksX0_forecastOf_2 : cX0_forecastOf.data.toList.drop 48 = dktX0_forecastOf_2 := dk_seg dksX0_forecastOf_1 24 rfl rfl
theorem dX0_forecastOf_0 : decode cX0_forecastOf 0 = .ok (.iload_n 1, 1) := dk_27 (dk_at dksX0_forecastOf_0 0 rfl rfl)
theorem dX0_forecastOf_1 : decode cX0_forecastOf 1 = .ok (.i2l, 1) := dk_133 (dk_at dksX0_forecastOf_0 1 rfl rfl)
theorem dX0_forecastOf_2 : decode cX0_forecastOf 2 = .ok (.lconst 0, 1) := dk_9 (dk_at dksX0_forecastOf_0 2 rfl rfl)
theorem dX0_forecastOf_3 : decode cX0_forecastOf 3 = .ok (.ldc2_w 183, 3) := dk_20 0 183 (dk_at dksX0_forecastOf_0 3 rfl rfl)
theorem dX0_forecastOf_6 : decode cX0_forecastOf 6 = .ok (.invokestatic 7, 3) := dk_184 0 7 (dk_at dksX0_forecastOf_0 6 rfl rfl)
theorem dX0_forecastOf_9 : decode cX0_forecastOf 9 = .ok (.ifCond .ne 10, 3) := dk_154 0 10 (dk_at dksX0_forecastOf_0 9 rfl rfl)
theorem dX0_forecastOf_12 : decode cX0_forecastOf 12 = .ok (.aload_n 0, 1) := dk_42 (dk_at dksX0_forecastOf_0 12 rfl rfl)
theorem dX0_forecastOf_13 : decode cX0_forecastOf 13 = .ok (.ldc 59, 2) := dk_18 59 (dk_at dksX0_forecastOf_0 13 rfl rfl)
theorem dX0_forecastOf_15 : decode cX0_forecastOf 15 = .ok (.invokevirtual 86, 3) := dk_182 0 86 (dk_at dksX0_forecastOf_0 15 rfl rfl)
theorem dX0_forecastOf_18 : decode cX0_forecastOf 18 = .ok (.ireturn, 1) := dk_172 (dk_at dksX0_forecastOf_0 18 rfl rfl)
theorem dX0_forecastOf_19 : decode cX0_forecastOf 19 = .ok (.aload_n 0, 1) := dk_42 (dk_at dksX0_forecastOf_0 19 rfl rfl)
theorem dX0_forecastOf_20 : decode cX0_forecastOf 20 = .ok (.getfield 35, 3) := dk_180 0 35 (dk_at dksX0_forecastOf_0 20 rfl rfl)
theorem dX0_forecastOf_23 : decode cX0_forecastOf 23 = .ok (.iload_n 1, 1) := dk_27 (dk_at dksX0_forecastOf_0 23 rfl rfl)
theorem dX0_forecastOf_24 : decode cX0_forecastOf 24 = .ok (.invokevirtual 185, 3) := dk_182 0 185 (dk_at dksX0_forecastOf_1 0 rfl rfl)
theorem dX0_forecastOf_27 : decode cX0_forecastOf 27 = .ok (.astore_n 3, 1) := dk_78 (dk_at dksX0_forecastOf_1 3 rfl rfl)
theorem dX0_forecastOf_28 : decode cX0_forecastOf 28 = .ok (.iload_n 2, 1) := dk_28 (dk_at dksX0_forecastOf_1 4 rfl rfl)
theorem dX0_forecastOf_29 : decode cX0_forecastOf 29 = .ok (.ifCond .eq 10, 3) := dk_153 0 10 (dk_at dksX0_forecastOf_1 5 rfl rfl)
theorem dX0_forecastOf_32 : decode cX0_forecastOf 32 = .ok (.aload_n 3, 1) := dk_45 (dk_at dksX0_forecastOf_1 8 rfl rfl)
theorem dX0_forecastOf_33 : decode cX0_forecastOf 33 = .ok (.getfield 117, 3) := dk_180 0 117 (dk_at dksX0_forecastOf_1 9 rfl rfl)
theorem dX0_forecastOf_36 : decode cX0_forecastOf 36 = .ok (.goto 7, 3) := dk_167 0 7 (dk_at dksX0_forecastOf_1 12 rfl rfl)
theorem dX0_forecastOf_39 : decode cX0_forecastOf 39 = .ok (.aload_n 3, 1) := dk_45 (dk_at dksX0_forecastOf_1 15 rfl rfl)
theorem dX0_forecastOf_40 : decode cX0_forecastOf 40 = .ok (.getfield 111, 3) := dk_180 0 111 (dk_at dksX0_forecastOf_1 16 rfl rfl)
theorem dX0_forecastOf_43 : decode cX0_forecastOf 43 = .ok (.ireturn, 1) := dk_172 (dk_at dksX0_forecastOf_1 19 rfl rfl)
theorem dX0_forecastOf_44 : decode cX0_forecastOf 44 = .ok (.astore_n 3, 1) := dk_78 (dk_at dksX0_forecastOf_1 20 rfl rfl)
theorem dX0_forecastOf_45 : decode cX0_forecastOf 45 = .ok (.aload_n 0, 1) := dk_42 (dk_at dksX0_forecastOf_1 21 rfl rfl)
theorem dX0_forecastOf_46 : decode cX0_forecastOf 46 = .ok (.ldc 166, 2) := dk_18 166 (dk_at dksX0_forecastOf_1 22 rfl rfl)
theorem dX0_forecastOf_48 : decode cX0_forecastOf 48 = .ok (.invokevirtual 86, 3) := dk_182 0 86 (dk_at dksX0_forecastOf_2 0 rfl rfl)
theorem dX0_forecastOf_51 : decode cX0_forecastOf 51 = .ok (.ireturn, 1) := dk_172 (dk_at dksX0_forecastOf_2 3 rfl rfl)
abbrev cX0_forecastVariance : ByteArray := prog_1_method_32_code
def yX0_forecastVariance : MethodName := ⟨RX0, "forecastVariance", "(I)I"⟩
def dkwX0_forecastVariance_0 : List UInt8 := [42, 27, 4, 182, 0, 189, 172]
abbrev dktX0_forecastVariance_0 : List UInt8 := dkwX0_forecastVariance_0 ++ []
theorem dksX0_forecastVariance_0 : cX0_forecastVariance.data.toList.drop 0 = dktX0_forecastVariance_0 := by decide +kernel
theorem dX0_forecastVariance_0 : decode cX0_forecastVariance 0 = .ok (.aload_n 0, 1) := dk_42 (dk_at dksX0_forecastVariance_0 0 rfl rfl)
theorem dX0_forecastVariance_1 : decode cX0_forecastVariance 1 = .ok (.iload_n 1, 1) := dk_27 (dk_at dksX0_forecastVariance_0 1 rfl rfl)
theorem dX0_forecastVariance_2 : decode cX0_forecastVariance 2 = .ok (.iconst 1, 1) := dk_4 (dk_at dksX0_forecastVariance_0 2 rfl rfl)
theorem dX0_forecastVariance_3 : decode cX0_forecastVariance 3 = .ok (.invokevirtual 189, 3) := dk_182 0 189 (dk_at dksX0_forecastVariance_0 3 rfl rfl)
theorem dX0_forecastVariance_6 : decode cX0_forecastVariance 6 = .ok (.ireturn, 1) := dk_172 (dk_at dksX0_forecastVariance_0 6 rfl rfl)
abbrev cX0_stepsTo : ByteArray := prog_1_method_33_code
def yX0_stepsTo : MethodName := ⟨RX0, "stepsTo", "(I)I"⟩
def dkwX0_stepsTo_1 : List UInt8 := [172]
abbrev dktX0_stepsTo_1 : List UInt8 := dkwX0_stepsTo_1 ++ []
def dkwX0_stepsTo_0 : List UInt8 := [27, 184, 0, 78, 153, 0, 14, 42, 180, 0, 35, 27, 182, 0, 193, 167, 0, 9, 42, 18, 59, 182, 0, 86]
abbrev dktX0_stepsTo_0 : List UInt8 := dkwX0_stepsTo_0 ++ dktX0_stepsTo_1
theorem dksX0_stepsTo_0 : cX0_stepsTo.data.toList.drop 0 = dktX0_stepsTo_0 := by decide +kernel
theorem dksX0_stepsTo_1 : cX0_stepsTo.data.toList.drop 24 = dktX0_stepsTo_1 := dk_seg dksX0_stepsTo_0 24 rfl rfl
theorem dX0_stepsTo_0 : decode cX0_stepsTo 0 = .ok (.iload_n 1, 1) := dk_27 (dk_at dksX0_stepsTo_0 0 rfl rfl)
theorem dX0_stepsTo_1 : decode cX0_stepsTo 1 = .ok (.invokestatic 78, 3) := dk_184 0 78 (dk_at dksX0_stepsTo_0 1 rfl rfl)
theorem dX0_stepsTo_4 : decode cX0_stepsTo 4 = .ok (.ifCond .eq 14, 3) := dk_153 0 14 (dk_at dksX0_stepsTo_0 4 rfl rfl)
theorem dX0_stepsTo_7 : decode cX0_stepsTo 7 = .ok (.aload_n 0, 1) := dk_42 (dk_at dksX0_stepsTo_0 7 rfl rfl)
theorem dX0_stepsTo_8 : decode cX0_stepsTo 8 = .ok (.getfield 35, 3) := dk_180 0 35 (dk_at dksX0_stepsTo_0 8 rfl rfl)
theorem dX0_stepsTo_11 : decode cX0_stepsTo 11 = .ok (.iload_n 1, 1) := dk_27 (dk_at dksX0_stepsTo_0 11 rfl rfl)
theorem dX0_stepsTo_12 : decode cX0_stepsTo 12 = .ok (.invokevirtual 193, 3) := dk_182 0 193 (dk_at dksX0_stepsTo_0 12 rfl rfl)
theorem dX0_stepsTo_15 : decode cX0_stepsTo 15 = .ok (.goto 9, 3) := dk_167 0 9 (dk_at dksX0_stepsTo_0 15 rfl rfl)
theorem dX0_stepsTo_18 : decode cX0_stepsTo 18 = .ok (.aload_n 0, 1) := dk_42 (dk_at dksX0_stepsTo_0 18 rfl rfl)
theorem dX0_stepsTo_19 : decode cX0_stepsTo 19 = .ok (.ldc 59, 2) := dk_18 59 (dk_at dksX0_stepsTo_0 19 rfl rfl)
theorem dX0_stepsTo_21 : decode cX0_stepsTo 21 = .ok (.invokevirtual 86, 3) := dk_182 0 86 (dk_at dksX0_stepsTo_0 21 rfl rfl)
theorem dX0_stepsTo_24 : decode cX0_stepsTo 24 = .ok (.ireturn, 1) := dk_172 (dk_at dksX0_stepsTo_1 0 rfl rfl)
abbrev cX0_steadyCycles : ByteArray := prog_1_method_34_code
def yX0_steadyCycles : MethodName := ⟨RX0, "steadyCycles", "(I)I"⟩
def dkwX0_steadyCycles_1 : List UInt8 := [182, 0, 86, 172]
abbrev dktX0_steadyCycles_1 : List UInt8 := dkwX0_steadyCycles_1 ++ []
def dkwX0_steadyCycles_0 : List UInt8 := [27, 184, 0, 138, 153, 0, 16, 42, 180, 0, 35, 27, 18, 164, 182, 0, 196, 167, 0, 9, 42, 18, 59]
abbrev dktX0_steadyCycles_0 : List UInt8 := dkwX0_steadyCycles_0 ++ dktX0_steadyCycles_1
theorem dksX0_steadyCycles_0 : cX0_steadyCycles.data.toList.drop 0 = dktX0_steadyCycles_0 := by decide +kernel
theorem dksX0_steadyCycles_1 : cX0_steadyCycles.data.toList.drop 23 = dktX0_steadyCycles_1 := dk_seg dksX0_steadyCycles_0 23 rfl rfl
theorem dX0_steadyCycles_0 : decode cX0_steadyCycles 0 = .ok (.iload_n 1, 1) := dk_27 (dk_at dksX0_steadyCycles_0 0 rfl rfl)
theorem dX0_steadyCycles_1 : decode cX0_steadyCycles 1 = .ok (.invokestatic 138, 3) := dk_184 0 138 (dk_at dksX0_steadyCycles_0 1 rfl rfl)
theorem dX0_steadyCycles_4 : decode cX0_steadyCycles 4 = .ok (.ifCond .eq 16, 3) := dk_153 0 16 (dk_at dksX0_steadyCycles_0 4 rfl rfl)
theorem dX0_steadyCycles_7 : decode cX0_steadyCycles 7 = .ok (.aload_n 0, 1) := dk_42 (dk_at dksX0_steadyCycles_0 7 rfl rfl)
theorem dX0_steadyCycles_8 : decode cX0_steadyCycles 8 = .ok (.getfield 35, 3) := dk_180 0 35 (dk_at dksX0_steadyCycles_0 8 rfl rfl)
theorem dX0_steadyCycles_11 : decode cX0_steadyCycles 11 = .ok (.iload_n 1, 1) := dk_27 (dk_at dksX0_steadyCycles_0 11 rfl rfl)
theorem dX0_steadyCycles_12 : decode cX0_steadyCycles 12 = .ok (.ldc 164, 2) := dk_18 164 (dk_at dksX0_steadyCycles_0 12 rfl rfl)
theorem dX0_steadyCycles_14 : decode cX0_steadyCycles 14 = .ok (.invokevirtual 196, 3) := dk_182 0 196 (dk_at dksX0_steadyCycles_0 14 rfl rfl)
theorem dX0_steadyCycles_17 : decode cX0_steadyCycles 17 = .ok (.goto 9, 3) := dk_167 0 9 (dk_at dksX0_steadyCycles_0 17 rfl rfl)
theorem dX0_steadyCycles_20 : decode cX0_steadyCycles 20 = .ok (.aload_n 0, 1) := dk_42 (dk_at dksX0_steadyCycles_0 20 rfl rfl)
theorem dX0_steadyCycles_21 : decode cX0_steadyCycles 21 = .ok (.ldc 59, 2) := dk_18 59 (dk_at dksX0_steadyCycles_0 21 rfl rfl)
theorem dX0_steadyCycles_23 : decode cX0_steadyCycles 23 = .ok (.invokevirtual 86, 3) := dk_182 0 86 (dk_at dksX0_steadyCycles_1 0 rfl rfl)
theorem dX0_steadyCycles_26 : decode cX0_steadyCycles 26 = .ok (.ireturn, 1) := dk_172 (dk_at dksX0_steadyCycles_1 3 rfl rfl)
abbrev cX0_steadyGain : ByteArray := prog_1_method_35_code
def yX0_steadyGain : MethodName := ⟨RX0, "steadyGain", "(II)I"⟩
def dkwX0_steadyGain_1 : List UInt8 := [182, 0, 196, 167, 0, 9, 42, 18, 59, 182, 0, 86, 172]
abbrev dktX0_steadyGain_1 : List UInt8 := dkwX0_steadyGain_1 ++ []
def dkwX0_steadyGain_0 : List UInt8 := [27, 184, 0, 138, 153, 0, 25, 28, 133, 9, 10, 184, 0, 7, 153, 0, 15, 42, 180, 0, 35, 27, 28]
abbrev dktX0_steadyGain_0 : List UInt8 := dkwX0_steadyGain_0 ++ dktX0_steadyGain_1
theorem dksX0_steadyGain_0 : cX0_steadyGain.data.toList.drop 0 = dktX0_steadyGain_0 := by decide +kernel
theorem dksX0_steadyGain_1 : cX0_steadyGain.data.toList.drop 23 = dktX0_steadyGain_1 := dk_seg dksX0_steadyGain_0 23 rfl rfl
theorem dX0_steadyGain_0 : decode cX0_steadyGain 0 = .ok (.iload_n 1, 1) := dk_27 (dk_at dksX0_steadyGain_0 0 rfl rfl)
theorem dX0_steadyGain_1 : decode cX0_steadyGain 1 = .ok (.invokestatic 138, 3) := dk_184 0 138 (dk_at dksX0_steadyGain_0 1 rfl rfl)
theorem dX0_steadyGain_4 : decode cX0_steadyGain 4 = .ok (.ifCond .eq 25, 3) := dk_153 0 25 (dk_at dksX0_steadyGain_0 4 rfl rfl)
theorem dX0_steadyGain_7 : decode cX0_steadyGain 7 = .ok (.iload_n 2, 1) := dk_28 (dk_at dksX0_steadyGain_0 7 rfl rfl)
theorem dX0_steadyGain_8 : decode cX0_steadyGain 8 = .ok (.i2l, 1) := dk_133 (dk_at dksX0_steadyGain_0 8 rfl rfl)
theorem dX0_steadyGain_9 : decode cX0_steadyGain 9 = .ok (.lconst 0, 1) := dk_9 (dk_at dksX0_steadyGain_0 9 rfl rfl)
theorem dX0_steadyGain_10 : decode cX0_steadyGain 10 = .ok (.lconst 1, 1) := dk_10 (dk_at dksX0_steadyGain_0 10 rfl rfl)
theorem dX0_steadyGain_11 : decode cX0_steadyGain 11 = .ok (.invokestatic 7, 3) := dk_184 0 7 (dk_at dksX0_steadyGain_0 11 rfl rfl)
theorem dX0_steadyGain_14 : decode cX0_steadyGain 14 = .ok (.ifCond .eq 15, 3) := dk_153 0 15 (dk_at dksX0_steadyGain_0 14 rfl rfl)
theorem dX0_steadyGain_17 : decode cX0_steadyGain 17 = .ok (.aload_n 0, 1) := dk_42 (dk_at dksX0_steadyGain_0 17 rfl rfl)
theorem dX0_steadyGain_18 : decode cX0_steadyGain 18 = .ok (.getfield 35, 3) := dk_180 0 35 (dk_at dksX0_steadyGain_0 18 rfl rfl)
theorem dX0_steadyGain_21 : decode cX0_steadyGain 21 = .ok (.iload_n 1, 1) := dk_27 (dk_at dksX0_steadyGain_0 21 rfl rfl)
theorem dX0_steadyGain_22 : decode cX0_steadyGain 22 = .ok (.iload_n 2, 1) := dk_28 (dk_at dksX0_steadyGain_0 22 rfl rfl)
theorem dX0_steadyGain_23 : decode cX0_steadyGain 23 = .ok (.invokevirtual 196, 3) := dk_182 0 196 (dk_at dksX0_steadyGain_1 0 rfl rfl)
theorem dX0_steadyGain_26 : decode cX0_steadyGain 26 = .ok (.goto 9, 3) := dk_167 0 9 (dk_at dksX0_steadyGain_1 3 rfl rfl)
theorem dX0_steadyGain_29 : decode cX0_steadyGain 29 = .ok (.aload_n 0, 1) := dk_42 (dk_at dksX0_steadyGain_1 6 rfl rfl)
theorem dX0_steadyGain_30 : decode cX0_steadyGain 30 = .ok (.ldc 59, 2) := dk_18 59 (dk_at dksX0_steadyGain_1 7 rfl rfl)
theorem dX0_steadyGain_32 : decode cX0_steadyGain 32 = .ok (.invokevirtual 86, 3) := dk_182 0 86 (dk_at dksX0_steadyGain_1 9 rfl rfl)
theorem dX0_steadyGain_35 : decode cX0_steadyGain 35 = .ok (.ireturn, 1) := dk_172 (dk_at dksX0_steadyGain_1 12 rfl rfl)
abbrev cX0_replayError : ByteArray := prog_1_method_36_code
def yX0_replayError : MethodName := ⟨RX0, "replayError", "(I)I"⟩
def dkwX0_replayError_2 : List UInt8 := [27, 182, 0, 205, 61, 28, 18, 166, 160, 0, 12, 42, 18, 166, 182, 0, 86, 167, 0, 4, 28, 172]
abbrev dktX0_replayError_2 : List UInt8 := dkwX0_replayError_2 ++ []
def dkwX0_replayError_1 : List UInt8 := [180, 0, 93, 42, 180, 0, 51, 182, 0, 200, 154, 0, 10, 42, 18, 204, 182, 0, 86, 172, 42, 180, 0, 35]
abbrev dktX0_replayError_1 : List UInt8 := dkwX0_replayError_1 ++ dktX0_replayError_2
def dkwX0_replayError_0 : List UInt8 := [27, 133, 9, 20, 0, 84, 184, 0, 7, 154, 0, 10, 42, 18, 59, 182, 0, 86, 172, 42, 180, 0, 35]
abbrev dktX0_replayError_0 : List UInt8 := dkwX0_replayError_0 ++ dktX0_replayError_1
theorem dksX0_replayError_0 : cX0_replayError.data.toList.drop 0 = dktX0_replayError_0 := by decide +kernel
theorem dksX0_replayError_1 : cX0_replayError.data.toList.drop 23 = dktX0_replayError_1 := dk_seg dksX0_replayError_0 23 rfl rfl
theorem dksX0_replayError_2 : cX0_replayError.data.toList.drop 47 = dktX0_replayError_2 := dk_seg dksX0_replayError_1 24 rfl rfl
theorem dX0_replayError_0 : decode cX0_replayError 0 = .ok (.iload_n 1, 1) := dk_27 (dk_at dksX0_replayError_0 0 rfl rfl)
theorem dX0_replayError_1 : decode cX0_replayError 1 = .ok (.i2l, 1) := dk_133 (dk_at dksX0_replayError_0 1 rfl rfl)
theorem dX0_replayError_2 : decode cX0_replayError 2 = .ok (.lconst 0, 1) := dk_9 (dk_at dksX0_replayError_0 2 rfl rfl)
theorem dX0_replayError_3 : decode cX0_replayError 3 = .ok (.ldc2_w 84, 3) := dk_20 0 84 (dk_at dksX0_replayError_0 3 rfl rfl)
theorem dX0_replayError_6 : decode cX0_replayError 6 = .ok (.invokestatic 7, 3) := dk_184 0 7 (dk_at dksX0_replayError_0 6 rfl rfl)
theorem dX0_replayError_9 : decode cX0_replayError 9 = .ok (.ifCond .ne 10, 3) := dk_154 0 10 (dk_at dksX0_replayError_0 9 rfl rfl)
theorem dX0_replayError_12 : decode cX0_replayError 12 = .ok (.aload_n 0, 1) := dk_42 (dk_at dksX0_replayError_0 12 rfl rfl)
theorem dX0_replayError_13 : decode cX0_replayError 13 = .ok (.ldc 59, 2) := dk_18 59 (dk_at dksX0_replayError_0 13 rfl rfl)
theorem dX0_replayError_15 : decode cX0_replayError 15 = .ok (.invokevirtual 86, 3) := dk_182 0 86 (dk_at dksX0_replayError_0 15 rfl rfl)
theorem dX0_replayError_18 : decode cX0_replayError 18 = .ok (.ireturn, 1) := dk_172 (dk_at dksX0_replayError_0 18 rfl rfl)
theorem dX0_replayError_19 : decode cX0_replayError 19 = .ok (.aload_n 0, 1) := dk_42 (dk_at dksX0_replayError_0 19 rfl rfl)
theorem dX0_replayError_20 : decode cX0_replayError 20 = .ok (.getfield 35, 3) := dk_180 0 35 (dk_at dksX0_replayError_0 20 rfl rfl)
theorem dX0_replayError_23 : decode cX0_replayError 23 = .ok (.getfield 93, 3) := dk_180 0 93 (dk_at dksX0_replayError_1 0 rfl rfl)
theorem dX0_replayError_26 : decode cX0_replayError 26 = .ok (.aload_n 0, 1) := dk_42 (dk_at dksX0_replayError_1 3 rfl rfl)
theorem dX0_replayError_27 : decode cX0_replayError 27 = .ok (.getfield 51, 3) := dk_180 0 51 (dk_at dksX0_replayError_1 4 rfl rfl)
theorem dX0_replayError_30 : decode cX0_replayError 30 = .ok (.invokevirtual 200, 3) := dk_182 0 200 (dk_at dksX0_replayError_1 7 rfl rfl)
theorem dX0_replayError_33 : decode cX0_replayError 33 = .ok (.ifCond .ne 10, 3) := dk_154 0 10 (dk_at dksX0_replayError_1 10 rfl rfl)
theorem dX0_replayError_36 : decode cX0_replayError 36 = .ok (.aload_n 0, 1) := dk_42 (dk_at dksX0_replayError_1 13 rfl rfl)
theorem dX0_replayError_37 : decode cX0_replayError 37 = .ok (.ldc 204, 2) := dk_18 204 (dk_at dksX0_replayError_1 14 rfl rfl)
theorem dX0_replayError_39 : decode cX0_replayError 39 = .ok (.invokevirtual 86, 3) := dk_182 0 86 (dk_at dksX0_replayError_1 16 rfl rfl)
theorem dX0_replayError_42 : decode cX0_replayError 42 = .ok (.ireturn, 1) := dk_172 (dk_at dksX0_replayError_1 19 rfl rfl)
theorem dX0_replayError_43 : decode cX0_replayError 43 = .ok (.aload_n 0, 1) := dk_42 (dk_at dksX0_replayError_1 20 rfl rfl)
theorem dX0_replayError_44 : decode cX0_replayError 44 = .ok (.getfield 35, 3) := dk_180 0 35 (dk_at dksX0_replayError_1 21 rfl rfl)
theorem dX0_replayError_47 : decode cX0_replayError 47 = .ok (.iload_n 1, 1) := dk_27 (dk_at dksX0_replayError_2 0 rfl rfl)
theorem dX0_replayError_48 : decode cX0_replayError 48 = .ok (.invokevirtual 205, 3) := dk_182 0 205 (dk_at dksX0_replayError_2 1 rfl rfl)
theorem dX0_replayError_51 : decode cX0_replayError 51 = .ok (.istore_n 2, 1) := dk_61 (dk_at dksX0_replayError_2 4 rfl rfl)
theorem dX0_replayError_52 : decode cX0_replayError 52 = .ok (.iload_n 2, 1) := dk_28 (dk_at dksX0_replayError_2 5 rfl rfl)
theorem dX0_replayError_53 : decode cX0_replayError 53 = .ok (.ldc 166, 2) := dk_18 166 (dk_at dksX0_replayError_2 6 rfl rfl)
theorem dX0_replayError_55 : decode cX0_replayError 55 = .ok (.if_icmp .ne 12, 3) := dk_160 0 12 (dk_at dksX0_replayError_2 8 rfl rfl)
theorem dX0_replayError_58 : decode cX0_replayError 58 = .ok (.aload_n 0, 1) := dk_42 (dk_at dksX0_replayError_2 11 rfl rfl)
theorem dX0_replayError_59 : decode cX0_replayError 59 = .ok (.ldc 166, 2) := dk_18 166 (dk_at dksX0_replayError_2 12 rfl rfl)
theorem dX0_replayError_61 : decode cX0_replayError 61 = .ok (.invokevirtual 86, 3) := dk_182 0 86 (dk_at dksX0_replayError_2 14 rfl rfl)
theorem dX0_replayError_64 : decode cX0_replayError 64 = .ok (.goto 4, 3) := dk_167 0 4 (dk_at dksX0_replayError_2 17 rfl rfl)
theorem dX0_replayError_67 : decode cX0_replayError 67 = .ok (.iload_n 2, 1) := dk_28 (dk_at dksX0_replayError_2 20 rfl rfl)
theorem dX0_replayError_68 : decode cX0_replayError 68 = .ok (.ireturn, 1) := dk_172 (dk_at dksX0_replayError_2 21 rfl rfl)
abbrev cX0_bestFlowNoise : ByteArray := prog_1_method_37_code
def yX0_bestFlowNoise : MethodName := ⟨RX0, "bestFlowNoise", "()I"⟩
def dkwX0_bestFlowNoise_1 : List UInt8 := [167, 0, 9, 42, 18, 204, 182, 0, 86, 172]
abbrev dktX0_bestFlowNoise_1 : List UInt8 := dkwX0_bestFlowNoise_1 ++ []
def dkwX0_bestFlowNoise_0 : List UInt8 := [42, 180, 0, 35, 180, 0, 93, 42, 180, 0, 51, 182, 0, 200, 153, 0, 13, 42, 180, 0, 35, 182, 0, 208]
abbrev dktX0_bestFlowNoise_0 : List UInt8 := dkwX0_bestFlowNoise_0 ++ dktX0_bestFlowNoise_1
theorem dksX0_bestFlowNoise_0 : cX0_bestFlowNoise.data.toList.drop 0 = dktX0_bestFlowNoise_0 := by decide +kernel
theorem dksX0_bestFlowNoise_1 : cX0_bestFlowNoise.data.toList.drop 24 = dktX0_bestFlowNoise_1 := dk_seg dksX0_bestFlowNoise_0 24 rfl rfl
theorem dX0_bestFlowNoise_0 : decode cX0_bestFlowNoise 0 = .ok (.aload_n 0, 1) := dk_42 (dk_at dksX0_bestFlowNoise_0 0 rfl rfl)
theorem dX0_bestFlowNoise_1 : decode cX0_bestFlowNoise 1 = .ok (.getfield 35, 3) := dk_180 0 35 (dk_at dksX0_bestFlowNoise_0 1 rfl rfl)
theorem dX0_bestFlowNoise_4 : decode cX0_bestFlowNoise 4 = .ok (.getfield 93, 3) := dk_180 0 93 (dk_at dksX0_bestFlowNoise_0 4 rfl rfl)
theorem dX0_bestFlowNoise_7 : decode cX0_bestFlowNoise 7 = .ok (.aload_n 0, 1) := dk_42 (dk_at dksX0_bestFlowNoise_0 7 rfl rfl)
theorem dX0_bestFlowNoise_8 : decode cX0_bestFlowNoise 8 = .ok (.getfield 51, 3) := dk_180 0 51 (dk_at dksX0_bestFlowNoise_0 8 rfl rfl)
theorem dX0_bestFlowNoise_11 : decode cX0_bestFlowNoise 11 = .ok (.invokevirtual 200, 3) := dk_182 0 200 (dk_at dksX0_bestFlowNoise_0 11 rfl rfl)
theorem dX0_bestFlowNoise_14 : decode cX0_bestFlowNoise 14 = .ok (.ifCond .eq 13, 3) := dk_153 0 13 (dk_at dksX0_bestFlowNoise_0 14 rfl rfl)
theorem dX0_bestFlowNoise_17 : decode cX0_bestFlowNoise 17 = .ok (.aload_n 0, 1) := dk_42 (dk_at dksX0_bestFlowNoise_0 17 rfl rfl)
theorem dX0_bestFlowNoise_18 : decode cX0_bestFlowNoise 18 = .ok (.getfield 35, 3) := dk_180 0 35 (dk_at dksX0_bestFlowNoise_0 18 rfl rfl)
theorem dX0_bestFlowNoise_21 : decode cX0_bestFlowNoise 21 = .ok (.invokevirtual 208, 3) := dk_182 0 208 (dk_at dksX0_bestFlowNoise_0 21 rfl rfl)
theorem dX0_bestFlowNoise_24 : decode cX0_bestFlowNoise 24 = .ok (.goto 9, 3) := dk_167 0 9 (dk_at dksX0_bestFlowNoise_1 0 rfl rfl)
theorem dX0_bestFlowNoise_27 : decode cX0_bestFlowNoise 27 = .ok (.aload_n 0, 1) := dk_42 (dk_at dksX0_bestFlowNoise_1 3 rfl rfl)
theorem dX0_bestFlowNoise_28 : decode cX0_bestFlowNoise 28 = .ok (.ldc 204, 2) := dk_18 204 (dk_at dksX0_bestFlowNoise_1 4 rfl rfl)
theorem dX0_bestFlowNoise_30 : decode cX0_bestFlowNoise 30 = .ok (.invokevirtual 86, 3) := dk_182 0 86 (dk_at dksX0_bestFlowNoise_1 6 rfl rfl)
theorem dX0_bestFlowNoise_33 : decode cX0_bestFlowNoise 33 = .ok (.ireturn, 1) := dk_172 (dk_at dksX0_bestFlowNoise_1 9 rfl rfl)
abbrev cX0_undo : ByteArray := prog_1_method_38_code
def yX0_undo : MethodName := ⟨RX0, "undo", "()I"⟩
def dkwX0_undo_1 : List UInt8 := [182, 0, 212, 192, 0, 32, 181, 0, 35, 42, 180, 0, 44, 180, 0, 96, 172]
abbrev dktX0_undo_1 : List UInt8 := dkwX0_undo_1 ++ []
def dkwX0_undo_0 : List UInt8 := [42, 180, 0, 44, 180, 0, 96, 154, 0, 10, 42, 18, 204, 182, 0, 86, 172, 42, 42, 180, 0, 44]
abbrev dktX0_undo_0 : List UInt8 := dkwX0_undo_0 ++ dktX0_undo_1
theorem dksX0_undo_0 : cX0_undo.data.toList.drop 0 = dktX0_undo_0 := by decide +kernel
theorem dksX0_undo_1 : cX0_undo.data.toList.drop 22 = dktX0_undo_1 := dk_seg dksX0_undo_0 22 rfl rfl
theorem dX0_undo_0 : decode cX0_undo 0 = .ok (.aload_n 0, 1) := dk_42 (dk_at dksX0_undo_0 0 rfl rfl)
theorem dX0_undo_1 : decode cX0_undo 1 = .ok (.getfield 44, 3) := dk_180 0 44 (dk_at dksX0_undo_0 1 rfl rfl)
theorem dX0_undo_4 : decode cX0_undo 4 = .ok (.getfield 96, 3) := dk_180 0 96 (dk_at dksX0_undo_0 4 rfl rfl)
theorem dX0_undo_7 : decode cX0_undo 7 = .ok (.ifCond .ne 10, 3) := dk_154 0 10 (dk_at dksX0_undo_0 7 rfl rfl)
theorem dX0_undo_10 : decode cX0_undo 10 = .ok (.aload_n 0, 1) := dk_42 (dk_at dksX0_undo_0 10 rfl rfl)
theorem dX0_undo_11 : decode cX0_undo 11 = .ok (.ldc 204, 2) := dk_18 204 (dk_at dksX0_undo_0 11 rfl rfl)
theorem dX0_undo_13 : decode cX0_undo 13 = .ok (.invokevirtual 86, 3) := dk_182 0 86 (dk_at dksX0_undo_0 13 rfl rfl)
theorem dX0_undo_16 : decode cX0_undo 16 = .ok (.ireturn, 1) := dk_172 (dk_at dksX0_undo_0 16 rfl rfl)
theorem dX0_undo_17 : decode cX0_undo 17 = .ok (.aload_n 0, 1) := dk_42 (dk_at dksX0_undo_0 17 rfl rfl)
theorem dX0_undo_18 : decode cX0_undo 18 = .ok (.aload_n 0, 1) := dk_42 (dk_at dksX0_undo_0 18 rfl rfl)
theorem dX0_undo_19 : decode cX0_undo 19 = .ok (.getfield 44, 3) := dk_180 0 44 (dk_at dksX0_undo_0 19 rfl rfl)
theorem dX0_undo_22 : decode cX0_undo 22 = .ok (.invokevirtual 212, 3) := dk_182 0 212 (dk_at dksX0_undo_1 0 rfl rfl)
theorem dX0_undo_25 : decode cX0_undo 25 = .ok (.checkcast 32, 3) := dk_192 0 32 (dk_at dksX0_undo_1 3 rfl rfl)
theorem dX0_undo_28 : decode cX0_undo 28 = .ok (.putfield 35, 3) := dk_181 0 35 (dk_at dksX0_undo_1 6 rfl rfl)
theorem dX0_undo_31 : decode cX0_undo 31 = .ok (.aload_n 0, 1) := dk_42 (dk_at dksX0_undo_1 9 rfl rfl)
theorem dX0_undo_32 : decode cX0_undo 32 = .ok (.getfield 44, 3) := dk_180 0 44 (dk_at dksX0_undo_1 10 rfl rfl)
theorem dX0_undo_35 : decode cX0_undo 35 = .ok (.getfield 96, 3) := dk_180 0 96 (dk_at dksX0_undo_1 13 rfl rfl)
theorem dX0_undo_38 : decode cX0_undo 38 = .ok (.ireturn, 1) := dk_172 (dk_at dksX0_undo_1 16 rfl rfl)
abbrev cX0_errorCount : ByteArray := prog_1_method_39_code
def yX0_errorCount : MethodName := ⟨RX0, "errorCount", "(I)I"⟩
def dkwX0_errorCount_1 : List UInt8 := [182, 0, 86, 172]
abbrev dktX0_errorCount_1 : List UInt8 := dkwX0_errorCount_1 ++ []
def dkwX0_errorCount_0 : List UInt8 := [27, 133, 9, 20, 0, 27, 184, 0, 7, 153, 0, 12, 42, 180, 0, 55, 27, 46, 167, 0, 9, 42, 18, 59]
abbrev dktX0_errorCount_0 : List UInt8 := dkwX0_errorCount_0 ++ dktX0_errorCount_1
theorem dksX0_errorCount_0 : cX0_errorCount.data.toList.drop 0 = dktX0_errorCount_0 := by decide +kernel
theorem dksX0_errorCount_1 : cX0_errorCount.data.toList.drop 24 = dktX0_errorCount_1 := dk_seg dksX0_errorCount_0 24 rfl rfl
theorem dX0_errorCount_0 : decode cX0_errorCount 0 = .ok (.iload_n 1, 1) := dk_27 (dk_at dksX0_errorCount_0 0 rfl rfl)
theorem dX0_errorCount_1 : decode cX0_errorCount 1 = .ok (.i2l, 1) := dk_133 (dk_at dksX0_errorCount_0 1 rfl rfl)
theorem dX0_errorCount_2 : decode cX0_errorCount 2 = .ok (.lconst 0, 1) := dk_9 (dk_at dksX0_errorCount_0 2 rfl rfl)
theorem dX0_errorCount_3 : decode cX0_errorCount 3 = .ok (.ldc2_w 27, 3) := dk_20 0 27 (dk_at dksX0_errorCount_0 3 rfl rfl)
theorem dX0_errorCount_6 : decode cX0_errorCount 6 = .ok (.invokestatic 7, 3) := dk_184 0 7 (dk_at dksX0_errorCount_0 6 rfl rfl)
theorem dX0_errorCount_9 : decode cX0_errorCount 9 = .ok (.ifCond .eq 12, 3) := dk_153 0 12 (dk_at dksX0_errorCount_0 9 rfl rfl)
theorem dX0_errorCount_12 : decode cX0_errorCount 12 = .ok (.aload_n 0, 1) := dk_42 (dk_at dksX0_errorCount_0 12 rfl rfl)
theorem dX0_errorCount_13 : decode cX0_errorCount 13 = .ok (.getfield 55, 3) := dk_180 0 55 (dk_at dksX0_errorCount_0 13 rfl rfl)
theorem dX0_errorCount_16 : decode cX0_errorCount 16 = .ok (.iload_n 1, 1) := dk_27 (dk_at dksX0_errorCount_0 16 rfl rfl)
theorem dX0_errorCount_17 : decode cX0_errorCount 17 = .ok (.iaload, 1) := dk_46 (dk_at dksX0_errorCount_0 17 rfl rfl)
theorem dX0_errorCount_18 : decode cX0_errorCount 18 = .ok (.goto 9, 3) := dk_167 0 9 (dk_at dksX0_errorCount_0 18 rfl rfl)
theorem dX0_errorCount_21 : decode cX0_errorCount 21 = .ok (.aload_n 0, 1) := dk_42 (dk_at dksX0_errorCount_0 21 rfl rfl)
theorem dX0_errorCount_22 : decode cX0_errorCount 22 = .ok (.ldc 59, 2) := dk_18 59 (dk_at dksX0_errorCount_0 22 rfl rfl)
theorem dX0_errorCount_24 : decode cX0_errorCount 24 = .ok (.invokevirtual 86, 3) := dk_182 0 86 (dk_at dksX0_errorCount_1 0 rfl rfl)
theorem dX0_errorCount_27 : decode cX0_errorCount 27 = .ok (.ireturn, 1) := dk_172 (dk_at dksX0_errorCount_1 3 rfl rfl)
abbrev cX0_digest : ByteArray := prog_1_method_41_code
def yX0_digest : MethodName := ⟨RX0, "digest", "()J"⟩
def dkwX0_digest_13 : List UInt8 := [132, 5, 1, 167, 255, 191, 33, 173]
abbrev dktX0_digest_13 : List UInt8 := dkwX0_digest_13 ++ []
def dkwX0_digest_12 : List UInt8 := [25, 6, 180, 0, 234, 167, 0, 4, 2, 79, 89, 4, 25, 6, 180, 0, 237, 79, 184, 0, 220, 66]
abbrev dktX0_digest_12 : List UInt8 := dkwX0_digest_12 ++ dktX0_digest_13
def dkwX0_digest_11 : List UInt8 := [21, 5, 182, 0, 226, 192, 0, 162, 58, 6, 33, 5, 188, 10, 89, 3, 25, 6, 182, 0, 230, 153, 0, 11]
abbrev dktX0_digest_11 : List UInt8 := dkwX0_digest_11 ++ dktX0_digest_12
def dkwX0_digest_10 : List UInt8 := [184, 0, 220, 66, 3, 54, 5, 21, 5, 43, 180, 0, 93, 180, 0, 96, 162, 0, 59, 43, 180, 0, 93]
abbrev dktX0_digest_10 : List UInt8 := dkwX0_digest_10 ++ dktX0_digest_11
def dkwX0_digest_9 : List UInt8 := [180, 0, 126, 79, 89, 8, 43, 180, 0, 129, 79, 89, 16, 6, 43, 180, 0, 93, 180, 0, 96, 79]
abbrev dktX0_digest_9 : List UInt8 := dkwX0_digest_9 ++ dktX0_digest_10
def dkwX0_digest_8 : List UInt8 := [4, 44, 180, 0, 177, 79, 89, 5, 44, 180, 0, 180, 79, 89, 6, 43, 180, 0, 123, 79, 89, 7, 43]
abbrev dktX0_digest_8 : List UInt8 := dkwX0_digest_8 ++ dktX0_digest_9
def dkwX0_digest_7 : List UInt8 := [79, 184, 0, 220, 66, 132, 7, 1, 167, 255, 215, 33, 16, 7, 188, 10, 89, 3, 44, 180, 0, 174, 79, 89]
abbrev dktX0_digest_7 : List UInt8 := dkwX0_digest_7 ++ dktX0_digest_8
def dkwX0_digest_6 : List UInt8 := [21, 7, 50, 58, 8, 33, 5, 188, 10, 89, 3, 25, 8, 180, 0, 223, 79, 89, 4, 25, 8, 180, 0, 145]
abbrev dktX0_digest_6 : List UInt8 := dkwX0_digest_6 ++ dktX0_digest_7
def dkwX0_digest_5 : List UInt8 := [66, 43, 180, 0, 141, 58, 5, 25, 5, 190, 54, 6, 3, 54, 7, 21, 7, 21, 6, 162, 0, 40, 25, 5]
abbrev dktX0_digest_5 : List UInt8 := dkwX0_digest_5 ++ dktX0_digest_6
def dkwX0_digest_4 : List UInt8 := [43, 180, 0, 135, 79, 89, 16, 10, 43, 180, 0, 132, 79, 89, 16, 11, 43, 180, 0, 155, 79, 184, 0, 220]
abbrev dktX0_digest_4 : List UInt8 := dkwX0_digest_4 ++ dktX0_digest_5
def dkwX0_digest_3 : List UInt8 := [44, 180, 0, 117, 79, 89, 16, 7, 44, 180, 0, 171, 79, 89, 16, 8, 44, 180, 0, 120, 79, 89, 16, 9]
abbrev dktX0_digest_3 : List UInt8 := dkwX0_digest_3 ++ dktX0_digest_4
def dkwX0_digest_2 : List UInt8 := [180, 0, 44, 180, 0, 96, 79, 89, 7, 44, 180, 0, 111, 79, 89, 8, 44, 180, 0, 114, 79, 89, 16, 6]
abbrev dktX0_digest_2 : List UInt8 := dkwX0_digest_2 ++ dktX0_digest_3
def dkwX0_digest_1 : List UInt8 := [46, 79, 89, 4, 42, 180, 0, 55, 4, 46, 79, 89, 5, 42, 180, 0, 55, 5, 46, 79, 89, 6, 42]
abbrev dktX0_digest_1 : List UInt8 := dkwX0_digest_1 ++ dktX0_digest_2
def dkwX0_digest_0 : List UInt8 := [42, 180, 0, 35, 76, 43, 180, 0, 100, 77, 20, 0, 218, 16, 12, 188, 10, 89, 3, 42, 180, 0, 55, 3]
abbrev dktX0_digest_0 : List UInt8 := dkwX0_digest_0 ++ dktX0_digest_1
theorem dksX0_digest_0 : cX0_digest.data.toList.drop 0 = dktX0_digest_0 := by decide +kernel
theorem dksX0_digest_1 : cX0_digest.data.toList.drop 24 = dktX0_digest_1 := dk_seg dksX0_digest_0 24 rfl rfl
theorem dksX0_digest_2 : cX0_digest.data.toList.drop 47 = dktX0_digest_2 := dk_seg dksX0_digest_1 23 rfl rfl
theorem dksX0_digest_3 : cX0_digest.data.toList.drop 71 = dktX0_digest_3 := dk_seg dksX0_digest_2 24 rfl rfl
theorem dksX0_digest_4 : cX0_digest.data.toList.drop 95 = dktX0_digest_4 := dk_seg dksX0_digest_3 24 rfl rfl
theorem dksX0_digest_5 : cX0_digest.data.toList.drop 119 = dktX0_digest_5 := dk_seg dksX0_digest_4 24 rfl rfl
theorem dksX0_digest_6 : cX0_digest.data.toList.drop 143 = dktX0_digest_6 := dk_seg dksX0_digest_5 24 rfl rfl
theorem dksX0_digest_7 : cX0_digest.data.toList.drop 167 = dktX0_digest_7 := dk_seg dksX0_digest_6 24 rfl rfl
theorem dksX0_digest_8 : cX0_digest.data.toList.drop 191 = dktX0_digest_8 := dk_seg dksX0_digest_7 24 rfl rfl
theorem dksX0_digest_9 : cX0_digest.data.toList.drop 214 = dktX0_digest_9 := dk_seg dksX0_digest_8 23 rfl rfl
theorem dksX0_digest_10 : cX0_digest.data.toList.drop 236 = dktX0_digest_10 := dk_seg dksX0_digest_9 22 rfl rfl
theorem dksX0_digest_11 : cX0_digest.data.toList.drop 259 = dktX0_digest_11 := dk_seg dksX0_digest_10 23 rfl rfl
theorem dksX0_digest_12 : cX0_digest.data.toList.drop 283 = dktX0_digest_12 := dk_seg dksX0_digest_11 24 rfl rfl
theorem dksX0_digest_13 : cX0_digest.data.toList.drop 305 = dktX0_digest_13 := dk_seg dksX0_digest_12 22 rfl rfl
theorem dX0_digest_0 : decode cX0_digest 0 = .ok (.aload_n 0, 1) := dk_42 (dk_at dksX0_digest_0 0 rfl rfl)
theorem dX0_digest_1 : decode cX0_digest 1 = .ok (.getfield 35, 3) := dk_180 0 35 (dk_at dksX0_digest_0 1 rfl rfl)
theorem dX0_digest_4 : decode cX0_digest 4 = .ok (.astore_n 1, 1) := dk_76 (dk_at dksX0_digest_0 4 rfl rfl)
theorem dX0_digest_5 : decode cX0_digest 5 = .ok (.aload_n 1, 1) := dk_43 (dk_at dksX0_digest_0 5 rfl rfl)
theorem dX0_digest_6 : decode cX0_digest 6 = .ok (.getfield 100, 3) := dk_180 0 100 (dk_at dksX0_digest_0 6 rfl rfl)
theorem dX0_digest_9 : decode cX0_digest 9 = .ok (.astore_n 2, 1) := dk_77 (dk_at dksX0_digest_0 9 rfl rfl)
theorem dX0_digest_10 : decode cX0_digest 10 = .ok (.ldc2_w 218, 3) := dk_20 0 218 (dk_at dksX0_digest_0 10 rfl rfl)
theorem dX0_digest_13 : decode cX0_digest 13 = .ok (.bipush 12, 2) := dk_16 12 (dk_at dksX0_digest_0 13 rfl rfl)
theorem dX0_digest_15 : decode cX0_digest 15 = .ok (.newarray .int, 2) := dk_188_10 (dk_at dksX0_digest_0 15 rfl rfl)
theorem dX0_digest_17 : decode cX0_digest 17 = .ok (.dup, 1) := dk_89 (dk_at dksX0_digest_0 17 rfl rfl)
theorem dX0_digest_18 : decode cX0_digest 18 = .ok (.iconst 0, 1) := dk_3 (dk_at dksX0_digest_0 18 rfl rfl)
theorem dX0_digest_19 : decode cX0_digest 19 = .ok (.aload_n 0, 1) := dk_42 (dk_at dksX0_digest_0 19 rfl rfl)
theorem dX0_digest_20 : decode cX0_digest 20 = .ok (.getfield 55, 3) := dk_180 0 55 (dk_at dksX0_digest_0 20 rfl rfl)
theorem dX0_digest_23 : decode cX0_digest 23 = .ok (.iconst 0, 1) := dk_3 (dk_at dksX0_digest_0 23 rfl rfl)
theorem dX0_digest_24 : decode cX0_digest 24 = .ok (.iaload, 1) := dk_46 (dk_at dksX0_digest_1 0 rfl rfl)
theorem dX0_digest_25 : decode cX0_digest 25 = .ok (.iastore, 1) := dk_79 (dk_at dksX0_digest_1 1 rfl rfl)
theorem dX0_digest_26 : decode cX0_digest 26 = .ok (.dup, 1) := dk_89 (dk_at dksX0_digest_1 2 rfl rfl)
theorem dX0_digest_27 : decode cX0_digest 27 = .ok (.iconst 1, 1) := dk_4 (dk_at dksX0_digest_1 3 rfl rfl)
theorem dX0_digest_28 : decode cX0_digest 28 = .ok (.aload_n 0, 1) := dk_42 (dk_at dksX0_digest_1 4 rfl rfl)
theorem dX0_digest_29 : decode cX0_digest 29 = .ok (.getfield 55, 3) := dk_180 0 55 (dk_at dksX0_digest_1 5 rfl rfl)
theorem dX0_digest_32 : decode cX0_digest 32 = .ok (.iconst 1, 1) := dk_4 (dk_at dksX0_digest_1 8 rfl rfl)
theorem dX0_digest_33 : decode cX0_digest 33 = .ok (.iaload, 1) := dk_46 (dk_at dksX0_digest_1 9 rfl rfl)
theorem dX0_digest_34 : decode cX0_digest 34 = .ok (.iastore, 1) := dk_79 (dk_at dksX0_digest_1 10 rfl rfl)
theorem dX0_digest_35 : decode cX0_digest 35 = .ok (.dup, 1) := dk_89 (dk_at dksX0_digest_1 11 rfl rfl)
theorem dX0_digest_36 : decode cX0_digest 36 = .ok (.iconst 2, 1) := dk_5 (dk_at dksX0_digest_1 12 rfl rfl)
theorem dX0_digest_37 : decode cX0_digest 37 = .ok (.aload_n 0, 1) := dk_42 (dk_at dksX0_digest_1 13 rfl rfl)
theorem dX0_digest_38 : decode cX0_digest 38 = .ok (.getfield 55, 3) := dk_180 0 55 (dk_at dksX0_digest_1 14 rfl rfl)
theorem dX0_digest_41 : decode cX0_digest 41 = .ok (.iconst 2, 1) := dk_5 (dk_at dksX0_digest_1 17 rfl rfl)
theorem dX0_digest_42 : decode cX0_digest 42 = .ok (.iaload, 1) := dk_46 (dk_at dksX0_digest_1 18 rfl rfl)
theorem dX0_digest_43 : decode cX0_digest 43 = .ok (.iastore, 1) := dk_79 (dk_at dksX0_digest_1 19 rfl rfl)
theorem dX0_digest_44 : decode cX0_digest 44 = .ok (.dup, 1) := dk_89 (dk_at dksX0_digest_1 20 rfl rfl)
theorem dX0_digest_45 : decode cX0_digest 45 = .ok (.iconst 3, 1) := dk_6 (dk_at dksX0_digest_1 21 rfl rfl)
theorem dX0_digest_46 : decode cX0_digest 46 = .ok (.aload_n 0, 1) := dk_42 (dk_at dksX0_digest_1 22 rfl rfl)
theorem dX0_digest_47 : decode cX0_digest 47 = .ok (.getfield 44, 3) := dk_180 0 44 (dk_at dksX0_digest_2 0 rfl rfl)
theorem dX0_digest_50 : decode cX0_digest 50 = .ok (.getfield 96, 3) := dk_180 0 96 (dk_at dksX0_digest_2 3 rfl rfl)
theorem dX0_digest_53 : decode cX0_digest 53 = .ok (.iastore, 1) := dk_79 (dk_at dksX0_digest_2 6 rfl rfl)
theorem dX0_digest_54 : decode cX0_digest 54 = .ok (.dup, 1) := dk_89 (dk_at dksX0_digest_2 7 rfl rfl)
theorem dX0_digest_55 : decode cX0_digest 55 = .ok (.iconst 4, 1) := dk_7 (dk_at dksX0_digest_2 8 rfl rfl)
theorem dX0_digest_56 : decode cX0_digest 56 = .ok (.aload_n 2, 1) := dk_44 (dk_at dksX0_digest_2 9 rfl rfl)
theorem dX0_digest_57 : decode cX0_digest 57 = .ok (.getfield 111, 3) := dk_180 0 111 (dk_at dksX0_digest_2 10 rfl rfl)
theorem dX0_digest_60 : decode cX0_digest 60 = .ok (.iastore, 1) := dk_79 (dk_at dksX0_digest_2 13 rfl rfl)
theorem dX0_digest_61 : decode cX0_digest 61 = .ok (.dup, 1) := dk_89 (dk_at dksX0_digest_2 14 rfl rfl)
theorem dX0_digest_62 : decode cX0_digest 62 = .ok (.iconst 5, 1) := dk_8 (dk_at dksX0_digest_2 15 rfl rfl)
theorem dX0_digest_63 : decode cX0_digest 63 = .ok (.aload_n 2, 1) := dk_44 (dk_at dksX0_digest_2 16 rfl rfl)
theorem dX0_digest_64 : decode cX0_digest 64 = .ok (.getfield 114, 3) := dk_180 0 114 (dk_at dksX0_digest_2 17 rfl rfl)
theorem dX0_digest_67 : decode cX0_digest 67 = .ok (.iastore, 1) := dk_79 (dk_at dksX0_digest_2 20 rfl rfl)
theorem dX0_digest_68 : decode cX0_digest 68 = .ok (.dup, 1) := dk_89 (dk_at dksX0_digest_2 21 rfl rfl)
theorem dX0_digest_69 : decode cX0_digest 69 = .ok (.bipush 6, 2) := dk_16 6 (dk_at dksX0_digest_2 22 rfl rfl)
theorem dX0_digest_71 : decode cX0_digest 71 = .ok (.aload_n 2, 1) := dk_44 (dk_at dksX0_digest_3 0 rfl rfl)
theorem dX0_digest_72 : decode cX0_digest 72 = .ok (.getfield 117, 3) := dk_180 0 117 (dk_at dksX0_digest_3 1 rfl rfl)
theorem dX0_digest_75 : decode cX0_digest 75 = .ok (.iastore, 1) := dk_79 (dk_at dksX0_digest_3 4 rfl rfl)
theorem dX0_digest_76 : decode cX0_digest 76 = .ok (.dup, 1) := dk_89 (dk_at dksX0_digest_3 5 rfl rfl)
theorem dX0_digest_77 : decode cX0_digest 77 = .ok (.bipush 7, 2) := dk_16 7 (dk_at dksX0_digest_3 6 rfl rfl)
theorem dX0_digest_79 : decode cX0_digest 79 = .ok (.aload_n 2, 1) := dk_44 (dk_at dksX0_digest_3 8 rfl rfl)
theorem dX0_digest_80 : decode cX0_digest 80 = .ok (.getfield 171, 3) := dk_180 0 171 (dk_at dksX0_digest_3 9 rfl rfl)
theorem dX0_digest_83 : decode cX0_digest 83 = .ok (.iastore, 1) := dk_79 (dk_at dksX0_digest_3 12 rfl rfl)
theorem dX0_digest_84 : decode cX0_digest 84 = .ok (.dup, 1) := dk_89 (dk_at dksX0_digest_3 13 rfl rfl)
theorem dX0_digest_85 : decode cX0_digest 85 = .ok (.bipush 8, 2) := dk_16 8 (dk_at dksX0_digest_3 14 rfl rfl)
theorem dX0_digest_87 : decode cX0_digest 87 = .ok (.aload_n 2, 1) := dk_44 (dk_at dksX0_digest_3 16 rfl rfl)
theorem dX0_digest_88 : decode cX0_digest 88 = .ok (.getfield 120, 3) := dk_180 0 120 (dk_at dksX0_digest_3 17 rfl rfl)
theorem dX0_digest_91 : decode cX0_digest 91 = .ok (.iastore, 1) := dk_79 (dk_at dksX0_digest_3 20 rfl rfl)
theorem dX0_digest_92 : decode cX0_digest 92 = .ok (.dup, 1) := dk_89 (dk_at dksX0_digest_3 21 rfl rfl)
theorem dX0_digest_93 : decode cX0_digest 93 = .ok (.bipush 9, 2) := dk_16 9 (dk_at dksX0_digest_3 22 rfl rfl)
theorem dX0_digest_95 : decode cX0_digest 95 = .ok (.aload_n 1, 1) := dk_43 (dk_at dksX0_digest_4 0 rfl rfl)
theorem dX0_digest_96 : decode cX0_digest 96 = .ok (.getfield 135, 3) := dk_180 0 135 (dk_at dksX0_digest_4 1 rfl rfl)
theorem dX0_digest_99 : decode cX0_digest 99 = .ok (.iastore, 1) := dk_79 (dk_at dksX0_digest_4 4 rfl rfl)
theorem dX0_digest_100 : decode cX0_digest 100 = .ok (.dup, 1) := dk_89 (dk_at dksX0_digest_4 5 rfl rfl)
theorem dX0_digest_101 : decode cX0_digest 101 = .ok (.bipush 10, 2) := dk_16 10 (dk_at dksX0_digest_4 6 rfl rfl)
theorem dX0_digest_103 : decode cX0_digest 103 = .ok (.aload_n 1, 1) := dk_43 (dk_at dksX0_digest_4 8 rfl rfl)
theorem dX0_digest_104 : decode cX0_digest 104 = .ok (.getfield 132, 3) := dk_180 0 132 (dk_at dksX0_digest_4 9 rfl rfl)
theorem dX0_digest_107 : decode cX0_digest 107 = .ok (.iastore, 1) := dk_79 (dk_at dksX0_digest_4 12 rfl rfl)
theorem dX0_digest_108 : decode cX0_digest 108 = .ok (.dup, 1) := dk_89 (dk_at dksX0_digest_4 13 rfl rfl)
theorem dX0_digest_109 : decode cX0_digest 109 = .ok (.bipush 11, 2) := dk_16 11 (dk_at dksX0_digest_4 14 rfl rfl)
theorem dX0_digest_111 : decode cX0_digest 111 = .ok (.aload_n 1, 1) := dk_43 (dk_at dksX0_digest_4 16 rfl rfl)
theorem dX0_digest_112 : decode cX0_digest 112 = .ok (.getfield 155, 3) := dk_180 0 155 (dk_at dksX0_digest_4 17 rfl rfl)
theorem dX0_digest_115 : decode cX0_digest 115 = .ok (.iastore, 1) := dk_79 (dk_at dksX0_digest_4 20 rfl rfl)
theorem dX0_digest_116 : decode cX0_digest 116 = .ok (.invokestatic 220, 3) := dk_184 0 220 (dk_at dksX0_digest_4 21 rfl rfl)
theorem dX0_digest_119 : decode cX0_digest 119 = .ok (.lstore_n 3, 1) := dk_66 (dk_at dksX0_digest_5 0 rfl rfl)
theorem dX0_digest_120 : decode cX0_digest 120 = .ok (.aload_n 1, 1) := dk_43 (dk_at dksX0_digest_5 1 rfl rfl)
theorem dX0_digest_121 : decode cX0_digest 121 = .ok (.getfield 141, 3) := dk_180 0 141 (dk_at dksX0_digest_5 2 rfl rfl)
theorem dX0_digest_124 : decode cX0_digest 124 = .ok (.astore 5, 2) := dk_58 5 (dk_at dksX0_digest_5 5 rfl rfl)
theorem dX0_digest_126 : decode cX0_digest 126 = .ok (.aload 5, 2) := dk_25 5 (dk_at dksX0_digest_5 7 rfl rfl)
theorem dX0_digest_128 : decode cX0_digest 128 = .ok (.arraylength, 1) := dk_190 (dk_at dksX0_digest_5 9 rfl rfl)
theorem dX0_digest_129 : decode cX0_digest 129 = .ok (.istore 6, 2) := dk_54 6 (dk_at dksX0_digest_5 10 rfl rfl)
theorem dX0_digest_131 : decode cX0_digest 131 = .ok (.iconst 0, 1) := dk_3 (dk_at dksX0_digest_5 12 rfl rfl)
theorem dX0_digest_132 : decode cX0_digest 132 = .ok (.istore 7, 2) := dk_54 7 (dk_at dksX0_digest_5 13 rfl rfl)
theorem dX0_digest_134 : decode cX0_digest 134 = .ok (.iload 7, 2) := dk_21 7 (dk_at dksX0_digest_5 15 rfl rfl)
theorem dX0_digest_136 : decode cX0_digest 136 = .ok (.iload 6, 2) := dk_21 6 (dk_at dksX0_digest_5 17 rfl rfl)
theorem dX0_digest_138 : decode cX0_digest 138 = .ok (.if_icmp .ge 40, 3) := dk_162 0 40 (dk_at dksX0_digest_5 19 rfl rfl)
theorem dX0_digest_141 : decode cX0_digest 141 = .ok (.aload 5, 2) := dk_25 5 (dk_at dksX0_digest_5 22 rfl rfl)
theorem dX0_digest_143 : decode cX0_digest 143 = .ok (.iload 7, 2) := dk_21 7 (dk_at dksX0_digest_6 0 rfl rfl)
theorem dX0_digest_145 : decode cX0_digest 145 = .ok (.aaload, 1) := dk_50 (dk_at dksX0_digest_6 2 rfl rfl)
theorem dX0_digest_146 : decode cX0_digest 146 = .ok (.astore 8, 2) := dk_58 8 (dk_at dksX0_digest_6 3 rfl rfl)
theorem dX0_digest_148 : decode cX0_digest 148 = .ok (.lload_n 3, 1) := dk_33 (dk_at dksX0_digest_6 5 rfl rfl)
theorem dX0_digest_149 : decode cX0_digest 149 = .ok (.iconst 2, 1) := dk_5 (dk_at dksX0_digest_6 6 rfl rfl)
theorem dX0_digest_150 : decode cX0_digest 150 = .ok (.newarray .int, 2) := dk_188_10 (dk_at dksX0_digest_6 7 rfl rfl)
theorem dX0_digest_152 : decode cX0_digest 152 = .ok (.dup, 1) := dk_89 (dk_at dksX0_digest_6 9 rfl rfl)
theorem dX0_digest_153 : decode cX0_digest 153 = .ok (.iconst 0, 1) := dk_3 (dk_at dksX0_digest_6 10 rfl rfl)
theorem dX0_digest_154 : decode cX0_digest 154 = .ok (.aload 8, 2) := dk_25 8 (dk_at dksX0_digest_6 11 rfl rfl)
theorem dX0_digest_156 : decode cX0_digest 156 = .ok (.getfield 223, 3) := dk_180 0 223 (dk_at dksX0_digest_6 13 rfl rfl)
theorem dX0_digest_159 : decode cX0_digest 159 = .ok (.iastore, 1) := dk_79 (dk_at dksX0_digest_6 16 rfl rfl)
theorem dX0_digest_160 : decode cX0_digest 160 = .ok (.dup, 1) := dk_89 (dk_at dksX0_digest_6 17 rfl rfl)
theorem dX0_digest_161 : decode cX0_digest 161 = .ok (.iconst 1, 1) := dk_4 (dk_at dksX0_digest_6 18 rfl rfl)
theorem dX0_digest_162 : decode cX0_digest 162 = .ok (.aload 8, 2) := dk_25 8 (dk_at dksX0_digest_6 19 rfl rfl)
theorem dX0_digest_164 : decode cX0_digest 164 = .ok (.getfield 145, 3) := dk_180 0 145 (dk_at dksX0_digest_6 21 rfl rfl)
theorem dX0_digest_167 : decode cX0_digest 167 = .ok (.iastore, 1) := dk_79 (dk_at dksX0_digest_7 0 rfl rfl)
theorem dX0_digest_168 : decode cX0_digest 168 = .ok (.invokestatic 220, 3) := dk_184 0 220 (dk_at dksX0_digest_7 1 rfl rfl)
theorem dX0_digest_171 : decode cX0_digest 171 = .ok (.lstore_n 3, 1) := dk_66 (dk_at dksX0_digest_7 4 rfl rfl)
theorem dX0_digest_172 : decode cX0_digest 172 = .ok (.iinc 7 1, 3) := dk_132 7 1 (dk_at dksX0_digest_7 5 rfl rfl)
theorem dX0_digest_175 : decode cX0_digest 175 = .ok (.goto (-41), 3) := dk_167 255 215 (dk_at dksX0_digest_7 8 rfl rfl)
theorem dX0_digest_178 : decode cX0_digest 178 = .ok (.lload_n 3, 1) := dk_33 (dk_at dksX0_digest_7 11 rfl rfl)
theorem dX0_digest_179 : decode cX0_digest 179 = .ok (.bipush 7, 2) := dk_16 7 (dk_at dksX0_digest_7 12 rfl rfl)
theorem dX0_digest_181 : decode cX0_digest 181 = .ok (.newarray .int, 2) := dk_188_10 (dk_at dksX0_digest_7 14 rfl rfl)
theorem dX0_digest_183 : decode cX0_digest 183 = .ok (.dup, 1) := dk_89 (dk_at dksX0_digest_7 16 rfl rfl)
theorem dX0_digest_184 : decode cX0_digest 184 = .ok (.iconst 0, 1) := dk_3 (dk_at dksX0_digest_7 17 rfl rfl)
theorem dX0_digest_185 : decode cX0_digest 185 = .ok (.aload_n 2, 1) := dk_44 (dk_at dksX0_digest_7 18 rfl rfl)
theorem dX0_digest_186 : decode cX0_digest 186 = .ok (.getfield 174, 3) := dk_180 0 174 (dk_at dksX0_digest_7 19 rfl rfl)
theorem dX0_digest_189 : decode cX0_digest 189 = .ok (.iastore, 1) := dk_79 (dk_at dksX0_digest_7 22 rfl rfl)
theorem dX0_digest_190 : decode cX0_digest 190 = .ok (.dup, 1) := dk_89 (dk_at dksX0_digest_7 23 rfl rfl)
theorem dX0_digest_191 : decode cX0_digest 191 = .ok (.iconst 1, 1) := dk_4 (dk_at dksX0_digest_8 0 rfl rfl)
theorem dX0_digest_192 : decode cX0_digest 192 = .ok (.aload_n 2, 1) := dk_44 (dk_at dksX0_digest_8 1 rfl rfl)
theorem dX0_digest_193 : decode cX0_digest 193 = .ok (.getfield 177, 3) := dk_180 0 177 (dk_at dksX0_digest_8 2 rfl rfl)
theorem dX0_digest_196 : decode cX0_digest 196 = .ok (.iastore, 1) := dk_79 (dk_at dksX0_digest_8 5 rfl rfl)
theorem dX0_digest_197 : decode cX0_digest 197 = .ok (.dup, 1) := dk_89 (dk_at dksX0_digest_8 6 rfl rfl)
theorem dX0_digest_198 : decode cX0_digest 198 = .ok (.iconst 2, 1) := dk_5 (dk_at dksX0_digest_8 7 rfl rfl)
theorem dX0_digest_199 : decode cX0_digest 199 = .ok (.aload_n 2, 1) := dk_44 (dk_at dksX0_digest_8 8 rfl rfl)
theorem dX0_digest_200 : decode cX0_digest 200 = .ok (.getfield 180, 3) := dk_180 0 180 (dk_at dksX0_digest_8 9 rfl rfl)
theorem dX0_digest_203 : decode cX0_digest 203 = .ok (.iastore, 1) := dk_79 (dk_at dksX0_digest_8 12 rfl rfl)
theorem dX0_digest_204 : decode cX0_digest 204 = .ok (.dup, 1) := dk_89 (dk_at dksX0_digest_8 13 rfl rfl)
theorem dX0_digest_205 : decode cX0_digest 205 = .ok (.iconst 3, 1) := dk_6 (dk_at dksX0_digest_8 14 rfl rfl)
theorem dX0_digest_206 : decode cX0_digest 206 = .ok (.aload_n 1, 1) := dk_43 (dk_at dksX0_digest_8 15 rfl rfl)
theorem dX0_digest_207 : decode cX0_digest 207 = .ok (.getfield 123, 3) := dk_180 0 123 (dk_at dksX0_digest_8 16 rfl rfl)
theorem dX0_digest_210 : decode cX0_digest 210 = .ok (.iastore, 1) := dk_79 (dk_at dksX0_digest_8 19 rfl rfl)
theorem dX0_digest_211 : decode cX0_digest 211 = .ok (.dup, 1) := dk_89 (dk_at dksX0_digest_8 20 rfl rfl)
theorem dX0_digest_212 : decode cX0_digest 212 = .ok (.iconst 4, 1) := dk_7 (dk_at dksX0_digest_8 21 rfl rfl)
theorem dX0_digest_213 : decode cX0_digest 213 = .ok (.aload_n 1, 1) := dk_43 (dk_at dksX0_digest_8 22 rfl rfl)
theorem dX0_digest_214 : decode cX0_digest 214 = .ok (.getfield 126, 3) := dk_180 0 126 (dk_at dksX0_digest_9 0 rfl rfl)
theorem dX0_digest_217 : decode cX0_digest 217 = .ok (.iastore, 1) := dk_79 (dk_at dksX0_digest_9 3 rfl rfl)
theorem dX0_digest_218 : decode cX0_digest 218 = .ok (.dup, 1) := dk_89 (dk_at dksX0_digest_9 4 rfl rfl)
theorem dX0_digest_219 : decode cX0_digest 219 = .ok (.iconst 5, 1) := dk_8 (dk_at dksX0_digest_9 5 rfl rfl)
theorem dX0_digest_220 : decode cX0_digest 220 = .ok (.aload_n 1, 1) := dk_43 (dk_at dksX0_digest_9 6 rfl rfl)
theorem dX0_digest_221 : decode cX0_digest 221 = .ok (.getfield 129, 3) := dk_180 0 129 (dk_at dksX0_digest_9 7 rfl rfl)
theorem dX0_digest_224 : decode cX0_digest 224 = .ok (.iastore, 1) := dk_79 (dk_at dksX0_digest_9 10 rfl rfl)
theorem dX0_digest_225 : decode cX0_digest 225 = .ok (.dup, 1) := dk_89 (dk_at dksX0_digest_9 11 rfl rfl)
theorem dX0_digest_226 : decode cX0_digest 226 = .ok (.bipush 6, 2) := dk_16 6 (dk_at dksX0_digest_9 12 rfl rfl)
theorem dX0_digest_228 : decode cX0_digest 228 = .ok (.aload_n 1, 1) := dk_43 (dk_at dksX0_digest_9 14 rfl rfl)
theorem dX0_digest_229 : decode cX0_digest 229 = .ok (.getfield 93, 3) := dk_180 0 93 (dk_at dksX0_digest_9 15 rfl rfl)
theorem dX0_digest_232 : decode cX0_digest 232 = .ok (.getfield 96, 3) := dk_180 0 96 (dk_at dksX0_digest_9 18 rfl rfl)
theorem dX0_digest_235 : decode cX0_digest 235 = .ok (.iastore, 1) := dk_79 (dk_at dksX0_digest_9 21 rfl rfl)
theorem dX0_digest_236 : decode cX0_digest 236 = .ok (.invokestatic 220, 3) := dk_184 0 220 (dk_at dksX0_digest_10 0 rfl rfl)
theorem dX0_digest_239 : decode cX0_digest 239 = .ok (.lstore_n 3, 1) := dk_66 (dk_at dksX0_digest_10 3 rfl rfl)
theorem dX0_digest_240 : decode cX0_digest 240 = .ok (.iconst 0, 1) := dk_3 (dk_at dksX0_digest_10 4 rfl rfl)
theorem dX0_digest_241 : decode cX0_digest 241 = .ok (.istore 5, 2) := dk_54 5 (dk_at dksX0_digest_10 5 rfl rfl)
theorem dX0_digest_243 : decode cX0_digest 243 = .ok (.iload 5, 2) := dk_21 5 (dk_at dksX0_digest_10 7 rfl rfl)
theorem dX0_digest_245 : decode cX0_digest 245 = .ok (.aload_n 1, 1) := dk_43 (dk_at dksX0_digest_10 9 rfl rfl)
theorem dX0_digest_246 : decode cX0_digest 246 = .ok (.getfield 93, 3) := dk_180 0 93 (dk_at dksX0_digest_10 10 rfl rfl)
theorem dX0_digest_249 : decode cX0_digest 249 = .ok (.getfield 96, 3) := dk_180 0 96 (dk_at dksX0_digest_10 13 rfl rfl)
theorem dX0_digest_252 : decode cX0_digest 252 = .ok (.if_icmp .ge 59, 3) := dk_162 0 59 (dk_at dksX0_digest_10 16 rfl rfl)
theorem dX0_digest_255 : decode cX0_digest 255 = .ok (.aload_n 1, 1) := dk_43 (dk_at dksX0_digest_10 19 rfl rfl)
theorem dX0_digest_256 : decode cX0_digest 256 = .ok (.getfield 93, 3) := dk_180 0 93 (dk_at dksX0_digest_10 20 rfl rfl)
theorem dX0_digest_259 : decode cX0_digest 259 = .ok (.iload 5, 2) := dk_21 5 (dk_at dksX0_digest_11 0 rfl rfl)
theorem dX0_digest_261 : decode cX0_digest 261 = .ok (.invokevirtual 226, 3) := dk_182 0 226 (dk_at dksX0_digest_11 2 rfl rfl)
theorem dX0_digest_264 : decode cX0_digest 264 = .ok (.checkcast 162, 3) := dk_192 0 162 (dk_at dksX0_digest_11 5 rfl rfl)
theorem dX0_digest_267 : decode cX0_digest 267 = .ok (.astore 6, 2) := dk_58 6 (dk_at dksX0_digest_11 8 rfl rfl)
theorem dX0_digest_269 : decode cX0_digest 269 = .ok (.lload_n 3, 1) := dk_33 (dk_at dksX0_digest_11 10 rfl rfl)
theorem dX0_digest_270 : decode cX0_digest 270 = .ok (.iconst 2, 1) := dk_5 (dk_at dksX0_digest_11 11 rfl rfl)
theorem dX0_digest_271 : decode cX0_digest 271 = .ok (.newarray .int, 2) := dk_188_10 (dk_at dksX0_digest_11 12 rfl rfl)
theorem dX0_digest_273 : decode cX0_digest 273 = .ok (.dup, 1) := dk_89 (dk_at dksX0_digest_11 14 rfl rfl)
theorem dX0_digest_274 : decode cX0_digest 274 = .ok (.iconst 0, 1) := dk_3 (dk_at dksX0_digest_11 15 rfl rfl)
theorem dX0_digest_275 : decode cX0_digest 275 = .ok (.aload 6, 2) := dk_25 6 (dk_at dksX0_digest_11 16 rfl rfl)
theorem dX0_digest_277 : decode cX0_digest 277 = .ok (.invokevirtual 230, 3) := dk_182 0 230 (dk_at dksX0_digest_11 18 rfl rfl)
theorem dX0_digest_280 : decode cX0_digest 280 = .ok (.ifCond .eq 11, 3) := dk_153 0 11 (dk_at dksX0_digest_11 21 rfl rfl)
theorem dX0_digest_283 : decode cX0_digest 283 = .ok (.aload 6, 2) := dk_25 6 (dk_at dksX0_digest_12 0 rfl rfl)
theorem dX0_digest_285 : decode cX0_digest 285 = .ok (.getfield 234, 3) := dk_180 0 234 (dk_at dksX0_digest_12 2 rfl rfl)
theorem dX0_digest_288 : decode cX0_digest 288 = .ok (.goto 4, 3) := dk_167 0 4 (dk_at dksX0_digest_12 5 rfl rfl)
theorem dX0_digest_291 : decode cX0_digest 291 = .ok (.iconst (-1), 1) := dk_2 (dk_at dksX0_digest_12 8 rfl rfl)
theorem dX0_digest_292 : decode cX0_digest 292 = .ok (.iastore, 1) := dk_79 (dk_at dksX0_digest_12 9 rfl rfl)
theorem dX0_digest_293 : decode cX0_digest 293 = .ok (.dup, 1) := dk_89 (dk_at dksX0_digest_12 10 rfl rfl)
theorem dX0_digest_294 : decode cX0_digest 294 = .ok (.iconst 1, 1) := dk_4 (dk_at dksX0_digest_12 11 rfl rfl)
theorem dX0_digest_295 : decode cX0_digest 295 = .ok (.aload 6, 2) := dk_25 6 (dk_at dksX0_digest_12 12 rfl rfl)
theorem dX0_digest_297 : decode cX0_digest 297 = .ok (.getfield 237, 3) := dk_180 0 237 (dk_at dksX0_digest_12 14 rfl rfl)
theorem dX0_digest_300 : decode cX0_digest 300 = .ok (.iastore, 1) := dk_79 (dk_at dksX0_digest_12 17 rfl rfl)
theorem dX0_digest_301 : decode cX0_digest 301 = .ok (.invokestatic 220, 3) := dk_184 0 220 (dk_at dksX0_digest_12 18 rfl rfl)
theorem dX0_digest_304 : decode cX0_digest 304 = .ok (.lstore_n 3, 1) := dk_66 (dk_at dksX0_digest_12 21 rfl rfl)
theorem dX0_digest_305 : decode cX0_digest 305 = .ok (.iinc 5 1, 3) := dk_132 5 1 (dk_at dksX0_digest_13 0 rfl rfl)
theorem dX0_digest_308 : decode cX0_digest 308 = .ok (.goto (-65), 3) := dk_167 255 191 (dk_at dksX0_digest_13 3 rfl rfl)
theorem dX0_digest_311 : decode cX0_digest 311 = .ok (.lload_n 3, 1) := dk_33 (dk_at dksX0_digest_13 6 rfl rfl)
theorem dX0_digest_312 : decode cX0_digest 312 = .ok (.lreturn, 1) := dk_173 (dk_at dksX0_digest_13 7 rfl rfl)
abbrev cX0_add : ByteArray := prog_1_method_40_code
def yX0_add : MethodName := ⟨RX0, "add", "(J[I)J"⟩
def dkwX0_add_1 : List UInt8 := [46, 54, 8, 20, 0, 216, 33, 105, 21, 8, 133, 97, 66, 132, 7, 1, 167, 255, 229, 33, 173]
abbrev dktX0_add_1 : List UInt8 := dkwX0_add_1 ++ []
def dkwX0_add_0 : List UInt8 := [30, 66, 44, 58, 5, 25, 5, 190, 54, 6, 3, 54, 7, 21, 7, 21, 6, 162, 0, 26, 25, 5, 21, 7]
abbrev dktX0_add_0 : List UInt8 := dkwX0_add_0 ++ dktX0_add_1
theorem dksX0_add_0 : cX0_add.data.toList.drop 0 = dktX0_add_0 := by decide +kernel
theorem dksX0_add_1 : cX0_add.data.toList.drop 24 = dktX0_add_1 := dk_seg dksX0_add_0 24 rfl rfl
theorem dX0_add_0 : decode cX0_add 0 = .ok (.lload_n 0, 1) := dk_30 (dk_at dksX0_add_0 0 rfl rfl)
theorem dX0_add_1 : decode cX0_add 1 = .ok (.lstore_n 3, 1) := dk_66 (dk_at dksX0_add_0 1 rfl rfl)
theorem dX0_add_2 : decode cX0_add 2 = .ok (.aload_n 2, 1) := dk_44 (dk_at dksX0_add_0 2 rfl rfl)
theorem dX0_add_3 : decode cX0_add 3 = .ok (.astore 5, 2) := dk_58 5 (dk_at dksX0_add_0 3 rfl rfl)
theorem dX0_add_5 : decode cX0_add 5 = .ok (.aload 5, 2) := dk_25 5 (dk_at dksX0_add_0 5 rfl rfl)
theorem dX0_add_7 : decode cX0_add 7 = .ok (.arraylength, 1) := dk_190 (dk_at dksX0_add_0 7 rfl rfl)
theorem dX0_add_8 : decode cX0_add 8 = .ok (.istore 6, 2) := dk_54 6 (dk_at dksX0_add_0 8 rfl rfl)
theorem dX0_add_10 : decode cX0_add 10 = .ok (.iconst 0, 1) := dk_3 (dk_at dksX0_add_0 10 rfl rfl)
theorem dX0_add_11 : decode cX0_add 11 = .ok (.istore 7, 2) := dk_54 7 (dk_at dksX0_add_0 11 rfl rfl)
theorem dX0_add_13 : decode cX0_add 13 = .ok (.iload 7, 2) := dk_21 7 (dk_at dksX0_add_0 13 rfl rfl)
theorem dX0_add_15 : decode cX0_add 15 = .ok (.iload 6, 2) := dk_21 6 (dk_at dksX0_add_0 15 rfl rfl)
theorem dX0_add_17 : decode cX0_add 17 = .ok (.if_icmp .ge 26, 3) := dk_162 0 26 (dk_at dksX0_add_0 17 rfl rfl)
theorem dX0_add_20 : decode cX0_add 20 = .ok (.aload 5, 2) := dk_25 5 (dk_at dksX0_add_0 20 rfl rfl)
theorem dX0_add_22 : decode cX0_add 22 = .ok (.iload 7, 2) := dk_21 7 (dk_at dksX0_add_0 22 rfl rfl)
theorem dX0_add_24 : decode cX0_add 24 = .ok (.iaload, 1) := dk_46 (dk_at dksX0_add_1 0 rfl rfl)
theorem dX0_add_25 : decode cX0_add 25 = .ok (.istore 8, 2) := dk_54 8 (dk_at dksX0_add_1 1 rfl rfl)
theorem dX0_add_27 : decode cX0_add 27 = .ok (.ldc2_w 216, 3) := dk_20 0 216 (dk_at dksX0_add_1 3 rfl rfl)
theorem dX0_add_30 : decode cX0_add 30 = .ok (.lload_n 3, 1) := dk_33 (dk_at dksX0_add_1 6 rfl rfl)
theorem dX0_add_31 : decode cX0_add 31 = .ok (.lmul, 1) := dk_105 (dk_at dksX0_add_1 7 rfl rfl)
theorem dX0_add_32 : decode cX0_add 32 = .ok (.iload 8, 2) := dk_21 8 (dk_at dksX0_add_1 8 rfl rfl)
theorem dX0_add_34 : decode cX0_add 34 = .ok (.i2l, 1) := dk_133 (dk_at dksX0_add_1 10 rfl rfl)
theorem dX0_add_35 : decode cX0_add 35 = .ok (.ladd, 1) := dk_97 (dk_at dksX0_add_1 11 rfl rfl)
theorem dX0_add_36 : decode cX0_add 36 = .ok (.lstore_n 3, 1) := dk_66 (dk_at dksX0_add_1 12 rfl rfl)
theorem dX0_add_37 : decode cX0_add 37 = .ok (.iinc 7 1, 3) := dk_132 7 1 (dk_at dksX0_add_1 13 rfl rfl)
theorem dX0_add_40 : decode cX0_add 40 = .ok (.goto (-27), 3) := dk_167 255 229 (dk_at dksX0_add_1 16 rfl rfl)
theorem dX0_add_43 : decode cX0_add 43 = .ok (.lload_n 3, 1) := dk_33 (dk_at dksX0_add_1 19 rfl rfl)
theorem dX0_add_44 : decode cX0_add 44 = .ok (.lreturn, 1) := dk_173 (dk_at dksX0_add_1 20 rfl rfl)
theorem q21 : (Jvm.Cond.initialized "TankFilter") ∈ lw_all := lw_g (lw_at lw_m1 1 rfl) rfl
theorem q36 : (Jvm.Cond.instantiable "TankFilter" (4 : Nat)) ∈ lw_all := lw_g (lw_at lw_m1 16 rfl) rfl
theorem q38 : (Jvm.Cond.instanceMethod ({ cls := "TankFilter", name := "<init>", desc := "()V" } : Jvm.MethodName)) ∈ lw_all := lw_g (lw_at lw_m1 18 rfl) rfl
theorem q39 : (Jvm.Cond.code ({ cls := "TankFilter", name := "<init>", desc := "()V" } : Jvm.MethodName) prog_1_method_5_code (1 : Nat) (Option.none : Option Jvm.ClassFile.FieldType)) ∈ lw_all := lw_g (lw_at lw_m1 19 rfl) rfl
theorem q40 : (Jvm.Cond.methodLink "TankFilter" (29 : Nat) ({ cls := "java/lang/Object", name := "<init>", desc := "()V" } : Jvm.MethodName)) ∈ lw_all := lw_g (lw_at lw_m1 20 rfl) rfl
theorem q43 : (Jvm.Cond.classLink "TankFilter" (32 : Nat) "TankFilter$State") ∈ lw_all := lw_g (lw_at lw_m1 23 rfl) rfl
theorem q45 : (Jvm.Cond.methodLink "TankFilter" (34 : Nat) ({ cls := "TankFilter$State", name := "<init>", desc := "()V" } : Jvm.MethodName)) ∈ lw_all := lw_g (lw_at lw_m1 25 rfl) rfl
theorem q58 : (Jvm.Cond.fieldLinkNest "TankFilter" (111 : Nat) "TankFilter$Estimate" "x" "I" "TankFilter") ∈ lw_tbl := lw_at lw_m1 38 rfl
theorem q60 : (Jvm.Cond.fieldLinkNest "TankFilter" (114 : Nat) "TankFilter$Estimate" "v" "I" "TankFilter") ∈ lw_tbl := lw_at lw_m1 40 rfl
theorem q62 : (Jvm.Cond.fieldLinkNest "TankFilter" (117 : Nat) "TankFilter$Estimate" "a" "I" "TankFilter") ∈ lw_tbl := lw_at lw_m1 42 rfl
theorem q64 : (Jvm.Cond.fieldLinkNest "TankFilter" (171 : Nat) "TankFilter$Estimate" "b" "I" "TankFilter") ∈ lw_tbl := lw_at lw_m1 44 rfl
theorem q66 : (Jvm.Cond.fieldLinkNest "TankFilter" (120 : Nat) "TankFilter$Estimate" "c" "I" "TankFilter") ∈ lw_tbl := lw_at lw_m1 46 rfl
theorem q69 : (Jvm.Cond.fieldLinkNest "TankFilter" (174 : Nat) "TankFilter$Estimate" "innovation" "I" "TankFilter") ∈ lw_tbl := lw_at lw_m1 49 rfl
theorem q72 : (Jvm.Cond.fieldLinkNest "TankFilter" (177 : Nat) "TankFilter$Estimate" "levelGain" "I" "TankFilter") ∈ lw_tbl := lw_at lw_m1 52 rfl
theorem q75 : (Jvm.Cond.fieldLinkNest "TankFilter" (180 : Nat) "TankFilter$Estimate" "flowGain" "I" "TankFilter") ∈ lw_tbl := lw_at lw_m1 55 rfl
theorem q106 : (Jvm.Cond.fieldLinkNest "TankFilter" (96 : Nat) "TankFilter$Recent" "size" "I" "TankFilter") ∈ lw_tbl := lw_at lw_m1 86 rfl
theorem q119 : (Jvm.Cond.fieldLinkNest "TankFilter" (223 : Nat) "TankFilter$Sensor" "kind" "I" "TankFilter") ∈ lw_tbl := lw_at lw_m1 99 rfl
theorem q122 : (Jvm.Cond.fieldLinkNest "TankFilter" (145 : Nat) "TankFilter$Sensor" "variance" "I" "TankFilter") ∈ lw_tbl := lw_at lw_m1 102 rfl
theorem q132 : (Jvm.Cond.fieldLinkNest "TankFilter" (100 : Nat) "TankFilter$State" "estimate" "LTankFilter$Estimate;" "TankFilter") ∈ lw_tbl := lw_at lw_m1 112 rfl
theorem q134 : (Jvm.Cond.fieldLinkNest "TankFilter" (135 : Nat) "TankFilter$State" "levelNoise" "I" "TankFilter") ∈ lw_tbl := lw_at lw_m1 114 rfl
theorem q136 : (Jvm.Cond.fieldLinkNest "TankFilter" (132 : Nat) "TankFilter$State" "flowNoise" "I" "TankFilter") ∈ lw_tbl := lw_at lw_m1 116 rfl
theorem q138 : (Jvm.Cond.fieldLinkNest "TankFilter" (141 : Nat) "TankFilter$State" "sensors" "[LTankFilter$Sensor;" "TankFilter") ∈ lw_tbl := lw_at lw_m1 118 rfl
theorem q140 : (Jvm.Cond.fieldLinkNest "TankFilter" (155 : Nat) "TankFilter$State" "gate" "I" "TankFilter") ∈ lw_tbl := lw_at lw_m1 120 rfl
theorem q142 : (Jvm.Cond.fieldLinkNest "TankFilter" (93 : Nat) "TankFilter$State" "history" "LTankFilter$Recent;" "TankFilter") ∈ lw_tbl := lw_at lw_m1 122 rfl
theorem q144 : (Jvm.Cond.fieldLinkNest "TankFilter" (123 : Nat) "TankFilter$State" "accepted" "I" "TankFilter") ∈ lw_tbl := lw_at lw_m1 124 rfl
theorem q146 : (Jvm.Cond.fieldLinkNest "TankFilter" (126 : Nat) "TankFilter$State" "rejected" "I" "TankFilter") ∈ lw_tbl := lw_at lw_m1 126 rfl
theorem q148 : (Jvm.Cond.fieldLinkNest "TankFilter" (129 : Nat) "TankFilter$State" "missed" "I" "TankFilter") ∈ lw_tbl := lw_at lw_m1 128 rfl
theorem q168 : (Jvm.Cond.classLink "TankFilter" (39 : Nat) "TankFilter$Recent") ∈ lw_all := lw_g (lw_at lw_m1 148 rfl) rfl
theorem q170 : (Jvm.Cond.methodLink "TankFilter" (41 : Nat) ({ cls := "TankFilter$Recent", name := "<init>", desc := "([Ljava/lang/Object;)V" } : Jvm.MethodName)) ∈ lw_all := lw_g (lw_at lw_m1 150 rfl) rfl
theorem q171 : (Jvm.Cond.classLink "TankFilter" (48 : Nat) "TankFilter$Readings") ∈ lw_all := lw_g (lw_at lw_m1 151 rfl) rfl
theorem q173 : (Jvm.Cond.methodLinkNest "TankFilter" (50 : Nat) ({ cls := "TankFilter$Readings", name := "<init>", desc := "()V" } : Jvm.MethodName) "TankFilter") ∈ lw_tbl := lw_at lw_m1 153 rfl
theorem q178 : (Jvm.Cond.fieldLink "TankFilter" (35 : Nat) "TankFilter" "current" "LTankFilter$State;") ∈ lw_all := lw_g (lw_at lw_m1 158 rfl) rfl
theorem q179 : (Jvm.Cond.fieldLink "TankFilter" (44 : Nat) "TankFilter" "saved" "LTankFilter$Recent;") ∈ lw_all := lw_g (lw_at lw_m1 159 rfl) rfl
theorem q180 : (Jvm.Cond.fieldLink "TankFilter" (51 : Nat) "TankFilter" "readings" "LTankFilter$Readings;") ∈ lw_all := lw_g (lw_at lw_m1 160 rfl) rfl
theorem q181 : (Jvm.Cond.fieldLink "TankFilter" (55 : Nat) "TankFilter" "errors" "[I") ∈ lw_all := lw_g (lw_at lw_m1 161 rfl) rfl
theorem q182 : (Jvm.Cond.lays "TankFilter" "TankFilter" "current" "LTankFilter$State;") ∈ lw_all := lw_g (lw_at lw_m1 162 rfl) rfl
theorem q183 : (Jvm.Cond.soleField "TankFilter" "current") ∈ lw_all := lw_g (lw_at lw_m1 163 rfl) rfl
theorem q184 : (Jvm.Cond.laysFinal "TankFilter" "TankFilter" "saved" "LTankFilter$Recent;") ∈ lw_all := lw_g (lw_at lw_m1 164 rfl) rfl
theorem q185 : (Jvm.Cond.soleField "TankFilter" "saved") ∈ lw_all := lw_g (lw_at lw_m1 165 rfl) rfl
theorem q186 : (Jvm.Cond.laysFinal "TankFilter" "TankFilter" "readings" "LTankFilter$Readings;") ∈ lw_all := lw_g (lw_at lw_m1 166 rfl) rfl
theorem q187 : (Jvm.Cond.soleField "TankFilter" "readings") ∈ lw_all := lw_g (lw_at lw_m1 167 rfl) rfl
theorem q188 : (Jvm.Cond.laysFinal "TankFilter" "TankFilter" "errors" "[I") ∈ lw_all := lw_g (lw_at lw_m1 168 rfl) rfl
theorem q189 : (Jvm.Cond.soleField "TankFilter" "errors") ∈ lw_all := lw_g (lw_at lw_m1 169 rfl) rfl
theorem q190 : (Jvm.Cond.superclass "TankFilter" "java/lang/Object") ∈ lw_all := lw_g (lw_at lw_m1 170 rfl) rfl
theorem q193 : (Jvm.Cond.instanceMethod ({ cls := "TankFilter", name := "reset", desc := "(IIII)I" } : Jvm.MethodName)) ∈ lw_all := lw_g (lw_at lw_m1 173 rfl) rfl
theorem q194 : (Jvm.Cond.selects "TankFilter" ({ cls := "TankFilter", name := "reset", desc := "(IIII)I" } : Jvm.MethodName) ({ cls := "TankFilter", name := "reset", desc := "(IIII)I" } : Jvm.MethodName)) ∈ lw_all := lw_g (lw_at lw_m1 174 rfl) rfl
theorem q195 : (Jvm.Cond.code ({ cls := "TankFilter", name := "reset", desc := "(IIII)I" } : Jvm.MethodName) prog_1_method_11_code (7 : Nat) (Option.some Jvm.ClassFile.FieldType.int)) ∈ lw_all := lw_g (lw_at lw_m1 175 rfl) rfl
theorem q196 : (Jvm.Cond.methodLink "TankFilter" (78 : Nat) ({ cls := "TankFilter", name := "isLarge", desc := "(I)Z" } : Jvm.MethodName)) ∈ lw_all := lw_g (lw_at lw_m1 176 rfl) rfl
theorem q197 : (Jvm.Cond.static ({ cls := "TankFilter", name := "isLarge", desc := "(I)Z" } : Jvm.MethodName)) ∈ lw_all := lw_g (lw_at lw_m1 177 rfl) rfl
theorem q198 : (Jvm.Cond.code ({ cls := "TankFilter", name := "isLarge", desc := "(I)Z" } : Jvm.MethodName) prog_1_method_10_code (1 : Nat) (Option.some Jvm.ClassFile.FieldType.boolean)) ∈ lw_all := lw_g (lw_at lw_m1 178 rfl) rfl
theorem q199 : (Jvm.Cond.constantLong "TankFilter" (74 : Nat) (-40960000 : Int64)) ∈ lw_all := lw_g (lw_at lw_m1 179 rfl) rfl
theorem q200 : (Jvm.Cond.constantLong "TankFilter" (76 : Nat) (40960000 : Int64)) ∈ lw_all := lw_g (lw_at lw_m1 180 rfl) rfl
theorem q201 : (Jvm.Cond.methodLink "TankFilter" (7 : Nat) ({ cls := "TankFilter", name := "inRange", desc := "(JJJ)Z" } : Jvm.MethodName)) ∈ lw_all := lw_g (lw_at lw_m1 181 rfl) rfl
theorem q202 : (Jvm.Cond.static ({ cls := "TankFilter", name := "inRange", desc := "(JJJ)Z" } : Jvm.MethodName)) ∈ lw_all := lw_g (lw_at lw_m1 182 rfl) rfl
theorem q203 : (Jvm.Cond.code ({ cls := "TankFilter", name := "inRange", desc := "(JJJ)Z" } : Jvm.MethodName) prog_1_method_1_code (6 : Nat) (Option.some Jvm.ClassFile.FieldType.boolean)) ∈ lw_all := lw_g (lw_at lw_m1 183 rfl) rfl
theorem q204 : (Jvm.Cond.constantLong "TankFilter" (82 : Nat) (-4096000 : Int64)) ∈ lw_all := lw_g (lw_at lw_m1 184 rfl) rfl
theorem q205 : (Jvm.Cond.constantLong "TankFilter" (84 : Nat) (4096000 : Int64)) ∈ lw_all := lw_g (lw_at lw_m1 185 rfl) rfl
theorem q206 : (Jvm.Cond.constant "TankFilter" (59 : Nat) (-2000000002 : Int32)) ∈ lw_all := lw_g (lw_at lw_m1 186 rfl) rfl
theorem q207 : (Jvm.Cond.methodLink "TankFilter" (86 : Nat) ({ cls := "TankFilter", name := "error", desc := "(I)I" } : Jvm.MethodName)) ∈ lw_all := lw_g (lw_at lw_m1 187 rfl) rfl
theorem q208 : (Jvm.Cond.privateMethod ({ cls := "TankFilter", name := "error", desc := "(I)I" } : Jvm.MethodName)) ∈ lw_tbl := lw_at lw_m1 188 rfl
theorem q209 : (Jvm.Cond.instanceMethod ({ cls := "TankFilter", name := "error", desc := "(I)I" } : Jvm.MethodName)) ∈ lw_all := lw_g (lw_at lw_m1 189 rfl) rfl
theorem q210 : (Jvm.Cond.code ({ cls := "TankFilter", name := "error", desc := "(I)I" } : Jvm.MethodName) prog_1_method_6_code (2 : Nat) (Option.some Jvm.ClassFile.FieldType.int)) ∈ lw_all := lw_g (lw_at lw_m1 190 rfl) rfl
theorem q211 : (Jvm.Cond.methodLink "TankFilter" (90 : Nat) ({ cls := "TankFilter", name := "change", desc := "()LTankFilter$State;" } : Jvm.MethodName)) ∈ lw_all := lw_g (lw_at lw_m1 191 rfl) rfl
theorem q212 : (Jvm.Cond.privateMethod ({ cls := "TankFilter", name := "change", desc := "()LTankFilter$State;" } : Jvm.MethodName)) ∈ lw_tbl := lw_at lw_m1 192 rfl
theorem q213 : (Jvm.Cond.instanceMethod ({ cls := "TankFilter", name := "change", desc := "()LTankFilter$State;" } : Jvm.MethodName)) ∈ lw_all := lw_g (lw_at lw_m1 193 rfl) rfl
theorem q214 : (Jvm.Cond.code ({ cls := "TankFilter", name := "change", desc := "()LTankFilter$State;" } : Jvm.MethodName) prog_1_method_8_code (1 : Nat) (Option.some (Jvm.ClassFile.FieldType.object "TankFilter$State"))) ∈ lw_all := lw_g (lw_at lw_m1 194 rfl) rfl
theorem q215 : (Jvm.Cond.methodLink "TankFilter" (64 : Nat) ({ cls := "TankFilter$State", name := "copy", desc := "()LTankFilter$State;" } : Jvm.MethodName)) ∈ lw_all := lw_g (lw_at lw_m1 195 rfl) rfl
theorem q233 : (Jvm.Cond.methodLink "TankFilter" (68 : Nat) ({ cls := "TankFilter", name := "commit", desc := "(LTankFilter$State;)V" } : Jvm.MethodName)) ∈ lw_all := lw_g (lw_at lw_m1 213 rfl) rfl
theorem q234 : (Jvm.Cond.privateMethod ({ cls := "TankFilter", name := "commit", desc := "(LTankFilter$State;)V" } : Jvm.MethodName)) ∈ lw_tbl := lw_at lw_m1 214 rfl
theorem q235 : (Jvm.Cond.instanceMethod ({ cls := "TankFilter", name := "commit", desc := "(LTankFilter$State;)V" } : Jvm.MethodName)) ∈ lw_all := lw_g (lw_at lw_m1 215 rfl) rfl
theorem q236 : (Jvm.Cond.code ({ cls := "TankFilter", name := "commit", desc := "(LTankFilter$State;)V" } : Jvm.MethodName) prog_1_method_7_code (2 : Nat) (Option.none : Option Jvm.ClassFile.FieldType)) ∈ lw_all := lw_g (lw_at lw_m1 216 rfl) rfl
theorem q237 : (Jvm.Cond.methodLink "TankFilter" (60 : Nat) ({ cls := "TankFilter$Recent", name := "add", desc := "(Ljava/lang/Object;)V" } : Jvm.MethodName)) ∈ lw_all := lw_g (lw_at lw_m1 217 rfl) rfl
theorem q241 : (Jvm.Cond.classLink "TankFilter" (104 : Nat) "TankFilter$Estimate") ∈ lw_all := lw_g (lw_at lw_m1 221 rfl) rfl
theorem q242 : (Jvm.Cond.methodLinkNest "TankFilter" (106 : Nat) ({ cls := "TankFilter$Estimate", name := "<init>", desc := "()V" } : Jvm.MethodName) "TankFilter") ∈ lw_tbl := lw_at lw_m1 222 rfl
theorem q243 : (Jvm.Cond.methodLink "TankFilter" (107 : Nat) ({ cls := "TankFilter$Estimate", name := "copyFrom", desc := "(LTankFilter$Estimate;)V" } : Jvm.MethodName)) ∈ lw_all := lw_g (lw_at lw_m1 223 rfl) rfl
theorem q245 : (Jvm.Cond.instanceMethod ({ cls := "TankFilter", name := "setProcessNoise", desc := "(II)I" } : Jvm.MethodName)) ∈ lw_all := lw_g (lw_at lw_m1 225 rfl) rfl
theorem q246 : (Jvm.Cond.selects "TankFilter" ({ cls := "TankFilter", name := "setProcessNoise", desc := "(II)I" } : Jvm.MethodName) ({ cls := "TankFilter", name := "setProcessNoise", desc := "(II)I" } : Jvm.MethodName)) ∈ lw_all := lw_g (lw_at lw_m1 226 rfl) rfl
theorem q247 : (Jvm.Cond.code ({ cls := "TankFilter", name := "setProcessNoise", desc := "(II)I" } : Jvm.MethodName) prog_1_method_12_code (5 : Nat) (Option.some Jvm.ClassFile.FieldType.int)) ∈ lw_all := lw_g (lw_at lw_m1 227 rfl) rfl
theorem q249 : (Jvm.Cond.instanceMethod ({ cls := "TankFilter", name := "setSensor", desc := "(III)I" } : Jvm.MethodName)) ∈ lw_all := lw_g (lw_at lw_m1 229 rfl) rfl
theorem q250 : (Jvm.Cond.selects "TankFilter" ({ cls := "TankFilter", name := "setSensor", desc := "(III)I" } : Jvm.MethodName) ({ cls := "TankFilter", name := "setSensor", desc := "(III)I" } : Jvm.MethodName)) ∈ lw_all := lw_g (lw_at lw_m1 230 rfl) rfl
theorem q251 : (Jvm.Cond.code ({ cls := "TankFilter", name := "setSensor", desc := "(III)I" } : Jvm.MethodName) prog_1_method_13_code (5 : Nat) (Option.some Jvm.ClassFile.FieldType.int)) ∈ lw_all := lw_g (lw_at lw_m1 231 rfl) rfl
theorem q252 : (Jvm.Cond.methodLink "TankFilter" (138 : Nat) ({ cls := "TankFilter", name := "isSensor", desc := "(I)Z" } : Jvm.MethodName)) ∈ lw_all := lw_g (lw_at lw_m1 232 rfl) rfl
theorem q253 : (Jvm.Cond.static ({ cls := "TankFilter", name := "isSensor", desc := "(I)Z" } : Jvm.MethodName)) ∈ lw_all := lw_g (lw_at lw_m1 233 rfl) rfl
theorem q254 : (Jvm.Cond.code ({ cls := "TankFilter", name := "isSensor", desc := "(I)Z" } : Jvm.MethodName) prog_1_method_9_code (1 : Nat) (Option.some Jvm.ClassFile.FieldType.boolean)) ∈ lw_all := lw_g (lw_at lw_m1 234 rfl) rfl
theorem q255 : (Jvm.Cond.constantLong "TankFilter" (72 : Nat) (3 : Int64)) ∈ lw_all := lw_g (lw_at lw_m1 235 rfl) rfl
theorem q256 : (Jvm.Cond.classLink "TankFilter" (146 : Nat) "TankFilter$Sensor") ∈ lw_all := lw_g (lw_at lw_m1 236 rfl) rfl
theorem q257 : (Jvm.Cond.methodLink "TankFilter" (150 : Nat) ({ cls := "TankFilter$Sensor", name := "<init>", desc := "(II)V" } : Jvm.MethodName)) ∈ lw_all := lw_g (lw_at lw_m1 237 rfl) rfl
theorem q259 : (Jvm.Cond.instanceMethod ({ cls := "TankFilter", name := "setGate", desc := "(I)I" } : Jvm.MethodName)) ∈ lw_all := lw_g (lw_at lw_m1 239 rfl) rfl
theorem q260 : (Jvm.Cond.selects "TankFilter" ({ cls := "TankFilter", name := "setGate", desc := "(I)I" } : Jvm.MethodName) ({ cls := "TankFilter", name := "setGate", desc := "(I)I" } : Jvm.MethodName)) ∈ lw_all := lw_g (lw_at lw_m2 0 rfl) rfl
theorem q261 : (Jvm.Cond.code ({ cls := "TankFilter", name := "setGate", desc := "(I)I" } : Jvm.MethodName) prog_1_method_14_code (3 : Nat) (Option.some Jvm.ClassFile.FieldType.int)) ∈ lw_all := lw_g (lw_at lw_m2 1 rfl) rfl
theorem q262 : (Jvm.Cond.constantLong "TankFilter" (153 : Nat) (25 : Int64)) ∈ lw_all := lw_g (lw_at lw_m2 2 rfl) rfl
theorem q264 : (Jvm.Cond.instanceMethod ({ cls := "TankFilter", name := "predict", desc := "(I)I" } : Jvm.MethodName)) ∈ lw_all := lw_g (lw_at lw_m2 4 rfl) rfl
theorem q265 : (Jvm.Cond.selects "TankFilter" ({ cls := "TankFilter", name := "predict", desc := "(I)I" } : Jvm.MethodName) ({ cls := "TankFilter", name := "predict", desc := "(I)I" } : Jvm.MethodName)) ∈ lw_all := lw_g (lw_at lw_m2 5 rfl) rfl
theorem q266 : (Jvm.Cond.codeWith ({ cls := "TankFilter", name := "predict", desc := "(I)I" } : Jvm.MethodName) prog_1_method_15_code (3 : Nat) (Option.some Jvm.ClassFile.FieldType.int) [((21 : Nat), (74 : Nat), (75 : Nat), (11 : Nat))]) ∈ lw_all := lw_g (lw_at lw_m2 6 rfl) rfl
theorem q267 : (Jvm.Cond.classLink "TankFilter" (11 : Nat) "TankFilter$LimitExceeded") ∈ lw_all := lw_g (lw_at lw_m2 7 rfl) rfl
theorem q268 : (Jvm.Cond.methodLink "TankFilter" (158 : Nat) ({ cls := "TankFilter$Estimate", name := "predict", desc := "(III)V" } : Jvm.MethodName)) ∈ lw_all := lw_g (lw_at lw_m2 8 rfl) rfl
theorem q273 : (Jvm.Cond.static ({ cls := "TankFilter", name := "limited", desc := "(J)I" } : Jvm.MethodName)) ∈ lw_all := lw_g (lw_at lw_m2 13 rfl) rfl
theorem q274 : (Jvm.Cond.code ({ cls := "TankFilter", name := "limited", desc := "(J)I" } : Jvm.MethodName) prog_1_method_2_code (2 : Nat) (Option.some Jvm.ClassFile.FieldType.int)) ∈ lw_all := lw_g (lw_at lw_m2 14 rfl) rfl
theorem q275 : (Jvm.Cond.constantLong "TankFilter" (3 : Nat) (-1000000000 : Int64)) ∈ lw_all := lw_g (lw_at lw_m2 15 rfl) rfl
theorem q276 : (Jvm.Cond.constantLong "TankFilter" (5 : Nat) (1000000000 : Int64)) ∈ lw_all := lw_g (lw_at lw_m2 16 rfl) rfl
theorem q313 : (Jvm.Cond.methodLink "TankFilter" (13 : Nat) ({ cls := "TankFilter$LimitExceeded", name := "<init>", desc := "()V" } : Jvm.MethodName)) ∈ lw_all := lw_g (lw_at lw_m2 53 rfl) rfl
theorem q342 : (Jvm.Cond.classLink "TankFilter" (162 : Nat) "TankFilter$Event") ∈ lw_all := lw_g (lw_at lw_m2 82 rfl) rfl
theorem q344 : (Jvm.Cond.constant "TankFilter" (164 : Nat) (-2000000001 : Int32)) ∈ lw_all := lw_g (lw_at lw_m2 84 rfl) rfl
theorem q345 : (Jvm.Cond.methodLink "TankFilter" (165 : Nat) ({ cls := "TankFilter$Event", name := "<init>", desc := "(II)V" } : Jvm.MethodName)) ∈ lw_all := lw_g (lw_at lw_m2 85 rfl) rfl
theorem q351 : (Jvm.Cond.fieldLinkNest "TankFilter" (234 : Nat) "TankFilter$Event" "sensor" "I" "TankFilter") ∈ lw_tbl := lw_at lw_m2 91 rfl
theorem q354 : (Jvm.Cond.fieldLinkNest "TankFilter" (237 : Nat) "TankFilter$Event" "value" "I" "TankFilter") ∈ lw_tbl := lw_at lw_m2 94 rfl
theorem q360 : (Jvm.Cond.constant "TankFilter" (166 : Nat) (-2000000004 : Int32)) ∈ lw_all := lw_g (lw_at lw_m2 100 rfl) rfl
theorem q362 : (Jvm.Cond.instanceMethod ({ cls := "TankFilter", name := "correct", desc := "(II)I" } : Jvm.MethodName)) ∈ lw_all := lw_g (lw_at lw_m2 102 rfl) rfl
theorem q363 : (Jvm.Cond.selects "TankFilter" ({ cls := "TankFilter", name := "correct", desc := "(II)I" } : Jvm.MethodName) ({ cls := "TankFilter", name := "correct", desc := "(II)I" } : Jvm.MethodName)) ∈ lw_all := lw_g (lw_at lw_m2 103 rfl) rfl
theorem q364 : (Jvm.Cond.codeWith ({ cls := "TankFilter", name := "correct", desc := "(II)I" } : Jvm.MethodName) prog_1_method_16_code (5 : Nat) (Option.some Jvm.ClassFile.FieldType.int) [((21 : Nat), (118 : Nat), (119 : Nat), (11 : Nat))]) ∈ lw_all := lw_g (lw_at lw_m2 104 rfl) rfl
theorem q365 : (Jvm.Cond.methodLink "TankFilter" (167 : Nat) ({ cls := "TankFilter$Estimate", name := "correct", desc := "(LTankFilter$Sensor;II)Z" } : Jvm.MethodName)) ∈ lw_all := lw_g (lw_at lw_m2 105 rfl) rfl
theorem q375 : (Jvm.Cond.static ({ cls := "TankFilter", name := "div", desc := "(JJ)J" } : Jvm.MethodName)) ∈ lw_all := lw_g (lw_at lw_m2 115 rfl) rfl
theorem q376 : (Jvm.Cond.code ({ cls := "TankFilter", name := "div", desc := "(JJ)J" } : Jvm.MethodName) prog_1_method_4_code (4 : Nat) (Option.some Jvm.ClassFile.FieldType.long)) ∈ lw_all := lw_g (lw_at lw_m2 116 rfl) rfl
theorem q377 : (Jvm.Cond.constantLong "TankFilter" (19 : Nat) (4096 : Int64)) ∈ lw_all := lw_g (lw_at lw_m2 117 rfl) rfl
theorem q378 : (Jvm.Cond.constantLong "TankFilter" (27 : Nat) (2 : Int64)) ∈ lw_all := lw_g (lw_at lw_m2 118 rfl) rfl
theorem q379 : (Jvm.Cond.methodLink "TankFilter" (21 : Nat) ({ cls := "java/lang/Math", name := "floorDiv", desc := "(JJ)J" } : Jvm.MethodName)) ∈ lw_all := lw_g (lw_at lw_m2 119 rfl) rfl
theorem q383 : (Jvm.Cond.static ({ cls := "TankFilter", name := "mul", desc := "(JJ)J" } : Jvm.MethodName)) ∈ lw_all := lw_g (lw_at lw_m2 123 rfl) rfl
theorem q384 : (Jvm.Cond.code ({ cls := "TankFilter", name := "mul", desc := "(JJ)J" } : Jvm.MethodName) prog_1_method_3_code (4 : Nat) (Option.some Jvm.ClassFile.FieldType.long)) ∈ lw_all := lw_g (lw_at lw_m2 124 rfl) rfl
theorem q385 : (Jvm.Cond.constantLong "TankFilter" (17 : Nat) (2048 : Int64)) ∈ lw_all := lw_g (lw_at lw_m2 125 rfl) rfl
theorem q387 : (Jvm.Cond.instanceMethod ({ cls := "TankFilter", name := "miss", desc := "(I)I" } : Jvm.MethodName)) ∈ lw_all := lw_g (lw_at lw_m2 127 rfl) rfl
theorem q388 : (Jvm.Cond.selects "TankFilter" ({ cls := "TankFilter", name := "miss", desc := "(I)I" } : Jvm.MethodName) ({ cls := "TankFilter", name := "miss", desc := "(I)I" } : Jvm.MethodName)) ∈ lw_all := lw_g (lw_at lw_m2 128 rfl) rfl
theorem q389 : (Jvm.Cond.code ({ cls := "TankFilter", name := "miss", desc := "(I)I" } : Jvm.MethodName) prog_1_method_17_code (3 : Nat) (Option.some Jvm.ClassFile.FieldType.int)) ∈ lw_all := lw_g (lw_at lw_m2 129 rfl) rfl
theorem q391 : (Jvm.Cond.instanceMethod ({ cls := "TankFilter", name := "level", desc := "()I" } : Jvm.MethodName)) ∈ lw_all := lw_g (lw_at lw_m2 131 rfl) rfl
theorem q392 : (Jvm.Cond.selects "TankFilter" ({ cls := "TankFilter", name := "level", desc := "()I" } : Jvm.MethodName) ({ cls := "TankFilter", name := "level", desc := "()I" } : Jvm.MethodName)) ∈ lw_all := lw_g (lw_at lw_m2 132 rfl) rfl
theorem q393 : (Jvm.Cond.code ({ cls := "TankFilter", name := "level", desc := "()I" } : Jvm.MethodName) prog_1_method_18_code (1 : Nat) (Option.some Jvm.ClassFile.FieldType.int)) ∈ lw_all := lw_g (lw_at lw_m2 133 rfl) rfl
theorem q395 : (Jvm.Cond.instanceMethod ({ cls := "TankFilter", name := "flow", desc := "()I" } : Jvm.MethodName)) ∈ lw_all := lw_g (lw_at lw_m2 135 rfl) rfl
theorem q396 : (Jvm.Cond.selects "TankFilter" ({ cls := "TankFilter", name := "flow", desc := "()I" } : Jvm.MethodName) ({ cls := "TankFilter", name := "flow", desc := "()I" } : Jvm.MethodName)) ∈ lw_all := lw_g (lw_at lw_m2 136 rfl) rfl
theorem q397 : (Jvm.Cond.code ({ cls := "TankFilter", name := "flow", desc := "()I" } : Jvm.MethodName) prog_1_method_19_code (1 : Nat) (Option.some Jvm.ClassFile.FieldType.int)) ∈ lw_all := lw_g (lw_at lw_m2 137 rfl) rfl
theorem q399 : (Jvm.Cond.instanceMethod ({ cls := "TankFilter", name := "levelVariance", desc := "()I" } : Jvm.MethodName)) ∈ lw_all := lw_g (lw_at lw_m2 139 rfl) rfl
theorem q400 : (Jvm.Cond.selects "TankFilter" ({ cls := "TankFilter", name := "levelVariance", desc := "()I" } : Jvm.MethodName) ({ cls := "TankFilter", name := "levelVariance", desc := "()I" } : Jvm.MethodName)) ∈ lw_all := lw_g (lw_at lw_m2 140 rfl) rfl
theorem q401 : (Jvm.Cond.code ({ cls := "TankFilter", name := "levelVariance", desc := "()I" } : Jvm.MethodName) prog_1_method_20_code (1 : Nat) (Option.some Jvm.ClassFile.FieldType.int)) ∈ lw_all := lw_g (lw_at lw_m2 141 rfl) rfl
theorem q403 : (Jvm.Cond.instanceMethod ({ cls := "TankFilter", name := "covariance", desc := "()I" } : Jvm.MethodName)) ∈ lw_all := lw_g (lw_at lw_m2 143 rfl) rfl
theorem q404 : (Jvm.Cond.selects "TankFilter" ({ cls := "TankFilter", name := "covariance", desc := "()I" } : Jvm.MethodName) ({ cls := "TankFilter", name := "covariance", desc := "()I" } : Jvm.MethodName)) ∈ lw_all := lw_g (lw_at lw_m2 144 rfl) rfl
theorem q405 : (Jvm.Cond.code ({ cls := "TankFilter", name := "covariance", desc := "()I" } : Jvm.MethodName) prog_1_method_21_code (1 : Nat) (Option.some Jvm.ClassFile.FieldType.int)) ∈ lw_all := lw_g (lw_at lw_m2 145 rfl) rfl
theorem q407 : (Jvm.Cond.instanceMethod ({ cls := "TankFilter", name := "flowVariance", desc := "()I" } : Jvm.MethodName)) ∈ lw_all := lw_g (lw_at lw_m2 147 rfl) rfl
theorem q408 : (Jvm.Cond.selects "TankFilter" ({ cls := "TankFilter", name := "flowVariance", desc := "()I" } : Jvm.MethodName) ({ cls := "TankFilter", name := "flowVariance", desc := "()I" } : Jvm.MethodName)) ∈ lw_all := lw_g (lw_at lw_m2 148 rfl) rfl
theorem q409 : (Jvm.Cond.code ({ cls := "TankFilter", name := "flowVariance", desc := "()I" } : Jvm.MethodName) prog_1_method_22_code (1 : Nat) (Option.some Jvm.ClassFile.FieldType.int)) ∈ lw_all := lw_g (lw_at lw_m2 149 rfl) rfl
theorem q411 : (Jvm.Cond.instanceMethod ({ cls := "TankFilter", name := "innovation", desc := "()I" } : Jvm.MethodName)) ∈ lw_all := lw_g (lw_at lw_m2 151 rfl) rfl
theorem q412 : (Jvm.Cond.selects "TankFilter" ({ cls := "TankFilter", name := "innovation", desc := "()I" } : Jvm.MethodName) ({ cls := "TankFilter", name := "innovation", desc := "()I" } : Jvm.MethodName)) ∈ lw_all := lw_g (lw_at lw_m2 152 rfl) rfl
theorem q413 : (Jvm.Cond.code ({ cls := "TankFilter", name := "innovation", desc := "()I" } : Jvm.MethodName) prog_1_method_23_code (1 : Nat) (Option.some Jvm.ClassFile.FieldType.int)) ∈ lw_all := lw_g (lw_at lw_m2 153 rfl) rfl
theorem q415 : (Jvm.Cond.instanceMethod ({ cls := "TankFilter", name := "levelGain", desc := "()I" } : Jvm.MethodName)) ∈ lw_all := lw_g (lw_at lw_m2 155 rfl) rfl
theorem q416 : (Jvm.Cond.selects "TankFilter" ({ cls := "TankFilter", name := "levelGain", desc := "()I" } : Jvm.MethodName) ({ cls := "TankFilter", name := "levelGain", desc := "()I" } : Jvm.MethodName)) ∈ lw_all := lw_g (lw_at lw_m2 156 rfl) rfl
theorem q417 : (Jvm.Cond.code ({ cls := "TankFilter", name := "levelGain", desc := "()I" } : Jvm.MethodName) prog_1_method_24_code (1 : Nat) (Option.some Jvm.ClassFile.FieldType.int)) ∈ lw_all := lw_g (lw_at lw_m2 157 rfl) rfl
theorem q419 : (Jvm.Cond.instanceMethod ({ cls := "TankFilter", name := "flowGain", desc := "()I" } : Jvm.MethodName)) ∈ lw_all := lw_g (lw_at lw_m2 159 rfl) rfl
theorem q420 : (Jvm.Cond.selects "TankFilter" ({ cls := "TankFilter", name := "flowGain", desc := "()I" } : Jvm.MethodName) ({ cls := "TankFilter", name := "flowGain", desc := "()I" } : Jvm.MethodName)) ∈ lw_all := lw_g (lw_at lw_m2 160 rfl) rfl
theorem q421 : (Jvm.Cond.code ({ cls := "TankFilter", name := "flowGain", desc := "()I" } : Jvm.MethodName) prog_1_method_25_code (1 : Nat) (Option.some Jvm.ClassFile.FieldType.int)) ∈ lw_all := lw_g (lw_at lw_m2 161 rfl) rfl
theorem q423 : (Jvm.Cond.instanceMethod ({ cls := "TankFilter", name := "accepted", desc := "()I" } : Jvm.MethodName)) ∈ lw_all := lw_g (lw_at lw_m2 163 rfl) rfl
theorem q424 : (Jvm.Cond.selects "TankFilter" ({ cls := "TankFilter", name := "accepted", desc := "()I" } : Jvm.MethodName) ({ cls := "TankFilter", name := "accepted", desc := "()I" } : Jvm.MethodName)) ∈ lw_all := lw_g (lw_at lw_m2 164 rfl) rfl
theorem q425 : (Jvm.Cond.code ({ cls := "TankFilter", name := "accepted", desc := "()I" } : Jvm.MethodName) prog_1_method_26_code (1 : Nat) (Option.some Jvm.ClassFile.FieldType.int)) ∈ lw_all := lw_g (lw_at lw_m2 165 rfl) rfl
theorem q427 : (Jvm.Cond.instanceMethod ({ cls := "TankFilter", name := "rejected", desc := "()I" } : Jvm.MethodName)) ∈ lw_all := lw_g (lw_at lw_m2 167 rfl) rfl
theorem q428 : (Jvm.Cond.selects "TankFilter" ({ cls := "TankFilter", name := "rejected", desc := "()I" } : Jvm.MethodName) ({ cls := "TankFilter", name := "rejected", desc := "()I" } : Jvm.MethodName)) ∈ lw_all := lw_g (lw_at lw_m2 168 rfl) rfl
theorem q429 : (Jvm.Cond.code ({ cls := "TankFilter", name := "rejected", desc := "()I" } : Jvm.MethodName) prog_1_method_27_code (1 : Nat) (Option.some Jvm.ClassFile.FieldType.int)) ∈ lw_all := lw_g (lw_at lw_m2 169 rfl) rfl
theorem q431 : (Jvm.Cond.instanceMethod ({ cls := "TankFilter", name := "missed", desc := "()I" } : Jvm.MethodName)) ∈ lw_all := lw_g (lw_at lw_m2 171 rfl) rfl
theorem q432 : (Jvm.Cond.selects "TankFilter" ({ cls := "TankFilter", name := "missed", desc := "()I" } : Jvm.MethodName) ({ cls := "TankFilter", name := "missed", desc := "()I" } : Jvm.MethodName)) ∈ lw_all := lw_g (lw_at lw_m2 172 rfl) rfl
theorem q433 : (Jvm.Cond.code ({ cls := "TankFilter", name := "missed", desc := "()I" } : Jvm.MethodName) prog_1_method_28_code (1 : Nat) (Option.some Jvm.ClassFile.FieldType.int)) ∈ lw_all := lw_g (lw_at lw_m2 173 rfl) rfl
theorem q435 : (Jvm.Cond.instanceMethod ({ cls := "TankFilter", name := "historyLength", desc := "()I" } : Jvm.MethodName)) ∈ lw_all := lw_g (lw_at lw_m2 175 rfl) rfl
theorem q436 : (Jvm.Cond.selects "TankFilter" ({ cls := "TankFilter", name := "historyLength", desc := "()I" } : Jvm.MethodName) ({ cls := "TankFilter", name := "historyLength", desc := "()I" } : Jvm.MethodName)) ∈ lw_all := lw_g (lw_at lw_m2 176 rfl) rfl
theorem q437 : (Jvm.Cond.code ({ cls := "TankFilter", name := "historyLength", desc := "()I" } : Jvm.MethodName) prog_1_method_29_code (1 : Nat) (Option.some Jvm.ClassFile.FieldType.int)) ∈ lw_all := lw_g (lw_at lw_m2 177 rfl) rfl
theorem q439 : (Jvm.Cond.instanceMethod ({ cls := "TankFilter", name := "forecast", desc := "(I)I" } : Jvm.MethodName)) ∈ lw_all := lw_g (lw_at lw_m2 179 rfl) rfl
theorem q440 : (Jvm.Cond.selects "TankFilter" ({ cls := "TankFilter", name := "forecast", desc := "(I)I" } : Jvm.MethodName) ({ cls := "TankFilter", name := "forecast", desc := "(I)I" } : Jvm.MethodName)) ∈ lw_all := lw_g (lw_at lw_m2 180 rfl) rfl
theorem q441 : (Jvm.Cond.code ({ cls := "TankFilter", name := "forecast", desc := "(I)I" } : Jvm.MethodName) prog_1_method_31_code (2 : Nat) (Option.some Jvm.ClassFile.FieldType.int)) ∈ lw_all := lw_g (lw_at lw_m2 181 rfl) rfl
theorem q442 : (Jvm.Cond.methodLink "TankFilter" (189 : Nat) ({ cls := "TankFilter", name := "forecastOf", desc := "(IZ)I" } : Jvm.MethodName)) ∈ lw_all := lw_g (lw_at lw_m2 182 rfl) rfl
theorem q443 : (Jvm.Cond.privateMethod ({ cls := "TankFilter", name := "forecastOf", desc := "(IZ)I" } : Jvm.MethodName)) ∈ lw_tbl := lw_at lw_m2 183 rfl
theorem q444 : (Jvm.Cond.instanceMethod ({ cls := "TankFilter", name := "forecastOf", desc := "(IZ)I" } : Jvm.MethodName)) ∈ lw_all := lw_g (lw_at lw_m2 184 rfl) rfl
theorem q445 : (Jvm.Cond.codeWith ({ cls := "TankFilter", name := "forecastOf", desc := "(IZ)I" } : Jvm.MethodName) prog_1_method_30_code (4 : Nat) (Option.some Jvm.ClassFile.FieldType.int) [((19 : Nat), (43 : Nat), (44 : Nat), (11 : Nat))]) ∈ lw_all := lw_g (lw_at lw_m2 185 rfl) rfl
theorem q446 : (Jvm.Cond.constantLong "TankFilter" (183 : Nat) (100 : Int64)) ∈ lw_all := lw_g (lw_at lw_m2 186 rfl) rfl
theorem q447 : (Jvm.Cond.methodLink "TankFilter" (185 : Nat) ({ cls := "TankFilter$State", name := "predicted", desc := "(I)LTankFilter$Estimate;" } : Jvm.MethodName)) ∈ lw_all := lw_g (lw_at lw_m2 187 rfl) rfl
theorem q453 : (Jvm.Cond.instanceMethod ({ cls := "TankFilter", name := "forecastVariance", desc := "(I)I" } : Jvm.MethodName)) ∈ lw_all := lw_g (lw_at lw_m2 193 rfl) rfl
theorem q454 : (Jvm.Cond.selects "TankFilter" ({ cls := "TankFilter", name := "forecastVariance", desc := "(I)I" } : Jvm.MethodName) ({ cls := "TankFilter", name := "forecastVariance", desc := "(I)I" } : Jvm.MethodName)) ∈ lw_all := lw_g (lw_at lw_m2 194 rfl) rfl
theorem q455 : (Jvm.Cond.code ({ cls := "TankFilter", name := "forecastVariance", desc := "(I)I" } : Jvm.MethodName) prog_1_method_32_code (2 : Nat) (Option.some Jvm.ClassFile.FieldType.int)) ∈ lw_all := lw_g (lw_at lw_m2 195 rfl) rfl
theorem q457 : (Jvm.Cond.instanceMethod ({ cls := "TankFilter", name := "stepsTo", desc := "(I)I" } : Jvm.MethodName)) ∈ lw_all := lw_g (lw_at lw_m2 197 rfl) rfl
theorem q458 : (Jvm.Cond.selects "TankFilter" ({ cls := "TankFilter", name := "stepsTo", desc := "(I)I" } : Jvm.MethodName) ({ cls := "TankFilter", name := "stepsTo", desc := "(I)I" } : Jvm.MethodName)) ∈ lw_all := lw_g (lw_at lw_m2 198 rfl) rfl
theorem q459 : (Jvm.Cond.code ({ cls := "TankFilter", name := "stepsTo", desc := "(I)I" } : Jvm.MethodName) prog_1_method_33_code (2 : Nat) (Option.some Jvm.ClassFile.FieldType.int)) ∈ lw_all := lw_g (lw_at lw_m2 199 rfl) rfl
theorem q460 : (Jvm.Cond.methodLink "TankFilter" (193 : Nat) ({ cls := "TankFilter$State", name := "stepsTo", desc := "(I)I" } : Jvm.MethodName)) ∈ lw_all := lw_g (lw_at lw_m2 200 rfl) rfl
theorem q468 : (Jvm.Cond.instanceMethod ({ cls := "TankFilter", name := "steadyCycles", desc := "(I)I" } : Jvm.MethodName)) ∈ lw_all := lw_g (lw_at lw_m2 208 rfl) rfl
theorem q469 : (Jvm.Cond.selects "TankFilter" ({ cls := "TankFilter", name := "steadyCycles", desc := "(I)I" } : Jvm.MethodName) ({ cls := "TankFilter", name := "steadyCycles", desc := "(I)I" } : Jvm.MethodName)) ∈ lw_all := lw_g (lw_at lw_m2 209 rfl) rfl
theorem q470 : (Jvm.Cond.code ({ cls := "TankFilter", name := "steadyCycles", desc := "(I)I" } : Jvm.MethodName) prog_1_method_34_code (2 : Nat) (Option.some Jvm.ClassFile.FieldType.int)) ∈ lw_all := lw_g (lw_at lw_m2 210 rfl) rfl
theorem q471 : (Jvm.Cond.methodLink "TankFilter" (196 : Nat) ({ cls := "TankFilter$State", name := "steady", desc := "(II)I" } : Jvm.MethodName)) ∈ lw_all := lw_g (lw_at lw_m2 211 rfl) rfl
theorem q482 : (Jvm.Cond.instanceMethod ({ cls := "TankFilter", name := "steadyGain", desc := "(II)I" } : Jvm.MethodName)) ∈ lw_all := lw_g (lw_at lw_m2 222 rfl) rfl
theorem q483 : (Jvm.Cond.selects "TankFilter" ({ cls := "TankFilter", name := "steadyGain", desc := "(II)I" } : Jvm.MethodName) ({ cls := "TankFilter", name := "steadyGain", desc := "(II)I" } : Jvm.MethodName)) ∈ lw_all := lw_g (lw_at lw_m2 223 rfl) rfl
theorem q484 : (Jvm.Cond.code ({ cls := "TankFilter", name := "steadyGain", desc := "(II)I" } : Jvm.MethodName) prog_1_method_35_code (3 : Nat) (Option.some Jvm.ClassFile.FieldType.int)) ∈ lw_all := lw_g (lw_at lw_m2 224 rfl) rfl
theorem q486 : (Jvm.Cond.instanceMethod ({ cls := "TankFilter", name := "replayError", desc := "(I)I" } : Jvm.MethodName)) ∈ lw_all := lw_g (lw_at lw_m2 226 rfl) rfl
theorem q487 : (Jvm.Cond.selects "TankFilter" ({ cls := "TankFilter", name := "replayError", desc := "(I)I" } : Jvm.MethodName) ({ cls := "TankFilter", name := "replayError", desc := "(I)I" } : Jvm.MethodName)) ∈ lw_all := lw_g (lw_at lw_m2 227 rfl) rfl
theorem q488 : (Jvm.Cond.code ({ cls := "TankFilter", name := "replayError", desc := "(I)I" } : Jvm.MethodName) prog_1_method_36_code (3 : Nat) (Option.some Jvm.ClassFile.FieldType.int)) ∈ lw_all := lw_g (lw_at lw_m2 228 rfl) rfl
theorem q489 : (Jvm.Cond.methodLink "TankFilter" (200 : Nat) ({ cls := "TankFilter$Recent", name := "any", desc := "(LTankFilter$Test;)Z" } : Jvm.MethodName)) ∈ lw_all := lw_g (lw_at lw_m2 229 rfl) rfl
theorem q512 : (Jvm.Cond.constant "TankFilter" (204 : Nat) (-2000000003 : Int32)) ∈ lw_all := lw_g (lw_at lw_m3 12 rfl) rfl
theorem q513 : (Jvm.Cond.methodLink "TankFilter" (205 : Nat) ({ cls := "TankFilter$State", name := "replayError", desc := "(I)I" } : Jvm.MethodName)) ∈ lw_all := lw_g (lw_at lw_m3 13 rfl) rfl
theorem q532 : (Jvm.Cond.instanceMethod ({ cls := "TankFilter", name := "bestFlowNoise", desc := "()I" } : Jvm.MethodName)) ∈ lw_all := lw_g (lw_at lw_m3 32 rfl) rfl
theorem q533 : (Jvm.Cond.selects "TankFilter" ({ cls := "TankFilter", name := "bestFlowNoise", desc := "()I" } : Jvm.MethodName) ({ cls := "TankFilter", name := "bestFlowNoise", desc := "()I" } : Jvm.MethodName)) ∈ lw_all := lw_g (lw_at lw_m3 33 rfl) rfl
theorem q534 : (Jvm.Cond.code ({ cls := "TankFilter", name := "bestFlowNoise", desc := "()I" } : Jvm.MethodName) prog_1_method_37_code (1 : Nat) (Option.some Jvm.ClassFile.FieldType.int)) ∈ lw_all := lw_g (lw_at lw_m3 34 rfl) rfl
theorem q535 : (Jvm.Cond.methodLink "TankFilter" (208 : Nat) ({ cls := "TankFilter$State", name := "bestFlowNoise", desc := "()I" } : Jvm.MethodName)) ∈ lw_all := lw_g (lw_at lw_m3 35 rfl) rfl
theorem q541 : (Jvm.Cond.instanceMethod ({ cls := "TankFilter", name := "undo", desc := "()I" } : Jvm.MethodName)) ∈ lw_all := lw_g (lw_at lw_m3 41 rfl) rfl
theorem q542 : (Jvm.Cond.selects "TankFilter" ({ cls := "TankFilter", name := "undo", desc := "()I" } : Jvm.MethodName) ({ cls := "TankFilter", name := "undo", desc := "()I" } : Jvm.MethodName)) ∈ lw_all := lw_g (lw_at lw_m3 42 rfl) rfl
theorem q543 : (Jvm.Cond.code ({ cls := "TankFilter", name := "undo", desc := "()I" } : Jvm.MethodName) prog_1_method_38_code (1 : Nat) (Option.some Jvm.ClassFile.FieldType.int)) ∈ lw_all := lw_g (lw_at lw_m3 43 rfl) rfl
theorem q544 : (Jvm.Cond.methodLink "TankFilter" (212 : Nat) ({ cls := "TankFilter$Recent", name := "removeLast", desc := "()Ljava/lang/Object;" } : Jvm.MethodName)) ∈ lw_all := lw_g (lw_at lw_m3 44 rfl) rfl
theorem q549 : (Jvm.Cond.instanceMethod ({ cls := "TankFilter", name := "errorCount", desc := "(I)I" } : Jvm.MethodName)) ∈ lw_all := lw_g (lw_at lw_m3 49 rfl) rfl
theorem q550 : (Jvm.Cond.selects "TankFilter" ({ cls := "TankFilter", name := "errorCount", desc := "(I)I" } : Jvm.MethodName) ({ cls := "TankFilter", name := "errorCount", desc := "(I)I" } : Jvm.MethodName)) ∈ lw_all := lw_g (lw_at lw_m3 50 rfl) rfl
theorem q551 : (Jvm.Cond.code ({ cls := "TankFilter", name := "errorCount", desc := "(I)I" } : Jvm.MethodName) prog_1_method_39_code (2 : Nat) (Option.some Jvm.ClassFile.FieldType.int)) ∈ lw_all := lw_g (lw_at lw_m3 51 rfl) rfl
theorem q553 : (Jvm.Cond.instanceMethod ({ cls := "TankFilter", name := "digest", desc := "()J" } : Jvm.MethodName)) ∈ lw_all := lw_g (lw_at lw_m3 53 rfl) rfl
theorem q554 : (Jvm.Cond.selects "TankFilter" ({ cls := "TankFilter", name := "digest", desc := "()J" } : Jvm.MethodName) ({ cls := "TankFilter", name := "digest", desc := "()J" } : Jvm.MethodName)) ∈ lw_all := lw_g (lw_at lw_m3 54 rfl) rfl
theorem q555 : (Jvm.Cond.code ({ cls := "TankFilter", name := "digest", desc := "()J" } : Jvm.MethodName) prog_1_method_41_code (9 : Nat) (Option.some Jvm.ClassFile.FieldType.long)) ∈ lw_all := lw_g (lw_at lw_m3 55 rfl) rfl
theorem q556 : (Jvm.Cond.constantLong "TankFilter" (218 : Nat) (12254 : Int64)) ∈ lw_all := lw_g (lw_at lw_m3 56 rfl) rfl
theorem q557 : (Jvm.Cond.methodLink "TankFilter" (220 : Nat) ({ cls := "TankFilter", name := "add", desc := "(J[I)J" } : Jvm.MethodName)) ∈ lw_all := lw_g (lw_at lw_m3 57 rfl) rfl
theorem q558 : (Jvm.Cond.static ({ cls := "TankFilter", name := "add", desc := "(J[I)J" } : Jvm.MethodName)) ∈ lw_all := lw_g (lw_at lw_m3 58 rfl) rfl
theorem q559 : (Jvm.Cond.code ({ cls := "TankFilter", name := "add", desc := "(J[I)J" } : Jvm.MethodName) prog_1_method_40_code (9 : Nat) (Option.some Jvm.ClassFile.FieldType.long)) ∈ lw_all := lw_g (lw_at lw_m3 59 rfl) rfl
theorem q560 : (Jvm.Cond.constantLong "TankFilter" (216 : Nat) (31 : Int64)) ∈ lw_all := lw_g (lw_at lw_m3 60 rfl) rfl
theorem q561 : (Jvm.Cond.methodLink "TankFilter" (226 : Nat) ({ cls := "TankFilter$Recent", name := "get", desc := "(I)Ljava/lang/Object;" } : Jvm.MethodName)) ∈ lw_all := lw_g (lw_at lw_m3 61 rfl) rfl
theorem q562 : (Jvm.Cond.methodLink "TankFilter" (230 : Nat) ({ cls := "TankFilter$Event", name := "isReading", desc := "()Z" } : Jvm.MethodName)) ∈ lw_all := lw_g (lw_at lw_m3 62 rfl) rfl
theorem in_X0 : ∀ w ∈ wsX00, w ∈ lw_all := lw_in wsX00 [182, 184, 186, 188] (by decide +kernel) (by decide +kernel)
