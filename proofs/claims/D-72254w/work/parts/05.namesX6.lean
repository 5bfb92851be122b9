/-! TankFilterModel -/
set_option maxRecDepth 100000
def RX6 : String := "TankFilterModel"
def TX6 : u_T := fun k => match k with
  | 0 => ("TankFilterModel", "s", "[I", true)
  | 1 => ("TankFilterModel", "past", "[I", true)
  | 2 => ("TankFilterModel", "pasts", "I", false)
  | 3 => ("TankFilterModel", "errors", "[I", true)
  | 4 => ("TankFilterModel", "now", "[J", true)
  | 5 => ("TankFilterModel", "innovation", "J", false)
  | 6 => ("TankFilterModel", "levelGain", "J", false)
  | 7 => ("TankFilterModel", "flowGain", "J", false)
  | _ => ("TankFilterModel", "hash", "J", false)
def tyX6 : Nat → FieldType := fun k => match k with
  | 0 => .array .int
  | 1 => .array .int
  | 2 => .int
  | 3 => .array .int
  | 4 => .array .long
  | 5 => .long
  | 6 => .long
  | 7 => .long
  | _ => .long
abbrev wsX60 : List Cond := u_ws RX6 TX6 9
theorem nmX6 : ∀ a, a < 9 → ∀ b, b < 9 → a ≠ b → (TX6 a).2.1 ≠ (TX6 b).2.1 := by decide +kernel
theorem tyX6_ok : ∀ k, k < 9 → parseFieldDescriptor (TX6 k).2.2.1 = some (tyX6 k) := by decide +kernel
abbrev cX6_init : ByteArray := prog_11_method_1_code
def yX6_init : MethodName := ⟨RX6, "<init>", "()V"⟩
def dkwX6_init_4 : List UInt8 := [132, 1, 1, 167, 255, 236, 42, 182, 0, 23, 177]
abbrev dktX6_init_4 : List UInt8 := dkwX6_init_4 ++ []
def dkwX6_init_3 : List UInt8 := [16, 9, 79, 3, 60, 27, 7, 162, 0, 21, 42, 180, 0, 7, 16, 12, 27, 96, 17, 16, 0, 79]
abbrev dktX6_init_3 : List UInt8 := dkwX6_init_3 ++ dktX6_init_4
def dkwX6_init_2 : List UInt8 := [180, 0, 7, 7, 17, 16, 0, 79, 42, 180, 0, 7, 16, 6, 16, 64, 79, 42, 180, 0, 7, 16, 7]
abbrev dktX6_init_2 : List UInt8 := dkwX6_init_2 ++ dktX6_init_3
def dkwX6_init_1 : List UInt8 := [188, 10, 181, 0, 16, 42, 8, 188, 11, 181, 0, 19, 42, 180, 0, 7, 5, 17, 16, 0, 79, 42]
abbrev dktX6_init_1 : List UInt8 := dkwX6_init_1 ++ dktX6_init_2
def dkwX6_init_0 : List UInt8 := [42, 183, 0, 1, 42, 16, 71, 188, 10, 181, 0, 7, 42, 17, 1, 28, 188, 10, 181, 0, 13, 42, 6]
abbrev dktX6_init_0 : List UInt8 := dkwX6_init_0 ++ dktX6_init_1
theorem dksX6_init_0 : cX6_init.data.toList.drop 0 = dktX6_init_0 := by decide +kernel
theorem dksX6_init_1 : cX6_init.data.toList.drop 23 = dktX6_init_1 := dk_seg dksX6_init_0 23 rfl rfl
theorem dksX6_init_2 : cX6_init.data.toList.drop 45 = dktX6_init_2 := dk_seg dksX6_init_1 22 rfl rfl
theorem dksX6_init_3 : cX6_init.data.toList.drop 68 = dktX6_init_3 := dk_seg dksX6_init_2 23 rfl rfl
theorem dksX6_init_4 : cX6_init.data.toList.drop 90 = dktX6_init_4 := dk_seg dksX6_init_3 22 rfl rfl
theorem dX6_init_0 : decode cX6_init 0 = .ok (.aload_n 0, 1) := dk_42 (dk_at dksX6_init_0 0 rfl rfl)
theorem dX6_init_1 : decode cX6_init 1 = .ok (.invokespecial 1, 3) := dk_183 0 1 (dk_at dksX6_init_0 1 rfl rfl)
theorem dX6_init_4 : decode cX6_init 4 = .ok (.aload_n 0, 1) := dk_42 (dk_at dksX6_init_0 4 rfl rfl)
theorem dX6_init_5 : decode cX6_init 5 = .ok (.bipush 71, 2) := dk_16 71 (dk_at dksX6_init_0 5 rfl rfl)
theorem dX6_init_7 : decode cX6_init 7 = .ok (.newarray .int, 2) := dk_188_10 (dk_at dksX6_init_0 7 rfl rfl)
theorem dX6_init_9 : decode cX6_init 9 = .ok (.putfield 7, 3) := dk_181 0 7 (dk_at dksX6_init_0 9 rfl rfl)
theorem dX6_init_12 : decode cX6_init 12 = .ok (.aload_n 0, 1) := dk_42 (dk_at dksX6_init_0 12 rfl rfl)
theorem dX6_init_13 : decode cX6_init 13 = .ok (.sipush 284, 3) := dk_17 1 28 (dk_at dksX6_init_0 13 rfl rfl)
theorem dX6_init_16 : decode cX6_init 16 = .ok (.newarray .int, 2) := dk_188_10 (dk_at dksX6_init_0 16 rfl rfl)
theorem dX6_init_18 : decode cX6_init 18 = .ok (.putfield 13, 3) := dk_181 0 13 (dk_at dksX6_init_0 18 rfl rfl)
theorem dX6_init_21 : decode cX6_init 21 = .ok (.aload_n 0, 1) := dk_42 (dk_at dksX6_init_0 21 rfl rfl)
theorem dX6_init_22 : decode cX6_init 22 = .ok (.iconst 3, 1) := dk_6 (dk_at dksX6_init_0 22 rfl rfl)
theorem dX6_init_23 : decode cX6_init 23 = .ok (.newarray .int, 2) := dk_188_10 (dk_at dksX6_init_1 0 rfl rfl)
theorem dX6_init_25 : decode cX6_init 25 = .ok (.putfield 16, 3) := dk_181 0 16 (dk_at dksX6_init_1 2 rfl rfl)
theorem dX6_init_28 : decode cX6_init 28 = .ok (.aload_n 0, 1) := dk_42 (dk_at dksX6_init_1 5 rfl rfl)
theorem dX6_init_29 : decode cX6_init 29 = .ok (.iconst 5, 1) := dk_8 (dk_at dksX6_init_1 6 rfl rfl)
theorem dX6_init_30 : decode cX6_init 30 = .ok (.newarray .long, 2) := dk_188_11 (dk_at dksX6_init_1 7 rfl rfl)
theorem dX6_init_32 : decode cX6_init 32 = .ok (.putfield 19, 3) := dk_181 0 19 (dk_at dksX6_init_1 9 rfl rfl)
theorem dX6_init_35 : decode cX6_init 35 = .ok (.aload_n 0, 1) := dk_42 (dk_at dksX6_init_1 12 rfl rfl)
theorem dX6_init_36 : decode cX6_init 36 = .ok (.getfield 7, 3) := dk_180 0 7 (dk_at dksX6_init_1 13 rfl rfl)
theorem dX6_init_39 : decode cX6_init 39 = .ok (.iconst 2, 1) := dk_5 (dk_at dksX6_init_1 16 rfl rfl)
theorem dX6_init_40 : decode cX6_init 40 = .ok (.sipush 4096, 3) := dk_17 16 0 (dk_at dksX6_init_1 17 rfl rfl)
theorem dX6_init_43 : decode cX6_init 43 = .ok (.iastore, 1) := dk_79 (dk_at dksX6_init_1 20 rfl rfl)
theorem dX6_init_44 : decode cX6_init 44 = .ok (.aload_n 0, 1) := dk_42 (dk_at dksX6_init_1 21 rfl rfl)
theorem dX6_init_45 : decode cX6_init 45 = .ok (.getfield 7, 3) := dk_180 0 7 (dk_at dksX6_init_2 0 rfl rfl)
theorem dX6_init_48 : decode cX6_init 48 = .ok (.iconst 4, 1) := dk_7 (dk_at dksX6_init_2 3 rfl rfl)
theorem dX6_init_49 : decode cX6_init 49 = .ok (.sipush 4096, 3) := dk_17 16 0 (dk_at dksX6_init_2 4 rfl rfl)
theorem dX6_init_52 : decode cX6_init 52 = .ok (.iastore, 1) := dk_79 (dk_at dksX6_init_2 7 rfl rfl)
theorem dX6_init_53 : decode cX6_init 53 = .ok (.aload_n 0, 1) := dk_42 (dk_at dksX6_init_2 8 rfl rfl)
theorem dX6_init_54 : decode cX6_init 54 = .ok (.getfield 7, 3) := dk_180 0 7 (dk_at dksX6_init_2 9 rfl rfl)
theorem dX6_init_57 : decode cX6_init 57 = .ok (.bipush 6, 2) := dk_16 6 (dk_at dksX6_init_2 12 rfl rfl)
theorem dX6_init_59 : decode cX6_init 59 = .ok (.bipush 64, 2) := dk_16 64 (dk_at dksX6_init_2 14 rfl rfl)
theorem dX6_init_61 : decode cX6_init 61 = .ok (.iastore, 1) := dk_79 (dk_at dksX6_init_2 16 rfl rfl)
theorem dX6_init_62 : decode cX6_init 62 = .ok (.aload_n 0, 1) := dk_42 (dk_at dksX6_init_2 17 rfl rfl)
theorem dX6_init_63 : decode cX6_init 63 = .ok (.getfield 7, 3) := dk_180 0 7 (dk_at dksX6_init_2 18 rfl rfl)
theorem dX6_init_66 : decode cX6_init 66 = .ok (.bipush 7, 2) := dk_16 7 (dk_at dksX6_init_2 21 rfl rfl)
theorem dX6_init_68 : decode cX6_init 68 = .ok (.bipush 9, 2) := dk_16 9 (dk_at dksX6_init_3 0 rfl rfl)
theorem dX6_init_70 : decode cX6_init 70 = .ok (.iastore, 1) := dk_79 (dk_at dksX6_init_3 2 rfl rfl)
theorem dX6_init_71 : decode cX6_init 71 = .ok (.iconst 0, 1) := dk_3 (dk_at dksX6_init_3 3 rfl rfl)
theorem dX6_init_72 : decode cX6_init 72 = .ok (.istore_n 1, 1) := dk_60 (dk_at dksX6_init_3 4 rfl rfl)
theorem dX6_init_73 : decode cX6_init 73 = .ok (.iload_n 1, 1) := dk_27 (dk_at dksX6_init_3 5 rfl rfl)
theorem dX6_init_74 : decode cX6_init 74 = .ok (.iconst 4, 1) := dk_7 (dk_at dksX6_init_3 6 rfl rfl)
theorem dX6_init_75 : decode cX6_init 75 = .ok (.if_icmp .ge 21, 3) := dk_162 0 21 (dk_at dksX6_init_3 7 rfl rfl)
theorem dX6_init_78 : decode cX6_init 78 = .ok (.aload_n 0, 1) := dk_42 (dk_at dksX6_init_3 10 rfl rfl)
theorem dX6_init_79 : decode cX6_init 79 = .ok (.getfield 7, 3) := dk_180 0 7 (dk_at dksX6_init_3 11 rfl rfl)
theorem dX6_init_82 : decode cX6_init 82 = .ok (.bipush 12, 2) := dk_16 12 (dk_at dksX6_init_3 14 rfl rfl)
theorem dX6_init_84 : decode cX6_init 84 = .ok (.iload_n 1, 1) := dk_27 (dk_at dksX6_init_3 16 rfl rfl)
theorem dX6_init_85 : decode cX6_init 85 = .ok (.iadd, 1) := dk_96 (dk_at dksX6_init_3 17 rfl rfl)
theorem dX6_init_86 : decode cX6_init 86 = .ok (.sipush 4096, 3) := dk_17 16 0 (dk_at dksX6_init_3 18 rfl rfl)
theorem dX6_init_89 : decode cX6_init 89 = .ok (.iastore, 1) := dk_79 (dk_at dksX6_init_3 21 rfl rfl)
theorem dX6_init_90 : decode cX6_init 90 = .ok (.iinc 1 1, 3) := dk_132 1 1 (dk_at dksX6_init_4 0 rfl rfl)
theorem dX6_init_93 : decode cX6_init 93 = .ok (.goto (-20), 3) := dk_167 255 236 (dk_at dksX6_init_4 3 rfl rfl)
theorem dX6_init_96 : decode cX6_init 96 = .ok (.aload_n 0, 1) := dk_42 (dk_at dksX6_init_4 6 rfl rfl)
theorem dX6_init_97 : decode cX6_init 97 = .ok (.invokevirtual 23, 3) := dk_182 0 23 (dk_at dksX6_init_4 7 rfl rfl)
theorem dX6_init_100 : decode cX6_init 100 = .ok (.return_, 1) := dk_177 (dk_at dksX6_init_4 10 rfl rfl)
abbrev cX6_forget : ByteArray := prog_11_method_5_code
def yX6_forget : MethodName := ⟨RX6, "forget", "()V"⟩
def dkwX6_forget_3 : List UInt8 := [180, 0, 7, 27, 3, 79, 132, 1, 1, 167, 255, 240, 177]
abbrev dktX6_forget_3 : List UInt8 := dkwX6_forget_3 ++ []
def dkwX6_forget_2 : List UInt8 := [16, 21, 3, 79, 42, 180, 0, 7, 16, 22, 3, 79, 16, 23, 60, 27, 16, 71, 162, 0, 16, 42]
abbrev dktX6_forget_2 : List UInt8 := dkwX6_forget_2 ++ dktX6_forget_3
def dkwX6_forget_1 : List UInt8 := [18, 27, 79, 42, 180, 0, 7, 16, 19, 3, 79, 42, 180, 0, 7, 16, 20, 3, 79, 42, 180, 0, 7]
abbrev dktX6_forget_1 : List UInt8 := dkwX6_forget_1 ++ dktX6_forget_2
def dkwX6_forget_0 : List UInt8 := [42, 180, 0, 7, 16, 16, 18, 27, 79, 42, 180, 0, 7, 16, 17, 18, 27, 79, 42, 180, 0, 7, 16, 18]
abbrev dktX6_forget_0 : List UInt8 := dkwX6_forget_0 ++ dktX6_forget_1
theorem dksX6_forget_0 : cX6_forget.data.toList.drop 0 = dktX6_forget_0 := by decide +kernel
theorem dksX6_forget_1 : cX6_forget.data.toList.drop 24 = dktX6_forget_1 := dk_seg dksX6_forget_0 24 rfl rfl
theorem dksX6_forget_2 : cX6_forget.data.toList.drop 47 = dktX6_forget_2 := dk_seg dksX6_forget_1 23 rfl rfl
theorem dksX6_forget_3 : cX6_forget.data.toList.drop 69 = dktX6_forget_3 := dk_seg dksX6_forget_2 22 rfl rfl
theorem dX6_forget_0 : decode cX6_forget 0 = .ok (.aload_n 0, 1) := dk_42 (dk_at dksX6_forget_0 0 rfl rfl)
theorem dX6_forget_1 : decode cX6_forget 1 = .ok (.getfield 7, 3) := dk_180 0 7 (dk_at dksX6_forget_0 1 rfl rfl)
theorem dX6_forget_4 : decode cX6_forget 4 = .ok (.bipush 16, 2) := dk_16 16 (dk_at dksX6_forget_0 4 rfl rfl)
theorem dX6_forget_6 : decode cX6_forget 6 = .ok (.ldc 27, 2) := dk_18 27 (dk_at dksX6_forget_0 6 rfl rfl)
theorem dX6_forget_8 : decode cX6_forget 8 = .ok (.iastore, 1) := dk_79 (dk_at dksX6_forget_0 8 rfl rfl)
theorem dX6_forget_9 : decode cX6_forget 9 = .ok (.aload_n 0, 1) := dk_42 (dk_at dksX6_forget_0 9 rfl rfl)
theorem dX6_forget_10 : decode cX6_forget 10 = .ok (.getfield 7, 3) := dk_180 0 7 (dk_at dksX6_forget_0 10 rfl rfl)
theorem dX6_forget_13 : decode cX6_forget 13 = .ok (.bipush 17, 2) := dk_16 17 (dk_at dksX6_forget_0 13 rfl rfl)
theorem dX6_forget_15 : decode cX6_forget 15 = .ok (.ldc 27, 2) := dk_18 27 (dk_at dksX6_forget_0 15 rfl rfl)
theorem dX6_forget_17 : decode cX6_forget 17 = .ok (.iastore, 1) := dk_79 (dk_at dksX6_forget_0 17 rfl rfl)
theorem dX6_forget_18 : decode cX6_forget 18 = .ok (.aload_n 0, 1) := dk_42 (dk_at dksX6_forget_0 18 rfl rfl)
theorem dX6_forget_19 : decode cX6_forget 19 = .ok (.getfield 7, 3) := dk_180 0 7 (dk_at dksX6_forget_0 19 rfl rfl)
theorem dX6_forget_22 : decode cX6_forget 22 = .ok (.bipush 18, 2) := dk_16 18 (dk_at dksX6_forget_0 22 rfl rfl)
theorem dX6_forget_24 : decode cX6_forget 24 = .ok (.ldc 27, 2) := dk_18 27 (dk_at dksX6_forget_1 0 rfl rfl)
theorem dX6_forget_26 : decode cX6_forget 26 = .ok (.iastore, 1) := dk_79 (dk_at dksX6_forget_1 2 rfl rfl)
theorem dX6_forget_27 : decode cX6_forget 27 = .ok (.aload_n 0, 1) := dk_42 (dk_at dksX6_forget_1 3 rfl rfl)
theorem dX6_forget_28 : decode cX6_forget 28 = .ok (.getfield 7, 3) := dk_180 0 7 (dk_at dksX6_forget_1 4 rfl rfl)
theorem dX6_forget_31 : decode cX6_forget 31 = .ok (.bipush 19, 2) := dk_16 19 (dk_at dksX6_forget_1 7 rfl rfl)
theorem dX6_forget_33 : decode cX6_forget 33 = .ok (.iconst 0, 1) := dk_3 (dk_at dksX6_forget_1 9 rfl rfl)
theorem dX6_forget_34 : decode cX6_forget 34 = .ok (.iastore, 1) := dk_79 (dk_at dksX6_forget_1 10 rfl rfl)
theorem dX6_forget_35 : decode cX6_forget 35 = .ok (.aload_n 0, 1) := dk_42 (dk_at dksX6_forget_1 11 rfl rfl)
theorem dX6_forget_36 : decode cX6_forget 36 = .ok (.getfield 7, 3) := dk_180 0 7 (dk_at dksX6_forget_1 12 rfl rfl)
theorem dX6_forget_39 : decode cX6_forget 39 = .ok (.bipush 20, 2) := dk_16 20 (dk_at dksX6_forget_1 15 rfl rfl)
theorem dX6_forget_41 : decode cX6_forget 41 = .ok (.iconst 0, 1) := dk_3 (dk_at dksX6_forget_1 17 rfl rfl)
theorem dX6_forget_42 : decode cX6_forget 42 = .ok (.iastore, 1) := dk_79 (dk_at dksX6_forget_1 18 rfl rfl)
theorem dX6_forget_43 : decode cX6_forget 43 = .ok (.aload_n 0, 1) := dk_42 (dk_at dksX6_forget_1 19 rfl rfl)
theorem dX6_forget_44 : decode cX6_forget 44 = .ok (.getfield 7, 3) := dk_180 0 7 (dk_at dksX6_forget_1 20 rfl rfl)
theorem dX6_forget_47 : decode cX6_forget 47 = .ok (.bipush 21, 2) := dk_16 21 (dk_at dksX6_forget_2 0 rfl rfl)
theorem dX6_forget_49 : decode cX6_forget 49 = .ok (.iconst 0, 1) := dk_3 (dk_at dksX6_forget_2 2 rfl rfl)
theorem dX6_forget_50 : decode cX6_forget 50 = .ok (.iastore, 1) := dk_79 (dk_at dksX6_forget_2 3 rfl rfl)
theorem dX6_forget_51 : decode cX6_forget 51 = .ok (.aload_n 0, 1) := dk_42 (dk_at dksX6_forget_2 4 rfl rfl)
theorem dX6_forget_52 : decode cX6_forget 52 = .ok (.getfield 7, 3) := dk_180 0 7 (dk_at dksX6_forget_2 5 rfl rfl)
theorem dX6_forget_55 : decode cX6_forget 55 = .ok (.bipush 22, 2) := dk_16 22 (dk_at dksX6_forget_2 8 rfl rfl)
theorem dX6_forget_57 : decode cX6_forget 57 = .ok (.iconst 0, 1) := dk_3 (dk_at dksX6_forget_2 10 rfl rfl)
theorem dX6_forget_58 : decode cX6_forget 58 = .ok (.iastore, 1) := dk_79 (dk_at dksX6_forget_2 11 rfl rfl)
theorem dX6_forget_59 : decode cX6_forget 59 = .ok (.bipush 23, 2) := dk_16 23 (dk_at dksX6_forget_2 12 rfl rfl)
theorem dX6_forget_61 : decode cX6_forget 61 = .ok (.istore_n 1, 1) := dk_60 (dk_at dksX6_forget_2 14 rfl rfl)
theorem dX6_forget_62 : decode cX6_forget 62 = .ok (.iload_n 1, 1) := dk_27 (dk_at dksX6_forget_2 15 rfl rfl)
theorem dX6_forget_63 : decode cX6_forget 63 = .ok (.bipush 71, 2) := dk_16 71 (dk_at dksX6_forget_2 16 rfl rfl)
theorem dX6_forget_65 : decode cX6_forget 65 = .ok (.if_icmp .ge 16, 3) := dk_162 0 16 (dk_at dksX6_forget_2 18 rfl rfl)
theorem dX6_forget_68 : decode cX6_forget 68 = .ok (.aload_n 0, 1) := dk_42 (dk_at dksX6_forget_2 21 rfl rfl)
theorem dX6_forget_69 : decode cX6_forget 69 = .ok (.getfield 7, 3) := dk_180 0 7 (dk_at dksX6_forget_3 0 rfl rfl)
theorem dX6_forget_72 : decode cX6_forget 72 = .ok (.iload_n 1, 1) := dk_27 (dk_at dksX6_forget_3 3 rfl rfl)
theorem dX6_forget_73 : decode cX6_forget 73 = .ok (.iconst 0, 1) := dk_3 (dk_at dksX6_forget_3 4 rfl rfl)
theorem dX6_forget_74 : decode cX6_forget 74 = .ok (.iastore, 1) := dk_79 (dk_at dksX6_forget_3 5 rfl rfl)
theorem dX6_forget_75 : decode cX6_forget 75 = .ok (.iinc 1 1, 3) := dk_132 1 1 (dk_at dksX6_forget_3 6 rfl rfl)
theorem dX6_forget_78 : decode cX6_forget 78 = .ok (.goto (-16), 3) := dk_167 255 240 (dk_at dksX6_forget_3 9 rfl rfl)
theorem dX6_forget_81 : decode cX6_forget 81 = .ok (.return_, 1) := dk_177 (dk_at dksX6_forget_3 12 rfl rfl)
abbrev cX6_reset : ByteArray := prog_11_method_15_code
def yX6_reset : MethodName := ⟨RX6, "reset", "(IIII)I"⟩
def dkwX6_reset_4 : List UInt8 := [180, 0, 7, 7, 21, 4, 79, 42, 182, 0, 23, 21, 5, 172]
abbrev dktX6_reset_4 : List UInt8 := dkwX6_reset_4 ++ []
def dkwX6_reset_3 : List UInt8 := [42, 180, 0, 7, 4, 28, 79, 42, 180, 0, 7, 5, 29, 79, 42, 180, 0, 7, 6, 3, 79, 42]
abbrev dktX6_reset_3 : List UInt8 := dkwX6_reset_3 ++ dktX6_reset_4
def dkwX6_reset_2 : List UInt8 := [182, 0, 74, 172, 42, 182, 0, 78, 42, 180, 0, 7, 16, 22, 46, 54, 5, 42, 180, 0, 7, 3, 27, 79]
abbrev dktX6_reset_2 : List UInt8 := dkwX6_reset_2 ++ dktX6_reset_3
def dkwX6_reset_1 : List UInt8 := [18, 67, 184, 0, 68, 153, 0, 14, 21, 4, 3, 18, 67, 184, 0, 68, 154, 0, 10, 42, 18, 26]
abbrev dktX6_reset_1 : List UInt8 := dkwX6_reset_1 ++ dktX6_reset_2
def dkwX6_reset_0 : List UInt8 := [27, 18, 66, 18, 67, 184, 0, 68, 153, 0, 35, 28, 18, 72, 18, 73, 184, 0, 68, 153, 0, 24, 29, 3]
abbrev dktX6_reset_0 : List UInt8 := dkwX6_reset_0 ++ dktX6_reset_1
theorem dksX6_reset_0 : cX6_reset.data.toList.drop 0 = dktX6_reset_0 := by decide +kernel
theorem dksX6_reset_1 : cX6_reset.data.toList.drop 24 = dktX6_reset_1 := dk_seg dksX6_reset_0 24 rfl rfl
theorem dksX6_reset_2 : cX6_reset.data.toList.drop 46 = dktX6_reset_2 := dk_seg dksX6_reset_1 22 rfl rfl
theorem dksX6_reset_3 : cX6_reset.data.toList.drop 70 = dktX6_reset_3 := dk_seg dksX6_reset_2 24 rfl rfl
theorem dksX6_reset_4 : cX6_reset.data.toList.drop 92 = dktX6_reset_4 := dk_seg dksX6_reset_3 22 rfl rfl
theorem dX6_reset_0 : decode cX6_reset 0 = .ok (.iload_n 1, 1) := dk_27 (dk_at dksX6_reset_0 0 rfl rfl)
theorem dX6_reset_1 : decode cX6_reset 1 = .ok (.ldc 66, 2) := dk_18 66 (dk_at dksX6_reset_0 1 rfl rfl)
theorem dX6_reset_3 : decode cX6_reset 3 = .ok (.ldc 67, 2) := dk_18 67 (dk_at dksX6_reset_0 3 rfl rfl)
theorem dX6_reset_5 : decode cX6_reset 5 = .ok (.invokestatic 68, 3) := dk_184 0 68 (dk_at dksX6_reset_0 5 rfl rfl)
theorem dX6_reset_8 : decode cX6_reset 8 = .ok (.ifCond .eq 35, 3) := dk_153 0 35 (dk_at dksX6_reset_0 8 rfl rfl)
theorem dX6_reset_11 : decode cX6_reset 11 = .ok (.iload_n 2, 1) := dk_28 (dk_at dksX6_reset_0 11 rfl rfl)
theorem dX6_reset_12 : decode cX6_reset 12 = .ok (.ldc 72, 2) := dk_18 72 (dk_at dksX6_reset_0 12 rfl rfl)
theorem dX6_reset_14 : decode cX6_reset 14 = .ok (.ldc 73, 2) := dk_18 73 (dk_at dksX6_reset_0 14 rfl rfl)
theorem dX6_reset_16 : decode cX6_reset 16 = .ok (.invokestatic 68, 3) := dk_184 0 68 (dk_at dksX6_reset_0 16 rfl rfl)
theorem dX6_reset_19 : decode cX6_reset 19 = .ok (.ifCond .eq 24, 3) := dk_153 0 24 (dk_at dksX6_reset_0 19 rfl rfl)
theorem dX6_reset_22 : decode cX6_reset 22 = .ok (.iload_n 3, 1) := dk_29 (dk_at dksX6_reset_0 22 rfl rfl)
theorem dX6_reset_23 : decode cX6_reset 23 = .ok (.iconst 0, 1) := dk_3 (dk_at dksX6_reset_0 23 rfl rfl)
theorem dX6_reset_24 : decode cX6_reset 24 = .ok (.ldc 67, 2) := dk_18 67 (dk_at dksX6_reset_1 0 rfl rfl)
theorem dX6_reset_26 : decode cX6_reset 26 = .ok (.invokestatic 68, 3) := dk_184 0 68 (dk_at dksX6_reset_1 2 rfl rfl)
theorem dX6_reset_29 : decode cX6_reset 29 = .ok (.ifCond .eq 14, 3) := dk_153 0 14 (dk_at dksX6_reset_1 5 rfl rfl)
theorem dX6_reset_32 : decode cX6_reset 32 = .ok (.iload 4, 2) := dk_21 4 (dk_at dksX6_reset_1 8 rfl rfl)
theorem dX6_reset_34 : decode cX6_reset 34 = .ok (.iconst 0, 1) := dk_3 (dk_at dksX6_reset_1 10 rfl rfl)
theorem dX6_reset_35 : decode cX6_reset 35 = .ok (.ldc 67, 2) := dk_18 67 (dk_at dksX6_reset_1 11 rfl rfl)
theorem dX6_reset_37 : decode cX6_reset 37 = .ok (.invokestatic 68, 3) := dk_184 0 68 (dk_at dksX6_reset_1 13 rfl rfl)
theorem dX6_reset_40 : decode cX6_reset 40 = .ok (.ifCond .ne 10, 3) := dk_154 0 10 (dk_at dksX6_reset_1 16 rfl rfl)
theorem dX6_reset_43 : decode cX6_reset 43 = .ok (.aload_n 0, 1) := dk_42 (dk_at dksX6_reset_1 19 rfl rfl)
theorem dX6_reset_44 : decode cX6_reset 44 = .ok (.ldc 26, 2) := dk_18 26 (dk_at dksX6_reset_1 20 rfl rfl)
theorem dX6_reset_46 : decode cX6_reset 46 = .ok (.invokevirtual 74, 3) := dk_182 0 74 (dk_at dksX6_reset_2 0 rfl rfl)
theorem dX6_reset_49 : decode cX6_reset 49 = .ok (.ireturn, 1) := dk_172 (dk_at dksX6_reset_2 3 rfl rfl)
theorem dX6_reset_50 : decode cX6_reset 50 = .ok (.aload_n 0, 1) := dk_42 (dk_at dksX6_reset_2 4 rfl rfl)
theorem dX6_reset_51 : decode cX6_reset 51 = .ok (.invokevirtual 78, 3) := dk_182 0 78 (dk_at dksX6_reset_2 5 rfl rfl)
theorem dX6_reset_54 : decode cX6_reset 54 = .ok (.aload_n 0, 1) := dk_42 (dk_at dksX6_reset_2 8 rfl rfl)
theorem dX6_reset_55 : decode cX6_reset 55 = .ok (.getfield 7, 3) := dk_180 0 7 (dk_at dksX6_reset_2 9 rfl rfl)
theorem dX6_reset_58 : decode cX6_reset 58 = .ok (.bipush 22, 2) := dk_16 22 (dk_at dksX6_reset_2 12 rfl rfl)
theorem dX6_reset_60 : decode cX6_reset 60 = .ok (.iaload, 1) := dk_46 (dk_at dksX6_reset_2 14 rfl rfl)
theorem dX6_reset_61 : decode cX6_reset 61 = .ok (.istore 5, 2) := dk_54 5 (dk_at dksX6_reset_2 15 rfl rfl)
theorem dX6_reset_63 : decode cX6_reset 63 = .ok (.aload_n 0, 1) := dk_42 (dk_at dksX6_reset_2 17 rfl rfl)
theorem dX6_reset_64 : decode cX6_reset 64 = .ok (.getfield 7, 3) := dk_180 0 7 (dk_at dksX6_reset_2 18 rfl rfl)
theorem dX6_reset_67 : decode cX6_reset 67 = .ok (.iconst 0, 1) := dk_3 (dk_at dksX6_reset_2 21 rfl rfl)
theorem dX6_reset_68 : decode cX6_reset 68 = .ok (.iload_n 1, 1) := dk_27 (dk_at dksX6_reset_2 22 rfl rfl)
theorem dX6_reset_69 : decode cX6_reset 69 = .ok (.iastore, 1) := dk_79 (dk_at dksX6_reset_2 23 rfl rfl)
theorem dX6_reset_70 : decode cX6_reset 70 = .ok (.aload_n 0, 1) := dk_42 (dk_at dksX6_reset_3 0 rfl rfl)
theorem dX6_reset_71 : decode cX6_reset 71 = .ok (.getfield 7, 3) := dk_180 0 7 (dk_at dksX6_reset_3 1 rfl rfl)
theorem dX6_reset_74 : decode cX6_reset 74 = .ok (.iconst 1, 1) := dk_4 (dk_at dksX6_reset_3 4 rfl rfl)
theorem dX6_reset_75 : decode cX6_reset 75 = .ok (.iload_n 2, 1) := dk_28 (dk_at dksX6_reset_3 5 rfl rfl)
theorem dX6_reset_76 : decode cX6_reset 76 = .ok (.iastore, 1) := dk_79 (dk_at dksX6_reset_3 6 rfl rfl)
theorem dX6_reset_77 : decode cX6_reset 77 = .ok (.aload_n 0, 1) := dk_42 (dk_at dksX6_reset_3 7 rfl rfl)
theorem dX6_reset_78 : decode cX6_reset 78 = .ok (.getfield 7, 3) := dk_180 0 7 (dk_at dksX6_reset_3 8 rfl rfl)
theorem dX6_reset_81 : decode cX6_reset 81 = .ok (.iconst 2, 1) := dk_5 (dk_at dksX6_reset_3 11 rfl rfl)
theorem dX6_reset_82 : decode cX6_reset 82 = .ok (.iload_n 3, 1) := dk_29 (dk_at dksX6_reset_3 12 rfl rfl)
theorem dX6_reset_83 : decode cX6_reset 83 = .ok (.iastore, 1) := dk_79 (dk_at dksX6_reset_3 13 rfl rfl)
theorem dX6_reset_84 : decode cX6_reset 84 = .ok (.aload_n 0, 1) := dk_42 (dk_at dksX6_reset_3 14 rfl rfl)
theorem dX6_reset_85 : decode cX6_reset 85 = .ok (.getfield 7, 3) := dk_180 0 7 (dk_at dksX6_reset_3 15 rfl rfl)
theorem dX6_reset_88 : decode cX6_reset 88 = .ok (.iconst 3, 1) := dk_6 (dk_at dksX6_reset_3 18 rfl rfl)
theorem dX6_reset_89 : decode cX6_reset 89 = .ok (.iconst 0, 1) := dk_3 (dk_at dksX6_reset_3 19 rfl rfl)
theorem dX6_reset_90 : decode cX6_reset 90 = .ok (.iastore, 1) := dk_79 (dk_at dksX6_reset_3 20 rfl rfl)
theorem dX6_reset_91 : decode cX6_reset 91 = .ok (.aload_n 0, 1) := dk_42 (dk_at dksX6_reset_3 21 rfl rfl)
theorem dX6_reset_92 : decode cX6_reset 92 = .ok (.getfield 7, 3) := dk_180 0 7 (dk_at dksX6_reset_4 0 rfl rfl)
theorem dX6_reset_95 : decode cX6_reset 95 = .ok (.iconst 4, 1) := dk_7 (dk_at dksX6_reset_4 3 rfl rfl)
theorem dX6_reset_96 : decode cX6_reset 96 = .ok (.iload 4, 2) := dk_21 4 (dk_at dksX6_reset_4 4 rfl rfl)
theorem dX6_reset_98 : decode cX6_reset 98 = .ok (.iastore, 1) := dk_79 (dk_at dksX6_reset_4 6 rfl rfl)
theorem dX6_reset_99 : decode cX6_reset 99 = .ok (.aload_n 0, 1) := dk_42 (dk_at dksX6_reset_4 7 rfl rfl)
theorem dX6_reset_100 : decode cX6_reset 100 = .ok (.invokevirtual 23, 3) := dk_182 0 23 (dk_at dksX6_reset_4 8 rfl rfl)
theorem dX6_reset_103 : decode cX6_reset 103 = .ok (.iload 5, 2) := dk_21 5 (dk_at dksX6_reset_4 11 rfl rfl)
theorem dX6_reset_105 : decode cX6_reset 105 = .ok (.ireturn, 1) := dk_172 (dk_at dksX6_reset_4 13 rfl rfl)
abbrev cX6_in : ByteArray := prog_11_method_3_code
def yX6_in : MethodName := ⟨RX6, "in", "(III)Z"⟩
def dkwX6_in_0 : List UInt8 := [26, 27, 161, 0, 12, 26, 28, 163, 0, 7, 4, 167, 0, 4, 3, 172]
abbrev dktX6_in_0 : List UInt8 := dkwX6_in_0 ++ []
theorem dksX6_in_0 : cX6_in.data.toList.drop 0 = dktX6_in_0 := by decide +kernel
theorem dX6_in_0 : decode cX6_in 0 = .ok (.iload_n 0, 1) := dk_26 (dk_at dksX6_in_0 0 rfl rfl)
theorem dX6_in_1 : decode cX6_in 1 = .ok (.iload_n 1, 1) := dk_27 (dk_at dksX6_in_0 1 rfl rfl)
theorem dX6_in_2 : decode cX6_in 2 = .ok (.if_icmp .lt 12, 3) := dk_161 0 12 (dk_at dksX6_in_0 2 rfl rfl)
theorem dX6_in_5 : decode cX6_in 5 = .ok (.iload_n 0, 1) := dk_26 (dk_at dksX6_in_0 5 rfl rfl)
theorem dX6_in_6 : decode cX6_in 6 = .ok (.iload_n 2, 1) := dk_28 (dk_at dksX6_in_0 6 rfl rfl)
theorem dX6_in_7 : decode cX6_in 7 = .ok (.if_icmp .gt 7, 3) := dk_163 0 7 (dk_at dksX6_in_0 7 rfl rfl)
theorem dX6_in_10 : decode cX6_in 10 = .ok (.iconst 1, 1) := dk_4 (dk_at dksX6_in_0 10 rfl rfl)
theorem dX6_in_11 : decode cX6_in 11 = .ok (.goto 4, 3) := dk_167 0 4 (dk_at dksX6_in_0 11 rfl rfl)
theorem dX6_in_14 : decode cX6_in 14 = .ok (.iconst 0, 1) := dk_3 (dk_at dksX6_in_0 14 rfl rfl)
theorem dX6_in_15 : decode cX6_in 15 = .ok (.ireturn, 1) := dk_172 (dk_at dksX6_in_0 15 rfl rfl)
abbrev cX6_fail : ByteArray := prog_11_method_4_code
def yX6_fail : MethodName := ⟨RX6, "fail", "(I)I"⟩
def dkwX6_fail_0 : List UInt8 := [42, 180, 0, 16, 18, 26, 27, 100, 92, 46, 4, 96, 79, 27, 172]
abbrev dktX6_fail_0 : List UInt8 := dkwX6_fail_0 ++ []
theorem dksX6_fail_0 : cX6_fail.data.toList.drop 0 = dktX6_fail_0 := by decide +kernel
theorem dX6_fail_0 : decode cX6_fail 0 = .ok (.aload_n 0, 1) := dk_42 (dk_at dksX6_fail_0 0 rfl rfl)
theorem dX6_fail_1 : decode cX6_fail 1 = .ok (.getfield 16, 3) := dk_180 0 16 (dk_at dksX6_fail_0 1 rfl rfl)
theorem dX6_fail_4 : decode cX6_fail 4 = .ok (.ldc 26, 2) := dk_18 26 (dk_at dksX6_fail_0 4 rfl rfl)
theorem dX6_fail_6 : decode cX6_fail 6 = .ok (.iload_n 1, 1) := dk_27 (dk_at dksX6_fail_0 6 rfl rfl)
theorem dX6_fail_7 : decode cX6_fail 7 = .ok (.isub, 1) := dk_100 (dk_at dksX6_fail_0 7 rfl rfl)
theorem dX6_fail_8 : decode cX6_fail 8 = .ok (.dup2, 1) := dk_92 (dk_at dksX6_fail_0 8 rfl rfl)
theorem dX6_fail_9 : decode cX6_fail 9 = .ok (.iaload, 1) := dk_46 (dk_at dksX6_fail_0 9 rfl rfl)
theorem dX6_fail_10 : decode cX6_fail 10 = .ok (.iconst 1, 1) := dk_4 (dk_at dksX6_fail_0 10 rfl rfl)
theorem dX6_fail_11 : decode cX6_fail 11 = .ok (.iadd, 1) := dk_96 (dk_at dksX6_fail_0 11 rfl rfl)
theorem dX6_fail_12 : decode cX6_fail 12 = .ok (.iastore, 1) := dk_79 (dk_at dksX6_fail_0 12 rfl rfl)
theorem dX6_fail_13 : decode cX6_fail 13 = .ok (.iload_n 1, 1) := dk_27 (dk_at dksX6_fail_0 13 rfl rfl)
theorem dX6_fail_14 : decode cX6_fail 14 = .ok (.ireturn, 1) := dk_172 (dk_at dksX6_fail_0 14 rfl rfl)
abbrev cX6_note : ByteArray := prog_11_method_6_code
def yX6_note : MethodName := ⟨RX6, "note", "()V"⟩
def dkwX6_note_3 : List UInt8 := [42, 180, 0, 7, 27, 46, 79, 132, 1, 1, 167, 255, 227, 42, 89, 180, 0, 28, 4, 96, 181, 0, 28, 177]
abbrev dktX6_note_3 : List UInt8 := dkwX6_note_3 ++ []
def dkwX6_note_2 : List UInt8 := [181, 0, 28, 3, 60, 27, 16, 71, 162, 0, 29, 42, 180, 0, 13, 16, 71, 42, 180, 0, 28, 104, 27, 96]
abbrev dktX6_note_2 : List UInt8 := dkwX6_note_2 ++ dktX6_note_3
def dkwX6_note_1 : List UInt8 := [180, 0, 13, 27, 16, 71, 96, 46, 79, 132, 1, 1, 167, 255, 231, 42, 89, 180, 0, 28, 4, 100]
abbrev dktX6_note_1 : List UInt8 := dkwX6_note_1 ++ dktX6_note_2
def dkwX6_note_0 : List UInt8 := [42, 180, 0, 28, 7, 160, 0, 43, 3, 60, 27, 17, 0, 213, 162, 0, 24, 42, 180, 0, 13, 27, 42]
abbrev dktX6_note_0 : List UInt8 := dkwX6_note_0 ++ dktX6_note_1
theorem dksX6_note_0 : cX6_note.data.toList.drop 0 = dktX6_note_0 := by decide +kernel
theorem dksX6_note_1 : cX6_note.data.toList.drop 23 = dktX6_note_1 := dk_seg dksX6_note_0 23 rfl rfl
theorem dksX6_note_2 : cX6_note.data.toList.drop 45 = dktX6_note_2 := dk_seg dksX6_note_1 22 rfl rfl
theorem dksX6_note_3 : cX6_note.data.toList.drop 69 = dktX6_note_3 := dk_seg dksX6_note_2 24 rfl rfl
theorem dX6_note_0 : decode cX6_note 0 = .ok (.aload_n 0, 1) := dk_42 (dk_at dksX6_note_0 0 rfl rfl)
theorem dX6_note_1 : decode cX6_note 1 = .ok (.getfield 28, 3) := dk_180 0 28 (dk_at dksX6_note_0 1 rfl rfl)
theorem dX6_note_4 : decode cX6_note 4 = .ok (.iconst 4, 1) := dk_7 (dk_at dksX6_note_0 4 rfl rfl)
theorem dX6_note_5 : decode cX6_note 5 = .ok (.if_icmp .ne 43, 3) := dk_160 0 43 (dk_at dksX6_note_0 5 rfl rfl)
theorem dX6_note_8 : decode cX6_note 8 = .ok (.iconst 0, 1) := dk_3 (dk_at dksX6_note_0 8 rfl rfl)
theorem dX6_note_9 : decode cX6_note 9 = .ok (.istore_n 1, 1) := dk_60 (dk_at dksX6_note_0 9 rfl rfl)
theorem dX6_note_10 : decode cX6_note 10 = .ok (.iload_n 1, 1) := dk_27 (dk_at dksX6_note_0 10 rfl rfl)
theorem dX6_note_11 : decode cX6_note 11 = .ok (.sipush 213, 3) := dk_17 0 213 (dk_at dksX6_note_0 11 rfl rfl)
theorem dX6_note_14 : decode cX6_note 14 = .ok (.if_icmp .ge 24, 3) := dk_162 0 24 (dk_at dksX6_note_0 14 rfl rfl)
theorem dX6_note_17 : decode cX6_note 17 = .ok (.aload_n 0, 1) := dk_42 (dk_at dksX6_note_0 17 rfl rfl)
theorem dX6_note_18 : decode cX6_note 18 = .ok (.getfield 13, 3) := dk_180 0 13 (dk_at dksX6_note_0 18 rfl rfl)
theorem dX6_note_21 : decode cX6_note 21 = .ok (.iload_n 1, 1) := dk_27 (dk_at dksX6_note_0 21 rfl rfl)
theorem dX6_note_22 : decode cX6_note 22 = .ok (.aload_n 0, 1) := dk_42 (dk_at dksX6_note_0 22 rfl rfl)
theorem dX6_note_23 : decode cX6_note 23 = .ok (.getfield 13, 3) := dk_180 0 13 (dk_at dksX6_note_1 0 rfl rfl)
theorem dX6_note_26 : decode cX6_note 26 = .ok (.iload_n 1, 1) := dk_27 (dk_at dksX6_note_1 3 rfl rfl)
theorem dX6_note_27 : decode cX6_note 27 = .ok (.bipush 71, 2) := dk_16 71 (dk_at dksX6_note_1 4 rfl rfl)
theorem dX6_note_29 : decode cX6_note 29 = .ok (.iadd, 1) := dk_96 (dk_at dksX6_note_1 6 rfl rfl)
theorem dX6_note_30 : decode cX6_note 30 = .ok (.iaload, 1) := dk_46 (dk_at dksX6_note_1 7 rfl rfl)
theorem dX6_note_31 : decode cX6_note 31 = .ok (.iastore, 1) := dk_79 (dk_at dksX6_note_1 8 rfl rfl)
theorem dX6_note_32 : decode cX6_note 32 = .ok (.iinc 1 1, 3) := dk_132 1 1 (dk_at dksX6_note_1 9 rfl rfl)
theorem dX6_note_35 : decode cX6_note 35 = .ok (.goto (-25), 3) := dk_167 255 231 (dk_at dksX6_note_1 12 rfl rfl)
theorem dX6_note_38 : decode cX6_note 38 = .ok (.aload_n 0, 1) := dk_42 (dk_at dksX6_note_1 15 rfl rfl)
theorem dX6_note_39 : decode cX6_note 39 = .ok (.dup, 1) := dk_89 (dk_at dksX6_note_1 16 rfl rfl)
theorem dX6_note_40 : decode cX6_note 40 = .ok (.getfield 28, 3) := dk_180 0 28 (dk_at dksX6_note_1 17 rfl rfl)
theorem dX6_note_43 : decode cX6_note 43 = .ok (.iconst 1, 1) := dk_4 (dk_at dksX6_note_1 20 rfl rfl)
theorem dX6_note_44 : decode cX6_note 44 = .ok (.isub, 1) := dk_100 (dk_at dksX6_note_1 21 rfl rfl)
theorem dX6_note_45 : decode cX6_note 45 = .ok (.putfield 28, 3) := dk_181 0 28 (dk_at dksX6_note_2 0 rfl rfl)
theorem dX6_note_48 : decode cX6_note 48 = .ok (.iconst 0, 1) := dk_3 (dk_at dksX6_note_2 3 rfl rfl)
theorem dX6_note_49 : decode cX6_note 49 = .ok (.istore_n 1, 1) := dk_60 (dk_at dksX6_note_2 4 rfl rfl)
theorem dX6_note_50 : decode cX6_note 50 = .ok (.iload_n 1, 1) := dk_27 (dk_at dksX6_note_2 5 rfl rfl)
theorem dX6_note_51 : decode cX6_note 51 = .ok (.bipush 71, 2) := dk_16 71 (dk_at dksX6_note_2 6 rfl rfl)
theorem dX6_note_53 : decode cX6_note 53 = .ok (.if_icmp .ge 29, 3) := dk_162 0 29 (dk_at dksX6_note_2 8 rfl rfl)
theorem dX6_note_56 : decode cX6_note 56 = .ok (.aload_n 0, 1) := dk_42 (dk_at dksX6_note_2 11 rfl rfl)
theorem dX6_note_57 : decode cX6_note 57 = .ok (.getfield 13, 3) := dk_180 0 13 (dk_at dksX6_note_2 12 rfl rfl)
theorem dX6_note_60 : decode cX6_note 60 = .ok (.bipush 71, 2) := dk_16 71 (dk_at dksX6_note_2 15 rfl rfl)
theorem dX6_note_62 : decode cX6_note 62 = .ok (.aload_n 0, 1) := dk_42 (dk_at dksX6_note_2 17 rfl rfl)
theorem dX6_note_63 : decode cX6_note 63 = .ok (.getfield 28, 3) := dk_180 0 28 (dk_at dksX6_note_2 18 rfl rfl)
theorem dX6_note_66 : decode cX6_note 66 = .ok (.imul, 1) := dk_104 (dk_at dksX6_note_2 21 rfl rfl)
theorem dX6_note_67 : decode cX6_note 67 = .ok (.iload_n 1, 1) := dk_27 (dk_at dksX6_note_2 22 rfl rfl)
theorem dX6_note_68 : decode cX6_note 68 = .ok (.iadd, 1) := dk_96 (dk_at dksX6_note_2 23 rfl rfl)
theorem dX6_note_69 : decode cX6_note 69 = .ok (.aload_n 0, 1) := dk_42 (dk_at dksX6_note_3 0 rfl rfl)
theorem dX6_note_70 : decode cX6_note 70 = .ok (.getfield 7, 3) := dk_180 0 7 (dk_at dksX6_note_3 1 rfl rfl)
theorem dX6_note_73 : decode cX6_note 73 = .ok (.iload_n 1, 1) := dk_27 (dk_at dksX6_note_3 4 rfl rfl)
theorem dX6_note_74 : decode cX6_note 74 = .ok (.iaload, 1) := dk_46 (dk_at dksX6_note_3 5 rfl rfl)
theorem dX6_note_75 : decode cX6_note 75 = .ok (.iastore, 1) := dk_79 (dk_at dksX6_note_3 6 rfl rfl)
theorem dX6_note_76 : decode cX6_note 76 = .ok (.iinc 1 1, 3) := dk_132 1 1 (dk_at dksX6_note_3 7 rfl rfl)
theorem dX6_note_79 : decode cX6_note 79 = .ok (.goto (-29), 3) := dk_167 255 227 (dk_at dksX6_note_3 10 rfl rfl)
theorem dX6_note_82 : decode cX6_note 82 = .ok (.aload_n 0, 1) := dk_42 (dk_at dksX6_note_3 13 rfl rfl)
theorem dX6_note_83 : decode cX6_note 83 = .ok (.dup, 1) := dk_89 (dk_at dksX6_note_3 14 rfl rfl)
theorem dX6_note_84 : decode cX6_note 84 = .ok (.getfield 28, 3) := dk_180 0 28 (dk_at dksX6_note_3 15 rfl rfl)
theorem dX6_note_87 : decode cX6_note 87 = .ok (.iconst 1, 1) := dk_4 (dk_at dksX6_note_3 18 rfl rfl)
theorem dX6_note_88 : decode cX6_note 88 = .ok (.iadd, 1) := dk_96 (dk_at dksX6_note_3 19 rfl rfl)
theorem dX6_note_89 : decode cX6_note 89 = .ok (.putfield 28, 3) := dk_181 0 28 (dk_at dksX6_note_3 20 rfl rfl)
theorem dX6_note_92 : decode cX6_note 92 = .ok (.return_, 1) := dk_177 (dk_at dksX6_note_3 23 rfl rfl)
abbrev cX6_setProcessNoise : ByteArray := prog_11_method_16_code
def yX6_setProcessNoise : MethodName := ⟨RX6, "setProcessNoise", "(II)I"⟩
def dkwX6_setProcessNoise_2 : List UInt8 := [180, 0, 7, 16, 6, 28, 79, 29, 172]
abbrev dktX6_setProcessNoise_2 : List UInt8 := dkwX6_setProcessNoise_2 ++ []
def dkwX6_setProcessNoise_1 : List UInt8 := [182, 0, 74, 172, 42, 182, 0, 78, 42, 180, 0, 7, 16, 6, 46, 62, 42, 180, 0, 7, 8, 27, 79, 42]
abbrev dktX6_setProcessNoise_1 : List UInt8 := dkwX6_setProcessNoise_1 ++ dktX6_setProcessNoise_2
def dkwX6_setProcessNoise_0 : List UInt8 := [27, 3, 18, 73, 184, 0, 68, 153, 0, 13, 28, 3, 18, 73, 184, 0, 68, 154, 0, 10, 42, 18, 26]
abbrev dktX6_setProcessNoise_0 : List UInt8 := dkwX6_setProcessNoise_0 ++ dktX6_setProcessNoise_1
theorem dksX6_setProcessNoise_0 : cX6_setProcessNoise.data.toList.drop 0 = dktX6_setProcessNoise_0 := by decide +kernel
theorem dksX6_setProcessNoise_1 : cX6_setProcessNoise.data.toList.drop 23 = dktX6_setProcessNoise_1 := dk_seg dksX6_setProcessNoise_0 23 rfl rfl
theorem dksX6_setProcessNoise_2 : cX6_setProcessNoise.data.toList.drop 47 = dktX6_setProcessNoise_2 := dk_seg dksX6_setProcessNoise_1 24 rfl rfl
theorem dX6_setProcessNoise_0 : decode cX6_setProcessNoise 0 = .ok (.iload_n 1, 1) := dk_27 (dk_at dksX6_setProcessNoise_0 0 rfl rfl)
theorem dX6_setProcessNoise_1 : decode cX6_setProcessNoise 1 = .ok (.iconst 0, 1) := dk_3 (dk_at dksX6_setProcessNoise_0 1 rfl rfl)
theorem dX6_setProcessNoise_2 : decode cX6_setProcessNoise 2 = .ok (.ldc 73, 2) := dk_18 73 (dk_at dksX6_setProcessNoise_0 2 rfl rfl)
theorem dX6_setProcessNoise_4 : decode cX6_setProcessNoise 4 = .ok (.invokestatic 68, 3) := dk_184 0 68 (dk_at dksX6_setProcessNoise_0 4 rfl rfl)
theorem dX6_setProcessNoise_7 : decode cX6_setProcessNoise 7 = .ok (.ifCond .eq 13, 3) := dk_153 0 13 (dk_at dksX6_setProcessNoise_0 7 rfl rfl)
theorem dX6_setProcessNoise_10 : decode cX6_setProcessNoise 10 = .ok (.iload_n 2, 1) := dk_28 (dk_at dksX6_setProcessNoise_0 10 rfl rfl)
theorem dX6_setProcessNoise_11 : decode cX6_setProcessNoise 11 = .ok (.iconst 0, 1) := dk_3 (dk_at dksX6_setProcessNoise_0 11 rfl rfl)
theorem dX6_setProcessNoise_12 : decode cX6_setProcessNoise 12 = .ok (.ldc 73, 2) := dk_18 73 (dk_at dksX6_setProcessNoise_0 12 rfl rfl)
theorem dX6_setProcessNoise_14 : decode cX6_setProcessNoise 14 = .ok (.invokestatic 68, 3) := dk_184 0 68 (dk_at dksX6_setProcessNoise_0 14 rfl rfl)
theorem dX6_setProcessNoise_17 : decode cX6_setProcessNoise 17 = .ok (.ifCond .ne 10, 3) := dk_154 0 10 (dk_at dksX6_setProcessNoise_0 17 rfl rfl)
theorem dX6_setProcessNoise_20 : decode cX6_setProcessNoise 20 = .ok (.aload_n 0, 1) := dk_42 (dk_at dksX6_setProcessNoise_0 20 rfl rfl)
theorem dX6_setProcessNoise_21 : decode cX6_setProcessNoise 21 = .ok (.ldc 26, 2) := dk_18 26 (dk_at dksX6_setProcessNoise_0 21 rfl rfl)
theorem dX6_setProcessNoise_23 : decode cX6_setProcessNoise 23 = .ok (.invokevirtual 74, 3) := dk_182 0 74 (dk_at dksX6_setProcessNoise_1 0 rfl rfl)
theorem dX6_setProcessNoise_26 : decode cX6_setProcessNoise 26 = .ok (.ireturn, 1) := dk_172 (dk_at dksX6_setProcessNoise_1 3 rfl rfl)
theorem dX6_setProcessNoise_27 : decode cX6_setProcessNoise 27 = .ok (.aload_n 0, 1) := dk_42 (dk_at dksX6_setProcessNoise_1 4 rfl rfl)
theorem dX6_setProcessNoise_28 : decode cX6_setProcessNoise 28 = .ok (.invokevirtual 78, 3) := dk_182 0 78 (dk_at dksX6_setProcessNoise_1 5 rfl rfl)
theorem dX6_setProcessNoise_31 : decode cX6_setProcessNoise 31 = .ok (.aload_n 0, 1) := dk_42 (dk_at dksX6_setProcessNoise_1 8 rfl rfl)
theorem dX6_setProcessNoise_32 : decode cX6_setProcessNoise 32 = .ok (.getfield 7, 3) := dk_180 0 7 (dk_at dksX6_setProcessNoise_1 9 rfl rfl)
theorem dX6_setProcessNoise_35 : decode cX6_setProcessNoise 35 = .ok (.bipush 6, 2) := dk_16 6 (dk_at dksX6_setProcessNoise_1 12 rfl rfl)
theorem dX6_setProcessNoise_37 : decode cX6_setProcessNoise 37 = .ok (.iaload, 1) := dk_46 (dk_at dksX6_setProcessNoise_1 14 rfl rfl)
theorem dX6_setProcessNoise_38 : decode cX6_setProcessNoise 38 = .ok (.istore_n 3, 1) := dk_62 (dk_at dksX6_setProcessNoise_1 15 rfl rfl)
theorem dX6_setProcessNoise_39 : decode cX6_setProcessNoise 39 = .ok (.aload_n 0, 1) := dk_42 (dk_at dksX6_setProcessNoise_1 16 rfl rfl)
theorem dX6_setProcessNoise_40 : decode cX6_setProcessNoise 40 = .ok (.getfield 7, 3) := dk_180 0 7 (dk_at dksX6_setProcessNoise_1 17 rfl rfl)
theorem dX6_setProcessNoise_43 : decode cX6_setProcessNoise 43 = .ok (.iconst 5, 1) := dk_8 (dk_at dksX6_setProcessNoise_1 20 rfl rfl)
theorem dX6_setProcessNoise_44 : decode cX6_setProcessNoise 44 = .ok (.iload_n 1, 1) := dk_27 (dk_at dksX6_setProcessNoise_1 21 rfl rfl)
theorem dX6_setProcessNoise_45 : decode cX6_setProcessNoise 45 = .ok (.iastore, 1) := dk_79 (dk_at dksX6_setProcessNoise_1 22 rfl rfl)
theorem dX6_setProcessNoise_46 : decode cX6_setProcessNoise 46 = .ok (.aload_n 0, 1) := dk_42 (dk_at dksX6_setProcessNoise_1 23 rfl rfl)
theorem dX6_setProcessNoise_47 : decode cX6_setProcessNoise 47 = .ok (.getfield 7, 3) := dk_180 0 7 (dk_at dksX6_setProcessNoise_2 0 rfl rfl)
theorem dX6_setProcessNoise_50 : decode cX6_setProcessNoise 50 = .ok (.bipush 6, 2) := dk_16 6 (dk_at dksX6_setProcessNoise_2 3 rfl rfl)
theorem dX6_setProcessNoise_52 : decode cX6_setProcessNoise 52 = .ok (.iload_n 2, 1) := dk_28 (dk_at dksX6_setProcessNoise_2 5 rfl rfl)
theorem dX6_setProcessNoise_53 : decode cX6_setProcessNoise 53 = .ok (.iastore, 1) := dk_79 (dk_at dksX6_setProcessNoise_2 6 rfl rfl)
theorem dX6_setProcessNoise_54 : decode cX6_setProcessNoise 54 = .ok (.iload_n 3, 1) := dk_29 (dk_at dksX6_setProcessNoise_2 7 rfl rfl)
theorem dX6_setProcessNoise_55 : decode cX6_setProcessNoise 55 = .ok (.ireturn, 1) := dk_172 (dk_at dksX6_setProcessNoise_2 8 rfl rfl)
abbrev cX6_setSensor : ByteArray := prog_11_method_18_code
def yX6_setSensor : MethodName := ⟨RX6, "setSensor", "(III)I"⟩
def dkwX6_setSensor_3 : List UInt8 := [172]
abbrev dktX6_setSensor_3 : List UInt8 := dkwX6_setSensor_3 ++ []
def dkwX6_setSensor_2 : List UInt8 := [54, 4, 42, 180, 0, 7, 16, 8, 27, 96, 28, 79, 42, 180, 0, 7, 16, 12, 27, 96, 29, 79, 21, 4]
abbrev dktX6_setSensor_2 : List UInt8 := dkwX6_setSensor_2 ++ dktX6_setSensor_3
def dkwX6_setSensor_1 : List UInt8 := [154, 0, 10, 42, 18, 26, 182, 0, 74, 172, 42, 182, 0, 78, 42, 180, 0, 7, 16, 12, 27, 96, 46]
abbrev dktX6_setSensor_1 : List UInt8 := dkwX6_setSensor_1 ++ dktX6_setSensor_2
def dkwX6_setSensor_0 : List UInt8 := [27, 184, 0, 81, 153, 0, 22, 28, 3, 4, 184, 0, 68, 153, 0, 13, 29, 4, 18, 67, 184, 0, 68]
abbrev dktX6_setSensor_0 : List UInt8 := dkwX6_setSensor_0 ++ dktX6_setSensor_1
theorem dksX6_setSensor_0 : cX6_setSensor.data.toList.drop 0 = dktX6_setSensor_0 := by decide +kernel
theorem dksX6_setSensor_1 : cX6_setSensor.data.toList.drop 23 = dktX6_setSensor_1 := dk_seg dksX6_setSensor_0 23 rfl rfl
theorem dksX6_setSensor_2 : cX6_setSensor.data.toList.drop 46 = dktX6_setSensor_2 := dk_seg dksX6_setSensor_1 23 rfl rfl
theorem dksX6_setSensor_3 : cX6_setSensor.data.toList.drop 70 = dktX6_setSensor_3 := dk_seg dksX6_setSensor_2 24 rfl rfl
theorem dX6_setSensor_0 : decode cX6_setSensor 0 = .ok (.iload_n 1, 1) := dk_27 (dk_at dksX6_setSensor_0 0 rfl rfl)
theorem dX6_setSensor_1 : decode cX6_setSensor 1 = .ok (.invokestatic 81, 3) := dk_184 0 81 (dk_at dksX6_setSensor_0 1 rfl rfl)
theorem dX6_setSensor_4 : decode cX6_setSensor 4 = .ok (.ifCond .eq 22, 3) := dk_153 0 22 (dk_at dksX6_setSensor_0 4 rfl rfl)
theorem dX6_setSensor_7 : decode cX6_setSensor 7 = .ok (.iload_n 2, 1) := dk_28 (dk_at dksX6_setSensor_0 7 rfl rfl)
theorem dX6_setSensor_8 : decode cX6_setSensor 8 = .ok (.iconst 0, 1) := dk_3 (dk_at dksX6_setSensor_0 8 rfl rfl)
theorem dX6_setSensor_9 : decode cX6_setSensor 9 = .ok (.iconst 1, 1) := dk_4 (dk_at dksX6_setSensor_0 9 rfl rfl)
theorem dX6_setSensor_10 : decode cX6_setSensor 10 = .ok (.invokestatic 68, 3) := dk_184 0 68 (dk_at dksX6_setSensor_0 10 rfl rfl)
theorem dX6_setSensor_13 : decode cX6_setSensor 13 = .ok (.ifCond .eq 13, 3) := dk_153 0 13 (dk_at dksX6_setSensor_0 13 rfl rfl)
theorem dX6_setSensor_16 : decode cX6_setSensor 16 = .ok (.iload_n 3, 1) := dk_29 (dk_at dksX6_setSensor_0 16 rfl rfl)
theorem dX6_setSensor_17 : decode cX6_setSensor 17 = .ok (.iconst 1, 1) := dk_4 (dk_at dksX6_setSensor_0 17 rfl rfl)
theorem dX6_setSensor_18 : decode cX6_setSensor 18 = .ok (.ldc 67, 2) := dk_18 67 (dk_at dksX6_setSensor_0 18 rfl rfl)
theorem dX6_setSensor_20 : decode cX6_setSensor 20 = .ok (.invokestatic 68, 3) := dk_184 0 68 (dk_at dksX6_setSensor_0 20 rfl rfl)
theorem dX6_setSensor_23 : decode cX6_setSensor 23 = .ok (.ifCond .ne 10, 3) := dk_154 0 10 (dk_at dksX6_setSensor_1 0 rfl rfl)
theorem dX6_setSensor_26 : decode cX6_setSensor 26 = .ok (.aload_n 0, 1) := dk_42 (dk_at dksX6_setSensor_1 3 rfl rfl)
theorem dX6_setSensor_27 : decode cX6_setSensor 27 = .ok (.ldc 26, 2) := dk_18 26 (dk_at dksX6_setSensor_1 4 rfl rfl)
theorem dX6_setSensor_29 : decode cX6_setSensor 29 = .ok (.invokevirtual 74, 3) := dk_182 0 74 (dk_at dksX6_setSensor_1 6 rfl rfl)
theorem dX6_setSensor_32 : decode cX6_setSensor 32 = .ok (.ireturn, 1) := dk_172 (dk_at dksX6_setSensor_1 9 rfl rfl)
theorem dX6_setSensor_33 : decode cX6_setSensor 33 = .ok (.aload_n 0, 1) := dk_42 (dk_at dksX6_setSensor_1 10 rfl rfl)
theorem dX6_setSensor_34 : decode cX6_setSensor 34 = .ok (.invokevirtual 78, 3) := dk_182 0 78 (dk_at dksX6_setSensor_1 11 rfl rfl)
theorem dX6_setSensor_37 : decode cX6_setSensor 37 = .ok (.aload_n 0, 1) := dk_42 (dk_at dksX6_setSensor_1 14 rfl rfl)
theorem dX6_setSensor_38 : decode cX6_setSensor 38 = .ok (.getfield 7, 3) := dk_180 0 7 (dk_at dksX6_setSensor_1 15 rfl rfl)
theorem dX6_setSensor_41 : decode cX6_setSensor 41 = .ok (.bipush 12, 2) := dk_16 12 (dk_at dksX6_setSensor_1 18 rfl rfl)
theorem dX6_setSensor_43 : decode cX6_setSensor 43 = .ok (.iload_n 1, 1) := dk_27 (dk_at dksX6_setSensor_1 20 rfl rfl)
theorem dX6_setSensor_44 : decode cX6_setSensor 44 = .ok (.iadd, 1) := dk_96 (dk_at dksX6_setSensor_1 21 rfl rfl)
theorem dX6_setSensor_45 : decode cX6_setSensor 45 = .ok (.iaload, 1) := dk_46 (dk_at dksX6_setSensor_1 22 rfl rfl)
theorem dX6_setSensor_46 : decode cX6_setSensor 46 = .ok (.istore 4, 2) := dk_54 4 (dk_at dksX6_setSensor_2 0 rfl rfl)
theorem dX6_setSensor_48 : decode cX6_setSensor 48 = .ok (.aload_n 0, 1) := dk_42 (dk_at dksX6_setSensor_2 2 rfl rfl)
theorem dX6_setSensor_49 : decode cX6_setSensor 49 = .ok (.getfield 7, 3) := dk_180 0 7 (dk_at dksX6_setSensor_2 3 rfl rfl)
theorem dX6_setSensor_52 : decode cX6_setSensor 52 = .ok (.bipush 8, 2) := dk_16 8 (dk_at dksX6_setSensor_2 6 rfl rfl)
theorem dX6_setSensor_54 : decode cX6_setSensor 54 = .ok (.iload_n 1, 1) := dk_27 (dk_at dksX6_setSensor_2 8 rfl rfl)
theorem dX6_setSensor_55 : decode cX6_setSensor 55 = .ok (.iadd, 1) := dk_96 (dk_at dksX6_setSensor_2 9 rfl rfl)
theorem dX6_setSensor_56 : decode cX6_setSensor 56 = .ok (.iload_n 2, 1) := dk_28 (dk_at dksX6_setSensor_2 10 rfl rfl)
theorem dX6_setSensor_57 : decode cX6_setSensor 57 = .ok (.iastore, 1) := dk_79 (dk_at dksX6_setSensor_2 11 rfl rfl)
theorem dX6_setSensor_58 : decode cX6_setSensor 58 = .ok (.aload_n 0, 1) := dk_42 (dk_at dksX6_setSensor_2 12 rfl rfl)
theorem dX6_setSensor_59 : decode cX6_setSensor 59 = .ok (.getfield 7, 3) := dk_180 0 7 (dk_at dksX6_setSensor_2 13 rfl rfl)
theorem dX6_setSensor_62 : decode cX6_setSensor 62 = .ok (.bipush 12, 2) := dk_16 12 (dk_at dksX6_setSensor_2 16 rfl rfl)
theorem dX6_setSensor_64 : decode cX6_setSensor 64 = .ok (.iload_n 1, 1) := dk_27 (dk_at dksX6_setSensor_2 18 rfl rfl)
theorem dX6_setSensor_65 : decode cX6_setSensor 65 = .ok (.iadd, 1) := dk_96 (dk_at dksX6_setSensor_2 19 rfl rfl)
theorem dX6_setSensor_66 : decode cX6_setSensor 66 = .ok (.iload_n 3, 1) := dk_29 (dk_at dksX6_setSensor_2 20 rfl rfl)
theorem dX6_setSensor_67 : decode cX6_setSensor 67 = .ok (.iastore, 1) := dk_79 (dk_at dksX6_setSensor_2 21 rfl rfl)
theorem dX6_setSensor_68 : decode cX6_setSensor 68 = .ok (.iload 4, 2) := dk_21 4 (dk_at dksX6_setSensor_2 22 rfl rfl)
theorem dX6_setSensor_70 : decode cX6_setSensor 70 = .ok (.ireturn, 1) := dk_172 (dk_at dksX6_setSensor_3 0 rfl rfl)
abbrev cX6_isSensor : ByteArray := prog_11_method_17_code
def yX6_isSensor : MethodName := ⟨RX6, "isSensor", "(I)Z"⟩
def dkwX6_isSensor_0 : List UInt8 := [26, 3, 6, 184, 0, 68, 172]
abbrev dktX6_isSensor_0 : List UInt8 := dkwX6_isSensor_0 ++ []
theorem dksX6_isSensor_0 : cX6_isSensor.data.toList.drop 0 = dktX6_isSensor_0 := by decide +kernel
theorem dX6_isSensor_0 : decode cX6_isSensor 0 = .ok (.iload_n 0, 1) := dk_26 (dk_at dksX6_isSensor_0 0 rfl rfl)
theorem dX6_isSensor_1 : decode cX6_isSensor 1 = .ok (.iconst 0, 1) := dk_3 (dk_at dksX6_isSensor_0 1 rfl rfl)
theorem dX6_isSensor_2 : decode cX6_isSensor 2 = .ok (.iconst 3, 1) := dk_6 (dk_at dksX6_isSensor_0 2 rfl rfl)
theorem dX6_isSensor_3 : decode cX6_isSensor 3 = .ok (.invokestatic 68, 3) := dk_184 0 68 (dk_at dksX6_isSensor_0 3 rfl rfl)
theorem dX6_isSensor_6 : decode cX6_isSensor 6 = .ok (.ireturn, 1) := dk_172 (dk_at dksX6_isSensor_0 6 rfl rfl)
abbrev cX6_setGate : ByteArray := prog_11_method_19_code
def yX6_setGate : MethodName := ⟨RX6, "setGate", "(I)I"⟩
def dkwX6_setGate_1 : List UInt8 := [180, 0, 7, 16, 7, 46, 61, 42, 180, 0, 7, 16, 7, 27, 79, 28, 172]
abbrev dktX6_setGate_1 : List UInt8 := dkwX6_setGate_1 ++ []
def dkwX6_setGate_0 : List UInt8 := [27, 3, 16, 25, 184, 0, 68, 154, 0, 10, 42, 18, 26, 182, 0, 74, 172, 42, 182, 0, 78, 42]
abbrev dktX6_setGate_0 : List UInt8 := dkwX6_setGate_0 ++ dktX6_setGate_1
theorem dksX6_setGate_0 : cX6_setGate.data.toList.drop 0 = dktX6_setGate_0 := by decide +kernel
theorem dksX6_setGate_1 : cX6_setGate.data.toList.drop 22 = dktX6_setGate_1 := dk_seg dksX6_setGate_0 22 rfl rfl
theorem dX6_setGate_0 : decode cX6_setGate 0 = .ok (.iload_n 1, 1) := dk_27 (dk_at dksX6_setGate_0 0 rfl rfl)
theorem dX6_setGate_1 : decode cX6_setGate 1 = .ok (.iconst 0, 1) := dk_3 (dk_at dksX6_setGate_0 1 rfl rfl)
theorem dX6_setGate_2 : decode cX6_setGate 2 = .ok (.bipush 25, 2) := dk_16 25 (dk_at dksX6_setGate_0 2 rfl rfl)
theorem dX6_setGate_4 : decode cX6_setGate 4 = .ok (.invokestatic 68, 3) := dk_184 0 68 (dk_at dksX6_setGate_0 4 rfl rfl)
theorem dX6_setGate_7 : decode cX6_setGate 7 = .ok (.ifCond .ne 10, 3) := dk_154 0 10 (dk_at dksX6_setGate_0 7 rfl rfl)
theorem dX6_setGate_10 : decode cX6_setGate 10 = .ok (.aload_n 0, 1) := dk_42 (dk_at dksX6_setGate_0 10 rfl rfl)
theorem dX6_setGate_11 : decode cX6_setGate 11 = .ok (.ldc 26, 2) := dk_18 26 (dk_at dksX6_setGate_0 11 rfl rfl)
theorem dX6_setGate_13 : decode cX6_setGate 13 = .ok (.invokevirtual 74, 3) := dk_182 0 74 (dk_at dksX6_setGate_0 13 rfl rfl)
theorem dX6_setGate_16 : decode cX6_setGate 16 = .ok (.ireturn, 1) := dk_172 (dk_at dksX6_setGate_0 16 rfl rfl)
theorem dX6_setGate_17 : decode cX6_setGate 17 = .ok (.aload_n 0, 1) := dk_42 (dk_at dksX6_setGate_0 17 rfl rfl)
theorem dX6_setGate_18 : decode cX6_setGate 18 = .ok (.invokevirtual 78, 3) := dk_182 0 78 (dk_at dksX6_setGate_0 18 rfl rfl)
theorem dX6_setGate_21 : decode cX6_setGate 21 = .ok (.aload_n 0, 1) := dk_42 (dk_at dksX6_setGate_0 21 rfl rfl)
theorem dX6_setGate_22 : decode cX6_setGate 22 = .ok (.getfield 7, 3) := dk_180 0 7 (dk_at dksX6_setGate_1 0 rfl rfl)
theorem dX6_setGate_25 : decode cX6_setGate 25 = .ok (.bipush 7, 2) := dk_16 7 (dk_at dksX6_setGate_1 3 rfl rfl)
theorem dX6_setGate_27 : decode cX6_setGate 27 = .ok (.iaload, 1) := dk_46 (dk_at dksX6_setGate_1 5 rfl rfl)
theorem dX6_setGate_28 : decode cX6_setGate 28 = .ok (.istore_n 2, 1) := dk_61 (dk_at dksX6_setGate_1 6 rfl rfl)
theorem dX6_setGate_29 : decode cX6_setGate 29 = .ok (.aload_n 0, 1) := dk_42 (dk_at dksX6_setGate_1 7 rfl rfl)
theorem dX6_setGate_30 : decode cX6_setGate 30 = .ok (.getfield 7, 3) := dk_180 0 7 (dk_at dksX6_setGate_1 8 rfl rfl)
theorem dX6_setGate_33 : decode cX6_setGate 33 = .ok (.bipush 7, 2) := dk_16 7 (dk_at dksX6_setGate_1 11 rfl rfl)
theorem dX6_setGate_35 : decode cX6_setGate 35 = .ok (.iload_n 1, 1) := dk_27 (dk_at dksX6_setGate_1 13 rfl rfl)
theorem dX6_setGate_36 : decode cX6_setGate 36 = .ok (.iastore, 1) := dk_79 (dk_at dksX6_setGate_1 14 rfl rfl)
theorem dX6_setGate_37 : decode cX6_setGate 37 = .ok (.iload_n 2, 1) := dk_28 (dk_at dksX6_setGate_1 15 rfl rfl)
theorem dX6_setGate_38 : decode cX6_setGate 38 = .ok (.ireturn, 1) := dk_172 (dk_at dksX6_setGate_1 16 rfl rfl)
abbrev cX6_predict : ByteArray := prog_11_method_21_code
def yX6_predict : MethodName := ⟨RX6, "predict", "(I)I"⟩
def dkwX6_predict_2 : List UInt8 := [42, 182, 0, 93, 42, 2, 27, 182, 0, 96, 42, 180, 0, 7, 3, 46, 172]
abbrev dktX6_predict_2 : List UInt8 := dkwX6_predict_2 ++ []
def dkwX6_predict_1 : List UInt8 := [42, 180, 0, 7, 16, 6, 46, 182, 0, 88, 154, 0, 10, 42, 18, 92, 182, 0, 74, 172, 42, 182, 0, 78]
abbrev dktX6_predict_1 : List UInt8 := dkwX6_predict_1 ++ dktX6_predict_2
def dkwX6_predict_0 : List UInt8 := [27, 18, 72, 18, 73, 184, 0, 68, 154, 0, 10, 42, 18, 26, 182, 0, 74, 172, 42, 182, 0, 85, 42, 27]
abbrev dktX6_predict_0 : List UInt8 := dkwX6_predict_0 ++ dktX6_predict_1
theorem dksX6_predict_0 : cX6_predict.data.toList.drop 0 = dktX6_predict_0 := by decide +kernel
theorem dksX6_predict_1 : cX6_predict.data.toList.drop 24 = dktX6_predict_1 := dk_seg dksX6_predict_0 24 rfl rfl
theorem dksX6_predict_2 : cX6_predict.data.toList.drop 48 = dktX6_predict_2 := dk_seg dksX6_predict_1 24 rfl rfl
theorem dX6_predict_0 : decode cX6_predict 0 = .ok (.iload_n 1, 1) := dk_27 (dk_at dksX6_predict_0 0 rfl rfl)
theorem dX6_predict_1 : decode cX6_predict 1 = .ok (.ldc 72, 2) := dk_18 72 (dk_at dksX6_predict_0 1 rfl rfl)
theorem dX6_predict_3 : decode cX6_predict 3 = .ok (.ldc 73, 2) := dk_18 73 (dk_at dksX6_predict_0 3 rfl rfl)
theorem dX6_predict_5 : decode cX6_predict 5 = .ok (.invokestatic 68, 3) := dk_184 0 68 (dk_at dksX6_predict_0 5 rfl rfl)
theorem dX6_predict_8 : decode cX6_predict 8 = .ok (.ifCond .ne 10, 3) := dk_154 0 10 (dk_at dksX6_predict_0 8 rfl rfl)
theorem dX6_predict_11 : decode cX6_predict 11 = .ok (.aload_n 0, 1) := dk_42 (dk_at dksX6_predict_0 11 rfl rfl)
theorem dX6_predict_12 : decode cX6_predict 12 = .ok (.ldc 26, 2) := dk_18 26 (dk_at dksX6_predict_0 12 rfl rfl)
theorem dX6_predict_14 : decode cX6_predict 14 = .ok (.invokevirtual 74, 3) := dk_182 0 74 (dk_at dksX6_predict_0 14 rfl rfl)
theorem dX6_predict_17 : decode cX6_predict 17 = .ok (.ireturn, 1) := dk_172 (dk_at dksX6_predict_0 17 rfl rfl)
theorem dX6_predict_18 : decode cX6_predict 18 = .ok (.aload_n 0, 1) := dk_42 (dk_at dksX6_predict_0 18 rfl rfl)
theorem dX6_predict_19 : decode cX6_predict 19 = .ok (.invokevirtual 85, 3) := dk_182 0 85 (dk_at dksX6_predict_0 19 rfl rfl)
theorem dX6_predict_22 : decode cX6_predict 22 = .ok (.aload_n 0, 1) := dk_42 (dk_at dksX6_predict_0 22 rfl rfl)
theorem dX6_predict_23 : decode cX6_predict 23 = .ok (.iload_n 1, 1) := dk_27 (dk_at dksX6_predict_0 23 rfl rfl)
theorem dX6_predict_24 : decode cX6_predict 24 = .ok (.aload_n 0, 1) := dk_42 (dk_at dksX6_predict_1 0 rfl rfl)
theorem dX6_predict_25 : decode cX6_predict 25 = .ok (.getfield 7, 3) := dk_180 0 7 (dk_at dksX6_predict_1 1 rfl rfl)
theorem dX6_predict_28 : decode cX6_predict 28 = .ok (.bipush 6, 2) := dk_16 6 (dk_at dksX6_predict_1 4 rfl rfl)
theorem dX6_predict_30 : decode cX6_predict 30 = .ok (.iaload, 1) := dk_46 (dk_at dksX6_predict_1 6 rfl rfl)
theorem dX6_predict_31 : decode cX6_predict 31 = .ok (.invokevirtual 88, 3) := dk_182 0 88 (dk_at dksX6_predict_1 7 rfl rfl)
theorem dX6_predict_34 : decode cX6_predict 34 = .ok (.ifCond .ne 10, 3) := dk_154 0 10 (dk_at dksX6_predict_1 10 rfl rfl)
theorem dX6_predict_37 : decode cX6_predict 37 = .ok (.aload_n 0, 1) := dk_42 (dk_at dksX6_predict_1 13 rfl rfl)
theorem dX6_predict_38 : decode cX6_predict 38 = .ok (.ldc 92, 2) := dk_18 92 (dk_at dksX6_predict_1 14 rfl rfl)
theorem dX6_predict_40 : decode cX6_predict 40 = .ok (.invokevirtual 74, 3) := dk_182 0 74 (dk_at dksX6_predict_1 16 rfl rfl)
theorem dX6_predict_43 : decode cX6_predict 43 = .ok (.ireturn, 1) := dk_172 (dk_at dksX6_predict_1 19 rfl rfl)
theorem dX6_predict_44 : decode cX6_predict 44 = .ok (.aload_n 0, 1) := dk_42 (dk_at dksX6_predict_1 20 rfl rfl)
theorem dX6_predict_45 : decode cX6_predict 45 = .ok (.invokevirtual 78, 3) := dk_182 0 78 (dk_at dksX6_predict_1 21 rfl rfl)
theorem dX6_predict_48 : decode cX6_predict 48 = .ok (.aload_n 0, 1) := dk_42 (dk_at dksX6_predict_2 0 rfl rfl)
theorem dX6_predict_49 : decode cX6_predict 49 = .ok (.invokevirtual 93, 3) := dk_182 0 93 (dk_at dksX6_predict_2 1 rfl rfl)
theorem dX6_predict_52 : decode cX6_predict 52 = .ok (.aload_n 0, 1) := dk_42 (dk_at dksX6_predict_2 4 rfl rfl)
theorem dX6_predict_53 : decode cX6_predict 53 = .ok (.iconst (-1), 1) := dk_2 (dk_at dksX6_predict_2 5 rfl rfl)
theorem dX6_predict_54 : decode cX6_predict 54 = .ok (.iload_n 1, 1) := dk_27 (dk_at dksX6_predict_2 6 rfl rfl)
theorem dX6_predict_55 : decode cX6_predict 55 = .ok (.invokevirtual 96, 3) := dk_182 0 96 (dk_at dksX6_predict_2 7 rfl rfl)
theorem dX6_predict_58 : decode cX6_predict 58 = .ok (.aload_n 0, 1) := dk_42 (dk_at dksX6_predict_2 10 rfl rfl)
theorem dX6_predict_59 : decode cX6_predict 59 = .ok (.getfield 7, 3) := dk_180 0 7 (dk_at dksX6_predict_2 11 rfl rfl)
theorem dX6_predict_62 : decode cX6_predict 62 = .ok (.iconst 0, 1) := dk_3 (dk_at dksX6_predict_2 14 rfl rfl)
theorem dX6_predict_63 : decode cX6_predict 63 = .ok (.iaload, 1) := dk_46 (dk_at dksX6_predict_2 15 rfl rfl)
theorem dX6_predict_64 : decode cX6_predict 64 = .ok (.ireturn, 1) := dk_172 (dk_at dksX6_predict_2 16 rfl rfl)
abbrev cX6_take : ByteArray := prog_11_method_11_code
def yX6_take : MethodName := ⟨RX6, "take", "()V"⟩
def dkwX6_take_1 : List UInt8 := [167, 255, 235, 177]
abbrev dktX6_take_1 : List UInt8 := dkwX6_take_1 ++ []
def dkwX6_take_0 : List UInt8 := [3, 60, 27, 8, 162, 0, 22, 42, 180, 0, 19, 27, 42, 180, 0, 7, 27, 46, 133, 80, 132, 1, 1]
abbrev dktX6_take_0 : List UInt8 := dkwX6_take_0 ++ dktX6_take_1
theorem dksX6_take_0 : cX6_take.data.toList.drop 0 = dktX6_take_0 := by decide +kernel
theorem dksX6_take_1 : cX6_take.data.toList.drop 23 = dktX6_take_1 := dk_seg dksX6_take_0 23 rfl rfl
theorem dX6_take_0 : decode cX6_take 0 = .ok (.iconst 0, 1) := dk_3 (dk_at dksX6_take_0 0 rfl rfl)
theorem dX6_take_1 : decode cX6_take 1 = .ok (.istore_n 1, 1) := dk_60 (dk_at dksX6_take_0 1 rfl rfl)
theorem dX6_take_2 : decode cX6_take 2 = .ok (.iload_n 1, 1) := dk_27 (dk_at dksX6_take_0 2 rfl rfl)
theorem dX6_take_3 : decode cX6_take 3 = .ok (.iconst 5, 1) := dk_8 (dk_at dksX6_take_0 3 rfl rfl)
theorem dX6_take_4 : decode cX6_take 4 = .ok (.if_icmp .ge 22, 3) := dk_162 0 22 (dk_at dksX6_take_0 4 rfl rfl)
theorem dX6_take_7 : decode cX6_take 7 = .ok (.aload_n 0, 1) := dk_42 (dk_at dksX6_take_0 7 rfl rfl)
theorem dX6_take_8 : decode cX6_take 8 = .ok (.getfield 19, 3) := dk_180 0 19 (dk_at dksX6_take_0 8 rfl rfl)
theorem dX6_take_11 : decode cX6_take 11 = .ok (.iload_n 1, 1) := dk_27 (dk_at dksX6_take_0 11 rfl rfl)
theorem dX6_take_12 : decode cX6_take 12 = .ok (.aload_n 0, 1) := dk_42 (dk_at dksX6_take_0 12 rfl rfl)
theorem dX6_take_13 : decode cX6_take 13 = .ok (.getfield 7, 3) := dk_180 0 7 (dk_at dksX6_take_0 13 rfl rfl)
theorem dX6_take_16 : decode cX6_take 16 = .ok (.iload_n 1, 1) := dk_27 (dk_at dksX6_take_0 16 rfl rfl)
theorem dX6_take_17 : decode cX6_take 17 = .ok (.iaload, 1) := dk_46 (dk_at dksX6_take_0 17 rfl rfl)
theorem dX6_take_18 : decode cX6_take 18 = .ok (.i2l, 1) := dk_133 (dk_at dksX6_take_0 18 rfl rfl)
theorem dX6_take_19 : decode cX6_take 19 = .ok (.lastore, 1) := dk_80 (dk_at dksX6_take_0 19 rfl rfl)
theorem dX6_take_20 : decode cX6_take 20 = .ok (.iinc 1 1, 3) := dk_132 1 1 (dk_at dksX6_take_0 20 rfl rfl)
theorem dX6_take_23 : decode cX6_take 23 = .ok (.goto (-21), 3) := dk_167 255 235 (dk_at dksX6_take_1 0 rfl rfl)
theorem dX6_take_26 : decode cX6_take 26 = .ok (.return_, 1) := dk_177 (dk_at dksX6_take_1 3 rfl rfl)
abbrev cX6_predicts : ByteArray := prog_11_method_13_code
def yX6_predicts : MethodName := ⟨RX6, "predicts", "(II)Z"⟩
def dkwX6_predicts_6 : List UInt8 := [180, 0, 19, 6, 22, 7, 80, 42, 180, 0, 19, 7, 22, 9, 80, 4, 172]
abbrev dktX6_predicts_6 : List UInt8 := dkwX6_predicts_6 ++ []
def dkwX6_predicts_5 : List UInt8 := [184, 0, 46, 154, 0, 5, 3, 172, 42, 180, 0, 19, 3, 33, 80, 42, 180, 0, 19, 5, 22, 5, 80, 42]
abbrev dktX6_predicts_5 : List UInt8 := dkwX6_predicts_5 ++ dktX6_predicts_6
def dkwX6_predicts_4 : List UInt8 := [184, 0, 46, 153, 0, 27, 22, 5, 184, 0, 46, 153, 0, 19, 22, 7, 184, 0, 46, 153, 0, 11, 22, 9]
abbrev dktX6_predicts_4 : List UInt8 := dkwX6_predicts_4 ++ dktX6_predicts_5
def dkwX6_predicts_3 : List UInt8 := [47, 28, 133, 97, 55, 9, 22, 5, 9, 148, 156, 0, 7, 9, 167, 0, 5, 22, 5, 55, 5, 33]
abbrev dktX6_predicts_3 : List UInt8 := dkwX6_predicts_3 ++ dktX6_predicts_4
def dkwX6_predicts_2 : List UInt8 := [133, 97, 55, 5, 42, 180, 0, 19, 6, 47, 42, 180, 0, 19, 7, 47, 97, 55, 7, 42, 180, 0, 19, 7]
abbrev dktX6_predicts_2 : List UInt8 := dkwX6_predicts_2 ++ dktX6_predicts_3
def dkwX6_predicts_1 : List UInt8 := [20, 0, 40, 42, 180, 0, 19, 6, 47, 105, 97, 42, 180, 0, 19, 7, 47, 97, 42, 180, 0, 7, 8, 46]
abbrev dktX6_predicts_1 : List UInt8 := dkwX6_predicts_1 ++ dktX6_predicts_2
def dkwX6_predicts_0 : List UInt8 := [42, 180, 0, 19, 3, 47, 42, 180, 0, 19, 4, 47, 97, 27, 133, 97, 66, 42, 180, 0, 19, 5, 47]
abbrev dktX6_predicts_0 : List UInt8 := dkwX6_predicts_0 ++ dktX6_predicts_1
theorem dksX6_predicts_0 : cX6_predicts.data.toList.drop 0 = dktX6_predicts_0 := by decide +kernel
theorem dksX6_predicts_1 : cX6_predicts.data.toList.drop 23 = dktX6_predicts_1 := dk_seg dksX6_predicts_0 23 rfl rfl
theorem dksX6_predicts_2 : cX6_predicts.data.toList.drop 47 = dktX6_predicts_2 := dk_seg dksX6_predicts_1 24 rfl rfl
theorem dksX6_predicts_3 : cX6_predicts.data.toList.drop 71 = dktX6_predicts_3 := dk_seg dksX6_predicts_2 24 rfl rfl
theorem dksX6_predicts_4 : cX6_predicts.data.toList.drop 93 = dktX6_predicts_4 := dk_seg dksX6_predicts_3 22 rfl rfl
theorem dksX6_predicts_5 : cX6_predicts.data.toList.drop 117 = dktX6_predicts_5 := dk_seg dksX6_predicts_4 24 rfl rfl
theorem dksX6_predicts_6 : cX6_predicts.data.toList.drop 141 = dktX6_predicts_6 := dk_seg dksX6_predicts_5 24 rfl rfl
theorem dX6_predicts_0 : decode cX6_predicts 0 = .ok (.aload_n 0, 1) := dk_42 (dk_at dksX6_predicts_0 0 rfl rfl)
theorem dX6_predicts_1 : decode cX6_predicts 1 = .ok (.getfield 19, 3) := dk_180 0 19 (dk_at dksX6_predicts_0 1 rfl rfl)
theorem dX6_predicts_4 : decode cX6_predicts 4 = .ok (.iconst 0, 1) := dk_3 (dk_at dksX6_predicts_0 4 rfl rfl)
theorem dX6_predicts_5 : decode cX6_predicts 5 = .ok (.laload, 1) := dk_47 (dk_at dksX6_predicts_0 5 rfl rfl)
theorem dX6_predicts_6 : decode cX6_predicts 6 = .ok (.aload_n 0, 1) := dk_42 (dk_at dksX6_predicts_0 6 rfl rfl)
theorem dX6_predicts_7 : decode cX6_predicts 7 = .ok (.getfield 19, 3) := dk_180 0 19 (dk_at dksX6_predicts_0 7 rfl rfl)
theorem dX6_predicts_10 : decode cX6_predicts 10 = .ok (.iconst 1, 1) := dk_4 (dk_at dksX6_predicts_0 10 rfl rfl)
theorem dX6_predicts_11 : decode cX6_predicts 11 = .ok (.laload, 1) := dk_47 (dk_at dksX6_predicts_0 11 rfl rfl)
theorem dX6_predicts_12 : decode cX6_predicts 12 = .ok (.ladd, 1) := dk_97 (dk_at dksX6_predicts_0 12 rfl rfl)
theorem dX6_predicts_13 : decode cX6_predicts 13 = .ok (.iload_n 1, 1) := dk_27 (dk_at dksX6_predicts_0 13 rfl rfl)
theorem dX6_predicts_14 : decode cX6_predicts 14 = .ok (.i2l, 1) := dk_133 (dk_at dksX6_predicts_0 14 rfl rfl)
theorem dX6_predicts_15 : decode cX6_predicts 15 = .ok (.ladd, 1) := dk_97 (dk_at dksX6_predicts_0 15 rfl rfl)
theorem dX6_predicts_16 : decode cX6_predicts 16 = .ok (.lstore_n 3, 1) := dk_66 (dk_at dksX6_predicts_0 16 rfl rfl)
theorem dX6_predicts_17 : decode cX6_predicts 17 = .ok (.aload_n 0, 1) := dk_42 (dk_at dksX6_predicts_0 17 rfl rfl)
theorem dX6_predicts_18 : decode cX6_predicts 18 = .ok (.getfield 19, 3) := dk_180 0 19 (dk_at dksX6_predicts_0 18 rfl rfl)
theorem dX6_predicts_21 : decode cX6_predicts 21 = .ok (.iconst 2, 1) := dk_5 (dk_at dksX6_predicts_0 21 rfl rfl)
theorem dX6_predicts_22 : decode cX6_predicts 22 = .ok (.laload, 1) := dk_47 (dk_at dksX6_predicts_0 22 rfl rfl)
theorem dX6_predicts_23 : decode cX6_predicts 23 = .ok (.ldc2_w 40, 3) := dk_20 0 40 (dk_at dksX6_predicts_1 0 rfl rfl)
theorem dX6_predicts_26 : decode cX6_predicts 26 = .ok (.aload_n 0, 1) := dk_42 (dk_at dksX6_predicts_1 3 rfl rfl)
theorem dX6_predicts_27 : decode cX6_predicts 27 = .ok (.getfield 19, 3) := dk_180 0 19 (dk_at dksX6_predicts_1 4 rfl rfl)
theorem dX6_predicts_30 : decode cX6_predicts 30 = .ok (.iconst 3, 1) := dk_6 (dk_at dksX6_predicts_1 7 rfl rfl)
theorem dX6_predicts_31 : decode cX6_predicts 31 = .ok (.laload, 1) := dk_47 (dk_at dksX6_predicts_1 8 rfl rfl)
theorem dX6_predicts_32 : decode cX6_predicts 32 = .ok (.lmul, 1) := dk_105 (dk_at dksX6_predicts_1 9 rfl rfl)
theorem dX6_predicts_33 : decode cX6_predicts 33 = .ok (.ladd, 1) := dk_97 (dk_at dksX6_predicts_1 10 rfl rfl)
theorem dX6_predicts_34 : decode cX6_predicts 34 = .ok (.aload_n 0, 1) := dk_42 (dk_at dksX6_predicts_1 11 rfl rfl)
theorem dX6_predicts_35 : decode cX6_predicts 35 = .ok (.getfield 19, 3) := dk_180 0 19 (dk_at dksX6_predicts_1 12 rfl rfl)
theorem dX6_predicts_38 : decode cX6_predicts 38 = .ok (.iconst 4, 1) := dk_7 (dk_at dksX6_predicts_1 15 rfl rfl)
theorem dX6_predicts_39 : decode cX6_predicts 39 = .ok (.laload, 1) := dk_47 (dk_at dksX6_predicts_1 16 rfl rfl)
theorem dX6_predicts_40 : decode cX6_predicts 40 = .ok (.ladd, 1) := dk_97 (dk_at dksX6_predicts_1 17 rfl rfl)
theorem dX6_predicts_41 : decode cX6_predicts 41 = .ok (.aload_n 0, 1) := dk_42 (dk_at dksX6_predicts_1 18 rfl rfl)
theorem dX6_predicts_42 : decode cX6_predicts 42 = .ok (.getfield 7, 3) := dk_180 0 7 (dk_at dksX6_predicts_1 19 rfl rfl)
theorem dX6_predicts_45 : decode cX6_predicts 45 = .ok (.iconst 5, 1) := dk_8 (dk_at dksX6_predicts_1 22 rfl rfl)
theorem dX6_predicts_46 : decode cX6_predicts 46 = .ok (.iaload, 1) := dk_46 (dk_at dksX6_predicts_1 23 rfl rfl)
theorem dX6_predicts_47 : decode cX6_predicts 47 = .ok (.i2l, 1) := dk_133 (dk_at dksX6_predicts_2 0 rfl rfl)
theorem dX6_predicts_48 : decode cX6_predicts 48 = .ok (.ladd, 1) := dk_97 (dk_at dksX6_predicts_2 1 rfl rfl)
theorem dX6_predicts_49 : decode cX6_predicts 49 = .ok (.lstore 5, 2) := dk_55 5 (dk_at dksX6_predicts_2 2 rfl rfl)
theorem dX6_predicts_51 : decode cX6_predicts 51 = .ok (.aload_n 0, 1) := dk_42 (dk_at dksX6_predicts_2 4 rfl rfl)
theorem dX6_predicts_52 : decode cX6_predicts 52 = .ok (.getfield 19, 3) := dk_180 0 19 (dk_at dksX6_predicts_2 5 rfl rfl)
theorem dX6_predicts_55 : decode cX6_predicts 55 = .ok (.iconst 3, 1) := dk_6 (dk_at dksX6_predicts_2 8 rfl rfl)
theorem dX6_predicts_56 : decode cX6_predicts 56 = .ok (.laload, 1) := dk_47 (dk_at dksX6_predicts_2 9 rfl rfl)
theorem dX6_predicts_57 : decode cX6_predicts 57 = .ok (.aload_n 0, 1) := dk_42 (dk_at dksX6_predicts_2 10 rfl rfl)
theorem dX6_predicts_58 : decode cX6_predicts 58 = .ok (.getfield 19, 3) := dk_180 0 19 (dk_at dksX6_predicts_2 11 rfl rfl)
theorem dX6_predicts_61 : decode cX6_predicts 61 = .ok (.iconst 4, 1) := dk_7 (dk_at dksX6_predicts_2 14 rfl rfl)
theorem dX6_predicts_62 : decode cX6_predicts 62 = .ok (.laload, 1) := dk_47 (dk_at dksX6_predicts_2 15 rfl rfl)
theorem dX6_predicts_63 : decode cX6_predicts 63 = .ok (.ladd, 1) := dk_97 (dk_at dksX6_predicts_2 16 rfl rfl)
theorem dX6_predicts_64 : decode cX6_predicts 64 = .ok (.lstore 7, 2) := dk_55 7 (dk_at dksX6_predicts_2 17 rfl rfl)
theorem dX6_predicts_66 : decode cX6_predicts 66 = .ok (.aload_n 0, 1) := dk_42 (dk_at dksX6_predicts_2 19 rfl rfl)
theorem dX6_predicts_67 : decode cX6_predicts 67 = .ok (.getfield 19, 3) := dk_180 0 19 (dk_at dksX6_predicts_2 20 rfl rfl)
theorem dX6_predicts_70 : decode cX6_predicts 70 = .ok (.iconst 4, 1) := dk_7 (dk_at dksX6_predicts_2 23 rfl rfl)
theorem dX6_predicts_71 : decode cX6_predicts 71 = .ok (.laload, 1) := dk_47 (dk_at dksX6_predicts_3 0 rfl rfl)
theorem dX6_predicts_72 : decode cX6_predicts 72 = .ok (.iload_n 2, 1) := dk_28 (dk_at dksX6_predicts_3 1 rfl rfl)
theorem dX6_predicts_73 : decode cX6_predicts 73 = .ok (.i2l, 1) := dk_133 (dk_at dksX6_predicts_3 2 rfl rfl)
theorem dX6_predicts_74 : decode cX6_predicts 74 = .ok (.ladd, 1) := dk_97 (dk_at dksX6_predicts_3 3 rfl rfl)
theorem dX6_predicts_75 : decode cX6_predicts 75 = .ok (.lstore 9, 2) := dk_55 9 (dk_at dksX6_predicts_3 4 rfl rfl)
theorem dX6_predicts_77 : decode cX6_predicts 77 = .ok (.lload 5, 2) := dk_22 5 (dk_at dksX6_predicts_3 6 rfl rfl)
theorem dX6_predicts_79 : decode cX6_predicts 79 = .ok (.lconst 0, 1) := dk_9 (dk_at dksX6_predicts_3 8 rfl rfl)
theorem dX6_predicts_80 : decode cX6_predicts 80 = .ok (.lcmp, 1) := dk_148 (dk_at dksX6_predicts_3 9 rfl rfl)
theorem dX6_predicts_81 : decode cX6_predicts 81 = .ok (.ifCond .ge 7, 3) := dk_156 0 7 (dk_at dksX6_predicts_3 10 rfl rfl)
theorem dX6_predicts_84 : decode cX6_predicts 84 = .ok (.lconst 0, 1) := dk_9 (dk_at dksX6_predicts_3 13 rfl rfl)
theorem dX6_predicts_85 : decode cX6_predicts 85 = .ok (.goto 5, 3) := dk_167 0 5 (dk_at dksX6_predicts_3 14 rfl rfl)
theorem dX6_predicts_88 : decode cX6_predicts 88 = .ok (.lload 5, 2) := dk_22 5 (dk_at dksX6_predicts_3 17 rfl rfl)
theorem dX6_predicts_90 : decode cX6_predicts 90 = .ok (.lstore 5, 2) := dk_55 5 (dk_at dksX6_predicts_3 19 rfl rfl)
theorem dX6_predicts_92 : decode cX6_predicts 92 = .ok (.lload_n 3, 1) := dk_33 (dk_at dksX6_predicts_3 21 rfl rfl)
theorem dX6_predicts_93 : decode cX6_predicts 93 = .ok (.invokestatic 46, 3) := dk_184 0 46 (dk_at dksX6_predicts_4 0 rfl rfl)
theorem dX6_predicts_96 : decode cX6_predicts 96 = .ok (.ifCond .eq 27, 3) := dk_153 0 27 (dk_at dksX6_predicts_4 3 rfl rfl)
theorem dX6_predicts_99 : decode cX6_predicts 99 = .ok (.lload 5, 2) := dk_22 5 (dk_at dksX6_predicts_4 6 rfl rfl)
theorem dX6_predicts_101 : decode cX6_predicts 101 = .ok (.invokestatic 46, 3) := dk_184 0 46 (dk_at dksX6_predicts_4 8 rfl rfl)
theorem dX6_predicts_104 : decode cX6_predicts 104 = .ok (.ifCond .eq 19, 3) := dk_153 0 19 (dk_at dksX6_predicts_4 11 rfl rfl)
theorem dX6_predicts_107 : decode cX6_predicts 107 = .ok (.lload 7, 2) := dk_22 7 (dk_at dksX6_predicts_4 14 rfl rfl)
theorem dX6_predicts_109 : decode cX6_predicts 109 = .ok (.invokestatic 46, 3) := dk_184 0 46 (dk_at dksX6_predicts_4 16 rfl rfl)
theorem dX6_predicts_112 : decode cX6_predicts 112 = .ok (.ifCond .eq 11, 3) := dk_153 0 11 (dk_at dksX6_predicts_4 19 rfl rfl)
theorem dX6_predicts_115 : decode cX6_predicts 115 = .ok (.lload 9, 2) := dk_22 9 (dk_at dksX6_predicts_4 22 rfl rfl)
theorem dX6_predicts_117 : decode cX6_predicts 117 = .ok (.invokestatic 46, 3) := dk_184 0 46 (dk_at dksX6_predicts_5 0 rfl rfl)
theorem dX6_predicts_120 : decode cX6_predicts 120 = .ok (.ifCond .ne 5, 3) := dk_154 0 5 (dk_at dksX6_predicts_5 3 rfl rfl)
theorem dX6_predicts_123 : decode cX6_predicts 123 = .ok (.iconst 0, 1) := dk_3 (dk_at dksX6_predicts_5 6 rfl rfl)
theorem dX6_predicts_124 : decode cX6_predicts 124 = .ok (.ireturn, 1) := dk_172 (dk_at dksX6_predicts_5 7 rfl rfl)
theorem dX6_predicts_125 : decode cX6_predicts 125 = .ok (.aload_n 0, 1) := dk_42 (dk_at dksX6_predicts_5 8 rfl rfl)
theorem dX6_predicts_126 : decode cX6_predicts 126 = .ok (.getfield 19, 3) := dk_180 0 19 (dk_at dksX6_predicts_5 9 rfl rfl)
theorem dX6_predicts_129 : decode cX6_predicts 129 = .ok (.iconst 0, 1) := dk_3 (dk_at dksX6_predicts_5 12 rfl rfl)
theorem dX6_predicts_130 : decode cX6_predicts 130 = .ok (.lload_n 3, 1) := dk_33 (dk_at dksX6_predicts_5 13 rfl rfl)
theorem dX6_predicts_131 : decode cX6_predicts 131 = .ok (.lastore, 1) := dk_80 (dk_at dksX6_predicts_5 14 rfl rfl)
theorem dX6_predicts_132 : decode cX6_predicts 132 = .ok (.aload_n 0, 1) := dk_42 (dk_at dksX6_predicts_5 15 rfl rfl)
theorem dX6_predicts_133 : decode cX6_predicts 133 = .ok (.getfield 19, 3) := dk_180 0 19 (dk_at dksX6_predicts_5 16 rfl rfl)
theorem dX6_predicts_136 : decode cX6_predicts 136 = .ok (.iconst 2, 1) := dk_5 (dk_at dksX6_predicts_5 19 rfl rfl)
theorem dX6_predicts_137 : decode cX6_predicts 137 = .ok (.lload 5, 2) := dk_22 5 (dk_at dksX6_predicts_5 20 rfl rfl)
theorem dX6_predicts_139 : decode cX6_predicts 139 = .ok (.lastore, 1) := dk_80 (dk_at dksX6_predicts_5 22 rfl rfl)
theorem dX6_predicts_140 : decode cX6_predicts 140 = .ok (.aload_n 0, 1) := dk_42 (dk_at dksX6_predicts_5 23 rfl rfl)
theorem dX6_predicts_141 : decode cX6_predicts 141 = .ok (.getfield 19, 3) := dk_180 0 19 (dk_at dksX6_predicts_6 0 rfl rfl)
theorem dX6_predicts_144 : decode cX6_predicts 144 = .ok (.iconst 3, 1) := dk_6 (dk_at dksX6_predicts_6 3 rfl rfl)
theorem dX6_predicts_145 : decode cX6_predicts 145 = .ok (.lload 7, 2) := dk_22 7 (dk_at dksX6_predicts_6 4 rfl rfl)
theorem dX6_predicts_147 : decode cX6_predicts 147 = .ok (.lastore, 1) := dk_80 (dk_at dksX6_predicts_6 6 rfl rfl)
theorem dX6_predicts_148 : decode cX6_predicts 148 = .ok (.aload_n 0, 1) := dk_42 (dk_at dksX6_predicts_6 7 rfl rfl)
theorem dX6_predicts_149 : decode cX6_predicts 149 = .ok (.getfield 19, 3) := dk_180 0 19 (dk_at dksX6_predicts_6 8 rfl rfl)
theorem dX6_predicts_152 : decode cX6_predicts 152 = .ok (.iconst 4, 1) := dk_7 (dk_at dksX6_predicts_6 11 rfl rfl)
theorem dX6_predicts_153 : decode cX6_predicts 153 = .ok (.lload 9, 2) := dk_22 9 (dk_at dksX6_predicts_6 12 rfl rfl)
theorem dX6_predicts_155 : decode cX6_predicts 155 = .ok (.lastore, 1) := dk_80 (dk_at dksX6_predicts_6 14 rfl rfl)
theorem dX6_predicts_156 : decode cX6_predicts 156 = .ok (.iconst 1, 1) := dk_4 (dk_at dksX6_predicts_6 15 rfl rfl)
theorem dX6_predicts_157 : decode cX6_predicts 157 = .ok (.ireturn, 1) := dk_172 (dk_at dksX6_predicts_6 16 rfl rfl)
abbrev cX6_isIn : ByteArray := prog_11_method_10_code
def yX6_isIn : MethodName := ⟨RX6, "isIn", "(J)Z"⟩
def dkwX6_isIn_0 : List UInt8 := [30, 20, 0, 42, 148, 155, 0, 15, 30, 20, 0, 44, 148, 157, 0, 7, 4, 167, 0, 4, 3, 172]
abbrev dktX6_isIn_0 : List UInt8 := dkwX6_isIn_0 ++ []
theorem dksX6_isIn_0 : cX6_isIn.data.toList.drop 0 = dktX6_isIn_0 := by decide +kernel
theorem dX6_isIn_0 : decode cX6_isIn 0 = .ok (.lload_n 0, 1) := dk_30 (dk_at dksX6_isIn_0 0 rfl rfl)
theorem dX6_isIn_1 : decode cX6_isIn 1 = .ok (.ldc2_w 42, 3) := dk_20 0 42 (dk_at dksX6_isIn_0 1 rfl rfl)
theorem dX6_isIn_4 : decode cX6_isIn 4 = .ok (.lcmp, 1) := dk_148 (dk_at dksX6_isIn_0 4 rfl rfl)
theorem dX6_isIn_5 : decode cX6_isIn 5 = .ok (.ifCond .lt 15, 3) := dk_155 0 15 (dk_at dksX6_isIn_0 5 rfl rfl)
theorem dX6_isIn_8 : decode cX6_isIn 8 = .ok (.lload_n 0, 1) := dk_30 (dk_at dksX6_isIn_0 8 rfl rfl)
theorem dX6_isIn_9 : decode cX6_isIn 9 = .ok (.ldc2_w 44, 3) := dk_20 0 44 (dk_at dksX6_isIn_0 9 rfl rfl)
theorem dX6_isIn_12 : decode cX6_isIn 12 = .ok (.lcmp, 1) := dk_148 (dk_at dksX6_isIn_0 12 rfl rfl)
theorem dX6_isIn_13 : decode cX6_isIn 13 = .ok (.ifCond .gt 7, 3) := dk_157 0 7 (dk_at dksX6_isIn_0 13 rfl rfl)
theorem dX6_isIn_16 : decode cX6_isIn 16 = .ok (.iconst 1, 1) := dk_4 (dk_at dksX6_isIn_0 16 rfl rfl)
theorem dX6_isIn_17 : decode cX6_isIn 17 = .ok (.goto 4, 3) := dk_167 0 4 (dk_at dksX6_isIn_0 17 rfl rfl)
theorem dX6_isIn_20 : decode cX6_isIn 20 = .ok (.iconst 0, 1) := dk_3 (dk_at dksX6_isIn_0 20 rfl rfl)
theorem dX6_isIn_21 : decode cX6_isIn 21 = .ok (.ireturn, 1) := dk_172 (dk_at dksX6_isIn_0 21 rfl rfl)
abbrev cX6_put : ByteArray := prog_11_method_12_code
def yX6_put : MethodName := ⟨RX6, "put", "()V"⟩
def dkwX6_put_1 : List UInt8 := [167, 255, 235, 177]
abbrev dktX6_put_1 : List UInt8 := dkwX6_put_1 ++ []
def dkwX6_put_0 : List UInt8 := [3, 60, 27, 8, 162, 0, 22, 42, 180, 0, 7, 27, 42, 180, 0, 19, 27, 47, 136, 79, 132, 1, 1]
abbrev dktX6_put_0 : List UInt8 := dkwX6_put_0 ++ dktX6_put_1
theorem dksX6_put_0 : cX6_put.data.toList.drop 0 = dktX6_put_0 := by decide +kernel
theorem dksX6_put_1 : cX6_put.data.toList.drop 23 = dktX6_put_1 := dk_seg dksX6_put_0 23 rfl rfl
theorem dX6_put_0 : decode cX6_put 0 = .ok (.iconst 0, 1) := dk_3 (dk_at dksX6_put_0 0 rfl rfl)
theorem dX6_put_1 : decode cX6_put 1 = .ok (.istore_n 1, 1) := dk_60 (dk_at dksX6_put_0 1 rfl rfl)
theorem dX6_put_2 : decode cX6_put 2 = .ok (.iload_n 1, 1) := dk_27 (dk_at dksX6_put_0 2 rfl rfl)
theorem dX6_put_3 : decode cX6_put 3 = .ok (.iconst 5, 1) := dk_8 (dk_at dksX6_put_0 3 rfl rfl)
theorem dX6_put_4 : decode cX6_put 4 = .ok (.if_icmp .ge 22, 3) := dk_162 0 22 (dk_at dksX6_put_0 4 rfl rfl)
theorem dX6_put_7 : decode cX6_put 7 = .ok (.aload_n 0, 1) := dk_42 (dk_at dksX6_put_0 7 rfl rfl)
theorem dX6_put_8 : decode cX6_put 8 = .ok (.getfield 7, 3) := dk_180 0 7 (dk_at dksX6_put_0 8 rfl rfl)
theorem dX6_put_11 : decode cX6_put 11 = .ok (.iload_n 1, 1) := dk_27 (dk_at dksX6_put_0 11 rfl rfl)
theorem dX6_put_12 : decode cX6_put 12 = .ok (.aload_n 0, 1) := dk_42 (dk_at dksX6_put_0 12 rfl rfl)
theorem dX6_put_13 : decode cX6_put 13 = .ok (.getfield 19, 3) := dk_180 0 19 (dk_at dksX6_put_0 13 rfl rfl)
theorem dX6_put_16 : decode cX6_put 16 = .ok (.iload_n 1, 1) := dk_27 (dk_at dksX6_put_0 16 rfl rfl)
theorem dX6_put_17 : decode cX6_put 17 = .ok (.laload, 1) := dk_47 (dk_at dksX6_put_0 17 rfl rfl)
theorem dX6_put_18 : decode cX6_put 18 = .ok (.l2i, 1) := dk_136 (dk_at dksX6_put_0 18 rfl rfl)
theorem dX6_put_19 : decode cX6_put 19 = .ok (.iastore, 1) := dk_79 (dk_at dksX6_put_0 19 rfl rfl)
theorem dX6_put_20 : decode cX6_put 20 = .ok (.iinc 1 1, 3) := dk_132 1 1 (dk_at dksX6_put_0 20 rfl rfl)
theorem dX6_put_23 : decode cX6_put 23 = .ok (.goto (-21), 3) := dk_167 255 235 (dk_at dksX6_put_1 0 rfl rfl)
theorem dX6_put_26 : decode cX6_put 26 = .ok (.return_, 1) := dk_177 (dk_at dksX6_put_1 3 rfl rfl)
abbrev cX6_record : ByteArray := prog_11_method_20_code
def yX6_record : MethodName := ⟨RX6, "record", "(II)V"⟩
def dkwX6_record_4 : List UInt8 := [180, 0, 7, 16, 22, 92, 46, 4, 96, 79, 177]
abbrev dktX6_record_4 : List UInt8 := dkwX6_record_4 ++ []
def dkwX6_record_3 : List UInt8 := [79, 42, 180, 0, 7, 16, 23, 5, 42, 180, 0, 7, 16, 22, 46, 104, 96, 4, 96, 28, 79, 42]
abbrev dktX6_record_3 : List UInt8 := dkwX6_record_3 ++ dktX6_record_4
def dkwX6_record_2 : List UInt8 := [16, 22, 92, 46, 4, 100, 79, 42, 180, 0, 7, 16, 23, 5, 42, 180, 0, 7, 16, 22, 46, 104, 96, 27]
abbrev dktX6_record_2 : List UInt8 := dkwX6_record_2 ++ dktX6_record_3
def dkwX6_record_1 : List UInt8 := [180, 0, 7, 29, 42, 180, 0, 7, 29, 5, 96, 46, 79, 132, 3, 1, 167, 255, 231, 42, 180, 0, 7]
abbrev dktX6_record_1 : List UInt8 := dkwX6_record_1 ++ dktX6_record_2
def dkwX6_record_0 : List UInt8 := [42, 180, 0, 7, 16, 22, 46, 16, 24, 160, 0, 45, 16, 23, 62, 29, 5, 96, 16, 71, 162, 0, 23, 42]
abbrev dktX6_record_0 : List UInt8 := dkwX6_record_0 ++ dktX6_record_1
theorem dksX6_record_0 : cX6_record.data.toList.drop 0 = dktX6_record_0 := by decide +kernel
theorem dksX6_record_1 : cX6_record.data.toList.drop 24 = dktX6_record_1 := dk_seg dksX6_record_0 24 rfl rfl
theorem dksX6_record_2 : cX6_record.data.toList.drop 47 = dktX6_record_2 := dk_seg dksX6_record_1 23 rfl rfl
theorem dksX6_record_3 : cX6_record.data.toList.drop 71 = dktX6_record_3 := dk_seg dksX6_record_2 24 rfl rfl
theorem dksX6_record_4 : cX6_record.data.toList.drop 93 = dktX6_record_4 := dk_seg dksX6_record_3 22 rfl rfl
theorem dX6_record_0 : decode cX6_record 0 = .ok (.aload_n 0, 1) := dk_42 (dk_at dksX6_record_0 0 rfl rfl)
theorem dX6_record_1 : decode cX6_record 1 = .ok (.getfield 7, 3) := dk_180 0 7 (dk_at dksX6_record_0 1 rfl rfl)
theorem dX6_record_4 : decode cX6_record 4 = .ok (.bipush 22, 2) := dk_16 22 (dk_at dksX6_record_0 4 rfl rfl)
theorem dX6_record_6 : decode cX6_record 6 = .ok (.iaload, 1) := dk_46 (dk_at dksX6_record_0 6 rfl rfl)
theorem dX6_record_7 : decode cX6_record 7 = .ok (.bipush 24, 2) := dk_16 24 (dk_at dksX6_record_0 7 rfl rfl)
theorem dX6_record_9 : decode cX6_record 9 = .ok (.if_icmp .ne 45, 3) := dk_160 0 45 (dk_at dksX6_record_0 9 rfl rfl)
theorem dX6_record_12 : decode cX6_record 12 = .ok (.bipush 23, 2) := dk_16 23 (dk_at dksX6_record_0 12 rfl rfl)
theorem dX6_record_14 : decode cX6_record 14 = .ok (.istore_n 3, 1) := dk_62 (dk_at dksX6_record_0 14 rfl rfl)
theorem dX6_record_15 : decode cX6_record 15 = .ok (.iload_n 3, 1) := dk_29 (dk_at dksX6_record_0 15 rfl rfl)
theorem dX6_record_16 : decode cX6_record 16 = .ok (.iconst 2, 1) := dk_5 (dk_at dksX6_record_0 16 rfl rfl)
theorem dX6_record_17 : decode cX6_record 17 = .ok (.iadd, 1) := dk_96 (dk_at dksX6_record_0 17 rfl rfl)
theorem dX6_record_18 : decode cX6_record 18 = .ok (.bipush 71, 2) := dk_16 71 (dk_at dksX6_record_0 18 rfl rfl)
theorem dX6_record_20 : decode cX6_record 20 = .ok (.if_icmp .ge 23, 3) := dk_162 0 23 (dk_at dksX6_record_0 20 rfl rfl)
theorem dX6_record_23 : decode cX6_record 23 = .ok (.aload_n 0, 1) := dk_42 (dk_at dksX6_record_0 23 rfl rfl)
theorem dX6_record_24 : decode cX6_record 24 = .ok (.getfield 7, 3) := dk_180 0 7 (dk_at dksX6_record_1 0 rfl rfl)
theorem dX6_record_27 : decode cX6_record 27 = .ok (.iload_n 3, 1) := dk_29 (dk_at dksX6_record_1 3 rfl rfl)
theorem dX6_record_28 : decode cX6_record 28 = .ok (.aload_n 0, 1) := dk_42 (dk_at dksX6_record_1 4 rfl rfl)
theorem dX6_record_29 : decode cX6_record 29 = .ok (.getfield 7, 3) := dk_180 0 7 (dk_at dksX6_record_1 5 rfl rfl)
theorem dX6_record_32 : decode cX6_record 32 = .ok (.iload_n 3, 1) := dk_29 (dk_at dksX6_record_1 8 rfl rfl)
theorem dX6_record_33 : decode cX6_record 33 = .ok (.iconst 2, 1) := dk_5 (dk_at dksX6_record_1 9 rfl rfl)
theorem dX6_record_34 : decode cX6_record 34 = .ok (.iadd, 1) := dk_96 (dk_at dksX6_record_1 10 rfl rfl)
theorem dX6_record_35 : decode cX6_record 35 = .ok (.iaload, 1) := dk_46 (dk_at dksX6_record_1 11 rfl rfl)
theorem dX6_record_36 : decode cX6_record 36 = .ok (.iastore, 1) := dk_79 (dk_at dksX6_record_1 12 rfl rfl)
theorem dX6_record_37 : decode cX6_record 37 = .ok (.iinc 3 1, 3) := dk_132 3 1 (dk_at dksX6_record_1 13 rfl rfl)
theorem dX6_record_40 : decode cX6_record 40 = .ok (.goto (-25), 3) := dk_167 255 231 (dk_at dksX6_record_1 16 rfl rfl)
theorem dX6_record_43 : decode cX6_record 43 = .ok (.aload_n 0, 1) := dk_42 (dk_at dksX6_record_1 19 rfl rfl)
theorem dX6_record_44 : decode cX6_record 44 = .ok (.getfield 7, 3) := dk_180 0 7 (dk_at dksX6_record_1 20 rfl rfl)
theorem dX6_record_47 : decode cX6_record 47 = .ok (.bipush 22, 2) := dk_16 22 (dk_at dksX6_record_2 0 rfl rfl)
theorem dX6_record_49 : decode cX6_record 49 = .ok (.dup2, 1) := dk_92 (dk_at dksX6_record_2 2 rfl rfl)
theorem dX6_record_50 : decode cX6_record 50 = .ok (.iaload, 1) := dk_46 (dk_at dksX6_record_2 3 rfl rfl)
theorem dX6_record_51 : decode cX6_record 51 = .ok (.iconst 1, 1) := dk_4 (dk_at dksX6_record_2 4 rfl rfl)
theorem dX6_record_52 : decode cX6_record 52 = .ok (.isub, 1) := dk_100 (dk_at dksX6_record_2 5 rfl rfl)
theorem dX6_record_53 : decode cX6_record 53 = .ok (.iastore, 1) := dk_79 (dk_at dksX6_record_2 6 rfl rfl)
theorem dX6_record_54 : decode cX6_record 54 = .ok (.aload_n 0, 1) := dk_42 (dk_at dksX6_record_2 7 rfl rfl)
theorem dX6_record_55 : decode cX6_record 55 = .ok (.getfield 7, 3) := dk_180 0 7 (dk_at dksX6_record_2 8 rfl rfl)
theorem dX6_record_58 : decode cX6_record 58 = .ok (.bipush 23, 2) := dk_16 23 (dk_at dksX6_record_2 11 rfl rfl)
theorem dX6_record_60 : decode cX6_record 60 = .ok (.iconst 2, 1) := dk_5 (dk_at dksX6_record_2 13 rfl rfl)
theorem dX6_record_61 : decode cX6_record 61 = .ok (.aload_n 0, 1) := dk_42 (dk_at dksX6_record_2 14 rfl rfl)
theorem dX6_record_62 : decode cX6_record 62 = .ok (.getfield 7, 3) := dk_180 0 7 (dk_at dksX6_record_2 15 rfl rfl)
theorem dX6_record_65 : decode cX6_record 65 = .ok (.bipush 22, 2) := dk_16 22 (dk_at dksX6_record_2 18 rfl rfl)
theorem dX6_record_67 : decode cX6_record 67 = .ok (.iaload, 1) := dk_46 (dk_at dksX6_record_2 20 rfl rfl)
theorem dX6_record_68 : decode cX6_record 68 = .ok (.imul, 1) := dk_104 (dk_at dksX6_record_2 21 rfl rfl)
theorem dX6_record_69 : decode cX6_record 69 = .ok (.iadd, 1) := dk_96 (dk_at dksX6_record_2 22 rfl rfl)
theorem dX6_record_70 : decode cX6_record 70 = .ok (.iload_n 1, 1) := dk_27 (dk_at dksX6_record_2 23 rfl rfl)
theorem dX6_record_71 : decode cX6_record 71 = .ok (.iastore, 1) := dk_79 (dk_at dksX6_record_3 0 rfl rfl)
theorem dX6_record_72 : decode cX6_record 72 = .ok (.aload_n 0, 1) := dk_42 (dk_at dksX6_record_3 1 rfl rfl)
theorem dX6_record_73 : decode cX6_record 73 = .ok (.getfield 7, 3) := dk_180 0 7 (dk_at dksX6_record_3 2 rfl rfl)
theorem dX6_record_76 : decode cX6_record 76 = .ok (.bipush 23, 2) := dk_16 23 (dk_at dksX6_record_3 5 rfl rfl)
theorem dX6_record_78 : decode cX6_record 78 = .ok (.iconst 2, 1) := dk_5 (dk_at dksX6_record_3 7 rfl rfl)
theorem dX6_record_79 : decode cX6_record 79 = .ok (.aload_n 0, 1) := dk_42 (dk_at dksX6_record_3 8 rfl rfl)
theorem dX6_record_80 : decode cX6_record 80 = .ok (.getfield 7, 3) := dk_180 0 7 (dk_at dksX6_record_3 9 rfl rfl)
theorem dX6_record_83 : decode cX6_record 83 = .ok (.bipush 22, 2) := dk_16 22 (dk_at dksX6_record_3 12 rfl rfl)
theorem dX6_record_85 : decode cX6_record 85 = .ok (.iaload, 1) := dk_46 (dk_at dksX6_record_3 14 rfl rfl)
theorem dX6_record_86 : decode cX6_record 86 = .ok (.imul, 1) := dk_104 (dk_at dksX6_record_3 15 rfl rfl)
theorem dX6_record_87 : decode cX6_record 87 = .ok (.iadd, 1) := dk_96 (dk_at dksX6_record_3 16 rfl rfl)
theorem dX6_record_88 : decode cX6_record 88 = .ok (.iconst 1, 1) := dk_4 (dk_at dksX6_record_3 17 rfl rfl)
theorem dX6_record_89 : decode cX6_record 89 = .ok (.iadd, 1) := dk_96 (dk_at dksX6_record_3 18 rfl rfl)
theorem dX6_record_90 : decode cX6_record 90 = .ok (.iload_n 2, 1) := dk_28 (dk_at dksX6_record_3 19 rfl rfl)
theorem dX6_record_91 : decode cX6_record 91 = .ok (.iastore, 1) := dk_79 (dk_at dksX6_record_3 20 rfl rfl)
theorem dX6_record_92 : decode cX6_record 92 = .ok (.aload_n 0, 1) := dk_42 (dk_at dksX6_record_3 21 rfl rfl)
theorem dX6_record_93 : decode cX6_record 93 = .ok (.getfield 7, 3) := dk_180 0 7 (dk_at dksX6_record_4 0 rfl rfl)
theorem dX6_record_96 : decode cX6_record 96 = .ok (.bipush 22, 2) := dk_16 22 (dk_at dksX6_record_4 3 rfl rfl)
theorem dX6_record_98 : decode cX6_record 98 = .ok (.dup2, 1) := dk_92 (dk_at dksX6_record_4 5 rfl rfl)
theorem dX6_record_99 : decode cX6_record 99 = .ok (.iaload, 1) := dk_46 (dk_at dksX6_record_4 6 rfl rfl)
theorem dX6_record_100 : decode cX6_record 100 = .ok (.iconst 1, 1) := dk_4 (dk_at dksX6_record_4 7 rfl rfl)
theorem dX6_record_101 : decode cX6_record 101 = .ok (.iadd, 1) := dk_96 (dk_at dksX6_record_4 8 rfl rfl)
theorem dX6_record_102 : decode cX6_record 102 = .ok (.iastore, 1) := dk_79 (dk_at dksX6_record_4 9 rfl rfl)
theorem dX6_record_103 : decode cX6_record 103 = .ok (.return_, 1) := dk_177 (dk_at dksX6_record_4 10 rfl rfl)
abbrev cX6_correct : ByteArray := prog_11_method_22_code
def yX6_correct : MethodName := ⟨RX6, "correct", "(II)I"⟩
def dkwX6_correct_5 : List UInt8 := [46, 4, 96, 79, 167, 0, 14, 42, 180, 0, 7, 16, 20, 92, 46, 4, 96, 79, 29, 172]
abbrev dktX6_correct_5 : List UInt8 := dkwX6_correct_5 ++ []
def dkwX6_correct_4 : List UInt8 := [180, 0, 60, 136, 79, 42, 180, 0, 7, 16, 18, 42, 180, 0, 63, 136, 79, 42, 180, 0, 7, 16, 19, 92]
abbrev dktX6_correct_4 : List UInt8 := dkwX6_correct_4 ++ dktX6_correct_5
def dkwX6_correct_3 : List UInt8 := [180, 0, 7, 16, 16, 42, 180, 0, 50, 136, 79, 29, 4, 160, 0, 41, 42, 180, 0, 7, 16, 17, 42]
abbrev dktX6_correct_3 : List UInt8 := dkwX6_correct_3 ++ dktX6_correct_4
def dkwX6_correct_2 : List UInt8 := [42, 18, 92, 182, 0, 74, 172, 42, 182, 0, 78, 42, 182, 0, 93, 42, 27, 28, 182, 0, 96, 42]
abbrev dktX6_correct_2 : List UInt8 := dkwX6_correct_2 ++ dktX6_correct_3
def dkwX6_correct_1 : List UInt8 := [172, 42, 182, 0, 85, 42, 27, 28, 133, 42, 180, 0, 7, 16, 7, 46, 182, 0, 100, 62, 29, 156, 0, 10]
abbrev dktX6_correct_1 : List UInt8 := dkwX6_correct_1 ++ dktX6_correct_2
def dkwX6_correct_0 : List UInt8 := [27, 184, 0, 81, 153, 0, 14, 28, 18, 66, 18, 67, 184, 0, 68, 154, 0, 10, 42, 18, 26, 182, 0, 74]
abbrev dktX6_correct_0 : List UInt8 := dkwX6_correct_0 ++ dktX6_correct_1
theorem dksX6_correct_0 : cX6_correct.data.toList.drop 0 = dktX6_correct_0 := by decide +kernel
theorem dksX6_correct_1 : cX6_correct.data.toList.drop 24 = dktX6_correct_1 := dk_seg dksX6_correct_0 24 rfl rfl
theorem dksX6_correct_2 : cX6_correct.data.toList.drop 48 = dktX6_correct_2 := dk_seg dksX6_correct_1 24 rfl rfl
theorem dksX6_correct_3 : cX6_correct.data.toList.drop 70 = dktX6_correct_3 := dk_seg dksX6_correct_2 22 rfl rfl
theorem dksX6_correct_4 : cX6_correct.data.toList.drop 93 = dktX6_correct_4 := dk_seg dksX6_correct_3 23 rfl rfl
theorem dksX6_correct_5 : cX6_correct.data.toList.drop 117 = dktX6_correct_5 := dk_seg dksX6_correct_4 24 rfl rfl
theorem dX6_correct_0 : decode cX6_correct 0 = .ok (.iload_n 1, 1) := dk_27 (dk_at dksX6_correct_0 0 rfl rfl)
theorem dX6_correct_1 : decode cX6_correct 1 = .ok (.invokestatic 81, 3) := dk_184 0 81 (dk_at dksX6_correct_0 1 rfl rfl)
theorem dX6_correct_4 : decode cX6_correct 4 = .ok (.ifCond .eq 14, 3) := dk_153 0 14 (dk_at dksX6_correct_0 4 rfl rfl)
theorem dX6_correct_7 : decode cX6_correct 7 = .ok (.iload_n 2, 1) := dk_28 (dk_at dksX6_correct_0 7 rfl rfl)
theorem dX6_correct_8 : decode cX6_correct 8 = .ok (.ldc 66, 2) := dk_18 66 (dk_at dksX6_correct_0 8 rfl rfl)
theorem dX6_correct_10 : decode cX6_correct 10 = .ok (.ldc 67, 2) := dk_18 67 (dk_at dksX6_correct_0 10 rfl rfl)
theorem dX6_correct_12 : decode cX6_correct 12 = .ok (.invokestatic 68, 3) := dk_184 0 68 (dk_at dksX6_correct_0 12 rfl rfl)
theorem dX6_correct_15 : decode cX6_correct 15 = .ok (.ifCond .ne 10, 3) := dk_154 0 10 (dk_at dksX6_correct_0 15 rfl rfl)
theorem dX6_correct_18 : decode cX6_correct 18 = .ok (.aload_n 0, 1) := dk_42 (dk_at dksX6_correct_0 18 rfl rfl)
theorem dX6_correct_19 : decode cX6_correct 19 = .ok (.ldc 26, 2) := dk_18 26 (dk_at dksX6_correct_0 19 rfl rfl)
theorem dX6_correct_21 : decode cX6_correct 21 = .ok (.invokevirtual 74, 3) := dk_182 0 74 (dk_at dksX6_correct_0 21 rfl rfl)
theorem dX6_correct_24 : decode cX6_correct 24 = .ok (.ireturn, 1) := dk_172 (dk_at dksX6_correct_1 0 rfl rfl)
theorem dX6_correct_25 : decode cX6_correct 25 = .ok (.aload_n 0, 1) := dk_42 (dk_at dksX6_correct_1 1 rfl rfl)
theorem dX6_correct_26 : decode cX6_correct 26 = .ok (.invokevirtual 85, 3) := dk_182 0 85 (dk_at dksX6_correct_1 2 rfl rfl)
theorem dX6_correct_29 : decode cX6_correct 29 = .ok (.aload_n 0, 1) := dk_42 (dk_at dksX6_correct_1 5 rfl rfl)
theorem dX6_correct_30 : decode cX6_correct 30 = .ok (.iload_n 1, 1) := dk_27 (dk_at dksX6_correct_1 6 rfl rfl)
theorem dX6_correct_31 : decode cX6_correct 31 = .ok (.iload_n 2, 1) := dk_28 (dk_at dksX6_correct_1 7 rfl rfl)
theorem dX6_correct_32 : decode cX6_correct 32 = .ok (.i2l, 1) := dk_133 (dk_at dksX6_correct_1 8 rfl rfl)
theorem dX6_correct_33 : decode cX6_correct 33 = .ok (.aload_n 0, 1) := dk_42 (dk_at dksX6_correct_1 9 rfl rfl)
theorem dX6_correct_34 : decode cX6_correct 34 = .ok (.getfield 7, 3) := dk_180 0 7 (dk_at dksX6_correct_1 10 rfl rfl)
theorem dX6_correct_37 : decode cX6_correct 37 = .ok (.bipush 7, 2) := dk_16 7 (dk_at dksX6_correct_1 13 rfl rfl)
theorem dX6_correct_39 : decode cX6_correct 39 = .ok (.iaload, 1) := dk_46 (dk_at dksX6_correct_1 15 rfl rfl)
theorem dX6_correct_40 : decode cX6_correct 40 = .ok (.invokevirtual 100, 3) := dk_182 0 100 (dk_at dksX6_correct_1 16 rfl rfl)
theorem dX6_correct_43 : decode cX6_correct 43 = .ok (.istore_n 3, 1) := dk_62 (dk_at dksX6_correct_1 19 rfl rfl)
theorem dX6_correct_44 : decode cX6_correct 44 = .ok (.iload_n 3, 1) := dk_29 (dk_at dksX6_correct_1 20 rfl rfl)
theorem dX6_correct_45 : decode cX6_correct 45 = .ok (.ifCond .ge 10, 3) := dk_156 0 10 (dk_at dksX6_correct_1 21 rfl rfl)
theorem dX6_correct_48 : decode cX6_correct 48 = .ok (.aload_n 0, 1) := dk_42 (dk_at dksX6_correct_2 0 rfl rfl)
theorem dX6_correct_49 : decode cX6_correct 49 = .ok (.ldc 92, 2) := dk_18 92 (dk_at dksX6_correct_2 1 rfl rfl)
theorem dX6_correct_51 : decode cX6_correct 51 = .ok (.invokevirtual 74, 3) := dk_182 0 74 (dk_at dksX6_correct_2 3 rfl rfl)
theorem dX6_correct_54 : decode cX6_correct 54 = .ok (.ireturn, 1) := dk_172 (dk_at dksX6_correct_2 6 rfl rfl)
theorem dX6_correct_55 : decode cX6_correct 55 = .ok (.aload_n 0, 1) := dk_42 (dk_at dksX6_correct_2 7 rfl rfl)
theorem dX6_correct_56 : decode cX6_correct 56 = .ok (.invokevirtual 78, 3) := dk_182 0 78 (dk_at dksX6_correct_2 8 rfl rfl)
theorem dX6_correct_59 : decode cX6_correct 59 = .ok (.aload_n 0, 1) := dk_42 (dk_at dksX6_correct_2 11 rfl rfl)
theorem dX6_correct_60 : decode cX6_correct 60 = .ok (.invokevirtual 93, 3) := dk_182 0 93 (dk_at dksX6_correct_2 12 rfl rfl)
theorem dX6_correct_63 : decode cX6_correct 63 = .ok (.aload_n 0, 1) := dk_42 (dk_at dksX6_correct_2 15 rfl rfl)
theorem dX6_correct_64 : decode cX6_correct 64 = .ok (.iload_n 1, 1) := dk_27 (dk_at dksX6_correct_2 16 rfl rfl)
theorem dX6_correct_65 : decode cX6_correct 65 = .ok (.iload_n 2, 1) := dk_28 (dk_at dksX6_correct_2 17 rfl rfl)
theorem dX6_correct_66 : decode cX6_correct 66 = .ok (.invokevirtual 96, 3) := dk_182 0 96 (dk_at dksX6_correct_2 18 rfl rfl)
theorem dX6_correct_69 : decode cX6_correct 69 = .ok (.aload_n 0, 1) := dk_42 (dk_at dksX6_correct_2 21 rfl rfl)
theorem dX6_correct_70 : decode cX6_correct 70 = .ok (.getfield 7, 3) := dk_180 0 7 (dk_at dksX6_correct_3 0 rfl rfl)
theorem dX6_correct_73 : decode cX6_correct 73 = .ok (.bipush 16, 2) := dk_16 16 (dk_at dksX6_correct_3 3 rfl rfl)
theorem dX6_correct_75 : decode cX6_correct 75 = .ok (.aload_n 0, 1) := dk_42 (dk_at dksX6_correct_3 5 rfl rfl)
theorem dX6_correct_76 : decode cX6_correct 76 = .ok (.getfield 50, 3) := dk_180 0 50 (dk_at dksX6_correct_3 6 rfl rfl)
theorem dX6_correct_79 : decode cX6_correct 79 = .ok (.l2i, 1) := dk_136 (dk_at dksX6_correct_3 9 rfl rfl)
theorem dX6_correct_80 : decode cX6_correct 80 = .ok (.iastore, 1) := dk_79 (dk_at dksX6_correct_3 10 rfl rfl)
theorem dX6_correct_81 : decode cX6_correct 81 = .ok (.iload_n 3, 1) := dk_29 (dk_at dksX6_correct_3 11 rfl rfl)
theorem dX6_correct_82 : decode cX6_correct 82 = .ok (.iconst 1, 1) := dk_4 (dk_at dksX6_correct_3 12 rfl rfl)
theorem dX6_correct_83 : decode cX6_correct 83 = .ok (.if_icmp .ne 41, 3) := dk_160 0 41 (dk_at dksX6_correct_3 13 rfl rfl)
theorem dX6_correct_86 : decode cX6_correct 86 = .ok (.aload_n 0, 1) := dk_42 (dk_at dksX6_correct_3 16 rfl rfl)
theorem dX6_correct_87 : decode cX6_correct 87 = .ok (.getfield 7, 3) := dk_180 0 7 (dk_at dksX6_correct_3 17 rfl rfl)
theorem dX6_correct_90 : decode cX6_correct 90 = .ok (.bipush 17, 2) := dk_16 17 (dk_at dksX6_correct_3 20 rfl rfl)
theorem dX6_correct_92 : decode cX6_correct 92 = .ok (.aload_n 0, 1) := dk_42 (dk_at dksX6_correct_3 22 rfl rfl)
theorem dX6_correct_93 : decode cX6_correct 93 = .ok (.getfield 60, 3) := dk_180 0 60 (dk_at dksX6_correct_4 0 rfl rfl)
theorem dX6_correct_96 : decode cX6_correct 96 = .ok (.l2i, 1) := dk_136 (dk_at dksX6_correct_4 3 rfl rfl)
theorem dX6_correct_97 : decode cX6_correct 97 = .ok (.iastore, 1) := dk_79 (dk_at dksX6_correct_4 4 rfl rfl)
theorem dX6_correct_98 : decode cX6_correct 98 = .ok (.aload_n 0, 1) := dk_42 (dk_at dksX6_correct_4 5 rfl rfl)
theorem dX6_correct_99 : decode cX6_correct 99 = .ok (.getfield 7, 3) := dk_180 0 7 (dk_at dksX6_correct_4 6 rfl rfl)
theorem dX6_correct_102 : decode cX6_correct 102 = .ok (.bipush 18, 2) := dk_16 18 (dk_at dksX6_correct_4 9 rfl rfl)
theorem dX6_correct_104 : decode cX6_correct 104 = .ok (.aload_n 0, 1) := dk_42 (dk_at dksX6_correct_4 11 rfl rfl)
theorem dX6_correct_105 : decode cX6_correct 105 = .ok (.getfield 63, 3) := dk_180 0 63 (dk_at dksX6_correct_4 12 rfl rfl)
theorem dX6_correct_108 : decode cX6_correct 108 = .ok (.l2i, 1) := dk_136 (dk_at dksX6_correct_4 15 rfl rfl)
theorem dX6_correct_109 : decode cX6_correct 109 = .ok (.iastore, 1) := dk_79 (dk_at dksX6_correct_4 16 rfl rfl)
theorem dX6_correct_110 : decode cX6_correct 110 = .ok (.aload_n 0, 1) := dk_42 (dk_at dksX6_correct_4 17 rfl rfl)
theorem dX6_correct_111 : decode cX6_correct 111 = .ok (.getfield 7, 3) := dk_180 0 7 (dk_at dksX6_correct_4 18 rfl rfl)
theorem dX6_correct_114 : decode cX6_correct 114 = .ok (.bipush 19, 2) := dk_16 19 (dk_at dksX6_correct_4 21 rfl rfl)
theorem dX6_correct_116 : decode cX6_correct 116 = .ok (.dup2, 1) := dk_92 (dk_at dksX6_correct_4 23 rfl rfl)
theorem dX6_correct_117 : decode cX6_correct 117 = .ok (.iaload, 1) := dk_46 (dk_at dksX6_correct_5 0 rfl rfl)
theorem dX6_correct_118 : decode cX6_correct 118 = .ok (.iconst 1, 1) := dk_4 (dk_at dksX6_correct_5 1 rfl rfl)
theorem dX6_correct_119 : decode cX6_correct 119 = .ok (.iadd, 1) := dk_96 (dk_at dksX6_correct_5 2 rfl rfl)
theorem dX6_correct_120 : decode cX6_correct 120 = .ok (.iastore, 1) := dk_79 (dk_at dksX6_correct_5 3 rfl rfl)
theorem dX6_correct_121 : decode cX6_correct 121 = .ok (.goto 14, 3) := dk_167 0 14 (dk_at dksX6_correct_5 4 rfl rfl)
theorem dX6_correct_124 : decode cX6_correct 124 = .ok (.aload_n 0, 1) := dk_42 (dk_at dksX6_correct_5 7 rfl rfl)
theorem dX6_correct_125 : decode cX6_correct 125 = .ok (.getfield 7, 3) := dk_180 0 7 (dk_at dksX6_correct_5 8 rfl rfl)
theorem dX6_correct_128 : decode cX6_correct 128 = .ok (.bipush 20, 2) := dk_16 20 (dk_at dksX6_correct_5 11 rfl rfl)
theorem dX6_correct_130 : decode cX6_correct 130 = .ok (.dup2, 1) := dk_92 (dk_at dksX6_correct_5 13 rfl rfl)
theorem dX6_correct_131 : decode cX6_correct 131 = .ok (.iaload, 1) := dk_46 (dk_at dksX6_correct_5 14 rfl rfl)
theorem dX6_correct_132 : decode cX6_correct 132 = .ok (.iconst 1, 1) := dk_4 (dk_at dksX6_correct_5 15 rfl rfl)
theorem dX6_correct_133 : decode cX6_correct 133 = .ok (.iadd, 1) := dk_96 (dk_at dksX6_correct_5 16 rfl rfl)
theorem dX6_correct_134 : decode cX6_correct 134 = .ok (.iastore, 1) := dk_79 (dk_at dksX6_correct_5 17 rfl rfl)
theorem dX6_correct_135 : decode cX6_correct 135 = .ok (.iload_n 3, 1) := dk_29 (dk_at dksX6_correct_5 18 rfl rfl)
theorem dX6_correct_136 : decode cX6_correct 136 = .ok (.ireturn, 1) := dk_172 (dk_at dksX6_correct_5 19 rfl rfl)
abbrev cX6_corrects : ByteArray := prog_11_method_14_code
def yX6_corrects : MethodName := ⟨RX6, "corrects", "(IJI)I"⟩
def dkwX6_corrects_18 : List UInt8 := [180, 0, 19, 7, 22, 22, 80, 42, 22, 10, 181, 0, 60, 42, 22, 12, 181, 0, 63, 4, 172]
abbrev dktX6_corrects_18 : List UInt8 := dkwX6_corrects_18 ++ []
def dkwX6_corrects_17 : List UInt8 := [180, 0, 19, 4, 22, 16, 80, 42, 180, 0, 19, 5, 22, 18, 80, 42, 180, 0, 19, 6, 22, 20, 80, 42]
abbrev dktX6_corrects_17 : List UInt8 := dkwX6_corrects_17 ++ dktX6_corrects_18
def dkwX6_corrects_16 : List UInt8 := [153, 0, 11, 22, 22, 184, 0, 46, 154, 0, 5, 2, 172, 42, 180, 0, 19, 3, 22, 14, 80, 42]
abbrev dktX6_corrects_16 : List UInt8 := dkwX6_corrects_16 ++ dktX6_corrects_17
def dkwX6_corrects_15 : List UInt8 := [153, 0, 35, 22, 16, 184, 0, 46, 153, 0, 27, 22, 18, 184, 0, 46, 153, 0, 19, 22, 20, 184, 0, 46]
abbrev dktX6_corrects_15 : List UInt8 := dkwX6_corrects_15 ++ dktX6_corrects_16
def dkwX6_corrects_14 : List UInt8 := [22, 18, 55, 18, 22, 22, 9, 148, 156, 0, 7, 9, 167, 0, 5, 22, 22, 55, 22, 22, 14, 184, 0, 46]
abbrev dktX6_corrects_14 : List UInt8 := dkwX6_corrects_14 ++ dktX6_corrects_15
def dkwX6_corrects_13 : List UInt8 := [42, 180, 0, 19, 7, 47, 184, 0, 57, 101, 55, 22, 22, 18, 9, 148, 156, 0, 7, 9, 167, 0, 5]
abbrev dktX6_corrects_13 : List UInt8 := dkwX6_corrects_13 ++ dktX6_corrects_14
def dkwX6_corrects_12 : List UInt8 := [55, 20, 42, 180, 0, 19, 7, 47, 22, 12, 21, 5, 153, 0, 12, 42, 180, 0, 19, 6, 47, 167, 0, 9]
abbrev dktX6_corrects_12 : List UInt8 := dkwX6_corrects_12 ++ dktX6_corrects_13
def dkwX6_corrects_11 : List UInt8 := [21, 5, 153, 0, 12, 42, 180, 0, 19, 6, 47, 167, 0, 9, 42, 180, 0, 19, 7, 47, 184, 0, 57, 101]
abbrev dktX6_corrects_11 : List UInt8 := dkwX6_corrects_11 ++ dktX6_corrects_12
def dkwX6_corrects_10 : List UInt8 := [47, 167, 0, 9, 42, 180, 0, 19, 6, 47, 184, 0, 57, 101, 55, 18, 42, 180, 0, 19, 6, 47, 22, 10]
abbrev dktX6_corrects_10 : List UInt8 := dkwX6_corrects_10 ++ dktX6_corrects_11
def dkwX6_corrects_9 : List UInt8 := [184, 0, 57, 97, 55, 16, 42, 180, 0, 19, 5, 47, 22, 10, 21, 5, 153, 0, 12, 42, 180, 0, 19, 5]
abbrev dktX6_corrects_9 : List UInt8 := dkwX6_corrects_9 ++ dktX6_corrects_10
def dkwX6_corrects_8 : List UInt8 := [3, 47, 22, 10, 22, 6, 184, 0, 57, 97, 55, 14, 42, 180, 0, 19, 4, 47, 22, 12, 22, 6]
abbrev dktX6_corrects_8 : List UInt8 := dkwX6_corrects_8 ++ dktX6_corrects_9
def dkwX6_corrects_7 : List UInt8 := [55, 12, 22, 10, 184, 0, 46, 153, 0, 11, 22, 12, 184, 0, 46, 154, 0, 5, 2, 172, 42, 180, 0, 19]
abbrev dktX6_corrects_7 : List UInt8 := dkwX6_corrects_7 ++ dktX6_corrects_8
def dkwX6_corrects_6 : List UInt8 := [153, 0, 12, 42, 180, 0, 19, 6, 47, 167, 0, 9, 42, 180, 0, 19, 7, 47, 22, 8, 184, 0, 54]
abbrev dktX6_corrects_6 : List UInt8 := dkwX6_corrects_6 ++ dktX6_corrects_7
def dkwX6_corrects_5 : List UInt8 := [180, 0, 19, 5, 47, 167, 0, 9, 42, 180, 0, 19, 6, 47, 22, 8, 184, 0, 54, 55, 10, 21, 5]
abbrev dktX6_corrects_5 : List UInt8 := dkwX6_corrects_5 ++ dktX6_corrects_6
def dkwX6_corrects_4 : List UInt8 := [21, 4, 133, 22, 8, 105, 20, 0, 34, 105, 148, 158, 0, 5, 3, 172, 21, 5, 153, 0, 12, 42]
abbrev dktX6_corrects_4 : List UInt8 := dkwX6_corrects_4 ++ dktX6_corrects_5
def dkwX6_corrects_3 : List UInt8 := [27, 96, 46, 133, 97, 55, 8, 42, 22, 6, 181, 0, 50, 21, 4, 153, 0, 24, 22, 6, 22, 6, 105]
abbrev dktX6_corrects_3 : List UInt8 := dkwX6_corrects_3 ++ dktX6_corrects_4
def dkwX6_corrects_2 : List UInt8 := [153, 0, 12, 42, 180, 0, 19, 5, 47, 167, 0, 9, 42, 180, 0, 19, 7, 47, 42, 180, 0, 7, 16, 12]
abbrev dktX6_corrects_2 : List UInt8 := dkwX6_corrects_2 ++ dktX6_corrects_3
def dkwX6_corrects_1 : List UInt8 := [153, 0, 12, 42, 180, 0, 19, 3, 47, 167, 0, 9, 42, 180, 0, 19, 4, 47, 101, 55, 6, 21, 5]
abbrev dktX6_corrects_1 : List UInt8 := dkwX6_corrects_1 ++ dktX6_corrects_2
def dkwX6_corrects_0 : List UInt8 := [42, 180, 0, 7, 16, 8, 27, 96, 46, 154, 0, 7, 4, 167, 0, 4, 3, 54, 5, 32, 21, 5]
abbrev dktX6_corrects_0 : List UInt8 := dkwX6_corrects_0 ++ dktX6_corrects_1
theorem dksX6_corrects_0 : cX6_corrects.data.toList.drop 0 = dktX6_corrects_0 := by decide +kernel
theorem dksX6_corrects_1 : cX6_corrects.data.toList.drop 22 = dktX6_corrects_1 := dk_seg dksX6_corrects_0 22 rfl rfl
theorem dksX6_corrects_2 : cX6_corrects.data.toList.drop 45 = dktX6_corrects_2 := dk_seg dksX6_corrects_1 23 rfl rfl
theorem dksX6_corrects_3 : cX6_corrects.data.toList.drop 69 = dktX6_corrects_3 := dk_seg dksX6_corrects_2 24 rfl rfl
theorem dksX6_corrects_4 : cX6_corrects.data.toList.drop 92 = dktX6_corrects_4 := dk_seg dksX6_corrects_3 23 rfl rfl
theorem dksX6_corrects_5 : cX6_corrects.data.toList.drop 114 = dktX6_corrects_5 := dk_seg dksX6_corrects_4 22 rfl rfl
theorem dksX6_corrects_6 : cX6_corrects.data.toList.drop 137 = dktX6_corrects_6 := dk_seg dksX6_corrects_5 23 rfl rfl
theorem dksX6_corrects_7 : cX6_corrects.data.toList.drop 160 = dktX6_corrects_7 := dk_seg dksX6_corrects_6 23 rfl rfl
theorem dksX6_corrects_8 : cX6_corrects.data.toList.drop 184 = dktX6_corrects_8 := dk_seg dksX6_corrects_7 24 rfl rfl
theorem dksX6_corrects_9 : cX6_corrects.data.toList.drop 206 = dktX6_corrects_9 := dk_seg dksX6_corrects_8 22 rfl rfl
theorem dksX6_corrects_10 : cX6_corrects.data.toList.drop 230 = dktX6_corrects_10 := dk_seg dksX6_corrects_9 24 rfl rfl
theorem dksX6_corrects_11 : cX6_corrects.data.toList.drop 254 = dktX6_corrects_11 := dk_seg dksX6_corrects_10 24 rfl rfl
theorem dksX6_corrects_12 : cX6_corrects.data.toList.drop 278 = dktX6_corrects_12 := dk_seg dksX6_corrects_11 24 rfl rfl
theorem dksX6_corrects_13 : cX6_corrects.data.toList.drop 302 = dktX6_corrects_13 := dk_seg dksX6_corrects_12 24 rfl rfl
theorem dksX6_corrects_14 : cX6_corrects.data.toList.drop 325 = dktX6_corrects_14 := dk_seg dksX6_corrects_13 23 rfl rfl
theorem dksX6_corrects_15 : cX6_corrects.data.toList.drop 349 = dktX6_corrects_15 := dk_seg dksX6_corrects_14 24 rfl rfl
theorem dksX6_corrects_16 : cX6_corrects.data.toList.drop 373 = dktX6_corrects_16 := dk_seg dksX6_corrects_15 24 rfl rfl
theorem dksX6_corrects_17 : cX6_corrects.data.toList.drop 395 = dktX6_corrects_17 := dk_seg dksX6_corrects_16 22 rfl rfl
theorem dksX6_corrects_18 : cX6_corrects.data.toList.drop 419 = dktX6_corrects_18 := dk_seg dksX6_corrects_17 24 rfl rfl
theorem dX6_corrects_0 : decode cX6_corrects 0 = .ok (.aload_n 0, 1) := dk_42 (dk_at dksX6_corrects_0 0 rfl rfl)
theorem dX6_corrects_1 : decode cX6_corrects 1 = .ok (.getfield 7, 3) := dk_180 0 7 (dk_at dksX6_corrects_0 1 rfl rfl)
theorem dX6_corrects_4 : decode cX6_corrects 4 = .ok (.bipush 8, 2) := dk_16 8 (dk_at dksX6_corrects_0 4 rfl rfl)
theorem dX6_corrects_6 : decode cX6_corrects 6 = .ok (.iload_n 1, 1) := dk_27 (dk_at dksX6_corrects_0 6 rfl rfl)
theorem dX6_corrects_7 : decode cX6_corrects 7 = .ok (.iadd, 1) := dk_96 (dk_at dksX6_corrects_0 7 rfl rfl)
theorem dX6_corrects_8 : decode cX6_corrects 8 = .ok (.iaload, 1) := dk_46 (dk_at dksX6_corrects_0 8 rfl rfl)
theorem dX6_corrects_9 : decode cX6_corrects 9 = .ok (.ifCond .ne 7, 3) := dk_154 0 7 (dk_at dksX6_corrects_0 9 rfl rfl)
theorem dX6_corrects_12 : decode cX6_corrects 12 = .ok (.iconst 1, 1) := dk_4 (dk_at dksX6_corrects_0 12 rfl rfl)
theorem dX6_corrects_13 : decode cX6_corrects 13 = .ok (.goto 4, 3) := dk_167 0 4 (dk_at dksX6_corrects_0 13 rfl rfl)
theorem dX6_corrects_16 : decode cX6_corrects 16 = .ok (.iconst 0, 1) := dk_3 (dk_at dksX6_corrects_0 16 rfl rfl)
theorem dX6_corrects_17 : decode cX6_corrects 17 = .ok (.istore 5, 2) := dk_54 5 (dk_at dksX6_corrects_0 17 rfl rfl)
theorem dX6_corrects_19 : decode cX6_corrects 19 = .ok (.lload_n 2, 1) := dk_32 (dk_at dksX6_corrects_0 19 rfl rfl)
theorem dX6_corrects_20 : decode cX6_corrects 20 = .ok (.iload 5, 2) := dk_21 5 (dk_at dksX6_corrects_0 20 rfl rfl)
theorem dX6_corrects_22 : decode cX6_corrects 22 = .ok (.ifCond .eq 12, 3) := dk_153 0 12 (dk_at dksX6_corrects_1 0 rfl rfl)
theorem dX6_corrects_25 : decode cX6_corrects 25 = .ok (.aload_n 0, 1) := dk_42 (dk_at dksX6_corrects_1 3 rfl rfl)
theorem dX6_corrects_26 : decode cX6_corrects 26 = .ok (.getfield 19, 3) := dk_180 0 19 (dk_at dksX6_corrects_1 4 rfl rfl)
theorem dX6_corrects_29 : decode cX6_corrects 29 = .ok (.iconst 0, 1) := dk_3 (dk_at dksX6_corrects_1 7 rfl rfl)
theorem dX6_corrects_30 : decode cX6_corrects 30 = .ok (.laload, 1) := dk_47 (dk_at dksX6_corrects_1 8 rfl rfl)
theorem dX6_corrects_31 : decode cX6_corrects 31 = .ok (.goto 9, 3) := dk_167 0 9 (dk_at dksX6_corrects_1 9 rfl rfl)
theorem dX6_corrects_34 : decode cX6_corrects 34 = .ok (.aload_n 0, 1) := dk_42 (dk_at dksX6_corrects_1 12 rfl rfl)
theorem dX6_corrects_35 : decode cX6_corrects 35 = .ok (.getfield 19, 3) := dk_180 0 19 (dk_at dksX6_corrects_1 13 rfl rfl)
theorem dX6_corrects_38 : decode cX6_corrects 38 = .ok (.iconst 1, 1) := dk_4 (dk_at dksX6_corrects_1 16 rfl rfl)
theorem dX6_corrects_39 : decode cX6_corrects 39 = .ok (.laload, 1) := dk_47 (dk_at dksX6_corrects_1 17 rfl rfl)
theorem dX6_corrects_40 : decode cX6_corrects 40 = .ok (.lsub, 1) := dk_101 (dk_at dksX6_corrects_1 18 rfl rfl)
theorem dX6_corrects_41 : decode cX6_corrects 41 = .ok (.lstore 6, 2) := dk_55 6 (dk_at dksX6_corrects_1 19 rfl rfl)
theorem dX6_corrects_43 : decode cX6_corrects 43 = .ok (.iload 5, 2) := dk_21 5 (dk_at dksX6_corrects_1 21 rfl rfl)
theorem dX6_corrects_45 : decode cX6_corrects 45 = .ok (.ifCond .eq 12, 3) := dk_153 0 12 (dk_at dksX6_corrects_2 0 rfl rfl)
theorem dX6_corrects_48 : decode cX6_corrects 48 = .ok (.aload_n 0, 1) := dk_42 (dk_at dksX6_corrects_2 3 rfl rfl)
theorem dX6_corrects_49 : decode cX6_corrects 49 = .ok (.getfield 19, 3) := dk_180 0 19 (dk_at dksX6_corrects_2 4 rfl rfl)
theorem dX6_corrects_52 : decode cX6_corrects 52 = .ok (.iconst 2, 1) := dk_5 (dk_at dksX6_corrects_2 7 rfl rfl)
theorem dX6_corrects_53 : decode cX6_corrects 53 = .ok (.laload, 1) := dk_47 (dk_at dksX6_corrects_2 8 rfl rfl)
theorem dX6_corrects_54 : decode cX6_corrects 54 = .ok (.goto 9, 3) := dk_167 0 9 (dk_at dksX6_corrects_2 9 rfl rfl)
theorem dX6_corrects_57 : decode cX6_corrects 57 = .ok (.aload_n 0, 1) := dk_42 (dk_at dksX6_corrects_2 12 rfl rfl)
theorem dX6_corrects_58 : decode cX6_corrects 58 = .ok (.getfield 19, 3) := dk_180 0 19 (dk_at dksX6_corrects_2 13 rfl rfl)
theorem dX6_corrects_61 : decode cX6_corrects 61 = .ok (.iconst 4, 1) := dk_7 (dk_at dksX6_corrects_2 16 rfl rfl)
theorem dX6_corrects_62 : decode cX6_corrects 62 = .ok (.laload, 1) := dk_47 (dk_at dksX6_corrects_2 17 rfl rfl)
theorem dX6_corrects_63 : decode cX6_corrects 63 = .ok (.aload_n 0, 1) := dk_42 (dk_at dksX6_corrects_2 18 rfl rfl)
theorem dX6_corrects_64 : decode cX6_corrects 64 = .ok (.getfield 7, 3) := dk_180 0 7 (dk_at dksX6_corrects_2 19 rfl rfl)
theorem dX6_corrects_67 : decode cX6_corrects 67 = .ok (.bipush 12, 2) := dk_16 12 (dk_at dksX6_corrects_2 22 rfl rfl)
theorem dX6_corrects_69 : decode cX6_corrects 69 = .ok (.iload_n 1, 1) := dk_27 (dk_at dksX6_corrects_3 0 rfl rfl)
theorem dX6_corrects_70 : decode cX6_corrects 70 = .ok (.iadd, 1) := dk_96 (dk_at dksX6_corrects_3 1 rfl rfl)
theorem dX6_corrects_71 : decode cX6_corrects 71 = .ok (.iaload, 1) := dk_46 (dk_at dksX6_corrects_3 2 rfl rfl)
theorem dX6_corrects_72 : decode cX6_corrects 72 = .ok (.i2l, 1) := dk_133 (dk_at dksX6_corrects_3 3 rfl rfl)
theorem dX6_corrects_73 : decode cX6_corrects 73 = .ok (.ladd, 1) := dk_97 (dk_at dksX6_corrects_3 4 rfl rfl)
theorem dX6_corrects_74 : decode cX6_corrects 74 = .ok (.lstore 8, 2) := dk_55 8 (dk_at dksX6_corrects_3 5 rfl rfl)
theorem dX6_corrects_76 : decode cX6_corrects 76 = .ok (.aload_n 0, 1) := dk_42 (dk_at dksX6_corrects_3 7 rfl rfl)
theorem dX6_corrects_77 : decode cX6_corrects 77 = .ok (.lload 6, 2) := dk_22 6 (dk_at dksX6_corrects_3 8 rfl rfl)
theorem dX6_corrects_79 : decode cX6_corrects 79 = .ok (.putfield 50, 3) := dk_181 0 50 (dk_at dksX6_corrects_3 10 rfl rfl)
theorem dX6_corrects_82 : decode cX6_corrects 82 = .ok (.iload 4, 2) := dk_21 4 (dk_at dksX6_corrects_3 13 rfl rfl)
theorem dX6_corrects_84 : decode cX6_corrects 84 = .ok (.ifCond .eq 24, 3) := dk_153 0 24 (dk_at dksX6_corrects_3 15 rfl rfl)
theorem dX6_corrects_87 : decode cX6_corrects 87 = .ok (.lload 6, 2) := dk_22 6 (dk_at dksX6_corrects_3 18 rfl rfl)
theorem dX6_corrects_89 : decode cX6_corrects 89 = .ok (.lload 6, 2) := dk_22 6 (dk_at dksX6_corrects_3 20 rfl rfl)
theorem dX6_corrects_91 : decode cX6_corrects 91 = .ok (.lmul, 1) := dk_105 (dk_at dksX6_corrects_3 22 rfl rfl)
theorem dX6_corrects_92 : decode cX6_corrects 92 = .ok (.iload 4, 2) := dk_21 4 (dk_at dksX6_corrects_4 0 rfl rfl)
theorem dX6_corrects_94 : decode cX6_corrects 94 = .ok (.i2l, 1) := dk_133 (dk_at dksX6_corrects_4 2 rfl rfl)
theorem dX6_corrects_95 : decode cX6_corrects 95 = .ok (.lload 8, 2) := dk_22 8 (dk_at dksX6_corrects_4 3 rfl rfl)
theorem dX6_corrects_97 : decode cX6_corrects 97 = .ok (.lmul, 1) := dk_105 (dk_at dksX6_corrects_4 5 rfl rfl)
theorem dX6_corrects_98 : decode cX6_corrects 98 = .ok (.ldc2_w 34, 3) := dk_20 0 34 (dk_at dksX6_corrects_4 6 rfl rfl)
theorem dX6_corrects_101 : decode cX6_corrects 101 = .ok (.lmul, 1) := dk_105 (dk_at dksX6_corrects_4 9 rfl rfl)
theorem dX6_corrects_102 : decode cX6_corrects 102 = .ok (.lcmp, 1) := dk_148 (dk_at dksX6_corrects_4 10 rfl rfl)
theorem dX6_corrects_103 : decode cX6_corrects 103 = .ok (.ifCond .le 5, 3) := dk_158 0 5 (dk_at dksX6_corrects_4 11 rfl rfl)
theorem dX6_corrects_106 : decode cX6_corrects 106 = .ok (.iconst 0, 1) := dk_3 (dk_at dksX6_corrects_4 14 rfl rfl)
theorem dX6_corrects_107 : decode cX6_corrects 107 = .ok (.ireturn, 1) := dk_172 (dk_at dksX6_corrects_4 15 rfl rfl)
theorem dX6_corrects_108 : decode cX6_corrects 108 = .ok (.iload 5, 2) := dk_21 5 (dk_at dksX6_corrects_4 16 rfl rfl)
theorem dX6_corrects_110 : decode cX6_corrects 110 = .ok (.ifCond .eq 12, 3) := dk_153 0 12 (dk_at dksX6_corrects_4 18 rfl rfl)
theorem dX6_corrects_113 : decode cX6_corrects 113 = .ok (.aload_n 0, 1) := dk_42 (dk_at dksX6_corrects_4 21 rfl rfl)
theorem dX6_corrects_114 : decode cX6_corrects 114 = .ok (.getfield 19, 3) := dk_180 0 19 (dk_at dksX6_corrects_5 0 rfl rfl)
theorem dX6_corrects_117 : decode cX6_corrects 117 = .ok (.iconst 2, 1) := dk_5 (dk_at dksX6_corrects_5 3 rfl rfl)
theorem dX6_corrects_118 : decode cX6_corrects 118 = .ok (.laload, 1) := dk_47 (dk_at dksX6_corrects_5 4 rfl rfl)
theorem dX6_corrects_119 : decode cX6_corrects 119 = .ok (.goto 9, 3) := dk_167 0 9 (dk_at dksX6_corrects_5 5 rfl rfl)
theorem dX6_corrects_122 : decode cX6_corrects 122 = .ok (.aload_n 0, 1) := dk_42 (dk_at dksX6_corrects_5 8 rfl rfl)
theorem dX6_corrects_123 : decode cX6_corrects 123 = .ok (.getfield 19, 3) := dk_180 0 19 (dk_at dksX6_corrects_5 9 rfl rfl)
theorem dX6_corrects_126 : decode cX6_corrects 126 = .ok (.iconst 3, 1) := dk_6 (dk_at dksX6_corrects_5 12 rfl rfl)
theorem dX6_corrects_127 : decode cX6_corrects 127 = .ok (.laload, 1) := dk_47 (dk_at dksX6_corrects_5 13 rfl rfl)
theorem dX6_corrects_128 : decode cX6_corrects 128 = .ok (.lload 8, 2) := dk_22 8 (dk_at dksX6_corrects_5 14 rfl rfl)
theorem dX6_corrects_130 : decode cX6_corrects 130 = .ok (.invokestatic 54, 3) := dk_184 0 54 (dk_at dksX6_corrects_5 16 rfl rfl)
theorem dX6_corrects_133 : decode cX6_corrects 133 = .ok (.lstore 10, 2) := dk_55 10 (dk_at dksX6_corrects_5 19 rfl rfl)
theorem dX6_corrects_135 : decode cX6_corrects 135 = .ok (.iload 5, 2) := dk_21 5 (dk_at dksX6_corrects_5 21 rfl rfl)
theorem dX6_corrects_137 : decode cX6_corrects 137 = .ok (.ifCond .eq 12, 3) := dk_153 0 12 (dk_at dksX6_corrects_6 0 rfl rfl)
theorem dX6_corrects_140 : decode cX6_corrects 140 = .ok (.aload_n 0, 1) := dk_42 (dk_at dksX6_corrects_6 3 rfl rfl)
theorem dX6_corrects_141 : decode cX6_corrects 141 = .ok (.getfield 19, 3) := dk_180 0 19 (dk_at dksX6_corrects_6 4 rfl rfl)
theorem dX6_corrects_144 : decode cX6_corrects 144 = .ok (.iconst 3, 1) := dk_6 (dk_at dksX6_corrects_6 7 rfl rfl)
theorem dX6_corrects_145 : decode cX6_corrects 145 = .ok (.laload, 1) := dk_47 (dk_at dksX6_corrects_6 8 rfl rfl)
theorem dX6_corrects_146 : decode cX6_corrects 146 = .ok (.goto 9, 3) := dk_167 0 9 (dk_at dksX6_corrects_6 9 rfl rfl)
theorem dX6_corrects_149 : decode cX6_corrects 149 = .ok (.aload_n 0, 1) := dk_42 (dk_at dksX6_corrects_6 12 rfl rfl)
theorem dX6_corrects_150 : decode cX6_corrects 150 = .ok (.getfield 19, 3) := dk_180 0 19 (dk_at dksX6_corrects_6 13 rfl rfl)
theorem dX6_corrects_153 : decode cX6_corrects 153 = .ok (.iconst 4, 1) := dk_7 (dk_at dksX6_corrects_6 16 rfl rfl)
theorem dX6_corrects_154 : decode cX6_corrects 154 = .ok (.laload, 1) := dk_47 (dk_at dksX6_corrects_6 17 rfl rfl)
theorem dX6_corrects_155 : decode cX6_corrects 155 = .ok (.lload 8, 2) := dk_22 8 (dk_at dksX6_corrects_6 18 rfl rfl)
theorem dX6_corrects_157 : decode cX6_corrects 157 = .ok (.invokestatic 54, 3) := dk_184 0 54 (dk_at dksX6_corrects_6 20 rfl rfl)
theorem dX6_corrects_160 : decode cX6_corrects 160 = .ok (.lstore 12, 2) := dk_55 12 (dk_at dksX6_corrects_7 0 rfl rfl)
theorem dX6_corrects_162 : decode cX6_corrects 162 = .ok (.lload 10, 2) := dk_22 10 (dk_at dksX6_corrects_7 2 rfl rfl)
theorem dX6_corrects_164 : decode cX6_corrects 164 = .ok (.invokestatic 46, 3) := dk_184 0 46 (dk_at dksX6_corrects_7 4 rfl rfl)
theorem dX6_corrects_167 : decode cX6_corrects 167 = .ok (.ifCond .eq 11, 3) := dk_153 0 11 (dk_at dksX6_corrects_7 7 rfl rfl)
theorem dX6_corrects_170 : decode cX6_corrects 170 = .ok (.lload 12, 2) := dk_22 12 (dk_at dksX6_corrects_7 10 rfl rfl)
theorem dX6_corrects_172 : decode cX6_corrects 172 = .ok (.invokestatic 46, 3) := dk_184 0 46 (dk_at dksX6_corrects_7 12 rfl rfl)
theorem dX6_corrects_175 : decode cX6_corrects 175 = .ok (.ifCond .ne 5, 3) := dk_154 0 5 (dk_at dksX6_corrects_7 15 rfl rfl)
theorem dX6_corrects_178 : decode cX6_corrects 178 = .ok (.iconst (-1), 1) := dk_2 (dk_at dksX6_corrects_7 18 rfl rfl)
theorem dX6_corrects_179 : decode cX6_corrects 179 = .ok (.ireturn, 1) := dk_172 (dk_at dksX6_corrects_7 19 rfl rfl)
theorem dX6_corrects_180 : decode cX6_corrects 180 = .ok (.aload_n 0, 1) := dk_42 (dk_at dksX6_corrects_7 20 rfl rfl)
theorem dX6_corrects_181 : decode cX6_corrects 181 = .ok (.getfield 19, 3) := dk_180 0 19 (dk_at dksX6_corrects_7 21 rfl rfl)
theorem dX6_corrects_184 : decode cX6_corrects 184 = .ok (.iconst 0, 1) := dk_3 (dk_at dksX6_corrects_8 0 rfl rfl)
theorem dX6_corrects_185 : decode cX6_corrects 185 = .ok (.laload, 1) := dk_47 (dk_at dksX6_corrects_8 1 rfl rfl)
theorem dX6_corrects_186 : decode cX6_corrects 186 = .ok (.lload 10, 2) := dk_22 10 (dk_at dksX6_corrects_8 2 rfl rfl)
theorem dX6_corrects_188 : decode cX6_corrects 188 = .ok (.lload 6, 2) := dk_22 6 (dk_at dksX6_corrects_8 4 rfl rfl)
theorem dX6_corrects_190 : decode cX6_corrects 190 = .ok (.invokestatic 57, 3) := dk_184 0 57 (dk_at dksX6_corrects_8 6 rfl rfl)
theorem dX6_corrects_193 : decode cX6_corrects 193 = .ok (.ladd, 1) := dk_97 (dk_at dksX6_corrects_8 9 rfl rfl)
theorem dX6_corrects_194 : decode cX6_corrects 194 = .ok (.lstore 14, 2) := dk_55 14 (dk_at dksX6_corrects_8 10 rfl rfl)
theorem dX6_corrects_196 : decode cX6_corrects 196 = .ok (.aload_n 0, 1) := dk_42 (dk_at dksX6_corrects_8 12 rfl rfl)
theorem dX6_corrects_197 : decode cX6_corrects 197 = .ok (.getfield 19, 3) := dk_180 0 19 (dk_at dksX6_corrects_8 13 rfl rfl)
theorem dX6_corrects_200 : decode cX6_corrects 200 = .ok (.iconst 1, 1) := dk_4 (dk_at dksX6_corrects_8 16 rfl rfl)
theorem dX6_corrects_201 : decode cX6_corrects 201 = .ok (.laload, 1) := dk_47 (dk_at dksX6_corrects_8 17 rfl rfl)
theorem dX6_corrects_202 : decode cX6_corrects 202 = .ok (.lload 12, 2) := dk_22 12 (dk_at dksX6_corrects_8 18 rfl rfl)
theorem dX6_corrects_204 : decode cX6_corrects 204 = .ok (.lload 6, 2) := dk_22 6 (dk_at dksX6_corrects_8 20 rfl rfl)
theorem dX6_corrects_206 : decode cX6_corrects 206 = .ok (.invokestatic 57, 3) := dk_184 0 57 (dk_at dksX6_corrects_9 0 rfl rfl)
theorem dX6_corrects_209 : decode cX6_corrects 209 = .ok (.ladd, 1) := dk_97 (dk_at dksX6_corrects_9 3 rfl rfl)
theorem dX6_corrects_210 : decode cX6_corrects 210 = .ok (.lstore 16, 2) := dk_55 16 (dk_at dksX6_corrects_9 4 rfl rfl)
theorem dX6_corrects_212 : decode cX6_corrects 212 = .ok (.aload_n 0, 1) := dk_42 (dk_at dksX6_corrects_9 6 rfl rfl)
theorem dX6_corrects_213 : decode cX6_corrects 213 = .ok (.getfield 19, 3) := dk_180 0 19 (dk_at dksX6_corrects_9 7 rfl rfl)
theorem dX6_corrects_216 : decode cX6_corrects 216 = .ok (.iconst 2, 1) := dk_5 (dk_at dksX6_corrects_9 10 rfl rfl)
theorem dX6_corrects_217 : decode cX6_corrects 217 = .ok (.laload, 1) := dk_47 (dk_at dksX6_corrects_9 11 rfl rfl)
theorem dX6_corrects_218 : decode cX6_corrects 218 = .ok (.lload 10, 2) := dk_22 10 (dk_at dksX6_corrects_9 12 rfl rfl)
theorem dX6_corrects_220 : decode cX6_corrects 220 = .ok (.iload 5, 2) := dk_21 5 (dk_at dksX6_corrects_9 14 rfl rfl)
theorem dX6_corrects_222 : decode cX6_corrects 222 = .ok (.ifCond .eq 12, 3) := dk_153 0 12 (dk_at dksX6_corrects_9 16 rfl rfl)
theorem dX6_corrects_225 : decode cX6_corrects 225 = .ok (.aload_n 0, 1) := dk_42 (dk_at dksX6_corrects_9 19 rfl rfl)
theorem dX6_corrects_226 : decode cX6_corrects 226 = .ok (.getfield 19, 3) := dk_180 0 19 (dk_at dksX6_corrects_9 20 rfl rfl)
theorem dX6_corrects_229 : decode cX6_corrects 229 = .ok (.iconst 2, 1) := dk_5 (dk_at dksX6_corrects_9 23 rfl rfl)
theorem dX6_corrects_230 : decode cX6_corrects 230 = .ok (.laload, 1) := dk_47 (dk_at dksX6_corrects_10 0 rfl rfl)
theorem dX6_corrects_231 : decode cX6_corrects 231 = .ok (.goto 9, 3) := dk_167 0 9 (dk_at dksX6_corrects_10 1 rfl rfl)
theorem dX6_corrects_234 : decode cX6_corrects 234 = .ok (.aload_n 0, 1) := dk_42 (dk_at dksX6_corrects_10 4 rfl rfl)
theorem dX6_corrects_235 : decode cX6_corrects 235 = .ok (.getfield 19, 3) := dk_180 0 19 (dk_at dksX6_corrects_10 5 rfl rfl)
theorem dX6_corrects_238 : decode cX6_corrects 238 = .ok (.iconst 3, 1) := dk_6 (dk_at dksX6_corrects_10 8 rfl rfl)
theorem dX6_corrects_239 : decode cX6_corrects 239 = .ok (.laload, 1) := dk_47 (dk_at dksX6_corrects_10 9 rfl rfl)
theorem dX6_corrects_240 : decode cX6_corrects 240 = .ok (.invokestatic 57, 3) := dk_184 0 57 (dk_at dksX6_corrects_10 10 rfl rfl)
theorem dX6_corrects_243 : decode cX6_corrects 243 = .ok (.lsub, 1) := dk_101 (dk_at dksX6_corrects_10 13 rfl rfl)
theorem dX6_corrects_244 : decode cX6_corrects 244 = .ok (.lstore 18, 2) := dk_55 18 (dk_at dksX6_corrects_10 14 rfl rfl)
theorem dX6_corrects_246 : decode cX6_corrects 246 = .ok (.aload_n 0, 1) := dk_42 (dk_at dksX6_corrects_10 16 rfl rfl)
theorem dX6_corrects_247 : decode cX6_corrects 247 = .ok (.getfield 19, 3) := dk_180 0 19 (dk_at dksX6_corrects_10 17 rfl rfl)
theorem dX6_corrects_250 : decode cX6_corrects 250 = .ok (.iconst 3, 1) := dk_6 (dk_at dksX6_corrects_10 20 rfl rfl)
theorem dX6_corrects_251 : decode cX6_corrects 251 = .ok (.laload, 1) := dk_47 (dk_at dksX6_corrects_10 21 rfl rfl)
theorem dX6_corrects_252 : decode cX6_corrects 252 = .ok (.lload 10, 2) := dk_22 10 (dk_at dksX6_corrects_10 22 rfl rfl)
theorem dX6_corrects_254 : decode cX6_corrects 254 = .ok (.iload 5, 2) := dk_21 5 (dk_at dksX6_corrects_11 0 rfl rfl)
theorem dX6_corrects_256 : decode cX6_corrects 256 = .ok (.ifCond .eq 12, 3) := dk_153 0 12 (dk_at dksX6_corrects_11 2 rfl rfl)
theorem dX6_corrects_259 : decode cX6_corrects 259 = .ok (.aload_n 0, 1) := dk_42 (dk_at dksX6_corrects_11 5 rfl rfl)
theorem dX6_corrects_260 : decode cX6_corrects 260 = .ok (.getfield 19, 3) := dk_180 0 19 (dk_at dksX6_corrects_11 6 rfl rfl)
theorem dX6_corrects_263 : decode cX6_corrects 263 = .ok (.iconst 3, 1) := dk_6 (dk_at dksX6_corrects_11 9 rfl rfl)
theorem dX6_corrects_264 : decode cX6_corrects 264 = .ok (.laload, 1) := dk_47 (dk_at dksX6_corrects_11 10 rfl rfl)
theorem dX6_corrects_265 : decode cX6_corrects 265 = .ok (.goto 9, 3) := dk_167 0 9 (dk_at dksX6_corrects_11 11 rfl rfl)
theorem dX6_corrects_268 : decode cX6_corrects 268 = .ok (.aload_n 0, 1) := dk_42 (dk_at dksX6_corrects_11 14 rfl rfl)
theorem dX6_corrects_269 : decode cX6_corrects 269 = .ok (.getfield 19, 3) := dk_180 0 19 (dk_at dksX6_corrects_11 15 rfl rfl)
theorem dX6_corrects_272 : decode cX6_corrects 272 = .ok (.iconst 4, 1) := dk_7 (dk_at dksX6_corrects_11 18 rfl rfl)
theorem dX6_corrects_273 : decode cX6_corrects 273 = .ok (.laload, 1) := dk_47 (dk_at dksX6_corrects_11 19 rfl rfl)
theorem dX6_corrects_274 : decode cX6_corrects 274 = .ok (.invokestatic 57, 3) := dk_184 0 57 (dk_at dksX6_corrects_11 20 rfl rfl)
theorem dX6_corrects_277 : decode cX6_corrects 277 = .ok (.lsub, 1) := dk_101 (dk_at dksX6_corrects_11 23 rfl rfl)
theorem dX6_corrects_278 : decode cX6_corrects 278 = .ok (.lstore 20, 2) := dk_55 20 (dk_at dksX6_corrects_12 0 rfl rfl)
theorem dX6_corrects_280 : decode cX6_corrects 280 = .ok (.aload_n 0, 1) := dk_42 (dk_at dksX6_corrects_12 2 rfl rfl)
theorem dX6_corrects_281 : decode cX6_corrects 281 = .ok (.getfield 19, 3) := dk_180 0 19 (dk_at dksX6_corrects_12 3 rfl rfl)
theorem dX6_corrects_284 : decode cX6_corrects 284 = .ok (.iconst 4, 1) := dk_7 (dk_at dksX6_corrects_12 6 rfl rfl)
theorem dX6_corrects_285 : decode cX6_corrects 285 = .ok (.laload, 1) := dk_47 (dk_at dksX6_corrects_12 7 rfl rfl)
theorem dX6_corrects_286 : decode cX6_corrects 286 = .ok (.lload 12, 2) := dk_22 12 (dk_at dksX6_corrects_12 8 rfl rfl)
theorem dX6_corrects_288 : decode cX6_corrects 288 = .ok (.iload 5, 2) := dk_21 5 (dk_at dksX6_corrects_12 10 rfl rfl)
theorem dX6_corrects_290 : decode cX6_corrects 290 = .ok (.ifCond .eq 12, 3) := dk_153 0 12 (dk_at dksX6_corrects_12 12 rfl rfl)
theorem dX6_corrects_293 : decode cX6_corrects 293 = .ok (.aload_n 0, 1) := dk_42 (dk_at dksX6_corrects_12 15 rfl rfl)
theorem dX6_corrects_294 : decode cX6_corrects 294 = .ok (.getfield 19, 3) := dk_180 0 19 (dk_at dksX6_corrects_12 16 rfl rfl)
theorem dX6_corrects_297 : decode cX6_corrects 297 = .ok (.iconst 3, 1) := dk_6 (dk_at dksX6_corrects_12 19 rfl rfl)
theorem dX6_corrects_298 : decode cX6_corrects 298 = .ok (.laload, 1) := dk_47 (dk_at dksX6_corrects_12 20 rfl rfl)
theorem dX6_corrects_299 : decode cX6_corrects 299 = .ok (.goto 9, 3) := dk_167 0 9 (dk_at dksX6_corrects_12 21 rfl rfl)
theorem dX6_corrects_302 : decode cX6_corrects 302 = .ok (.aload_n 0, 1) := dk_42 (dk_at dksX6_corrects_13 0 rfl rfl)
theorem dX6_corrects_303 : decode cX6_corrects 303 = .ok (.getfield 19, 3) := dk_180 0 19 (dk_at dksX6_corrects_13 1 rfl rfl)
theorem dX6_corrects_306 : decode cX6_corrects 306 = .ok (.iconst 4, 1) := dk_7 (dk_at dksX6_corrects_13 4 rfl rfl)
theorem dX6_corrects_307 : decode cX6_corrects 307 = .ok (.laload, 1) := dk_47 (dk_at dksX6_corrects_13 5 rfl rfl)
theorem dX6_corrects_308 : decode cX6_corrects 308 = .ok (.invokestatic 57, 3) := dk_184 0 57 (dk_at dksX6_corrects_13 6 rfl rfl)
theorem dX6_corrects_311 : decode cX6_corrects 311 = .ok (.lsub, 1) := dk_101 (dk_at dksX6_corrects_13 9 rfl rfl)
theorem dX6_corrects_312 : decode cX6_corrects 312 = .ok (.lstore 22, 2) := dk_55 22 (dk_at dksX6_corrects_13 10 rfl rfl)
theorem dX6_corrects_314 : decode cX6_corrects 314 = .ok (.lload 18, 2) := dk_22 18 (dk_at dksX6_corrects_13 12 rfl rfl)
theorem dX6_corrects_316 : decode cX6_corrects 316 = .ok (.lconst 0, 1) := dk_9 (dk_at dksX6_corrects_13 14 rfl rfl)
theorem dX6_corrects_317 : decode cX6_corrects 317 = .ok (.lcmp, 1) := dk_148 (dk_at dksX6_corrects_13 15 rfl rfl)
theorem dX6_corrects_318 : decode cX6_corrects 318 = .ok (.ifCond .ge 7, 3) := dk_156 0 7 (dk_at dksX6_corrects_13 16 rfl rfl)
theorem dX6_corrects_321 : decode cX6_corrects 321 = .ok (.lconst 0, 1) := dk_9 (dk_at dksX6_corrects_13 19 rfl rfl)
theorem dX6_corrects_322 : decode cX6_corrects 322 = .ok (.goto 5, 3) := dk_167 0 5 (dk_at dksX6_corrects_13 20 rfl rfl)
theorem dX6_corrects_325 : decode cX6_corrects 325 = .ok (.lload 18, 2) := dk_22 18 (dk_at dksX6_corrects_14 0 rfl rfl)
theorem dX6_corrects_327 : decode cX6_corrects 327 = .ok (.lstore 18, 2) := dk_55 18 (dk_at dksX6_corrects_14 2 rfl rfl)
theorem dX6_corrects_329 : decode cX6_corrects 329 = .ok (.lload 22, 2) := dk_22 22 (dk_at dksX6_corrects_14 4 rfl rfl)
theorem dX6_corrects_331 : decode cX6_corrects 331 = .ok (.lconst 0, 1) := dk_9 (dk_at dksX6_corrects_14 6 rfl rfl)
theorem dX6_corrects_332 : decode cX6_corrects 332 = .ok (.lcmp, 1) := dk_148 (dk_at dksX6_corrects_14 7 rfl rfl)
theorem dX6_corrects_333 : decode cX6_corrects 333 = .ok (.ifCond .ge 7, 3) := dk_156 0 7 (dk_at dksX6_corrects_14 8 rfl rfl)
theorem dX6_corrects_336 : decode cX6_corrects 336 = .ok (.lconst 0, 1) := dk_9 (dk_at dksX6_corrects_14 11 rfl rfl)
theorem dX6_corrects_337 : decode cX6_corrects 337 = .ok (.goto 5, 3) := dk_167 0 5 (dk_at dksX6_corrects_14 12 rfl rfl)
theorem dX6_corrects_340 : decode cX6_corrects 340 = .ok (.lload 22, 2) := dk_22 22 (dk_at dksX6_corrects_14 15 rfl rfl)
theorem dX6_corrects_342 : decode cX6_corrects 342 = .ok (.lstore 22, 2) := dk_55 22 (dk_at dksX6_corrects_14 17 rfl rfl)
theorem dX6_corrects_344 : decode cX6_corrects 344 = .ok (.lload 14, 2) := dk_22 14 (dk_at dksX6_corrects_14 19 rfl rfl)
theorem dX6_corrects_346 : decode cX6_corrects 346 = .ok (.invokestatic 46, 3) := dk_184 0 46 (dk_at dksX6_corrects_14 21 rfl rfl)
theorem dX6_corrects_349 : decode cX6_corrects 349 = .ok (.ifCond .eq 35, 3) := dk_153 0 35 (dk_at dksX6_corrects_15 0 rfl rfl)
theorem dX6_corrects_352 : decode cX6_corrects 352 = .ok (.lload 16, 2) := dk_22 16 (dk_at dksX6_corrects_15 3 rfl rfl)
theorem dX6_corrects_354 : decode cX6_corrects 354 = .ok (.invokestatic 46, 3) := dk_184 0 46 (dk_at dksX6_corrects_15 5 rfl rfl)
theorem dX6_corrects_357 : decode cX6_corrects 357 = .ok (.ifCond .eq 27, 3) := dk_153 0 27 (dk_at dksX6_corrects_15 8 rfl rfl)
theorem dX6_corrects_360 : decode cX6_corrects 360 = .ok (.lload 18, 2) := dk_22 18 (dk_at dksX6_corrects_15 11 rfl rfl)
theorem dX6_corrects_362 : decode cX6_corrects 362 = .ok (.invokestatic 46, 3) := dk_184 0 46 (dk_at dksX6_corrects_15 13 rfl rfl)
theorem dX6_corrects_365 : decode cX6_corrects 365 = .ok (.ifCond .eq 19, 3) := dk_153 0 19 (dk_at dksX6_corrects_15 16 rfl rfl)
theorem dX6_corrects_368 : decode cX6_corrects 368 = .ok (.lload 20, 2) := dk_22 20 (dk_at dksX6_corrects_15 19 rfl rfl)
theorem dX6_corrects_370 : decode cX6_corrects 370 = .ok (.invokestatic 46, 3) := dk_184 0 46 (dk_at dksX6_corrects_15 21 rfl rfl)
theorem dX6_corrects_373 : decode cX6_corrects 373 = .ok (.ifCond .eq 11, 3) := dk_153 0 11 (dk_at dksX6_corrects_16 0 rfl rfl)
theorem dX6_corrects_376 : decode cX6_corrects 376 = .ok (.lload 22, 2) := dk_22 22 (dk_at dksX6_corrects_16 3 rfl rfl)
theorem dX6_corrects_378 : decode cX6_corrects 378 = .ok (.invokestatic 46, 3) := dk_184 0 46 (dk_at dksX6_corrects_16 5 rfl rfl)
theorem dX6_corrects_381 : decode cX6_corrects 381 = .ok (.ifCond .ne 5, 3) := dk_154 0 5 (dk_at dksX6_corrects_16 8 rfl rfl)
theorem dX6_corrects_384 : decode cX6_corrects 384 = .ok (.iconst (-1), 1) := dk_2 (dk_at dksX6_corrects_16 11 rfl rfl)
theorem dX6_corrects_385 : decode cX6_corrects 385 = .ok (.ireturn, 1) := dk_172 (dk_at dksX6_corrects_16 12 rfl rfl)
theorem dX6_corrects_386 : decode cX6_corrects 386 = .ok (.aload_n 0, 1) := dk_42 (dk_at dksX6_corrects_16 13 rfl rfl)
theorem dX6_corrects_387 : decode cX6_corrects 387 = .ok (.getfield 19, 3) := dk_180 0 19 (dk_at dksX6_corrects_16 14 rfl rfl)
theorem dX6_corrects_390 : decode cX6_corrects 390 = .ok (.iconst 0, 1) := dk_3 (dk_at dksX6_corrects_16 17 rfl rfl)
theorem dX6_corrects_391 : decode cX6_corrects 391 = .ok (.lload 14, 2) := dk_22 14 (dk_at dksX6_corrects_16 18 rfl rfl)
theorem dX6_corrects_393 : decode cX6_corrects 393 = .ok (.lastore, 1) := dk_80 (dk_at dksX6_corrects_16 20 rfl rfl)
theorem dX6_corrects_394 : decode cX6_corrects 394 = .ok (.aload_n 0, 1) := dk_42 (dk_at dksX6_corrects_16 21 rfl rfl)
theorem dX6_corrects_395 : decode cX6_corrects 395 = .ok (.getfield 19, 3) := dk_180 0 19 (dk_at dksX6_corrects_17 0 rfl rfl)
theorem dX6_corrects_398 : decode cX6_corrects 398 = .ok (.iconst 1, 1) := dk_4 (dk_at dksX6_corrects_17 3 rfl rfl)
theorem dX6_corrects_399 : decode cX6_corrects 399 = .ok (.lload 16, 2) := dk_22 16 (dk_at dksX6_corrects_17 4 rfl rfl)
theorem dX6_corrects_401 : decode cX6_corrects 401 = .ok (.lastore, 1) := dk_80 (dk_at dksX6_corrects_17 6 rfl rfl)
theorem dX6_corrects_402 : decode cX6_corrects 402 = .ok (.aload_n 0, 1) := dk_42 (dk_at dksX6_corrects_17 7 rfl rfl)
theorem dX6_corrects_403 : decode cX6_corrects 403 = .ok (.getfield 19, 3) := dk_180 0 19 (dk_at dksX6_corrects_17 8 rfl rfl)
theorem dX6_corrects_406 : decode cX6_corrects 406 = .ok (.iconst 2, 1) := dk_5 (dk_at dksX6_corrects_17 11 rfl rfl)
theorem dX6_corrects_407 : decode cX6_corrects 407 = .ok (.lload 18, 2) := dk_22 18 (dk_at dksX6_corrects_17 12 rfl rfl)
theorem dX6_corrects_409 : decode cX6_corrects 409 = .ok (.lastore, 1) := dk_80 (dk_at dksX6_corrects_17 14 rfl rfl)
theorem dX6_corrects_410 : decode cX6_corrects 410 = .ok (.aload_n 0, 1) := dk_42 (dk_at dksX6_corrects_17 15 rfl rfl)
theorem dX6_corrects_411 : decode cX6_corrects 411 = .ok (.getfield 19, 3) := dk_180 0 19 (dk_at dksX6_corrects_17 16 rfl rfl)
theorem dX6_corrects_414 : decode cX6_corrects 414 = .ok (.iconst 3, 1) := dk_6 (dk_at dksX6_corrects_17 19 rfl rfl)
theorem dX6_corrects_415 : decode cX6_corrects 415 = .ok (.lload 20, 2) := dk_22 20 (dk_at dksX6_corrects_17 20 rfl rfl)
theorem dX6_corrects_417 : decode cX6_corrects 417 = .ok (.lastore, 1) := dk_80 (dk_at dksX6_corrects_17 22 rfl rfl)
theorem dX6_corrects_418 : decode cX6_corrects 418 = .ok (.aload_n 0, 1) := dk_42 (dk_at dksX6_corrects_17 23 rfl rfl)
theorem dX6_corrects_419 : decode cX6_corrects 419 = .ok (.getfield 19, 3) := dk_180 0 19 (dk_at dksX6_corrects_18 0 rfl rfl)
theorem dX6_corrects_422 : decode cX6_corrects 422 = .ok (.iconst 4, 1) := dk_7 (dk_at dksX6_corrects_18 3 rfl rfl)
theorem dX6_corrects_423 : decode cX6_corrects 423 = .ok (.lload 22, 2) := dk_22 22 (dk_at dksX6_corrects_18 4 rfl rfl)
theorem dX6_corrects_425 : decode cX6_corrects 425 = .ok (.lastore, 1) := dk_80 (dk_at dksX6_corrects_18 6 rfl rfl)
theorem dX6_corrects_426 : decode cX6_corrects 426 = .ok (.aload_n 0, 1) := dk_42 (dk_at dksX6_corrects_18 7 rfl rfl)
theorem dX6_corrects_427 : decode cX6_corrects 427 = .ok (.lload 10, 2) := dk_22 10 (dk_at dksX6_corrects_18 8 rfl rfl)
theorem dX6_corrects_429 : decode cX6_corrects 429 = .ok (.putfield 60, 3) := dk_181 0 60 (dk_at dksX6_corrects_18 10 rfl rfl)
theorem dX6_corrects_432 : decode cX6_corrects 432 = .ok (.aload_n 0, 1) := dk_42 (dk_at dksX6_corrects_18 13 rfl rfl)
theorem dX6_corrects_433 : decode cX6_corrects 433 = .ok (.lload 12, 2) := dk_22 12 (dk_at dksX6_corrects_18 14 rfl rfl)
theorem dX6_corrects_435 : decode cX6_corrects 435 = .ok (.putfield 63, 3) := dk_181 0 63 (dk_at dksX6_corrects_18 16 rfl rfl)
theorem dX6_corrects_438 : decode cX6_corrects 438 = .ok (.iconst 1, 1) := dk_4 (dk_at dksX6_corrects_18 19 rfl rfl)
theorem dX6_corrects_439 : decode cX6_corrects 439 = .ok (.ireturn, 1) := dk_172 (dk_at dksX6_corrects_18 20 rfl rfl)
abbrev cX6_div : ByteArray := prog_11_method_9_code
def yX6_div : MethodName := ⟨RX6, "div", "(JJ)J"⟩
def dkwX6_div_0 : List UInt8 := [30, 20, 0, 34, 105, 32, 20, 0, 40, 184, 0, 36, 97, 32, 184, 0, 36, 173]
abbrev dktX6_div_0 : List UInt8 := dkwX6_div_0 ++ []
theorem dksX6_div_0 : cX6_div.data.toList.drop 0 = dktX6_div_0 := by decide +kernel
theorem dX6_div_0 : decode cX6_div 0 = .ok (.lload_n 0, 1) := dk_30 (dk_at dksX6_div_0 0 rfl rfl)
theorem dX6_div_1 : decode cX6_div 1 = .ok (.ldc2_w 34, 3) := dk_20 0 34 (dk_at dksX6_div_0 1 rfl rfl)
theorem dX6_div_4 : decode cX6_div 4 = .ok (.lmul, 1) := dk_105 (dk_at dksX6_div_0 4 rfl rfl)
theorem dX6_div_5 : decode cX6_div 5 = .ok (.lload_n 2, 1) := dk_32 (dk_at dksX6_div_0 5 rfl rfl)
theorem dX6_div_6 : decode cX6_div 6 = .ok (.ldc2_w 40, 3) := dk_20 0 40 (dk_at dksX6_div_0 6 rfl rfl)
theorem dX6_div_9 : decode cX6_div 9 = .ok (.invokestatic 36, 3) := dk_184 0 36 (dk_at dksX6_div_0 9 rfl rfl)
theorem dX6_div_12 : decode cX6_div 12 = .ok (.ladd, 1) := dk_97 (dk_at dksX6_div_0 12 rfl rfl)
theorem dX6_div_13 : decode cX6_div 13 = .ok (.lload_n 2, 1) := dk_32 (dk_at dksX6_div_0 13 rfl rfl)
theorem dX6_div_14 : decode cX6_div 14 = .ok (.invokestatic 36, 3) := dk_184 0 36 (dk_at dksX6_div_0 14 rfl rfl)
theorem dX6_div_17 : decode cX6_div 17 = .ok (.lreturn, 1) := dk_173 (dk_at dksX6_div_0 17 rfl rfl)
abbrev cX6_down : ByteArray := prog_11_method_7_code
def yX6_down : MethodName := ⟨RX6, "down", "(JJ)J"⟩
def dkwX6_down_0 : List UInt8 := [30, 32, 109, 55, 4, 30, 32, 113, 9, 148, 156, 0, 10, 22, 4, 10, 101, 167, 0, 5, 22, 4, 173]
abbrev dktX6_down_0 : List UInt8 := dkwX6_down_0 ++ []
theorem dksX6_down_0 : cX6_down.data.toList.drop 0 = dktX6_down_0 := by decide +kernel
theorem dX6_down_0 : decode cX6_down 0 = .ok (.lload_n 0, 1) := dk_30 (dk_at dksX6_down_0 0 rfl rfl)
theorem dX6_down_1 : decode cX6_down 1 = .ok (.lload_n 2, 1) := dk_32 (dk_at dksX6_down_0 1 rfl rfl)
theorem dX6_down_2 : decode cX6_down 2 = .ok (.ldiv, 1) := dk_109 (dk_at dksX6_down_0 2 rfl rfl)
theorem dX6_down_3 : decode cX6_down 3 = .ok (.lstore 4, 2) := dk_55 4 (dk_at dksX6_down_0 3 rfl rfl)
theorem dX6_down_5 : decode cX6_down 5 = .ok (.lload_n 0, 1) := dk_30 (dk_at dksX6_down_0 5 rfl rfl)
theorem dX6_down_6 : decode cX6_down 6 = .ok (.lload_n 2, 1) := dk_32 (dk_at dksX6_down_0 6 rfl rfl)
theorem dX6_down_7 : decode cX6_down 7 = .ok (.lrem, 1) := dk_113 (dk_at dksX6_down_0 7 rfl rfl)
theorem dX6_down_8 : decode cX6_down 8 = .ok (.lconst 0, 1) := dk_9 (dk_at dksX6_down_0 8 rfl rfl)
theorem dX6_down_9 : decode cX6_down 9 = .ok (.lcmp, 1) := dk_148 (dk_at dksX6_down_0 9 rfl rfl)
theorem dX6_down_10 : decode cX6_down 10 = .ok (.ifCond .ge 10, 3) := dk_156 0 10 (dk_at dksX6_down_0 10 rfl rfl)
theorem dX6_down_13 : decode cX6_down 13 = .ok (.lload 4, 2) := dk_22 4 (dk_at dksX6_down_0 13 rfl rfl)
theorem dX6_down_15 : decode cX6_down 15 = .ok (.lconst 1, 1) := dk_10 (dk_at dksX6_down_0 15 rfl rfl)
theorem dX6_down_16 : decode cX6_down 16 = .ok (.lsub, 1) := dk_101 (dk_at dksX6_down_0 16 rfl rfl)
theorem dX6_down_17 : decode cX6_down 17 = .ok (.goto 5, 3) := dk_167 0 5 (dk_at dksX6_down_0 17 rfl rfl)
theorem dX6_down_20 : decode cX6_down 20 = .ok (.lload 4, 2) := dk_22 4 (dk_at dksX6_down_0 20 rfl rfl)
theorem dX6_down_22 : decode cX6_down 22 = .ok (.lreturn, 1) := dk_173 (dk_at dksX6_down_0 22 rfl rfl)
abbrev cX6_mul : ByteArray := prog_11_method_8_code
def yX6_mul : MethodName := ⟨RX6, "mul", "(JJ)J"⟩
def dkwX6_mul_0 : List UInt8 := [30, 32, 105, 20, 0, 32, 97, 20, 0, 34, 184, 0, 36, 173]
abbrev dktX6_mul_0 : List UInt8 := dkwX6_mul_0 ++ []
theorem dksX6_mul_0 : cX6_mul.data.toList.drop 0 = dktX6_mul_0 := by decide +kernel
theorem dX6_mul_0 : decode cX6_mul 0 = .ok (.lload_n 0, 1) := dk_30 (dk_at dksX6_mul_0 0 rfl rfl)
theorem dX6_mul_1 : decode cX6_mul 1 = .ok (.lload_n 2, 1) := dk_32 (dk_at dksX6_mul_0 1 rfl rfl)
theorem dX6_mul_2 : decode cX6_mul 2 = .ok (.lmul, 1) := dk_105 (dk_at dksX6_mul_0 2 rfl rfl)
theorem dX6_mul_3 : decode cX6_mul 3 = .ok (.ldc2_w 32, 3) := dk_20 0 32 (dk_at dksX6_mul_0 3 rfl rfl)
theorem dX6_mul_6 : decode cX6_mul 6 = .ok (.ladd, 1) := dk_97 (dk_at dksX6_mul_0 6 rfl rfl)
theorem dX6_mul_7 : decode cX6_mul 7 = .ok (.ldc2_w 34, 3) := dk_20 0 34 (dk_at dksX6_mul_0 7 rfl rfl)
theorem dX6_mul_10 : decode cX6_mul 10 = .ok (.invokestatic 36, 3) := dk_184 0 36 (dk_at dksX6_mul_0 10 rfl rfl)
theorem dX6_mul_13 : decode cX6_mul 13 = .ok (.lreturn, 1) := dk_173 (dk_at dksX6_mul_0 13 rfl rfl)
abbrev cX6_miss : ByteArray := prog_11_method_23_code
def yX6_miss : MethodName := ⟨RX6, "miss", "(I)I"⟩
def dkwX6_miss_1 : List UInt8 := [92, 46, 4, 96, 79, 42, 180, 0, 7, 16, 21, 46, 172]
abbrev dktX6_miss_1 : List UInt8 := dkwX6_miss_1 ++ []
def dkwX6_miss_0 : List UInt8 := [27, 184, 0, 81, 154, 0, 10, 42, 18, 26, 182, 0, 74, 172, 42, 182, 0, 78, 42, 180, 0, 7, 16, 21]
abbrev dktX6_miss_0 : List UInt8 := dkwX6_miss_0 ++ dktX6_miss_1
theorem dksX6_miss_0 : cX6_miss.data.toList.drop 0 = dktX6_miss_0 := by decide +kernel
theorem dksX6_miss_1 : cX6_miss.data.toList.drop 24 = dktX6_miss_1 := dk_seg dksX6_miss_0 24 rfl rfl
theorem dX6_miss_0 : decode cX6_miss 0 = .ok (.iload_n 1, 1) := dk_27 (dk_at dksX6_miss_0 0 rfl rfl)
theorem dX6_miss_1 : decode cX6_miss 1 = .ok (.invokestatic 81, 3) := dk_184 0 81 (dk_at dksX6_miss_0 1 rfl rfl)
theorem dX6_miss_4 : decode cX6_miss 4 = .ok (.ifCond .ne 10, 3) := dk_154 0 10 (dk_at dksX6_miss_0 4 rfl rfl)
theorem dX6_miss_7 : decode cX6_miss 7 = .ok (.aload_n 0, 1) := dk_42 (dk_at dksX6_miss_0 7 rfl rfl)
theorem dX6_miss_8 : decode cX6_miss 8 = .ok (.ldc 26, 2) := dk_18 26 (dk_at dksX6_miss_0 8 rfl rfl)
theorem dX6_miss_10 : decode cX6_miss 10 = .ok (.invokevirtual 74, 3) := dk_182 0 74 (dk_at dksX6_miss_0 10 rfl rfl)
theorem dX6_miss_13 : decode cX6_miss 13 = .ok (.ireturn, 1) := dk_172 (dk_at dksX6_miss_0 13 rfl rfl)
theorem dX6_miss_14 : decode cX6_miss 14 = .ok (.aload_n 0, 1) := dk_42 (dk_at dksX6_miss_0 14 rfl rfl)
theorem dX6_miss_15 : decode cX6_miss 15 = .ok (.invokevirtual 78, 3) := dk_182 0 78 (dk_at dksX6_miss_0 15 rfl rfl)
theorem dX6_miss_18 : decode cX6_miss 18 = .ok (.aload_n 0, 1) := dk_42 (dk_at dksX6_miss_0 18 rfl rfl)
theorem dX6_miss_19 : decode cX6_miss 19 = .ok (.getfield 7, 3) := dk_180 0 7 (dk_at dksX6_miss_0 19 rfl rfl)
theorem dX6_miss_22 : decode cX6_miss 22 = .ok (.bipush 21, 2) := dk_16 21 (dk_at dksX6_miss_0 22 rfl rfl)
theorem dX6_miss_24 : decode cX6_miss 24 = .ok (.dup2, 1) := dk_92 (dk_at dksX6_miss_1 0 rfl rfl)
theorem dX6_miss_25 : decode cX6_miss 25 = .ok (.iaload, 1) := dk_46 (dk_at dksX6_miss_1 1 rfl rfl)
theorem dX6_miss_26 : decode cX6_miss 26 = .ok (.iconst 1, 1) := dk_4 (dk_at dksX6_miss_1 2 rfl rfl)
theorem dX6_miss_27 : decode cX6_miss 27 = .ok (.iadd, 1) := dk_96 (dk_at dksX6_miss_1 3 rfl rfl)
theorem dX6_miss_28 : decode cX6_miss 28 = .ok (.iastore, 1) := dk_79 (dk_at dksX6_miss_1 4 rfl rfl)
theorem dX6_miss_29 : decode cX6_miss 29 = .ok (.aload_n 0, 1) := dk_42 (dk_at dksX6_miss_1 5 rfl rfl)
theorem dX6_miss_30 : decode cX6_miss 30 = .ok (.getfield 7, 3) := dk_180 0 7 (dk_at dksX6_miss_1 6 rfl rfl)
theorem dX6_miss_33 : decode cX6_miss 33 = .ok (.bipush 21, 2) := dk_16 21 (dk_at dksX6_miss_1 9 rfl rfl)
theorem dX6_miss_35 : decode cX6_miss 35 = .ok (.iaload, 1) := dk_46 (dk_at dksX6_miss_1 11 rfl rfl)
theorem dX6_miss_36 : decode cX6_miss 36 = .ok (.ireturn, 1) := dk_172 (dk_at dksX6_miss_1 12 rfl rfl)
abbrev cX6_level : ByteArray := prog_11_method_24_code
def yX6_level : MethodName := ⟨RX6, "level", "()I"⟩
def dkwX6_level_0 : List UInt8 := [42, 180, 0, 7, 3, 46, 172]
abbrev dktX6_level_0 : List UInt8 := dkwX6_level_0 ++ []
theorem dksX6_level_0 : cX6_level.data.toList.drop 0 = dktX6_level_0 := by decide +kernel
theorem dX6_level_0 : decode cX6_level 0 = .ok (.aload_n 0, 1) := dk_42 (dk_at dksX6_level_0 0 rfl rfl)
theorem dX6_level_1 : decode cX6_level 1 = .ok (.getfield 7, 3) := dk_180 0 7 (dk_at dksX6_level_0 1 rfl rfl)
theorem dX6_level_4 : decode cX6_level 4 = .ok (.iconst 0, 1) := dk_3 (dk_at dksX6_level_0 4 rfl rfl)
theorem dX6_level_5 : decode cX6_level 5 = .ok (.iaload, 1) := dk_46 (dk_at dksX6_level_0 5 rfl rfl)
theorem dX6_level_6 : decode cX6_level 6 = .ok (.ireturn, 1) := dk_172 (dk_at dksX6_level_0 6 rfl rfl)
abbrev cX6_flow : ByteArray := prog_11_method_25_code
def yX6_flow : MethodName := ⟨RX6, "flow", "()I"⟩
def dkwX6_flow_0 : List UInt8 := [42, 180, 0, 7, 4, 46, 172]
abbrev dktX6_flow_0 : List UInt8 := dkwX6_flow_0 ++ []
theorem dksX6_flow_0 : cX6_flow.data.toList.drop 0 = dktX6_flow_0 := by decide +kernel
theorem dX6_flow_0 : decode cX6_flow 0 = .ok (.aload_n 0, 1) := dk_42 (dk_at dksX6_flow_0 0 rfl rfl)
theorem dX6_flow_1 : decode cX6_flow 1 = .ok (.getfield 7, 3) := dk_180 0 7 (dk_at dksX6_flow_0 1 rfl rfl)
theorem dX6_flow_4 : decode cX6_flow 4 = .ok (.iconst 1, 1) := dk_4 (dk_at dksX6_flow_0 4 rfl rfl)
theorem dX6_flow_5 : decode cX6_flow 5 = .ok (.iaload, 1) := dk_46 (dk_at dksX6_flow_0 5 rfl rfl)
theorem dX6_flow_6 : decode cX6_flow 6 = .ok (.ireturn, 1) := dk_172 (dk_at dksX6_flow_0 6 rfl rfl)
abbrev cX6_levelVariance : ByteArray := prog_11_method_26_code
def yX6_levelVariance : MethodName := ⟨RX6, "levelVariance", "()I"⟩
def dkwX6_levelVariance_0 : List UInt8 := [42, 180, 0, 7, 5, 46, 172]
abbrev dktX6_levelVariance_0 : List UInt8 := dkwX6_levelVariance_0 ++ []
theorem dksX6_levelVariance_0 : cX6_levelVariance.data.toList.drop 0 = dktX6_levelVariance_0 := by decide +kernel
theorem dX6_levelVariance_0 : decode cX6_levelVariance 0 = .ok (.aload_n 0, 1) := dk_42 (dk_at dksX6_levelVariance_0 0 rfl rfl)
theorem dX6_levelVariance_1 : decode cX6_levelVariance 1 = .ok (.getfield 7, 3) := dk_180 0 7 (dk_at dksX6_levelVariance_0 1 rfl rfl)
theorem dX6_levelVariance_4 : decode cX6_levelVariance 4 = .ok (.iconst 2, 1) := dk_5 (dk_at dksX6_levelVariance_0 4 rfl rfl)
theorem dX6_levelVariance_5 : decode cX6_levelVariance 5 = .ok (.iaload, 1) := dk_46 (dk_at dksX6_levelVariance_0 5 rfl rfl)
theorem dX6_levelVariance_6 : decode cX6_levelVariance 6 = .ok (.ireturn, 1) := dk_172 (dk_at dksX6_levelVariance_0 6 rfl rfl)
abbrev cX6_covariance : ByteArray := prog_11_method_27_code
def yX6_covariance : MethodName := ⟨RX6, "covariance", "()I"⟩
def dkwX6_covariance_0 : List UInt8 := [42, 180, 0, 7, 6, 46, 172]
abbrev dktX6_covariance_0 : List UInt8 := dkwX6_covariance_0 ++ []
theorem dksX6_covariance_0 : cX6_covariance.data.toList.drop 0 = dktX6_covariance_0 := by decide +kernel
theorem dX6_covariance_0 : decode cX6_covariance 0 = .ok (.aload_n 0, 1) := dk_42 (dk_at dksX6_covariance_0 0 rfl rfl)
theorem dX6_covariance_1 : decode cX6_covariance 1 = .ok (.getfield 7, 3) := dk_180 0 7 (dk_at dksX6_covariance_0 1 rfl rfl)
theorem dX6_covariance_4 : decode cX6_covariance 4 = .ok (.iconst 3, 1) := dk_6 (dk_at dksX6_covariance_0 4 rfl rfl)
theorem dX6_covariance_5 : decode cX6_covariance 5 = .ok (.iaload, 1) := dk_46 (dk_at dksX6_covariance_0 5 rfl rfl)
theorem dX6_covariance_6 : decode cX6_covariance 6 = .ok (.ireturn, 1) := dk_172 (dk_at dksX6_covariance_0 6 rfl rfl)
abbrev cX6_flowVariance : ByteArray := prog_11_method_28_code
def yX6_flowVariance : MethodName := ⟨RX6, "flowVariance", "()I"⟩
def dkwX6_flowVariance_0 : List UInt8 := [42, 180, 0, 7, 7, 46, 172]
abbrev dktX6_flowVariance_0 : List UInt8 := dkwX6_flowVariance_0 ++ []
theorem dksX6_flowVariance_0 : cX6_flowVariance.data.toList.drop 0 = dktX6_flowVariance_0 := by decide +kernel
theorem dX6_flowVariance_0 : decode cX6_flowVariance 0 = .ok (.aload_n 0, 1) := dk_42 (dk_at dksX6_flowVariance_0 0 rfl rfl)
theorem dX6_flowVariance_1 : decode cX6_flowVariance 1 = .ok (.getfield 7, 3) := dk_180 0 7 (dk_at dksX6_flowVariance_0 1 rfl rfl)
theorem dX6_flowVariance_4 : decode cX6_flowVariance 4 = .ok (.iconst 4, 1) := dk_7 (dk_at dksX6_flowVariance_0 4 rfl rfl)
theorem dX6_flowVariance_5 : decode cX6_flowVariance 5 = .ok (.iaload, 1) := dk_46 (dk_at dksX6_flowVariance_0 5 rfl rfl)
theorem dX6_flowVariance_6 : decode cX6_flowVariance 6 = .ok (.ireturn, 1) := dk_172 (dk_at dksX6_flowVariance_0 6 rfl rfl)
abbrev cX6_innovation : ByteArray := prog_11_method_29_code
def yX6_innovation : MethodName := ⟨RX6, "innovation", "()I"⟩
def dkwX6_innovation_0 : List UInt8 := [42, 180, 0, 7, 16, 16, 46, 172]
abbrev dktX6_innovation_0 : List UInt8 := dkwX6_innovation_0 ++ []
theorem dksX6_innovation_0 : cX6_innovation.data.toList.drop 0 = dktX6_innovation_0 := by decide +kernel
theorem dX6_innovation_0 : decode cX6_innovation 0 = .ok (.aload_n 0, 1) := dk_42 (dk_at dksX6_innovation_0 0 rfl rfl)
theorem dX6_innovation_1 : decode cX6_innovation 1 = .ok (.getfield 7, 3) := dk_180 0 7 (dk_at dksX6_innovation_0 1 rfl rfl)
theorem dX6_innovation_4 : decode cX6_innovation 4 = .ok (.bipush 16, 2) := dk_16 16 (dk_at dksX6_innovation_0 4 rfl rfl)
theorem dX6_innovation_6 : decode cX6_innovation 6 = .ok (.iaload, 1) := dk_46 (dk_at dksX6_innovation_0 6 rfl rfl)
theorem dX6_innovation_7 : decode cX6_innovation 7 = .ok (.ireturn, 1) := dk_172 (dk_at dksX6_innovation_0 7 rfl rfl)
abbrev cX6_levelGain : ByteArray := prog_11_method_30_code
def yX6_levelGain : MethodName := ⟨RX6, "levelGain", "()I"⟩
def dkwX6_levelGain_0 : List UInt8 := [42, 180, 0, 7, 16, 17, 46, 172]
abbrev dktX6_levelGain_0 : List UInt8 := dkwX6_levelGain_0 ++ []
theorem dksX6_levelGain_0 : cX6_levelGain.data.toList.drop 0 = dktX6_levelGain_0 := by decide +kernel
theorem dX6_levelGain_0 : decode cX6_levelGain 0 = .ok (.aload_n 0, 1) := dk_42 (dk_at dksX6_levelGain_0 0 rfl rfl)
theorem dX6_levelGain_1 : decode cX6_levelGain 1 = .ok (.getfield 7, 3) := dk_180 0 7 (dk_at dksX6_levelGain_0 1 rfl rfl)
theorem dX6_levelGain_4 : decode cX6_levelGain 4 = .ok (.bipush 17, 2) := dk_16 17 (dk_at dksX6_levelGain_0 4 rfl rfl)
theorem dX6_levelGain_6 : decode cX6_levelGain 6 = .ok (.iaload, 1) := dk_46 (dk_at dksX6_levelGain_0 6 rfl rfl)
theorem dX6_levelGain_7 : decode cX6_levelGain 7 = .ok (.ireturn, 1) := dk_172 (dk_at dksX6_levelGain_0 7 rfl rfl)
abbrev cX6_flowGain : ByteArray := prog_11_method_31_code
def yX6_flowGain : MethodName := ⟨RX6, "flowGain", "()I"⟩
def dkwX6_flowGain_0 : List UInt8 := [42, 180, 0, 7, 16, 18, 46, 172]
abbrev dktX6_flowGain_0 : List UInt8 := dkwX6_flowGain_0 ++ []
theorem dksX6_flowGain_0 : cX6_flowGain.data.toList.drop 0 = dktX6_flowGain_0 := by decide +kernel
theorem dX6_flowGain_0 : decode cX6_flowGain 0 = .ok (.aload_n 0, 1) := dk_42 (dk_at dksX6_flowGain_0 0 rfl rfl)
theorem dX6_flowGain_1 : decode cX6_flowGain 1 = .ok (.getfield 7, 3) := dk_180 0 7 (dk_at dksX6_flowGain_0 1 rfl rfl)
theorem dX6_flowGain_4 : decode cX6_flowGain 4 = .ok (.bipush 18, 2) := dk_16 18 (dk_at dksX6_flowGain_0 4 rfl rfl)
theorem dX6_flowGain_6 : decode cX6_flowGain 6 = .ok (.iaload, 1) := dk_46 (dk_at dksX6_flowGain_0 6 rfl rfl)
theorem dX6_flowGain_7 : decode cX6_flowGain 7 = .ok (.ireturn, 1) := dk_172 (dk_at dksX6_flowGain_0 7 rfl rfl)
abbrev cX6_accepted : ByteArray := prog_11_method_32_code
def yX6_accepted : MethodName := ⟨RX6, "accepted", "()I"⟩
def dkwX6_accepted_0 : List UInt8 := [42, 180, 0, 7, 16, 19, 46, 172]
abbrev dktX6_accepted_0 : List UInt8 := dkwX6_accepted_0 ++ []
theorem dksX6_accepted_0 : cX6_accepted.data.toList.drop 0 = dktX6_accepted_0 := by decide +kernel
theorem dX6_accepted_0 : decode cX6_accepted 0 = .ok (.aload_n 0, 1) := dk_42 (dk_at dksX6_accepted_0 0 rfl rfl)
theorem dX6_accepted_1 : decode cX6_accepted 1 = .ok (.getfield 7, 3) := dk_180 0 7 (dk_at dksX6_accepted_0 1 rfl rfl)
theorem dX6_accepted_4 : decode cX6_accepted 4 = .ok (.bipush 19, 2) := dk_16 19 (dk_at dksX6_accepted_0 4 rfl rfl)
theorem dX6_accepted_6 : decode cX6_accepted 6 = .ok (.iaload, 1) := dk_46 (dk_at dksX6_accepted_0 6 rfl rfl)
theorem dX6_accepted_7 : decode cX6_accepted 7 = .ok (.ireturn, 1) := dk_172 (dk_at dksX6_accepted_0 7 rfl rfl)
abbrev cX6_rejected : ByteArray := prog_11_method_33_code
def yX6_rejected : MethodName := ⟨RX6, "rejected", "()I"⟩
def dkwX6_rejected_0 : List UInt8 := [42, 180, 0, 7, 16, 20, 46, 172]
abbrev dktX6_rejected_0 : List UInt8 := dkwX6_rejected_0 ++ []
theorem dksX6_rejected_0 : cX6_rejected.data.toList.drop 0 = dktX6_rejected_0 := by decide +kernel
theorem dX6_rejected_0 : decode cX6_rejected 0 = .ok (.aload_n 0, 1) := dk_42 (dk_at dksX6_rejected_0 0 rfl rfl)
theorem dX6_rejected_1 : decode cX6_rejected 1 = .ok (.getfield 7, 3) := dk_180 0 7 (dk_at dksX6_rejected_0 1 rfl rfl)
theorem dX6_rejected_4 : decode cX6_rejected 4 = .ok (.bipush 20, 2) := dk_16 20 (dk_at dksX6_rejected_0 4 rfl rfl)
theorem dX6_rejected_6 : decode cX6_rejected 6 = .ok (.iaload, 1) := dk_46 (dk_at dksX6_rejected_0 6 rfl rfl)
theorem dX6_rejected_7 : decode cX6_rejected 7 = .ok (.ireturn, 1) := dk_172 (dk_at dksX6_rejected_0 7 rfl rfl)
abbrev cX6_missed : ByteArray := prog_11_method_34_code
def yX6_missed : MethodName := ⟨RX6, "missed", "()I"⟩
def dkwX6_missed_0 : List UInt8 := [42, 180, 0, 7, 16, 21, 46, 172]
abbrev dktX6_missed_0 : List UInt8 := dkwX6_missed_0 ++ []
theorem dksX6_missed_0 : cX6_missed.data.toList.drop 0 = dktX6_missed_0 := by decide +kernel
theorem dX6_missed_0 : decode cX6_missed 0 = .ok (.aload_n 0, 1) := dk_42 (dk_at dksX6_missed_0 0 rfl rfl)
theorem dX6_missed_1 : decode cX6_missed 1 = .ok (.getfield 7, 3) := dk_180 0 7 (dk_at dksX6_missed_0 1 rfl rfl)
theorem dX6_missed_4 : decode cX6_missed 4 = .ok (.bipush 21, 2) := dk_16 21 (dk_at dksX6_missed_0 4 rfl rfl)
theorem dX6_missed_6 : decode cX6_missed 6 = .ok (.iaload, 1) := dk_46 (dk_at dksX6_missed_0 6 rfl rfl)
theorem dX6_missed_7 : decode cX6_missed 7 = .ok (.ireturn, 1) := dk_172 (dk_at dksX6_missed_0 7 rfl rfl)
abbrev cX6_historyLength : ByteArray := prog_11_method_35_code
def yX6_historyLength : MethodName := ⟨RX6, "historyLength", "()I"⟩
def dkwX6_historyLength_0 : List UInt8 := [42, 180, 0, 7, 16, 22, 46, 172]
abbrev dktX6_historyLength_0 : List UInt8 := dkwX6_historyLength_0 ++ []
theorem dksX6_historyLength_0 : cX6_historyLength.data.toList.drop 0 = dktX6_historyLength_0 := by decide +kernel
theorem dX6_historyLength_0 : decode cX6_historyLength 0 = .ok (.aload_n 0, 1) := dk_42 (dk_at dksX6_historyLength_0 0 rfl rfl)
theorem dX6_historyLength_1 : decode cX6_historyLength 1 = .ok (.getfield 7, 3) := dk_180 0 7 (dk_at dksX6_historyLength_0 1 rfl rfl)
theorem dX6_historyLength_4 : decode cX6_historyLength 4 = .ok (.bipush 22, 2) := dk_16 22 (dk_at dksX6_historyLength_0 4 rfl rfl)
theorem dX6_historyLength_6 : decode cX6_historyLength 6 = .ok (.iaload, 1) := dk_46 (dk_at dksX6_historyLength_0 6 rfl rfl)
theorem dX6_historyLength_7 : decode cX6_historyLength 7 = .ok (.ireturn, 1) := dk_172 (dk_at dksX6_historyLength_0 7 rfl rfl)
abbrev cX6_forecast : ByteArray := prog_11_method_37_code
def yX6_forecast : MethodName := ⟨RX6, "forecast", "(I)I"⟩
def dkwX6_forecast_1 : List UInt8 := [153, 0, 13, 42, 180, 0, 19, 3, 47, 136, 167, 0, 9, 42, 18, 92, 182, 0, 74, 172]
abbrev dktX6_forecast_1 : List UInt8 := dkwX6_forecast_1 ++ []
def dkwX6_forecast_0 : List UInt8 := [27, 3, 16, 100, 184, 0, 68, 154, 0, 10, 42, 18, 26, 182, 0, 74, 172, 42, 27, 182, 0, 104]
abbrev dktX6_forecast_0 : List UInt8 := dkwX6_forecast_0 ++ dktX6_forecast_1
theorem dksX6_forecast_0 : cX6_forecast.data.toList.drop 0 = dktX6_forecast_0 := by decide +kernel
theorem dksX6_forecast_1 : cX6_forecast.data.toList.drop 22 = dktX6_forecast_1 := dk_seg dksX6_forecast_0 22 rfl rfl
theorem dX6_forecast_0 : decode cX6_forecast 0 = .ok (.iload_n 1, 1) := dk_27 (dk_at dksX6_forecast_0 0 rfl rfl)
theorem dX6_forecast_1 : decode cX6_forecast 1 = .ok (.iconst 0, 1) := dk_3 (dk_at dksX6_forecast_0 1 rfl rfl)
theorem dX6_forecast_2 : decode cX6_forecast 2 = .ok (.bipush 100, 2) := dk_16 100 (dk_at dksX6_forecast_0 2 rfl rfl)
theorem dX6_forecast_4 : decode cX6_forecast 4 = .ok (.invokestatic 68, 3) := dk_184 0 68 (dk_at dksX6_forecast_0 4 rfl rfl)
theorem dX6_forecast_7 : decode cX6_forecast 7 = .ok (.ifCond .ne 10, 3) := dk_154 0 10 (dk_at dksX6_forecast_0 7 rfl rfl)
theorem dX6_forecast_10 : decode cX6_forecast 10 = .ok (.aload_n 0, 1) := dk_42 (dk_at dksX6_forecast_0 10 rfl rfl)
theorem dX6_forecast_11 : decode cX6_forecast 11 = .ok (.ldc 26, 2) := dk_18 26 (dk_at dksX6_forecast_0 11 rfl rfl)
theorem dX6_forecast_13 : decode cX6_forecast 13 = .ok (.invokevirtual 74, 3) := dk_182 0 74 (dk_at dksX6_forecast_0 13 rfl rfl)
theorem dX6_forecast_16 : decode cX6_forecast 16 = .ok (.ireturn, 1) := dk_172 (dk_at dksX6_forecast_0 16 rfl rfl)
theorem dX6_forecast_17 : decode cX6_forecast 17 = .ok (.aload_n 0, 1) := dk_42 (dk_at dksX6_forecast_0 17 rfl rfl)
theorem dX6_forecast_18 : decode cX6_forecast 18 = .ok (.iload_n 1, 1) := dk_27 (dk_at dksX6_forecast_0 18 rfl rfl)
theorem dX6_forecast_19 : decode cX6_forecast 19 = .ok (.invokevirtual 104, 3) := dk_182 0 104 (dk_at dksX6_forecast_0 19 rfl rfl)
theorem dX6_forecast_22 : decode cX6_forecast 22 = .ok (.ifCond .eq 13, 3) := dk_153 0 13 (dk_at dksX6_forecast_1 0 rfl rfl)
theorem dX6_forecast_25 : decode cX6_forecast 25 = .ok (.aload_n 0, 1) := dk_42 (dk_at dksX6_forecast_1 3 rfl rfl)
theorem dX6_forecast_26 : decode cX6_forecast 26 = .ok (.getfield 19, 3) := dk_180 0 19 (dk_at dksX6_forecast_1 4 rfl rfl)
theorem dX6_forecast_29 : decode cX6_forecast 29 = .ok (.iconst 0, 1) := dk_3 (dk_at dksX6_forecast_1 7 rfl rfl)
theorem dX6_forecast_30 : decode cX6_forecast 30 = .ok (.laload, 1) := dk_47 (dk_at dksX6_forecast_1 8 rfl rfl)
theorem dX6_forecast_31 : decode cX6_forecast 31 = .ok (.l2i, 1) := dk_136 (dk_at dksX6_forecast_1 9 rfl rfl)
theorem dX6_forecast_32 : decode cX6_forecast 32 = .ok (.goto 9, 3) := dk_167 0 9 (dk_at dksX6_forecast_1 10 rfl rfl)
theorem dX6_forecast_35 : decode cX6_forecast 35 = .ok (.aload_n 0, 1) := dk_42 (dk_at dksX6_forecast_1 13 rfl rfl)
theorem dX6_forecast_36 : decode cX6_forecast 36 = .ok (.ldc 92, 2) := dk_18 92 (dk_at dksX6_forecast_1 14 rfl rfl)
theorem dX6_forecast_38 : decode cX6_forecast 38 = .ok (.invokevirtual 74, 3) := dk_182 0 74 (dk_at dksX6_forecast_1 16 rfl rfl)
theorem dX6_forecast_41 : decode cX6_forecast 41 = .ok (.ireturn, 1) := dk_172 (dk_at dksX6_forecast_1 19 rfl rfl)
abbrev cX6_goesOn : ByteArray := prog_11_method_36_code
def yX6_goesOn : MethodName := ⟨RX6, "goesOn", "(I)Z"⟩
def dkwX6_goesOn_1 : List UInt8 := [16, 6, 46, 182, 0, 88, 61, 132, 3, 1, 167, 255, 231, 28, 172]
abbrev dktX6_goesOn_1 : List UInt8 := dkwX6_goesOn_1 ++ []
def dkwX6_goesOn_0 : List UInt8 := [42, 182, 0, 85, 4, 61, 3, 62, 29, 27, 162, 0, 26, 28, 153, 0, 22, 42, 3, 42, 180, 0, 7]
abbrev dktX6_goesOn_0 : List UInt8 := dkwX6_goesOn_0 ++ dktX6_goesOn_1
theorem dksX6_goesOn_0 : cX6_goesOn.data.toList.drop 0 = dktX6_goesOn_0 := by decide +kernel
theorem dksX6_goesOn_1 : cX6_goesOn.data.toList.drop 23 = dktX6_goesOn_1 := dk_seg dksX6_goesOn_0 23 rfl rfl
theorem dX6_goesOn_0 : decode cX6_goesOn 0 = .ok (.aload_n 0, 1) := dk_42 (dk_at dksX6_goesOn_0 0 rfl rfl)
theorem dX6_goesOn_1 : decode cX6_goesOn 1 = .ok (.invokevirtual 85, 3) := dk_182 0 85 (dk_at dksX6_goesOn_0 1 rfl rfl)
theorem dX6_goesOn_4 : decode cX6_goesOn 4 = .ok (.iconst 1, 1) := dk_4 (dk_at dksX6_goesOn_0 4 rfl rfl)
theorem dX6_goesOn_5 : decode cX6_goesOn 5 = .ok (.istore_n 2, 1) := dk_61 (dk_at dksX6_goesOn_0 5 rfl rfl)
theorem dX6_goesOn_6 : decode cX6_goesOn 6 = .ok (.iconst 0, 1) := dk_3 (dk_at dksX6_goesOn_0 6 rfl rfl)
theorem dX6_goesOn_7 : decode cX6_goesOn 7 = .ok (.istore_n 3, 1) := dk_62 (dk_at dksX6_goesOn_0 7 rfl rfl)
theorem dX6_goesOn_8 : decode cX6_goesOn 8 = .ok (.iload_n 3, 1) := dk_29 (dk_at dksX6_goesOn_0 8 rfl rfl)
theorem dX6_goesOn_9 : decode cX6_goesOn 9 = .ok (.iload_n 1, 1) := dk_27 (dk_at dksX6_goesOn_0 9 rfl rfl)
theorem dX6_goesOn_10 : decode cX6_goesOn 10 = .ok (.if_icmp .ge 26, 3) := dk_162 0 26 (dk_at dksX6_goesOn_0 10 rfl rfl)
theorem dX6_goesOn_13 : decode cX6_goesOn 13 = .ok (.iload_n 2, 1) := dk_28 (dk_at dksX6_goesOn_0 13 rfl rfl)
theorem dX6_goesOn_14 : decode cX6_goesOn 14 = .ok (.ifCond .eq 22, 3) := dk_153 0 22 (dk_at dksX6_goesOn_0 14 rfl rfl)
theorem dX6_goesOn_17 : decode cX6_goesOn 17 = .ok (.aload_n 0, 1) := dk_42 (dk_at dksX6_goesOn_0 17 rfl rfl)
theorem dX6_goesOn_18 : decode cX6_goesOn 18 = .ok (.iconst 0, 1) := dk_3 (dk_at dksX6_goesOn_0 18 rfl rfl)
theorem dX6_goesOn_19 : decode cX6_goesOn 19 = .ok (.aload_n 0, 1) := dk_42 (dk_at dksX6_goesOn_0 19 rfl rfl)
theorem dX6_goesOn_20 : decode cX6_goesOn 20 = .ok (.getfield 7, 3) := dk_180 0 7 (dk_at dksX6_goesOn_0 20 rfl rfl)
theorem dX6_goesOn_23 : decode cX6_goesOn 23 = .ok (.bipush 6, 2) := dk_16 6 (dk_at dksX6_goesOn_1 0 rfl rfl)
theorem dX6_goesOn_25 : decode cX6_goesOn 25 = .ok (.iaload, 1) := dk_46 (dk_at dksX6_goesOn_1 2 rfl rfl)
theorem dX6_goesOn_26 : decode cX6_goesOn 26 = .ok (.invokevirtual 88, 3) := dk_182 0 88 (dk_at dksX6_goesOn_1 3 rfl rfl)
theorem dX6_goesOn_29 : decode cX6_goesOn 29 = .ok (.istore_n 2, 1) := dk_61 (dk_at dksX6_goesOn_1 6 rfl rfl)
theorem dX6_goesOn_30 : decode cX6_goesOn 30 = .ok (.iinc 3 1, 3) := dk_132 3 1 (dk_at dksX6_goesOn_1 7 rfl rfl)
theorem dX6_goesOn_33 : decode cX6_goesOn 33 = .ok (.goto (-25), 3) := dk_167 255 231 (dk_at dksX6_goesOn_1 10 rfl rfl)
theorem dX6_goesOn_36 : decode cX6_goesOn 36 = .ok (.iload_n 2, 1) := dk_28 (dk_at dksX6_goesOn_1 13 rfl rfl)
theorem dX6_goesOn_37 : decode cX6_goesOn 37 = .ok (.ireturn, 1) := dk_172 (dk_at dksX6_goesOn_1 14 rfl rfl)
abbrev cX6_forecastVariance : ByteArray := prog_11_method_38_code
def yX6_forecastVariance : MethodName := ⟨RX6, "forecastVariance", "(I)I"⟩
def dkwX6_forecastVariance_1 : List UInt8 := [153, 0, 13, 42, 180, 0, 19, 5, 47, 136, 167, 0, 9, 42, 18, 92, 182, 0, 74, 172]
abbrev dktX6_forecastVariance_1 : List UInt8 := dkwX6_forecastVariance_1 ++ []
def dkwX6_forecastVariance_0 : List UInt8 := [27, 3, 16, 100, 184, 0, 68, 154, 0, 10, 42, 18, 26, 182, 0, 74, 172, 42, 27, 182, 0, 104]
abbrev dktX6_forecastVariance_0 : List UInt8 := dkwX6_forecastVariance_0 ++ dktX6_forecastVariance_1
theorem dksX6_forecastVariance_0 : cX6_forecastVariance.data.toList.drop 0 = dktX6_forecastVariance_0 := by decide +kernel
theorem dksX6_forecastVariance_1 : cX6_forecastVariance.data.toList.drop 22 = dktX6_forecastVariance_1 := dk_seg dksX6_forecastVariance_0 22 rfl rfl
theorem dX6_forecastVariance_0 : decode cX6_forecastVariance 0 = .ok (.iload_n 1, 1) := dk_27 (dk_at dksX6_forecastVariance_0 0 rfl rfl)
theorem dX6_forecastVariance_1 : decode cX6_forecastVariance 1 = .ok (.iconst 0, 1) := dk_3 (dk_at dksX6_forecastVariance_0 1 rfl rfl)
theorem dX6_forecastVariance_2 : decode cX6_forecastVariance 2 = .ok (.bipush 100, 2) := dk_16 100 (dk_at dksX6_forecastVariance_0 2 rfl rfl)
theorem dX6_forecastVariance_4 : decode cX6_forecastVariance 4 = .ok (.invokestatic 68, 3) := dk_184 0 68 (dk_at dksX6_forecastVariance_0 4 rfl rfl)
theorem dX6_forecastVariance_7 : decode cX6_forecastVariance 7 = .ok (.ifCond .ne 10, 3) := dk_154 0 10 (dk_at dksX6_forecastVariance_0 7 rfl rfl)
theorem dX6_forecastVariance_10 : decode cX6_forecastVariance 10 = .ok (.aload_n 0, 1) := dk_42 (dk_at dksX6_forecastVariance_0 10 rfl rfl)
theorem dX6_forecastVariance_11 : decode cX6_forecastVariance 11 = .ok (.ldc 26, 2) := dk_18 26 (dk_at dksX6_forecastVariance_0 11 rfl rfl)
theorem dX6_forecastVariance_13 : decode cX6_forecastVariance 13 = .ok (.invokevirtual 74, 3) := dk_182 0 74 (dk_at dksX6_forecastVariance_0 13 rfl rfl)
theorem dX6_forecastVariance_16 : decode cX6_forecastVariance 16 = .ok (.ireturn, 1) := dk_172 (dk_at dksX6_forecastVariance_0 16 rfl rfl)
theorem dX6_forecastVariance_17 : decode cX6_forecastVariance 17 = .ok (.aload_n 0, 1) := dk_42 (dk_at dksX6_forecastVariance_0 17 rfl rfl)
theorem dX6_forecastVariance_18 : decode cX6_forecastVariance 18 = .ok (.iload_n 1, 1) := dk_27 (dk_at dksX6_forecastVariance_0 18 rfl rfl)
theorem dX6_forecastVariance_19 : decode cX6_forecastVariance 19 = .ok (.invokevirtual 104, 3) := dk_182 0 104 (dk_at dksX6_forecastVariance_0 19 rfl rfl)
theorem dX6_forecastVariance_22 : decode cX6_forecastVariance 22 = .ok (.ifCond .eq 13, 3) := dk_153 0 13 (dk_at dksX6_forecastVariance_1 0 rfl rfl)
theorem dX6_forecastVariance_25 : decode cX6_forecastVariance 25 = .ok (.aload_n 0, 1) := dk_42 (dk_at dksX6_forecastVariance_1 3 rfl rfl)
theorem dX6_forecastVariance_26 : decode cX6_forecastVariance 26 = .ok (.getfield 19, 3) := dk_180 0 19 (dk_at dksX6_forecastVariance_1 4 rfl rfl)
theorem dX6_forecastVariance_29 : decode cX6_forecastVariance 29 = .ok (.iconst 2, 1) := dk_5 (dk_at dksX6_forecastVariance_1 7 rfl rfl)
theorem dX6_forecastVariance_30 : decode cX6_forecastVariance 30 = .ok (.laload, 1) := dk_47 (dk_at dksX6_forecastVariance_1 8 rfl rfl)
theorem dX6_forecastVariance_31 : decode cX6_forecastVariance 31 = .ok (.l2i, 1) := dk_136 (dk_at dksX6_forecastVariance_1 9 rfl rfl)
theorem dX6_forecastVariance_32 : decode cX6_forecastVariance 32 = .ok (.goto 9, 3) := dk_167 0 9 (dk_at dksX6_forecastVariance_1 10 rfl rfl)
theorem dX6_forecastVariance_35 : decode cX6_forecastVariance 35 = .ok (.aload_n 0, 1) := dk_42 (dk_at dksX6_forecastVariance_1 13 rfl rfl)
theorem dX6_forecastVariance_36 : decode cX6_forecastVariance 36 = .ok (.ldc 92, 2) := dk_18 92 (dk_at dksX6_forecastVariance_1 14 rfl rfl)
theorem dX6_forecastVariance_38 : decode cX6_forecastVariance 38 = .ok (.invokevirtual 74, 3) := dk_182 0 74 (dk_at dksX6_forecastVariance_1 16 rfl rfl)
theorem dX6_forecastVariance_41 : decode cX6_forecastVariance 41 = .ok (.ireturn, 1) := dk_172 (dk_at dksX6_forecastVariance_1 19 rfl rfl)
abbrev cX6_stepsTo : ByteArray := prog_11_method_39_code
def yX6_stepsTo : MethodName := ⟨RX6, "stepsTo", "(I)I"⟩
def dkwX6_stepsTo_5 : List UInt8 := [167, 255, 196, 21, 4, 172]
abbrev dktX6_stepsTo_5 : List UInt8 := dkwX6_stepsTo_5 ++ []
def dkwX6_stepsTo_4 : List UInt8 := [159, 0, 18, 42, 3, 42, 180, 0, 7, 16, 6, 46, 182, 0, 88, 154, 0, 6, 18, 27, 172, 132, 4, 1]
abbrev dktX6_stepsTo_4 : List UInt8 := dkwX6_stepsTo_4 ++ dktX6_stepsTo_5
def dkwX6_stepsTo_3 : List UInt8 := [155, 0, 19, 29, 153, 0, 46, 42, 180, 0, 19, 3, 47, 27, 133, 148, 158, 0, 34, 21, 4, 16, 100]
abbrev dktX6_stepsTo_3 : List UInt8 := dkwX6_stepsTo_3 ++ dktX6_stepsTo_4
def dkwX6_stepsTo_2 : List UInt8 := [3, 62, 42, 182, 0, 85, 3, 54, 4, 28, 153, 0, 15, 42, 180, 0, 19, 3, 47, 27, 133, 148]
abbrev dktX6_stepsTo_2 : List UInt8 := dkwX6_stepsTo_2 ++ dktX6_stepsTo_3
def dkwX6_stepsTo_1 : List UInt8 := [27, 162, 0, 7, 4, 167, 0, 4, 3, 61, 42, 180, 0, 7, 3, 46, 27, 164, 0, 7, 4, 167, 0, 4]
abbrev dktX6_stepsTo_1 : List UInt8 := dkwX6_stepsTo_1 ++ dktX6_stepsTo_2
def dkwX6_stepsTo_0 : List UInt8 := [27, 18, 66, 18, 67, 184, 0, 68, 154, 0, 10, 42, 18, 26, 182, 0, 74, 172, 42, 180, 0, 7, 3, 46]
abbrev dktX6_stepsTo_0 : List UInt8 := dkwX6_stepsTo_0 ++ dktX6_stepsTo_1
theorem dksX6_stepsTo_0 : cX6_stepsTo.data.toList.drop 0 = dktX6_stepsTo_0 := by decide +kernel
theorem dksX6_stepsTo_1 : cX6_stepsTo.data.toList.drop 24 = dktX6_stepsTo_1 := dk_seg dksX6_stepsTo_0 24 rfl rfl
theorem dksX6_stepsTo_2 : cX6_stepsTo.data.toList.drop 48 = dktX6_stepsTo_2 := dk_seg dksX6_stepsTo_1 24 rfl rfl
theorem dksX6_stepsTo_3 : cX6_stepsTo.data.toList.drop 70 = dktX6_stepsTo_3 := dk_seg dksX6_stepsTo_2 22 rfl rfl
theorem dksX6_stepsTo_4 : cX6_stepsTo.data.toList.drop 93 = dktX6_stepsTo_4 := dk_seg dksX6_stepsTo_3 23 rfl rfl
theorem dksX6_stepsTo_5 : cX6_stepsTo.data.toList.drop 117 = dktX6_stepsTo_5 := dk_seg dksX6_stepsTo_4 24 rfl rfl
theorem dX6_stepsTo_0 : decode cX6_stepsTo 0 = .ok (.iload_n 1, 1) := dk_27 (dk_at dksX6_stepsTo_0 0 rfl rfl)
theorem dX6_stepsTo_1 : decode cX6_stepsTo 1 = .ok (.ldc 66, 2) := dk_18 66 (dk_at dksX6_stepsTo_0 1 rfl rfl)
theorem dX6_stepsTo_3 : decode cX6_stepsTo 3 = .ok (.ldc 67, 2) := dk_18 67 (dk_at dksX6_stepsTo_0 3 rfl rfl)
theorem dX6_stepsTo_5 : decode cX6_stepsTo 5 = .ok (.invokestatic 68, 3) := dk_184 0 68 (dk_at dksX6_stepsTo_0 5 rfl rfl)
theorem dX6_stepsTo_8 : decode cX6_stepsTo 8 = .ok (.ifCond .ne 10, 3) := dk_154 0 10 (dk_at dksX6_stepsTo_0 8 rfl rfl)
theorem dX6_stepsTo_11 : decode cX6_stepsTo 11 = .ok (.aload_n 0, 1) := dk_42 (dk_at dksX6_stepsTo_0 11 rfl rfl)
theorem dX6_stepsTo_12 : decode cX6_stepsTo 12 = .ok (.ldc 26, 2) := dk_18 26 (dk_at dksX6_stepsTo_0 12 rfl rfl)
theorem dX6_stepsTo_14 : decode cX6_stepsTo 14 = .ok (.invokevirtual 74, 3) := dk_182 0 74 (dk_at dksX6_stepsTo_0 14 rfl rfl)
theorem dX6_stepsTo_17 : decode cX6_stepsTo 17 = .ok (.ireturn, 1) := dk_172 (dk_at dksX6_stepsTo_0 17 rfl rfl)
theorem dX6_stepsTo_18 : decode cX6_stepsTo 18 = .ok (.aload_n 0, 1) := dk_42 (dk_at dksX6_stepsTo_0 18 rfl rfl)
theorem dX6_stepsTo_19 : decode cX6_stepsTo 19 = .ok (.getfield 7, 3) := dk_180 0 7 (dk_at dksX6_stepsTo_0 19 rfl rfl)
theorem dX6_stepsTo_22 : decode cX6_stepsTo 22 = .ok (.iconst 0, 1) := dk_3 (dk_at dksX6_stepsTo_0 22 rfl rfl)
theorem dX6_stepsTo_23 : decode cX6_stepsTo 23 = .ok (.iaload, 1) := dk_46 (dk_at dksX6_stepsTo_0 23 rfl rfl)
theorem dX6_stepsTo_24 : decode cX6_stepsTo 24 = .ok (.iload_n 1, 1) := dk_27 (dk_at dksX6_stepsTo_1 0 rfl rfl)
theorem dX6_stepsTo_25 : decode cX6_stepsTo 25 = .ok (.if_icmp .ge 7, 3) := dk_162 0 7 (dk_at dksX6_stepsTo_1 1 rfl rfl)
theorem dX6_stepsTo_28 : decode cX6_stepsTo 28 = .ok (.iconst 1, 1) := dk_4 (dk_at dksX6_stepsTo_1 4 rfl rfl)
theorem dX6_stepsTo_29 : decode cX6_stepsTo 29 = .ok (.goto 4, 3) := dk_167 0 4 (dk_at dksX6_stepsTo_1 5 rfl rfl)
theorem dX6_stepsTo_32 : decode cX6_stepsTo 32 = .ok (.iconst 0, 1) := dk_3 (dk_at dksX6_stepsTo_1 8 rfl rfl)
theorem dX6_stepsTo_33 : decode cX6_stepsTo 33 = .ok (.istore_n 2, 1) := dk_61 (dk_at dksX6_stepsTo_1 9 rfl rfl)
theorem dX6_stepsTo_34 : decode cX6_stepsTo 34 = .ok (.aload_n 0, 1) := dk_42 (dk_at dksX6_stepsTo_1 10 rfl rfl)
theorem dX6_stepsTo_35 : decode cX6_stepsTo 35 = .ok (.getfield 7, 3) := dk_180 0 7 (dk_at dksX6_stepsTo_1 11 rfl rfl)
theorem dX6_stepsTo_38 : decode cX6_stepsTo 38 = .ok (.iconst 0, 1) := dk_3 (dk_at dksX6_stepsTo_1 14 rfl rfl)
theorem dX6_stepsTo_39 : decode cX6_stepsTo 39 = .ok (.iaload, 1) := dk_46 (dk_at dksX6_stepsTo_1 15 rfl rfl)
theorem dX6_stepsTo_40 : decode cX6_stepsTo 40 = .ok (.iload_n 1, 1) := dk_27 (dk_at dksX6_stepsTo_1 16 rfl rfl)
theorem dX6_stepsTo_41 : decode cX6_stepsTo 41 = .ok (.if_icmp .le 7, 3) := dk_164 0 7 (dk_at dksX6_stepsTo_1 17 rfl rfl)
theorem dX6_stepsTo_44 : decode cX6_stepsTo 44 = .ok (.iconst 1, 1) := dk_4 (dk_at dksX6_stepsTo_1 20 rfl rfl)
theorem dX6_stepsTo_45 : decode cX6_stepsTo 45 = .ok (.goto 4, 3) := dk_167 0 4 (dk_at dksX6_stepsTo_1 21 rfl rfl)
theorem dX6_stepsTo_48 : decode cX6_stepsTo 48 = .ok (.iconst 0, 1) := dk_3 (dk_at dksX6_stepsTo_2 0 rfl rfl)
theorem dX6_stepsTo_49 : decode cX6_stepsTo 49 = .ok (.istore_n 3, 1) := dk_62 (dk_at dksX6_stepsTo_2 1 rfl rfl)
theorem dX6_stepsTo_50 : decode cX6_stepsTo 50 = .ok (.aload_n 0, 1) := dk_42 (dk_at dksX6_stepsTo_2 2 rfl rfl)
theorem dX6_stepsTo_51 : decode cX6_stepsTo 51 = .ok (.invokevirtual 85, 3) := dk_182 0 85 (dk_at dksX6_stepsTo_2 3 rfl rfl)
theorem dX6_stepsTo_54 : decode cX6_stepsTo 54 = .ok (.iconst 0, 1) := dk_3 (dk_at dksX6_stepsTo_2 6 rfl rfl)
theorem dX6_stepsTo_55 : decode cX6_stepsTo 55 = .ok (.istore 4, 2) := dk_54 4 (dk_at dksX6_stepsTo_2 7 rfl rfl)
theorem dX6_stepsTo_57 : decode cX6_stepsTo 57 = .ok (.iload_n 2, 1) := dk_28 (dk_at dksX6_stepsTo_2 9 rfl rfl)
theorem dX6_stepsTo_58 : decode cX6_stepsTo 58 = .ok (.ifCond .eq 15, 3) := dk_153 0 15 (dk_at dksX6_stepsTo_2 10 rfl rfl)
theorem dX6_stepsTo_61 : decode cX6_stepsTo 61 = .ok (.aload_n 0, 1) := dk_42 (dk_at dksX6_stepsTo_2 13 rfl rfl)
theorem dX6_stepsTo_62 : decode cX6_stepsTo 62 = .ok (.getfield 19, 3) := dk_180 0 19 (dk_at dksX6_stepsTo_2 14 rfl rfl)
theorem dX6_stepsTo_65 : decode cX6_stepsTo 65 = .ok (.iconst 0, 1) := dk_3 (dk_at dksX6_stepsTo_2 17 rfl rfl)
theorem dX6_stepsTo_66 : decode cX6_stepsTo 66 = .ok (.laload, 1) := dk_47 (dk_at dksX6_stepsTo_2 18 rfl rfl)
theorem dX6_stepsTo_67 : decode cX6_stepsTo 67 = .ok (.iload_n 1, 1) := dk_27 (dk_at dksX6_stepsTo_2 19 rfl rfl)
theorem dX6_stepsTo_68 : decode cX6_stepsTo 68 = .ok (.i2l, 1) := dk_133 (dk_at dksX6_stepsTo_2 20 rfl rfl)
theorem dX6_stepsTo_69 : decode cX6_stepsTo 69 = .ok (.lcmp, 1) := dk_148 (dk_at dksX6_stepsTo_2 21 rfl rfl)
theorem dX6_stepsTo_70 : decode cX6_stepsTo 70 = .ok (.ifCond .lt 19, 3) := dk_155 0 19 (dk_at dksX6_stepsTo_3 0 rfl rfl)
theorem dX6_stepsTo_73 : decode cX6_stepsTo 73 = .ok (.iload_n 3, 1) := dk_29 (dk_at dksX6_stepsTo_3 3 rfl rfl)
theorem dX6_stepsTo_74 : decode cX6_stepsTo 74 = .ok (.ifCond .eq 46, 3) := dk_153 0 46 (dk_at dksX6_stepsTo_3 4 rfl rfl)
theorem dX6_stepsTo_77 : decode cX6_stepsTo 77 = .ok (.aload_n 0, 1) := dk_42 (dk_at dksX6_stepsTo_3 7 rfl rfl)
theorem dX6_stepsTo_78 : decode cX6_stepsTo 78 = .ok (.getfield 19, 3) := dk_180 0 19 (dk_at dksX6_stepsTo_3 8 rfl rfl)
theorem dX6_stepsTo_81 : decode cX6_stepsTo 81 = .ok (.iconst 0, 1) := dk_3 (dk_at dksX6_stepsTo_3 11 rfl rfl)
theorem dX6_stepsTo_82 : decode cX6_stepsTo 82 = .ok (.laload, 1) := dk_47 (dk_at dksX6_stepsTo_3 12 rfl rfl)
theorem dX6_stepsTo_83 : decode cX6_stepsTo 83 = .ok (.iload_n 1, 1) := dk_27 (dk_at dksX6_stepsTo_3 13 rfl rfl)
theorem dX6_stepsTo_84 : decode cX6_stepsTo 84 = .ok (.i2l, 1) := dk_133 (dk_at dksX6_stepsTo_3 14 rfl rfl)
theorem dX6_stepsTo_85 : decode cX6_stepsTo 85 = .ok (.lcmp, 1) := dk_148 (dk_at dksX6_stepsTo_3 15 rfl rfl)
theorem dX6_stepsTo_86 : decode cX6_stepsTo 86 = .ok (.ifCond .le 34, 3) := dk_158 0 34 (dk_at dksX6_stepsTo_3 16 rfl rfl)
theorem dX6_stepsTo_89 : decode cX6_stepsTo 89 = .ok (.iload 4, 2) := dk_21 4 (dk_at dksX6_stepsTo_3 19 rfl rfl)
theorem dX6_stepsTo_91 : decode cX6_stepsTo 91 = .ok (.bipush 100, 2) := dk_16 100 (dk_at dksX6_stepsTo_3 21 rfl rfl)
theorem dX6_stepsTo_93 : decode cX6_stepsTo 93 = .ok (.if_icmp .eq 18, 3) := dk_159 0 18 (dk_at dksX6_stepsTo_4 0 rfl rfl)
theorem dX6_stepsTo_96 : decode cX6_stepsTo 96 = .ok (.aload_n 0, 1) := dk_42 (dk_at dksX6_stepsTo_4 3 rfl rfl)
theorem dX6_stepsTo_97 : decode cX6_stepsTo 97 = .ok (.iconst 0, 1) := dk_3 (dk_at dksX6_stepsTo_4 4 rfl rfl)
theorem dX6_stepsTo_98 : decode cX6_stepsTo 98 = .ok (.aload_n 0, 1) := dk_42 (dk_at dksX6_stepsTo_4 5 rfl rfl)
theorem dX6_stepsTo_99 : decode cX6_stepsTo 99 = .ok (.getfield 7, 3) := dk_180 0 7 (dk_at dksX6_stepsTo_4 6 rfl rfl)
theorem dX6_stepsTo_102 : decode cX6_stepsTo 102 = .ok (.bipush 6, 2) := dk_16 6 (dk_at dksX6_stepsTo_4 9 rfl rfl)
theorem dX6_stepsTo_104 : decode cX6_stepsTo 104 = .ok (.iaload, 1) := dk_46 (dk_at dksX6_stepsTo_4 11 rfl rfl)
theorem dX6_stepsTo_105 : decode cX6_stepsTo 105 = .ok (.invokevirtual 88, 3) := dk_182 0 88 (dk_at dksX6_stepsTo_4 12 rfl rfl)
theorem dX6_stepsTo_108 : decode cX6_stepsTo 108 = .ok (.ifCond .ne 6, 3) := dk_154 0 6 (dk_at dksX6_stepsTo_4 15 rfl rfl)
theorem dX6_stepsTo_111 : decode cX6_stepsTo 111 = .ok (.ldc 27, 2) := dk_18 27 (dk_at dksX6_stepsTo_4 18 rfl rfl)
theorem dX6_stepsTo_113 : decode cX6_stepsTo 113 = .ok (.ireturn, 1) := dk_172 (dk_at dksX6_stepsTo_4 20 rfl rfl)
theorem dX6_stepsTo_114 : decode cX6_stepsTo 114 = .ok (.iinc 4 1, 3) := dk_132 4 1 (dk_at dksX6_stepsTo_4 21 rfl rfl)
theorem dX6_stepsTo_117 : decode cX6_stepsTo 117 = .ok (.goto (-60), 3) := dk_167 255 196 (dk_at dksX6_stepsTo_5 0 rfl rfl)
theorem dX6_stepsTo_120 : decode cX6_stepsTo 120 = .ok (.iload 4, 2) := dk_21 4 (dk_at dksX6_stepsTo_5 3 rfl rfl)
theorem dX6_stepsTo_122 : decode cX6_stepsTo 122 = .ok (.ireturn, 1) := dk_172 (dk_at dksX6_stepsTo_5 5 rfl rfl)
abbrev cX6_steadyCycles : ByteArray := prog_11_method_41_code
def yX6_steadyCycles : MethodName := ⟨RX6, "steadyCycles", "(I)I"⟩
def dkwX6_steadyCycles_0 : List UInt8 := [27, 184, 0, 81, 153, 0, 11, 42, 27, 182, 0, 107, 167, 0, 9, 42, 18, 26, 182, 0, 74, 172]
abbrev dktX6_steadyCycles_0 : List UInt8 := dkwX6_steadyCycles_0 ++ []
theorem dksX6_steadyCycles_0 : cX6_steadyCycles.data.toList.drop 0 = dktX6_steadyCycles_0 := by decide +kernel
theorem dX6_steadyCycles_0 : decode cX6_steadyCycles 0 = .ok (.iload_n 1, 1) := dk_27 (dk_at dksX6_steadyCycles_0 0 rfl rfl)
theorem dX6_steadyCycles_1 : decode cX6_steadyCycles 1 = .ok (.invokestatic 81, 3) := dk_184 0 81 (dk_at dksX6_steadyCycles_0 1 rfl rfl)
theorem dX6_steadyCycles_4 : decode cX6_steadyCycles 4 = .ok (.ifCond .eq 11, 3) := dk_153 0 11 (dk_at dksX6_steadyCycles_0 4 rfl rfl)
theorem dX6_steadyCycles_7 : decode cX6_steadyCycles 7 = .ok (.aload_n 0, 1) := dk_42 (dk_at dksX6_steadyCycles_0 7 rfl rfl)
theorem dX6_steadyCycles_8 : decode cX6_steadyCycles 8 = .ok (.iload_n 1, 1) := dk_27 (dk_at dksX6_steadyCycles_0 8 rfl rfl)
theorem dX6_steadyCycles_9 : decode cX6_steadyCycles 9 = .ok (.invokevirtual 107, 3) := dk_182 0 107 (dk_at dksX6_steadyCycles_0 9 rfl rfl)
theorem dX6_steadyCycles_12 : decode cX6_steadyCycles 12 = .ok (.goto 9, 3) := dk_167 0 9 (dk_at dksX6_steadyCycles_0 12 rfl rfl)
theorem dX6_steadyCycles_15 : decode cX6_steadyCycles 15 = .ok (.aload_n 0, 1) := dk_42 (dk_at dksX6_steadyCycles_0 15 rfl rfl)
theorem dX6_steadyCycles_16 : decode cX6_steadyCycles 16 = .ok (.ldc 26, 2) := dk_18 26 (dk_at dksX6_steadyCycles_0 16 rfl rfl)
theorem dX6_steadyCycles_18 : decode cX6_steadyCycles 18 = .ok (.invokevirtual 74, 3) := dk_182 0 74 (dk_at dksX6_steadyCycles_0 18 rfl rfl)
theorem dX6_steadyCycles_21 : decode cX6_steadyCycles 21 = .ok (.ireturn, 1) := dk_172 (dk_at dksX6_steadyCycles_0 21 rfl rfl)
abbrev cX6_cycles : ByteArray := prog_11_method_40_code
def yX6_cycles : MethodName := ⟨RX6, "cycles", "(I)I"⟩
def dkwX6_cycles_5 : List UInt8 := [42, 180, 0, 19, 7, 47, 22, 7, 148, 154, 0, 5, 28, 172, 132, 2, 1, 167, 255, 125, 18, 27, 172]
abbrev dktX6_cycles_5 : List UInt8 := dkwX6_cycles_5 ++ []
def dkwX6_cycles_4 : List UInt8 := [172, 42, 180, 0, 19, 5, 47, 33, 148, 154, 0, 29, 42, 180, 0, 19, 6, 47, 22, 5, 148, 154, 0, 17]
abbrev dktX6_cycles_4 : List UInt8 := dkwX6_cycles_4 ++ dktX6_cycles_5
def dkwX6_cycles_3 : List UInt8 := [3, 47, 167, 0, 9, 42, 180, 0, 19, 4, 47, 3, 182, 0, 100, 54, 9, 21, 9, 156, 0, 6, 18, 27]
abbrev dktX6_cycles_3 : List UInt8 := dkwX6_cycles_3 ++ dktX6_cycles_4
def dkwX6_cycles_2 : List UInt8 := [154, 0, 6, 18, 27, 172, 42, 27, 42, 180, 0, 7, 16, 8, 27, 96, 46, 154, 0, 12, 42, 180, 0, 19]
abbrev dktX6_cycles_2 : List UInt8 := dkwX6_cycles_2 ++ dktX6_cycles_3
def dkwX6_cycles_1 : List UInt8 := [6, 47, 55, 5, 42, 180, 0, 19, 7, 47, 55, 7, 42, 3, 42, 180, 0, 7, 16, 6, 46, 182, 0, 88]
abbrev dktX6_cycles_1 : List UInt8 := dkwX6_cycles_1 ++ dktX6_cycles_2
def dkwX6_cycles_0 : List UInt8 := [42, 182, 0, 85, 4, 61, 28, 17, 1, 44, 163, 0, 130, 42, 180, 0, 19, 5, 47, 66, 42, 180, 0, 19]
abbrev dktX6_cycles_0 : List UInt8 := dkwX6_cycles_0 ++ dktX6_cycles_1
theorem dksX6_cycles_0 : cX6_cycles.data.toList.drop 0 = dktX6_cycles_0 := by decide +kernel
theorem dksX6_cycles_1 : cX6_cycles.data.toList.drop 24 = dktX6_cycles_1 := dk_seg dksX6_cycles_0 24 rfl rfl
theorem dksX6_cycles_2 : cX6_cycles.data.toList.drop 48 = dktX6_cycles_2 := dk_seg dksX6_cycles_1 24 rfl rfl
theorem dksX6_cycles_3 : cX6_cycles.data.toList.drop 72 = dktX6_cycles_3 := dk_seg dksX6_cycles_2 24 rfl rfl
theorem dksX6_cycles_4 : cX6_cycles.data.toList.drop 96 = dktX6_cycles_4 := dk_seg dksX6_cycles_3 24 rfl rfl
theorem dksX6_cycles_5 : cX6_cycles.data.toList.drop 120 = dktX6_cycles_5 := dk_seg dksX6_cycles_4 24 rfl rfl
theorem dX6_cycles_0 : decode cX6_cycles 0 = .ok (.aload_n 0, 1) := dk_42 (dk_at dksX6_cycles_0 0 rfl rfl)
theorem dX6_cycles_1 : decode cX6_cycles 1 = .ok (.invokevirtual 85, 3) := dk_182 0 85 (dk_at dksX6_cycles_0 1 rfl rfl)
theorem dX6_cycles_4 : decode cX6_cycles 4 = .ok (.iconst 1, 1) := dk_4 (dk_at dksX6_cycles_0 4 rfl rfl)
theorem dX6_cycles_5 : decode cX6_cycles 5 = .ok (.istore_n 2, 1) := dk_61 (dk_at dksX6_cycles_0 5 rfl rfl)
theorem dX6_cycles_6 : decode cX6_cycles 6 = .ok (.iload_n 2, 1) := dk_28 (dk_at dksX6_cycles_0 6 rfl rfl)
theorem dX6_cycles_7 : decode cX6_cycles 7 = .ok (.sipush 300, 3) := dk_17 1 44 (dk_at dksX6_cycles_0 7 rfl rfl)
theorem dX6_cycles_10 : decode cX6_cycles 10 = .ok (.if_icmp .gt 130, 3) := dk_163 0 130 (dk_at dksX6_cycles_0 10 rfl rfl)
theorem dX6_cycles_13 : decode cX6_cycles 13 = .ok (.aload_n 0, 1) := dk_42 (dk_at dksX6_cycles_0 13 rfl rfl)
theorem dX6_cycles_14 : decode cX6_cycles 14 = .ok (.getfield 19, 3) := dk_180 0 19 (dk_at dksX6_cycles_0 14 rfl rfl)
theorem dX6_cycles_17 : decode cX6_cycles 17 = .ok (.iconst 2, 1) := dk_5 (dk_at dksX6_cycles_0 17 rfl rfl)
theorem dX6_cycles_18 : decode cX6_cycles 18 = .ok (.laload, 1) := dk_47 (dk_at dksX6_cycles_0 18 rfl rfl)
theorem dX6_cycles_19 : decode cX6_cycles 19 = .ok (.lstore_n 3, 1) := dk_66 (dk_at dksX6_cycles_0 19 rfl rfl)
theorem dX6_cycles_20 : decode cX6_cycles 20 = .ok (.aload_n 0, 1) := dk_42 (dk_at dksX6_cycles_0 20 rfl rfl)
theorem dX6_cycles_21 : decode cX6_cycles 21 = .ok (.getfield 19, 3) := dk_180 0 19 (dk_at dksX6_cycles_0 21 rfl rfl)
theorem dX6_cycles_24 : decode cX6_cycles 24 = .ok (.iconst 3, 1) := dk_6 (dk_at dksX6_cycles_1 0 rfl rfl)
theorem dX6_cycles_25 : decode cX6_cycles 25 = .ok (.laload, 1) := dk_47 (dk_at dksX6_cycles_1 1 rfl rfl)
theorem dX6_cycles_26 : decode cX6_cycles 26 = .ok (.lstore 5, 2) := dk_55 5 (dk_at dksX6_cycles_1 2 rfl rfl)
theorem dX6_cycles_28 : decode cX6_cycles 28 = .ok (.aload_n 0, 1) := dk_42 (dk_at dksX6_cycles_1 4 rfl rfl)
theorem dX6_cycles_29 : decode cX6_cycles 29 = .ok (.getfield 19, 3) := dk_180 0 19 (dk_at dksX6_cycles_1 5 rfl rfl)
theorem dX6_cycles_32 : decode cX6_cycles 32 = .ok (.iconst 4, 1) := dk_7 (dk_at dksX6_cycles_1 8 rfl rfl)
theorem dX6_cycles_33 : decode cX6_cycles 33 = .ok (.laload, 1) := dk_47 (dk_at dksX6_cycles_1 9 rfl rfl)
theorem dX6_cycles_34 : decode cX6_cycles 34 = .ok (.lstore 7, 2) := dk_55 7 (dk_at dksX6_cycles_1 10 rfl rfl)
theorem dX6_cycles_36 : decode cX6_cycles 36 = .ok (.aload_n 0, 1) := dk_42 (dk_at dksX6_cycles_1 12 rfl rfl)
theorem dX6_cycles_37 : decode cX6_cycles 37 = .ok (.iconst 0, 1) := dk_3 (dk_at dksX6_cycles_1 13 rfl rfl)
theorem dX6_cycles_38 : decode cX6_cycles 38 = .ok (.aload_n 0, 1) := dk_42 (dk_at dksX6_cycles_1 14 rfl rfl)
theorem dX6_cycles_39 : decode cX6_cycles 39 = .ok (.getfield 7, 3) := dk_180 0 7 (dk_at dksX6_cycles_1 15 rfl rfl)
theorem dX6_cycles_42 : decode cX6_cycles 42 = .ok (.bipush 6, 2) := dk_16 6 (dk_at dksX6_cycles_1 18 rfl rfl)
theorem dX6_cycles_44 : decode cX6_cycles 44 = .ok (.iaload, 1) := dk_46 (dk_at dksX6_cycles_1 20 rfl rfl)
theorem dX6_cycles_45 : decode cX6_cycles 45 = .ok (.invokevirtual 88, 3) := dk_182 0 88 (dk_at dksX6_cycles_1 21 rfl rfl)
theorem dX6_cycles_48 : decode cX6_cycles 48 = .ok (.ifCond .ne 6, 3) := dk_154 0 6 (dk_at dksX6_cycles_2 0 rfl rfl)
theorem dX6_cycles_51 : decode cX6_cycles 51 = .ok (.ldc 27, 2) := dk_18 27 (dk_at dksX6_cycles_2 3 rfl rfl)
theorem dX6_cycles_53 : decode cX6_cycles 53 = .ok (.ireturn, 1) := dk_172 (dk_at dksX6_cycles_2 5 rfl rfl)
theorem dX6_cycles_54 : decode cX6_cycles 54 = .ok (.aload_n 0, 1) := dk_42 (dk_at dksX6_cycles_2 6 rfl rfl)
theorem dX6_cycles_55 : decode cX6_cycles 55 = .ok (.iload_n 1, 1) := dk_27 (dk_at dksX6_cycles_2 7 rfl rfl)
theorem dX6_cycles_56 : decode cX6_cycles 56 = .ok (.aload_n 0, 1) := dk_42 (dk_at dksX6_cycles_2 8 rfl rfl)
theorem dX6_cycles_57 : decode cX6_cycles 57 = .ok (.getfield 7, 3) := dk_180 0 7 (dk_at dksX6_cycles_2 9 rfl rfl)
theorem dX6_cycles_60 : decode cX6_cycles 60 = .ok (.bipush 8, 2) := dk_16 8 (dk_at dksX6_cycles_2 12 rfl rfl)
theorem dX6_cycles_62 : decode cX6_cycles 62 = .ok (.iload_n 1, 1) := dk_27 (dk_at dksX6_cycles_2 14 rfl rfl)
theorem dX6_cycles_63 : decode cX6_cycles 63 = .ok (.iadd, 1) := dk_96 (dk_at dksX6_cycles_2 15 rfl rfl)
theorem dX6_cycles_64 : decode cX6_cycles 64 = .ok (.iaload, 1) := dk_46 (dk_at dksX6_cycles_2 16 rfl rfl)
theorem dX6_cycles_65 : decode cX6_cycles 65 = .ok (.ifCond .ne 12, 3) := dk_154 0 12 (dk_at dksX6_cycles_2 17 rfl rfl)
theorem dX6_cycles_68 : decode cX6_cycles 68 = .ok (.aload_n 0, 1) := dk_42 (dk_at dksX6_cycles_2 20 rfl rfl)
theorem dX6_cycles_69 : decode cX6_cycles 69 = .ok (.getfield 19, 3) := dk_180 0 19 (dk_at dksX6_cycles_2 21 rfl rfl)
theorem dX6_cycles_72 : decode cX6_cycles 72 = .ok (.iconst 0, 1) := dk_3 (dk_at dksX6_cycles_3 0 rfl rfl)
theorem dX6_cycles_73 : decode cX6_cycles 73 = .ok (.laload, 1) := dk_47 (dk_at dksX6_cycles_3 1 rfl rfl)
theorem dX6_cycles_74 : decode cX6_cycles 74 = .ok (.goto 9, 3) := dk_167 0 9 (dk_at dksX6_cycles_3 2 rfl rfl)
theorem dX6_cycles_77 : decode cX6_cycles 77 = .ok (.aload_n 0, 1) := dk_42 (dk_at dksX6_cycles_3 5 rfl rfl)
theorem dX6_cycles_78 : decode cX6_cycles 78 = .ok (.getfield 19, 3) := dk_180 0 19 (dk_at dksX6_cycles_3 6 rfl rfl)
theorem dX6_cycles_81 : decode cX6_cycles 81 = .ok (.iconst 1, 1) := dk_4 (dk_at dksX6_cycles_3 9 rfl rfl)
theorem dX6_cycles_82 : decode cX6_cycles 82 = .ok (.laload, 1) := dk_47 (dk_at dksX6_cycles_3 10 rfl rfl)
theorem dX6_cycles_83 : decode cX6_cycles 83 = .ok (.iconst 0, 1) := dk_3 (dk_at dksX6_cycles_3 11 rfl rfl)
theorem dX6_cycles_84 : decode cX6_cycles 84 = .ok (.invokevirtual 100, 3) := dk_182 0 100 (dk_at dksX6_cycles_3 12 rfl rfl)
theorem dX6_cycles_87 : decode cX6_cycles 87 = .ok (.istore 9, 2) := dk_54 9 (dk_at dksX6_cycles_3 15 rfl rfl)
theorem dX6_cycles_89 : decode cX6_cycles 89 = .ok (.iload 9, 2) := dk_21 9 (dk_at dksX6_cycles_3 17 rfl rfl)
theorem dX6_cycles_91 : decode cX6_cycles 91 = .ok (.ifCond .ge 6, 3) := dk_156 0 6 (dk_at dksX6_cycles_3 19 rfl rfl)
theorem dX6_cycles_94 : decode cX6_cycles 94 = .ok (.ldc 27, 2) := dk_18 27 (dk_at dksX6_cycles_3 22 rfl rfl)
theorem dX6_cycles_96 : decode cX6_cycles 96 = .ok (.ireturn, 1) := dk_172 (dk_at dksX6_cycles_4 0 rfl rfl)
theorem dX6_cycles_97 : decode cX6_cycles 97 = .ok (.aload_n 0, 1) := dk_42 (dk_at dksX6_cycles_4 1 rfl rfl)
theorem dX6_cycles_98 : decode cX6_cycles 98 = .ok (.getfield 19, 3) := dk_180 0 19 (dk_at dksX6_cycles_4 2 rfl rfl)
theorem dX6_cycles_101 : decode cX6_cycles 101 = .ok (.iconst 2, 1) := dk_5 (dk_at dksX6_cycles_4 5 rfl rfl)
theorem dX6_cycles_102 : decode cX6_cycles 102 = .ok (.laload, 1) := dk_47 (dk_at dksX6_cycles_4 6 rfl rfl)
theorem dX6_cycles_103 : decode cX6_cycles 103 = .ok (.lload_n 3, 1) := dk_33 (dk_at dksX6_cycles_4 7 rfl rfl)
theorem dX6_cycles_104 : decode cX6_cycles 104 = .ok (.lcmp, 1) := dk_148 (dk_at dksX6_cycles_4 8 rfl rfl)
theorem dX6_cycles_105 : decode cX6_cycles 105 = .ok (.ifCond .ne 29, 3) := dk_154 0 29 (dk_at dksX6_cycles_4 9 rfl rfl)
theorem dX6_cycles_108 : decode cX6_cycles 108 = .ok (.aload_n 0, 1) := dk_42 (dk_at dksX6_cycles_4 12 rfl rfl)
theorem dX6_cycles_109 : decode cX6_cycles 109 = .ok (.getfield 19, 3) := dk_180 0 19 (dk_at dksX6_cycles_4 13 rfl rfl)
theorem dX6_cycles_112 : decode cX6_cycles 112 = .ok (.iconst 3, 1) := dk_6 (dk_at dksX6_cycles_4 16 rfl rfl)
theorem dX6_cycles_113 : decode cX6_cycles 113 = .ok (.laload, 1) := dk_47 (dk_at dksX6_cycles_4 17 rfl rfl)
theorem dX6_cycles_114 : decode cX6_cycles 114 = .ok (.lload 5, 2) := dk_22 5 (dk_at dksX6_cycles_4 18 rfl rfl)
theorem dX6_cycles_116 : decode cX6_cycles 116 = .ok (.lcmp, 1) := dk_148 (dk_at dksX6_cycles_4 20 rfl rfl)
theorem dX6_cycles_117 : decode cX6_cycles 117 = .ok (.ifCond .ne 17, 3) := dk_154 0 17 (dk_at dksX6_cycles_4 21 rfl rfl)
theorem dX6_cycles_120 : decode cX6_cycles 120 = .ok (.aload_n 0, 1) := dk_42 (dk_at dksX6_cycles_5 0 rfl rfl)
theorem dX6_cycles_121 : decode cX6_cycles 121 = .ok (.getfield 19, 3) := dk_180 0 19 (dk_at dksX6_cycles_5 1 rfl rfl)
theorem dX6_cycles_124 : decode cX6_cycles 124 = .ok (.iconst 4, 1) := dk_7 (dk_at dksX6_cycles_5 4 rfl rfl)
theorem dX6_cycles_125 : decode cX6_cycles 125 = .ok (.laload, 1) := dk_47 (dk_at dksX6_cycles_5 5 rfl rfl)
theorem dX6_cycles_126 : decode cX6_cycles 126 = .ok (.lload 7, 2) := dk_22 7 (dk_at dksX6_cycles_5 6 rfl rfl)
theorem dX6_cycles_128 : decode cX6_cycles 128 = .ok (.lcmp, 1) := dk_148 (dk_at dksX6_cycles_5 8 rfl rfl)
theorem dX6_cycles_129 : decode cX6_cycles 129 = .ok (.ifCond .ne 5, 3) := dk_154 0 5 (dk_at dksX6_cycles_5 9 rfl rfl)
theorem dX6_cycles_132 : decode cX6_cycles 132 = .ok (.iload_n 2, 1) := dk_28 (dk_at dksX6_cycles_5 12 rfl rfl)
theorem dX6_cycles_133 : decode cX6_cycles 133 = .ok (.ireturn, 1) := dk_172 (dk_at dksX6_cycles_5 13 rfl rfl)
theorem dX6_cycles_134 : decode cX6_cycles 134 = .ok (.iinc 2 1, 3) := dk_132 2 1 (dk_at dksX6_cycles_5 14 rfl rfl)
theorem dX6_cycles_137 : decode cX6_cycles 137 = .ok (.goto (-131), 3) := dk_167 255 125 (dk_at dksX6_cycles_5 17 rfl rfl)
theorem dX6_cycles_140 : decode cX6_cycles 140 = .ok (.ldc 27, 2) := dk_18 27 (dk_at dksX6_cycles_5 20 rfl rfl)
theorem dX6_cycles_142 : decode cX6_cycles 142 = .ok (.ireturn, 1) := dk_172 (dk_at dksX6_cycles_5 22 rfl rfl)
abbrev cX6_steadyGain : ByteArray := prog_11_method_42_code
def yX6_steadyGain : MethodName := ⟨RX6, "steadyGain", "(II)I"⟩
def dkwX6_steadyGain_2 : List UInt8 := [167, 0, 7, 42, 180, 0, 63, 136, 172]
abbrev dktX6_steadyGain_2 : List UInt8 := dkwX6_steadyGain_2 ++ []
def dkwX6_steadyGain_1 : List UInt8 := [27, 182, 0, 107, 62, 29, 18, 27, 160, 0, 8, 18, 27, 167, 0, 19, 28, 154, 0, 10, 42, 180, 0, 60]
abbrev dktX6_steadyGain_1 : List UInt8 := dkwX6_steadyGain_1 ++ dktX6_steadyGain_2
def dkwX6_steadyGain_0 : List UInt8 := [27, 184, 0, 81, 153, 0, 12, 28, 3, 4, 184, 0, 68, 154, 0, 10, 42, 18, 26, 182, 0, 74, 172, 42]
abbrev dktX6_steadyGain_0 : List UInt8 := dkwX6_steadyGain_0 ++ dktX6_steadyGain_1
theorem dksX6_steadyGain_0 : cX6_steadyGain.data.toList.drop 0 = dktX6_steadyGain_0 := by decide +kernel
theorem dksX6_steadyGain_1 : cX6_steadyGain.data.toList.drop 24 = dktX6_steadyGain_1 := dk_seg dksX6_steadyGain_0 24 rfl rfl
theorem dksX6_steadyGain_2 : cX6_steadyGain.data.toList.drop 48 = dktX6_steadyGain_2 := dk_seg dksX6_steadyGain_1 24 rfl rfl
theorem dX6_steadyGain_0 : decode cX6_steadyGain 0 = .ok (.iload_n 1, 1) := dk_27 (dk_at dksX6_steadyGain_0 0 rfl rfl)
theorem dX6_steadyGain_1 : decode cX6_steadyGain 1 = .ok (.invokestatic 81, 3) := dk_184 0 81 (dk_at dksX6_steadyGain_0 1 rfl rfl)
theorem dX6_steadyGain_4 : decode cX6_steadyGain 4 = .ok (.ifCond .eq 12, 3) := dk_153 0 12 (dk_at dksX6_steadyGain_0 4 rfl rfl)
theorem dX6_steadyGain_7 : decode cX6_steadyGain 7 = .ok (.iload_n 2, 1) := dk_28 (dk_at dksX6_steadyGain_0 7 rfl rfl)
theorem dX6_steadyGain_8 : decode cX6_steadyGain 8 = .ok (.iconst 0, 1) := dk_3 (dk_at dksX6_steadyGain_0 8 rfl rfl)
theorem dX6_steadyGain_9 : decode cX6_steadyGain 9 = .ok (.iconst 1, 1) := dk_4 (dk_at dksX6_steadyGain_0 9 rfl rfl)
theorem dX6_steadyGain_10 : decode cX6_steadyGain 10 = .ok (.invokestatic 68, 3) := dk_184 0 68 (dk_at dksX6_steadyGain_0 10 rfl rfl)
theorem dX6_steadyGain_13 : decode cX6_steadyGain 13 = .ok (.ifCond .ne 10, 3) := dk_154 0 10 (dk_at dksX6_steadyGain_0 13 rfl rfl)
theorem dX6_steadyGain_16 : decode cX6_steadyGain 16 = .ok (.aload_n 0, 1) := dk_42 (dk_at dksX6_steadyGain_0 16 rfl rfl)
theorem dX6_steadyGain_17 : decode cX6_steadyGain 17 = .ok (.ldc 26, 2) := dk_18 26 (dk_at dksX6_steadyGain_0 17 rfl rfl)
theorem dX6_steadyGain_19 : decode cX6_steadyGain 19 = .ok (.invokevirtual 74, 3) := dk_182 0 74 (dk_at dksX6_steadyGain_0 19 rfl rfl)
theorem dX6_steadyGain_22 : decode cX6_steadyGain 22 = .ok (.ireturn, 1) := dk_172 (dk_at dksX6_steadyGain_0 22 rfl rfl)
theorem dX6_steadyGain_23 : decode cX6_steadyGain 23 = .ok (.aload_n 0, 1) := dk_42 (dk_at dksX6_steadyGain_0 23 rfl rfl)
theorem dX6_steadyGain_24 : decode cX6_steadyGain 24 = .ok (.iload_n 1, 1) := dk_27 (dk_at dksX6_steadyGain_1 0 rfl rfl)
theorem dX6_steadyGain_25 : decode cX6_steadyGain 25 = .ok (.invokevirtual 107, 3) := dk_182 0 107 (dk_at dksX6_steadyGain_1 1 rfl rfl)
theorem dX6_steadyGain_28 : decode cX6_steadyGain 28 = .ok (.istore_n 3, 1) := dk_62 (dk_at dksX6_steadyGain_1 4 rfl rfl)
theorem dX6_steadyGain_29 : decode cX6_steadyGain 29 = .ok (.iload_n 3, 1) := dk_29 (dk_at dksX6_steadyGain_1 5 rfl rfl)
theorem dX6_steadyGain_30 : decode cX6_steadyGain 30 = .ok (.ldc 27, 2) := dk_18 27 (dk_at dksX6_steadyGain_1 6 rfl rfl)
theorem dX6_steadyGain_32 : decode cX6_steadyGain 32 = .ok (.if_icmp .ne 8, 3) := dk_160 0 8 (dk_at dksX6_steadyGain_1 8 rfl rfl)
theorem dX6_steadyGain_35 : decode cX6_steadyGain 35 = .ok (.ldc 27, 2) := dk_18 27 (dk_at dksX6_steadyGain_1 11 rfl rfl)
theorem dX6_steadyGain_37 : decode cX6_steadyGain 37 = .ok (.goto 19, 3) := dk_167 0 19 (dk_at dksX6_steadyGain_1 13 rfl rfl)
theorem dX6_steadyGain_40 : decode cX6_steadyGain 40 = .ok (.iload_n 2, 1) := dk_28 (dk_at dksX6_steadyGain_1 16 rfl rfl)
theorem dX6_steadyGain_41 : decode cX6_steadyGain 41 = .ok (.ifCond .ne 10, 3) := dk_154 0 10 (dk_at dksX6_steadyGain_1 17 rfl rfl)
theorem dX6_steadyGain_44 : decode cX6_steadyGain 44 = .ok (.aload_n 0, 1) := dk_42 (dk_at dksX6_steadyGain_1 20 rfl rfl)
theorem dX6_steadyGain_45 : decode cX6_steadyGain 45 = .ok (.getfield 60, 3) := dk_180 0 60 (dk_at dksX6_steadyGain_1 21 rfl rfl)
theorem dX6_steadyGain_48 : decode cX6_steadyGain 48 = .ok (.goto 7, 3) := dk_167 0 7 (dk_at dksX6_steadyGain_2 0 rfl rfl)
theorem dX6_steadyGain_51 : decode cX6_steadyGain 51 = .ok (.aload_n 0, 1) := dk_42 (dk_at dksX6_steadyGain_2 3 rfl rfl)
theorem dX6_steadyGain_52 : decode cX6_steadyGain 52 = .ok (.getfield 63, 3) := dk_180 0 63 (dk_at dksX6_steadyGain_2 4 rfl rfl)
theorem dX6_steadyGain_55 : decode cX6_steadyGain 55 = .ok (.l2i, 1) := dk_136 (dk_at dksX6_steadyGain_2 7 rfl rfl)
theorem dX6_steadyGain_56 : decode cX6_steadyGain 56 = .ok (.ireturn, 1) := dk_172 (dk_at dksX6_steadyGain_2 8 rfl rfl)
abbrev cX6_replayError : ByteArray := prog_11_method_45_code
def yX6_replayError : MethodName := ⟨RX6, "replayError", "(I)I"⟩
def dkwX6_replayError_2 : List UInt8 := [182, 0, 74, 167, 0, 5, 32, 136, 172]
abbrev dktX6_replayError_2 : List UInt8 := dkwX6_replayError_2 ++ []
def dkwX6_replayError_1 : List UInt8 := [42, 18, 116, 182, 0, 74, 172, 42, 27, 182, 0, 117, 65, 32, 9, 148, 156, 0, 12, 42, 18, 92]
abbrev dktX6_replayError_1 : List UInt8 := dkwX6_replayError_1 ++ dktX6_replayError_2
def dkwX6_replayError_0 : List UInt8 := [27, 3, 18, 73, 184, 0, 68, 154, 0, 10, 42, 18, 26, 182, 0, 74, 172, 42, 182, 0, 112, 154, 0, 10]
abbrev dktX6_replayError_0 : List UInt8 := dkwX6_replayError_0 ++ dktX6_replayError_1
theorem dksX6_replayError_0 : cX6_replayError.data.toList.drop 0 = dktX6_replayError_0 := by decide +kernel
theorem dksX6_replayError_1 : cX6_replayError.data.toList.drop 24 = dktX6_replayError_1 := dk_seg dksX6_replayError_0 24 rfl rfl
theorem dksX6_replayError_2 : cX6_replayError.data.toList.drop 46 = dktX6_replayError_2 := dk_seg dksX6_replayError_1 22 rfl rfl
theorem dX6_replayError_0 : decode cX6_replayError 0 = .ok (.iload_n 1, 1) := dk_27 (dk_at dksX6_replayError_0 0 rfl rfl)
theorem dX6_replayError_1 : decode cX6_replayError 1 = .ok (.iconst 0, 1) := dk_3 (dk_at dksX6_replayError_0 1 rfl rfl)
theorem dX6_replayError_2 : decode cX6_replayError 2 = .ok (.ldc 73, 2) := dk_18 73 (dk_at dksX6_replayError_0 2 rfl rfl)
theorem dX6_replayError_4 : decode cX6_replayError 4 = .ok (.invokestatic 68, 3) := dk_184 0 68 (dk_at dksX6_replayError_0 4 rfl rfl)
theorem dX6_replayError_7 : decode cX6_replayError 7 = .ok (.ifCond .ne 10, 3) := dk_154 0 10 (dk_at dksX6_replayError_0 7 rfl rfl)
theorem dX6_replayError_10 : decode cX6_replayError 10 = .ok (.aload_n 0, 1) := dk_42 (dk_at dksX6_replayError_0 10 rfl rfl)
theorem dX6_replayError_11 : decode cX6_replayError 11 = .ok (.ldc 26, 2) := dk_18 26 (dk_at dksX6_replayError_0 11 rfl rfl)
theorem dX6_replayError_13 : decode cX6_replayError 13 = .ok (.invokevirtual 74, 3) := dk_182 0 74 (dk_at dksX6_replayError_0 13 rfl rfl)
theorem dX6_replayError_16 : decode cX6_replayError 16 = .ok (.ireturn, 1) := dk_172 (dk_at dksX6_replayError_0 16 rfl rfl)
theorem dX6_replayError_17 : decode cX6_replayError 17 = .ok (.aload_n 0, 1) := dk_42 (dk_at dksX6_replayError_0 17 rfl rfl)
theorem dX6_replayError_18 : decode cX6_replayError 18 = .ok (.invokevirtual 112, 3) := dk_182 0 112 (dk_at dksX6_replayError_0 18 rfl rfl)
theorem dX6_replayError_21 : decode cX6_replayError 21 = .ok (.ifCond .ne 10, 3) := dk_154 0 10 (dk_at dksX6_replayError_0 21 rfl rfl)
theorem dX6_replayError_24 : decode cX6_replayError 24 = .ok (.aload_n 0, 1) := dk_42 (dk_at dksX6_replayError_1 0 rfl rfl)
theorem dX6_replayError_25 : decode cX6_replayError 25 = .ok (.ldc 116, 2) := dk_18 116 (dk_at dksX6_replayError_1 1 rfl rfl)
theorem dX6_replayError_27 : decode cX6_replayError 27 = .ok (.invokevirtual 74, 3) := dk_182 0 74 (dk_at dksX6_replayError_1 3 rfl rfl)
theorem dX6_replayError_30 : decode cX6_replayError 30 = .ok (.ireturn, 1) := dk_172 (dk_at dksX6_replayError_1 6 rfl rfl)
theorem dX6_replayError_31 : decode cX6_replayError 31 = .ok (.aload_n 0, 1) := dk_42 (dk_at dksX6_replayError_1 7 rfl rfl)
theorem dX6_replayError_32 : decode cX6_replayError 32 = .ok (.iload_n 1, 1) := dk_27 (dk_at dksX6_replayError_1 8 rfl rfl)
theorem dX6_replayError_33 : decode cX6_replayError 33 = .ok (.invokevirtual 117, 3) := dk_182 0 117 (dk_at dksX6_replayError_1 9 rfl rfl)
theorem dX6_replayError_36 : decode cX6_replayError 36 = .ok (.lstore_n 2, 1) := dk_65 (dk_at dksX6_replayError_1 12 rfl rfl)
theorem dX6_replayError_37 : decode cX6_replayError 37 = .ok (.lload_n 2, 1) := dk_32 (dk_at dksX6_replayError_1 13 rfl rfl)
theorem dX6_replayError_38 : decode cX6_replayError 38 = .ok (.lconst 0, 1) := dk_9 (dk_at dksX6_replayError_1 14 rfl rfl)
theorem dX6_replayError_39 : decode cX6_replayError 39 = .ok (.lcmp, 1) := dk_148 (dk_at dksX6_replayError_1 15 rfl rfl)
theorem dX6_replayError_40 : decode cX6_replayError 40 = .ok (.ifCond .ge 12, 3) := dk_156 0 12 (dk_at dksX6_replayError_1 16 rfl rfl)
theorem dX6_replayError_43 : decode cX6_replayError 43 = .ok (.aload_n 0, 1) := dk_42 (dk_at dksX6_replayError_1 19 rfl rfl)
theorem dX6_replayError_44 : decode cX6_replayError 44 = .ok (.ldc 92, 2) := dk_18 92 (dk_at dksX6_replayError_1 20 rfl rfl)
theorem dX6_replayError_46 : decode cX6_replayError 46 = .ok (.invokevirtual 74, 3) := dk_182 0 74 (dk_at dksX6_replayError_2 0 rfl rfl)
theorem dX6_replayError_49 : decode cX6_replayError 49 = .ok (.goto 5, 3) := dk_167 0 5 (dk_at dksX6_replayError_2 3 rfl rfl)
theorem dX6_replayError_52 : decode cX6_replayError 52 = .ok (.lload_n 2, 1) := dk_32 (dk_at dksX6_replayError_2 6 rfl rfl)
theorem dX6_replayError_53 : decode cX6_replayError 53 = .ok (.l2i, 1) := dk_136 (dk_at dksX6_replayError_2 7 rfl rfl)
theorem dX6_replayError_54 : decode cX6_replayError 54 = .ok (.ireturn, 1) := dk_172 (dk_at dksX6_replayError_2 8 rfl rfl)
abbrev cX6_hasReading : ByteArray := prog_11_method_43_code
def yX6_hasReading : MethodName := ⟨RX6, "hasReading", "()Z"⟩
def dkwX6_hasReading_2 : List UInt8 := [172]
abbrev dktX6_hasReading_2 : List UInt8 := dkwX6_hasReading_2 ++ []
def dkwX6_hasReading_1 : List UInt8 := [16, 23, 5, 28, 104, 96, 46, 2, 159, 0, 7, 4, 167, 0, 4, 3, 60, 132, 2, 1, 167, 255, 217, 27]
abbrev dktX6_hasReading_1 : List UInt8 := dkwX6_hasReading_1 ++ dktX6_hasReading_2
def dkwX6_hasReading_0 : List UInt8 := [3, 60, 3, 61, 28, 42, 180, 0, 7, 16, 22, 46, 162, 0, 34, 27, 154, 0, 18, 42, 180, 0, 7]
abbrev dktX6_hasReading_0 : List UInt8 := dkwX6_hasReading_0 ++ dktX6_hasReading_1
theorem dksX6_hasReading_0 : cX6_hasReading.data.toList.drop 0 = dktX6_hasReading_0 := by decide +kernel
theorem dksX6_hasReading_1 : cX6_hasReading.data.toList.drop 23 = dktX6_hasReading_1 := dk_seg dksX6_hasReading_0 23 rfl rfl
theorem dksX6_hasReading_2 : cX6_hasReading.data.toList.drop 47 = dktX6_hasReading_2 := dk_seg dksX6_hasReading_1 24 rfl rfl
theorem dX6_hasReading_0 : decode cX6_hasReading 0 = .ok (.iconst 0, 1) := dk_3 (dk_at dksX6_hasReading_0 0 rfl rfl)
theorem dX6_hasReading_1 : decode cX6_hasReading 1 = .ok (.istore_n 1, 1) := dk_60 (dk_at dksX6_hasReading_0 1 rfl rfl)
theorem dX6_hasReading_2 : decode cX6_hasReading 2 = .ok (.iconst 0, 1) := dk_3 (dk_at dksX6_hasReading_0 2 rfl rfl)
theorem dX6_hasReading_3 : decode cX6_hasReading 3 = .ok (.istore_n 2, 1) := dk_61 (dk_at dksX6_hasReading_0 3 rfl rfl)
theorem dX6_hasReading_4 : decode cX6_hasReading 4 = .ok (.iload_n 2, 1) := dk_28 (dk_at dksX6_hasReading_0 4 rfl rfl)
theorem dX6_hasReading_5 : decode cX6_hasReading 5 = .ok (.aload_n 0, 1) := dk_42 (dk_at dksX6_hasReading_0 5 rfl rfl)
theorem dX6_hasReading_6 : decode cX6_hasReading 6 = .ok (.getfield 7, 3) := dk_180 0 7 (dk_at dksX6_hasReading_0 6 rfl rfl)
theorem dX6_hasReading_9 : decode cX6_hasReading 9 = .ok (.bipush 22, 2) := dk_16 22 (dk_at dksX6_hasReading_0 9 rfl rfl)
theorem dX6_hasReading_11 : decode cX6_hasReading 11 = .ok (.iaload, 1) := dk_46 (dk_at dksX6_hasReading_0 11 rfl rfl)
theorem dX6_hasReading_12 : decode cX6_hasReading 12 = .ok (.if_icmp .ge 34, 3) := dk_162 0 34 (dk_at dksX6_hasReading_0 12 rfl rfl)
theorem dX6_hasReading_15 : decode cX6_hasReading 15 = .ok (.iload_n 1, 1) := dk_27 (dk_at dksX6_hasReading_0 15 rfl rfl)
theorem dX6_hasReading_16 : decode cX6_hasReading 16 = .ok (.ifCond .ne 18, 3) := dk_154 0 18 (dk_at dksX6_hasReading_0 16 rfl rfl)
theorem dX6_hasReading_19 : decode cX6_hasReading 19 = .ok (.aload_n 0, 1) := dk_42 (dk_at dksX6_hasReading_0 19 rfl rfl)
theorem dX6_hasReading_20 : decode cX6_hasReading 20 = .ok (.getfield 7, 3) := dk_180 0 7 (dk_at dksX6_hasReading_0 20 rfl rfl)
theorem dX6_hasReading_23 : decode cX6_hasReading 23 = .ok (.bipush 23, 2) := dk_16 23 (dk_at dksX6_hasReading_1 0 rfl rfl)
theorem dX6_hasReading_25 : decode cX6_hasReading 25 = .ok (.iconst 2, 1) := dk_5 (dk_at dksX6_hasReading_1 2 rfl rfl)
theorem dX6_hasReading_26 : decode cX6_hasReading 26 = .ok (.iload_n 2, 1) := dk_28 (dk_at dksX6_hasReading_1 3 rfl rfl)
theorem dX6_hasReading_27 : decode cX6_hasReading 27 = .ok (.imul, 1) := dk_104 (dk_at dksX6_hasReading_1 4 rfl rfl)
theorem dX6_hasReading_28 : decode cX6_hasReading 28 = .ok (.iadd, 1) := dk_96 (dk_at dksX6_hasReading_1 5 rfl rfl)
theorem dX6_hasReading_29 : decode cX6_hasReading 29 = .ok (.iaload, 1) := dk_46 (dk_at dksX6_hasReading_1 6 rfl rfl)
theorem dX6_hasReading_30 : decode cX6_hasReading 30 = .ok (.iconst (-1), 1) := dk_2 (dk_at dksX6_hasReading_1 7 rfl rfl)
theorem dX6_hasReading_31 : decode cX6_hasReading 31 = .ok (.if_icmp .eq 7, 3) := dk_159 0 7 (dk_at dksX6_hasReading_1 8 rfl rfl)
theorem dX6_hasReading_34 : decode cX6_hasReading 34 = .ok (.iconst 1, 1) := dk_4 (dk_at dksX6_hasReading_1 11 rfl rfl)
theorem dX6_hasReading_35 : decode cX6_hasReading 35 = .ok (.goto 4, 3) := dk_167 0 4 (dk_at dksX6_hasReading_1 12 rfl rfl)
theorem dX6_hasReading_38 : decode cX6_hasReading 38 = .ok (.iconst 0, 1) := dk_3 (dk_at dksX6_hasReading_1 15 rfl rfl)
theorem dX6_hasReading_39 : decode cX6_hasReading 39 = .ok (.istore_n 1, 1) := dk_60 (dk_at dksX6_hasReading_1 16 rfl rfl)
theorem dX6_hasReading_40 : decode cX6_hasReading 40 = .ok (.iinc 2 1, 3) := dk_132 2 1 (dk_at dksX6_hasReading_1 17 rfl rfl)
theorem dX6_hasReading_43 : decode cX6_hasReading 43 = .ok (.goto (-39), 3) := dk_167 255 217 (dk_at dksX6_hasReading_1 20 rfl rfl)
theorem dX6_hasReading_46 : decode cX6_hasReading 46 = .ok (.iload_n 1, 1) := dk_27 (dk_at dksX6_hasReading_1 23 rfl rfl)
theorem dX6_hasReading_47 : decode cX6_hasReading 47 = .ok (.ireturn, 1) := dk_172 (dk_at dksX6_hasReading_2 0 rfl rfl)
abbrev cX6_errorOf : ByteArray := prog_11_method_44_code
def yX6_errorOf : MethodName := ⟨RX6, "errorOf", "(I)J"⟩
def dkwX6_errorOf_5 : List UInt8 := [132, 4, 1, 167, 255, 146, 32, 184, 0, 46, 153, 0, 7, 32, 167, 0, 6, 20, 0, 110, 173]
abbrev dktX6_errorOf_5 : List UInt8 := dkwX6_errorOf_5 ++ []
def dkwX6_errorOf_4 : List UInt8 := [180, 0, 50, 9, 148, 156, 0, 11, 42, 180, 0, 50, 117, 167, 0, 7, 42, 180, 0, 50, 97, 65]
abbrev dktX6_errorOf_4 : List UInt8 := dkwX6_errorOf_4 ++ dktX6_errorOf_5
def dkwX6_errorOf_3 : List UInt8 := [173, 42, 21, 5, 21, 6, 133, 3, 182, 0, 100, 54, 7, 21, 7, 156, 0, 7, 20, 0, 110, 173, 32, 42]
abbrev dktX6_errorOf_3 : List UInt8 := dkwX6_errorOf_3 ++ dktX6_errorOf_4
def dkwX6_errorOf_2 : List UInt8 := [4, 96, 46, 54, 6, 21, 5, 2, 160, 0, 17, 42, 21, 6, 27, 182, 0, 88, 154, 0, 52, 20, 0, 110]
abbrev dktX6_errorOf_2 : List UInt8 := dkwX6_errorOf_2 ++ dktX6_errorOf_3
def dkwX6_errorOf_1 : List UInt8 := [180, 0, 7, 16, 23, 5, 21, 4, 104, 96, 46, 54, 5, 42, 180, 0, 7, 16, 23, 5, 21, 4, 104, 96]
abbrev dktX6_errorOf_1 : List UInt8 := dkwX6_errorOf_1 ++ dktX6_errorOf_2
def dkwX6_errorOf_0 : List UInt8 := [42, 182, 0, 85, 9, 65, 3, 54, 4, 21, 4, 42, 180, 0, 7, 16, 22, 46, 162, 0, 104, 42]
abbrev dktX6_errorOf_0 : List UInt8 := dkwX6_errorOf_0 ++ dktX6_errorOf_1
theorem dksX6_errorOf_0 : cX6_errorOf.data.toList.drop 0 = dktX6_errorOf_0 := by decide +kernel
theorem dksX6_errorOf_1 : cX6_errorOf.data.toList.drop 22 = dktX6_errorOf_1 := dk_seg dksX6_errorOf_0 22 rfl rfl
theorem dksX6_errorOf_2 : cX6_errorOf.data.toList.drop 46 = dktX6_errorOf_2 := dk_seg dksX6_errorOf_1 24 rfl rfl
theorem dksX6_errorOf_3 : cX6_errorOf.data.toList.drop 70 = dktX6_errorOf_3 := dk_seg dksX6_errorOf_2 24 rfl rfl
theorem dksX6_errorOf_4 : cX6_errorOf.data.toList.drop 94 = dktX6_errorOf_4 := dk_seg dksX6_errorOf_3 24 rfl rfl
theorem dksX6_errorOf_5 : cX6_errorOf.data.toList.drop 116 = dktX6_errorOf_5 := dk_seg dksX6_errorOf_4 22 rfl rfl
theorem dX6_errorOf_0 : decode cX6_errorOf 0 = .ok (.aload_n 0, 1) := dk_42 (dk_at dksX6_errorOf_0 0 rfl rfl)
theorem dX6_errorOf_1 : decode cX6_errorOf 1 = .ok (.invokevirtual 85, 3) := dk_182 0 85 (dk_at dksX6_errorOf_0 1 rfl rfl)
theorem dX6_errorOf_4 : decode cX6_errorOf 4 = .ok (.lconst 0, 1) := dk_9 (dk_at dksX6_errorOf_0 4 rfl rfl)
theorem dX6_errorOf_5 : decode cX6_errorOf 5 = .ok (.lstore_n 2, 1) := dk_65 (dk_at dksX6_errorOf_0 5 rfl rfl)
theorem dX6_errorOf_6 : decode cX6_errorOf 6 = .ok (.iconst 0, 1) := dk_3 (dk_at dksX6_errorOf_0 6 rfl rfl)
theorem dX6_errorOf_7 : decode cX6_errorOf 7 = .ok (.istore 4, 2) := dk_54 4 (dk_at dksX6_errorOf_0 7 rfl rfl)
theorem dX6_errorOf_9 : decode cX6_errorOf 9 = .ok (.iload 4, 2) := dk_21 4 (dk_at dksX6_errorOf_0 9 rfl rfl)
theorem dX6_errorOf_11 : decode cX6_errorOf 11 = .ok (.aload_n 0, 1) := dk_42 (dk_at dksX6_errorOf_0 11 rfl rfl)
theorem dX6_errorOf_12 : decode cX6_errorOf 12 = .ok (.getfield 7, 3) := dk_180 0 7 (dk_at dksX6_errorOf_0 12 rfl rfl)
theorem dX6_errorOf_15 : decode cX6_errorOf 15 = .ok (.bipush 22, 2) := dk_16 22 (dk_at dksX6_errorOf_0 15 rfl rfl)
theorem dX6_errorOf_17 : decode cX6_errorOf 17 = .ok (.iaload, 1) := dk_46 (dk_at dksX6_errorOf_0 17 rfl rfl)
theorem dX6_errorOf_18 : decode cX6_errorOf 18 = .ok (.if_icmp .ge 104, 3) := dk_162 0 104 (dk_at dksX6_errorOf_0 18 rfl rfl)
theorem dX6_errorOf_21 : decode cX6_errorOf 21 = .ok (.aload_n 0, 1) := dk_42 (dk_at dksX6_errorOf_0 21 rfl rfl)
theorem dX6_errorOf_22 : decode cX6_errorOf 22 = .ok (.getfield 7, 3) := dk_180 0 7 (dk_at dksX6_errorOf_1 0 rfl rfl)
theorem dX6_errorOf_25 : decode cX6_errorOf 25 = .ok (.bipush 23, 2) := dk_16 23 (dk_at dksX6_errorOf_1 3 rfl rfl)
theorem dX6_errorOf_27 : decode cX6_errorOf 27 = .ok (.iconst 2, 1) := dk_5 (dk_at dksX6_errorOf_1 5 rfl rfl)
theorem dX6_errorOf_28 : decode cX6_errorOf 28 = .ok (.iload 4, 2) := dk_21 4 (dk_at dksX6_errorOf_1 6 rfl rfl)
theorem dX6_errorOf_30 : decode cX6_errorOf 30 = .ok (.imul, 1) := dk_104 (dk_at dksX6_errorOf_1 8 rfl rfl)
theorem dX6_errorOf_31 : decode cX6_errorOf 31 = .ok (.iadd, 1) := dk_96 (dk_at dksX6_errorOf_1 9 rfl rfl)
theorem dX6_errorOf_32 : decode cX6_errorOf 32 = .ok (.iaload, 1) := dk_46 (dk_at dksX6_errorOf_1 10 rfl rfl)
theorem dX6_errorOf_33 : decode cX6_errorOf 33 = .ok (.istore 5, 2) := dk_54 5 (dk_at dksX6_errorOf_1 11 rfl rfl)
theorem dX6_errorOf_35 : decode cX6_errorOf 35 = .ok (.aload_n 0, 1) := dk_42 (dk_at dksX6_errorOf_1 13 rfl rfl)
theorem dX6_errorOf_36 : decode cX6_errorOf 36 = .ok (.getfield 7, 3) := dk_180 0 7 (dk_at dksX6_errorOf_1 14 rfl rfl)
theorem dX6_errorOf_39 : decode cX6_errorOf 39 = .ok (.bipush 23, 2) := dk_16 23 (dk_at dksX6_errorOf_1 17 rfl rfl)
theorem dX6_errorOf_41 : decode cX6_errorOf 41 = .ok (.iconst 2, 1) := dk_5 (dk_at dksX6_errorOf_1 19 rfl rfl)
theorem dX6_errorOf_42 : decode cX6_errorOf 42 = .ok (.iload 4, 2) := dk_21 4 (dk_at dksX6_errorOf_1 20 rfl rfl)
theorem dX6_errorOf_44 : decode cX6_errorOf 44 = .ok (.imul, 1) := dk_104 (dk_at dksX6_errorOf_1 22 rfl rfl)
theorem dX6_errorOf_45 : decode cX6_errorOf 45 = .ok (.iadd, 1) := dk_96 (dk_at dksX6_errorOf_1 23 rfl rfl)
theorem dX6_errorOf_46 : decode cX6_errorOf 46 = .ok (.iconst 1, 1) := dk_4 (dk_at dksX6_errorOf_2 0 rfl rfl)
theorem dX6_errorOf_47 : decode cX6_errorOf 47 = .ok (.iadd, 1) := dk_96 (dk_at dksX6_errorOf_2 1 rfl rfl)
theorem dX6_errorOf_48 : decode cX6_errorOf 48 = .ok (.iaload, 1) := dk_46 (dk_at dksX6_errorOf_2 2 rfl rfl)
theorem dX6_errorOf_49 : decode cX6_errorOf 49 = .ok (.istore 6, 2) := dk_54 6 (dk_at dksX6_errorOf_2 3 rfl rfl)
theorem dX6_errorOf_51 : decode cX6_errorOf 51 = .ok (.iload 5, 2) := dk_21 5 (dk_at dksX6_errorOf_2 5 rfl rfl)
theorem dX6_errorOf_53 : decode cX6_errorOf 53 = .ok (.iconst (-1), 1) := dk_2 (dk_at dksX6_errorOf_2 7 rfl rfl)
theorem dX6_errorOf_54 : decode cX6_errorOf 54 = .ok (.if_icmp .ne 17, 3) := dk_160 0 17 (dk_at dksX6_errorOf_2 8 rfl rfl)
theorem dX6_errorOf_57 : decode cX6_errorOf 57 = .ok (.aload_n 0, 1) := dk_42 (dk_at dksX6_errorOf_2 11 rfl rfl)
theorem dX6_errorOf_58 : decode cX6_errorOf 58 = .ok (.iload 6, 2) := dk_21 6 (dk_at dksX6_errorOf_2 12 rfl rfl)
theorem dX6_errorOf_60 : decode cX6_errorOf 60 = .ok (.iload_n 1, 1) := dk_27 (dk_at dksX6_errorOf_2 14 rfl rfl)
theorem dX6_errorOf_61 : decode cX6_errorOf 61 = .ok (.invokevirtual 88, 3) := dk_182 0 88 (dk_at dksX6_errorOf_2 15 rfl rfl)
theorem dX6_errorOf_64 : decode cX6_errorOf 64 = .ok (.ifCond .ne 52, 3) := dk_154 0 52 (dk_at dksX6_errorOf_2 18 rfl rfl)
theorem dX6_errorOf_67 : decode cX6_errorOf 67 = .ok (.ldc2_w 110, 3) := dk_20 0 110 (dk_at dksX6_errorOf_2 21 rfl rfl)
theorem dX6_errorOf_70 : decode cX6_errorOf 70 = .ok (.lreturn, 1) := dk_173 (dk_at dksX6_errorOf_3 0 rfl rfl)
theorem dX6_errorOf_71 : decode cX6_errorOf 71 = .ok (.aload_n 0, 1) := dk_42 (dk_at dksX6_errorOf_3 1 rfl rfl)
theorem dX6_errorOf_72 : decode cX6_errorOf 72 = .ok (.iload 5, 2) := dk_21 5 (dk_at dksX6_errorOf_3 2 rfl rfl)
theorem dX6_errorOf_74 : decode cX6_errorOf 74 = .ok (.iload 6, 2) := dk_21 6 (dk_at dksX6_errorOf_3 4 rfl rfl)
theorem dX6_errorOf_76 : decode cX6_errorOf 76 = .ok (.i2l, 1) := dk_133 (dk_at dksX6_errorOf_3 6 rfl rfl)
theorem dX6_errorOf_77 : decode cX6_errorOf 77 = .ok (.iconst 0, 1) := dk_3 (dk_at dksX6_errorOf_3 7 rfl rfl)
theorem dX6_errorOf_78 : decode cX6_errorOf 78 = .ok (.invokevirtual 100, 3) := dk_182 0 100 (dk_at dksX6_errorOf_3 8 rfl rfl)
theorem dX6_errorOf_81 : decode cX6_errorOf 81 = .ok (.istore 7, 2) := dk_54 7 (dk_at dksX6_errorOf_3 11 rfl rfl)
theorem dX6_errorOf_83 : decode cX6_errorOf 83 = .ok (.iload 7, 2) := dk_21 7 (dk_at dksX6_errorOf_3 13 rfl rfl)
theorem dX6_errorOf_85 : decode cX6_errorOf 85 = .ok (.ifCond .ge 7, 3) := dk_156 0 7 (dk_at dksX6_errorOf_3 15 rfl rfl)
theorem dX6_errorOf_88 : decode cX6_errorOf 88 = .ok (.ldc2_w 110, 3) := dk_20 0 110 (dk_at dksX6_errorOf_3 18 rfl rfl)
theorem dX6_errorOf_91 : decode cX6_errorOf 91 = .ok (.lreturn, 1) := dk_173 (dk_at dksX6_errorOf_3 21 rfl rfl)
theorem dX6_errorOf_92 : decode cX6_errorOf 92 = .ok (.lload_n 2, 1) := dk_32 (dk_at dksX6_errorOf_3 22 rfl rfl)
theorem dX6_errorOf_93 : decode cX6_errorOf 93 = .ok (.aload_n 0, 1) := dk_42 (dk_at dksX6_errorOf_3 23 rfl rfl)
theorem dX6_errorOf_94 : decode cX6_errorOf 94 = .ok (.getfield 50, 3) := dk_180 0 50 (dk_at dksX6_errorOf_4 0 rfl rfl)
theorem dX6_errorOf_97 : decode cX6_errorOf 97 = .ok (.lconst 0, 1) := dk_9 (dk_at dksX6_errorOf_4 3 rfl rfl)
theorem dX6_errorOf_98 : decode cX6_errorOf 98 = .ok (.lcmp, 1) := dk_148 (dk_at dksX6_errorOf_4 4 rfl rfl)
theorem dX6_errorOf_99 : decode cX6_errorOf 99 = .ok (.ifCond .ge 11, 3) := dk_156 0 11 (dk_at dksX6_errorOf_4 5 rfl rfl)
theorem dX6_errorOf_102 : decode cX6_errorOf 102 = .ok (.aload_n 0, 1) := dk_42 (dk_at dksX6_errorOf_4 8 rfl rfl)
theorem dX6_errorOf_103 : decode cX6_errorOf 103 = .ok (.getfield 50, 3) := dk_180 0 50 (dk_at dksX6_errorOf_4 9 rfl rfl)
theorem dX6_errorOf_106 : decode cX6_errorOf 106 = .ok (.lneg, 1) := dk_117 (dk_at dksX6_errorOf_4 12 rfl rfl)
theorem dX6_errorOf_107 : decode cX6_errorOf 107 = .ok (.goto 7, 3) := dk_167 0 7 (dk_at dksX6_errorOf_4 13 rfl rfl)
theorem dX6_errorOf_110 : decode cX6_errorOf 110 = .ok (.aload_n 0, 1) := dk_42 (dk_at dksX6_errorOf_4 16 rfl rfl)
theorem dX6_errorOf_111 : decode cX6_errorOf 111 = .ok (.getfield 50, 3) := dk_180 0 50 (dk_at dksX6_errorOf_4 17 rfl rfl)
theorem dX6_errorOf_114 : decode cX6_errorOf 114 = .ok (.ladd, 1) := dk_97 (dk_at dksX6_errorOf_4 20 rfl rfl)
theorem dX6_errorOf_115 : decode cX6_errorOf 115 = .ok (.lstore_n 2, 1) := dk_65 (dk_at dksX6_errorOf_4 21 rfl rfl)
theorem dX6_errorOf_116 : decode cX6_errorOf 116 = .ok (.iinc 4 1, 3) := dk_132 4 1 (dk_at dksX6_errorOf_5 0 rfl rfl)
theorem dX6_errorOf_119 : decode cX6_errorOf 119 = .ok (.goto (-110), 3) := dk_167 255 146 (dk_at dksX6_errorOf_5 3 rfl rfl)
theorem dX6_errorOf_122 : decode cX6_errorOf 122 = .ok (.lload_n 2, 1) := dk_32 (dk_at dksX6_errorOf_5 6 rfl rfl)
theorem dX6_errorOf_123 : decode cX6_errorOf 123 = .ok (.invokestatic 46, 3) := dk_184 0 46 (dk_at dksX6_errorOf_5 7 rfl rfl)
theorem dX6_errorOf_126 : decode cX6_errorOf 126 = .ok (.ifCond .eq 7, 3) := dk_153 0 7 (dk_at dksX6_errorOf_5 10 rfl rfl)
theorem dX6_errorOf_129 : decode cX6_errorOf 129 = .ok (.lload_n 2, 1) := dk_32 (dk_at dksX6_errorOf_5 13 rfl rfl)
theorem dX6_errorOf_130 : decode cX6_errorOf 130 = .ok (.goto 6, 3) := dk_167 0 6 (dk_at dksX6_errorOf_5 14 rfl rfl)
theorem dX6_errorOf_133 : decode cX6_errorOf 133 = .ok (.ldc2_w 110, 3) := dk_20 0 110 (dk_at dksX6_errorOf_5 17 rfl rfl)
theorem dX6_errorOf_136 : decode cX6_errorOf 136 = .ok (.lreturn, 1) := dk_173 (dk_at dksX6_errorOf_5 20 rfl rfl)
abbrev cX6_bestFlowNoise : ByteArray := prog_11_method_46_code
def yX6_bestFlowNoise : MethodName := ⟨RX6, "bestFlowNoise", "()I"⟩
def dkwX6_bestFlowNoise_3 : List UInt8 := [167, 0, 7, 7, 21, 4, 104, 54, 4, 132, 5, 1, 167, 255, 203, 27, 172]
abbrev dktX6_bestFlowNoise_3 : List UInt8 := dkwX6_bestFlowNoise_3 ++ []
def dkwX6_bestFlowNoise_2 : List UInt8 := [155, 0, 16, 22, 6, 32, 148, 156, 0, 9, 21, 4, 60, 22, 6, 65, 21, 4, 154, 0, 7, 4]
abbrev dktX6_bestFlowNoise_2 : List UInt8 := dkwX6_bestFlowNoise_2 ++ dktX6_bestFlowNoise_3
def dkwX6_bestFlowNoise_1 : List UInt8 := [3, 54, 5, 21, 5, 16, 12, 162, 0, 52, 42, 21, 4, 182, 0, 117, 55, 6, 22, 6, 9, 148]
abbrev dktX6_bestFlowNoise_1 : List UInt8 := dkwX6_bestFlowNoise_1 ++ dktX6_bestFlowNoise_2
def dkwX6_bestFlowNoise_0 : List UInt8 := [42, 182, 0, 112, 154, 0, 10, 42, 18, 116, 182, 0, 74, 172, 18, 27, 60, 20, 0, 121, 65, 3, 54, 4]
abbrev dktX6_bestFlowNoise_0 : List UInt8 := dkwX6_bestFlowNoise_0 ++ dktX6_bestFlowNoise_1
theorem dksX6_bestFlowNoise_0 : cX6_bestFlowNoise.data.toList.drop 0 = dktX6_bestFlowNoise_0 := by decide +kernel
theorem dksX6_bestFlowNoise_1 : cX6_bestFlowNoise.data.toList.drop 24 = dktX6_bestFlowNoise_1 := dk_seg dksX6_bestFlowNoise_0 24 rfl rfl
theorem dksX6_bestFlowNoise_2 : cX6_bestFlowNoise.data.toList.drop 46 = dktX6_bestFlowNoise_2 := dk_seg dksX6_bestFlowNoise_1 22 rfl rfl
theorem dksX6_bestFlowNoise_3 : cX6_bestFlowNoise.data.toList.drop 68 = dktX6_bestFlowNoise_3 := dk_seg dksX6_bestFlowNoise_2 22 rfl rfl
theorem dX6_bestFlowNoise_0 : decode cX6_bestFlowNoise 0 = .ok (.aload_n 0, 1) := dk_42 (dk_at dksX6_bestFlowNoise_0 0 rfl rfl)
theorem dX6_bestFlowNoise_1 : decode cX6_bestFlowNoise 1 = .ok (.invokevirtual 112, 3) := dk_182 0 112 (dk_at dksX6_bestFlowNoise_0 1 rfl rfl)
theorem dX6_bestFlowNoise_4 : decode cX6_bestFlowNoise 4 = .ok (.ifCond .ne 10, 3) := dk_154 0 10 (dk_at dksX6_bestFlowNoise_0 4 rfl rfl)
theorem dX6_bestFlowNoise_7 : decode cX6_bestFlowNoise 7 = .ok (.aload_n 0, 1) := dk_42 (dk_at dksX6_bestFlowNoise_0 7 rfl rfl)
theorem dX6_bestFlowNoise_8 : decode cX6_bestFlowNoise 8 = .ok (.ldc 116, 2) := dk_18 116 (dk_at dksX6_bestFlowNoise_0 8 rfl rfl)
theorem dX6_bestFlowNoise_10 : decode cX6_bestFlowNoise 10 = .ok (.invokevirtual 74, 3) := dk_182 0 74 (dk_at dksX6_bestFlowNoise_0 10 rfl rfl)
theorem dX6_bestFlowNoise_13 : decode cX6_bestFlowNoise 13 = .ok (.ireturn, 1) := dk_172 (dk_at dksX6_bestFlowNoise_0 13 rfl rfl)
theorem dX6_bestFlowNoise_14 : decode cX6_bestFlowNoise 14 = .ok (.ldc 27, 2) := dk_18 27 (dk_at dksX6_bestFlowNoise_0 14 rfl rfl)
theorem dX6_bestFlowNoise_16 : decode cX6_bestFlowNoise 16 = .ok (.istore_n 1, 1) := dk_60 (dk_at dksX6_bestFlowNoise_0 16 rfl rfl)
theorem dX6_bestFlowNoise_17 : decode cX6_bestFlowNoise 17 = .ok (.ldc2_w 121, 3) := dk_20 0 121 (dk_at dksX6_bestFlowNoise_0 17 rfl rfl)
theorem dX6_bestFlowNoise_20 : decode cX6_bestFlowNoise 20 = .ok (.lstore_n 2, 1) := dk_65 (dk_at dksX6_bestFlowNoise_0 20 rfl rfl)
theorem dX6_bestFlowNoise_21 : decode cX6_bestFlowNoise 21 = .ok (.iconst 0, 1) := dk_3 (dk_at dksX6_bestFlowNoise_0 21 rfl rfl)
theorem dX6_bestFlowNoise_22 : decode cX6_bestFlowNoise 22 = .ok (.istore 4, 2) := dk_54 4 (dk_at dksX6_bestFlowNoise_0 22 rfl rfl)
theorem dX6_bestFlowNoise_24 : decode cX6_bestFlowNoise 24 = .ok (.iconst 0, 1) := dk_3 (dk_at dksX6_bestFlowNoise_1 0 rfl rfl)
theorem dX6_bestFlowNoise_25 : decode cX6_bestFlowNoise 25 = .ok (.istore 5, 2) := dk_54 5 (dk_at dksX6_bestFlowNoise_1 1 rfl rfl)
theorem dX6_bestFlowNoise_27 : decode cX6_bestFlowNoise 27 = .ok (.iload 5, 2) := dk_21 5 (dk_at dksX6_bestFlowNoise_1 3 rfl rfl)
theorem dX6_bestFlowNoise_29 : decode cX6_bestFlowNoise 29 = .ok (.bipush 12, 2) := dk_16 12 (dk_at dksX6_bestFlowNoise_1 5 rfl rfl)
theorem dX6_bestFlowNoise_31 : decode cX6_bestFlowNoise 31 = .ok (.if_icmp .ge 52, 3) := dk_162 0 52 (dk_at dksX6_bestFlowNoise_1 7 rfl rfl)
theorem dX6_bestFlowNoise_34 : decode cX6_bestFlowNoise 34 = .ok (.aload_n 0, 1) := dk_42 (dk_at dksX6_bestFlowNoise_1 10 rfl rfl)
theorem dX6_bestFlowNoise_35 : decode cX6_bestFlowNoise 35 = .ok (.iload 4, 2) := dk_21 4 (dk_at dksX6_bestFlowNoise_1 11 rfl rfl)
theorem dX6_bestFlowNoise_37 : decode cX6_bestFlowNoise 37 = .ok (.invokevirtual 117, 3) := dk_182 0 117 (dk_at dksX6_bestFlowNoise_1 13 rfl rfl)
theorem dX6_bestFlowNoise_40 : decode cX6_bestFlowNoise 40 = .ok (.lstore 6, 2) := dk_55 6 (dk_at dksX6_bestFlowNoise_1 16 rfl rfl)
theorem dX6_bestFlowNoise_42 : decode cX6_bestFlowNoise 42 = .ok (.lload 6, 2) := dk_22 6 (dk_at dksX6_bestFlowNoise_1 18 rfl rfl)
theorem dX6_bestFlowNoise_44 : decode cX6_bestFlowNoise 44 = .ok (.lconst 0, 1) := dk_9 (dk_at dksX6_bestFlowNoise_1 20 rfl rfl)
theorem dX6_bestFlowNoise_45 : decode cX6_bestFlowNoise 45 = .ok (.lcmp, 1) := dk_148 (dk_at dksX6_bestFlowNoise_1 21 rfl rfl)
theorem dX6_bestFlowNoise_46 : decode cX6_bestFlowNoise 46 = .ok (.ifCond .lt 16, 3) := dk_155 0 16 (dk_at dksX6_bestFlowNoise_2 0 rfl rfl)
theorem dX6_bestFlowNoise_49 : decode cX6_bestFlowNoise 49 = .ok (.lload 6, 2) := dk_22 6 (dk_at dksX6_bestFlowNoise_2 3 rfl rfl)
theorem dX6_bestFlowNoise_51 : decode cX6_bestFlowNoise 51 = .ok (.lload_n 2, 1) := dk_32 (dk_at dksX6_bestFlowNoise_2 5 rfl rfl)
theorem dX6_bestFlowNoise_52 : decode cX6_bestFlowNoise 52 = .ok (.lcmp, 1) := dk_148 (dk_at dksX6_bestFlowNoise_2 6 rfl rfl)
theorem dX6_bestFlowNoise_53 : decode cX6_bestFlowNoise 53 = .ok (.ifCond .ge 9, 3) := dk_156 0 9 (dk_at dksX6_bestFlowNoise_2 7 rfl rfl)
theorem dX6_bestFlowNoise_56 : decode cX6_bestFlowNoise 56 = .ok (.iload 4, 2) := dk_21 4 (dk_at dksX6_bestFlowNoise_2 10 rfl rfl)
theorem dX6_bestFlowNoise_58 : decode cX6_bestFlowNoise 58 = .ok (.istore_n 1, 1) := dk_60 (dk_at dksX6_bestFlowNoise_2 12 rfl rfl)
theorem dX6_bestFlowNoise_59 : decode cX6_bestFlowNoise 59 = .ok (.lload 6, 2) := dk_22 6 (dk_at dksX6_bestFlowNoise_2 13 rfl rfl)
theorem dX6_bestFlowNoise_61 : decode cX6_bestFlowNoise 61 = .ok (.lstore_n 2, 1) := dk_65 (dk_at dksX6_bestFlowNoise_2 15 rfl rfl)
theorem dX6_bestFlowNoise_62 : decode cX6_bestFlowNoise 62 = .ok (.iload 4, 2) := dk_21 4 (dk_at dksX6_bestFlowNoise_2 16 rfl rfl)
theorem dX6_bestFlowNoise_64 : decode cX6_bestFlowNoise 64 = .ok (.ifCond .ne 7, 3) := dk_154 0 7 (dk_at dksX6_bestFlowNoise_2 18 rfl rfl)
theorem dX6_bestFlowNoise_67 : decode cX6_bestFlowNoise 67 = .ok (.iconst 1, 1) := dk_4 (dk_at dksX6_bestFlowNoise_2 21 rfl rfl)
theorem dX6_bestFlowNoise_68 : decode cX6_bestFlowNoise 68 = .ok (.goto 7, 3) := dk_167 0 7 (dk_at dksX6_bestFlowNoise_3 0 rfl rfl)
theorem dX6_bestFlowNoise_71 : decode cX6_bestFlowNoise 71 = .ok (.iconst 4, 1) := dk_7 (dk_at dksX6_bestFlowNoise_3 3 rfl rfl)
theorem dX6_bestFlowNoise_72 : decode cX6_bestFlowNoise 72 = .ok (.iload 4, 2) := dk_21 4 (dk_at dksX6_bestFlowNoise_3 4 rfl rfl)
theorem dX6_bestFlowNoise_74 : decode cX6_bestFlowNoise 74 = .ok (.imul, 1) := dk_104 (dk_at dksX6_bestFlowNoise_3 6 rfl rfl)
theorem dX6_bestFlowNoise_75 : decode cX6_bestFlowNoise 75 = .ok (.istore 4, 2) := dk_54 4 (dk_at dksX6_bestFlowNoise_3 7 rfl rfl)
theorem dX6_bestFlowNoise_77 : decode cX6_bestFlowNoise 77 = .ok (.iinc 5 1, 3) := dk_132 5 1 (dk_at dksX6_bestFlowNoise_3 9 rfl rfl)
theorem dX6_bestFlowNoise_80 : decode cX6_bestFlowNoise 80 = .ok (.goto (-53), 3) := dk_167 255 203 (dk_at dksX6_bestFlowNoise_3 12 rfl rfl)
theorem dX6_bestFlowNoise_83 : decode cX6_bestFlowNoise 83 = .ok (.iload_n 1, 1) := dk_27 (dk_at dksX6_bestFlowNoise_3 15 rfl rfl)
theorem dX6_bestFlowNoise_84 : decode cX6_bestFlowNoise 84 = .ok (.ireturn, 1) := dk_172 (dk_at dksX6_bestFlowNoise_3 16 rfl rfl)
abbrev cX6_undo : ByteArray := prog_11_method_47_code
def yX6_undo : MethodName := ⟨RX6, "undo", "()I"⟩
def dkwX6_undo_2 : List UInt8 := [27, 96, 46, 79, 132, 1, 1, 167, 255, 227, 42, 180, 0, 28, 172]
abbrev dktX6_undo_2 : List UInt8 := dkwX6_undo_2 ++ []
def dkwX6_undo_1 : List UInt8 := [3, 60, 27, 16, 71, 162, 0, 29, 42, 180, 0, 7, 27, 42, 180, 0, 13, 16, 71, 42, 180, 0, 28, 104]
abbrev dktX6_undo_1 : List UInt8 := dkwX6_undo_1 ++ dktX6_undo_2
def dkwX6_undo_0 : List UInt8 := [42, 180, 0, 28, 154, 0, 10, 42, 18, 116, 182, 0, 74, 172, 42, 89, 180, 0, 28, 4, 100, 181, 0, 28]
abbrev dktX6_undo_0 : List UInt8 := dkwX6_undo_0 ++ dktX6_undo_1
theorem dksX6_undo_0 : cX6_undo.data.toList.drop 0 = dktX6_undo_0 := by decide +kernel
theorem dksX6_undo_1 : cX6_undo.data.toList.drop 24 = dktX6_undo_1 := dk_seg dksX6_undo_0 24 rfl rfl
theorem dksX6_undo_2 : cX6_undo.data.toList.drop 48 = dktX6_undo_2 := dk_seg dksX6_undo_1 24 rfl rfl
theorem dX6_undo_0 : decode cX6_undo 0 = .ok (.aload_n 0, 1) := dk_42 (dk_at dksX6_undo_0 0 rfl rfl)
theorem dX6_undo_1 : decode cX6_undo 1 = .ok (.getfield 28, 3) := dk_180 0 28 (dk_at dksX6_undo_0 1 rfl rfl)
theorem dX6_undo_4 : decode cX6_undo 4 = .ok (.ifCond .ne 10, 3) := dk_154 0 10 (dk_at dksX6_undo_0 4 rfl rfl)
theorem dX6_undo_7 : decode cX6_undo 7 = .ok (.aload_n 0, 1) := dk_42 (dk_at dksX6_undo_0 7 rfl rfl)
theorem dX6_undo_8 : decode cX6_undo 8 = .ok (.ldc 116, 2) := dk_18 116 (dk_at dksX6_undo_0 8 rfl rfl)
theorem dX6_undo_10 : decode cX6_undo 10 = .ok (.invokevirtual 74, 3) := dk_182 0 74 (dk_at dksX6_undo_0 10 rfl rfl)
theorem dX6_undo_13 : decode cX6_undo 13 = .ok (.ireturn, 1) := dk_172 (dk_at dksX6_undo_0 13 rfl rfl)
theorem dX6_undo_14 : decode cX6_undo 14 = .ok (.aload_n 0, 1) := dk_42 (dk_at dksX6_undo_0 14 rfl rfl)
theorem dX6_undo_15 : decode cX6_undo 15 = .ok (.dup, 1) := dk_89 (dk_at dksX6_undo_0 15 rfl rfl)
theorem dX6_undo_16 : decode cX6_undo 16 = .ok (.getfield 28, 3) := dk_180 0 28 (dk_at dksX6_undo_0 16 rfl rfl)
theorem dX6_undo_19 : decode cX6_undo 19 = .ok (.iconst 1, 1) := dk_4 (dk_at dksX6_undo_0 19 rfl rfl)
theorem dX6_undo_20 : decode cX6_undo 20 = .ok (.isub, 1) := dk_100 (dk_at dksX6_undo_0 20 rfl rfl)
theorem dX6_undo_21 : decode cX6_undo 21 = .ok (.putfield 28, 3) := dk_181 0 28 (dk_at dksX6_undo_0 21 rfl rfl)
theorem dX6_undo_24 : decode cX6_undo 24 = .ok (.iconst 0, 1) := dk_3 (dk_at dksX6_undo_1 0 rfl rfl)
theorem dX6_undo_25 : decode cX6_undo 25 = .ok (.istore_n 1, 1) := dk_60 (dk_at dksX6_undo_1 1 rfl rfl)
theorem dX6_undo_26 : decode cX6_undo 26 = .ok (.iload_n 1, 1) := dk_27 (dk_at dksX6_undo_1 2 rfl rfl)
theorem dX6_undo_27 : decode cX6_undo 27 = .ok (.bipush 71, 2) := dk_16 71 (dk_at dksX6_undo_1 3 rfl rfl)
theorem dX6_undo_29 : decode cX6_undo 29 = .ok (.if_icmp .ge 29, 3) := dk_162 0 29 (dk_at dksX6_undo_1 5 rfl rfl)
theorem dX6_undo_32 : decode cX6_undo 32 = .ok (.aload_n 0, 1) := dk_42 (dk_at dksX6_undo_1 8 rfl rfl)
theorem dX6_undo_33 : decode cX6_undo 33 = .ok (.getfield 7, 3) := dk_180 0 7 (dk_at dksX6_undo_1 9 rfl rfl)
theorem dX6_undo_36 : decode cX6_undo 36 = .ok (.iload_n 1, 1) := dk_27 (dk_at dksX6_undo_1 12 rfl rfl)
theorem dX6_undo_37 : decode cX6_undo 37 = .ok (.aload_n 0, 1) := dk_42 (dk_at dksX6_undo_1 13 rfl rfl)
theorem dX6_undo_38 : decode cX6_undo 38 = .ok (.getfield 13, 3) := dk_180 0 13 (dk_at dksX6_undo_1 14 rfl rfl)
theorem dX6_undo_41 : decode cX6_undo 41 = .ok (.bipush 71, 2) := dk_16 71 (dk_at dksX6_undo_1 17 rfl rfl)
theorem dX6_undo_43 : decode cX6_undo 43 = .ok (.aload_n 0, 1) := dk_42 (dk_at dksX6_undo_1 19 rfl rfl)
theorem dX6_undo_44 : decode cX6_undo 44 = .ok (.getfield 28, 3) := dk_180 0 28 (dk_at dksX6_undo_1 20 rfl rfl)
theorem dX6_undo_47 : decode cX6_undo 47 = .ok (.imul, 1) := dk_104 (dk_at dksX6_undo_1 23 rfl rfl)
theorem dX6_undo_48 : decode cX6_undo 48 = .ok (.iload_n 1, 1) := dk_27 (dk_at dksX6_undo_2 0 rfl rfl)
theorem dX6_undo_49 : decode cX6_undo 49 = .ok (.iadd, 1) := dk_96 (dk_at dksX6_undo_2 1 rfl rfl)
theorem dX6_undo_50 : decode cX6_undo 50 = .ok (.iaload, 1) := dk_46 (dk_at dksX6_undo_2 2 rfl rfl)
theorem dX6_undo_51 : decode cX6_undo 51 = .ok (.iastore, 1) := dk_79 (dk_at dksX6_undo_2 3 rfl rfl)
theorem dX6_undo_52 : decode cX6_undo 52 = .ok (.iinc 1 1, 3) := dk_132 1 1 (dk_at dksX6_undo_2 4 rfl rfl)
theorem dX6_undo_55 : decode cX6_undo 55 = .ok (.goto (-29), 3) := dk_167 255 227 (dk_at dksX6_undo_2 7 rfl rfl)
theorem dX6_undo_58 : decode cX6_undo 58 = .ok (.aload_n 0, 1) := dk_42 (dk_at dksX6_undo_2 10 rfl rfl)
theorem dX6_undo_59 : decode cX6_undo 59 = .ok (.getfield 28, 3) := dk_180 0 28 (dk_at dksX6_undo_2 11 rfl rfl)
theorem dX6_undo_62 : decode cX6_undo 62 = .ok (.ireturn, 1) := dk_172 (dk_at dksX6_undo_2 14 rfl rfl)
abbrev cX6_errorCount : ByteArray := prog_11_method_48_code
def yX6_errorCount : MethodName := ⟨RX6, "errorCount", "(I)I"⟩
def dkwX6_errorCount_1 : List UInt8 := [172]
abbrev dktX6_errorCount_1 : List UInt8 := dkwX6_errorCount_1 ++ []
def dkwX6_errorCount_0 : List UInt8 := [27, 3, 5, 184, 0, 68, 153, 0, 12, 42, 180, 0, 16, 27, 46, 167, 0, 9, 42, 18, 26, 182, 0, 74]
abbrev dktX6_errorCount_0 : List UInt8 := dkwX6_errorCount_0 ++ dktX6_errorCount_1
theorem dksX6_errorCount_0 : cX6_errorCount.data.toList.drop 0 = dktX6_errorCount_0 := by decide +kernel
theorem dksX6_errorCount_1 : cX6_errorCount.data.toList.drop 24 = dktX6_errorCount_1 := dk_seg dksX6_errorCount_0 24 rfl rfl
theorem dX6_errorCount_0 : decode cX6_errorCount 0 = .ok (.iload_n 1, 1) := dk_27 (dk_at dksX6_errorCount_0 0 rfl rfl)
theorem dX6_errorCount_1 : decode cX6_errorCount 1 = .ok (.iconst 0, 1) := dk_3 (dk_at dksX6_errorCount_0 1 rfl rfl)
theorem dX6_errorCount_2 : decode cX6_errorCount 2 = .ok (.iconst 2, 1) := dk_5 (dk_at dksX6_errorCount_0 2 rfl rfl)
theorem dX6_errorCount_3 : decode cX6_errorCount 3 = .ok (.invokestatic 68, 3) := dk_184 0 68 (dk_at dksX6_errorCount_0 3 rfl rfl)
theorem dX6_errorCount_6 : decode cX6_errorCount 6 = .ok (.ifCond .eq 12, 3) := dk_153 0 12 (dk_at dksX6_errorCount_0 6 rfl rfl)
theorem dX6_errorCount_9 : decode cX6_errorCount 9 = .ok (.aload_n 0, 1) := dk_42 (dk_at dksX6_errorCount_0 9 rfl rfl)
theorem dX6_errorCount_10 : decode cX6_errorCount 10 = .ok (.getfield 16, 3) := dk_180 0 16 (dk_at dksX6_errorCount_0 10 rfl rfl)
theorem dX6_errorCount_13 : decode cX6_errorCount 13 = .ok (.iload_n 1, 1) := dk_27 (dk_at dksX6_errorCount_0 13 rfl rfl)
theorem dX6_errorCount_14 : decode cX6_errorCount 14 = .ok (.iaload, 1) := dk_46 (dk_at dksX6_errorCount_0 14 rfl rfl)
theorem dX6_errorCount_15 : decode cX6_errorCount 15 = .ok (.goto 9, 3) := dk_167 0 9 (dk_at dksX6_errorCount_0 15 rfl rfl)
theorem dX6_errorCount_18 : decode cX6_errorCount 18 = .ok (.aload_n 0, 1) := dk_42 (dk_at dksX6_errorCount_0 18 rfl rfl)
theorem dX6_errorCount_19 : decode cX6_errorCount 19 = .ok (.ldc 26, 2) := dk_18 26 (dk_at dksX6_errorCount_0 19 rfl rfl)
theorem dX6_errorCount_21 : decode cX6_errorCount 21 = .ok (.invokevirtual 74, 3) := dk_182 0 74 (dk_at dksX6_errorCount_0 21 rfl rfl)
theorem dX6_errorCount_24 : decode cX6_errorCount 24 = .ok (.ireturn, 1) := dk_172 (dk_at dksX6_errorCount_1 0 rfl rfl)
abbrev cX6_digest : ByteArray := prog_11_method_50_code
def yX6_digest : MethodName := ⟨RX6, "digest", "()J"⟩
def dkwX6_digest_6 : List UInt8 := [42, 42, 180, 0, 7, 16, 23, 27, 96, 46, 182, 0, 130, 132, 1, 1, 167, 255, 227, 42, 180, 0, 125, 173]
abbrev dktX6_digest_6 : List UInt8 := dkwX6_digest_6 ++ []
def dkwX6_digest_5 : List UInt8 := [182, 0, 130, 132, 1, 1, 167, 255, 237, 3, 60, 27, 5, 42, 180, 0, 7, 16, 22, 46, 104, 162, 0, 22]
abbrev dktX6_digest_5 : List UInt8 := dkwX6_digest_5 ++ dktX6_digest_6
def dkwX6_digest_4 : List UInt8 := [132, 1, 1, 167, 255, 222, 16, 16, 60, 27, 16, 22, 163, 0, 19, 42, 42, 180, 0, 7, 27, 46]
abbrev dktX6_digest_4 : List UInt8 := dkwX6_digest_4 ++ dktX6_digest_5
def dkwX6_digest_3 : List UInt8 := [180, 0, 7, 16, 8, 27, 96, 46, 182, 0, 130, 42, 42, 180, 0, 7, 16, 12, 27, 96, 46, 182, 0, 130]
abbrev dktX6_digest_3 : List UInt8 := dkwX6_digest_3 ++ dktX6_digest_4
def dkwX6_digest_2 : List UInt8 := [180, 0, 7, 27, 46, 182, 0, 130, 132, 1, 1, 167, 255, 237, 3, 60, 27, 7, 162, 0, 35, 42, 42]
abbrev dktX6_digest_2 : List UInt8 := dkwX6_digest_2 ++ dktX6_digest_3
def dkwX6_digest_1 : List UInt8 := [132, 1, 1, 167, 255, 238, 42, 42, 180, 0, 28, 182, 0, 130, 3, 60, 27, 16, 7, 163, 0, 19, 42, 42]
abbrev dktX6_digest_1 : List UInt8 := dkwX6_digest_1 ++ dktX6_digest_2
def dkwX6_digest_0 : List UInt8 := [42, 20, 0, 128, 181, 0, 125, 3, 60, 27, 6, 162, 0, 19, 42, 42, 180, 0, 16, 27, 46, 182, 0, 130]
abbrev dktX6_digest_0 : List UInt8 := dkwX6_digest_0 ++ dktX6_digest_1
theorem dksX6_digest_0 : cX6_digest.data.toList.drop 0 = dktX6_digest_0 := by decide +kernel
theorem dksX6_digest_1 : cX6_digest.data.toList.drop 24 = dktX6_digest_1 := dk_seg dksX6_digest_0 24 rfl rfl
theorem dksX6_digest_2 : cX6_digest.data.toList.drop 48 = dktX6_digest_2 := dk_seg dksX6_digest_1 24 rfl rfl
theorem dksX6_digest_3 : cX6_digest.data.toList.drop 71 = dktX6_digest_3 := dk_seg dksX6_digest_2 23 rfl rfl
theorem dksX6_digest_4 : cX6_digest.data.toList.drop 95 = dktX6_digest_4 := dk_seg dksX6_digest_3 24 rfl rfl
theorem dksX6_digest_5 : cX6_digest.data.toList.drop 117 = dktX6_digest_5 := dk_seg dksX6_digest_4 22 rfl rfl
theorem dksX6_digest_6 : cX6_digest.data.toList.drop 141 = dktX6_digest_6 := dk_seg dksX6_digest_5 24 rfl rfl
theorem dX6_digest_0 : decode cX6_digest 0 = .ok (.aload_n 0, 1) := dk_42 (dk_at dksX6_digest_0 0 rfl rfl)
theorem dX6_digest_1 : decode cX6_digest 1 = .ok (.ldc2_w 128, 3) := dk_20 0 128 (dk_at dksX6_digest_0 1 rfl rfl)
theorem dX6_digest_4 : decode cX6_digest 4 = .ok (.putfield 125, 3) := dk_181 0 125 (dk_at dksX6_digest_0 4 rfl rfl)
theorem dX6_digest_7 : decode cX6_digest 7 = .ok (.iconst 0, 1) := dk_3 (dk_at dksX6_digest_0 7 rfl rfl)
theorem dX6_digest_8 : decode cX6_digest 8 = .ok (.istore_n 1, 1) := dk_60 (dk_at dksX6_digest_0 8 rfl rfl)
theorem dX6_digest_9 : decode cX6_digest 9 = .ok (.iload_n 1, 1) := dk_27 (dk_at dksX6_digest_0 9 rfl rfl)
theorem dX6_digest_10 : decode cX6_digest 10 = .ok (.iconst 3, 1) := dk_6 (dk_at dksX6_digest_0 10 rfl rfl)
theorem dX6_digest_11 : decode cX6_digest 11 = .ok (.if_icmp .ge 19, 3) := dk_162 0 19 (dk_at dksX6_digest_0 11 rfl rfl)
theorem dX6_digest_14 : decode cX6_digest 14 = .ok (.aload_n 0, 1) := dk_42 (dk_at dksX6_digest_0 14 rfl rfl)
theorem dX6_digest_15 : decode cX6_digest 15 = .ok (.aload_n 0, 1) := dk_42 (dk_at dksX6_digest_0 15 rfl rfl)
theorem dX6_digest_16 : decode cX6_digest 16 = .ok (.getfield 16, 3) := dk_180 0 16 (dk_at dksX6_digest_0 16 rfl rfl)
theorem dX6_digest_19 : decode cX6_digest 19 = .ok (.iload_n 1, 1) := dk_27 (dk_at dksX6_digest_0 19 rfl rfl)
theorem dX6_digest_20 : decode cX6_digest 20 = .ok (.iaload, 1) := dk_46 (dk_at dksX6_digest_0 20 rfl rfl)
theorem dX6_digest_21 : decode cX6_digest 21 = .ok (.invokevirtual 130, 3) := dk_182 0 130 (dk_at dksX6_digest_0 21 rfl rfl)
theorem dX6_digest_24 : decode cX6_digest 24 = .ok (.iinc 1 1, 3) := dk_132 1 1 (dk_at dksX6_digest_1 0 rfl rfl)
theorem dX6_digest_27 : decode cX6_digest 27 = .ok (.goto (-18), 3) := dk_167 255 238 (dk_at dksX6_digest_1 3 rfl rfl)
theorem dX6_digest_30 : decode cX6_digest 30 = .ok (.aload_n 0, 1) := dk_42 (dk_at dksX6_digest_1 6 rfl rfl)
theorem dX6_digest_31 : decode cX6_digest 31 = .ok (.aload_n 0, 1) := dk_42 (dk_at dksX6_digest_1 7 rfl rfl)
theorem dX6_digest_32 : decode cX6_digest 32 = .ok (.getfield 28, 3) := dk_180 0 28 (dk_at dksX6_digest_1 8 rfl rfl)
theorem dX6_digest_35 : decode cX6_digest 35 = .ok (.invokevirtual 130, 3) := dk_182 0 130 (dk_at dksX6_digest_1 11 rfl rfl)
theorem dX6_digest_38 : decode cX6_digest 38 = .ok (.iconst 0, 1) := dk_3 (dk_at dksX6_digest_1 14 rfl rfl)
theorem dX6_digest_39 : decode cX6_digest 39 = .ok (.istore_n 1, 1) := dk_60 (dk_at dksX6_digest_1 15 rfl rfl)
theorem dX6_digest_40 : decode cX6_digest 40 = .ok (.iload_n 1, 1) := dk_27 (dk_at dksX6_digest_1 16 rfl rfl)
theorem dX6_digest_41 : decode cX6_digest 41 = .ok (.bipush 7, 2) := dk_16 7 (dk_at dksX6_digest_1 17 rfl rfl)
theorem dX6_digest_43 : decode cX6_digest 43 = .ok (.if_icmp .gt 19, 3) := dk_163 0 19 (dk_at dksX6_digest_1 19 rfl rfl)
theorem dX6_digest_46 : decode cX6_digest 46 = .ok (.aload_n 0, 1) := dk_42 (dk_at dksX6_digest_1 22 rfl rfl)
theorem dX6_digest_47 : decode cX6_digest 47 = .ok (.aload_n 0, 1) := dk_42 (dk_at dksX6_digest_1 23 rfl rfl)
theorem dX6_digest_48 : decode cX6_digest 48 = .ok (.getfield 7, 3) := dk_180 0 7 (dk_at dksX6_digest_2 0 rfl rfl)
theorem dX6_digest_51 : decode cX6_digest 51 = .ok (.iload_n 1, 1) := dk_27 (dk_at dksX6_digest_2 3 rfl rfl)
theorem dX6_digest_52 : decode cX6_digest 52 = .ok (.iaload, 1) := dk_46 (dk_at dksX6_digest_2 4 rfl rfl)
theorem dX6_digest_53 : decode cX6_digest 53 = .ok (.invokevirtual 130, 3) := dk_182 0 130 (dk_at dksX6_digest_2 5 rfl rfl)
theorem dX6_digest_56 : decode cX6_digest 56 = .ok (.iinc 1 1, 3) := dk_132 1 1 (dk_at dksX6_digest_2 8 rfl rfl)
theorem dX6_digest_59 : decode cX6_digest 59 = .ok (.goto (-19), 3) := dk_167 255 237 (dk_at dksX6_digest_2 11 rfl rfl)
theorem dX6_digest_62 : decode cX6_digest 62 = .ok (.iconst 0, 1) := dk_3 (dk_at dksX6_digest_2 14 rfl rfl)
theorem dX6_digest_63 : decode cX6_digest 63 = .ok (.istore_n 1, 1) := dk_60 (dk_at dksX6_digest_2 15 rfl rfl)
theorem dX6_digest_64 : decode cX6_digest 64 = .ok (.iload_n 1, 1) := dk_27 (dk_at dksX6_digest_2 16 rfl rfl)
theorem dX6_digest_65 : decode cX6_digest 65 = .ok (.iconst 4, 1) := dk_7 (dk_at dksX6_digest_2 17 rfl rfl)
theorem dX6_digest_66 : decode cX6_digest 66 = .ok (.if_icmp .ge 35, 3) := dk_162 0 35 (dk_at dksX6_digest_2 18 rfl rfl)
theorem dX6_digest_69 : decode cX6_digest 69 = .ok (.aload_n 0, 1) := dk_42 (dk_at dksX6_digest_2 21 rfl rfl)
theorem dX6_digest_70 : decode cX6_digest 70 = .ok (.aload_n 0, 1) := dk_42 (dk_at dksX6_digest_2 22 rfl rfl)
theorem dX6_digest_71 : decode cX6_digest 71 = .ok (.getfield 7, 3) := dk_180 0 7 (dk_at dksX6_digest_3 0 rfl rfl)
theorem dX6_digest_74 : decode cX6_digest 74 = .ok (.bipush 8, 2) := dk_16 8 (dk_at dksX6_digest_3 3 rfl rfl)
theorem dX6_digest_76 : decode cX6_digest 76 = .ok (.iload_n 1, 1) := dk_27 (dk_at dksX6_digest_3 5 rfl rfl)
theorem dX6_digest_77 : decode cX6_digest 77 = .ok (.iadd, 1) := dk_96 (dk_at dksX6_digest_3 6 rfl rfl)
theorem dX6_digest_78 : decode cX6_digest 78 = .ok (.iaload, 1) := dk_46 (dk_at dksX6_digest_3 7 rfl rfl)
theorem dX6_digest_79 : decode cX6_digest 79 = .ok (.invokevirtual 130, 3) := dk_182 0 130 (dk_at dksX6_digest_3 8 rfl rfl)
theorem dX6_digest_82 : decode cX6_digest 82 = .ok (.aload_n 0, 1) := dk_42 (dk_at dksX6_digest_3 11 rfl rfl)
theorem dX6_digest_83 : decode cX6_digest 83 = .ok (.aload_n 0, 1) := dk_42 (dk_at dksX6_digest_3 12 rfl rfl)
theorem dX6_digest_84 : decode cX6_digest 84 = .ok (.getfield 7, 3) := dk_180 0 7 (dk_at dksX6_digest_3 13 rfl rfl)
theorem dX6_digest_87 : decode cX6_digest 87 = .ok (.bipush 12, 2) := dk_16 12 (dk_at dksX6_digest_3 16 rfl rfl)
theorem dX6_digest_89 : decode cX6_digest 89 = .ok (.iload_n 1, 1) := dk_27 (dk_at dksX6_digest_3 18 rfl rfl)
theorem dX6_digest_90 : decode cX6_digest 90 = .ok (.iadd, 1) := dk_96 (dk_at dksX6_digest_3 19 rfl rfl)
theorem dX6_digest_91 : decode cX6_digest 91 = .ok (.iaload, 1) := dk_46 (dk_at dksX6_digest_3 20 rfl rfl)
theorem dX6_digest_92 : decode cX6_digest 92 = .ok (.invokevirtual 130, 3) := dk_182 0 130 (dk_at dksX6_digest_3 21 rfl rfl)
theorem dX6_digest_95 : decode cX6_digest 95 = .ok (.iinc 1 1, 3) := dk_132 1 1 (dk_at dksX6_digest_4 0 rfl rfl)
theorem dX6_digest_98 : decode cX6_digest 98 = .ok (.goto (-34), 3) := dk_167 255 222 (dk_at dksX6_digest_4 3 rfl rfl)
theorem dX6_digest_101 : decode cX6_digest 101 = .ok (.bipush 16, 2) := dk_16 16 (dk_at dksX6_digest_4 6 rfl rfl)
theorem dX6_digest_103 : decode cX6_digest 103 = .ok (.istore_n 1, 1) := dk_60 (dk_at dksX6_digest_4 8 rfl rfl)
theorem dX6_digest_104 : decode cX6_digest 104 = .ok (.iload_n 1, 1) := dk_27 (dk_at dksX6_digest_4 9 rfl rfl)
theorem dX6_digest_105 : decode cX6_digest 105 = .ok (.bipush 22, 2) := dk_16 22 (dk_at dksX6_digest_4 10 rfl rfl)
theorem dX6_digest_107 : decode cX6_digest 107 = .ok (.if_icmp .gt 19, 3) := dk_163 0 19 (dk_at dksX6_digest_4 12 rfl rfl)
theorem dX6_digest_110 : decode cX6_digest 110 = .ok (.aload_n 0, 1) := dk_42 (dk_at dksX6_digest_4 15 rfl rfl)
theorem dX6_digest_111 : decode cX6_digest 111 = .ok (.aload_n 0, 1) := dk_42 (dk_at dksX6_digest_4 16 rfl rfl)
theorem dX6_digest_112 : decode cX6_digest 112 = .ok (.getfield 7, 3) := dk_180 0 7 (dk_at dksX6_digest_4 17 rfl rfl)
theorem dX6_digest_115 : decode cX6_digest 115 = .ok (.iload_n 1, 1) := dk_27 (dk_at dksX6_digest_4 20 rfl rfl)
theorem dX6_digest_116 : decode cX6_digest 116 = .ok (.iaload, 1) := dk_46 (dk_at dksX6_digest_4 21 rfl rfl)
theorem dX6_digest_117 : decode cX6_digest 117 = .ok (.invokevirtual 130, 3) := dk_182 0 130 (dk_at dksX6_digest_5 0 rfl rfl)
theorem dX6_digest_120 : decode cX6_digest 120 = .ok (.iinc 1 1, 3) := dk_132 1 1 (dk_at dksX6_digest_5 3 rfl rfl)
theorem dX6_digest_123 : decode cX6_digest 123 = .ok (.goto (-19), 3) := dk_167 255 237 (dk_at dksX6_digest_5 6 rfl rfl)
theorem dX6_digest_126 : decode cX6_digest 126 = .ok (.iconst 0, 1) := dk_3 (dk_at dksX6_digest_5 9 rfl rfl)
theorem dX6_digest_127 : decode cX6_digest 127 = .ok (.istore_n 1, 1) := dk_60 (dk_at dksX6_digest_5 10 rfl rfl)
theorem dX6_digest_128 : decode cX6_digest 128 = .ok (.iload_n 1, 1) := dk_27 (dk_at dksX6_digest_5 11 rfl rfl)
theorem dX6_digest_129 : decode cX6_digest 129 = .ok (.iconst 2, 1) := dk_5 (dk_at dksX6_digest_5 12 rfl rfl)
theorem dX6_digest_130 : decode cX6_digest 130 = .ok (.aload_n 0, 1) := dk_42 (dk_at dksX6_digest_5 13 rfl rfl)
theorem dX6_digest_131 : decode cX6_digest 131 = .ok (.getfield 7, 3) := dk_180 0 7 (dk_at dksX6_digest_5 14 rfl rfl)
theorem dX6_digest_134 : decode cX6_digest 134 = .ok (.bipush 22, 2) := dk_16 22 (dk_at dksX6_digest_5 17 rfl rfl)
theorem dX6_digest_136 : decode cX6_digest 136 = .ok (.iaload, 1) := dk_46 (dk_at dksX6_digest_5 19 rfl rfl)
theorem dX6_digest_137 : decode cX6_digest 137 = .ok (.imul, 1) := dk_104 (dk_at dksX6_digest_5 20 rfl rfl)
theorem dX6_digest_138 : decode cX6_digest 138 = .ok (.if_icmp .ge 22, 3) := dk_162 0 22 (dk_at dksX6_digest_5 21 rfl rfl)
theorem dX6_digest_141 : decode cX6_digest 141 = .ok (.aload_n 0, 1) := dk_42 (dk_at dksX6_digest_6 0 rfl rfl)
theorem dX6_digest_142 : decode cX6_digest 142 = .ok (.aload_n 0, 1) := dk_42 (dk_at dksX6_digest_6 1 rfl rfl)
theorem dX6_digest_143 : decode cX6_digest 143 = .ok (.getfield 7, 3) := dk_180 0 7 (dk_at dksX6_digest_6 2 rfl rfl)
theorem dX6_digest_146 : decode cX6_digest 146 = .ok (.bipush 23, 2) := dk_16 23 (dk_at dksX6_digest_6 5 rfl rfl)
theorem dX6_digest_148 : decode cX6_digest 148 = .ok (.iload_n 1, 1) := dk_27 (dk_at dksX6_digest_6 7 rfl rfl)
theorem dX6_digest_149 : decode cX6_digest 149 = .ok (.iadd, 1) := dk_96 (dk_at dksX6_digest_6 8 rfl rfl)
theorem dX6_digest_150 : decode cX6_digest 150 = .ok (.iaload, 1) := dk_46 (dk_at dksX6_digest_6 9 rfl rfl)
theorem dX6_digest_151 : decode cX6_digest 151 = .ok (.invokevirtual 130, 3) := dk_182 0 130 (dk_at dksX6_digest_6 10 rfl rfl)
theorem dX6_digest_154 : decode cX6_digest 154 = .ok (.iinc 1 1, 3) := dk_132 1 1 (dk_at dksX6_digest_6 13 rfl rfl)
theorem dX6_digest_157 : decode cX6_digest 157 = .ok (.goto (-29), 3) := dk_167 255 227 (dk_at dksX6_digest_6 16 rfl rfl)
theorem dX6_digest_160 : decode cX6_digest 160 = .ok (.aload_n 0, 1) := dk_42 (dk_at dksX6_digest_6 19 rfl rfl)
theorem dX6_digest_161 : decode cX6_digest 161 = .ok (.getfield 125, 3) := dk_180 0 125 (dk_at dksX6_digest_6 20 rfl rfl)
theorem dX6_digest_164 : decode cX6_digest 164 = .ok (.lreturn, 1) := dk_173 (dk_at dksX6_digest_6 23 rfl rfl)
abbrev cX6_add : ByteArray := prog_11_method_49_code
def yX6_add : MethodName := ⟨RX6, "add", "(I)V"⟩
def dkwX6_add_0 : List UInt8 := [42, 20, 0, 123, 42, 180, 0, 125, 105, 27, 133, 97, 181, 0, 125, 177]
abbrev dktX6_add_0 : List UInt8 := dkwX6_add_0 ++ []
theorem dksX6_add_0 : cX6_add.data.toList.drop 0 = dktX6_add_0 := by decide +kernel
theorem dX6_add_0 : decode cX6_add 0 = .ok (.aload_n 0, 1) := dk_42 (dk_at dksX6_add_0 0 rfl rfl)
theorem dX6_add_1 : decode cX6_add 1 = .ok (.ldc2_w 123, 3) := dk_20 0 123 (dk_at dksX6_add_0 1 rfl rfl)
theorem dX6_add_4 : decode cX6_add 4 = .ok (.aload_n 0, 1) := dk_42 (dk_at dksX6_add_0 4 rfl rfl)
theorem dX6_add_5 : decode cX6_add 5 = .ok (.getfield 125, 3) := dk_180 0 125 (dk_at dksX6_add_0 5 rfl rfl)
theorem dX6_add_8 : decode cX6_add 8 = .ok (.lmul, 1) := dk_105 (dk_at dksX6_add_0 8 rfl rfl)
theorem dX6_add_9 : decode cX6_add 9 = .ok (.iload_n 1, 1) := dk_27 (dk_at dksX6_add_0 9 rfl rfl)
theorem dX6_add_10 : decode cX6_add 10 = .ok (.i2l, 1) := dk_133 (dk_at dksX6_add_0 10 rfl rfl)
theorem dX6_add_11 : decode cX6_add 11 = .ok (.ladd, 1) := dk_97 (dk_at dksX6_add_0 11 rfl rfl)
theorem dX6_add_12 : decode cX6_add 12 = .ok (.putfield 125, 3) := dk_181 0 125 (dk_at dksX6_add_0 12 rfl rfl)
theorem dX6_add_15 : decode cX6_add 15 = .ok (.return_, 1) := dk_177 (dk_at dksX6_add_0 15 rfl rfl)
theorem q28 : (Jvm.Cond.initialized "TankFilterModel") ∈ lw_all := lw_g (lw_at lw_m1 8 rfl) rfl
theorem q564 : (Jvm.Cond.instantiable "TankFilterModel" (9 : Nat)) ∈ lw_all := lw_g (lw_at lw_m3 64 rfl) rfl
theorem q566 : (Jvm.Cond.instanceMethod ({ cls := "TankFilterModel", name := "<init>", desc := "()V" } : Jvm.MethodName)) ∈ lw_all := lw_g (lw_at lw_m3 66 rfl) rfl
theorem q567 : (Jvm.Cond.code ({ cls := "TankFilterModel", name := "<init>", desc := "()V" } : Jvm.MethodName) prog_11_method_1_code (2 : Nat) (Option.none : Option Jvm.ClassFile.FieldType)) ∈ lw_all := lw_g (lw_at lw_m3 67 rfl) rfl
theorem q568 : (Jvm.Cond.methodLink "TankFilterModel" (1 : Nat) ({ cls := "java/lang/Object", name := "<init>", desc := "()V" } : Jvm.MethodName)) ∈ lw_all := lw_g (lw_at lw_m3 68 rfl) rfl
theorem q569 : (Jvm.Cond.methodLink "TankFilterModel" (23 : Nat) ({ cls := "TankFilterModel", name := "forget", desc := "()V" } : Jvm.MethodName)) ∈ lw_all := lw_g (lw_at lw_m3 69 rfl) rfl
theorem q570 : (Jvm.Cond.privateMethod ({ cls := "TankFilterModel", name := "forget", desc := "()V" } : Jvm.MethodName)) ∈ lw_tbl := lw_at lw_m3 70 rfl
theorem q571 : (Jvm.Cond.instanceMethod ({ cls := "TankFilterModel", name := "forget", desc := "()V" } : Jvm.MethodName)) ∈ lw_all := lw_g (lw_at lw_m3 71 rfl) rfl
theorem q572 : (Jvm.Cond.code ({ cls := "TankFilterModel", name := "forget", desc := "()V" } : Jvm.MethodName) prog_11_method_5_code (2 : Nat) (Option.none : Option Jvm.ClassFile.FieldType)) ∈ lw_all := lw_g (lw_at lw_m3 72 rfl) rfl
theorem q573 : (Jvm.Cond.constant "TankFilterModel" (27 : Nat) (-2000000001 : Int32)) ∈ lw_all := lw_g (lw_at lw_m3 73 rfl) rfl
theorem q574 : (Jvm.Cond.fieldLink "TankFilterModel" (7 : Nat) "TankFilterModel" "s" "[I") ∈ lw_all := lw_g (lw_at lw_m3 74 rfl) rfl
theorem q575 : (Jvm.Cond.fieldLink "TankFilterModel" (13 : Nat) "TankFilterModel" "past" "[I") ∈ lw_all := lw_g (lw_at lw_m3 75 rfl) rfl
theorem q576 : (Jvm.Cond.fieldLink "TankFilterModel" (28 : Nat) "TankFilterModel" "pasts" "I") ∈ lw_all := lw_g (lw_at lw_m3 76 rfl) rfl
theorem q577 : (Jvm.Cond.fieldLink "TankFilterModel" (16 : Nat) "TankFilterModel" "errors" "[I") ∈ lw_all := lw_g (lw_at lw_m3 77 rfl) rfl
theorem q578 : (Jvm.Cond.fieldLink "TankFilterModel" (19 : Nat) "TankFilterModel" "now" "[J") ∈ lw_all := lw_g (lw_at lw_m3 78 rfl) rfl
theorem q579 : (Jvm.Cond.fieldLink "TankFilterModel" (50 : Nat) "TankFilterModel" "innovation" "J") ∈ lw_all := lw_g (lw_at lw_m3 79 rfl) rfl
theorem q580 : (Jvm.Cond.fieldLink "TankFilterModel" (60 : Nat) "TankFilterModel" "levelGain" "J") ∈ lw_all := lw_g (lw_at lw_m3 80 rfl) rfl
theorem q581 : (Jvm.Cond.fieldLink "TankFilterModel" (63 : Nat) "TankFilterModel" "flowGain" "J") ∈ lw_all := lw_g (lw_at lw_m3 81 rfl) rfl
theorem q582 : (Jvm.Cond.fieldLink "TankFilterModel" (125 : Nat) "TankFilterModel" "hash" "J") ∈ lw_all := lw_g (lw_at lw_m3 82 rfl) rfl
theorem q583 : (Jvm.Cond.laysFinal "TankFilterModel" "TankFilterModel" "s" "[I") ∈ lw_all := lw_g (lw_at lw_m3 83 rfl) rfl
theorem q584 : (Jvm.Cond.soleField "TankFilterModel" "s") ∈ lw_all := lw_g (lw_at lw_m3 84 rfl) rfl
theorem q585 : (Jvm.Cond.laysFinal "TankFilterModel" "TankFilterModel" "past" "[I") ∈ lw_all := lw_g (lw_at lw_m3 85 rfl) rfl
theorem q586 : (Jvm.Cond.soleField "TankFilterModel" "past") ∈ lw_all := lw_g (lw_at lw_m3 86 rfl) rfl
theorem q587 : (Jvm.Cond.lays "TankFilterModel" "TankFilterModel" "pasts" "I") ∈ lw_all := lw_g (lw_at lw_m3 87 rfl) rfl
theorem q588 : (Jvm.Cond.soleField "TankFilterModel" "pasts") ∈ lw_all := lw_g (lw_at lw_m3 88 rfl) rfl
theorem q589 : (Jvm.Cond.laysFinal "TankFilterModel" "TankFilterModel" "errors" "[I") ∈ lw_all := lw_g (lw_at lw_m3 89 rfl) rfl
theorem q590 : (Jvm.Cond.soleField "TankFilterModel" "errors") ∈ lw_all := lw_g (lw_at lw_m3 90 rfl) rfl
theorem q591 : (Jvm.Cond.laysFinal "TankFilterModel" "TankFilterModel" "now" "[J") ∈ lw_all := lw_g (lw_at lw_m3 91 rfl) rfl
theorem q592 : (Jvm.Cond.soleField "TankFilterModel" "now") ∈ lw_all := lw_g (lw_at lw_m3 92 rfl) rfl
theorem q593 : (Jvm.Cond.lays "TankFilterModel" "TankFilterModel" "innovation" "J") ∈ lw_all := lw_g (lw_at lw_m3 93 rfl) rfl
theorem q594 : (Jvm.Cond.soleField "TankFilterModel" "innovation") ∈ lw_all := lw_g (lw_at lw_m3 94 rfl) rfl
theorem q595 : (Jvm.Cond.lays "TankFilterModel" "TankFilterModel" "levelGain" "J") ∈ lw_all := lw_g (lw_at lw_m3 95 rfl) rfl
theorem q596 : (Jvm.Cond.soleField "TankFilterModel" "levelGain") ∈ lw_all := lw_g (lw_at lw_m3 96 rfl) rfl
theorem q597 : (Jvm.Cond.lays "TankFilterModel" "TankFilterModel" "flowGain" "J") ∈ lw_all := lw_g (lw_at lw_m3 97 rfl) rfl
theorem q598 : (Jvm.Cond.soleField "TankFilterModel" "flowGain") ∈ lw_all := lw_g (lw_at lw_m3 98 rfl) rfl
theorem q599 : (Jvm.Cond.lays "TankFilterModel" "TankFilterModel" "hash" "J") ∈ lw_all := lw_g (lw_at lw_m3 99 rfl) rfl
theorem q600 : (Jvm.Cond.soleField "TankFilterModel" "hash") ∈ lw_all := lw_g (lw_at lw_m3 100 rfl) rfl
theorem q601 : (Jvm.Cond.superclass "TankFilterModel" "java/lang/Object") ∈ lw_all := lw_g (lw_at lw_m3 101 rfl) rfl
theorem q604 : (Jvm.Cond.instanceMethod ({ cls := "TankFilterModel", name := "reset", desc := "(IIII)I" } : Jvm.MethodName)) ∈ lw_all := lw_g (lw_at lw_m3 104 rfl) rfl
theorem q605 : (Jvm.Cond.selects "TankFilterModel" ({ cls := "TankFilterModel", name := "reset", desc := "(IIII)I" } : Jvm.MethodName) ({ cls := "TankFilterModel", name := "reset", desc := "(IIII)I" } : Jvm.MethodName)) ∈ lw_all := lw_g (lw_at lw_m3 105 rfl) rfl
theorem q606 : (Jvm.Cond.code ({ cls := "TankFilterModel", name := "reset", desc := "(IIII)I" } : Jvm.MethodName) prog_11_method_15_code (6 : Nat) (Option.some Jvm.ClassFile.FieldType.int)) ∈ lw_all := lw_g (lw_at lw_m3 106 rfl) rfl
theorem q607 : (Jvm.Cond.constant "TankFilterModel" (66 : Nat) (-40960000 : Int32)) ∈ lw_all := lw_g (lw_at lw_m3 107 rfl) rfl
theorem q608 : (Jvm.Cond.constant "TankFilterModel" (67 : Nat) (40960000 : Int32)) ∈ lw_all := lw_g (lw_at lw_m3 108 rfl) rfl
theorem q609 : (Jvm.Cond.methodLink "TankFilterModel" (68 : Nat) ({ cls := "TankFilterModel", name := "in", desc := "(III)Z" } : Jvm.MethodName)) ∈ lw_all := lw_g (lw_at lw_m3 109 rfl) rfl
theorem q610 : (Jvm.Cond.static ({ cls := "TankFilterModel", name := "in", desc := "(III)Z" } : Jvm.MethodName)) ∈ lw_all := lw_g (lw_at lw_m3 110 rfl) rfl
theorem q611 : (Jvm.Cond.code ({ cls := "TankFilterModel", name := "in", desc := "(III)Z" } : Jvm.MethodName) prog_11_method_3_code (3 : Nat) (Option.some Jvm.ClassFile.FieldType.boolean)) ∈ lw_all := lw_g (lw_at lw_m3 111 rfl) rfl
theorem q612 : (Jvm.Cond.constant "TankFilterModel" (72 : Nat) (-4096000 : Int32)) ∈ lw_all := lw_g (lw_at lw_m3 112 rfl) rfl
theorem q613 : (Jvm.Cond.constant "TankFilterModel" (73 : Nat) (4096000 : Int32)) ∈ lw_all := lw_g (lw_at lw_m3 113 rfl) rfl
theorem q614 : (Jvm.Cond.constant "TankFilterModel" (26 : Nat) (-2000000002 : Int32)) ∈ lw_all := lw_g (lw_at lw_m3 114 rfl) rfl
theorem q615 : (Jvm.Cond.methodLink "TankFilterModel" (74 : Nat) ({ cls := "TankFilterModel", name := "fail", desc := "(I)I" } : Jvm.MethodName)) ∈ lw_all := lw_g (lw_at lw_m3 115 rfl) rfl
theorem q616 : (Jvm.Cond.privateMethod ({ cls := "TankFilterModel", name := "fail", desc := "(I)I" } : Jvm.MethodName)) ∈ lw_tbl := lw_at lw_m3 116 rfl
theorem q617 : (Jvm.Cond.instanceMethod ({ cls := "TankFilterModel", name := "fail", desc := "(I)I" } : Jvm.MethodName)) ∈ lw_all := lw_g (lw_at lw_m3 117 rfl) rfl
theorem q618 : (Jvm.Cond.code ({ cls := "TankFilterModel", name := "fail", desc := "(I)I" } : Jvm.MethodName) prog_11_method_4_code (2 : Nat) (Option.some Jvm.ClassFile.FieldType.int)) ∈ lw_all := lw_g (lw_at lw_m3 118 rfl) rfl
theorem q619 : (Jvm.Cond.methodLink "TankFilterModel" (78 : Nat) ({ cls := "TankFilterModel", name := "note", desc := "()V" } : Jvm.MethodName)) ∈ lw_all := lw_g (lw_at lw_m3 119 rfl) rfl
theorem q620 : (Jvm.Cond.privateMethod ({ cls := "TankFilterModel", name := "note", desc := "()V" } : Jvm.MethodName)) ∈ lw_tbl := lw_at lw_m3 120 rfl
theorem q621 : (Jvm.Cond.instanceMethod ({ cls := "TankFilterModel", name := "note", desc := "()V" } : Jvm.MethodName)) ∈ lw_all := lw_g (lw_at lw_m3 121 rfl) rfl
theorem q622 : (Jvm.Cond.code ({ cls := "TankFilterModel", name := "note", desc := "()V" } : Jvm.MethodName) prog_11_method_6_code (2 : Nat) (Option.none : Option Jvm.ClassFile.FieldType)) ∈ lw_all := lw_g (lw_at lw_m3 122 rfl) rfl
theorem q624 : (Jvm.Cond.instanceMethod ({ cls := "TankFilterModel", name := "setProcessNoise", desc := "(II)I" } : Jvm.MethodName)) ∈ lw_all := lw_g (lw_at lw_m3 124 rfl) rfl
theorem q625 : (Jvm.Cond.selects "TankFilterModel" ({ cls := "TankFilterModel", name := "setProcessNoise", desc := "(II)I" } : Jvm.MethodName) ({ cls := "TankFilterModel", name := "setProcessNoise", desc := "(II)I" } : Jvm.MethodName)) ∈ lw_all := lw_g (lw_at lw_m3 125 rfl) rfl
theorem q626 : (Jvm.Cond.code ({ cls := "TankFilterModel", name := "setProcessNoise", desc := "(II)I" } : Jvm.MethodName) prog_11_method_16_code (4 : Nat) (Option.some Jvm.ClassFile.FieldType.int)) ∈ lw_all := lw_g (lw_at lw_m3 126 rfl) rfl
theorem q628 : (Jvm.Cond.instanceMethod ({ cls := "TankFilterModel", name := "setSensor", desc := "(III)I" } : Jvm.MethodName)) ∈ lw_all := lw_g (lw_at lw_m3 128 rfl) rfl
theorem q629 : (Jvm.Cond.selects "TankFilterModel" ({ cls := "TankFilterModel", name := "setSensor", desc := "(III)I" } : Jvm.MethodName) ({ cls := "TankFilterModel", name := "setSensor", desc := "(III)I" } : Jvm.MethodName)) ∈ lw_all := lw_g (lw_at lw_m3 129 rfl) rfl
theorem q630 : (Jvm.Cond.code ({ cls := "TankFilterModel", name := "setSensor", desc := "(III)I" } : Jvm.MethodName) prog_11_method_18_code (5 : Nat) (Option.some Jvm.ClassFile.FieldType.int)) ∈ lw_all := lw_g (lw_at lw_m3 130 rfl) rfl
theorem q631 : (Jvm.Cond.methodLink "TankFilterModel" (81 : Nat) ({ cls := "TankFilterModel", name := "isSensor", desc := "(I)Z" } : Jvm.MethodName)) ∈ lw_all := lw_g (lw_at lw_m3 131 rfl) rfl
theorem q632 : (Jvm.Cond.static ({ cls := "TankFilterModel", name := "isSensor", desc := "(I)Z" } : Jvm.MethodName)) ∈ lw_all := lw_g (lw_at lw_m3 132 rfl) rfl
theorem q633 : (Jvm.Cond.code ({ cls := "TankFilterModel", name := "isSensor", desc := "(I)Z" } : Jvm.MethodName) prog_11_method_17_code (1 : Nat) (Option.some Jvm.ClassFile.FieldType.boolean)) ∈ lw_all := lw_g (lw_at lw_m3 133 rfl) rfl
theorem q635 : (Jvm.Cond.instanceMethod ({ cls := "TankFilterModel", name := "setGate", desc := "(I)I" } : Jvm.MethodName)) ∈ lw_all := lw_g (lw_at lw_m3 135 rfl) rfl
theorem q636 : (Jvm.Cond.selects "TankFilterModel" ({ cls := "TankFilterModel", name := "setGate", desc := "(I)I" } : Jvm.MethodName) ({ cls := "TankFilterModel", name := "setGate", desc := "(I)I" } : Jvm.MethodName)) ∈ lw_all := lw_g (lw_at lw_m3 136 rfl) rfl
theorem q637 : (Jvm.Cond.code ({ cls := "TankFilterModel", name := "setGate", desc := "(I)I" } : Jvm.MethodName) prog_11_method_19_code (3 : Nat) (Option.some Jvm.ClassFile.FieldType.int)) ∈ lw_all := lw_g (lw_at lw_m3 137 rfl) rfl
theorem q639 : (Jvm.Cond.instanceMethod ({ cls := "TankFilterModel", name := "predict", desc := "(I)I" } : Jvm.MethodName)) ∈ lw_all := lw_g (lw_at lw_m3 139 rfl) rfl
theorem q640 : (Jvm.Cond.selects "TankFilterModel" ({ cls := "TankFilterModel", name := "predict", desc := "(I)I" } : Jvm.MethodName) ({ cls := "TankFilterModel", name := "predict", desc := "(I)I" } : Jvm.MethodName)) ∈ lw_all := lw_g (lw_at lw_m3 140 rfl) rfl
theorem q641 : (Jvm.Cond.code ({ cls := "TankFilterModel", name := "predict", desc := "(I)I" } : Jvm.MethodName) prog_11_method_21_code (2 : Nat) (Option.some Jvm.ClassFile.FieldType.int)) ∈ lw_all := lw_g (lw_at lw_m3 141 rfl) rfl
theorem q642 : (Jvm.Cond.methodLink "TankFilterModel" (85 : Nat) ({ cls := "TankFilterModel", name := "take", desc := "()V" } : Jvm.MethodName)) ∈ lw_all := lw_g (lw_at lw_m3 142 rfl) rfl
theorem q643 : (Jvm.Cond.privateMethod ({ cls := "TankFilterModel", name := "take", desc := "()V" } : Jvm.MethodName)) ∈ lw_tbl := lw_at lw_m3 143 rfl
theorem q644 : (Jvm.Cond.instanceMethod ({ cls := "TankFilterModel", name := "take", desc := "()V" } : Jvm.MethodName)) ∈ lw_all := lw_g (lw_at lw_m3 144 rfl) rfl
theorem q645 : (Jvm.Cond.code ({ cls := "TankFilterModel", name := "take", desc := "()V" } : Jvm.MethodName) prog_11_method_11_code (2 : Nat) (Option.none : Option Jvm.ClassFile.FieldType)) ∈ lw_all := lw_g (lw_at lw_m3 145 rfl) rfl
theorem q646 : (Jvm.Cond.methodLink "TankFilterModel" (88 : Nat) ({ cls := "TankFilterModel", name := "predicts", desc := "(II)Z" } : Jvm.MethodName)) ∈ lw_all := lw_g (lw_at lw_m3 146 rfl) rfl
theorem q647 : (Jvm.Cond.privateMethod ({ cls := "TankFilterModel", name := "predicts", desc := "(II)Z" } : Jvm.MethodName)) ∈ lw_tbl := lw_at lw_m3 147 rfl
theorem q648 : (Jvm.Cond.instanceMethod ({ cls := "TankFilterModel", name := "predicts", desc := "(II)Z" } : Jvm.MethodName)) ∈ lw_all := lw_g (lw_at lw_m3 148 rfl) rfl
theorem q649 : (Jvm.Cond.code ({ cls := "TankFilterModel", name := "predicts", desc := "(II)Z" } : Jvm.MethodName) prog_11_method_13_code (11 : Nat) (Option.some Jvm.ClassFile.FieldType.boolean)) ∈ lw_all := lw_g (lw_at lw_m3 149 rfl) rfl
theorem q650 : (Jvm.Cond.constantLong "TankFilterModel" (40 : Nat) (2 : Int64)) ∈ lw_all := lw_g (lw_at lw_m3 150 rfl) rfl
theorem q651 : (Jvm.Cond.methodLink "TankFilterModel" (46 : Nat) ({ cls := "TankFilterModel", name := "isIn", desc := "(J)Z" } : Jvm.MethodName)) ∈ lw_all := lw_g (lw_at lw_m3 151 rfl) rfl
theorem q652 : (Jvm.Cond.static ({ cls := "TankFilterModel", name := "isIn", desc := "(J)Z" } : Jvm.MethodName)) ∈ lw_all := lw_g (lw_at lw_m3 152 rfl) rfl
theorem q653 : (Jvm.Cond.code ({ cls := "TankFilterModel", name := "isIn", desc := "(J)Z" } : Jvm.MethodName) prog_11_method_10_code (2 : Nat) (Option.some Jvm.ClassFile.FieldType.boolean)) ∈ lw_all := lw_g (lw_at lw_m3 153 rfl) rfl
theorem q654 : (Jvm.Cond.constantLong "TankFilterModel" (42 : Nat) (-1000000000 : Int64)) ∈ lw_all := lw_g (lw_at lw_m3 154 rfl) rfl
theorem q655 : (Jvm.Cond.constantLong "TankFilterModel" (44 : Nat) (1000000000 : Int64)) ∈ lw_all := lw_g (lw_at lw_m3 155 rfl) rfl
theorem q656 : (Jvm.Cond.constant "TankFilterModel" (92 : Nat) (-2000000004 : Int32)) ∈ lw_all := lw_g (lw_at lw_m3 156 rfl) rfl
theorem q657 : (Jvm.Cond.methodLink "TankFilterModel" (93 : Nat) ({ cls := "TankFilterModel", name := "put", desc := "()V" } : Jvm.MethodName)) ∈ lw_all := lw_g (lw_at lw_m3 157 rfl) rfl
theorem q658 : (Jvm.Cond.privateMethod ({ cls := "TankFilterModel", name := "put", desc := "()V" } : Jvm.MethodName)) ∈ lw_tbl := lw_at lw_m3 158 rfl
theorem q659 : (Jvm.Cond.instanceMethod ({ cls := "TankFilterModel", name := "put", desc := "()V" } : Jvm.MethodName)) ∈ lw_all := lw_g (lw_at lw_m3 159 rfl) rfl
theorem q660 : (Jvm.Cond.code ({ cls := "TankFilterModel", name := "put", desc := "()V" } : Jvm.MethodName) prog_11_method_12_code (2 : Nat) (Option.none : Option Jvm.ClassFile.FieldType)) ∈ lw_all := lw_g (lw_at lw_m3 160 rfl) rfl
theorem q661 : (Jvm.Cond.methodLink "TankFilterModel" (96 : Nat) ({ cls := "TankFilterModel", name := "record", desc := "(II)V" } : Jvm.MethodName)) ∈ lw_all := lw_g (lw_at lw_m3 161 rfl) rfl
theorem q662 : (Jvm.Cond.privateMethod ({ cls := "TankFilterModel", name := "record", desc := "(II)V" } : Jvm.MethodName)) ∈ lw_tbl := lw_at lw_m3 162 rfl
theorem q663 : (Jvm.Cond.instanceMethod ({ cls := "TankFilterModel", name := "record", desc := "(II)V" } : Jvm.MethodName)) ∈ lw_all := lw_g (lw_at lw_m3 163 rfl) rfl
theorem q664 : (Jvm.Cond.code ({ cls := "TankFilterModel", name := "record", desc := "(II)V" } : Jvm.MethodName) prog_11_method_20_code (4 : Nat) (Option.none : Option Jvm.ClassFile.FieldType)) ∈ lw_all := lw_g (lw_at lw_m3 164 rfl) rfl
theorem q666 : (Jvm.Cond.instanceMethod ({ cls := "TankFilterModel", name := "correct", desc := "(II)I" } : Jvm.MethodName)) ∈ lw_all := lw_g (lw_at lw_m3 166 rfl) rfl
theorem q667 : (Jvm.Cond.selects "TankFilterModel" ({ cls := "TankFilterModel", name := "correct", desc := "(II)I" } : Jvm.MethodName) ({ cls := "TankFilterModel", name := "correct", desc := "(II)I" } : Jvm.MethodName)) ∈ lw_all := lw_g (lw_at lw_m3 167 rfl) rfl
theorem q668 : (Jvm.Cond.code ({ cls := "TankFilterModel", name := "correct", desc := "(II)I" } : Jvm.MethodName) prog_11_method_22_code (4 : Nat) (Option.some Jvm.ClassFile.FieldType.int)) ∈ lw_all := lw_g (lw_at lw_m3 168 rfl) rfl
theorem q669 : (Jvm.Cond.methodLink "TankFilterModel" (100 : Nat) ({ cls := "TankFilterModel", name := "corrects", desc := "(IJI)I" } : Jvm.MethodName)) ∈ lw_all := lw_g (lw_at lw_m3 169 rfl) rfl
theorem q670 : (Jvm.Cond.privateMethod ({ cls := "TankFilterModel", name := "corrects", desc := "(IJI)I" } : Jvm.MethodName)) ∈ lw_tbl := lw_at lw_m3 170 rfl
theorem q671 : (Jvm.Cond.instanceMethod ({ cls := "TankFilterModel", name := "corrects", desc := "(IJI)I" } : Jvm.MethodName)) ∈ lw_all := lw_g (lw_at lw_m3 171 rfl) rfl
theorem q672 : (Jvm.Cond.code ({ cls := "TankFilterModel", name := "corrects", desc := "(IJI)I" } : Jvm.MethodName) prog_11_method_14_code (24 : Nat) (Option.some Jvm.ClassFile.FieldType.int)) ∈ lw_all := lw_g (lw_at lw_m3 172 rfl) rfl
theorem q673 : (Jvm.Cond.constantLong "TankFilterModel" (34 : Nat) (4096 : Int64)) ∈ lw_all := lw_g (lw_at lw_m3 173 rfl) rfl
theorem q674 : (Jvm.Cond.methodLink "TankFilterModel" (54 : Nat) ({ cls := "TankFilterModel", name := "div", desc := "(JJ)J" } : Jvm.MethodName)) ∈ lw_all := lw_g (lw_at lw_m3 174 rfl) rfl
theorem q675 : (Jvm.Cond.static ({ cls := "TankFilterModel", name := "div", desc := "(JJ)J" } : Jvm.MethodName)) ∈ lw_all := lw_g (lw_at lw_m3 175 rfl) rfl
theorem q676 : (Jvm.Cond.code ({ cls := "TankFilterModel", name := "div", desc := "(JJ)J" } : Jvm.MethodName) prog_11_method_9_code (4 : Nat) (Option.some Jvm.ClassFile.FieldType.long)) ∈ lw_all := lw_g (lw_at lw_m3 176 rfl) rfl
theorem q677 : (Jvm.Cond.methodLink "TankFilterModel" (36 : Nat) ({ cls := "TankFilterModel", name := "down", desc := "(JJ)J" } : Jvm.MethodName)) ∈ lw_all := lw_g (lw_at lw_m3 177 rfl) rfl
theorem q678 : (Jvm.Cond.static ({ cls := "TankFilterModel", name := "down", desc := "(JJ)J" } : Jvm.MethodName)) ∈ lw_all := lw_g (lw_at lw_m3 178 rfl) rfl
theorem q679 : (Jvm.Cond.code ({ cls := "TankFilterModel", name := "down", desc := "(JJ)J" } : Jvm.MethodName) prog_11_method_7_code (6 : Nat) (Option.some Jvm.ClassFile.FieldType.long)) ∈ lw_all := lw_g (lw_at lw_m3 179 rfl) rfl
theorem q680 : (Jvm.Cond.methodLink "TankFilterModel" (57 : Nat) ({ cls := "TankFilterModel", name := "mul", desc := "(JJ)J" } : Jvm.MethodName)) ∈ lw_all := lw_g (lw_at lw_m3 180 rfl) rfl
theorem q681 : (Jvm.Cond.static ({ cls := "TankFilterModel", name := "mul", desc := "(JJ)J" } : Jvm.MethodName)) ∈ lw_all := lw_g (lw_at lw_m3 181 rfl) rfl
theorem q682 : (Jvm.Cond.code ({ cls := "TankFilterModel", name := "mul", desc := "(JJ)J" } : Jvm.MethodName) prog_11_method_8_code (4 : Nat) (Option.some Jvm.ClassFile.FieldType.long)) ∈ lw_all := lw_g (lw_at lw_m3 182 rfl) rfl
theorem q683 : (Jvm.Cond.constantLong "TankFilterModel" (32 : Nat) (2048 : Int64)) ∈ lw_all := lw_g (lw_at lw_m3 183 rfl) rfl
theorem q685 : (Jvm.Cond.instanceMethod ({ cls := "TankFilterModel", name := "miss", desc := "(I)I" } : Jvm.MethodName)) ∈ lw_all := lw_g (lw_at lw_m3 185 rfl) rfl
theorem q686 : (Jvm.Cond.selects "TankFilterModel" ({ cls := "TankFilterModel", name := "miss", desc := "(I)I" } : Jvm.MethodName) ({ cls := "TankFilterModel", name := "miss", desc := "(I)I" } : Jvm.MethodName)) ∈ lw_all := lw_g (lw_at lw_m3 186 rfl) rfl
theorem q687 : (Jvm.Cond.code ({ cls := "TankFilterModel", name := "miss", desc := "(I)I" } : Jvm.MethodName) prog_11_method_23_code (2 : Nat) (Option.some Jvm.ClassFile.FieldType.int)) ∈ lw_all := lw_g (lw_at lw_m3 187 rfl) rfl
theorem q689 : (Jvm.Cond.instanceMethod ({ cls := "TankFilterModel", name := "level", desc := "()I" } : Jvm.MethodName)) ∈ lw_all := lw_g (lw_at lw_m3 189 rfl) rfl
theorem q690 : (Jvm.Cond.selects "TankFilterModel" ({ cls := "TankFilterModel", name := "level", desc := "()I" } : Jvm.MethodName) ({ cls := "TankFilterModel", name := "level", desc := "()I" } : Jvm.MethodName)) ∈ lw_all := lw_g (lw_at lw_m3 190 rfl) rfl
theorem q691 : (Jvm.Cond.code ({ cls := "TankFilterModel", name := "level", desc := "()I" } : Jvm.MethodName) prog_11_method_24_code (1 : Nat) (Option.some Jvm.ClassFile.FieldType.int)) ∈ lw_all := lw_g (lw_at lw_m3 191 rfl) rfl
theorem q693 : (Jvm.Cond.instanceMethod ({ cls := "TankFilterModel", name := "flow", desc := "()I" } : Jvm.MethodName)) ∈ lw_all := lw_g (lw_at lw_m3 193 rfl) rfl
theorem q694 : (Jvm.Cond.selects "TankFilterModel" ({ cls := "TankFilterModel", name := "flow", desc := "()I" } : Jvm.MethodName) ({ cls := "TankFilterModel", name := "flow", desc := "()I" } : Jvm.MethodName)) ∈ lw_all := lw_g (lw_at lw_m3 194 rfl) rfl
theorem q695 : (Jvm.Cond.code ({ cls := "TankFilterModel", name := "flow", desc := "()I" } : Jvm.MethodName) prog_11_method_25_code (1 : Nat) (Option.some Jvm.ClassFile.FieldType.int)) ∈ lw_all := lw_g (lw_at lw_m3 195 rfl) rfl
theorem q697 : (Jvm.Cond.instanceMethod ({ cls := "TankFilterModel", name := "levelVariance", desc := "()I" } : Jvm.MethodName)) ∈ lw_all := lw_g (lw_at lw_m3 197 rfl) rfl
theorem q698 : (Jvm.Cond.selects "TankFilterModel" ({ cls := "TankFilterModel", name := "levelVariance", desc := "()I" } : Jvm.MethodName) ({ cls := "TankFilterModel", name := "levelVariance", desc := "()I" } : Jvm.MethodName)) ∈ lw_all := lw_g (lw_at lw_m3 198 rfl) rfl
theorem q699 : (Jvm.Cond.code ({ cls := "TankFilterModel", name := "levelVariance", desc := "()I" } : Jvm.MethodName) prog_11_method_26_code (1 : Nat) (Option.some Jvm.ClassFile.FieldType.int)) ∈ lw_all := lw_g (lw_at lw_m3 199 rfl) rfl
theorem q701 : (Jvm.Cond.instanceMethod ({ cls := "TankFilterModel", name := "covariance", desc := "()I" } : Jvm.MethodName)) ∈ lw_all := lw_g (lw_at lw_m3 201 rfl) rfl
theorem q702 : (Jvm.Cond.selects "TankFilterModel" ({ cls := "TankFilterModel", name := "covariance", desc := "()I" } : Jvm.MethodName) ({ cls := "TankFilterModel", name := "covariance", desc := "()I" } : Jvm.MethodName)) ∈ lw_all := lw_g (lw_at lw_m3 202 rfl) rfl
theorem q703 : (Jvm.Cond.code ({ cls := "TankFilterModel", name := "covariance", desc := "()I" } : Jvm.MethodName) prog_11_method_27_code (1 : Nat) (Option.some Jvm.ClassFile.FieldType.int)) ∈ lw_all := lw_g (lw_at lw_m3 203 rfl) rfl
theorem q705 : (Jvm.Cond.instanceMethod ({ cls := "TankFilterModel", name := "flowVariance", desc := "()I" } : Jvm.MethodName)) ∈ lw_all := lw_g (lw_at lw_m3 205 rfl) rfl
theorem q706 : (Jvm.Cond.selects "TankFilterModel" ({ cls := "TankFilterModel", name := "flowVariance", desc := "()I" } : Jvm.MethodName) ({ cls := "TankFilterModel", name := "flowVariance", desc := "()I" } : Jvm.MethodName)) ∈ lw_all := lw_g (lw_at lw_m3 206 rfl) rfl
theorem q707 : (Jvm.Cond.code ({ cls := "TankFilterModel", name := "flowVariance", desc := "()I" } : Jvm.MethodName) prog_11_method_28_code (1 : Nat) (Option.some Jvm.ClassFile.FieldType.int)) ∈ lw_all := lw_g (lw_at lw_m3 207 rfl) rfl
theorem q709 : (Jvm.Cond.instanceMethod ({ cls := "TankFilterModel", name := "innovation", desc := "()I" } : Jvm.MethodName)) ∈ lw_all := lw_g (lw_at lw_m3 209 rfl) rfl
theorem q710 : (Jvm.Cond.selects "TankFilterModel" ({ cls := "TankFilterModel", name := "innovation", desc := "()I" } : Jvm.MethodName) ({ cls := "TankFilterModel", name := "innovation", desc := "()I" } : Jvm.MethodName)) ∈ lw_all := lw_g (lw_at lw_m3 210 rfl) rfl
theorem q711 : (Jvm.Cond.code ({ cls := "TankFilterModel", name := "innovation", desc := "()I" } : Jvm.MethodName) prog_11_method_29_code (1 : Nat) (Option.some Jvm.ClassFile.FieldType.int)) ∈ lw_all := lw_g (lw_at lw_m3 211 rfl) rfl
theorem q713 : (Jvm.Cond.instanceMethod ({ cls := "TankFilterModel", name := "levelGain", desc := "()I" } : Jvm.MethodName)) ∈ lw_all := lw_g (lw_at lw_m3 213 rfl) rfl
theorem q714 : (Jvm.Cond.selects "TankFilterModel" ({ cls := "TankFilterModel", name := "levelGain", desc := "()I" } : Jvm.MethodName) ({ cls := "TankFilterModel", name := "levelGain", desc := "()I" } : Jvm.MethodName)) ∈ lw_all := lw_g (lw_at lw_m3 214 rfl) rfl
theorem q715 : (Jvm.Cond.code ({ cls := "TankFilterModel", name := "levelGain", desc := "()I" } : Jvm.MethodName) prog_11_method_30_code (1 : Nat) (Option.some Jvm.ClassFile.FieldType.int)) ∈ lw_all := lw_g (lw_at lw_m3 215 rfl) rfl
theorem q717 : (Jvm.Cond.instanceMethod ({ cls := "TankFilterModel", name := "flowGain", desc := "()I" } : Jvm.MethodName)) ∈ lw_all := lw_g (lw_at lw_m3 217 rfl) rfl
theorem q718 : (Jvm.Cond.selects "TankFilterModel" ({ cls := "TankFilterModel", name := "flowGain", desc := "()I" } : Jvm.MethodName) ({ cls := "TankFilterModel", name := "flowGain", desc := "()I" } : Jvm.MethodName)) ∈ lw_all := lw_g (lw_at lw_m3 218 rfl) rfl
theorem q719 : (Jvm.Cond.code ({ cls := "TankFilterModel", name := "flowGain", desc := "()I" } : Jvm.MethodName) prog_11_method_31_code (1 : Nat) (Option.some Jvm.ClassFile.FieldType.int)) ∈ lw_all := lw_g (lw_at lw_m3 219 rfl) rfl
theorem q721 : (Jvm.Cond.instanceMethod ({ cls := "TankFilterModel", name := "accepted", desc := "()I" } : Jvm.MethodName)) ∈ lw_all := lw_g (lw_at lw_m3 221 rfl) rfl
theorem q722 : (Jvm.Cond.selects "TankFilterModel" ({ cls := "TankFilterModel", name := "accepted", desc := "()I" } : Jvm.MethodName) ({ cls := "TankFilterModel", name := "accepted", desc := "()I" } : Jvm.MethodName)) ∈ lw_all := lw_g (lw_at lw_m3 222 rfl) rfl
theorem q723 : (Jvm.Cond.code ({ cls := "TankFilterModel", name := "accepted", desc := "()I" } : Jvm.MethodName) prog_11_method_32_code (1 : Nat) (Option.some Jvm.ClassFile.FieldType.int)) ∈ lw_all := lw_g (lw_at lw_m3 223 rfl) rfl
theorem q725 : (Jvm.Cond.instanceMethod ({ cls := "TankFilterModel", name := "rejected", desc := "()I" } : Jvm.MethodName)) ∈ lw_all := lw_g (lw_at lw_m3 225 rfl) rfl
theorem q726 : (Jvm.Cond.selects "TankFilterModel" ({ cls := "TankFilterModel", name := "rejected", desc := "()I" } : Jvm.MethodName) ({ cls := "TankFilterModel", name := "rejected", desc := "()I" } : Jvm.MethodName)) ∈ lw_all := lw_g (lw_at lw_m3 226 rfl) rfl
theorem q727 : (Jvm.Cond.code ({ cls := "TankFilterModel", name := "rejected", desc := "()I" } : Jvm.MethodName) prog_11_method_33_code (1 : Nat) (Option.some Jvm.ClassFile.FieldType.int)) ∈ lw_all := lw_g (lw_at lw_m3 227 rfl) rfl
theorem q729 : (Jvm.Cond.instanceMethod ({ cls := "TankFilterModel", name := "missed", desc := "()I" } : Jvm.MethodName)) ∈ lw_all := lw_g (lw_at lw_m3 229 rfl) rfl
theorem q730 : (Jvm.Cond.selects "TankFilterModel" ({ cls := "TankFilterModel", name := "missed", desc := "()I" } : Jvm.MethodName) ({ cls := "TankFilterModel", name := "missed", desc := "()I" } : Jvm.MethodName)) ∈ lw_all := lw_g (lw_at lw_m3 230 rfl) rfl
theorem q731 : (Jvm.Cond.code ({ cls := "TankFilterModel", name := "missed", desc := "()I" } : Jvm.MethodName) prog_11_method_34_code (1 : Nat) (Option.some Jvm.ClassFile.FieldType.int)) ∈ lw_all := lw_g (lw_at lw_m3 231 rfl) rfl
theorem q733 : (Jvm.Cond.instanceMethod ({ cls := "TankFilterModel", name := "historyLength", desc := "()I" } : Jvm.MethodName)) ∈ lw_all := lw_g (lw_at lw_m3 233 rfl) rfl
theorem q734 : (Jvm.Cond.selects "TankFilterModel" ({ cls := "TankFilterModel", name := "historyLength", desc := "()I" } : Jvm.MethodName) ({ cls := "TankFilterModel", name := "historyLength", desc := "()I" } : Jvm.MethodName)) ∈ lw_all := lw_g (lw_at lw_m3 234 rfl) rfl
theorem q735 : (Jvm.Cond.code ({ cls := "TankFilterModel", name := "historyLength", desc := "()I" } : Jvm.MethodName) prog_11_method_35_code (1 : Nat) (Option.some Jvm.ClassFile.FieldType.int)) ∈ lw_all := lw_g (lw_at lw_m3 235 rfl) rfl
theorem q737 : (Jvm.Cond.instanceMethod ({ cls := "TankFilterModel", name := "forecast", desc := "(I)I" } : Jvm.MethodName)) ∈ lw_all := lw_g (lw_at lw_m3 237 rfl) rfl
theorem q738 : (Jvm.Cond.selects "TankFilterModel" ({ cls := "TankFilterModel", name := "forecast", desc := "(I)I" } : Jvm.MethodName) ({ cls := "TankFilterModel", name := "forecast", desc := "(I)I" } : Jvm.MethodName)) ∈ lw_all := lw_g (lw_at lw_m3 238 rfl) rfl
theorem q739 : (Jvm.Cond.code ({ cls := "TankFilterModel", name := "forecast", desc := "(I)I" } : Jvm.MethodName) prog_11_method_37_code (2 : Nat) (Option.some Jvm.ClassFile.FieldType.int)) ∈ lw_all := lw_g (lw_at lw_m3 239 rfl) rfl
theorem q740 : (Jvm.Cond.methodLink "TankFilterModel" (104 : Nat) ({ cls := "TankFilterModel", name := "goesOn", desc := "(I)Z" } : Jvm.MethodName)) ∈ lw_all := lw_g (lw_at lw_m4 0 rfl) rfl
theorem q741 : (Jvm.Cond.privateMethod ({ cls := "TankFilterModel", name := "goesOn", desc := "(I)Z" } : Jvm.MethodName)) ∈ lw_tbl := lw_at lw_m4 1 rfl
theorem q742 : (Jvm.Cond.instanceMethod ({ cls := "TankFilterModel", name := "goesOn", desc := "(I)Z" } : Jvm.MethodName)) ∈ lw_all := lw_g (lw_at lw_m4 2 rfl) rfl
theorem q743 : (Jvm.Cond.code ({ cls := "TankFilterModel", name := "goesOn", desc := "(I)Z" } : Jvm.MethodName) prog_11_method_36_code (4 : Nat) (Option.some Jvm.ClassFile.FieldType.boolean)) ∈ lw_all := lw_g (lw_at lw_m4 3 rfl) rfl
theorem q745 : (Jvm.Cond.instanceMethod ({ cls := "TankFilterModel", name := "forecastVariance", desc := "(I)I" } : Jvm.MethodName)) ∈ lw_all := lw_g (lw_at lw_m4 5 rfl) rfl
theorem q746 : (Jvm.Cond.selects "TankFilterModel" ({ cls := "TankFilterModel", name := "forecastVariance", desc := "(I)I" } : Jvm.MethodName) ({ cls := "TankFilterModel", name := "forecastVariance", desc := "(I)I" } : Jvm.MethodName)) ∈ lw_all := lw_g (lw_at lw_m4 6 rfl) rfl
theorem q747 : (Jvm.Cond.code ({ cls := "TankFilterModel", name := "forecastVariance", desc := "(I)I" } : Jvm.MethodName) prog_11_method_38_code (2 : Nat) (Option.some Jvm.ClassFile.FieldType.int)) ∈ lw_all := lw_g (lw_at lw_m4 7 rfl) rfl
theorem q749 : (Jvm.Cond.instanceMethod ({ cls := "TankFilterModel", name := "stepsTo", desc := "(I)I" } : Jvm.MethodName)) ∈ lw_all := lw_g (lw_at lw_m4 9 rfl) rfl
theorem q750 : (Jvm.Cond.selects "TankFilterModel" ({ cls := "TankFilterModel", name := "stepsTo", desc := "(I)I" } : Jvm.MethodName) ({ cls := "TankFilterModel", name := "stepsTo", desc := "(I)I" } : Jvm.MethodName)) ∈ lw_all := lw_g (lw_at lw_m4 10 rfl) rfl
theorem q751 : (Jvm.Cond.code ({ cls := "TankFilterModel", name := "stepsTo", desc := "(I)I" } : Jvm.MethodName) prog_11_method_39_code (5 : Nat) (Option.some Jvm.ClassFile.FieldType.int)) ∈ lw_all := lw_g (lw_at lw_m4 11 rfl) rfl
theorem q753 : (Jvm.Cond.instanceMethod ({ cls := "TankFilterModel", name := "steadyCycles", desc := "(I)I" } : Jvm.MethodName)) ∈ lw_all := lw_g (lw_at lw_m4 13 rfl) rfl
theorem q754 : (Jvm.Cond.selects "TankFilterModel" ({ cls := "TankFilterModel", name := "steadyCycles", desc := "(I)I" } : Jvm.MethodName) ({ cls := "TankFilterModel", name := "steadyCycles", desc := "(I)I" } : Jvm.MethodName)) ∈ lw_all := lw_g (lw_at lw_m4 14 rfl) rfl
theorem q755 : (Jvm.Cond.code ({ cls := "TankFilterModel", name := "steadyCycles", desc := "(I)I" } : Jvm.MethodName) prog_11_method_41_code (2 : Nat) (Option.some Jvm.ClassFile.FieldType.int)) ∈ lw_all := lw_g (lw_at lw_m4 15 rfl) rfl
theorem q756 : (Jvm.Cond.methodLink "TankFilterModel" (107 : Nat) ({ cls := "TankFilterModel", name := "cycles", desc := "(I)I" } : Jvm.MethodName)) ∈ lw_all := lw_g (lw_at lw_m4 16 rfl) rfl
theorem q757 : (Jvm.Cond.privateMethod ({ cls := "TankFilterModel", name := "cycles", desc := "(I)I" } : Jvm.MethodName)) ∈ lw_tbl := lw_at lw_m4 17 rfl
theorem q758 : (Jvm.Cond.instanceMethod ({ cls := "TankFilterModel", name := "cycles", desc := "(I)I" } : Jvm.MethodName)) ∈ lw_all := lw_g (lw_at lw_m4 18 rfl) rfl
theorem q759 : (Jvm.Cond.code ({ cls := "TankFilterModel", name := "cycles", desc := "(I)I" } : Jvm.MethodName) prog_11_method_40_code (10 : Nat) (Option.some Jvm.ClassFile.FieldType.int)) ∈ lw_all := lw_g (lw_at lw_m4 19 rfl) rfl
theorem q761 : (Jvm.Cond.instanceMethod ({ cls := "TankFilterModel", name := "steadyGain", desc := "(II)I" } : Jvm.MethodName)) ∈ lw_all := lw_g (lw_at lw_m4 21 rfl) rfl
theorem q762 : (Jvm.Cond.selects "TankFilterModel" ({ cls := "TankFilterModel", name := "steadyGain", desc := "(II)I" } : Jvm.MethodName) ({ cls := "TankFilterModel", name := "steadyGain", desc := "(II)I" } : Jvm.MethodName)) ∈ lw_all := lw_g (lw_at lw_m4 22 rfl) rfl
theorem q763 : (Jvm.Cond.code ({ cls := "TankFilterModel", name := "steadyGain", desc := "(II)I" } : Jvm.MethodName) prog_11_method_42_code (4 : Nat) (Option.some Jvm.ClassFile.FieldType.int)) ∈ lw_all := lw_g (lw_at lw_m4 23 rfl) rfl
theorem q765 : (Jvm.Cond.instanceMethod ({ cls := "TankFilterModel", name := "replayError", desc := "(I)I" } : Jvm.MethodName)) ∈ lw_all := lw_g (lw_at lw_m4 25 rfl) rfl
theorem q766 : (Jvm.Cond.selects "TankFilterModel" ({ cls := "TankFilterModel", name := "replayError", desc := "(I)I" } : Jvm.MethodName) ({ cls := "TankFilterModel", name := "replayError", desc := "(I)I" } : Jvm.MethodName)) ∈ lw_all := lw_g (lw_at lw_m4 26 rfl) rfl
theorem q767 : (Jvm.Cond.code ({ cls := "TankFilterModel", name := "replayError", desc := "(I)I" } : Jvm.MethodName) prog_11_method_45_code (4 : Nat) (Option.some Jvm.ClassFile.FieldType.int)) ∈ lw_all := lw_g (lw_at lw_m4 27 rfl) rfl
theorem q768 : (Jvm.Cond.methodLink "TankFilterModel" (112 : Nat) ({ cls := "TankFilterModel", name := "hasReading", desc := "()Z" } : Jvm.MethodName)) ∈ lw_all := lw_g (lw_at lw_m4 28 rfl) rfl
theorem q769 : (Jvm.Cond.privateMethod ({ cls := "TankFilterModel", name := "hasReading", desc := "()Z" } : Jvm.MethodName)) ∈ lw_tbl := lw_at lw_m4 29 rfl
theorem q770 : (Jvm.Cond.instanceMethod ({ cls := "TankFilterModel", name := "hasReading", desc := "()Z" } : Jvm.MethodName)) ∈ lw_all := lw_g (lw_at lw_m4 30 rfl) rfl
theorem q771 : (Jvm.Cond.code ({ cls := "TankFilterModel", name := "hasReading", desc := "()Z" } : Jvm.MethodName) prog_11_method_43_code (3 : Nat) (Option.some Jvm.ClassFile.FieldType.boolean)) ∈ lw_all := lw_g (lw_at lw_m4 31 rfl) rfl
theorem q772 : (Jvm.Cond.constant "TankFilterModel" (116 : Nat) (-2000000003 : Int32)) ∈ lw_all := lw_g (lw_at lw_m4 32 rfl) rfl
theorem q773 : (Jvm.Cond.methodLink "TankFilterModel" (117 : Nat) ({ cls := "TankFilterModel", name := "errorOf", desc := "(I)J" } : Jvm.MethodName)) ∈ lw_all := lw_g (lw_at lw_m4 33 rfl) rfl
theorem q774 : (Jvm.Cond.privateMethod ({ cls := "TankFilterModel", name := "errorOf", desc := "(I)J" } : Jvm.MethodName)) ∈ lw_tbl := lw_at lw_m4 34 rfl
theorem q775 : (Jvm.Cond.instanceMethod ({ cls := "TankFilterModel", name := "errorOf", desc := "(I)J" } : Jvm.MethodName)) ∈ lw_all := lw_g (lw_at lw_m4 35 rfl) rfl
theorem q776 : (Jvm.Cond.code ({ cls := "TankFilterModel", name := "errorOf", desc := "(I)J" } : Jvm.MethodName) prog_11_method_44_code (8 : Nat) (Option.some Jvm.ClassFile.FieldType.long)) ∈ lw_all := lw_g (lw_at lw_m4 36 rfl) rfl
theorem q777 : (Jvm.Cond.constantLong "TankFilterModel" (110 : Nat) (-1 : Int64)) ∈ lw_all := lw_g (lw_at lw_m4 37 rfl) rfl
theorem q779 : (Jvm.Cond.instanceMethod ({ cls := "TankFilterModel", name := "bestFlowNoise", desc := "()I" } : Jvm.MethodName)) ∈ lw_all := lw_g (lw_at lw_m4 39 rfl) rfl
theorem q780 : (Jvm.Cond.selects "TankFilterModel" ({ cls := "TankFilterModel", name := "bestFlowNoise", desc := "()I" } : Jvm.MethodName) ({ cls := "TankFilterModel", name := "bestFlowNoise", desc := "()I" } : Jvm.MethodName)) ∈ lw_all := lw_g (lw_at lw_m4 40 rfl) rfl
theorem q781 : (Jvm.Cond.code ({ cls := "TankFilterModel", name := "bestFlowNoise", desc := "()I" } : Jvm.MethodName) prog_11_method_46_code (8 : Nat) (Option.some Jvm.ClassFile.FieldType.int)) ∈ lw_all := lw_g (lw_at lw_m4 41 rfl) rfl
theorem q782 : (Jvm.Cond.constantLong "TankFilterModel" (121 : Nat) (1000000001 : Int64)) ∈ lw_all := lw_g (lw_at lw_m4 42 rfl) rfl
theorem q784 : (Jvm.Cond.instanceMethod ({ cls := "TankFilterModel", name := "undo", desc := "()I" } : Jvm.MethodName)) ∈ lw_all := lw_g (lw_at lw_m4 44 rfl) rfl
theorem q785 : (Jvm.Cond.selects "TankFilterModel" ({ cls := "TankFilterModel", name := "undo", desc := "()I" } : Jvm.MethodName) ({ cls := "TankFilterModel", name := "undo", desc := "()I" } : Jvm.MethodName)) ∈ lw_all := lw_g (lw_at lw_m4 45 rfl) rfl
theorem q786 : (Jvm.Cond.code ({ cls := "TankFilterModel", name := "undo", desc := "()I" } : Jvm.MethodName) prog_11_method_47_code (2 : Nat) (Option.some Jvm.ClassFile.FieldType.int)) ∈ lw_all := lw_g (lw_at lw_m4 46 rfl) rfl
theorem q788 : (Jvm.Cond.instanceMethod ({ cls := "TankFilterModel", name := "errorCount", desc := "(I)I" } : Jvm.MethodName)) ∈ lw_all := lw_g (lw_at lw_m4 48 rfl) rfl
theorem q789 : (Jvm.Cond.selects "TankFilterModel" ({ cls := "TankFilterModel", name := "errorCount", desc := "(I)I" } : Jvm.MethodName) ({ cls := "TankFilterModel", name := "errorCount", desc := "(I)I" } : Jvm.MethodName)) ∈ lw_all := lw_g (lw_at lw_m4 49 rfl) rfl
theorem q790 : (Jvm.Cond.code ({ cls := "TankFilterModel", name := "errorCount", desc := "(I)I" } : Jvm.MethodName) prog_11_method_48_code (2 : Nat) (Option.some Jvm.ClassFile.FieldType.int)) ∈ lw_all := lw_g (lw_at lw_m4 50 rfl) rfl
theorem q792 : (Jvm.Cond.instanceMethod ({ cls := "TankFilterModel", name := "digest", desc := "()J" } : Jvm.MethodName)) ∈ lw_all := lw_g (lw_at lw_m4 52 rfl) rfl
theorem q793 : (Jvm.Cond.selects "TankFilterModel" ({ cls := "TankFilterModel", name := "digest", desc := "()J" } : Jvm.MethodName) ({ cls := "TankFilterModel", name := "digest", desc := "()J" } : Jvm.MethodName)) ∈ lw_all := lw_g (lw_at lw_m4 53 rfl) rfl
theorem q794 : (Jvm.Cond.code ({ cls := "TankFilterModel", name := "digest", desc := "()J" } : Jvm.MethodName) prog_11_method_50_code (2 : Nat) (Option.some Jvm.ClassFile.FieldType.long)) ∈ lw_all := lw_g (lw_at lw_m4 54 rfl) rfl
theorem q795 : (Jvm.Cond.constantLong "TankFilterModel" (128 : Nat) (12254 : Int64)) ∈ lw_all := lw_g (lw_at lw_m4 55 rfl) rfl
theorem q796 : (Jvm.Cond.methodLink "TankFilterModel" (130 : Nat) ({ cls := "TankFilterModel", name := "add", desc := "(I)V" } : Jvm.MethodName)) ∈ lw_all := lw_g (lw_at lw_m4 56 rfl) rfl
theorem q797 : (Jvm.Cond.privateMethod ({ cls := "TankFilterModel", name := "add", desc := "(I)V" } : Jvm.MethodName)) ∈ lw_tbl := lw_at lw_m4 57 rfl
theorem q798 : (Jvm.Cond.instanceMethod ({ cls := "TankFilterModel", name := "add", desc := "(I)V" } : Jvm.MethodName)) ∈ lw_all := lw_g (lw_at lw_m4 58 rfl) rfl
theorem q799 : (Jvm.Cond.code ({ cls := "TankFilterModel", name := "add", desc := "(I)V" } : Jvm.MethodName) prog_11_method_49_code (2 : Nat) (Option.none : Option Jvm.ClassFile.FieldType)) ∈ lw_all := lw_g (lw_at lw_m4 59 rfl) rfl
theorem q800 : (Jvm.Cond.constantLong "TankFilterModel" (123 : Nat) (31 : Int64)) ∈ lw_all := lw_g (lw_at lw_m4 60 rfl) rfl
theorem in_X6 : ∀ w ∈ wsX60, w ∈ lw_all := lw_in wsX60 [583, 585, 587, 589, 591, 593, 595, 597, 599] (by decide +kernel) (by decide +kernel)
