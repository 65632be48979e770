/-! PatrolDeskModel -/
set_option maxRecDepth 100000
def RX4 : String := "PatrolDeskModel"
def TX4 : u_T := fun k => match k with
  | 0 => ("PatrolDeskModel", "now", "[I", true)
  | 1 => ("PatrolDeskModel", "past", "[I", true)
  | 2 => ("PatrolDeskModel", "pasts", "I", false)
  | 3 => ("PatrolDeskModel", "kept", "[I", true)
  | 4 => ("PatrolDeskModel", "isKept", "Z", false)
  | 5 => ("PatrolDeskModel", "trial", "[I", true)
  | 6 => ("PatrolDeskModel", "text", "[I", true)
  | 7 => ("PatrolDeskModel", "typed", "I", false)
  | 8 => ("PatrolDeskModel", "roads", "[I", true)
  | 9 => ("PatrolDeskModel", "ways", "[I", true)
  | 10 => ("PatrolDeskModel", "row", "[I", true)
  | 11 => ("PatrolDeskModel", "rowMany", "I", false)
  | 12 => ("PatrolDeskModel", "numbers", "[I", true)
  | 13 => ("PatrolDeskModel", "readMany", "I", false)
  | _ => ("PatrolDeskModel", "at", "I", false)
def tyX4 : Nat → FieldType := fun k => match k with
  | 0 => .array .int
  | 1 => .array .int
  | 2 => .int
  | 3 => .array .int
  | 4 => .boolean
  | 5 => .array .int
  | 6 => .array .int
  | 7 => .int
  | 8 => .array .int
  | 9 => .array .int
  | 10 => .array .int
  | 11 => .int
  | 12 => .array .int
  | 13 => .int
  | _ => .int
abbrev wsX40 : List Cond := u_ws RX4 TX4 15
set_option maxRecDepth 100000 in
theorem nmX4 : ∀ a, a < 15 → ∀ b, b < 15 → a ≠ b → (TX4 a).2.1 ≠ (TX4 b).2.1 := by decide +kernel
set_option maxRecDepth 100000 in
theorem tyX4_ok : ∀ k, k < 15 → parseFieldDescriptor (TX4 k).2.2.1 = some (tyX4 k) := by decide +kernel
abbrev cX4_init : ByteArray := prog_16_method_1_code
def yX4_init : MethodName := ⟨RX4, "<init>", "()V"⟩
def dkwX4_init_4 : List UInt8 := [180, 0, 7, 6, 16, 60, 79, 42, 180, 0, 7, 7, 16, 40, 79, 42, 182, 0, 37, 177]
abbrev dktX4_init_4 : List UInt8 := dkwX4_init_4 ++ []
def dkwX4_init_3 : List UInt8 := [188, 10, 181, 0, 31, 42, 16, 60, 188, 10, 181, 0, 34, 42, 180, 0, 7, 5, 16, 90, 79, 42]
abbrev dktX4_init_3 : List UInt8 := dkwX4_init_3 ++ dktX4_init_4
def dkwX4_init_2 : List UInt8 := [181, 0, 22, 42, 17, 0, 144, 188, 10, 181, 0, 25, 42, 17, 0, 144, 188, 10, 181, 0, 28, 42, 16, 40]
abbrev dktX4_init_2 : List UInt8 := dkwX4_init_2 ++ dktX4_init_3
def dkwX4_init_1 : List UInt8 := [17, 3, 42, 188, 10, 181, 0, 16, 42, 17, 3, 42, 188, 10, 181, 0, 19, 42, 16, 60, 188, 10]
abbrev dktX4_init_1 : List UInt8 := dkwX4_init_1 ++ dktX4_init_2
def dkwX4_init_0 : List UInt8 := [42, 183, 0, 1, 42, 17, 3, 42, 188, 10, 181, 0, 7, 42, 17, 12, 168, 188, 10, 181, 0, 13, 42]
abbrev dktX4_init_0 : List UInt8 := dkwX4_init_0 ++ dktX4_init_1
theorem dksX4_init_0 : cX4_init.data.toList.drop 0 = dktX4_init_0 := by decide +kernel
theorem dksX4_init_1 : cX4_init.data.toList.drop 23 = dktX4_init_1 := dk_seg dksX4_init_0 23 rfl rfl
theorem dksX4_init_2 : cX4_init.data.toList.drop 45 = dktX4_init_2 := dk_seg dksX4_init_1 22 rfl rfl
theorem dksX4_init_3 : cX4_init.data.toList.drop 69 = dktX4_init_3 := dk_seg dksX4_init_2 24 rfl rfl
theorem dksX4_init_4 : cX4_init.data.toList.drop 91 = dktX4_init_4 := dk_seg dksX4_init_3 22 rfl rfl
theorem dX4_init_0 : decode cX4_init 0 = .ok (.aload_n 0, 1) := dk_42 (dk_at dksX4_init_0 0 rfl rfl)
theorem dX4_init_1 : decode cX4_init 1 = .ok (.invokespecial 1, 3) := dk_183 0 1 (dk_at dksX4_init_0 1 rfl rfl)
theorem dX4_init_4 : decode cX4_init 4 = .ok (.aload_n 0, 1) := dk_42 (dk_at dksX4_init_0 4 rfl rfl)
theorem dX4_init_5 : decode cX4_init 5 = .ok (.sipush 810, 3) := dk_17 3 42 (dk_at dksX4_init_0 5 rfl rfl)
theorem dX4_init_8 : decode cX4_init 8 = .ok (.newarray .int, 2) := dk_188_10 (dk_at dksX4_init_0 8 rfl rfl)
theorem dX4_init_10 : decode cX4_init 10 = .ok (.putfield 7, 3) := dk_181 0 7 (dk_at dksX4_init_0 10 rfl rfl)
theorem dX4_init_13 : decode cX4_init 13 = .ok (.aload_n 0, 1) := dk_42 (dk_at dksX4_init_0 13 rfl rfl)
theorem dX4_init_14 : decode cX4_init 14 = .ok (.sipush 3240, 3) := dk_17 12 168 (dk_at dksX4_init_0 14 rfl rfl)
theorem dX4_init_17 : decode cX4_init 17 = .ok (.newarray .int, 2) := dk_188_10 (dk_at dksX4_init_0 17 rfl rfl)
theorem dX4_init_19 : decode cX4_init 19 = .ok (.putfield 13, 3) := dk_181 0 13 (dk_at dksX4_init_0 19 rfl rfl)
theorem dX4_init_22 : decode cX4_init 22 = .ok (.aload_n 0, 1) := dk_42 (dk_at dksX4_init_0 22 rfl rfl)
theorem dX4_init_23 : decode cX4_init 23 = .ok (.sipush 810, 3) := dk_17 3 42 (dk_at dksX4_init_1 0 rfl rfl)
theorem dX4_init_26 : decode cX4_init 26 = .ok (.newarray .int, 2) := dk_188_10 (dk_at dksX4_init_1 3 rfl rfl)
theorem dX4_init_28 : decode cX4_init 28 = .ok (.putfield 16, 3) := dk_181 0 16 (dk_at dksX4_init_1 5 rfl rfl)
theorem dX4_init_31 : decode cX4_init 31 = .ok (.aload_n 0, 1) := dk_42 (dk_at dksX4_init_1 8 rfl rfl)
theorem dX4_init_32 : decode cX4_init 32 = .ok (.sipush 810, 3) := dk_17 3 42 (dk_at dksX4_init_1 9 rfl rfl)
theorem dX4_init_35 : decode cX4_init 35 = .ok (.newarray .int, 2) := dk_188_10 (dk_at dksX4_init_1 12 rfl rfl)
theorem dX4_init_37 : decode cX4_init 37 = .ok (.putfield 19, 3) := dk_181 0 19 (dk_at dksX4_init_1 14 rfl rfl)
theorem dX4_init_40 : decode cX4_init 40 = .ok (.aload_n 0, 1) := dk_42 (dk_at dksX4_init_1 17 rfl rfl)
theorem dX4_init_41 : decode cX4_init 41 = .ok (.bipush 60, 2) := dk_16 60 (dk_at dksX4_init_1 18 rfl rfl)
theorem dX4_init_43 : decode cX4_init 43 = .ok (.newarray .int, 2) := dk_188_10 (dk_at dksX4_init_1 20 rfl rfl)
theorem dX4_init_45 : decode cX4_init 45 = .ok (.putfield 22, 3) := dk_181 0 22 (dk_at dksX4_init_2 0 rfl rfl)
theorem dX4_init_48 : decode cX4_init 48 = .ok (.aload_n 0, 1) := dk_42 (dk_at dksX4_init_2 3 rfl rfl)
theorem dX4_init_49 : decode cX4_init 49 = .ok (.sipush 144, 3) := dk_17 0 144 (dk_at dksX4_init_2 4 rfl rfl)
theorem dX4_init_52 : decode cX4_init 52 = .ok (.newarray .int, 2) := dk_188_10 (dk_at dksX4_init_2 7 rfl rfl)
theorem dX4_init_54 : decode cX4_init 54 = .ok (.putfield 25, 3) := dk_181 0 25 (dk_at dksX4_init_2 9 rfl rfl)
theorem dX4_init_57 : decode cX4_init 57 = .ok (.aload_n 0, 1) := dk_42 (dk_at dksX4_init_2 12 rfl rfl)
theorem dX4_init_58 : decode cX4_init 58 = .ok (.sipush 144, 3) := dk_17 0 144 (dk_at dksX4_init_2 13 rfl rfl)
theorem dX4_init_61 : decode cX4_init 61 = .ok (.newarray .int, 2) := dk_188_10 (dk_at dksX4_init_2 16 rfl rfl)
theorem dX4_init_63 : decode cX4_init 63 = .ok (.putfield 28, 3) := dk_181 0 28 (dk_at dksX4_init_2 18 rfl rfl)
theorem dX4_init_66 : decode cX4_init 66 = .ok (.aload_n 0, 1) := dk_42 (dk_at dksX4_init_2 21 rfl rfl)
theorem dX4_init_67 : decode cX4_init 67 = .ok (.bipush 40, 2) := dk_16 40 (dk_at dksX4_init_2 22 rfl rfl)
theorem dX4_init_69 : decode cX4_init 69 = .ok (.newarray .int, 2) := dk_188_10 (dk_at dksX4_init_3 0 rfl rfl)
theorem dX4_init_71 : decode cX4_init 71 = .ok (.putfield 31, 3) := dk_181 0 31 (dk_at dksX4_init_3 2 rfl rfl)
theorem dX4_init_74 : decode cX4_init 74 = .ok (.aload_n 0, 1) := dk_42 (dk_at dksX4_init_3 5 rfl rfl)
theorem dX4_init_75 : decode cX4_init 75 = .ok (.bipush 60, 2) := dk_16 60 (dk_at dksX4_init_3 6 rfl rfl)
theorem dX4_init_77 : decode cX4_init 77 = .ok (.newarray .int, 2) := dk_188_10 (dk_at dksX4_init_3 8 rfl rfl)
theorem dX4_init_79 : decode cX4_init 79 = .ok (.putfield 34, 3) := dk_181 0 34 (dk_at dksX4_init_3 10 rfl rfl)
theorem dX4_init_82 : decode cX4_init 82 = .ok (.aload_n 0, 1) := dk_42 (dk_at dksX4_init_3 13 rfl rfl)
theorem dX4_init_83 : decode cX4_init 83 = .ok (.getfield 7, 3) := dk_180 0 7 (dk_at dksX4_init_3 14 rfl rfl)
theorem dX4_init_86 : decode cX4_init 86 = .ok (.iconst 2, 1) := dk_5 (dk_at dksX4_init_3 17 rfl rfl)
theorem dX4_init_87 : decode cX4_init 87 = .ok (.bipush 90, 2) := dk_16 90 (dk_at dksX4_init_3 18 rfl rfl)
theorem dX4_init_89 : decode cX4_init 89 = .ok (.iastore, 1) := dk_79 (dk_at dksX4_init_3 20 rfl rfl)
theorem dX4_init_90 : decode cX4_init 90 = .ok (.aload_n 0, 1) := dk_42 (dk_at dksX4_init_3 21 rfl rfl)
theorem dX4_init_91 : decode cX4_init 91 = .ok (.getfield 7, 3) := dk_180 0 7 (dk_at dksX4_init_4 0 rfl rfl)
theorem dX4_init_94 : decode cX4_init 94 = .ok (.iconst 3, 1) := dk_6 (dk_at dksX4_init_4 3 rfl rfl)
theorem dX4_init_95 : decode cX4_init 95 = .ok (.bipush 60, 2) := dk_16 60 (dk_at dksX4_init_4 4 rfl rfl)
theorem dX4_init_97 : decode cX4_init 97 = .ok (.iastore, 1) := dk_79 (dk_at dksX4_init_4 6 rfl rfl)
theorem dX4_init_98 : decode cX4_init 98 = .ok (.aload_n 0, 1) := dk_42 (dk_at dksX4_init_4 7 rfl rfl)
theorem dX4_init_99 : decode cX4_init 99 = .ok (.getfield 7, 3) := dk_180 0 7 (dk_at dksX4_init_4 8 rfl rfl)
theorem dX4_init_102 : decode cX4_init 102 = .ok (.iconst 4, 1) := dk_7 (dk_at dksX4_init_4 11 rfl rfl)
theorem dX4_init_103 : decode cX4_init 103 = .ok (.bipush 40, 2) := dk_16 40 (dk_at dksX4_init_4 12 rfl rfl)
theorem dX4_init_105 : decode cX4_init 105 = .ok (.iastore, 1) := dk_79 (dk_at dksX4_init_4 14 rfl rfl)
theorem dX4_init_106 : decode cX4_init 106 = .ok (.aload_n 0, 1) := dk_42 (dk_at dksX4_init_4 15 rfl rfl)
theorem dX4_init_107 : decode cX4_init 107 = .ok (.invokevirtual 37, 3) := dk_182 0 37 (dk_at dksX4_init_4 16 rfl rfl)
theorem dX4_init_110 : decode cX4_init 110 = .ok (.return_, 1) := dk_177 (dk_at dksX4_init_4 19 rfl rfl)
abbrev cX4_laysWays : ByteArray := prog_16_method_18_code
def yX4_laysWays : MethodName := ⟨RX4, "laysWays", "()V"⟩
def dkwX4_laysWays_11 : List UInt8 := [167, 255, 190, 132, 1, 1, 167, 255, 176, 177]
abbrev dktX4_laysWays_11 : List UInt8 := dkwX4_laysWays_11 ++ []
def dkwX4_laysWays_10 : List UInt8 := [42, 180, 0, 28, 28, 46, 162, 0, 7, 29, 167, 0, 9, 42, 180, 0, 28, 28, 46, 79, 132, 2, 1]
abbrev dktX4_laysWays_10 : List UInt8 := dkwX4_laysWays_10 ++ dktX4_laysWays_11
def dkwX4_laysWays_9 : List UInt8 := [96, 46, 42, 180, 0, 28, 16, 12, 27, 104, 28, 16, 12, 112, 96, 46, 96, 62, 42, 180, 0, 28, 28, 29]
abbrev dktX4_laysWays_9 : List UInt8 := dkwX4_laysWays_9 ++ dktX4_laysWays_10
def dkwX4_laysWays_8 : List UInt8 := [162, 0, 80, 3, 61, 28, 17, 0, 144, 162, 0, 65, 42, 180, 0, 28, 28, 16, 12, 108, 16, 12, 104, 27]
abbrev dktX4_laysWays_8 : List UInt8 := dkwX4_laysWays_8 ++ dktX4_laysWays_9
def dkwX4_laysWays_7 : List UInt8 := [180, 0, 7, 16, 16, 6, 27, 104, 96, 5, 96, 46, 79, 132, 1, 1, 167, 255, 121, 3, 60, 27, 16, 12]
abbrev dktX4_laysWays_7 : List UInt8 := dkwX4_laysWays_7 ++ dktX4_laysWays_8
def dkwX4_laysWays_6 : List UInt8 := [180, 0, 7, 16, 16, 6, 27, 104, 96, 5, 96, 46, 79, 42, 180, 0, 28, 16, 12, 29, 104, 28, 96, 42]
abbrev dktX4_laysWays_6 : List UInt8 := dkwX4_laysWays_6 ++ dktX4_laysWays_7
def dkwX4_laysWays_5 : List UInt8 := [180, 0, 7, 16, 16, 6, 27, 104, 96, 5, 96, 46, 79, 42, 180, 0, 28, 16, 12, 28, 104, 29, 96, 42]
abbrev dktX4_laysWays_5 : List UInt8 := dkwX4_laysWays_5 ++ dktX4_laysWays_6
def dkwX4_laysWays_4 : List UInt8 := [180, 0, 7, 16, 16, 6, 27, 104, 96, 5, 96, 46, 79, 42, 180, 0, 25, 16, 12, 29, 104, 28, 96, 42]
abbrev dktX4_laysWays_4 : List UInt8 := dkwX4_laysWays_4 ++ dktX4_laysWays_5
def dkwX4_laysWays_3 : List UInt8 := [180, 0, 7, 16, 16, 6, 27, 104, 96, 4, 96, 46, 62, 42, 180, 0, 25, 16, 12, 28, 104, 29, 96, 42]
abbrev dktX4_laysWays_3 : List UInt8 := dkwX4_laysWays_3 ++ dktX4_laysWays_4
def dkwX4_laysWays_2 : List UInt8 := [60, 27, 42, 180, 0, 7, 8, 46, 162, 0, 131, 42, 180, 0, 7, 16, 16, 6, 27, 104, 96, 46, 61, 42]
abbrev dktX4_laysWays_2 : List UInt8 := dkwX4_laysWays_2 ++ dktX4_laysWays_3
def dkwX4_laysWays_1 : List UInt8 := [16, 12, 108, 27, 16, 12, 112, 160, 0, 7, 3, 167, 0, 5, 18, 52, 79, 132, 1, 1, 167, 255, 215, 3]
abbrev dktX4_laysWays_1 : List UInt8 := dkwX4_laysWays_1 ++ dktX4_laysWays_2
def dkwX4_laysWays_0 : List UInt8 := [3, 60, 27, 17, 0, 144, 162, 0, 40, 42, 180, 0, 25, 27, 18, 52, 79, 42, 180, 0, 28, 27, 27]
abbrev dktX4_laysWays_0 : List UInt8 := dkwX4_laysWays_0 ++ dktX4_laysWays_1
theorem dksX4_laysWays_0 : cX4_laysWays.data.toList.drop 0 = dktX4_laysWays_0 := by decide +kernel
theorem dksX4_laysWays_1 : cX4_laysWays.data.toList.drop 23 = dktX4_laysWays_1 := dk_seg dksX4_laysWays_0 23 rfl rfl
theorem dksX4_laysWays_2 : cX4_laysWays.data.toList.drop 47 = dktX4_laysWays_2 := dk_seg dksX4_laysWays_1 24 rfl rfl
theorem dksX4_laysWays_3 : cX4_laysWays.data.toList.drop 71 = dktX4_laysWays_3 := dk_seg dksX4_laysWays_2 24 rfl rfl
theorem dksX4_laysWays_4 : cX4_laysWays.data.toList.drop 95 = dktX4_laysWays_4 := dk_seg dksX4_laysWays_3 24 rfl rfl
theorem dksX4_laysWays_5 : cX4_laysWays.data.toList.drop 119 = dktX4_laysWays_5 := dk_seg dksX4_laysWays_4 24 rfl rfl
theorem dksX4_laysWays_6 : cX4_laysWays.data.toList.drop 143 = dktX4_laysWays_6 := dk_seg dksX4_laysWays_5 24 rfl rfl
theorem dksX4_laysWays_7 : cX4_laysWays.data.toList.drop 167 = dktX4_laysWays_7 := dk_seg dksX4_laysWays_6 24 rfl rfl
theorem dksX4_laysWays_8 : cX4_laysWays.data.toList.drop 191 = dktX4_laysWays_8 := dk_seg dksX4_laysWays_7 24 rfl rfl
theorem dksX4_laysWays_9 : cX4_laysWays.data.toList.drop 215 = dktX4_laysWays_9 := dk_seg dksX4_laysWays_8 24 rfl rfl
theorem dksX4_laysWays_10 : cX4_laysWays.data.toList.drop 239 = dktX4_laysWays_10 := dk_seg dksX4_laysWays_9 24 rfl rfl
theorem dksX4_laysWays_11 : cX4_laysWays.data.toList.drop 262 = dktX4_laysWays_11 := dk_seg dksX4_laysWays_10 23 rfl rfl
theorem dX4_laysWays_0 : decode cX4_laysWays 0 = .ok (.iconst 0, 1) := dk_3 (dk_at dksX4_laysWays_0 0 rfl rfl)
theorem dX4_laysWays_1 : decode cX4_laysWays 1 = .ok (.istore_n 1, 1) := dk_60 (dk_at dksX4_laysWays_0 1 rfl rfl)
theorem dX4_laysWays_2 : decode cX4_laysWays 2 = .ok (.iload_n 1, 1) := dk_27 (dk_at dksX4_laysWays_0 2 rfl rfl)
theorem dX4_laysWays_3 : decode cX4_laysWays 3 = .ok (.sipush 144, 3) := dk_17 0 144 (dk_at dksX4_laysWays_0 3 rfl rfl)
theorem dX4_laysWays_6 : decode cX4_laysWays 6 = .ok (.if_icmp .ge 40, 3) := dk_162 0 40 (dk_at dksX4_laysWays_0 6 rfl rfl)
theorem dX4_laysWays_9 : decode cX4_laysWays 9 = .ok (.aload_n 0, 1) := dk_42 (dk_at dksX4_laysWays_0 9 rfl rfl)
theorem dX4_laysWays_10 : decode cX4_laysWays 10 = .ok (.getfield 25, 3) := dk_180 0 25 (dk_at dksX4_laysWays_0 10 rfl rfl)
theorem dX4_laysWays_13 : decode cX4_laysWays 13 = .ok (.iload_n 1, 1) := dk_27 (dk_at dksX4_laysWays_0 13 rfl rfl)
theorem dX4_laysWays_14 : decode cX4_laysWays 14 = .ok (.ldc 52, 2) := dk_18 52 (dk_at dksX4_laysWays_0 14 rfl rfl)
theorem dX4_laysWays_16 : decode cX4_laysWays 16 = .ok (.iastore, 1) := dk_79 (dk_at dksX4_laysWays_0 16 rfl rfl)
theorem dX4_laysWays_17 : decode cX4_laysWays 17 = .ok (.aload_n 0, 1) := dk_42 (dk_at dksX4_laysWays_0 17 rfl rfl)
theorem dX4_laysWays_18 : decode cX4_laysWays 18 = .ok (.getfield 28, 3) := dk_180 0 28 (dk_at dksX4_laysWays_0 18 rfl rfl)
theorem dX4_laysWays_21 : decode cX4_laysWays 21 = .ok (.iload_n 1, 1) := dk_27 (dk_at dksX4_laysWays_0 21 rfl rfl)
theorem dX4_laysWays_22 : decode cX4_laysWays 22 = .ok (.iload_n 1, 1) := dk_27 (dk_at dksX4_laysWays_0 22 rfl rfl)
theorem dX4_laysWays_23 : decode cX4_laysWays 23 = .ok (.bipush 12, 2) := dk_16 12 (dk_at dksX4_laysWays_1 0 rfl rfl)
theorem dX4_laysWays_25 : decode cX4_laysWays 25 = .ok (.idiv, 1) := dk_108 (dk_at dksX4_laysWays_1 2 rfl rfl)
theorem dX4_laysWays_26 : decode cX4_laysWays 26 = .ok (.iload_n 1, 1) := dk_27 (dk_at dksX4_laysWays_1 3 rfl rfl)
theorem dX4_laysWays_27 : decode cX4_laysWays 27 = .ok (.bipush 12, 2) := dk_16 12 (dk_at dksX4_laysWays_1 4 rfl rfl)
theorem dX4_laysWays_29 : decode cX4_laysWays 29 = .ok (.irem, 1) := dk_112 (dk_at dksX4_laysWays_1 6 rfl rfl)
theorem dX4_laysWays_30 : decode cX4_laysWays 30 = .ok (.if_icmp .ne 7, 3) := dk_160 0 7 (dk_at dksX4_laysWays_1 7 rfl rfl)
theorem dX4_laysWays_33 : decode cX4_laysWays 33 = .ok (.iconst 0, 1) := dk_3 (dk_at dksX4_laysWays_1 10 rfl rfl)
theorem dX4_laysWays_34 : decode cX4_laysWays 34 = .ok (.goto 5, 3) := dk_167 0 5 (dk_at dksX4_laysWays_1 11 rfl rfl)
theorem dX4_laysWays_37 : decode cX4_laysWays 37 = .ok (.ldc 52, 2) := dk_18 52 (dk_at dksX4_laysWays_1 14 rfl rfl)
theorem dX4_laysWays_39 : decode cX4_laysWays 39 = .ok (.iastore, 1) := dk_79 (dk_at dksX4_laysWays_1 16 rfl rfl)
theorem dX4_laysWays_40 : decode cX4_laysWays 40 = .ok (.iinc 1 1, 3) := dk_132 1 1 (dk_at dksX4_laysWays_1 17 rfl rfl)
theorem dX4_laysWays_43 : decode cX4_laysWays 43 = .ok (.goto (-41), 3) := dk_167 255 215 (dk_at dksX4_laysWays_1 20 rfl rfl)
theorem dX4_laysWays_46 : decode cX4_laysWays 46 = .ok (.iconst 0, 1) := dk_3 (dk_at dksX4_laysWays_1 23 rfl rfl)
theorem dX4_laysWays_47 : decode cX4_laysWays 47 = .ok (.istore_n 1, 1) := dk_60 (dk_at dksX4_laysWays_2 0 rfl rfl)
theorem dX4_laysWays_48 : decode cX4_laysWays 48 = .ok (.iload_n 1, 1) := dk_27 (dk_at dksX4_laysWays_2 1 rfl rfl)
theorem dX4_laysWays_49 : decode cX4_laysWays 49 = .ok (.aload_n 0, 1) := dk_42 (dk_at dksX4_laysWays_2 2 rfl rfl)
theorem dX4_laysWays_50 : decode cX4_laysWays 50 = .ok (.getfield 7, 3) := dk_180 0 7 (dk_at dksX4_laysWays_2 3 rfl rfl)
theorem dX4_laysWays_53 : decode cX4_laysWays 53 = .ok (.iconst 5, 1) := dk_8 (dk_at dksX4_laysWays_2 6 rfl rfl)
theorem dX4_laysWays_54 : decode cX4_laysWays 54 = .ok (.iaload, 1) := dk_46 (dk_at dksX4_laysWays_2 7 rfl rfl)
theorem dX4_laysWays_55 : decode cX4_laysWays 55 = .ok (.if_icmp .ge 131, 3) := dk_162 0 131 (dk_at dksX4_laysWays_2 8 rfl rfl)
theorem dX4_laysWays_58 : decode cX4_laysWays 58 = .ok (.aload_n 0, 1) := dk_42 (dk_at dksX4_laysWays_2 11 rfl rfl)
theorem dX4_laysWays_59 : decode cX4_laysWays 59 = .ok (.getfield 7, 3) := dk_180 0 7 (dk_at dksX4_laysWays_2 12 rfl rfl)
theorem dX4_laysWays_62 : decode cX4_laysWays 62 = .ok (.bipush 16, 2) := dk_16 16 (dk_at dksX4_laysWays_2 15 rfl rfl)
theorem dX4_laysWays_64 : decode cX4_laysWays 64 = .ok (.iconst 3, 1) := dk_6 (dk_at dksX4_laysWays_2 17 rfl rfl)
theorem dX4_laysWays_65 : decode cX4_laysWays 65 = .ok (.iload_n 1, 1) := dk_27 (dk_at dksX4_laysWays_2 18 rfl rfl)
theorem dX4_laysWays_66 : decode cX4_laysWays 66 = .ok (.imul, 1) := dk_104 (dk_at dksX4_laysWays_2 19 rfl rfl)
theorem dX4_laysWays_67 : decode cX4_laysWays 67 = .ok (.iadd, 1) := dk_96 (dk_at dksX4_laysWays_2 20 rfl rfl)
theorem dX4_laysWays_68 : decode cX4_laysWays 68 = .ok (.iaload, 1) := dk_46 (dk_at dksX4_laysWays_2 21 rfl rfl)
theorem dX4_laysWays_69 : decode cX4_laysWays 69 = .ok (.istore_n 2, 1) := dk_61 (dk_at dksX4_laysWays_2 22 rfl rfl)
theorem dX4_laysWays_70 : decode cX4_laysWays 70 = .ok (.aload_n 0, 1) := dk_42 (dk_at dksX4_laysWays_2 23 rfl rfl)
theorem dX4_laysWays_71 : decode cX4_laysWays 71 = .ok (.getfield 7, 3) := dk_180 0 7 (dk_at dksX4_laysWays_3 0 rfl rfl)
theorem dX4_laysWays_74 : decode cX4_laysWays 74 = .ok (.bipush 16, 2) := dk_16 16 (dk_at dksX4_laysWays_3 3 rfl rfl)
theorem dX4_laysWays_76 : decode cX4_laysWays 76 = .ok (.iconst 3, 1) := dk_6 (dk_at dksX4_laysWays_3 5 rfl rfl)
theorem dX4_laysWays_77 : decode cX4_laysWays 77 = .ok (.iload_n 1, 1) := dk_27 (dk_at dksX4_laysWays_3 6 rfl rfl)
theorem dX4_laysWays_78 : decode cX4_laysWays 78 = .ok (.imul, 1) := dk_104 (dk_at dksX4_laysWays_3 7 rfl rfl)
theorem dX4_laysWays_79 : decode cX4_laysWays 79 = .ok (.iadd, 1) := dk_96 (dk_at dksX4_laysWays_3 8 rfl rfl)
theorem dX4_laysWays_80 : decode cX4_laysWays 80 = .ok (.iconst 1, 1) := dk_4 (dk_at dksX4_laysWays_3 9 rfl rfl)
theorem dX4_laysWays_81 : decode cX4_laysWays 81 = .ok (.iadd, 1) := dk_96 (dk_at dksX4_laysWays_3 10 rfl rfl)
theorem dX4_laysWays_82 : decode cX4_laysWays 82 = .ok (.iaload, 1) := dk_46 (dk_at dksX4_laysWays_3 11 rfl rfl)
theorem dX4_laysWays_83 : decode cX4_laysWays 83 = .ok (.istore_n 3, 1) := dk_62 (dk_at dksX4_laysWays_3 12 rfl rfl)
theorem dX4_laysWays_84 : decode cX4_laysWays 84 = .ok (.aload_n 0, 1) := dk_42 (dk_at dksX4_laysWays_3 13 rfl rfl)
theorem dX4_laysWays_85 : decode cX4_laysWays 85 = .ok (.getfield 25, 3) := dk_180 0 25 (dk_at dksX4_laysWays_3 14 rfl rfl)
theorem dX4_laysWays_88 : decode cX4_laysWays 88 = .ok (.bipush 12, 2) := dk_16 12 (dk_at dksX4_laysWays_3 17 rfl rfl)
theorem dX4_laysWays_90 : decode cX4_laysWays 90 = .ok (.iload_n 2, 1) := dk_28 (dk_at dksX4_laysWays_3 19 rfl rfl)
theorem dX4_laysWays_91 : decode cX4_laysWays 91 = .ok (.imul, 1) := dk_104 (dk_at dksX4_laysWays_3 20 rfl rfl)
theorem dX4_laysWays_92 : decode cX4_laysWays 92 = .ok (.iload_n 3, 1) := dk_29 (dk_at dksX4_laysWays_3 21 rfl rfl)
theorem dX4_laysWays_93 : decode cX4_laysWays 93 = .ok (.iadd, 1) := dk_96 (dk_at dksX4_laysWays_3 22 rfl rfl)
theorem dX4_laysWays_94 : decode cX4_laysWays 94 = .ok (.aload_n 0, 1) := dk_42 (dk_at dksX4_laysWays_3 23 rfl rfl)
theorem dX4_laysWays_95 : decode cX4_laysWays 95 = .ok (.getfield 7, 3) := dk_180 0 7 (dk_at dksX4_laysWays_4 0 rfl rfl)
theorem dX4_laysWays_98 : decode cX4_laysWays 98 = .ok (.bipush 16, 2) := dk_16 16 (dk_at dksX4_laysWays_4 3 rfl rfl)
theorem dX4_laysWays_100 : decode cX4_laysWays 100 = .ok (.iconst 3, 1) := dk_6 (dk_at dksX4_laysWays_4 5 rfl rfl)
theorem dX4_laysWays_101 : decode cX4_laysWays 101 = .ok (.iload_n 1, 1) := dk_27 (dk_at dksX4_laysWays_4 6 rfl rfl)
theorem dX4_laysWays_102 : decode cX4_laysWays 102 = .ok (.imul, 1) := dk_104 (dk_at dksX4_laysWays_4 7 rfl rfl)
theorem dX4_laysWays_103 : decode cX4_laysWays 103 = .ok (.iadd, 1) := dk_96 (dk_at dksX4_laysWays_4 8 rfl rfl)
theorem dX4_laysWays_104 : decode cX4_laysWays 104 = .ok (.iconst 2, 1) := dk_5 (dk_at dksX4_laysWays_4 9 rfl rfl)
theorem dX4_laysWays_105 : decode cX4_laysWays 105 = .ok (.iadd, 1) := dk_96 (dk_at dksX4_laysWays_4 10 rfl rfl)
theorem dX4_laysWays_106 : decode cX4_laysWays 106 = .ok (.iaload, 1) := dk_46 (dk_at dksX4_laysWays_4 11 rfl rfl)
theorem dX4_laysWays_107 : decode cX4_laysWays 107 = .ok (.iastore, 1) := dk_79 (dk_at dksX4_laysWays_4 12 rfl rfl)
theorem dX4_laysWays_108 : decode cX4_laysWays 108 = .ok (.aload_n 0, 1) := dk_42 (dk_at dksX4_laysWays_4 13 rfl rfl)
theorem dX4_laysWays_109 : decode cX4_laysWays 109 = .ok (.getfield 25, 3) := dk_180 0 25 (dk_at dksX4_laysWays_4 14 rfl rfl)
theorem dX4_laysWays_112 : decode cX4_laysWays 112 = .ok (.bipush 12, 2) := dk_16 12 (dk_at dksX4_laysWays_4 17 rfl rfl)
theorem dX4_laysWays_114 : decode cX4_laysWays 114 = .ok (.iload_n 3, 1) := dk_29 (dk_at dksX4_laysWays_4 19 rfl rfl)
theorem dX4_laysWays_115 : decode cX4_laysWays 115 = .ok (.imul, 1) := dk_104 (dk_at dksX4_laysWays_4 20 rfl rfl)
theorem dX4_laysWays_116 : decode cX4_laysWays 116 = .ok (.iload_n 2, 1) := dk_28 (dk_at dksX4_laysWays_4 21 rfl rfl)
theorem dX4_laysWays_117 : decode cX4_laysWays 117 = .ok (.iadd, 1) := dk_96 (dk_at dksX4_laysWays_4 22 rfl rfl)
theorem dX4_laysWays_118 : decode cX4_laysWays 118 = .ok (.aload_n 0, 1) := dk_42 (dk_at dksX4_laysWays_4 23 rfl rfl)
theorem dX4_laysWays_119 : decode cX4_laysWays 119 = .ok (.getfield 7, 3) := dk_180 0 7 (dk_at dksX4_laysWays_5 0 rfl rfl)
theorem dX4_laysWays_122 : decode cX4_laysWays 122 = .ok (.bipush 16, 2) := dk_16 16 (dk_at dksX4_laysWays_5 3 rfl rfl)
theorem dX4_laysWays_124 : decode cX4_laysWays 124 = .ok (.iconst 3, 1) := dk_6 (dk_at dksX4_laysWays_5 5 rfl rfl)
theorem dX4_laysWays_125 : decode cX4_laysWays 125 = .ok (.iload_n 1, 1) := dk_27 (dk_at dksX4_laysWays_5 6 rfl rfl)
theorem dX4_laysWays_126 : decode cX4_laysWays 126 = .ok (.imul, 1) := dk_104 (dk_at dksX4_laysWays_5 7 rfl rfl)
theorem dX4_laysWays_127 : decode cX4_laysWays 127 = .ok (.iadd, 1) := dk_96 (dk_at dksX4_laysWays_5 8 rfl rfl)
theorem dX4_laysWays_128 : decode cX4_laysWays 128 = .ok (.iconst 2, 1) := dk_5 (dk_at dksX4_laysWays_5 9 rfl rfl)
theorem dX4_laysWays_129 : decode cX4_laysWays 129 = .ok (.iadd, 1) := dk_96 (dk_at dksX4_laysWays_5 10 rfl rfl)
theorem dX4_laysWays_130 : decode cX4_laysWays 130 = .ok (.iaload, 1) := dk_46 (dk_at dksX4_laysWays_5 11 rfl rfl)
theorem dX4_laysWays_131 : decode cX4_laysWays 131 = .ok (.iastore, 1) := dk_79 (dk_at dksX4_laysWays_5 12 rfl rfl)
theorem dX4_laysWays_132 : decode cX4_laysWays 132 = .ok (.aload_n 0, 1) := dk_42 (dk_at dksX4_laysWays_5 13 rfl rfl)
theorem dX4_laysWays_133 : decode cX4_laysWays 133 = .ok (.getfield 28, 3) := dk_180 0 28 (dk_at dksX4_laysWays_5 14 rfl rfl)
theorem dX4_laysWays_136 : decode cX4_laysWays 136 = .ok (.bipush 12, 2) := dk_16 12 (dk_at dksX4_laysWays_5 17 rfl rfl)
theorem dX4_laysWays_138 : decode cX4_laysWays 138 = .ok (.iload_n 2, 1) := dk_28 (dk_at dksX4_laysWays_5 19 rfl rfl)
theorem dX4_laysWays_139 : decode cX4_laysWays 139 = .ok (.imul, 1) := dk_104 (dk_at dksX4_laysWays_5 20 rfl rfl)
theorem dX4_laysWays_140 : decode cX4_laysWays 140 = .ok (.iload_n 3, 1) := dk_29 (dk_at dksX4_laysWays_5 21 rfl rfl)
theorem dX4_laysWays_141 : decode cX4_laysWays 141 = .ok (.iadd, 1) := dk_96 (dk_at dksX4_laysWays_5 22 rfl rfl)
theorem dX4_laysWays_142 : decode cX4_laysWays 142 = .ok (.aload_n 0, 1) := dk_42 (dk_at dksX4_laysWays_5 23 rfl rfl)
theorem dX4_laysWays_143 : decode cX4_laysWays 143 = .ok (.getfield 7, 3) := dk_180 0 7 (dk_at dksX4_laysWays_6 0 rfl rfl)
theorem dX4_laysWays_146 : decode cX4_laysWays 146 = .ok (.bipush 16, 2) := dk_16 16 (dk_at dksX4_laysWays_6 3 rfl rfl)
theorem dX4_laysWays_148 : decode cX4_laysWays 148 = .ok (.iconst 3, 1) := dk_6 (dk_at dksX4_laysWays_6 5 rfl rfl)
theorem dX4_laysWays_149 : decode cX4_laysWays 149 = .ok (.iload_n 1, 1) := dk_27 (dk_at dksX4_laysWays_6 6 rfl rfl)
theorem dX4_laysWays_150 : decode cX4_laysWays 150 = .ok (.imul, 1) := dk_104 (dk_at dksX4_laysWays_6 7 rfl rfl)
theorem dX4_laysWays_151 : decode cX4_laysWays 151 = .ok (.iadd, 1) := dk_96 (dk_at dksX4_laysWays_6 8 rfl rfl)
theorem dX4_laysWays_152 : decode cX4_laysWays 152 = .ok (.iconst 2, 1) := dk_5 (dk_at dksX4_laysWays_6 9 rfl rfl)
theorem dX4_laysWays_153 : decode cX4_laysWays 153 = .ok (.iadd, 1) := dk_96 (dk_at dksX4_laysWays_6 10 rfl rfl)
theorem dX4_laysWays_154 : decode cX4_laysWays 154 = .ok (.iaload, 1) := dk_46 (dk_at dksX4_laysWays_6 11 rfl rfl)
theorem dX4_laysWays_155 : decode cX4_laysWays 155 = .ok (.iastore, 1) := dk_79 (dk_at dksX4_laysWays_6 12 rfl rfl)
theorem dX4_laysWays_156 : decode cX4_laysWays 156 = .ok (.aload_n 0, 1) := dk_42 (dk_at dksX4_laysWays_6 13 rfl rfl)
theorem dX4_laysWays_157 : decode cX4_laysWays 157 = .ok (.getfield 28, 3) := dk_180 0 28 (dk_at dksX4_laysWays_6 14 rfl rfl)
theorem dX4_laysWays_160 : decode cX4_laysWays 160 = .ok (.bipush 12, 2) := dk_16 12 (dk_at dksX4_laysWays_6 17 rfl rfl)
theorem dX4_laysWays_162 : decode cX4_laysWays 162 = .ok (.iload_n 3, 1) := dk_29 (dk_at dksX4_laysWays_6 19 rfl rfl)
theorem dX4_laysWays_163 : decode cX4_laysWays 163 = .ok (.imul, 1) := dk_104 (dk_at dksX4_laysWays_6 20 rfl rfl)
theorem dX4_laysWays_164 : decode cX4_laysWays 164 = .ok (.iload_n 2, 1) := dk_28 (dk_at dksX4_laysWays_6 21 rfl rfl)
theorem dX4_laysWays_165 : decode cX4_laysWays 165 = .ok (.iadd, 1) := dk_96 (dk_at dksX4_laysWays_6 22 rfl rfl)
theorem dX4_laysWays_166 : decode cX4_laysWays 166 = .ok (.aload_n 0, 1) := dk_42 (dk_at dksX4_laysWays_6 23 rfl rfl)
theorem dX4_laysWays_167 : decode cX4_laysWays 167 = .ok (.getfield 7, 3) := dk_180 0 7 (dk_at dksX4_laysWays_7 0 rfl rfl)
theorem dX4_laysWays_170 : decode cX4_laysWays 170 = .ok (.bipush 16, 2) := dk_16 16 (dk_at dksX4_laysWays_7 3 rfl rfl)
theorem dX4_laysWays_172 : decode cX4_laysWays 172 = .ok (.iconst 3, 1) := dk_6 (dk_at dksX4_laysWays_7 5 rfl rfl)
theorem dX4_laysWays_173 : decode cX4_laysWays 173 = .ok (.iload_n 1, 1) := dk_27 (dk_at dksX4_laysWays_7 6 rfl rfl)
theorem dX4_laysWays_174 : decode cX4_laysWays 174 = .ok (.imul, 1) := dk_104 (dk_at dksX4_laysWays_7 7 rfl rfl)
theorem dX4_laysWays_175 : decode cX4_laysWays 175 = .ok (.iadd, 1) := dk_96 (dk_at dksX4_laysWays_7 8 rfl rfl)
theorem dX4_laysWays_176 : decode cX4_laysWays 176 = .ok (.iconst 2, 1) := dk_5 (dk_at dksX4_laysWays_7 9 rfl rfl)
theorem dX4_laysWays_177 : decode cX4_laysWays 177 = .ok (.iadd, 1) := dk_96 (dk_at dksX4_laysWays_7 10 rfl rfl)
theorem dX4_laysWays_178 : decode cX4_laysWays 178 = .ok (.iaload, 1) := dk_46 (dk_at dksX4_laysWays_7 11 rfl rfl)
theorem dX4_laysWays_179 : decode cX4_laysWays 179 = .ok (.iastore, 1) := dk_79 (dk_at dksX4_laysWays_7 12 rfl rfl)
theorem dX4_laysWays_180 : decode cX4_laysWays 180 = .ok (.iinc 1 1, 3) := dk_132 1 1 (dk_at dksX4_laysWays_7 13 rfl rfl)
theorem dX4_laysWays_183 : decode cX4_laysWays 183 = .ok (.goto (-135), 3) := dk_167 255 121 (dk_at dksX4_laysWays_7 16 rfl rfl)
theorem dX4_laysWays_186 : decode cX4_laysWays 186 = .ok (.iconst 0, 1) := dk_3 (dk_at dksX4_laysWays_7 19 rfl rfl)
theorem dX4_laysWays_187 : decode cX4_laysWays 187 = .ok (.istore_n 1, 1) := dk_60 (dk_at dksX4_laysWays_7 20 rfl rfl)
theorem dX4_laysWays_188 : decode cX4_laysWays 188 = .ok (.iload_n 1, 1) := dk_27 (dk_at dksX4_laysWays_7 21 rfl rfl)
theorem dX4_laysWays_189 : decode cX4_laysWays 189 = .ok (.bipush 12, 2) := dk_16 12 (dk_at dksX4_laysWays_7 22 rfl rfl)
theorem dX4_laysWays_191 : decode cX4_laysWays 191 = .ok (.if_icmp .ge 80, 3) := dk_162 0 80 (dk_at dksX4_laysWays_8 0 rfl rfl)
theorem dX4_laysWays_194 : decode cX4_laysWays 194 = .ok (.iconst 0, 1) := dk_3 (dk_at dksX4_laysWays_8 3 rfl rfl)
theorem dX4_laysWays_195 : decode cX4_laysWays 195 = .ok (.istore_n 2, 1) := dk_61 (dk_at dksX4_laysWays_8 4 rfl rfl)
theorem dX4_laysWays_196 : decode cX4_laysWays 196 = .ok (.iload_n 2, 1) := dk_28 (dk_at dksX4_laysWays_8 5 rfl rfl)
theorem dX4_laysWays_197 : decode cX4_laysWays 197 = .ok (.sipush 144, 3) := dk_17 0 144 (dk_at dksX4_laysWays_8 6 rfl rfl)
theorem dX4_laysWays_200 : decode cX4_laysWays 200 = .ok (.if_icmp .ge 65, 3) := dk_162 0 65 (dk_at dksX4_laysWays_8 9 rfl rfl)
theorem dX4_laysWays_203 : decode cX4_laysWays 203 = .ok (.aload_n 0, 1) := dk_42 (dk_at dksX4_laysWays_8 12 rfl rfl)
theorem dX4_laysWays_204 : decode cX4_laysWays 204 = .ok (.getfield 28, 3) := dk_180 0 28 (dk_at dksX4_laysWays_8 13 rfl rfl)
theorem dX4_laysWays_207 : decode cX4_laysWays 207 = .ok (.iload_n 2, 1) := dk_28 (dk_at dksX4_laysWays_8 16 rfl rfl)
theorem dX4_laysWays_208 : decode cX4_laysWays 208 = .ok (.bipush 12, 2) := dk_16 12 (dk_at dksX4_laysWays_8 17 rfl rfl)
theorem dX4_laysWays_210 : decode cX4_laysWays 210 = .ok (.idiv, 1) := dk_108 (dk_at dksX4_laysWays_8 19 rfl rfl)
theorem dX4_laysWays_211 : decode cX4_laysWays 211 = .ok (.bipush 12, 2) := dk_16 12 (dk_at dksX4_laysWays_8 20 rfl rfl)
theorem dX4_laysWays_213 : decode cX4_laysWays 213 = .ok (.imul, 1) := dk_104 (dk_at dksX4_laysWays_8 22 rfl rfl)
theorem dX4_laysWays_214 : decode cX4_laysWays 214 = .ok (.iload_n 1, 1) := dk_27 (dk_at dksX4_laysWays_8 23 rfl rfl)
theorem dX4_laysWays_215 : decode cX4_laysWays 215 = .ok (.iadd, 1) := dk_96 (dk_at dksX4_laysWays_9 0 rfl rfl)
theorem dX4_laysWays_216 : decode cX4_laysWays 216 = .ok (.iaload, 1) := dk_46 (dk_at dksX4_laysWays_9 1 rfl rfl)
theorem dX4_laysWays_217 : decode cX4_laysWays 217 = .ok (.aload_n 0, 1) := dk_42 (dk_at dksX4_laysWays_9 2 rfl rfl)
theorem dX4_laysWays_218 : decode cX4_laysWays 218 = .ok (.getfield 28, 3) := dk_180 0 28 (dk_at dksX4_laysWays_9 3 rfl rfl)
theorem dX4_laysWays_221 : decode cX4_laysWays 221 = .ok (.bipush 12, 2) := dk_16 12 (dk_at dksX4_laysWays_9 6 rfl rfl)
theorem dX4_laysWays_223 : decode cX4_laysWays 223 = .ok (.iload_n 1, 1) := dk_27 (dk_at dksX4_laysWays_9 8 rfl rfl)
theorem dX4_laysWays_224 : decode cX4_laysWays 224 = .ok (.imul, 1) := dk_104 (dk_at dksX4_laysWays_9 9 rfl rfl)
theorem dX4_laysWays_225 : decode cX4_laysWays 225 = .ok (.iload_n 2, 1) := dk_28 (dk_at dksX4_laysWays_9 10 rfl rfl)
theorem dX4_laysWays_226 : decode cX4_laysWays 226 = .ok (.bipush 12, 2) := dk_16 12 (dk_at dksX4_laysWays_9 11 rfl rfl)
theorem dX4_laysWays_228 : decode cX4_laysWays 228 = .ok (.irem, 1) := dk_112 (dk_at dksX4_laysWays_9 13 rfl rfl)
theorem dX4_laysWays_229 : decode cX4_laysWays 229 = .ok (.iadd, 1) := dk_96 (dk_at dksX4_laysWays_9 14 rfl rfl)
theorem dX4_laysWays_230 : decode cX4_laysWays 230 = .ok (.iaload, 1) := dk_46 (dk_at dksX4_laysWays_9 15 rfl rfl)
theorem dX4_laysWays_231 : decode cX4_laysWays 231 = .ok (.iadd, 1) := dk_96 (dk_at dksX4_laysWays_9 16 rfl rfl)
theorem dX4_laysWays_232 : decode cX4_laysWays 232 = .ok (.istore_n 3, 1) := dk_62 (dk_at dksX4_laysWays_9 17 rfl rfl)
theorem dX4_laysWays_233 : decode cX4_laysWays 233 = .ok (.aload_n 0, 1) := dk_42 (dk_at dksX4_laysWays_9 18 rfl rfl)
theorem dX4_laysWays_234 : decode cX4_laysWays 234 = .ok (.getfield 28, 3) := dk_180 0 28 (dk_at dksX4_laysWays_9 19 rfl rfl)
theorem dX4_laysWays_237 : decode cX4_laysWays 237 = .ok (.iload_n 2, 1) := dk_28 (dk_at dksX4_laysWays_9 22 rfl rfl)
theorem dX4_laysWays_238 : decode cX4_laysWays 238 = .ok (.iload_n 3, 1) := dk_29 (dk_at dksX4_laysWays_9 23 rfl rfl)
theorem dX4_laysWays_239 : decode cX4_laysWays 239 = .ok (.aload_n 0, 1) := dk_42 (dk_at dksX4_laysWays_10 0 rfl rfl)
theorem dX4_laysWays_240 : decode cX4_laysWays 240 = .ok (.getfield 28, 3) := dk_180 0 28 (dk_at dksX4_laysWays_10 1 rfl rfl)
theorem dX4_laysWays_243 : decode cX4_laysWays 243 = .ok (.iload_n 2, 1) := dk_28 (dk_at dksX4_laysWays_10 4 rfl rfl)
theorem dX4_laysWays_244 : decode cX4_laysWays 244 = .ok (.iaload, 1) := dk_46 (dk_at dksX4_laysWays_10 5 rfl rfl)
theorem dX4_laysWays_245 : decode cX4_laysWays 245 = .ok (.if_icmp .ge 7, 3) := dk_162 0 7 (dk_at dksX4_laysWays_10 6 rfl rfl)
theorem dX4_laysWays_248 : decode cX4_laysWays 248 = .ok (.iload_n 3, 1) := dk_29 (dk_at dksX4_laysWays_10 9 rfl rfl)
theorem dX4_laysWays_249 : decode cX4_laysWays 249 = .ok (.goto 9, 3) := dk_167 0 9 (dk_at dksX4_laysWays_10 10 rfl rfl)
theorem dX4_laysWays_252 : decode cX4_laysWays 252 = .ok (.aload_n 0, 1) := dk_42 (dk_at dksX4_laysWays_10 13 rfl rfl)
theorem dX4_laysWays_253 : decode cX4_laysWays 253 = .ok (.getfield 28, 3) := dk_180 0 28 (dk_at dksX4_laysWays_10 14 rfl rfl)
theorem dX4_laysWays_256 : decode cX4_laysWays 256 = .ok (.iload_n 2, 1) := dk_28 (dk_at dksX4_laysWays_10 17 rfl rfl)
theorem dX4_laysWays_257 : decode cX4_laysWays 257 = .ok (.iaload, 1) := dk_46 (dk_at dksX4_laysWays_10 18 rfl rfl)
theorem dX4_laysWays_258 : decode cX4_laysWays 258 = .ok (.iastore, 1) := dk_79 (dk_at dksX4_laysWays_10 19 rfl rfl)
theorem dX4_laysWays_259 : decode cX4_laysWays 259 = .ok (.iinc 2 1, 3) := dk_132 2 1 (dk_at dksX4_laysWays_10 20 rfl rfl)
theorem dX4_laysWays_262 : decode cX4_laysWays 262 = .ok (.goto (-66), 3) := dk_167 255 190 (dk_at dksX4_laysWays_11 0 rfl rfl)
theorem dX4_laysWays_265 : decode cX4_laysWays 265 = .ok (.iinc 1 1, 3) := dk_132 1 1 (dk_at dksX4_laysWays_11 3 rfl rfl)
theorem dX4_laysWays_268 : decode cX4_laysWays 268 = .ok (.goto (-80), 3) := dk_167 255 176 (dk_at dksX4_laysWays_11 6 rfl rfl)
theorem dX4_laysWays_271 : decode cX4_laysWays 271 = .ok (.return_, 1) := dk_177 (dk_at dksX4_laysWays_11 9 rfl rfl)
abbrev cX4_addRoad : ByteArray := prog_16_method_21_code
def yX4_addRoad : MethodName := ⟨RX4, "addRoad", "(III)I"⟩
def dkwX4_addRoad_5 : List UInt8 := [96, 5, 96, 29, 79, 42, 180, 0, 7, 8, 92, 46, 4, 96, 79, 42, 182, 0, 37, 21, 4, 172]
abbrev dktX4_addRoad_5 : List UInt8 := dkwX4_addRoad_5 ++ []
def dkwX4_addRoad_4 : List UInt8 := [180, 0, 7, 16, 16, 6, 21, 4, 104, 96, 4, 96, 28, 79, 42, 180, 0, 7, 16, 16, 6, 21, 4, 104]
abbrev dktX4_addRoad_4 : List UInt8 := dkwX4_addRoad_4 ++ dktX4_addRoad_5
def dkwX4_addRoad_3 : List UInt8 := [42, 180, 0, 7, 8, 46, 54, 4, 42, 180, 0, 7, 16, 16, 6, 21, 4, 104, 96, 27, 79, 42]
abbrev dktX4_addRoad_3 : List UInt8 := dkwX4_addRoad_3 ++ dktX4_addRoad_4
def dkwX4_addRoad_2 : List UInt8 := [162, 0, 6, 16, 252, 172, 42, 180, 0, 7, 8, 46, 16, 30, 160, 0, 6, 16, 253, 172, 42, 182, 0, 61]
abbrev dktX4_addRoad_2 : List UInt8 := dkwX4_addRoad_2 ++ dktX4_addRoad_3
def dkwX4_addRoad_1 : List UInt8 := [153, 0, 8, 27, 28, 160, 0, 6, 16, 254, 172, 42, 180, 0, 25, 16, 12, 27, 104, 28, 96, 46, 18, 52]
abbrev dktX4_addRoad_1 : List UInt8 := dkwX4_addRoad_1 ++ dktX4_addRoad_2
def dkwX4_addRoad_0 : List UInt8 := [27, 184, 0, 57, 153, 0, 10, 28, 184, 0, 57, 154, 0, 5, 2, 172, 29, 4, 16, 60, 184, 0, 48]
abbrev dktX4_addRoad_0 : List UInt8 := dkwX4_addRoad_0 ++ dktX4_addRoad_1
theorem dksX4_addRoad_0 : cX4_addRoad.data.toList.drop 0 = dktX4_addRoad_0 := by decide +kernel
theorem dksX4_addRoad_1 : cX4_addRoad.data.toList.drop 23 = dktX4_addRoad_1 := dk_seg dksX4_addRoad_0 23 rfl rfl
theorem dksX4_addRoad_2 : cX4_addRoad.data.toList.drop 47 = dktX4_addRoad_2 := dk_seg dksX4_addRoad_1 24 rfl rfl
theorem dksX4_addRoad_3 : cX4_addRoad.data.toList.drop 71 = dktX4_addRoad_3 := dk_seg dksX4_addRoad_2 24 rfl rfl
theorem dksX4_addRoad_4 : cX4_addRoad.data.toList.drop 93 = dktX4_addRoad_4 := dk_seg dksX4_addRoad_3 22 rfl rfl
theorem dksX4_addRoad_5 : cX4_addRoad.data.toList.drop 117 = dktX4_addRoad_5 := dk_seg dksX4_addRoad_4 24 rfl rfl
theorem dX4_addRoad_0 : decode cX4_addRoad 0 = .ok (.iload_n 1, 1) := dk_27 (dk_at dksX4_addRoad_0 0 rfl rfl)
theorem dX4_addRoad_1 : decode cX4_addRoad 1 = .ok (.invokestatic 57, 3) := dk_184 0 57 (dk_at dksX4_addRoad_0 1 rfl rfl)
theorem dX4_addRoad_4 : decode cX4_addRoad 4 = .ok (.ifCond .eq 10, 3) := dk_153 0 10 (dk_at dksX4_addRoad_0 4 rfl rfl)
theorem dX4_addRoad_7 : decode cX4_addRoad 7 = .ok (.iload_n 2, 1) := dk_28 (dk_at dksX4_addRoad_0 7 rfl rfl)
theorem dX4_addRoad_8 : decode cX4_addRoad 8 = .ok (.invokestatic 57, 3) := dk_184 0 57 (dk_at dksX4_addRoad_0 8 rfl rfl)
theorem dX4_addRoad_11 : decode cX4_addRoad 11 = .ok (.ifCond .ne 5, 3) := dk_154 0 5 (dk_at dksX4_addRoad_0 11 rfl rfl)
theorem dX4_addRoad_14 : decode cX4_addRoad 14 = .ok (.iconst (-1), 1) := dk_2 (dk_at dksX4_addRoad_0 14 rfl rfl)
theorem dX4_addRoad_15 : decode cX4_addRoad 15 = .ok (.ireturn, 1) := dk_172 (dk_at dksX4_addRoad_0 15 rfl rfl)
theorem dX4_addRoad_16 : decode cX4_addRoad 16 = .ok (.iload_n 3, 1) := dk_29 (dk_at dksX4_addRoad_0 16 rfl rfl)
theorem dX4_addRoad_17 : decode cX4_addRoad 17 = .ok (.iconst 1, 1) := dk_4 (dk_at dksX4_addRoad_0 17 rfl rfl)
theorem dX4_addRoad_18 : decode cX4_addRoad 18 = .ok (.bipush 60, 2) := dk_16 60 (dk_at dksX4_addRoad_0 18 rfl rfl)
theorem dX4_addRoad_20 : decode cX4_addRoad 20 = .ok (.invokestatic 48, 3) := dk_184 0 48 (dk_at dksX4_addRoad_0 20 rfl rfl)
theorem dX4_addRoad_23 : decode cX4_addRoad 23 = .ok (.ifCond .eq 8, 3) := dk_153 0 8 (dk_at dksX4_addRoad_1 0 rfl rfl)
theorem dX4_addRoad_26 : decode cX4_addRoad 26 = .ok (.iload_n 1, 1) := dk_27 (dk_at dksX4_addRoad_1 3 rfl rfl)
theorem dX4_addRoad_27 : decode cX4_addRoad 27 = .ok (.iload_n 2, 1) := dk_28 (dk_at dksX4_addRoad_1 4 rfl rfl)
theorem dX4_addRoad_28 : decode cX4_addRoad 28 = .ok (.if_icmp .ne 6, 3) := dk_160 0 6 (dk_at dksX4_addRoad_1 5 rfl rfl)
theorem dX4_addRoad_31 : decode cX4_addRoad 31 = .ok (.bipush (-2), 2) := dk_16 254 (dk_at dksX4_addRoad_1 8 rfl rfl)
theorem dX4_addRoad_33 : decode cX4_addRoad 33 = .ok (.ireturn, 1) := dk_172 (dk_at dksX4_addRoad_1 10 rfl rfl)
theorem dX4_addRoad_34 : decode cX4_addRoad 34 = .ok (.aload_n 0, 1) := dk_42 (dk_at dksX4_addRoad_1 11 rfl rfl)
theorem dX4_addRoad_35 : decode cX4_addRoad 35 = .ok (.getfield 25, 3) := dk_180 0 25 (dk_at dksX4_addRoad_1 12 rfl rfl)
theorem dX4_addRoad_38 : decode cX4_addRoad 38 = .ok (.bipush 12, 2) := dk_16 12 (dk_at dksX4_addRoad_1 15 rfl rfl)
theorem dX4_addRoad_40 : decode cX4_addRoad 40 = .ok (.iload_n 1, 1) := dk_27 (dk_at dksX4_addRoad_1 17 rfl rfl)
theorem dX4_addRoad_41 : decode cX4_addRoad 41 = .ok (.imul, 1) := dk_104 (dk_at dksX4_addRoad_1 18 rfl rfl)
theorem dX4_addRoad_42 : decode cX4_addRoad 42 = .ok (.iload_n 2, 1) := dk_28 (dk_at dksX4_addRoad_1 19 rfl rfl)
theorem dX4_addRoad_43 : decode cX4_addRoad 43 = .ok (.iadd, 1) := dk_96 (dk_at dksX4_addRoad_1 20 rfl rfl)
theorem dX4_addRoad_44 : decode cX4_addRoad 44 = .ok (.iaload, 1) := dk_46 (dk_at dksX4_addRoad_1 21 rfl rfl)
theorem dX4_addRoad_45 : decode cX4_addRoad 45 = .ok (.ldc 52, 2) := dk_18 52 (dk_at dksX4_addRoad_1 22 rfl rfl)
theorem dX4_addRoad_47 : decode cX4_addRoad 47 = .ok (.if_icmp .ge 6, 3) := dk_162 0 6 (dk_at dksX4_addRoad_2 0 rfl rfl)
theorem dX4_addRoad_50 : decode cX4_addRoad 50 = .ok (.bipush (-4), 2) := dk_16 252 (dk_at dksX4_addRoad_2 3 rfl rfl)
theorem dX4_addRoad_52 : decode cX4_addRoad 52 = .ok (.ireturn, 1) := dk_172 (dk_at dksX4_addRoad_2 5 rfl rfl)
theorem dX4_addRoad_53 : decode cX4_addRoad 53 = .ok (.aload_n 0, 1) := dk_42 (dk_at dksX4_addRoad_2 6 rfl rfl)
theorem dX4_addRoad_54 : decode cX4_addRoad 54 = .ok (.getfield 7, 3) := dk_180 0 7 (dk_at dksX4_addRoad_2 7 rfl rfl)
theorem dX4_addRoad_57 : decode cX4_addRoad 57 = .ok (.iconst 5, 1) := dk_8 (dk_at dksX4_addRoad_2 10 rfl rfl)
theorem dX4_addRoad_58 : decode cX4_addRoad 58 = .ok (.iaload, 1) := dk_46 (dk_at dksX4_addRoad_2 11 rfl rfl)
theorem dX4_addRoad_59 : decode cX4_addRoad 59 = .ok (.bipush 30, 2) := dk_16 30 (dk_at dksX4_addRoad_2 12 rfl rfl)
theorem dX4_addRoad_61 : decode cX4_addRoad 61 = .ok (.if_icmp .ne 6, 3) := dk_160 0 6 (dk_at dksX4_addRoad_2 14 rfl rfl)
theorem dX4_addRoad_64 : decode cX4_addRoad 64 = .ok (.bipush (-3), 2) := dk_16 253 (dk_at dksX4_addRoad_2 17 rfl rfl)
theorem dX4_addRoad_66 : decode cX4_addRoad 66 = .ok (.ireturn, 1) := dk_172 (dk_at dksX4_addRoad_2 19 rfl rfl)
theorem dX4_addRoad_67 : decode cX4_addRoad 67 = .ok (.aload_n 0, 1) := dk_42 (dk_at dksX4_addRoad_2 20 rfl rfl)
theorem dX4_addRoad_68 : decode cX4_addRoad 68 = .ok (.invokevirtual 61, 3) := dk_182 0 61 (dk_at dksX4_addRoad_2 21 rfl rfl)
theorem dX4_addRoad_71 : decode cX4_addRoad 71 = .ok (.aload_n 0, 1) := dk_42 (dk_at dksX4_addRoad_3 0 rfl rfl)
theorem dX4_addRoad_72 : decode cX4_addRoad 72 = .ok (.getfield 7, 3) := dk_180 0 7 (dk_at dksX4_addRoad_3 1 rfl rfl)
theorem dX4_addRoad_75 : decode cX4_addRoad 75 = .ok (.iconst 5, 1) := dk_8 (dk_at dksX4_addRoad_3 4 rfl rfl)
theorem dX4_addRoad_76 : decode cX4_addRoad 76 = .ok (.iaload, 1) := dk_46 (dk_at dksX4_addRoad_3 5 rfl rfl)
theorem dX4_addRoad_77 : decode cX4_addRoad 77 = .ok (.istore 4, 2) := dk_54 4 (dk_at dksX4_addRoad_3 6 rfl rfl)
theorem dX4_addRoad_79 : decode cX4_addRoad 79 = .ok (.aload_n 0, 1) := dk_42 (dk_at dksX4_addRoad_3 8 rfl rfl)
theorem dX4_addRoad_80 : decode cX4_addRoad 80 = .ok (.getfield 7, 3) := dk_180 0 7 (dk_at dksX4_addRoad_3 9 rfl rfl)
theorem dX4_addRoad_83 : decode cX4_addRoad 83 = .ok (.bipush 16, 2) := dk_16 16 (dk_at dksX4_addRoad_3 12 rfl rfl)
theorem dX4_addRoad_85 : decode cX4_addRoad 85 = .ok (.iconst 3, 1) := dk_6 (dk_at dksX4_addRoad_3 14 rfl rfl)
theorem dX4_addRoad_86 : decode cX4_addRoad 86 = .ok (.iload 4, 2) := dk_21 4 (dk_at dksX4_addRoad_3 15 rfl rfl)
theorem dX4_addRoad_88 : decode cX4_addRoad 88 = .ok (.imul, 1) := dk_104 (dk_at dksX4_addRoad_3 17 rfl rfl)
theorem dX4_addRoad_89 : decode cX4_addRoad 89 = .ok (.iadd, 1) := dk_96 (dk_at dksX4_addRoad_3 18 rfl rfl)
theorem dX4_addRoad_90 : decode cX4_addRoad 90 = .ok (.iload_n 1, 1) := dk_27 (dk_at dksX4_addRoad_3 19 rfl rfl)
theorem dX4_addRoad_91 : decode cX4_addRoad 91 = .ok (.iastore, 1) := dk_79 (dk_at dksX4_addRoad_3 20 rfl rfl)
theorem dX4_addRoad_92 : decode cX4_addRoad 92 = .ok (.aload_n 0, 1) := dk_42 (dk_at dksX4_addRoad_3 21 rfl rfl)
theorem dX4_addRoad_93 : decode cX4_addRoad 93 = .ok (.getfield 7, 3) := dk_180 0 7 (dk_at dksX4_addRoad_4 0 rfl rfl)
theorem dX4_addRoad_96 : decode cX4_addRoad 96 = .ok (.bipush 16, 2) := dk_16 16 (dk_at dksX4_addRoad_4 3 rfl rfl)
theorem dX4_addRoad_98 : decode cX4_addRoad 98 = .ok (.iconst 3, 1) := dk_6 (dk_at dksX4_addRoad_4 5 rfl rfl)
theorem dX4_addRoad_99 : decode cX4_addRoad 99 = .ok (.iload 4, 2) := dk_21 4 (dk_at dksX4_addRoad_4 6 rfl rfl)
theorem dX4_addRoad_101 : decode cX4_addRoad 101 = .ok (.imul, 1) := dk_104 (dk_at dksX4_addRoad_4 8 rfl rfl)
theorem dX4_addRoad_102 : decode cX4_addRoad 102 = .ok (.iadd, 1) := dk_96 (dk_at dksX4_addRoad_4 9 rfl rfl)
theorem dX4_addRoad_103 : decode cX4_addRoad 103 = .ok (.iconst 1, 1) := dk_4 (dk_at dksX4_addRoad_4 10 rfl rfl)
theorem dX4_addRoad_104 : decode cX4_addRoad 104 = .ok (.iadd, 1) := dk_96 (dk_at dksX4_addRoad_4 11 rfl rfl)
theorem dX4_addRoad_105 : decode cX4_addRoad 105 = .ok (.iload_n 2, 1) := dk_28 (dk_at dksX4_addRoad_4 12 rfl rfl)
theorem dX4_addRoad_106 : decode cX4_addRoad 106 = .ok (.iastore, 1) := dk_79 (dk_at dksX4_addRoad_4 13 rfl rfl)
theorem dX4_addRoad_107 : decode cX4_addRoad 107 = .ok (.aload_n 0, 1) := dk_42 (dk_at dksX4_addRoad_4 14 rfl rfl)
theorem dX4_addRoad_108 : decode cX4_addRoad 108 = .ok (.getfield 7, 3) := dk_180 0 7 (dk_at dksX4_addRoad_4 15 rfl rfl)
theorem dX4_addRoad_111 : decode cX4_addRoad 111 = .ok (.bipush 16, 2) := dk_16 16 (dk_at dksX4_addRoad_4 18 rfl rfl)
theorem dX4_addRoad_113 : decode cX4_addRoad 113 = .ok (.iconst 3, 1) := dk_6 (dk_at dksX4_addRoad_4 20 rfl rfl)
theorem dX4_addRoad_114 : decode cX4_addRoad 114 = .ok (.iload 4, 2) := dk_21 4 (dk_at dksX4_addRoad_4 21 rfl rfl)
theorem dX4_addRoad_116 : decode cX4_addRoad 116 = .ok (.imul, 1) := dk_104 (dk_at dksX4_addRoad_4 23 rfl rfl)
theorem dX4_addRoad_117 : decode cX4_addRoad 117 = .ok (.iadd, 1) := dk_96 (dk_at dksX4_addRoad_5 0 rfl rfl)
theorem dX4_addRoad_118 : decode cX4_addRoad 118 = .ok (.iconst 2, 1) := dk_5 (dk_at dksX4_addRoad_5 1 rfl rfl)
theorem dX4_addRoad_119 : decode cX4_addRoad 119 = .ok (.iadd, 1) := dk_96 (dk_at dksX4_addRoad_5 2 rfl rfl)
theorem dX4_addRoad_120 : decode cX4_addRoad 120 = .ok (.iload_n 3, 1) := dk_29 (dk_at dksX4_addRoad_5 3 rfl rfl)
theorem dX4_addRoad_121 : decode cX4_addRoad 121 = .ok (.iastore, 1) := dk_79 (dk_at dksX4_addRoad_5 4 rfl rfl)
theorem dX4_addRoad_122 : decode cX4_addRoad 122 = .ok (.aload_n 0, 1) := dk_42 (dk_at dksX4_addRoad_5 5 rfl rfl)
theorem dX4_addRoad_123 : decode cX4_addRoad 123 = .ok (.getfield 7, 3) := dk_180 0 7 (dk_at dksX4_addRoad_5 6 rfl rfl)
theorem dX4_addRoad_126 : decode cX4_addRoad 126 = .ok (.iconst 5, 1) := dk_8 (dk_at dksX4_addRoad_5 9 rfl rfl)
theorem dX4_addRoad_127 : decode cX4_addRoad 127 = .ok (.dup2, 1) := dk_92 (dk_at dksX4_addRoad_5 10 rfl rfl)
theorem dX4_addRoad_128 : decode cX4_addRoad 128 = .ok (.iaload, 1) := dk_46 (dk_at dksX4_addRoad_5 11 rfl rfl)
theorem dX4_addRoad_129 : decode cX4_addRoad 129 = .ok (.iconst 1, 1) := dk_4 (dk_at dksX4_addRoad_5 12 rfl rfl)
theorem dX4_addRoad_130 : decode cX4_addRoad 130 = .ok (.iadd, 1) := dk_96 (dk_at dksX4_addRoad_5 13 rfl rfl)
theorem dX4_addRoad_131 : decode cX4_addRoad 131 = .ok (.iastore, 1) := dk_79 (dk_at dksX4_addRoad_5 14 rfl rfl)
theorem dX4_addRoad_132 : decode cX4_addRoad 132 = .ok (.aload_n 0, 1) := dk_42 (dk_at dksX4_addRoad_5 15 rfl rfl)
theorem dX4_addRoad_133 : decode cX4_addRoad 133 = .ok (.invokevirtual 37, 3) := dk_182 0 37 (dk_at dksX4_addRoad_5 16 rfl rfl)
theorem dX4_addRoad_136 : decode cX4_addRoad 136 = .ok (.iload 4, 2) := dk_21 4 (dk_at dksX4_addRoad_5 19 rfl rfl)
theorem dX4_addRoad_138 : decode cX4_addRoad 138 = .ok (.ireturn, 1) := dk_172 (dk_at dksX4_addRoad_5 21 rfl rfl)
abbrev cX4_isArea : ByteArray := prog_16_method_5_code
def yX4_isArea : MethodName := ⟨RX4, "isArea", "(I)Z"⟩
def dkwX4_isArea_0 : List UInt8 := [26, 3, 16, 11, 184, 0, 48, 172]
abbrev dktX4_isArea_0 : List UInt8 := dkwX4_isArea_0 ++ []
theorem dksX4_isArea_0 : cX4_isArea.data.toList.drop 0 = dktX4_isArea_0 := by decide +kernel
theorem dX4_isArea_0 : decode cX4_isArea 0 = .ok (.iload_n 0, 1) := dk_26 (dk_at dksX4_isArea_0 0 rfl rfl)
theorem dX4_isArea_1 : decode cX4_isArea 1 = .ok (.iconst 0, 1) := dk_3 (dk_at dksX4_isArea_0 1 rfl rfl)
theorem dX4_isArea_2 : decode cX4_isArea 2 = .ok (.bipush 11, 2) := dk_16 11 (dk_at dksX4_isArea_0 2 rfl rfl)
theorem dX4_isArea_4 : decode cX4_isArea 4 = .ok (.invokestatic 48, 3) := dk_184 0 48 (dk_at dksX4_isArea_0 4 rfl rfl)
theorem dX4_isArea_7 : decode cX4_isArea 7 = .ok (.ireturn, 1) := dk_172 (dk_at dksX4_isArea_0 7 rfl rfl)
abbrev cX4_in : ByteArray := prog_16_method_2_code
def yX4_in : MethodName := ⟨RX4, "in", "(III)Z"⟩
def dkwX4_in_0 : List UInt8 := [26, 27, 161, 0, 12, 26, 28, 163, 0, 7, 4, 167, 0, 4, 3, 172]
abbrev dktX4_in_0 : List UInt8 := dkwX4_in_0 ++ []
theorem dksX4_in_0 : cX4_in.data.toList.drop 0 = dktX4_in_0 := by decide +kernel
theorem dX4_in_0 : decode cX4_in 0 = .ok (.iload_n 0, 1) := dk_26 (dk_at dksX4_in_0 0 rfl rfl)
theorem dX4_in_1 : decode cX4_in 1 = .ok (.iload_n 1, 1) := dk_27 (dk_at dksX4_in_0 1 rfl rfl)
theorem dX4_in_2 : decode cX4_in 2 = .ok (.if_icmp .lt 12, 3) := dk_161 0 12 (dk_at dksX4_in_0 2 rfl rfl)
theorem dX4_in_5 : decode cX4_in 5 = .ok (.iload_n 0, 1) := dk_26 (dk_at dksX4_in_0 5 rfl rfl)
theorem dX4_in_6 : decode cX4_in 6 = .ok (.iload_n 2, 1) := dk_28 (dk_at dksX4_in_0 6 rfl rfl)
theorem dX4_in_7 : decode cX4_in 7 = .ok (.if_icmp .gt 7, 3) := dk_163 0 7 (dk_at dksX4_in_0 7 rfl rfl)
theorem dX4_in_10 : decode cX4_in 10 = .ok (.iconst 1, 1) := dk_4 (dk_at dksX4_in_0 10 rfl rfl)
theorem dX4_in_11 : decode cX4_in 11 = .ok (.goto 4, 3) := dk_167 0 4 (dk_at dksX4_in_0 11 rfl rfl)
theorem dX4_in_14 : decode cX4_in 14 = .ok (.iconst 0, 1) := dk_3 (dk_at dksX4_in_0 14 rfl rfl)
theorem dX4_in_15 : decode cX4_in 15 = .ok (.ireturn, 1) := dk_172 (dk_at dksX4_in_0 15 rfl rfl)
abbrev cX4_records : ByteArray := prog_16_method_4_code
def yX4_records : MethodName := ⟨RX4, "records", "()V"⟩
def dkwX4_records_3 : List UInt8 := [4, 96, 181, 0, 40, 177]
abbrev dktX4_records_3 : List UInt8 := dkwX4_records_3 ++ []
def dkwX4_records_2 : List UInt8 := [180, 0, 7, 3, 42, 180, 0, 13, 42, 180, 0, 40, 17, 3, 42, 104, 184, 0, 44, 42, 89, 180, 0, 40]
abbrev dktX4_records_2 : List UInt8 := dkwX4_records_2 ++ dktX4_records_3
def dkwX4_records_1 : List UInt8 := [180, 0, 13, 27, 17, 3, 42, 96, 46, 79, 132, 1, 1, 167, 255, 230, 42, 6, 181, 0, 40, 42]
abbrev dktX4_records_1 : List UInt8 := dkwX4_records_1 ++ dktX4_records_2
def dkwX4_records_0 : List UInt8 := [42, 180, 0, 40, 7, 160, 0, 39, 3, 60, 27, 17, 9, 126, 162, 0, 25, 42, 180, 0, 13, 27, 42]
abbrev dktX4_records_0 : List UInt8 := dkwX4_records_0 ++ dktX4_records_1
theorem dksX4_records_0 : cX4_records.data.toList.drop 0 = dktX4_records_0 := by decide +kernel
theorem dksX4_records_1 : cX4_records.data.toList.drop 23 = dktX4_records_1 := dk_seg dksX4_records_0 23 rfl rfl
theorem dksX4_records_2 : cX4_records.data.toList.drop 45 = dktX4_records_2 := dk_seg dksX4_records_1 22 rfl rfl
theorem dksX4_records_3 : cX4_records.data.toList.drop 69 = dktX4_records_3 := dk_seg dksX4_records_2 24 rfl rfl
theorem dX4_records_0 : decode cX4_records 0 = .ok (.aload_n 0, 1) := dk_42 (dk_at dksX4_records_0 0 rfl rfl)
theorem dX4_records_1 : decode cX4_records 1 = .ok (.getfield 40, 3) := dk_180 0 40 (dk_at dksX4_records_0 1 rfl rfl)
theorem dX4_records_4 : decode cX4_records 4 = .ok (.iconst 4, 1) := dk_7 (dk_at dksX4_records_0 4 rfl rfl)
theorem dX4_records_5 : decode cX4_records 5 = .ok (.if_icmp .ne 39, 3) := dk_160 0 39 (dk_at dksX4_records_0 5 rfl rfl)
theorem dX4_records_8 : decode cX4_records 8 = .ok (.iconst 0, 1) := dk_3 (dk_at dksX4_records_0 8 rfl rfl)
theorem dX4_records_9 : decode cX4_records 9 = .ok (.istore_n 1, 1) := dk_60 (dk_at dksX4_records_0 9 rfl rfl)
theorem dX4_records_10 : decode cX4_records 10 = .ok (.iload_n 1, 1) := dk_27 (dk_at dksX4_records_0 10 rfl rfl)
theorem dX4_records_11 : decode cX4_records 11 = .ok (.sipush 2430, 3) := dk_17 9 126 (dk_at dksX4_records_0 11 rfl rfl)
theorem dX4_records_14 : decode cX4_records 14 = .ok (.if_icmp .ge 25, 3) := dk_162 0 25 (dk_at dksX4_records_0 14 rfl rfl)
theorem dX4_records_17 : decode cX4_records 17 = .ok (.aload_n 0, 1) := dk_42 (dk_at dksX4_records_0 17 rfl rfl)
theorem dX4_records_18 : decode cX4_records 18 = .ok (.getfield 13, 3) := dk_180 0 13 (dk_at dksX4_records_0 18 rfl rfl)
theorem dX4_records_21 : decode cX4_records 21 = .ok (.iload_n 1, 1) := dk_27 (dk_at dksX4_records_0 21 rfl rfl)
theorem dX4_records_22 : decode cX4_records 22 = .ok (.aload_n 0, 1) := dk_42 (dk_at dksX4_records_0 22 rfl rfl)
theorem dX4_records_23 : decode cX4_records 23 = .ok (.getfield 13, 3) := dk_180 0 13 (dk_at dksX4_records_1 0 rfl rfl)
theorem dX4_records_26 : decode cX4_records 26 = .ok (.iload_n 1, 1) := dk_27 (dk_at dksX4_records_1 3 rfl rfl)
theorem dX4_records_27 : decode cX4_records 27 = .ok (.sipush 810, 3) := dk_17 3 42 (dk_at dksX4_records_1 4 rfl rfl)
theorem dX4_records_30 : decode cX4_records 30 = .ok (.iadd, 1) := dk_96 (dk_at dksX4_records_1 7 rfl rfl)
theorem dX4_records_31 : decode cX4_records 31 = .ok (.iaload, 1) := dk_46 (dk_at dksX4_records_1 8 rfl rfl)
theorem dX4_records_32 : decode cX4_records 32 = .ok (.iastore, 1) := dk_79 (dk_at dksX4_records_1 9 rfl rfl)
theorem dX4_records_33 : decode cX4_records 33 = .ok (.iinc 1 1, 3) := dk_132 1 1 (dk_at dksX4_records_1 10 rfl rfl)
theorem dX4_records_36 : decode cX4_records 36 = .ok (.goto (-26), 3) := dk_167 255 230 (dk_at dksX4_records_1 13 rfl rfl)
theorem dX4_records_39 : decode cX4_records 39 = .ok (.aload_n 0, 1) := dk_42 (dk_at dksX4_records_1 16 rfl rfl)
theorem dX4_records_40 : decode cX4_records 40 = .ok (.iconst 3, 1) := dk_6 (dk_at dksX4_records_1 17 rfl rfl)
theorem dX4_records_41 : decode cX4_records 41 = .ok (.putfield 40, 3) := dk_181 0 40 (dk_at dksX4_records_1 18 rfl rfl)
theorem dX4_records_44 : decode cX4_records 44 = .ok (.aload_n 0, 1) := dk_42 (dk_at dksX4_records_1 21 rfl rfl)
theorem dX4_records_45 : decode cX4_records 45 = .ok (.getfield 7, 3) := dk_180 0 7 (dk_at dksX4_records_2 0 rfl rfl)
theorem dX4_records_48 : decode cX4_records 48 = .ok (.iconst 0, 1) := dk_3 (dk_at dksX4_records_2 3 rfl rfl)
theorem dX4_records_49 : decode cX4_records 49 = .ok (.aload_n 0, 1) := dk_42 (dk_at dksX4_records_2 4 rfl rfl)
theorem dX4_records_50 : decode cX4_records 50 = .ok (.getfield 13, 3) := dk_180 0 13 (dk_at dksX4_records_2 5 rfl rfl)
theorem dX4_records_53 : decode cX4_records 53 = .ok (.aload_n 0, 1) := dk_42 (dk_at dksX4_records_2 8 rfl rfl)
theorem dX4_records_54 : decode cX4_records 54 = .ok (.getfield 40, 3) := dk_180 0 40 (dk_at dksX4_records_2 9 rfl rfl)
theorem dX4_records_57 : decode cX4_records 57 = .ok (.sipush 810, 3) := dk_17 3 42 (dk_at dksX4_records_2 12 rfl rfl)
theorem dX4_records_60 : decode cX4_records 60 = .ok (.imul, 1) := dk_104 (dk_at dksX4_records_2 15 rfl rfl)
theorem dX4_records_61 : decode cX4_records 61 = .ok (.invokestatic 44, 3) := dk_184 0 44 (dk_at dksX4_records_2 16 rfl rfl)
theorem dX4_records_64 : decode cX4_records 64 = .ok (.aload_n 0, 1) := dk_42 (dk_at dksX4_records_2 19 rfl rfl)
theorem dX4_records_65 : decode cX4_records 65 = .ok (.dup, 1) := dk_89 (dk_at dksX4_records_2 20 rfl rfl)
theorem dX4_records_66 : decode cX4_records 66 = .ok (.getfield 40, 3) := dk_180 0 40 (dk_at dksX4_records_2 21 rfl rfl)
theorem dX4_records_69 : decode cX4_records 69 = .ok (.iconst 1, 1) := dk_4 (dk_at dksX4_records_3 0 rfl rfl)
theorem dX4_records_70 : decode cX4_records 70 = .ok (.iadd, 1) := dk_96 (dk_at dksX4_records_3 1 rfl rfl)
theorem dX4_records_71 : decode cX4_records 71 = .ok (.putfield 40, 3) := dk_181 0 40 (dk_at dksX4_records_3 2 rfl rfl)
theorem dX4_records_74 : decode cX4_records 74 = .ok (.return_, 1) := dk_177 (dk_at dksX4_records_3 5 rfl rfl)
abbrev cX4_copies : ByteArray := prog_16_method_3_code
def yX4_copies : MethodName := ⟨RX4, "copies", "([II[II)V"⟩
def dkwX4_copies_1 : List UInt8 := [132, 4, 1, 167, 255, 233, 177]
abbrev dktX4_copies_1 : List UInt8 := dkwX4_copies_1 ++ []
def dkwX4_copies_0 : List UInt8 := [3, 54, 4, 21, 4, 17, 3, 42, 162, 0, 21, 44, 29, 21, 4, 96, 42, 27, 21, 4, 96, 46, 79]
abbrev dktX4_copies_0 : List UInt8 := dkwX4_copies_0 ++ dktX4_copies_1
theorem dksX4_copies_0 : cX4_copies.data.toList.drop 0 = dktX4_copies_0 := by decide +kernel
theorem dksX4_copies_1 : cX4_copies.data.toList.drop 23 = dktX4_copies_1 := dk_seg dksX4_copies_0 23 rfl rfl
theorem dX4_copies_0 : decode cX4_copies 0 = .ok (.iconst 0, 1) := dk_3 (dk_at dksX4_copies_0 0 rfl rfl)
theorem dX4_copies_1 : decode cX4_copies 1 = .ok (.istore 4, 2) := dk_54 4 (dk_at dksX4_copies_0 1 rfl rfl)
theorem dX4_copies_3 : decode cX4_copies 3 = .ok (.iload 4, 2) := dk_21 4 (dk_at dksX4_copies_0 3 rfl rfl)
theorem dX4_copies_5 : decode cX4_copies 5 = .ok (.sipush 810, 3) := dk_17 3 42 (dk_at dksX4_copies_0 5 rfl rfl)
theorem dX4_copies_8 : decode cX4_copies 8 = .ok (.if_icmp .ge 21, 3) := dk_162 0 21 (dk_at dksX4_copies_0 8 rfl rfl)
theorem dX4_copies_11 : decode cX4_copies 11 = .ok (.aload_n 2, 1) := dk_44 (dk_at dksX4_copies_0 11 rfl rfl)
theorem dX4_copies_12 : decode cX4_copies 12 = .ok (.iload_n 3, 1) := dk_29 (dk_at dksX4_copies_0 12 rfl rfl)
theorem dX4_copies_13 : decode cX4_copies 13 = .ok (.iload 4, 2) := dk_21 4 (dk_at dksX4_copies_0 13 rfl rfl)
theorem dX4_copies_15 : decode cX4_copies 15 = .ok (.iadd, 1) := dk_96 (dk_at dksX4_copies_0 15 rfl rfl)
theorem dX4_copies_16 : decode cX4_copies 16 = .ok (.aload_n 0, 1) := dk_42 (dk_at dksX4_copies_0 16 rfl rfl)
theorem dX4_copies_17 : decode cX4_copies 17 = .ok (.iload_n 1, 1) := dk_27 (dk_at dksX4_copies_0 17 rfl rfl)
theorem dX4_copies_18 : decode cX4_copies 18 = .ok (.iload 4, 2) := dk_21 4 (dk_at dksX4_copies_0 18 rfl rfl)
theorem dX4_copies_20 : decode cX4_copies 20 = .ok (.iadd, 1) := dk_96 (dk_at dksX4_copies_0 20 rfl rfl)
theorem dX4_copies_21 : decode cX4_copies 21 = .ok (.iaload, 1) := dk_46 (dk_at dksX4_copies_0 21 rfl rfl)
theorem dX4_copies_22 : decode cX4_copies 22 = .ok (.iastore, 1) := dk_79 (dk_at dksX4_copies_0 22 rfl rfl)
theorem dX4_copies_23 : decode cX4_copies 23 = .ok (.iinc 4 1, 3) := dk_132 4 1 (dk_at dksX4_copies_1 0 rfl rfl)
theorem dX4_copies_26 : decode cX4_copies 26 = .ok (.goto (-23), 3) := dk_167 255 233 (dk_at dksX4_copies_1 3 rfl rfl)
theorem dX4_copies_29 : decode cX4_copies 29 = .ok (.return_, 1) := dk_177 (dk_at dksX4_copies_1 6 rfl rfl)
abbrev cX4_addMember : ByteArray := prog_16_method_22_code
def yX4_addMember : MethodName := ⟨RX4, "addMember", "(I)I"⟩
def dkwX4_addMember_2 : List UInt8 := [79, 42, 180, 0, 7, 16, 6, 92, 46, 4, 96, 79, 42, 180, 0, 7, 16, 6, 46, 4, 100, 172]
abbrev dktX4_addMember_2 : List UInt8 := dkwX4_addMember_2 ++ []
def dkwX4_addMember_1 : List UInt8 := [16, 253, 172, 42, 182, 0, 61, 42, 180, 0, 7, 16, 106, 7, 42, 180, 0, 7, 16, 6, 46, 104, 96, 27]
abbrev dktX4_addMember_1 : List UInt8 := dkwX4_addMember_1 ++ dktX4_addMember_2
def dkwX4_addMember_0 : List UInt8 := [27, 3, 5, 184, 0, 48, 154, 0, 6, 16, 254, 172, 42, 180, 0, 7, 16, 6, 46, 16, 20, 160, 0, 6]
abbrev dktX4_addMember_0 : List UInt8 := dkwX4_addMember_0 ++ dktX4_addMember_1
theorem dksX4_addMember_0 : cX4_addMember.data.toList.drop 0 = dktX4_addMember_0 := by decide +kernel
theorem dksX4_addMember_1 : cX4_addMember.data.toList.drop 24 = dktX4_addMember_1 := dk_seg dksX4_addMember_0 24 rfl rfl
theorem dksX4_addMember_2 : cX4_addMember.data.toList.drop 48 = dktX4_addMember_2 := dk_seg dksX4_addMember_1 24 rfl rfl
theorem dX4_addMember_0 : decode cX4_addMember 0 = .ok (.iload_n 1, 1) := dk_27 (dk_at dksX4_addMember_0 0 rfl rfl)
theorem dX4_addMember_1 : decode cX4_addMember 1 = .ok (.iconst 0, 1) := dk_3 (dk_at dksX4_addMember_0 1 rfl rfl)
theorem dX4_addMember_2 : decode cX4_addMember 2 = .ok (.iconst 2, 1) := dk_5 (dk_at dksX4_addMember_0 2 rfl rfl)
theorem dX4_addMember_3 : decode cX4_addMember 3 = .ok (.invokestatic 48, 3) := dk_184 0 48 (dk_at dksX4_addMember_0 3 rfl rfl)
theorem dX4_addMember_6 : decode cX4_addMember 6 = .ok (.ifCond .ne 6, 3) := dk_154 0 6 (dk_at dksX4_addMember_0 6 rfl rfl)
theorem dX4_addMember_9 : decode cX4_addMember 9 = .ok (.bipush (-2), 2) := dk_16 254 (dk_at dksX4_addMember_0 9 rfl rfl)
theorem dX4_addMember_11 : decode cX4_addMember 11 = .ok (.ireturn, 1) := dk_172 (dk_at dksX4_addMember_0 11 rfl rfl)
theorem dX4_addMember_12 : decode cX4_addMember 12 = .ok (.aload_n 0, 1) := dk_42 (dk_at dksX4_addMember_0 12 rfl rfl)
theorem dX4_addMember_13 : decode cX4_addMember 13 = .ok (.getfield 7, 3) := dk_180 0 7 (dk_at dksX4_addMember_0 13 rfl rfl)
theorem dX4_addMember_16 : decode cX4_addMember 16 = .ok (.bipush 6, 2) := dk_16 6 (dk_at dksX4_addMember_0 16 rfl rfl)
theorem dX4_addMember_18 : decode cX4_addMember 18 = .ok (.iaload, 1) := dk_46 (dk_at dksX4_addMember_0 18 rfl rfl)
theorem dX4_addMember_19 : decode cX4_addMember 19 = .ok (.bipush 20, 2) := dk_16 20 (dk_at dksX4_addMember_0 19 rfl rfl)
theorem dX4_addMember_21 : decode cX4_addMember 21 = .ok (.if_icmp .ne 6, 3) := dk_160 0 6 (dk_at dksX4_addMember_0 21 rfl rfl)
theorem dX4_addMember_24 : decode cX4_addMember 24 = .ok (.bipush (-3), 2) := dk_16 253 (dk_at dksX4_addMember_1 0 rfl rfl)
theorem dX4_addMember_26 : decode cX4_addMember 26 = .ok (.ireturn, 1) := dk_172 (dk_at dksX4_addMember_1 2 rfl rfl)
theorem dX4_addMember_27 : decode cX4_addMember 27 = .ok (.aload_n 0, 1) := dk_42 (dk_at dksX4_addMember_1 3 rfl rfl)
theorem dX4_addMember_28 : decode cX4_addMember 28 = .ok (.invokevirtual 61, 3) := dk_182 0 61 (dk_at dksX4_addMember_1 4 rfl rfl)
theorem dX4_addMember_31 : decode cX4_addMember 31 = .ok (.aload_n 0, 1) := dk_42 (dk_at dksX4_addMember_1 7 rfl rfl)
theorem dX4_addMember_32 : decode cX4_addMember 32 = .ok (.getfield 7, 3) := dk_180 0 7 (dk_at dksX4_addMember_1 8 rfl rfl)
theorem dX4_addMember_35 : decode cX4_addMember 35 = .ok (.bipush 106, 2) := dk_16 106 (dk_at dksX4_addMember_1 11 rfl rfl)
theorem dX4_addMember_37 : decode cX4_addMember 37 = .ok (.iconst 4, 1) := dk_7 (dk_at dksX4_addMember_1 13 rfl rfl)
theorem dX4_addMember_38 : decode cX4_addMember 38 = .ok (.aload_n 0, 1) := dk_42 (dk_at dksX4_addMember_1 14 rfl rfl)
theorem dX4_addMember_39 : decode cX4_addMember 39 = .ok (.getfield 7, 3) := dk_180 0 7 (dk_at dksX4_addMember_1 15 rfl rfl)
theorem dX4_addMember_42 : decode cX4_addMember 42 = .ok (.bipush 6, 2) := dk_16 6 (dk_at dksX4_addMember_1 18 rfl rfl)
theorem dX4_addMember_44 : decode cX4_addMember 44 = .ok (.iaload, 1) := dk_46 (dk_at dksX4_addMember_1 20 rfl rfl)
theorem dX4_addMember_45 : decode cX4_addMember 45 = .ok (.imul, 1) := dk_104 (dk_at dksX4_addMember_1 21 rfl rfl)
theorem dX4_addMember_46 : decode cX4_addMember 46 = .ok (.iadd, 1) := dk_96 (dk_at dksX4_addMember_1 22 rfl rfl)
theorem dX4_addMember_47 : decode cX4_addMember 47 = .ok (.iload_n 1, 1) := dk_27 (dk_at dksX4_addMember_1 23 rfl rfl)
theorem dX4_addMember_48 : decode cX4_addMember 48 = .ok (.iastore, 1) := dk_79 (dk_at dksX4_addMember_2 0 rfl rfl)
theorem dX4_addMember_49 : decode cX4_addMember 49 = .ok (.aload_n 0, 1) := dk_42 (dk_at dksX4_addMember_2 1 rfl rfl)
theorem dX4_addMember_50 : decode cX4_addMember 50 = .ok (.getfield 7, 3) := dk_180 0 7 (dk_at dksX4_addMember_2 2 rfl rfl)
theorem dX4_addMember_53 : decode cX4_addMember 53 = .ok (.bipush 6, 2) := dk_16 6 (dk_at dksX4_addMember_2 5 rfl rfl)
theorem dX4_addMember_55 : decode cX4_addMember 55 = .ok (.dup2, 1) := dk_92 (dk_at dksX4_addMember_2 7 rfl rfl)
theorem dX4_addMember_56 : decode cX4_addMember 56 = .ok (.iaload, 1) := dk_46 (dk_at dksX4_addMember_2 8 rfl rfl)
theorem dX4_addMember_57 : decode cX4_addMember 57 = .ok (.iconst 1, 1) := dk_4 (dk_at dksX4_addMember_2 9 rfl rfl)
theorem dX4_addMember_58 : decode cX4_addMember 58 = .ok (.iadd, 1) := dk_96 (dk_at dksX4_addMember_2 10 rfl rfl)
theorem dX4_addMember_59 : decode cX4_addMember 59 = .ok (.iastore, 1) := dk_79 (dk_at dksX4_addMember_2 11 rfl rfl)
theorem dX4_addMember_60 : decode cX4_addMember 60 = .ok (.aload_n 0, 1) := dk_42 (dk_at dksX4_addMember_2 12 rfl rfl)
theorem dX4_addMember_61 : decode cX4_addMember 61 = .ok (.getfield 7, 3) := dk_180 0 7 (dk_at dksX4_addMember_2 13 rfl rfl)
theorem dX4_addMember_64 : decode cX4_addMember 64 = .ok (.bipush 6, 2) := dk_16 6 (dk_at dksX4_addMember_2 16 rfl rfl)
theorem dX4_addMember_66 : decode cX4_addMember 66 = .ok (.iaload, 1) := dk_46 (dk_at dksX4_addMember_2 18 rfl rfl)
theorem dX4_addMember_67 : decode cX4_addMember 67 = .ok (.iconst 1, 1) := dk_4 (dk_at dksX4_addMember_2 19 rfl rfl)
theorem dX4_addMember_68 : decode cX4_addMember 68 = .ok (.isub, 1) := dk_100 (dk_at dksX4_addMember_2 20 rfl rfl)
theorem dX4_addMember_69 : decode cX4_addMember 69 = .ok (.ireturn, 1) := dk_172 (dk_at dksX4_addMember_2 21 rfl rfl)
abbrev cX4_addPatrol : ByteArray := prog_16_method_23_code
def yX4_addPatrol : MethodName := ⟨RX4, "addPatrol", "(IIZ)I"⟩
def dkwX4_addPatrol_4 : List UInt8 := [182, 0, 68, 42, 180, 0, 7, 16, 7, 92, 46, 4, 96, 79, 21, 4, 172]
abbrev dktX4_addPatrol_4 : List UInt8 := dkwX4_addPatrol_4 ++ []
def dkwX4_addPatrol_3 : List UInt8 := [153, 0, 7, 4, 167, 0, 4, 3, 182, 0, 64, 42, 21, 4, 7, 27, 182, 0, 64, 42, 21, 4]
abbrev dktX4_addPatrol_3 : List UInt8 := dkwX4_addPatrol_3 ++ dktX4_addPatrol_4
def dkwX4_addPatrol_2 : List UInt8 := [46, 54, 4, 42, 21, 4, 3, 27, 182, 0, 64, 42, 21, 4, 4, 28, 182, 0, 64, 42, 21, 4, 5, 29]
abbrev dktX4_addPatrol_2 : List UInt8 := dkwX4_addPatrol_2 ++ dktX4_addPatrol_3
def dkwX4_addPatrol_1 : List UInt8 := [180, 0, 7, 16, 7, 46, 16, 6, 160, 0, 6, 16, 253, 172, 42, 182, 0, 61, 42, 180, 0, 7, 16, 7]
abbrev dktX4_addPatrol_1 : List UInt8 := dkwX4_addPatrol_1 ++ dktX4_addPatrol_2
def dkwX4_addPatrol_0 : List UInt8 := [27, 184, 0, 57, 154, 0, 5, 2, 172, 28, 4, 16, 9, 184, 0, 48, 154, 0, 6, 16, 254, 172, 42]
abbrev dktX4_addPatrol_0 : List UInt8 := dkwX4_addPatrol_0 ++ dktX4_addPatrol_1
theorem dksX4_addPatrol_0 : cX4_addPatrol.data.toList.drop 0 = dktX4_addPatrol_0 := by decide +kernel
theorem dksX4_addPatrol_1 : cX4_addPatrol.data.toList.drop 23 = dktX4_addPatrol_1 := dk_seg dksX4_addPatrol_0 23 rfl rfl
theorem dksX4_addPatrol_2 : cX4_addPatrol.data.toList.drop 47 = dktX4_addPatrol_2 := dk_seg dksX4_addPatrol_1 24 rfl rfl
theorem dksX4_addPatrol_3 : cX4_addPatrol.data.toList.drop 71 = dktX4_addPatrol_3 := dk_seg dksX4_addPatrol_2 24 rfl rfl
theorem dksX4_addPatrol_4 : cX4_addPatrol.data.toList.drop 93 = dktX4_addPatrol_4 := dk_seg dksX4_addPatrol_3 22 rfl rfl
theorem dX4_addPatrol_0 : decode cX4_addPatrol 0 = .ok (.iload_n 1, 1) := dk_27 (dk_at dksX4_addPatrol_0 0 rfl rfl)
theorem dX4_addPatrol_1 : decode cX4_addPatrol 1 = .ok (.invokestatic 57, 3) := dk_184 0 57 (dk_at dksX4_addPatrol_0 1 rfl rfl)
theorem dX4_addPatrol_4 : decode cX4_addPatrol 4 = .ok (.ifCond .ne 5, 3) := dk_154 0 5 (dk_at dksX4_addPatrol_0 4 rfl rfl)
theorem dX4_addPatrol_7 : decode cX4_addPatrol 7 = .ok (.iconst (-1), 1) := dk_2 (dk_at dksX4_addPatrol_0 7 rfl rfl)
theorem dX4_addPatrol_8 : decode cX4_addPatrol 8 = .ok (.ireturn, 1) := dk_172 (dk_at dksX4_addPatrol_0 8 rfl rfl)
theorem dX4_addPatrol_9 : decode cX4_addPatrol 9 = .ok (.iload_n 2, 1) := dk_28 (dk_at dksX4_addPatrol_0 9 rfl rfl)
theorem dX4_addPatrol_10 : decode cX4_addPatrol 10 = .ok (.iconst 1, 1) := dk_4 (dk_at dksX4_addPatrol_0 10 rfl rfl)
theorem dX4_addPatrol_11 : decode cX4_addPatrol 11 = .ok (.bipush 9, 2) := dk_16 9 (dk_at dksX4_addPatrol_0 11 rfl rfl)
theorem dX4_addPatrol_13 : decode cX4_addPatrol 13 = .ok (.invokestatic 48, 3) := dk_184 0 48 (dk_at dksX4_addPatrol_0 13 rfl rfl)
theorem dX4_addPatrol_16 : decode cX4_addPatrol 16 = .ok (.ifCond .ne 6, 3) := dk_154 0 6 (dk_at dksX4_addPatrol_0 16 rfl rfl)
theorem dX4_addPatrol_19 : decode cX4_addPatrol 19 = .ok (.bipush (-2), 2) := dk_16 254 (dk_at dksX4_addPatrol_0 19 rfl rfl)
theorem dX4_addPatrol_21 : decode cX4_addPatrol 21 = .ok (.ireturn, 1) := dk_172 (dk_at dksX4_addPatrol_0 21 rfl rfl)
theorem dX4_addPatrol_22 : decode cX4_addPatrol 22 = .ok (.aload_n 0, 1) := dk_42 (dk_at dksX4_addPatrol_0 22 rfl rfl)
theorem dX4_addPatrol_23 : decode cX4_addPatrol 23 = .ok (.getfield 7, 3) := dk_180 0 7 (dk_at dksX4_addPatrol_1 0 rfl rfl)
theorem dX4_addPatrol_26 : decode cX4_addPatrol 26 = .ok (.bipush 7, 2) := dk_16 7 (dk_at dksX4_addPatrol_1 3 rfl rfl)
theorem dX4_addPatrol_28 : decode cX4_addPatrol 28 = .ok (.iaload, 1) := dk_46 (dk_at dksX4_addPatrol_1 5 rfl rfl)
theorem dX4_addPatrol_29 : decode cX4_addPatrol 29 = .ok (.bipush 6, 2) := dk_16 6 (dk_at dksX4_addPatrol_1 6 rfl rfl)
theorem dX4_addPatrol_31 : decode cX4_addPatrol 31 = .ok (.if_icmp .ne 6, 3) := dk_160 0 6 (dk_at dksX4_addPatrol_1 8 rfl rfl)
theorem dX4_addPatrol_34 : decode cX4_addPatrol 34 = .ok (.bipush (-3), 2) := dk_16 253 (dk_at dksX4_addPatrol_1 11 rfl rfl)
theorem dX4_addPatrol_36 : decode cX4_addPatrol 36 = .ok (.ireturn, 1) := dk_172 (dk_at dksX4_addPatrol_1 13 rfl rfl)
theorem dX4_addPatrol_37 : decode cX4_addPatrol 37 = .ok (.aload_n 0, 1) := dk_42 (dk_at dksX4_addPatrol_1 14 rfl rfl)
theorem dX4_addPatrol_38 : decode cX4_addPatrol 38 = .ok (.invokevirtual 61, 3) := dk_182 0 61 (dk_at dksX4_addPatrol_1 15 rfl rfl)
theorem dX4_addPatrol_41 : decode cX4_addPatrol 41 = .ok (.aload_n 0, 1) := dk_42 (dk_at dksX4_addPatrol_1 18 rfl rfl)
theorem dX4_addPatrol_42 : decode cX4_addPatrol 42 = .ok (.getfield 7, 3) := dk_180 0 7 (dk_at dksX4_addPatrol_1 19 rfl rfl)
theorem dX4_addPatrol_45 : decode cX4_addPatrol 45 = .ok (.bipush 7, 2) := dk_16 7 (dk_at dksX4_addPatrol_1 22 rfl rfl)
theorem dX4_addPatrol_47 : decode cX4_addPatrol 47 = .ok (.iaload, 1) := dk_46 (dk_at dksX4_addPatrol_2 0 rfl rfl)
theorem dX4_addPatrol_48 : decode cX4_addPatrol 48 = .ok (.istore 4, 2) := dk_54 4 (dk_at dksX4_addPatrol_2 1 rfl rfl)
theorem dX4_addPatrol_50 : decode cX4_addPatrol 50 = .ok (.aload_n 0, 1) := dk_42 (dk_at dksX4_addPatrol_2 3 rfl rfl)
theorem dX4_addPatrol_51 : decode cX4_addPatrol 51 = .ok (.iload 4, 2) := dk_21 4 (dk_at dksX4_addPatrol_2 4 rfl rfl)
theorem dX4_addPatrol_53 : decode cX4_addPatrol 53 = .ok (.iconst 0, 1) := dk_3 (dk_at dksX4_addPatrol_2 6 rfl rfl)
theorem dX4_addPatrol_54 : decode cX4_addPatrol 54 = .ok (.iload_n 1, 1) := dk_27 (dk_at dksX4_addPatrol_2 7 rfl rfl)
theorem dX4_addPatrol_55 : decode cX4_addPatrol 55 = .ok (.invokevirtual 64, 3) := dk_182 0 64 (dk_at dksX4_addPatrol_2 8 rfl rfl)
theorem dX4_addPatrol_58 : decode cX4_addPatrol 58 = .ok (.aload_n 0, 1) := dk_42 (dk_at dksX4_addPatrol_2 11 rfl rfl)
theorem dX4_addPatrol_59 : decode cX4_addPatrol 59 = .ok (.iload 4, 2) := dk_21 4 (dk_at dksX4_addPatrol_2 12 rfl rfl)
theorem dX4_addPatrol_61 : decode cX4_addPatrol 61 = .ok (.iconst 1, 1) := dk_4 (dk_at dksX4_addPatrol_2 14 rfl rfl)
theorem dX4_addPatrol_62 : decode cX4_addPatrol 62 = .ok (.iload_n 2, 1) := dk_28 (dk_at dksX4_addPatrol_2 15 rfl rfl)
theorem dX4_addPatrol_63 : decode cX4_addPatrol 63 = .ok (.invokevirtual 64, 3) := dk_182 0 64 (dk_at dksX4_addPatrol_2 16 rfl rfl)
theorem dX4_addPatrol_66 : decode cX4_addPatrol 66 = .ok (.aload_n 0, 1) := dk_42 (dk_at dksX4_addPatrol_2 19 rfl rfl)
theorem dX4_addPatrol_67 : decode cX4_addPatrol 67 = .ok (.iload 4, 2) := dk_21 4 (dk_at dksX4_addPatrol_2 20 rfl rfl)
theorem dX4_addPatrol_69 : decode cX4_addPatrol 69 = .ok (.iconst 2, 1) := dk_5 (dk_at dksX4_addPatrol_2 22 rfl rfl)
theorem dX4_addPatrol_70 : decode cX4_addPatrol 70 = .ok (.iload_n 3, 1) := dk_29 (dk_at dksX4_addPatrol_2 23 rfl rfl)
theorem dX4_addPatrol_71 : decode cX4_addPatrol 71 = .ok (.ifCond .eq 7, 3) := dk_153 0 7 (dk_at dksX4_addPatrol_3 0 rfl rfl)
theorem dX4_addPatrol_74 : decode cX4_addPatrol 74 = .ok (.iconst 1, 1) := dk_4 (dk_at dksX4_addPatrol_3 3 rfl rfl)
theorem dX4_addPatrol_75 : decode cX4_addPatrol 75 = .ok (.goto 4, 3) := dk_167 0 4 (dk_at dksX4_addPatrol_3 4 rfl rfl)
theorem dX4_addPatrol_78 : decode cX4_addPatrol 78 = .ok (.iconst 0, 1) := dk_3 (dk_at dksX4_addPatrol_3 7 rfl rfl)
theorem dX4_addPatrol_79 : decode cX4_addPatrol 79 = .ok (.invokevirtual 64, 3) := dk_182 0 64 (dk_at dksX4_addPatrol_3 8 rfl rfl)
theorem dX4_addPatrol_82 : decode cX4_addPatrol 82 = .ok (.aload_n 0, 1) := dk_42 (dk_at dksX4_addPatrol_3 11 rfl rfl)
theorem dX4_addPatrol_83 : decode cX4_addPatrol 83 = .ok (.iload 4, 2) := dk_21 4 (dk_at dksX4_addPatrol_3 12 rfl rfl)
theorem dX4_addPatrol_85 : decode cX4_addPatrol 85 = .ok (.iconst 4, 1) := dk_7 (dk_at dksX4_addPatrol_3 14 rfl rfl)
theorem dX4_addPatrol_86 : decode cX4_addPatrol 86 = .ok (.iload_n 1, 1) := dk_27 (dk_at dksX4_addPatrol_3 15 rfl rfl)
theorem dX4_addPatrol_87 : decode cX4_addPatrol 87 = .ok (.invokevirtual 64, 3) := dk_182 0 64 (dk_at dksX4_addPatrol_3 16 rfl rfl)
theorem dX4_addPatrol_90 : decode cX4_addPatrol 90 = .ok (.aload_n 0, 1) := dk_42 (dk_at dksX4_addPatrol_3 19 rfl rfl)
theorem dX4_addPatrol_91 : decode cX4_addPatrol 91 = .ok (.iload 4, 2) := dk_21 4 (dk_at dksX4_addPatrol_3 20 rfl rfl)
theorem dX4_addPatrol_93 : decode cX4_addPatrol 93 = .ok (.invokevirtual 68, 3) := dk_182 0 68 (dk_at dksX4_addPatrol_4 0 rfl rfl)
theorem dX4_addPatrol_96 : decode cX4_addPatrol 96 = .ok (.aload_n 0, 1) := dk_42 (dk_at dksX4_addPatrol_4 3 rfl rfl)
theorem dX4_addPatrol_97 : decode cX4_addPatrol 97 = .ok (.getfield 7, 3) := dk_180 0 7 (dk_at dksX4_addPatrol_4 4 rfl rfl)
theorem dX4_addPatrol_100 : decode cX4_addPatrol 100 = .ok (.bipush 7, 2) := dk_16 7 (dk_at dksX4_addPatrol_4 7 rfl rfl)
theorem dX4_addPatrol_102 : decode cX4_addPatrol 102 = .ok (.dup2, 1) := dk_92 (dk_at dksX4_addPatrol_4 9 rfl rfl)
theorem dX4_addPatrol_103 : decode cX4_addPatrol 103 = .ok (.iaload, 1) := dk_46 (dk_at dksX4_addPatrol_4 10 rfl rfl)
theorem dX4_addPatrol_104 : decode cX4_addPatrol 104 = .ok (.iconst 1, 1) := dk_4 (dk_at dksX4_addPatrol_4 11 rfl rfl)
theorem dX4_addPatrol_105 : decode cX4_addPatrol 105 = .ok (.iadd, 1) := dk_96 (dk_at dksX4_addPatrol_4 12 rfl rfl)
theorem dX4_addPatrol_106 : decode cX4_addPatrol 106 = .ok (.iastore, 1) := dk_79 (dk_at dksX4_addPatrol_4 13 rfl rfl)
theorem dX4_addPatrol_107 : decode cX4_addPatrol 107 = .ok (.iload 4, 2) := dk_21 4 (dk_at dksX4_addPatrol_4 14 rfl rfl)
theorem dX4_addPatrol_109 : decode cX4_addPatrol 109 = .ok (.ireturn, 1) := dk_172 (dk_at dksX4_addPatrol_4 16 rfl rfl)
abbrev cX4_laysPatrol : ByteArray := prog_16_method_14_code
def yX4_laysPatrol : MethodName := ⟨RX4, "laysPatrol", "(III)V"⟩
def dkwX4_laysPatrol_0 : List UInt8 := [42, 180, 0, 7, 17, 0, 186, 16, 14, 27, 104, 96, 28, 96, 29, 79, 177]
abbrev dktX4_laysPatrol_0 : List UInt8 := dkwX4_laysPatrol_0 ++ []
theorem dksX4_laysPatrol_0 : cX4_laysPatrol.data.toList.drop 0 = dktX4_laysPatrol_0 := by decide +kernel
theorem dX4_laysPatrol_0 : decode cX4_laysPatrol 0 = .ok (.aload_n 0, 1) := dk_42 (dk_at dksX4_laysPatrol_0 0 rfl rfl)
theorem dX4_laysPatrol_1 : decode cX4_laysPatrol 1 = .ok (.getfield 7, 3) := dk_180 0 7 (dk_at dksX4_laysPatrol_0 1 rfl rfl)
theorem dX4_laysPatrol_4 : decode cX4_laysPatrol 4 = .ok (.sipush 186, 3) := dk_17 0 186 (dk_at dksX4_laysPatrol_0 4 rfl rfl)
theorem dX4_laysPatrol_7 : decode cX4_laysPatrol 7 = .ok (.bipush 14, 2) := dk_16 14 (dk_at dksX4_laysPatrol_0 7 rfl rfl)
theorem dX4_laysPatrol_9 : decode cX4_laysPatrol 9 = .ok (.iload_n 1, 1) := dk_27 (dk_at dksX4_laysPatrol_0 9 rfl rfl)
theorem dX4_laysPatrol_10 : decode cX4_laysPatrol 10 = .ok (.imul, 1) := dk_104 (dk_at dksX4_laysPatrol_0 10 rfl rfl)
theorem dX4_laysPatrol_11 : decode cX4_laysPatrol 11 = .ok (.iadd, 1) := dk_96 (dk_at dksX4_laysPatrol_0 11 rfl rfl)
theorem dX4_laysPatrol_12 : decode cX4_laysPatrol 12 = .ok (.iload_n 2, 1) := dk_28 (dk_at dksX4_laysPatrol_0 12 rfl rfl)
theorem dX4_laysPatrol_13 : decode cX4_laysPatrol 13 = .ok (.iadd, 1) := dk_96 (dk_at dksX4_laysPatrol_0 13 rfl rfl)
theorem dX4_laysPatrol_14 : decode cX4_laysPatrol 14 = .ok (.iload_n 3, 1) := dk_29 (dk_at dksX4_laysPatrol_0 14 rfl rfl)
theorem dX4_laysPatrol_15 : decode cX4_laysPatrol 15 = .ok (.iastore, 1) := dk_79 (dk_at dksX4_laysPatrol_0 15 rfl rfl)
theorem dX4_laysPatrol_16 : decode cX4_laysPatrol 16 = .ok (.return_, 1) := dk_177 (dk_at dksX4_laysPatrol_0 16 rfl rfl)
abbrev cX4_frees : ByteArray := prog_16_method_32_code
def yX4_frees : MethodName := ⟨RX4, "frees", "(I)V"⟩
def dkwX4_frees_1 : List UInt8 := [177]
abbrev dktX4_frees_1 : List UInt8 := dkwX4_frees_1 ++ []
def dkwX4_frees_0 : List UInt8 := [42, 27, 6, 3, 182, 0, 64, 42, 27, 8, 16, 251, 182, 0, 64, 42, 27, 16, 6, 16, 251, 182, 0, 64]
abbrev dktX4_frees_0 : List UInt8 := dkwX4_frees_0 ++ dktX4_frees_1
theorem dksX4_frees_0 : cX4_frees.data.toList.drop 0 = dktX4_frees_0 := by decide +kernel
theorem dksX4_frees_1 : cX4_frees.data.toList.drop 24 = dktX4_frees_1 := dk_seg dksX4_frees_0 24 rfl rfl
theorem dX4_frees_0 : decode cX4_frees 0 = .ok (.aload_n 0, 1) := dk_42 (dk_at dksX4_frees_0 0 rfl rfl)
theorem dX4_frees_1 : decode cX4_frees 1 = .ok (.iload_n 1, 1) := dk_27 (dk_at dksX4_frees_0 1 rfl rfl)
theorem dX4_frees_2 : decode cX4_frees 2 = .ok (.iconst 3, 1) := dk_6 (dk_at dksX4_frees_0 2 rfl rfl)
theorem dX4_frees_3 : decode cX4_frees 3 = .ok (.iconst 0, 1) := dk_3 (dk_at dksX4_frees_0 3 rfl rfl)
theorem dX4_frees_4 : decode cX4_frees 4 = .ok (.invokevirtual 64, 3) := dk_182 0 64 (dk_at dksX4_frees_0 4 rfl rfl)
theorem dX4_frees_7 : decode cX4_frees 7 = .ok (.aload_n 0, 1) := dk_42 (dk_at dksX4_frees_0 7 rfl rfl)
theorem dX4_frees_8 : decode cX4_frees 8 = .ok (.iload_n 1, 1) := dk_27 (dk_at dksX4_frees_0 8 rfl rfl)
theorem dX4_frees_9 : decode cX4_frees 9 = .ok (.iconst 5, 1) := dk_8 (dk_at dksX4_frees_0 9 rfl rfl)
theorem dX4_frees_10 : decode cX4_frees 10 = .ok (.bipush (-5), 2) := dk_16 251 (dk_at dksX4_frees_0 10 rfl rfl)
theorem dX4_frees_12 : decode cX4_frees 12 = .ok (.invokevirtual 64, 3) := dk_182 0 64 (dk_at dksX4_frees_0 12 rfl rfl)
theorem dX4_frees_15 : decode cX4_frees 15 = .ok (.aload_n 0, 1) := dk_42 (dk_at dksX4_frees_0 15 rfl rfl)
theorem dX4_frees_16 : decode cX4_frees 16 = .ok (.iload_n 1, 1) := dk_27 (dk_at dksX4_frees_0 16 rfl rfl)
theorem dX4_frees_17 : decode cX4_frees 17 = .ok (.bipush 6, 2) := dk_16 6 (dk_at dksX4_frees_0 17 rfl rfl)
theorem dX4_frees_19 : decode cX4_frees 19 = .ok (.bipush (-5), 2) := dk_16 251 (dk_at dksX4_frees_0 19 rfl rfl)
theorem dX4_frees_21 : decode cX4_frees 21 = .ok (.invokevirtual 64, 3) := dk_182 0 64 (dk_at dksX4_frees_0 21 rfl rfl)
theorem dX4_frees_24 : decode cX4_frees 24 = .ok (.return_, 1) := dk_177 (dk_at dksX4_frees_1 0 rfl rfl)
abbrev cX4_addGarage : ByteArray := prog_16_method_24_code
def yX4_addGarage : MethodName := ⟨RX4, "addGarage", "(II)I"⟩
def dkwX4_addGarage_3 : List UInt8 := [79, 42, 180, 0, 7, 16, 8, 92, 46, 4, 96, 79, 42, 180, 0, 7, 16, 8, 46, 4, 100, 172]
abbrev dktX4_addGarage_3 : List UInt8 := dkwX4_addGarage_3 ++ []
def dkwX4_addGarage_2 : List UInt8 := [180, 0, 7, 16, 8, 46, 104, 96, 62, 42, 180, 0, 7, 29, 27, 79, 42, 180, 0, 7, 29, 4, 96, 28]
abbrev dktX4_addGarage_2 : List UInt8 := dkwX4_addGarage_2 ++ dktX4_addGarage_3
def dkwX4_addGarage_1 : List UInt8 := [180, 0, 7, 16, 8, 46, 8, 160, 0, 6, 16, 253, 172, 42, 182, 0, 61, 17, 1, 14, 7, 42]
abbrev dktX4_addGarage_1 : List UInt8 := dkwX4_addGarage_1 ++ dktX4_addGarage_2
def dkwX4_addGarage_0 : List UInt8 := [27, 184, 0, 57, 154, 0, 5, 2, 172, 28, 4, 16, 9, 184, 0, 48, 154, 0, 6, 16, 254, 172, 42]
abbrev dktX4_addGarage_0 : List UInt8 := dkwX4_addGarage_0 ++ dktX4_addGarage_1
theorem dksX4_addGarage_0 : cX4_addGarage.data.toList.drop 0 = dktX4_addGarage_0 := by decide +kernel
theorem dksX4_addGarage_1 : cX4_addGarage.data.toList.drop 23 = dktX4_addGarage_1 := dk_seg dksX4_addGarage_0 23 rfl rfl
theorem dksX4_addGarage_2 : cX4_addGarage.data.toList.drop 45 = dktX4_addGarage_2 := dk_seg dksX4_addGarage_1 22 rfl rfl
theorem dksX4_addGarage_3 : cX4_addGarage.data.toList.drop 69 = dktX4_addGarage_3 := dk_seg dksX4_addGarage_2 24 rfl rfl
theorem dX4_addGarage_0 : decode cX4_addGarage 0 = .ok (.iload_n 1, 1) := dk_27 (dk_at dksX4_addGarage_0 0 rfl rfl)
theorem dX4_addGarage_1 : decode cX4_addGarage 1 = .ok (.invokestatic 57, 3) := dk_184 0 57 (dk_at dksX4_addGarage_0 1 rfl rfl)
theorem dX4_addGarage_4 : decode cX4_addGarage 4 = .ok (.ifCond .ne 5, 3) := dk_154 0 5 (dk_at dksX4_addGarage_0 4 rfl rfl)
theorem dX4_addGarage_7 : decode cX4_addGarage 7 = .ok (.iconst (-1), 1) := dk_2 (dk_at dksX4_addGarage_0 7 rfl rfl)
theorem dX4_addGarage_8 : decode cX4_addGarage 8 = .ok (.ireturn, 1) := dk_172 (dk_at dksX4_addGarage_0 8 rfl rfl)
theorem dX4_addGarage_9 : decode cX4_addGarage 9 = .ok (.iload_n 2, 1) := dk_28 (dk_at dksX4_addGarage_0 9 rfl rfl)
theorem dX4_addGarage_10 : decode cX4_addGarage 10 = .ok (.iconst 1, 1) := dk_4 (dk_at dksX4_addGarage_0 10 rfl rfl)
theorem dX4_addGarage_11 : decode cX4_addGarage 11 = .ok (.bipush 9, 2) := dk_16 9 (dk_at dksX4_addGarage_0 11 rfl rfl)
theorem dX4_addGarage_13 : decode cX4_addGarage 13 = .ok (.invokestatic 48, 3) := dk_184 0 48 (dk_at dksX4_addGarage_0 13 rfl rfl)
theorem dX4_addGarage_16 : decode cX4_addGarage 16 = .ok (.ifCond .ne 6, 3) := dk_154 0 6 (dk_at dksX4_addGarage_0 16 rfl rfl)
theorem dX4_addGarage_19 : decode cX4_addGarage 19 = .ok (.bipush (-2), 2) := dk_16 254 (dk_at dksX4_addGarage_0 19 rfl rfl)
theorem dX4_addGarage_21 : decode cX4_addGarage 21 = .ok (.ireturn, 1) := dk_172 (dk_at dksX4_addGarage_0 21 rfl rfl)
theorem dX4_addGarage_22 : decode cX4_addGarage 22 = .ok (.aload_n 0, 1) := dk_42 (dk_at dksX4_addGarage_0 22 rfl rfl)
theorem dX4_addGarage_23 : decode cX4_addGarage 23 = .ok (.getfield 7, 3) := dk_180 0 7 (dk_at dksX4_addGarage_1 0 rfl rfl)
theorem dX4_addGarage_26 : decode cX4_addGarage 26 = .ok (.bipush 8, 2) := dk_16 8 (dk_at dksX4_addGarage_1 3 rfl rfl)
theorem dX4_addGarage_28 : decode cX4_addGarage 28 = .ok (.iaload, 1) := dk_46 (dk_at dksX4_addGarage_1 5 rfl rfl)
theorem dX4_addGarage_29 : decode cX4_addGarage 29 = .ok (.iconst 5, 1) := dk_8 (dk_at dksX4_addGarage_1 6 rfl rfl)
theorem dX4_addGarage_30 : decode cX4_addGarage 30 = .ok (.if_icmp .ne 6, 3) := dk_160 0 6 (dk_at dksX4_addGarage_1 7 rfl rfl)
theorem dX4_addGarage_33 : decode cX4_addGarage 33 = .ok (.bipush (-3), 2) := dk_16 253 (dk_at dksX4_addGarage_1 10 rfl rfl)
theorem dX4_addGarage_35 : decode cX4_addGarage 35 = .ok (.ireturn, 1) := dk_172 (dk_at dksX4_addGarage_1 12 rfl rfl)
theorem dX4_addGarage_36 : decode cX4_addGarage 36 = .ok (.aload_n 0, 1) := dk_42 (dk_at dksX4_addGarage_1 13 rfl rfl)
theorem dX4_addGarage_37 : decode cX4_addGarage 37 = .ok (.invokevirtual 61, 3) := dk_182 0 61 (dk_at dksX4_addGarage_1 14 rfl rfl)
theorem dX4_addGarage_40 : decode cX4_addGarage 40 = .ok (.sipush 270, 3) := dk_17 1 14 (dk_at dksX4_addGarage_1 17 rfl rfl)
theorem dX4_addGarage_43 : decode cX4_addGarage 43 = .ok (.iconst 4, 1) := dk_7 (dk_at dksX4_addGarage_1 20 rfl rfl)
theorem dX4_addGarage_44 : decode cX4_addGarage 44 = .ok (.aload_n 0, 1) := dk_42 (dk_at dksX4_addGarage_1 21 rfl rfl)
theorem dX4_addGarage_45 : decode cX4_addGarage 45 = .ok (.getfield 7, 3) := dk_180 0 7 (dk_at dksX4_addGarage_2 0 rfl rfl)
theorem dX4_addGarage_48 : decode cX4_addGarage 48 = .ok (.bipush 8, 2) := dk_16 8 (dk_at dksX4_addGarage_2 3 rfl rfl)
theorem dX4_addGarage_50 : decode cX4_addGarage 50 = .ok (.iaload, 1) := dk_46 (dk_at dksX4_addGarage_2 5 rfl rfl)
theorem dX4_addGarage_51 : decode cX4_addGarage 51 = .ok (.imul, 1) := dk_104 (dk_at dksX4_addGarage_2 6 rfl rfl)
theorem dX4_addGarage_52 : decode cX4_addGarage 52 = .ok (.iadd, 1) := dk_96 (dk_at dksX4_addGarage_2 7 rfl rfl)
theorem dX4_addGarage_53 : decode cX4_addGarage 53 = .ok (.istore_n 3, 1) := dk_62 (dk_at dksX4_addGarage_2 8 rfl rfl)
theorem dX4_addGarage_54 : decode cX4_addGarage 54 = .ok (.aload_n 0, 1) := dk_42 (dk_at dksX4_addGarage_2 9 rfl rfl)
theorem dX4_addGarage_55 : decode cX4_addGarage 55 = .ok (.getfield 7, 3) := dk_180 0 7 (dk_at dksX4_addGarage_2 10 rfl rfl)
theorem dX4_addGarage_58 : decode cX4_addGarage 58 = .ok (.iload_n 3, 1) := dk_29 (dk_at dksX4_addGarage_2 13 rfl rfl)
theorem dX4_addGarage_59 : decode cX4_addGarage 59 = .ok (.iload_n 1, 1) := dk_27 (dk_at dksX4_addGarage_2 14 rfl rfl)
theorem dX4_addGarage_60 : decode cX4_addGarage 60 = .ok (.iastore, 1) := dk_79 (dk_at dksX4_addGarage_2 15 rfl rfl)
theorem dX4_addGarage_61 : decode cX4_addGarage 61 = .ok (.aload_n 0, 1) := dk_42 (dk_at dksX4_addGarage_2 16 rfl rfl)
theorem dX4_addGarage_62 : decode cX4_addGarage 62 = .ok (.getfield 7, 3) := dk_180 0 7 (dk_at dksX4_addGarage_2 17 rfl rfl)
theorem dX4_addGarage_65 : decode cX4_addGarage 65 = .ok (.iload_n 3, 1) := dk_29 (dk_at dksX4_addGarage_2 20 rfl rfl)
theorem dX4_addGarage_66 : decode cX4_addGarage 66 = .ok (.iconst 1, 1) := dk_4 (dk_at dksX4_addGarage_2 21 rfl rfl)
theorem dX4_addGarage_67 : decode cX4_addGarage 67 = .ok (.iadd, 1) := dk_96 (dk_at dksX4_addGarage_2 22 rfl rfl)
theorem dX4_addGarage_68 : decode cX4_addGarage 68 = .ok (.iload_n 2, 1) := dk_28 (dk_at dksX4_addGarage_2 23 rfl rfl)
theorem dX4_addGarage_69 : decode cX4_addGarage 69 = .ok (.iastore, 1) := dk_79 (dk_at dksX4_addGarage_3 0 rfl rfl)
theorem dX4_addGarage_70 : decode cX4_addGarage 70 = .ok (.aload_n 0, 1) := dk_42 (dk_at dksX4_addGarage_3 1 rfl rfl)
theorem dX4_addGarage_71 : decode cX4_addGarage 71 = .ok (.getfield 7, 3) := dk_180 0 7 (dk_at dksX4_addGarage_3 2 rfl rfl)
theorem dX4_addGarage_74 : decode cX4_addGarage 74 = .ok (.bipush 8, 2) := dk_16 8 (dk_at dksX4_addGarage_3 5 rfl rfl)
theorem dX4_addGarage_76 : decode cX4_addGarage 76 = .ok (.dup2, 1) := dk_92 (dk_at dksX4_addGarage_3 7 rfl rfl)
theorem dX4_addGarage_77 : decode cX4_addGarage 77 = .ok (.iaload, 1) := dk_46 (dk_at dksX4_addGarage_3 8 rfl rfl)
theorem dX4_addGarage_78 : decode cX4_addGarage 78 = .ok (.iconst 1, 1) := dk_4 (dk_at dksX4_addGarage_3 9 rfl rfl)
theorem dX4_addGarage_79 : decode cX4_addGarage 79 = .ok (.iadd, 1) := dk_96 (dk_at dksX4_addGarage_3 10 rfl rfl)
theorem dX4_addGarage_80 : decode cX4_addGarage 80 = .ok (.iastore, 1) := dk_79 (dk_at dksX4_addGarage_3 11 rfl rfl)
theorem dX4_addGarage_81 : decode cX4_addGarage 81 = .ok (.aload_n 0, 1) := dk_42 (dk_at dksX4_addGarage_3 12 rfl rfl)
theorem dX4_addGarage_82 : decode cX4_addGarage 82 = .ok (.getfield 7, 3) := dk_180 0 7 (dk_at dksX4_addGarage_3 13 rfl rfl)
theorem dX4_addGarage_85 : decode cX4_addGarage 85 = .ok (.bipush 8, 2) := dk_16 8 (dk_at dksX4_addGarage_3 16 rfl rfl)
theorem dX4_addGarage_87 : decode cX4_addGarage 87 = .ok (.iaload, 1) := dk_46 (dk_at dksX4_addGarage_3 18 rfl rfl)
theorem dX4_addGarage_88 : decode cX4_addGarage 88 = .ok (.iconst 1, 1) := dk_4 (dk_at dksX4_addGarage_3 19 rfl rfl)
theorem dX4_addGarage_89 : decode cX4_addGarage 89 = .ok (.isub, 1) := dk_100 (dk_at dksX4_addGarage_3 20 rfl rfl)
theorem dX4_addGarage_90 : decode cX4_addGarage 90 = .ok (.ireturn, 1) := dk_172 (dk_at dksX4_addGarage_3 21 rfl rfl)
abbrev cX4_setPromise : ByteArray := prog_16_method_25_code
def yX4_setPromise : MethodName := ⟨RX4, "setPromise", "(II)I"⟩
def dkwX4_setPromise_2 : List UInt8 := [180, 0, 7, 5, 27, 96, 28, 79, 29, 172]
abbrev dktX4_setPromise_2 : List UInt8 := dkwX4_setPromise_2 ++ []
def dkwX4_setPromise_1 : List UInt8 := [42, 180, 0, 7, 5, 27, 96, 46, 62, 29, 28, 160, 0, 6, 16, 251, 172, 42, 182, 0, 61, 42]
abbrev dktX4_setPromise_1 : List UInt8 := dkwX4_setPromise_1 ++ dktX4_setPromise_2
def dkwX4_setPromise_0 : List UInt8 := [27, 3, 5, 184, 0, 48, 153, 0, 15, 28, 16, 10, 17, 0, 240, 184, 0, 48, 154, 0, 6, 16, 254, 172]
abbrev dktX4_setPromise_0 : List UInt8 := dkwX4_setPromise_0 ++ dktX4_setPromise_1
theorem dksX4_setPromise_0 : cX4_setPromise.data.toList.drop 0 = dktX4_setPromise_0 := by decide +kernel
theorem dksX4_setPromise_1 : cX4_setPromise.data.toList.drop 24 = dktX4_setPromise_1 := dk_seg dksX4_setPromise_0 24 rfl rfl
theorem dksX4_setPromise_2 : cX4_setPromise.data.toList.drop 46 = dktX4_setPromise_2 := dk_seg dksX4_setPromise_1 22 rfl rfl
theorem dX4_setPromise_0 : decode cX4_setPromise 0 = .ok (.iload_n 1, 1) := dk_27 (dk_at dksX4_setPromise_0 0 rfl rfl)
theorem dX4_setPromise_1 : decode cX4_setPromise 1 = .ok (.iconst 0, 1) := dk_3 (dk_at dksX4_setPromise_0 1 rfl rfl)
theorem dX4_setPromise_2 : decode cX4_setPromise 2 = .ok (.iconst 2, 1) := dk_5 (dk_at dksX4_setPromise_0 2 rfl rfl)
theorem dX4_setPromise_3 : decode cX4_setPromise 3 = .ok (.invokestatic 48, 3) := dk_184 0 48 (dk_at dksX4_setPromise_0 3 rfl rfl)
theorem dX4_setPromise_6 : decode cX4_setPromise 6 = .ok (.ifCond .eq 15, 3) := dk_153 0 15 (dk_at dksX4_setPromise_0 6 rfl rfl)
theorem dX4_setPromise_9 : decode cX4_setPromise 9 = .ok (.iload_n 2, 1) := dk_28 (dk_at dksX4_setPromise_0 9 rfl rfl)
theorem dX4_setPromise_10 : decode cX4_setPromise 10 = .ok (.bipush 10, 2) := dk_16 10 (dk_at dksX4_setPromise_0 10 rfl rfl)
theorem dX4_setPromise_12 : decode cX4_setPromise 12 = .ok (.sipush 240, 3) := dk_17 0 240 (dk_at dksX4_setPromise_0 12 rfl rfl)
theorem dX4_setPromise_15 : decode cX4_setPromise 15 = .ok (.invokestatic 48, 3) := dk_184 0 48 (dk_at dksX4_setPromise_0 15 rfl rfl)
theorem dX4_setPromise_18 : decode cX4_setPromise 18 = .ok (.ifCond .ne 6, 3) := dk_154 0 6 (dk_at dksX4_setPromise_0 18 rfl rfl)
theorem dX4_setPromise_21 : decode cX4_setPromise 21 = .ok (.bipush (-2), 2) := dk_16 254 (dk_at dksX4_setPromise_0 21 rfl rfl)
theorem dX4_setPromise_23 : decode cX4_setPromise 23 = .ok (.ireturn, 1) := dk_172 (dk_at dksX4_setPromise_0 23 rfl rfl)
theorem dX4_setPromise_24 : decode cX4_setPromise 24 = .ok (.aload_n 0, 1) := dk_42 (dk_at dksX4_setPromise_1 0 rfl rfl)
theorem dX4_setPromise_25 : decode cX4_setPromise 25 = .ok (.getfield 7, 3) := dk_180 0 7 (dk_at dksX4_setPromise_1 1 rfl rfl)
theorem dX4_setPromise_28 : decode cX4_setPromise 28 = .ok (.iconst 2, 1) := dk_5 (dk_at dksX4_setPromise_1 4 rfl rfl)
theorem dX4_setPromise_29 : decode cX4_setPromise 29 = .ok (.iload_n 1, 1) := dk_27 (dk_at dksX4_setPromise_1 5 rfl rfl)
theorem dX4_setPromise_30 : decode cX4_setPromise 30 = .ok (.iadd, 1) := dk_96 (dk_at dksX4_setPromise_1 6 rfl rfl)
theorem dX4_setPromise_31 : decode cX4_setPromise 31 = .ok (.iaload, 1) := dk_46 (dk_at dksX4_setPromise_1 7 rfl rfl)
theorem dX4_setPromise_32 : decode cX4_setPromise 32 = .ok (.istore_n 3, 1) := dk_62 (dk_at dksX4_setPromise_1 8 rfl rfl)
theorem dX4_setPromise_33 : decode cX4_setPromise 33 = .ok (.iload_n 3, 1) := dk_29 (dk_at dksX4_setPromise_1 9 rfl rfl)
theorem dX4_setPromise_34 : decode cX4_setPromise 34 = .ok (.iload_n 2, 1) := dk_28 (dk_at dksX4_setPromise_1 10 rfl rfl)
theorem dX4_setPromise_35 : decode cX4_setPromise 35 = .ok (.if_icmp .ne 6, 3) := dk_160 0 6 (dk_at dksX4_setPromise_1 11 rfl rfl)
theorem dX4_setPromise_38 : decode cX4_setPromise 38 = .ok (.bipush (-5), 2) := dk_16 251 (dk_at dksX4_setPromise_1 14 rfl rfl)
theorem dX4_setPromise_40 : decode cX4_setPromise 40 = .ok (.ireturn, 1) := dk_172 (dk_at dksX4_setPromise_1 16 rfl rfl)
theorem dX4_setPromise_41 : decode cX4_setPromise 41 = .ok (.aload_n 0, 1) := dk_42 (dk_at dksX4_setPromise_1 17 rfl rfl)
theorem dX4_setPromise_42 : decode cX4_setPromise 42 = .ok (.invokevirtual 61, 3) := dk_182 0 61 (dk_at dksX4_setPromise_1 18 rfl rfl)
theorem dX4_setPromise_45 : decode cX4_setPromise 45 = .ok (.aload_n 0, 1) := dk_42 (dk_at dksX4_setPromise_1 21 rfl rfl)
theorem dX4_setPromise_46 : decode cX4_setPromise 46 = .ok (.getfield 7, 3) := dk_180 0 7 (dk_at dksX4_setPromise_2 0 rfl rfl)
theorem dX4_setPromise_49 : decode cX4_setPromise 49 = .ok (.iconst 2, 1) := dk_5 (dk_at dksX4_setPromise_2 3 rfl rfl)
theorem dX4_setPromise_50 : decode cX4_setPromise 50 = .ok (.iload_n 1, 1) := dk_27 (dk_at dksX4_setPromise_2 4 rfl rfl)
theorem dX4_setPromise_51 : decode cX4_setPromise 51 = .ok (.iadd, 1) := dk_96 (dk_at dksX4_setPromise_2 5 rfl rfl)
theorem dX4_setPromise_52 : decode cX4_setPromise 52 = .ok (.iload_n 2, 1) := dk_28 (dk_at dksX4_setPromise_2 6 rfl rfl)
theorem dX4_setPromise_53 : decode cX4_setPromise 53 = .ok (.iastore, 1) := dk_79 (dk_at dksX4_setPromise_2 7 rfl rfl)
theorem dX4_setPromise_54 : decode cX4_setPromise 54 = .ok (.iload_n 3, 1) := dk_29 (dk_at dksX4_setPromise_2 8 rfl rfl)
theorem dX4_setPromise_55 : decode cX4_setPromise 55 = .ok (.ireturn, 1) := dk_172 (dk_at dksX4_setPromise_2 9 rfl rfl)
abbrev cX4_setWeather : ByteArray := prog_16_method_26_code
def yX4_setWeather : MethodName := ⟨RX4, "setWeather", "(I)I"⟩
def dkwX4_setWeather_1 : List UInt8 := [16, 251, 172, 42, 182, 0, 61, 42, 180, 0, 7, 4, 27, 79, 28, 172]
abbrev dktX4_setWeather_1 : List UInt8 := dkwX4_setWeather_1 ++ []
def dkwX4_setWeather_0 : List UInt8 := [27, 3, 8, 184, 0, 48, 154, 0, 6, 16, 254, 172, 42, 180, 0, 7, 4, 46, 61, 28, 27, 160, 0, 6]
abbrev dktX4_setWeather_0 : List UInt8 := dkwX4_setWeather_0 ++ dktX4_setWeather_1
theorem dksX4_setWeather_0 : cX4_setWeather.data.toList.drop 0 = dktX4_setWeather_0 := by decide +kernel
theorem dksX4_setWeather_1 : cX4_setWeather.data.toList.drop 24 = dktX4_setWeather_1 := dk_seg dksX4_setWeather_0 24 rfl rfl
theorem dX4_setWeather_0 : decode cX4_setWeather 0 = .ok (.iload_n 1, 1) := dk_27 (dk_at dksX4_setWeather_0 0 rfl rfl)
theorem dX4_setWeather_1 : decode cX4_setWeather 1 = .ok (.iconst 0, 1) := dk_3 (dk_at dksX4_setWeather_0 1 rfl rfl)
theorem dX4_setWeather_2 : decode cX4_setWeather 2 = .ok (.iconst 5, 1) := dk_8 (dk_at dksX4_setWeather_0 2 rfl rfl)
theorem dX4_setWeather_3 : decode cX4_setWeather 3 = .ok (.invokestatic 48, 3) := dk_184 0 48 (dk_at dksX4_setWeather_0 3 rfl rfl)
theorem dX4_setWeather_6 : decode cX4_setWeather 6 = .ok (.ifCond .ne 6, 3) := dk_154 0 6 (dk_at dksX4_setWeather_0 6 rfl rfl)
theorem dX4_setWeather_9 : decode cX4_setWeather 9 = .ok (.bipush (-2), 2) := dk_16 254 (dk_at dksX4_setWeather_0 9 rfl rfl)
theorem dX4_setWeather_11 : decode cX4_setWeather 11 = .ok (.ireturn, 1) := dk_172 (dk_at dksX4_setWeather_0 11 rfl rfl)
theorem dX4_setWeather_12 : decode cX4_setWeather 12 = .ok (.aload_n 0, 1) := dk_42 (dk_at dksX4_setWeather_0 12 rfl rfl)
theorem dX4_setWeather_13 : decode cX4_setWeather 13 = .ok (.getfield 7, 3) := dk_180 0 7 (dk_at dksX4_setWeather_0 13 rfl rfl)
theorem dX4_setWeather_16 : decode cX4_setWeather 16 = .ok (.iconst 1, 1) := dk_4 (dk_at dksX4_setWeather_0 16 rfl rfl)
theorem dX4_setWeather_17 : decode cX4_setWeather 17 = .ok (.iaload, 1) := dk_46 (dk_at dksX4_setWeather_0 17 rfl rfl)
theorem dX4_setWeather_18 : decode cX4_setWeather 18 = .ok (.istore_n 2, 1) := dk_61 (dk_at dksX4_setWeather_0 18 rfl rfl)
theorem dX4_setWeather_19 : decode cX4_setWeather 19 = .ok (.iload_n 2, 1) := dk_28 (dk_at dksX4_setWeather_0 19 rfl rfl)
theorem dX4_setWeather_20 : decode cX4_setWeather 20 = .ok (.iload_n 1, 1) := dk_27 (dk_at dksX4_setWeather_0 20 rfl rfl)
theorem dX4_setWeather_21 : decode cX4_setWeather 21 = .ok (.if_icmp .ne 6, 3) := dk_160 0 6 (dk_at dksX4_setWeather_0 21 rfl rfl)
theorem dX4_setWeather_24 : decode cX4_setWeather 24 = .ok (.bipush (-5), 2) := dk_16 251 (dk_at dksX4_setWeather_1 0 rfl rfl)
theorem dX4_setWeather_26 : decode cX4_setWeather 26 = .ok (.ireturn, 1) := dk_172 (dk_at dksX4_setWeather_1 2 rfl rfl)
theorem dX4_setWeather_27 : decode cX4_setWeather 27 = .ok (.aload_n 0, 1) := dk_42 (dk_at dksX4_setWeather_1 3 rfl rfl)
theorem dX4_setWeather_28 : decode cX4_setWeather 28 = .ok (.invokevirtual 61, 3) := dk_182 0 61 (dk_at dksX4_setWeather_1 4 rfl rfl)
theorem dX4_setWeather_31 : decode cX4_setWeather 31 = .ok (.aload_n 0, 1) := dk_42 (dk_at dksX4_setWeather_1 7 rfl rfl)
theorem dX4_setWeather_32 : decode cX4_setWeather 32 = .ok (.getfield 7, 3) := dk_180 0 7 (dk_at dksX4_setWeather_1 8 rfl rfl)
theorem dX4_setWeather_35 : decode cX4_setWeather 35 = .ok (.iconst 1, 1) := dk_4 (dk_at dksX4_setWeather_1 11 rfl rfl)
theorem dX4_setWeather_36 : decode cX4_setWeather 36 = .ok (.iload_n 1, 1) := dk_27 (dk_at dksX4_setWeather_1 12 rfl rfl)
theorem dX4_setWeather_37 : decode cX4_setWeather 37 = .ok (.iastore, 1) := dk_79 (dk_at dksX4_setWeather_1 13 rfl rfl)
theorem dX4_setWeather_38 : decode cX4_setWeather 38 = .ok (.iload_n 2, 1) := dk_28 (dk_at dksX4_setWeather_1 14 rfl rfl)
theorem dX4_setWeather_39 : decode cX4_setWeather 39 = .ok (.ireturn, 1) := dk_172 (dk_at dksX4_setWeather_1 15 rfl rfl)
abbrev cX4_call : ByteArray := prog_16_method_30_code
def yX4_call : MethodName := ⟨RX4, "call", "(III)I"⟩
def dkwX4_call_1 : List UInt8 := [29, 182, 0, 98, 42, 180, 0, 7, 16, 9, 46, 4, 100, 172]
abbrev dktX4_call_1 : List UInt8 := dkwX4_call_1 ++ []
def dkwX4_call_0 : List UInt8 := [42, 27, 28, 29, 182, 0, 94, 54, 4, 21, 4, 153, 0, 6, 21, 4, 172, 42, 182, 0, 61, 42, 27, 28]
abbrev dktX4_call_0 : List UInt8 := dkwX4_call_0 ++ dktX4_call_1
theorem dksX4_call_0 : cX4_call.data.toList.drop 0 = dktX4_call_0 := by decide +kernel
theorem dksX4_call_1 : cX4_call.data.toList.drop 24 = dktX4_call_1 := dk_seg dksX4_call_0 24 rfl rfl
theorem dX4_call_0 : decode cX4_call 0 = .ok (.aload_n 0, 1) := dk_42 (dk_at dksX4_call_0 0 rfl rfl)
theorem dX4_call_1 : decode cX4_call 1 = .ok (.iload_n 1, 1) := dk_27 (dk_at dksX4_call_0 1 rfl rfl)
theorem dX4_call_2 : decode cX4_call 2 = .ok (.iload_n 2, 1) := dk_28 (dk_at dksX4_call_0 2 rfl rfl)
theorem dX4_call_3 : decode cX4_call 3 = .ok (.iload_n 3, 1) := dk_29 (dk_at dksX4_call_0 3 rfl rfl)
theorem dX4_call_4 : decode cX4_call 4 = .ok (.invokevirtual 94, 3) := dk_182 0 94 (dk_at dksX4_call_0 4 rfl rfl)
theorem dX4_call_7 : decode cX4_call 7 = .ok (.istore 4, 2) := dk_54 4 (dk_at dksX4_call_0 7 rfl rfl)
theorem dX4_call_9 : decode cX4_call 9 = .ok (.iload 4, 2) := dk_21 4 (dk_at dksX4_call_0 9 rfl rfl)
theorem dX4_call_11 : decode cX4_call 11 = .ok (.ifCond .eq 6, 3) := dk_153 0 6 (dk_at dksX4_call_0 11 rfl rfl)
theorem dX4_call_14 : decode cX4_call 14 = .ok (.iload 4, 2) := dk_21 4 (dk_at dksX4_call_0 14 rfl rfl)
theorem dX4_call_16 : decode cX4_call 16 = .ok (.ireturn, 1) := dk_172 (dk_at dksX4_call_0 16 rfl rfl)
theorem dX4_call_17 : decode cX4_call 17 = .ok (.aload_n 0, 1) := dk_42 (dk_at dksX4_call_0 17 rfl rfl)
theorem dX4_call_18 : decode cX4_call 18 = .ok (.invokevirtual 61, 3) := dk_182 0 61 (dk_at dksX4_call_0 18 rfl rfl)
theorem dX4_call_21 : decode cX4_call 21 = .ok (.aload_n 0, 1) := dk_42 (dk_at dksX4_call_0 21 rfl rfl)
theorem dX4_call_22 : decode cX4_call 22 = .ok (.iload_n 1, 1) := dk_27 (dk_at dksX4_call_0 22 rfl rfl)
theorem dX4_call_23 : decode cX4_call 23 = .ok (.iload_n 2, 1) := dk_28 (dk_at dksX4_call_0 23 rfl rfl)
theorem dX4_call_24 : decode cX4_call 24 = .ok (.iload_n 3, 1) := dk_29 (dk_at dksX4_call_1 0 rfl rfl)
theorem dX4_call_25 : decode cX4_call 25 = .ok (.invokevirtual 98, 3) := dk_182 0 98 (dk_at dksX4_call_1 1 rfl rfl)
theorem dX4_call_28 : decode cX4_call 28 = .ok (.aload_n 0, 1) := dk_42 (dk_at dksX4_call_1 4 rfl rfl)
theorem dX4_call_29 : decode cX4_call 29 = .ok (.getfield 7, 3) := dk_180 0 7 (dk_at dksX4_call_1 5 rfl rfl)
theorem dX4_call_32 : decode cX4_call 32 = .ok (.bipush 9, 2) := dk_16 9 (dk_at dksX4_call_1 8 rfl rfl)
theorem dX4_call_34 : decode cX4_call 34 = .ok (.iaload, 1) := dk_46 (dk_at dksX4_call_1 10 rfl rfl)
theorem dX4_call_35 : decode cX4_call 35 = .ok (.iconst 1, 1) := dk_4 (dk_at dksX4_call_1 11 rfl rfl)
theorem dX4_call_36 : decode cX4_call 36 = .ok (.isub, 1) := dk_100 (dk_at dksX4_call_1 12 rfl rfl)
theorem dX4_call_37 : decode cX4_call 37 = .ok (.ireturn, 1) := dk_172 (dk_at dksX4_call_1 13 rfl rfl)
abbrev cX4_against : ByteArray := prog_16_method_28_code
def yX4_against : MethodName := ⟨RX4, "against", "(III)I"⟩
def dkwX4_against_2 : List UInt8 := [16, 9, 46, 16, 40, 160, 0, 8, 16, 253, 167, 0, 4, 3, 172]
abbrev dktX4_against_2 : List UInt8 := dkwX4_against_2 ++ []
def dkwX4_against_1 : List UInt8 := [154, 0, 6, 16, 254, 172, 42, 27, 182, 0, 78, 16, 251, 159, 0, 6, 16, 252, 172, 42, 180, 0, 7]
abbrev dktX4_against_1 : List UInt8 := dkwX4_against_1 ++ dktX4_against_2
def dkwX4_against_0 : List UInt8 := [42, 27, 182, 0, 75, 153, 0, 10, 28, 184, 0, 57, 154, 0, 5, 2, 172, 29, 4, 16, 12, 184, 0, 48]
abbrev dktX4_against_0 : List UInt8 := dkwX4_against_0 ++ dktX4_against_1
theorem dksX4_against_0 : cX4_against.data.toList.drop 0 = dktX4_against_0 := by decide +kernel
theorem dksX4_against_1 : cX4_against.data.toList.drop 24 = dktX4_against_1 := dk_seg dksX4_against_0 24 rfl rfl
theorem dksX4_against_2 : cX4_against.data.toList.drop 47 = dktX4_against_2 := dk_seg dksX4_against_1 23 rfl rfl
theorem dX4_against_0 : decode cX4_against 0 = .ok (.aload_n 0, 1) := dk_42 (dk_at dksX4_against_0 0 rfl rfl)
theorem dX4_against_1 : decode cX4_against 1 = .ok (.iload_n 1, 1) := dk_27 (dk_at dksX4_against_0 1 rfl rfl)
theorem dX4_against_2 : decode cX4_against 2 = .ok (.invokevirtual 75, 3) := dk_182 0 75 (dk_at dksX4_against_0 2 rfl rfl)
theorem dX4_against_5 : decode cX4_against 5 = .ok (.ifCond .eq 10, 3) := dk_153 0 10 (dk_at dksX4_against_0 5 rfl rfl)
theorem dX4_against_8 : decode cX4_against 8 = .ok (.iload_n 2, 1) := dk_28 (dk_at dksX4_against_0 8 rfl rfl)
theorem dX4_against_9 : decode cX4_against 9 = .ok (.invokestatic 57, 3) := dk_184 0 57 (dk_at dksX4_against_0 9 rfl rfl)
theorem dX4_against_12 : decode cX4_against 12 = .ok (.ifCond .ne 5, 3) := dk_154 0 5 (dk_at dksX4_against_0 12 rfl rfl)
theorem dX4_against_15 : decode cX4_against 15 = .ok (.iconst (-1), 1) := dk_2 (dk_at dksX4_against_0 15 rfl rfl)
theorem dX4_against_16 : decode cX4_against 16 = .ok (.ireturn, 1) := dk_172 (dk_at dksX4_against_0 16 rfl rfl)
theorem dX4_against_17 : decode cX4_against 17 = .ok (.iload_n 3, 1) := dk_29 (dk_at dksX4_against_0 17 rfl rfl)
theorem dX4_against_18 : decode cX4_against 18 = .ok (.iconst 1, 1) := dk_4 (dk_at dksX4_against_0 18 rfl rfl)
theorem dX4_against_19 : decode cX4_against 19 = .ok (.bipush 12, 2) := dk_16 12 (dk_at dksX4_against_0 19 rfl rfl)
theorem dX4_against_21 : decode cX4_against 21 = .ok (.invokestatic 48, 3) := dk_184 0 48 (dk_at dksX4_against_0 21 rfl rfl)
theorem dX4_against_24 : decode cX4_against 24 = .ok (.ifCond .ne 6, 3) := dk_154 0 6 (dk_at dksX4_against_1 0 rfl rfl)
theorem dX4_against_27 : decode cX4_against 27 = .ok (.bipush (-2), 2) := dk_16 254 (dk_at dksX4_against_1 3 rfl rfl)
theorem dX4_against_29 : decode cX4_against 29 = .ok (.ireturn, 1) := dk_172 (dk_at dksX4_against_1 5 rfl rfl)
theorem dX4_against_30 : decode cX4_against 30 = .ok (.aload_n 0, 1) := dk_42 (dk_at dksX4_against_1 6 rfl rfl)
theorem dX4_against_31 : decode cX4_against 31 = .ok (.iload_n 1, 1) := dk_27 (dk_at dksX4_against_1 7 rfl rfl)
theorem dX4_against_32 : decode cX4_against 32 = .ok (.invokevirtual 78, 3) := dk_182 0 78 (dk_at dksX4_against_1 8 rfl rfl)
theorem dX4_against_35 : decode cX4_against 35 = .ok (.bipush (-5), 2) := dk_16 251 (dk_at dksX4_against_1 11 rfl rfl)
theorem dX4_against_37 : decode cX4_against 37 = .ok (.if_icmp .eq 6, 3) := dk_159 0 6 (dk_at dksX4_against_1 13 rfl rfl)
theorem dX4_against_40 : decode cX4_against 40 = .ok (.bipush (-4), 2) := dk_16 252 (dk_at dksX4_against_1 16 rfl rfl)
theorem dX4_against_42 : decode cX4_against 42 = .ok (.ireturn, 1) := dk_172 (dk_at dksX4_against_1 18 rfl rfl)
theorem dX4_against_43 : decode cX4_against 43 = .ok (.aload_n 0, 1) := dk_42 (dk_at dksX4_against_1 19 rfl rfl)
theorem dX4_against_44 : decode cX4_against 44 = .ok (.getfield 7, 3) := dk_180 0 7 (dk_at dksX4_against_1 20 rfl rfl)
theorem dX4_against_47 : decode cX4_against 47 = .ok (.bipush 9, 2) := dk_16 9 (dk_at dksX4_against_2 0 rfl rfl)
theorem dX4_against_49 : decode cX4_against 49 = .ok (.iaload, 1) := dk_46 (dk_at dksX4_against_2 2 rfl rfl)
theorem dX4_against_50 : decode cX4_against 50 = .ok (.bipush 40, 2) := dk_16 40 (dk_at dksX4_against_2 3 rfl rfl)
theorem dX4_against_52 : decode cX4_against 52 = .ok (.if_icmp .ne 8, 3) := dk_160 0 8 (dk_at dksX4_against_2 5 rfl rfl)
theorem dX4_against_55 : decode cX4_against 55 = .ok (.bipush (-3), 2) := dk_16 253 (dk_at dksX4_against_2 8 rfl rfl)
theorem dX4_against_57 : decode cX4_against 57 = .ok (.goto 4, 3) := dk_167 0 4 (dk_at dksX4_against_2 10 rfl rfl)
theorem dX4_against_60 : decode cX4_against 60 = .ok (.iconst 0, 1) := dk_3 (dk_at dksX4_against_2 13 rfl rfl)
theorem dX4_against_61 : decode cX4_against 61 = .ok (.ireturn, 1) := dk_172 (dk_at dksX4_against_2 14 rfl rfl)
abbrev cX4_isMember : ByteArray := prog_16_method_7_code
def yX4_isMember : MethodName := ⟨RX4, "isMember", "(I)Z"⟩
def dkwX4_isMember_0 : List UInt8 := [27, 3, 42, 180, 0, 7, 16, 6, 46, 4, 100, 184, 0, 48, 172]
abbrev dktX4_isMember_0 : List UInt8 := dkwX4_isMember_0 ++ []
theorem dksX4_isMember_0 : cX4_isMember.data.toList.drop 0 = dktX4_isMember_0 := by decide +kernel
theorem dX4_isMember_0 : decode cX4_isMember 0 = .ok (.iload_n 1, 1) := dk_27 (dk_at dksX4_isMember_0 0 rfl rfl)
theorem dX4_isMember_1 : decode cX4_isMember 1 = .ok (.iconst 0, 1) := dk_3 (dk_at dksX4_isMember_0 1 rfl rfl)
theorem dX4_isMember_2 : decode cX4_isMember 2 = .ok (.aload_n 0, 1) := dk_42 (dk_at dksX4_isMember_0 2 rfl rfl)
theorem dX4_isMember_3 : decode cX4_isMember 3 = .ok (.getfield 7, 3) := dk_180 0 7 (dk_at dksX4_isMember_0 3 rfl rfl)
theorem dX4_isMember_6 : decode cX4_isMember 6 = .ok (.bipush 6, 2) := dk_16 6 (dk_at dksX4_isMember_0 6 rfl rfl)
theorem dX4_isMember_8 : decode cX4_isMember 8 = .ok (.iaload, 1) := dk_46 (dk_at dksX4_isMember_0 8 rfl rfl)
theorem dX4_isMember_9 : decode cX4_isMember 9 = .ok (.iconst 1, 1) := dk_4 (dk_at dksX4_isMember_0 9 rfl rfl)
theorem dX4_isMember_10 : decode cX4_isMember 10 = .ok (.isub, 1) := dk_100 (dk_at dksX4_isMember_0 10 rfl rfl)
theorem dX4_isMember_11 : decode cX4_isMember 11 = .ok (.invokestatic 48, 3) := dk_184 0 48 (dk_at dksX4_isMember_0 11 rfl rfl)
theorem dX4_isMember_14 : decode cX4_isMember 14 = .ok (.ireturn, 1) := dk_172 (dk_at dksX4_isMember_0 14 rfl rfl)
abbrev cX4_openOf : ByteArray := prog_16_method_27_code
def yX4_openOf : MethodName := ⟨RX4, "openOf", "(I)I"⟩
def dkwX4_openOf_1 : List UInt8 := [28, 8, 182, 0, 72, 8, 162, 0, 5, 28, 172, 132, 2, 1, 167, 255, 220, 16, 251, 172]
abbrev dktX4_openOf_1 : List UInt8 := dkwX4_openOf_1 ++ []
def dkwX4_openOf_0 : List UInt8 := [3, 61, 28, 42, 180, 0, 7, 16, 9, 46, 162, 0, 31, 42, 28, 3, 182, 0, 72, 27, 160, 0, 15, 42]
abbrev dktX4_openOf_0 : List UInt8 := dkwX4_openOf_0 ++ dktX4_openOf_1
theorem dksX4_openOf_0 : cX4_openOf.data.toList.drop 0 = dktX4_openOf_0 := by decide +kernel
theorem dksX4_openOf_1 : cX4_openOf.data.toList.drop 24 = dktX4_openOf_1 := dk_seg dksX4_openOf_0 24 rfl rfl
theorem dX4_openOf_0 : decode cX4_openOf 0 = .ok (.iconst 0, 1) := dk_3 (dk_at dksX4_openOf_0 0 rfl rfl)
theorem dX4_openOf_1 : decode cX4_openOf 1 = .ok (.istore_n 2, 1) := dk_61 (dk_at dksX4_openOf_0 1 rfl rfl)
theorem dX4_openOf_2 : decode cX4_openOf 2 = .ok (.iload_n 2, 1) := dk_28 (dk_at dksX4_openOf_0 2 rfl rfl)
theorem dX4_openOf_3 : decode cX4_openOf 3 = .ok (.aload_n 0, 1) := dk_42 (dk_at dksX4_openOf_0 3 rfl rfl)
theorem dX4_openOf_4 : decode cX4_openOf 4 = .ok (.getfield 7, 3) := dk_180 0 7 (dk_at dksX4_openOf_0 4 rfl rfl)
theorem dX4_openOf_7 : decode cX4_openOf 7 = .ok (.bipush 9, 2) := dk_16 9 (dk_at dksX4_openOf_0 7 rfl rfl)
theorem dX4_openOf_9 : decode cX4_openOf 9 = .ok (.iaload, 1) := dk_46 (dk_at dksX4_openOf_0 9 rfl rfl)
theorem dX4_openOf_10 : decode cX4_openOf 10 = .ok (.if_icmp .ge 31, 3) := dk_162 0 31 (dk_at dksX4_openOf_0 10 rfl rfl)
theorem dX4_openOf_13 : decode cX4_openOf 13 = .ok (.aload_n 0, 1) := dk_42 (dk_at dksX4_openOf_0 13 rfl rfl)
theorem dX4_openOf_14 : decode cX4_openOf 14 = .ok (.iload_n 2, 1) := dk_28 (dk_at dksX4_openOf_0 14 rfl rfl)
theorem dX4_openOf_15 : decode cX4_openOf 15 = .ok (.iconst 0, 1) := dk_3 (dk_at dksX4_openOf_0 15 rfl rfl)
theorem dX4_openOf_16 : decode cX4_openOf 16 = .ok (.invokevirtual 72, 3) := dk_182 0 72 (dk_at dksX4_openOf_0 16 rfl rfl)
theorem dX4_openOf_19 : decode cX4_openOf 19 = .ok (.iload_n 1, 1) := dk_27 (dk_at dksX4_openOf_0 19 rfl rfl)
theorem dX4_openOf_20 : decode cX4_openOf 20 = .ok (.if_icmp .ne 15, 3) := dk_160 0 15 (dk_at dksX4_openOf_0 20 rfl rfl)
theorem dX4_openOf_23 : decode cX4_openOf 23 = .ok (.aload_n 0, 1) := dk_42 (dk_at dksX4_openOf_0 23 rfl rfl)
theorem dX4_openOf_24 : decode cX4_openOf 24 = .ok (.iload_n 2, 1) := dk_28 (dk_at dksX4_openOf_1 0 rfl rfl)
theorem dX4_openOf_25 : decode cX4_openOf 25 = .ok (.iconst 5, 1) := dk_8 (dk_at dksX4_openOf_1 1 rfl rfl)
theorem dX4_openOf_26 : decode cX4_openOf 26 = .ok (.invokevirtual 72, 3) := dk_182 0 72 (dk_at dksX4_openOf_1 2 rfl rfl)
theorem dX4_openOf_29 : decode cX4_openOf 29 = .ok (.iconst 5, 1) := dk_8 (dk_at dksX4_openOf_1 5 rfl rfl)
theorem dX4_openOf_30 : decode cX4_openOf 30 = .ok (.if_icmp .ge 5, 3) := dk_162 0 5 (dk_at dksX4_openOf_1 6 rfl rfl)
theorem dX4_openOf_33 : decode cX4_openOf 33 = .ok (.iload_n 2, 1) := dk_28 (dk_at dksX4_openOf_1 9 rfl rfl)
theorem dX4_openOf_34 : decode cX4_openOf 34 = .ok (.ireturn, 1) := dk_172 (dk_at dksX4_openOf_1 10 rfl rfl)
theorem dX4_openOf_35 : decode cX4_openOf 35 = .ok (.iinc 2 1, 3) := dk_132 2 1 (dk_at dksX4_openOf_1 11 rfl rfl)
theorem dX4_openOf_38 : decode cX4_openOf 38 = .ok (.goto (-36), 3) := dk_167 255 220 (dk_at dksX4_openOf_1 14 rfl rfl)
theorem dX4_openOf_41 : decode cX4_openOf 41 = .ok (.bipush (-5), 2) := dk_16 251 (dk_at dksX4_openOf_1 17 rfl rfl)
theorem dX4_openOf_43 : decode cX4_openOf 43 = .ok (.ireturn, 1) := dk_172 (dk_at dksX4_openOf_1 19 rfl rfl)
abbrev cX4_ofCall : ByteArray := prog_16_method_16_code
def yX4_ofCall : MethodName := ⟨RX4, "ofCall", "(II)I"⟩
def dkwX4_ofCall_0 : List UInt8 := [42, 180, 0, 7, 17, 1, 34, 16, 13, 27, 104, 96, 28, 96, 46, 172]
abbrev dktX4_ofCall_0 : List UInt8 := dkwX4_ofCall_0 ++ []
theorem dksX4_ofCall_0 : cX4_ofCall.data.toList.drop 0 = dktX4_ofCall_0 := by decide +kernel
theorem dX4_ofCall_0 : decode cX4_ofCall 0 = .ok (.aload_n 0, 1) := dk_42 (dk_at dksX4_ofCall_0 0 rfl rfl)
theorem dX4_ofCall_1 : decode cX4_ofCall 1 = .ok (.getfield 7, 3) := dk_180 0 7 (dk_at dksX4_ofCall_0 1 rfl rfl)
theorem dX4_ofCall_4 : decode cX4_ofCall 4 = .ok (.sipush 290, 3) := dk_17 1 34 (dk_at dksX4_ofCall_0 4 rfl rfl)
theorem dX4_ofCall_7 : decode cX4_ofCall 7 = .ok (.bipush 13, 2) := dk_16 13 (dk_at dksX4_ofCall_0 7 rfl rfl)
theorem dX4_ofCall_9 : decode cX4_ofCall 9 = .ok (.iload_n 1, 1) := dk_27 (dk_at dksX4_ofCall_0 9 rfl rfl)
theorem dX4_ofCall_10 : decode cX4_ofCall 10 = .ok (.imul, 1) := dk_104 (dk_at dksX4_ofCall_0 10 rfl rfl)
theorem dX4_ofCall_11 : decode cX4_ofCall 11 = .ok (.iadd, 1) := dk_96 (dk_at dksX4_ofCall_0 11 rfl rfl)
theorem dX4_ofCall_12 : decode cX4_ofCall 12 = .ok (.iload_n 2, 1) := dk_28 (dk_at dksX4_ofCall_0 12 rfl rfl)
theorem dX4_ofCall_13 : decode cX4_ofCall 13 = .ok (.iadd, 1) := dk_96 (dk_at dksX4_ofCall_0 13 rfl rfl)
theorem dX4_ofCall_14 : decode cX4_ofCall 14 = .ok (.iaload, 1) := dk_46 (dk_at dksX4_ofCall_0 14 rfl rfl)
theorem dX4_ofCall_15 : decode cX4_ofCall 15 = .ok (.ireturn, 1) := dk_172 (dk_at dksX4_ofCall_0 15 rfl rfl)
abbrev cX4_comes : ByteArray := prog_16_method_29_code
def yX4_comes : MethodName := ⟨RX4, "comes", "(III)V"⟩
def dkwX4_comes_12 : List UInt8 := [96, 79, 177]
abbrev dktX4_comes_12 : List UInt8 := dkwX4_comes_12 ++ []
def dkwX4_comes_11 : List UInt8 := [182, 0, 88, 4, 96, 182, 0, 64, 42, 27, 5, 4, 182, 0, 91, 42, 180, 0, 7, 16, 12, 92, 46, 4]
abbrev dktX4_comes_11 : List UInt8 := dkwX4_comes_11 ++ dktX4_comes_12
def dkwX4_comes_10 : List UInt8 := [182, 0, 72, 54, 6, 42, 21, 4, 16, 10, 4, 182, 0, 82, 42, 21, 6, 16, 9, 42, 21, 6, 16, 9]
abbrev dktX4_comes_10 : List UInt8 := dkwX4_comes_10 ++ dktX4_comes_11
def dkwX4_comes_9 : List UInt8 := [180, 0, 7, 3, 46, 42, 21, 5, 16, 9, 182, 0, 72, 100, 16, 120, 163, 0, 58, 42, 21, 5, 16, 8]
abbrev dktX4_comes_9 : List UInt8 := dkwX4_comes_9 ++ dktX4_comes_10
def dkwX4_comes_8 : List UInt8 := [16, 251, 182, 0, 82, 42, 180, 0, 7, 16, 9, 92, 46, 4, 96, 79, 21, 5, 16, 251, 159, 0, 78, 42]
abbrev dktX4_comes_8 : List UInt8 := dkwX4_comes_8 ++ dktX4_comes_9
def dkwX4_comes_7 : List UInt8 := [21, 4, 16, 9, 16, 251, 182, 0, 82, 42, 21, 4, 16, 10, 3, 182, 0, 82, 42, 21, 4, 16, 11]
abbrev dktX4_comes_7 : List UInt8 := dkwX4_comes_7 ++ dktX4_comes_8
def dkwX4_comes_6 : List UInt8 := [182, 0, 82, 42, 21, 4, 16, 7, 3, 182, 0, 82, 42, 21, 4, 16, 8, 16, 251, 182, 0, 82, 42]
abbrev dktX4_comes_6 : List UInt8 := dkwX4_comes_6 ++ dktX4_comes_7
def dkwX4_comes_5 : List UInt8 := [180, 0, 7, 3, 46, 182, 0, 82, 42, 21, 4, 8, 3, 182, 0, 82, 42, 21, 4, 16, 6, 16, 251]
abbrev dktX4_comes_5 : List UInt8 := dkwX4_comes_5 ++ dktX4_comes_6
def dkwX4_comes_4 : List UInt8 := [3, 182, 0, 85, 96, 46, 16, 10, 42, 180, 0, 7, 4, 46, 104, 96, 182, 0, 82, 42, 21, 4, 7, 42]
abbrev dktX4_comes_4 : List UInt8 := dkwX4_comes_4 ++ dktX4_comes_5
def dkwX4_comes_3 : List UInt8 := [4, 28, 182, 0, 82, 42, 21, 4, 5, 29, 182, 0, 82, 42, 21, 4, 6, 42, 180, 0, 7, 5, 42, 27]
abbrev dktX4_comes_3 : List UInt8 := dkwX4_comes_3 ++ dktX4_comes_4
def dkwX4_comes_2 : List UInt8 := [167, 0, 5, 21, 5, 54, 5, 132, 6, 1, 167, 255, 215, 42, 21, 4, 3, 27, 182, 0, 82, 42, 21, 4]
abbrev dktX4_comes_2 : List UInt8 := dkwX4_comes_2 ++ dktX4_comes_3
def dkwX4_comes_1 : List UInt8 := [21, 6, 3, 182, 0, 72, 27, 160, 0, 19, 42, 21, 6, 8, 182, 0, 72, 8, 160, 0, 8, 21, 6]
abbrev dktX4_comes_1 : List UInt8 := dkwX4_comes_1 ++ dktX4_comes_2
def dkwX4_comes_0 : List UInt8 := [42, 180, 0, 7, 16, 9, 46, 54, 4, 16, 251, 54, 5, 3, 54, 6, 21, 6, 21, 4, 162, 0, 40, 42]
abbrev dktX4_comes_0 : List UInt8 := dkwX4_comes_0 ++ dktX4_comes_1
theorem dksX4_comes_0 : cX4_comes.data.toList.drop 0 = dktX4_comes_0 := by decide +kernel
theorem dksX4_comes_1 : cX4_comes.data.toList.drop 24 = dktX4_comes_1 := dk_seg dksX4_comes_0 24 rfl rfl
theorem dksX4_comes_2 : cX4_comes.data.toList.drop 47 = dktX4_comes_2 := dk_seg dksX4_comes_1 23 rfl rfl
theorem dksX4_comes_3 : cX4_comes.data.toList.drop 71 = dktX4_comes_3 := dk_seg dksX4_comes_2 24 rfl rfl
theorem dksX4_comes_4 : cX4_comes.data.toList.drop 95 = dktX4_comes_4 := dk_seg dksX4_comes_3 24 rfl rfl
theorem dksX4_comes_5 : cX4_comes.data.toList.drop 119 = dktX4_comes_5 := dk_seg dksX4_comes_4 24 rfl rfl
theorem dksX4_comes_6 : cX4_comes.data.toList.drop 142 = dktX4_comes_6 := dk_seg dksX4_comes_5 23 rfl rfl
theorem dksX4_comes_7 : cX4_comes.data.toList.drop 165 = dktX4_comes_7 := dk_seg dksX4_comes_6 23 rfl rfl
theorem dksX4_comes_8 : cX4_comes.data.toList.drop 188 = dktX4_comes_8 := dk_seg dksX4_comes_7 23 rfl rfl
theorem dksX4_comes_9 : cX4_comes.data.toList.drop 212 = dktX4_comes_9 := dk_seg dksX4_comes_8 24 rfl rfl
theorem dksX4_comes_10 : cX4_comes.data.toList.drop 236 = dktX4_comes_10 := dk_seg dksX4_comes_9 24 rfl rfl
theorem dksX4_comes_11 : cX4_comes.data.toList.drop 260 = dktX4_comes_11 := dk_seg dksX4_comes_10 24 rfl rfl
theorem dksX4_comes_12 : cX4_comes.data.toList.drop 284 = dktX4_comes_12 := dk_seg dksX4_comes_11 24 rfl rfl
theorem dX4_comes_0 : decode cX4_comes 0 = .ok (.aload_n 0, 1) := dk_42 (dk_at dksX4_comes_0 0 rfl rfl)
theorem dX4_comes_1 : decode cX4_comes 1 = .ok (.getfield 7, 3) := dk_180 0 7 (dk_at dksX4_comes_0 1 rfl rfl)
theorem dX4_comes_4 : decode cX4_comes 4 = .ok (.bipush 9, 2) := dk_16 9 (dk_at dksX4_comes_0 4 rfl rfl)
theorem dX4_comes_6 : decode cX4_comes 6 = .ok (.iaload, 1) := dk_46 (dk_at dksX4_comes_0 6 rfl rfl)
theorem dX4_comes_7 : decode cX4_comes 7 = .ok (.istore 4, 2) := dk_54 4 (dk_at dksX4_comes_0 7 rfl rfl)
theorem dX4_comes_9 : decode cX4_comes 9 = .ok (.bipush (-5), 2) := dk_16 251 (dk_at dksX4_comes_0 9 rfl rfl)
theorem dX4_comes_11 : decode cX4_comes 11 = .ok (.istore 5, 2) := dk_54 5 (dk_at dksX4_comes_0 11 rfl rfl)
theorem dX4_comes_13 : decode cX4_comes 13 = .ok (.iconst 0, 1) := dk_3 (dk_at dksX4_comes_0 13 rfl rfl)
theorem dX4_comes_14 : decode cX4_comes 14 = .ok (.istore 6, 2) := dk_54 6 (dk_at dksX4_comes_0 14 rfl rfl)
theorem dX4_comes_16 : decode cX4_comes 16 = .ok (.iload 6, 2) := dk_21 6 (dk_at dksX4_comes_0 16 rfl rfl)
theorem dX4_comes_18 : decode cX4_comes 18 = .ok (.iload 4, 2) := dk_21 4 (dk_at dksX4_comes_0 18 rfl rfl)
theorem dX4_comes_20 : decode cX4_comes 20 = .ok (.if_icmp .ge 40, 3) := dk_162 0 40 (dk_at dksX4_comes_0 20 rfl rfl)
theorem dX4_comes_23 : decode cX4_comes 23 = .ok (.aload_n 0, 1) := dk_42 (dk_at dksX4_comes_0 23 rfl rfl)
theorem dX4_comes_24 : decode cX4_comes 24 = .ok (.iload 6, 2) := dk_21 6 (dk_at dksX4_comes_1 0 rfl rfl)
theorem dX4_comes_26 : decode cX4_comes 26 = .ok (.iconst 0, 1) := dk_3 (dk_at dksX4_comes_1 2 rfl rfl)
theorem dX4_comes_27 : decode cX4_comes 27 = .ok (.invokevirtual 72, 3) := dk_182 0 72 (dk_at dksX4_comes_1 3 rfl rfl)
theorem dX4_comes_30 : decode cX4_comes 30 = .ok (.iload_n 1, 1) := dk_27 (dk_at dksX4_comes_1 6 rfl rfl)
theorem dX4_comes_31 : decode cX4_comes 31 = .ok (.if_icmp .ne 19, 3) := dk_160 0 19 (dk_at dksX4_comes_1 7 rfl rfl)
theorem dX4_comes_34 : decode cX4_comes 34 = .ok (.aload_n 0, 1) := dk_42 (dk_at dksX4_comes_1 10 rfl rfl)
theorem dX4_comes_35 : decode cX4_comes 35 = .ok (.iload 6, 2) := dk_21 6 (dk_at dksX4_comes_1 11 rfl rfl)
theorem dX4_comes_37 : decode cX4_comes 37 = .ok (.iconst 5, 1) := dk_8 (dk_at dksX4_comes_1 13 rfl rfl)
theorem dX4_comes_38 : decode cX4_comes 38 = .ok (.invokevirtual 72, 3) := dk_182 0 72 (dk_at dksX4_comes_1 14 rfl rfl)
theorem dX4_comes_41 : decode cX4_comes 41 = .ok (.iconst 5, 1) := dk_8 (dk_at dksX4_comes_1 17 rfl rfl)
theorem dX4_comes_42 : decode cX4_comes 42 = .ok (.if_icmp .ne 8, 3) := dk_160 0 8 (dk_at dksX4_comes_1 18 rfl rfl)
theorem dX4_comes_45 : decode cX4_comes 45 = .ok (.iload 6, 2) := dk_21 6 (dk_at dksX4_comes_1 21 rfl rfl)
theorem dX4_comes_47 : decode cX4_comes 47 = .ok (.goto 5, 3) := dk_167 0 5 (dk_at dksX4_comes_2 0 rfl rfl)
theorem dX4_comes_50 : decode cX4_comes 50 = .ok (.iload 5, 2) := dk_21 5 (dk_at dksX4_comes_2 3 rfl rfl)
theorem dX4_comes_52 : decode cX4_comes 52 = .ok (.istore 5, 2) := dk_54 5 (dk_at dksX4_comes_2 5 rfl rfl)
theorem dX4_comes_54 : decode cX4_comes 54 = .ok (.iinc 6 1, 3) := dk_132 6 1 (dk_at dksX4_comes_2 7 rfl rfl)
theorem dX4_comes_57 : decode cX4_comes 57 = .ok (.goto (-41), 3) := dk_167 255 215 (dk_at dksX4_comes_2 10 rfl rfl)
theorem dX4_comes_60 : decode cX4_comes 60 = .ok (.aload_n 0, 1) := dk_42 (dk_at dksX4_comes_2 13 rfl rfl)
theorem dX4_comes_61 : decode cX4_comes 61 = .ok (.iload 4, 2) := dk_21 4 (dk_at dksX4_comes_2 14 rfl rfl)
theorem dX4_comes_63 : decode cX4_comes 63 = .ok (.iconst 0, 1) := dk_3 (dk_at dksX4_comes_2 16 rfl rfl)
theorem dX4_comes_64 : decode cX4_comes 64 = .ok (.iload_n 1, 1) := dk_27 (dk_at dksX4_comes_2 17 rfl rfl)
theorem dX4_comes_65 : decode cX4_comes 65 = .ok (.invokevirtual 82, 3) := dk_182 0 82 (dk_at dksX4_comes_2 18 rfl rfl)
theorem dX4_comes_68 : decode cX4_comes 68 = .ok (.aload_n 0, 1) := dk_42 (dk_at dksX4_comes_2 21 rfl rfl)
theorem dX4_comes_69 : decode cX4_comes 69 = .ok (.iload 4, 2) := dk_21 4 (dk_at dksX4_comes_2 22 rfl rfl)
theorem dX4_comes_71 : decode cX4_comes 71 = .ok (.iconst 1, 1) := dk_4 (dk_at dksX4_comes_3 0 rfl rfl)
theorem dX4_comes_72 : decode cX4_comes 72 = .ok (.iload_n 2, 1) := dk_28 (dk_at dksX4_comes_3 1 rfl rfl)
theorem dX4_comes_73 : decode cX4_comes 73 = .ok (.invokevirtual 82, 3) := dk_182 0 82 (dk_at dksX4_comes_3 2 rfl rfl)
theorem dX4_comes_76 : decode cX4_comes 76 = .ok (.aload_n 0, 1) := dk_42 (dk_at dksX4_comes_3 5 rfl rfl)
theorem dX4_comes_77 : decode cX4_comes 77 = .ok (.iload 4, 2) := dk_21 4 (dk_at dksX4_comes_3 6 rfl rfl)
theorem dX4_comes_79 : decode cX4_comes 79 = .ok (.iconst 2, 1) := dk_5 (dk_at dksX4_comes_3 8 rfl rfl)
theorem dX4_comes_80 : decode cX4_comes 80 = .ok (.iload_n 3, 1) := dk_29 (dk_at dksX4_comes_3 9 rfl rfl)
theorem dX4_comes_81 : decode cX4_comes 81 = .ok (.invokevirtual 82, 3) := dk_182 0 82 (dk_at dksX4_comes_3 10 rfl rfl)
theorem dX4_comes_84 : decode cX4_comes 84 = .ok (.aload_n 0, 1) := dk_42 (dk_at dksX4_comes_3 13 rfl rfl)
theorem dX4_comes_85 : decode cX4_comes 85 = .ok (.iload 4, 2) := dk_21 4 (dk_at dksX4_comes_3 14 rfl rfl)
theorem dX4_comes_87 : decode cX4_comes 87 = .ok (.iconst 3, 1) := dk_6 (dk_at dksX4_comes_3 16 rfl rfl)
theorem dX4_comes_88 : decode cX4_comes 88 = .ok (.aload_n 0, 1) := dk_42 (dk_at dksX4_comes_3 17 rfl rfl)
theorem dX4_comes_89 : decode cX4_comes 89 = .ok (.getfield 7, 3) := dk_180 0 7 (dk_at dksX4_comes_3 18 rfl rfl)
theorem dX4_comes_92 : decode cX4_comes 92 = .ok (.iconst 2, 1) := dk_5 (dk_at dksX4_comes_3 21 rfl rfl)
theorem dX4_comes_93 : decode cX4_comes 93 = .ok (.aload_n 0, 1) := dk_42 (dk_at dksX4_comes_3 22 rfl rfl)
theorem dX4_comes_94 : decode cX4_comes 94 = .ok (.iload_n 1, 1) := dk_27 (dk_at dksX4_comes_3 23 rfl rfl)
theorem dX4_comes_95 : decode cX4_comes 95 = .ok (.iconst 0, 1) := dk_3 (dk_at dksX4_comes_4 0 rfl rfl)
theorem dX4_comes_96 : decode cX4_comes 96 = .ok (.invokevirtual 85, 3) := dk_182 0 85 (dk_at dksX4_comes_4 1 rfl rfl)
theorem dX4_comes_99 : decode cX4_comes 99 = .ok (.iadd, 1) := dk_96 (dk_at dksX4_comes_4 4 rfl rfl)
theorem dX4_comes_100 : decode cX4_comes 100 = .ok (.iaload, 1) := dk_46 (dk_at dksX4_comes_4 5 rfl rfl)
theorem dX4_comes_101 : decode cX4_comes 101 = .ok (.bipush 10, 2) := dk_16 10 (dk_at dksX4_comes_4 6 rfl rfl)
theorem dX4_comes_103 : decode cX4_comes 103 = .ok (.aload_n 0, 1) := dk_42 (dk_at dksX4_comes_4 8 rfl rfl)
theorem dX4_comes_104 : decode cX4_comes 104 = .ok (.getfield 7, 3) := dk_180 0 7 (dk_at dksX4_comes_4 9 rfl rfl)
theorem dX4_comes_107 : decode cX4_comes 107 = .ok (.iconst 1, 1) := dk_4 (dk_at dksX4_comes_4 12 rfl rfl)
theorem dX4_comes_108 : decode cX4_comes 108 = .ok (.iaload, 1) := dk_46 (dk_at dksX4_comes_4 13 rfl rfl)
theorem dX4_comes_109 : decode cX4_comes 109 = .ok (.imul, 1) := dk_104 (dk_at dksX4_comes_4 14 rfl rfl)
theorem dX4_comes_110 : decode cX4_comes 110 = .ok (.iadd, 1) := dk_96 (dk_at dksX4_comes_4 15 rfl rfl)
theorem dX4_comes_111 : decode cX4_comes 111 = .ok (.invokevirtual 82, 3) := dk_182 0 82 (dk_at dksX4_comes_4 16 rfl rfl)
theorem dX4_comes_114 : decode cX4_comes 114 = .ok (.aload_n 0, 1) := dk_42 (dk_at dksX4_comes_4 19 rfl rfl)
theorem dX4_comes_115 : decode cX4_comes 115 = .ok (.iload 4, 2) := dk_21 4 (dk_at dksX4_comes_4 20 rfl rfl)
theorem dX4_comes_117 : decode cX4_comes 117 = .ok (.iconst 4, 1) := dk_7 (dk_at dksX4_comes_4 22 rfl rfl)
theorem dX4_comes_118 : decode cX4_comes 118 = .ok (.aload_n 0, 1) := dk_42 (dk_at dksX4_comes_4 23 rfl rfl)
theorem dX4_comes_119 : decode cX4_comes 119 = .ok (.getfield 7, 3) := dk_180 0 7 (dk_at dksX4_comes_5 0 rfl rfl)
theorem dX4_comes_122 : decode cX4_comes 122 = .ok (.iconst 0, 1) := dk_3 (dk_at dksX4_comes_5 3 rfl rfl)
theorem dX4_comes_123 : decode cX4_comes 123 = .ok (.iaload, 1) := dk_46 (dk_at dksX4_comes_5 4 rfl rfl)
theorem dX4_comes_124 : decode cX4_comes 124 = .ok (.invokevirtual 82, 3) := dk_182 0 82 (dk_at dksX4_comes_5 5 rfl rfl)
theorem dX4_comes_127 : decode cX4_comes 127 = .ok (.aload_n 0, 1) := dk_42 (dk_at dksX4_comes_5 8 rfl rfl)
theorem dX4_comes_128 : decode cX4_comes 128 = .ok (.iload 4, 2) := dk_21 4 (dk_at dksX4_comes_5 9 rfl rfl)
theorem dX4_comes_130 : decode cX4_comes 130 = .ok (.iconst 5, 1) := dk_8 (dk_at dksX4_comes_5 11 rfl rfl)
theorem dX4_comes_131 : decode cX4_comes 131 = .ok (.iconst 0, 1) := dk_3 (dk_at dksX4_comes_5 12 rfl rfl)
theorem dX4_comes_132 : decode cX4_comes 132 = .ok (.invokevirtual 82, 3) := dk_182 0 82 (dk_at dksX4_comes_5 13 rfl rfl)
theorem dX4_comes_135 : decode cX4_comes 135 = .ok (.aload_n 0, 1) := dk_42 (dk_at dksX4_comes_5 16 rfl rfl)
theorem dX4_comes_136 : decode cX4_comes 136 = .ok (.iload 4, 2) := dk_21 4 (dk_at dksX4_comes_5 17 rfl rfl)
theorem dX4_comes_138 : decode cX4_comes 138 = .ok (.bipush 6, 2) := dk_16 6 (dk_at dksX4_comes_5 19 rfl rfl)
theorem dX4_comes_140 : decode cX4_comes 140 = .ok (.bipush (-5), 2) := dk_16 251 (dk_at dksX4_comes_5 21 rfl rfl)
theorem dX4_comes_142 : decode cX4_comes 142 = .ok (.invokevirtual 82, 3) := dk_182 0 82 (dk_at dksX4_comes_6 0 rfl rfl)
theorem dX4_comes_145 : decode cX4_comes 145 = .ok (.aload_n 0, 1) := dk_42 (dk_at dksX4_comes_6 3 rfl rfl)
theorem dX4_comes_146 : decode cX4_comes 146 = .ok (.iload 4, 2) := dk_21 4 (dk_at dksX4_comes_6 4 rfl rfl)
theorem dX4_comes_148 : decode cX4_comes 148 = .ok (.bipush 7, 2) := dk_16 7 (dk_at dksX4_comes_6 6 rfl rfl)
theorem dX4_comes_150 : decode cX4_comes 150 = .ok (.iconst 0, 1) := dk_3 (dk_at dksX4_comes_6 8 rfl rfl)
theorem dX4_comes_151 : decode cX4_comes 151 = .ok (.invokevirtual 82, 3) := dk_182 0 82 (dk_at dksX4_comes_6 9 rfl rfl)
theorem dX4_comes_154 : decode cX4_comes 154 = .ok (.aload_n 0, 1) := dk_42 (dk_at dksX4_comes_6 12 rfl rfl)
theorem dX4_comes_155 : decode cX4_comes 155 = .ok (.iload 4, 2) := dk_21 4 (dk_at dksX4_comes_6 13 rfl rfl)
theorem dX4_comes_157 : decode cX4_comes 157 = .ok (.bipush 8, 2) := dk_16 8 (dk_at dksX4_comes_6 15 rfl rfl)
theorem dX4_comes_159 : decode cX4_comes 159 = .ok (.bipush (-5), 2) := dk_16 251 (dk_at dksX4_comes_6 17 rfl rfl)
theorem dX4_comes_161 : decode cX4_comes 161 = .ok (.invokevirtual 82, 3) := dk_182 0 82 (dk_at dksX4_comes_6 19 rfl rfl)
theorem dX4_comes_164 : decode cX4_comes 164 = .ok (.aload_n 0, 1) := dk_42 (dk_at dksX4_comes_6 22 rfl rfl)
theorem dX4_comes_165 : decode cX4_comes 165 = .ok (.iload 4, 2) := dk_21 4 (dk_at dksX4_comes_7 0 rfl rfl)
theorem dX4_comes_167 : decode cX4_comes 167 = .ok (.bipush 9, 2) := dk_16 9 (dk_at dksX4_comes_7 2 rfl rfl)
theorem dX4_comes_169 : decode cX4_comes 169 = .ok (.bipush (-5), 2) := dk_16 251 (dk_at dksX4_comes_7 4 rfl rfl)
theorem dX4_comes_171 : decode cX4_comes 171 = .ok (.invokevirtual 82, 3) := dk_182 0 82 (dk_at dksX4_comes_7 6 rfl rfl)
theorem dX4_comes_174 : decode cX4_comes 174 = .ok (.aload_n 0, 1) := dk_42 (dk_at dksX4_comes_7 9 rfl rfl)
theorem dX4_comes_175 : decode cX4_comes 175 = .ok (.iload 4, 2) := dk_21 4 (dk_at dksX4_comes_7 10 rfl rfl)
theorem dX4_comes_177 : decode cX4_comes 177 = .ok (.bipush 10, 2) := dk_16 10 (dk_at dksX4_comes_7 12 rfl rfl)
theorem dX4_comes_179 : decode cX4_comes 179 = .ok (.iconst 0, 1) := dk_3 (dk_at dksX4_comes_7 14 rfl rfl)
theorem dX4_comes_180 : decode cX4_comes 180 = .ok (.invokevirtual 82, 3) := dk_182 0 82 (dk_at dksX4_comes_7 15 rfl rfl)
theorem dX4_comes_183 : decode cX4_comes 183 = .ok (.aload_n 0, 1) := dk_42 (dk_at dksX4_comes_7 18 rfl rfl)
theorem dX4_comes_184 : decode cX4_comes 184 = .ok (.iload 4, 2) := dk_21 4 (dk_at dksX4_comes_7 19 rfl rfl)
theorem dX4_comes_186 : decode cX4_comes 186 = .ok (.bipush 11, 2) := dk_16 11 (dk_at dksX4_comes_7 21 rfl rfl)
theorem dX4_comes_188 : decode cX4_comes 188 = .ok (.bipush (-5), 2) := dk_16 251 (dk_at dksX4_comes_8 0 rfl rfl)
theorem dX4_comes_190 : decode cX4_comes 190 = .ok (.invokevirtual 82, 3) := dk_182 0 82 (dk_at dksX4_comes_8 2 rfl rfl)
theorem dX4_comes_193 : decode cX4_comes 193 = .ok (.aload_n 0, 1) := dk_42 (dk_at dksX4_comes_8 5 rfl rfl)
theorem dX4_comes_194 : decode cX4_comes 194 = .ok (.getfield 7, 3) := dk_180 0 7 (dk_at dksX4_comes_8 6 rfl rfl)
theorem dX4_comes_197 : decode cX4_comes 197 = .ok (.bipush 9, 2) := dk_16 9 (dk_at dksX4_comes_8 9 rfl rfl)
theorem dX4_comes_199 : decode cX4_comes 199 = .ok (.dup2, 1) := dk_92 (dk_at dksX4_comes_8 11 rfl rfl)
theorem dX4_comes_200 : decode cX4_comes 200 = .ok (.iaload, 1) := dk_46 (dk_at dksX4_comes_8 12 rfl rfl)
theorem dX4_comes_201 : decode cX4_comes 201 = .ok (.iconst 1, 1) := dk_4 (dk_at dksX4_comes_8 13 rfl rfl)
theorem dX4_comes_202 : decode cX4_comes 202 = .ok (.iadd, 1) := dk_96 (dk_at dksX4_comes_8 14 rfl rfl)
theorem dX4_comes_203 : decode cX4_comes 203 = .ok (.iastore, 1) := dk_79 (dk_at dksX4_comes_8 15 rfl rfl)
theorem dX4_comes_204 : decode cX4_comes 204 = .ok (.iload 5, 2) := dk_21 5 (dk_at dksX4_comes_8 16 rfl rfl)
theorem dX4_comes_206 : decode cX4_comes 206 = .ok (.bipush (-5), 2) := dk_16 251 (dk_at dksX4_comes_8 18 rfl rfl)
theorem dX4_comes_208 : decode cX4_comes 208 = .ok (.if_icmp .eq 78, 3) := dk_159 0 78 (dk_at dksX4_comes_8 20 rfl rfl)
theorem dX4_comes_211 : decode cX4_comes 211 = .ok (.aload_n 0, 1) := dk_42 (dk_at dksX4_comes_8 23 rfl rfl)
theorem dX4_comes_212 : decode cX4_comes 212 = .ok (.getfield 7, 3) := dk_180 0 7 (dk_at dksX4_comes_9 0 rfl rfl)
theorem dX4_comes_215 : decode cX4_comes 215 = .ok (.iconst 0, 1) := dk_3 (dk_at dksX4_comes_9 3 rfl rfl)
theorem dX4_comes_216 : decode cX4_comes 216 = .ok (.iaload, 1) := dk_46 (dk_at dksX4_comes_9 4 rfl rfl)
theorem dX4_comes_217 : decode cX4_comes 217 = .ok (.aload_n 0, 1) := dk_42 (dk_at dksX4_comes_9 5 rfl rfl)
theorem dX4_comes_218 : decode cX4_comes 218 = .ok (.iload 5, 2) := dk_21 5 (dk_at dksX4_comes_9 6 rfl rfl)
theorem dX4_comes_220 : decode cX4_comes 220 = .ok (.bipush 9, 2) := dk_16 9 (dk_at dksX4_comes_9 8 rfl rfl)
theorem dX4_comes_222 : decode cX4_comes 222 = .ok (.invokevirtual 72, 3) := dk_182 0 72 (dk_at dksX4_comes_9 10 rfl rfl)
theorem dX4_comes_225 : decode cX4_comes 225 = .ok (.isub, 1) := dk_100 (dk_at dksX4_comes_9 13 rfl rfl)
theorem dX4_comes_226 : decode cX4_comes 226 = .ok (.bipush 120, 2) := dk_16 120 (dk_at dksX4_comes_9 14 rfl rfl)
theorem dX4_comes_228 : decode cX4_comes 228 = .ok (.if_icmp .gt 58, 3) := dk_163 0 58 (dk_at dksX4_comes_9 16 rfl rfl)
theorem dX4_comes_231 : decode cX4_comes 231 = .ok (.aload_n 0, 1) := dk_42 (dk_at dksX4_comes_9 19 rfl rfl)
theorem dX4_comes_232 : decode cX4_comes 232 = .ok (.iload 5, 2) := dk_21 5 (dk_at dksX4_comes_9 20 rfl rfl)
theorem dX4_comes_234 : decode cX4_comes 234 = .ok (.bipush 8, 2) := dk_16 8 (dk_at dksX4_comes_9 22 rfl rfl)
theorem dX4_comes_236 : decode cX4_comes 236 = .ok (.invokevirtual 72, 3) := dk_182 0 72 (dk_at dksX4_comes_10 0 rfl rfl)
theorem dX4_comes_239 : decode cX4_comes 239 = .ok (.istore 6, 2) := dk_54 6 (dk_at dksX4_comes_10 3 rfl rfl)
theorem dX4_comes_241 : decode cX4_comes 241 = .ok (.aload_n 0, 1) := dk_42 (dk_at dksX4_comes_10 5 rfl rfl)
theorem dX4_comes_242 : decode cX4_comes 242 = .ok (.iload 4, 2) := dk_21 4 (dk_at dksX4_comes_10 6 rfl rfl)
theorem dX4_comes_244 : decode cX4_comes 244 = .ok (.bipush 10, 2) := dk_16 10 (dk_at dksX4_comes_10 8 rfl rfl)
theorem dX4_comes_246 : decode cX4_comes 246 = .ok (.iconst 1, 1) := dk_4 (dk_at dksX4_comes_10 10 rfl rfl)
theorem dX4_comes_247 : decode cX4_comes 247 = .ok (.invokevirtual 82, 3) := dk_182 0 82 (dk_at dksX4_comes_10 11 rfl rfl)
theorem dX4_comes_250 : decode cX4_comes 250 = .ok (.aload_n 0, 1) := dk_42 (dk_at dksX4_comes_10 14 rfl rfl)
theorem dX4_comes_251 : decode cX4_comes 251 = .ok (.iload 6, 2) := dk_21 6 (dk_at dksX4_comes_10 15 rfl rfl)
theorem dX4_comes_253 : decode cX4_comes 253 = .ok (.bipush 9, 2) := dk_16 9 (dk_at dksX4_comes_10 17 rfl rfl)
theorem dX4_comes_255 : decode cX4_comes 255 = .ok (.aload_n 0, 1) := dk_42 (dk_at dksX4_comes_10 19 rfl rfl)
theorem dX4_comes_256 : decode cX4_comes 256 = .ok (.iload 6, 2) := dk_21 6 (dk_at dksX4_comes_10 20 rfl rfl)
theorem dX4_comes_258 : decode cX4_comes 258 = .ok (.bipush 9, 2) := dk_16 9 (dk_at dksX4_comes_10 22 rfl rfl)
theorem dX4_comes_260 : decode cX4_comes 260 = .ok (.invokevirtual 88, 3) := dk_182 0 88 (dk_at dksX4_comes_11 0 rfl rfl)
theorem dX4_comes_263 : decode cX4_comes 263 = .ok (.iconst 1, 1) := dk_4 (dk_at dksX4_comes_11 3 rfl rfl)
theorem dX4_comes_264 : decode cX4_comes 264 = .ok (.iadd, 1) := dk_96 (dk_at dksX4_comes_11 4 rfl rfl)
theorem dX4_comes_265 : decode cX4_comes 265 = .ok (.invokevirtual 64, 3) := dk_182 0 64 (dk_at dksX4_comes_11 5 rfl rfl)
theorem dX4_comes_268 : decode cX4_comes 268 = .ok (.aload_n 0, 1) := dk_42 (dk_at dksX4_comes_11 8 rfl rfl)
theorem dX4_comes_269 : decode cX4_comes 269 = .ok (.iload_n 1, 1) := dk_27 (dk_at dksX4_comes_11 9 rfl rfl)
theorem dX4_comes_270 : decode cX4_comes 270 = .ok (.iconst 2, 1) := dk_5 (dk_at dksX4_comes_11 10 rfl rfl)
theorem dX4_comes_271 : decode cX4_comes 271 = .ok (.iconst 1, 1) := dk_4 (dk_at dksX4_comes_11 11 rfl rfl)
theorem dX4_comes_272 : decode cX4_comes 272 = .ok (.invokevirtual 91, 3) := dk_182 0 91 (dk_at dksX4_comes_11 12 rfl rfl)
theorem dX4_comes_275 : decode cX4_comes 275 = .ok (.aload_n 0, 1) := dk_42 (dk_at dksX4_comes_11 15 rfl rfl)
theorem dX4_comes_276 : decode cX4_comes 276 = .ok (.getfield 7, 3) := dk_180 0 7 (dk_at dksX4_comes_11 16 rfl rfl)
theorem dX4_comes_279 : decode cX4_comes 279 = .ok (.bipush 12, 2) := dk_16 12 (dk_at dksX4_comes_11 19 rfl rfl)
theorem dX4_comes_281 : decode cX4_comes 281 = .ok (.dup2, 1) := dk_92 (dk_at dksX4_comes_11 21 rfl rfl)
theorem dX4_comes_282 : decode cX4_comes 282 = .ok (.iaload, 1) := dk_46 (dk_at dksX4_comes_11 22 rfl rfl)
theorem dX4_comes_283 : decode cX4_comes 283 = .ok (.iconst 1, 1) := dk_4 (dk_at dksX4_comes_11 23 rfl rfl)
theorem dX4_comes_284 : decode cX4_comes 284 = .ok (.iadd, 1) := dk_96 (dk_at dksX4_comes_12 0 rfl rfl)
theorem dX4_comes_285 : decode cX4_comes 285 = .ok (.iastore, 1) := dk_79 (dk_at dksX4_comes_12 1 rfl rfl)
theorem dX4_comes_286 : decode cX4_comes 286 = .ok (.return_, 1) := dk_177 (dk_at dksX4_comes_12 2 rfl rfl)
abbrev cX4_laysCall : ByteArray := prog_16_method_17_code
def yX4_laysCall : MethodName := ⟨RX4, "laysCall", "(III)V"⟩
def dkwX4_laysCall_0 : List UInt8 := [42, 180, 0, 7, 17, 1, 34, 16, 13, 27, 104, 96, 28, 96, 29, 79, 177]
abbrev dktX4_laysCall_0 : List UInt8 := dkwX4_laysCall_0 ++ []
theorem dksX4_laysCall_0 : cX4_laysCall.data.toList.drop 0 = dktX4_laysCall_0 := by decide +kernel
theorem dX4_laysCall_0 : decode cX4_laysCall 0 = .ok (.aload_n 0, 1) := dk_42 (dk_at dksX4_laysCall_0 0 rfl rfl)
theorem dX4_laysCall_1 : decode cX4_laysCall 1 = .ok (.getfield 7, 3) := dk_180 0 7 (dk_at dksX4_laysCall_0 1 rfl rfl)
theorem dX4_laysCall_4 : decode cX4_laysCall 4 = .ok (.sipush 290, 3) := dk_17 1 34 (dk_at dksX4_laysCall_0 4 rfl rfl)
theorem dX4_laysCall_7 : decode cX4_laysCall 7 = .ok (.bipush 13, 2) := dk_16 13 (dk_at dksX4_laysCall_0 7 rfl rfl)
theorem dX4_laysCall_9 : decode cX4_laysCall 9 = .ok (.iload_n 1, 1) := dk_27 (dk_at dksX4_laysCall_0 9 rfl rfl)
theorem dX4_laysCall_10 : decode cX4_laysCall 10 = .ok (.imul, 1) := dk_104 (dk_at dksX4_laysCall_0 10 rfl rfl)
theorem dX4_laysCall_11 : decode cX4_laysCall 11 = .ok (.iadd, 1) := dk_96 (dk_at dksX4_laysCall_0 11 rfl rfl)
theorem dX4_laysCall_12 : decode cX4_laysCall 12 = .ok (.iload_n 2, 1) := dk_28 (dk_at dksX4_laysCall_0 12 rfl rfl)
theorem dX4_laysCall_13 : decode cX4_laysCall 13 = .ok (.iadd, 1) := dk_96 (dk_at dksX4_laysCall_0 13 rfl rfl)
theorem dX4_laysCall_14 : decode cX4_laysCall 14 = .ok (.iload_n 3, 1) := dk_29 (dk_at dksX4_laysCall_0 14 rfl rfl)
theorem dX4_laysCall_15 : decode cX4_laysCall 15 = .ok (.iastore, 1) := dk_79 (dk_at dksX4_laysCall_0 15 rfl rfl)
theorem dX4_laysCall_16 : decode cX4_laysCall 16 = .ok (.return_, 1) := dk_177 (dk_at dksX4_laysCall_0 16 rfl rfl)
abbrev cX4_ofMember : ByteArray := prog_16_method_11_code
def yX4_ofMember : MethodName := ⟨RX4, "ofMember", "(II)I"⟩
def dkwX4_ofMember_0 : List UInt8 := [42, 180, 0, 7, 16, 106, 7, 27, 104, 96, 28, 96, 46, 172]
abbrev dktX4_ofMember_0 : List UInt8 := dkwX4_ofMember_0 ++ []
theorem dksX4_ofMember_0 : cX4_ofMember.data.toList.drop 0 = dktX4_ofMember_0 := by decide +kernel
theorem dX4_ofMember_0 : decode cX4_ofMember 0 = .ok (.aload_n 0, 1) := dk_42 (dk_at dksX4_ofMember_0 0 rfl rfl)
theorem dX4_ofMember_1 : decode cX4_ofMember 1 = .ok (.getfield 7, 3) := dk_180 0 7 (dk_at dksX4_ofMember_0 1 rfl rfl)
theorem dX4_ofMember_4 : decode cX4_ofMember 4 = .ok (.bipush 106, 2) := dk_16 106 (dk_at dksX4_ofMember_0 4 rfl rfl)
theorem dX4_ofMember_6 : decode cX4_ofMember 6 = .ok (.iconst 4, 1) := dk_7 (dk_at dksX4_ofMember_0 6 rfl rfl)
theorem dX4_ofMember_7 : decode cX4_ofMember 7 = .ok (.iload_n 1, 1) := dk_27 (dk_at dksX4_ofMember_0 7 rfl rfl)
theorem dX4_ofMember_8 : decode cX4_ofMember 8 = .ok (.imul, 1) := dk_104 (dk_at dksX4_ofMember_0 8 rfl rfl)
theorem dX4_ofMember_9 : decode cX4_ofMember 9 = .ok (.iadd, 1) := dk_96 (dk_at dksX4_ofMember_0 9 rfl rfl)
theorem dX4_ofMember_10 : decode cX4_ofMember 10 = .ok (.iload_n 2, 1) := dk_28 (dk_at dksX4_ofMember_0 10 rfl rfl)
theorem dX4_ofMember_11 : decode cX4_ofMember 11 = .ok (.iadd, 1) := dk_96 (dk_at dksX4_ofMember_0 11 rfl rfl)
theorem dX4_ofMember_12 : decode cX4_ofMember 12 = .ok (.iaload, 1) := dk_46 (dk_at dksX4_ofMember_0 12 rfl rfl)
theorem dX4_ofMember_13 : decode cX4_ofMember 13 = .ok (.ireturn, 1) := dk_172 (dk_at dksX4_ofMember_0 13 rfl rfl)
abbrev cX4_ofPatrol : ByteArray := prog_16_method_13_code
def yX4_ofPatrol : MethodName := ⟨RX4, "ofPatrol", "(II)I"⟩
def dkwX4_ofPatrol_0 : List UInt8 := [42, 180, 0, 7, 17, 0, 186, 16, 14, 27, 104, 96, 28, 96, 46, 172]
abbrev dktX4_ofPatrol_0 : List UInt8 := dkwX4_ofPatrol_0 ++ []
theorem dksX4_ofPatrol_0 : cX4_ofPatrol.data.toList.drop 0 = dktX4_ofPatrol_0 := by decide +kernel
theorem dX4_ofPatrol_0 : decode cX4_ofPatrol 0 = .ok (.aload_n 0, 1) := dk_42 (dk_at dksX4_ofPatrol_0 0 rfl rfl)
theorem dX4_ofPatrol_1 : decode cX4_ofPatrol 1 = .ok (.getfield 7, 3) := dk_180 0 7 (dk_at dksX4_ofPatrol_0 1 rfl rfl)
theorem dX4_ofPatrol_4 : decode cX4_ofPatrol 4 = .ok (.sipush 186, 3) := dk_17 0 186 (dk_at dksX4_ofPatrol_0 4 rfl rfl)
theorem dX4_ofPatrol_7 : decode cX4_ofPatrol 7 = .ok (.bipush 14, 2) := dk_16 14 (dk_at dksX4_ofPatrol_0 7 rfl rfl)
theorem dX4_ofPatrol_9 : decode cX4_ofPatrol 9 = .ok (.iload_n 1, 1) := dk_27 (dk_at dksX4_ofPatrol_0 9 rfl rfl)
theorem dX4_ofPatrol_10 : decode cX4_ofPatrol 10 = .ok (.imul, 1) := dk_104 (dk_at dksX4_ofPatrol_0 10 rfl rfl)
theorem dX4_ofPatrol_11 : decode cX4_ofPatrol 11 = .ok (.iadd, 1) := dk_96 (dk_at dksX4_ofPatrol_0 11 rfl rfl)
theorem dX4_ofPatrol_12 : decode cX4_ofPatrol 12 = .ok (.iload_n 2, 1) := dk_28 (dk_at dksX4_ofPatrol_0 12 rfl rfl)
theorem dX4_ofPatrol_13 : decode cX4_ofPatrol 13 = .ok (.iadd, 1) := dk_96 (dk_at dksX4_ofPatrol_0 13 rfl rfl)
theorem dX4_ofPatrol_14 : decode cX4_ofPatrol 14 = .ok (.iaload, 1) := dk_46 (dk_at dksX4_ofPatrol_0 14 rfl rfl)
theorem dX4_ofPatrol_15 : decode cX4_ofPatrol 15 = .ok (.ireturn, 1) := dk_172 (dk_at dksX4_ofPatrol_0 15 rfl rfl)
abbrev cX4_addsMember : ByteArray := prog_16_method_12_code
def yX4_addsMember : MethodName := ⟨RX4, "addsMember", "(III)V"⟩
def dkwX4_addsMember_0 : List UInt8 := [42, 180, 0, 7, 16, 106, 7, 27, 104, 96, 28, 96, 92, 46, 29, 96, 79, 177]
abbrev dktX4_addsMember_0 : List UInt8 := dkwX4_addsMember_0 ++ []
theorem dksX4_addsMember_0 : cX4_addsMember.data.toList.drop 0 = dktX4_addsMember_0 := by decide +kernel
theorem dX4_addsMember_0 : decode cX4_addsMember 0 = .ok (.aload_n 0, 1) := dk_42 (dk_at dksX4_addsMember_0 0 rfl rfl)
theorem dX4_addsMember_1 : decode cX4_addsMember 1 = .ok (.getfield 7, 3) := dk_180 0 7 (dk_at dksX4_addsMember_0 1 rfl rfl)
theorem dX4_addsMember_4 : decode cX4_addsMember 4 = .ok (.bipush 106, 2) := dk_16 106 (dk_at dksX4_addsMember_0 4 rfl rfl)
theorem dX4_addsMember_6 : decode cX4_addsMember 6 = .ok (.iconst 4, 1) := dk_7 (dk_at dksX4_addsMember_0 6 rfl rfl)
theorem dX4_addsMember_7 : decode cX4_addsMember 7 = .ok (.iload_n 1, 1) := dk_27 (dk_at dksX4_addsMember_0 7 rfl rfl)
theorem dX4_addsMember_8 : decode cX4_addsMember 8 = .ok (.imul, 1) := dk_104 (dk_at dksX4_addsMember_0 8 rfl rfl)
theorem dX4_addsMember_9 : decode cX4_addsMember 9 = .ok (.iadd, 1) := dk_96 (dk_at dksX4_addsMember_0 9 rfl rfl)
theorem dX4_addsMember_10 : decode cX4_addsMember 10 = .ok (.iload_n 2, 1) := dk_28 (dk_at dksX4_addsMember_0 10 rfl rfl)
theorem dX4_addsMember_11 : decode cX4_addsMember 11 = .ok (.iadd, 1) := dk_96 (dk_at dksX4_addsMember_0 11 rfl rfl)
theorem dX4_addsMember_12 : decode cX4_addsMember 12 = .ok (.dup2, 1) := dk_92 (dk_at dksX4_addsMember_0 12 rfl rfl)
theorem dX4_addsMember_13 : decode cX4_addsMember 13 = .ok (.iaload, 1) := dk_46 (dk_at dksX4_addsMember_0 13 rfl rfl)
theorem dX4_addsMember_14 : decode cX4_addsMember 14 = .ok (.iload_n 3, 1) := dk_29 (dk_at dksX4_addsMember_0 14 rfl rfl)
theorem dX4_addsMember_15 : decode cX4_addsMember 15 = .ok (.iadd, 1) := dk_96 (dk_at dksX4_addsMember_0 15 rfl rfl)
theorem dX4_addsMember_16 : decode cX4_addsMember 16 = .ok (.iastore, 1) := dk_79 (dk_at dksX4_addsMember_0 16 rfl rfl)
theorem dX4_addsMember_17 : decode cX4_addsMember 17 = .ok (.return_, 1) := dk_177 (dk_at dksX4_addsMember_0 17 rfl rfl)
abbrev cX4_cancel : ByteArray := prog_16_method_33_code
def yX4_cancel : MethodName := ⟨RX4, "cancel", "(I)I"⟩
def dkwX4_cancel_4 : List UInt8 := [28, 172]
abbrev dktX4_cancel_4 : List UInt8 := dkwX4_cancel_4 ++ []
def dkwX4_cancel_3 : List UInt8 := [182, 0, 82, 42, 27, 16, 7, 28, 182, 0, 82, 42, 27, 16, 9, 42, 180, 0, 7, 3, 46, 182, 0, 82]
abbrev dktX4_cancel_3 : List UInt8 := dkwX4_cancel_3 ++ dktX4_cancel_4
def dkwX4_cancel_2 : List UInt8 := [16, 6, 182, 0, 72, 182, 0, 68, 42, 27, 16, 6, 16, 251, 182, 0, 82, 42, 27, 8, 16, 7]
abbrev dktX4_cancel_2 : List UInt8 := dkwX4_cancel_2 ++ dktX4_cancel_3
def dkwX4_cancel_1 : List UInt8 := [182, 0, 61, 42, 27, 182, 0, 104, 61, 42, 27, 16, 6, 182, 0, 72, 16, 251, 159, 0, 14, 42, 42, 27]
abbrev dktX4_cancel_1 : List UInt8 := dkwX4_cancel_1 ++ dktX4_cancel_2
def dkwX4_cancel_0 : List UInt8 := [42, 27, 182, 0, 101, 154, 0, 5, 2, 172, 42, 27, 8, 182, 0, 72, 4, 164, 0, 6, 16, 252, 172, 42]
abbrev dktX4_cancel_0 : List UInt8 := dkwX4_cancel_0 ++ dktX4_cancel_1
theorem dksX4_cancel_0 : cX4_cancel.data.toList.drop 0 = dktX4_cancel_0 := by decide +kernel
theorem dksX4_cancel_1 : cX4_cancel.data.toList.drop 24 = dktX4_cancel_1 := dk_seg dksX4_cancel_0 24 rfl rfl
theorem dksX4_cancel_2 : cX4_cancel.data.toList.drop 48 = dktX4_cancel_2 := dk_seg dksX4_cancel_1 24 rfl rfl
theorem dksX4_cancel_3 : cX4_cancel.data.toList.drop 70 = dktX4_cancel_3 := dk_seg dksX4_cancel_2 22 rfl rfl
theorem dksX4_cancel_4 : cX4_cancel.data.toList.drop 94 = dktX4_cancel_4 := dk_seg dksX4_cancel_3 24 rfl rfl
theorem dX4_cancel_0 : decode cX4_cancel 0 = .ok (.aload_n 0, 1) := dk_42 (dk_at dksX4_cancel_0 0 rfl rfl)
theorem dX4_cancel_1 : decode cX4_cancel 1 = .ok (.iload_n 1, 1) := dk_27 (dk_at dksX4_cancel_0 1 rfl rfl)
theorem dX4_cancel_2 : decode cX4_cancel 2 = .ok (.invokevirtual 101, 3) := dk_182 0 101 (dk_at dksX4_cancel_0 2 rfl rfl)
theorem dX4_cancel_5 : decode cX4_cancel 5 = .ok (.ifCond .ne 5, 3) := dk_154 0 5 (dk_at dksX4_cancel_0 5 rfl rfl)
theorem dX4_cancel_8 : decode cX4_cancel 8 = .ok (.iconst (-1), 1) := dk_2 (dk_at dksX4_cancel_0 8 rfl rfl)
theorem dX4_cancel_9 : decode cX4_cancel 9 = .ok (.ireturn, 1) := dk_172 (dk_at dksX4_cancel_0 9 rfl rfl)
theorem dX4_cancel_10 : decode cX4_cancel 10 = .ok (.aload_n 0, 1) := dk_42 (dk_at dksX4_cancel_0 10 rfl rfl)
theorem dX4_cancel_11 : decode cX4_cancel 11 = .ok (.iload_n 1, 1) := dk_27 (dk_at dksX4_cancel_0 11 rfl rfl)
theorem dX4_cancel_12 : decode cX4_cancel 12 = .ok (.iconst 5, 1) := dk_8 (dk_at dksX4_cancel_0 12 rfl rfl)
theorem dX4_cancel_13 : decode cX4_cancel 13 = .ok (.invokevirtual 72, 3) := dk_182 0 72 (dk_at dksX4_cancel_0 13 rfl rfl)
theorem dX4_cancel_16 : decode cX4_cancel 16 = .ok (.iconst 1, 1) := dk_4 (dk_at dksX4_cancel_0 16 rfl rfl)
theorem dX4_cancel_17 : decode cX4_cancel 17 = .ok (.if_icmp .le 6, 3) := dk_164 0 6 (dk_at dksX4_cancel_0 17 rfl rfl)
theorem dX4_cancel_20 : decode cX4_cancel 20 = .ok (.bipush (-4), 2) := dk_16 252 (dk_at dksX4_cancel_0 20 rfl rfl)
theorem dX4_cancel_22 : decode cX4_cancel 22 = .ok (.ireturn, 1) := dk_172 (dk_at dksX4_cancel_0 22 rfl rfl)
theorem dX4_cancel_23 : decode cX4_cancel 23 = .ok (.aload_n 0, 1) := dk_42 (dk_at dksX4_cancel_0 23 rfl rfl)
theorem dX4_cancel_24 : decode cX4_cancel 24 = .ok (.invokevirtual 61, 3) := dk_182 0 61 (dk_at dksX4_cancel_1 0 rfl rfl)
theorem dX4_cancel_27 : decode cX4_cancel 27 = .ok (.aload_n 0, 1) := dk_42 (dk_at dksX4_cancel_1 3 rfl rfl)
theorem dX4_cancel_28 : decode cX4_cancel 28 = .ok (.iload_n 1, 1) := dk_27 (dk_at dksX4_cancel_1 4 rfl rfl)
theorem dX4_cancel_29 : decode cX4_cancel 29 = .ok (.invokevirtual 104, 3) := dk_182 0 104 (dk_at dksX4_cancel_1 5 rfl rfl)
theorem dX4_cancel_32 : decode cX4_cancel 32 = .ok (.istore_n 2, 1) := dk_61 (dk_at dksX4_cancel_1 8 rfl rfl)
theorem dX4_cancel_33 : decode cX4_cancel 33 = .ok (.aload_n 0, 1) := dk_42 (dk_at dksX4_cancel_1 9 rfl rfl)
theorem dX4_cancel_34 : decode cX4_cancel 34 = .ok (.iload_n 1, 1) := dk_27 (dk_at dksX4_cancel_1 10 rfl rfl)
theorem dX4_cancel_35 : decode cX4_cancel 35 = .ok (.bipush 6, 2) := dk_16 6 (dk_at dksX4_cancel_1 11 rfl rfl)
theorem dX4_cancel_37 : decode cX4_cancel 37 = .ok (.invokevirtual 72, 3) := dk_182 0 72 (dk_at dksX4_cancel_1 13 rfl rfl)
theorem dX4_cancel_40 : decode cX4_cancel 40 = .ok (.bipush (-5), 2) := dk_16 251 (dk_at dksX4_cancel_1 16 rfl rfl)
theorem dX4_cancel_42 : decode cX4_cancel 42 = .ok (.if_icmp .eq 14, 3) := dk_159 0 14 (dk_at dksX4_cancel_1 18 rfl rfl)
theorem dX4_cancel_45 : decode cX4_cancel 45 = .ok (.aload_n 0, 1) := dk_42 (dk_at dksX4_cancel_1 21 rfl rfl)
theorem dX4_cancel_46 : decode cX4_cancel 46 = .ok (.aload_n 0, 1) := dk_42 (dk_at dksX4_cancel_1 22 rfl rfl)
theorem dX4_cancel_47 : decode cX4_cancel 47 = .ok (.iload_n 1, 1) := dk_27 (dk_at dksX4_cancel_1 23 rfl rfl)
theorem dX4_cancel_48 : decode cX4_cancel 48 = .ok (.bipush 6, 2) := dk_16 6 (dk_at dksX4_cancel_2 0 rfl rfl)
theorem dX4_cancel_50 : decode cX4_cancel 50 = .ok (.invokevirtual 72, 3) := dk_182 0 72 (dk_at dksX4_cancel_2 2 rfl rfl)
theorem dX4_cancel_53 : decode cX4_cancel 53 = .ok (.invokevirtual 68, 3) := dk_182 0 68 (dk_at dksX4_cancel_2 5 rfl rfl)
theorem dX4_cancel_56 : decode cX4_cancel 56 = .ok (.aload_n 0, 1) := dk_42 (dk_at dksX4_cancel_2 8 rfl rfl)
theorem dX4_cancel_57 : decode cX4_cancel 57 = .ok (.iload_n 1, 1) := dk_27 (dk_at dksX4_cancel_2 9 rfl rfl)
theorem dX4_cancel_58 : decode cX4_cancel 58 = .ok (.bipush 6, 2) := dk_16 6 (dk_at dksX4_cancel_2 10 rfl rfl)
theorem dX4_cancel_60 : decode cX4_cancel 60 = .ok (.bipush (-5), 2) := dk_16 251 (dk_at dksX4_cancel_2 12 rfl rfl)
theorem dX4_cancel_62 : decode cX4_cancel 62 = .ok (.invokevirtual 82, 3) := dk_182 0 82 (dk_at dksX4_cancel_2 14 rfl rfl)
theorem dX4_cancel_65 : decode cX4_cancel 65 = .ok (.aload_n 0, 1) := dk_42 (dk_at dksX4_cancel_2 17 rfl rfl)
theorem dX4_cancel_66 : decode cX4_cancel 66 = .ok (.iload_n 1, 1) := dk_27 (dk_at dksX4_cancel_2 18 rfl rfl)
theorem dX4_cancel_67 : decode cX4_cancel 67 = .ok (.iconst 5, 1) := dk_8 (dk_at dksX4_cancel_2 19 rfl rfl)
theorem dX4_cancel_68 : decode cX4_cancel 68 = .ok (.bipush 7, 2) := dk_16 7 (dk_at dksX4_cancel_2 20 rfl rfl)
theorem dX4_cancel_70 : decode cX4_cancel 70 = .ok (.invokevirtual 82, 3) := dk_182 0 82 (dk_at dksX4_cancel_3 0 rfl rfl)
theorem dX4_cancel_73 : decode cX4_cancel 73 = .ok (.aload_n 0, 1) := dk_42 (dk_at dksX4_cancel_3 3 rfl rfl)
theorem dX4_cancel_74 : decode cX4_cancel 74 = .ok (.iload_n 1, 1) := dk_27 (dk_at dksX4_cancel_3 4 rfl rfl)
theorem dX4_cancel_75 : decode cX4_cancel 75 = .ok (.bipush 7, 2) := dk_16 7 (dk_at dksX4_cancel_3 5 rfl rfl)
theorem dX4_cancel_77 : decode cX4_cancel 77 = .ok (.iload_n 2, 1) := dk_28 (dk_at dksX4_cancel_3 7 rfl rfl)
theorem dX4_cancel_78 : decode cX4_cancel 78 = .ok (.invokevirtual 82, 3) := dk_182 0 82 (dk_at dksX4_cancel_3 8 rfl rfl)
theorem dX4_cancel_81 : decode cX4_cancel 81 = .ok (.aload_n 0, 1) := dk_42 (dk_at dksX4_cancel_3 11 rfl rfl)
theorem dX4_cancel_82 : decode cX4_cancel 82 = .ok (.iload_n 1, 1) := dk_27 (dk_at dksX4_cancel_3 12 rfl rfl)
theorem dX4_cancel_83 : decode cX4_cancel 83 = .ok (.bipush 9, 2) := dk_16 9 (dk_at dksX4_cancel_3 13 rfl rfl)
theorem dX4_cancel_85 : decode cX4_cancel 85 = .ok (.aload_n 0, 1) := dk_42 (dk_at dksX4_cancel_3 15 rfl rfl)
theorem dX4_cancel_86 : decode cX4_cancel 86 = .ok (.getfield 7, 3) := dk_180 0 7 (dk_at dksX4_cancel_3 16 rfl rfl)
theorem dX4_cancel_89 : decode cX4_cancel 89 = .ok (.iconst 0, 1) := dk_3 (dk_at dksX4_cancel_3 19 rfl rfl)
theorem dX4_cancel_90 : decode cX4_cancel 90 = .ok (.iaload, 1) := dk_46 (dk_at dksX4_cancel_3 20 rfl rfl)
theorem dX4_cancel_91 : decode cX4_cancel 91 = .ok (.invokevirtual 82, 3) := dk_182 0 82 (dk_at dksX4_cancel_3 21 rfl rfl)
theorem dX4_cancel_94 : decode cX4_cancel 94 = .ok (.iload_n 2, 1) := dk_28 (dk_at dksX4_cancel_4 0 rfl rfl)
theorem dX4_cancel_95 : decode cX4_cancel 95 = .ok (.ireturn, 1) := dk_172 (dk_at dksX4_cancel_4 1 rfl rfl)
abbrev cX4_isCall : ByteArray := prog_16_method_10_code
def yX4_isCall : MethodName := ⟨RX4, "isCall", "(I)Z"⟩
def dkwX4_isCall_0 : List UInt8 := [27, 3, 42, 180, 0, 7, 16, 9, 46, 4, 100, 184, 0, 48, 172]
abbrev dktX4_isCall_0 : List UInt8 := dkwX4_isCall_0 ++ []
theorem dksX4_isCall_0 : cX4_isCall.data.toList.drop 0 = dktX4_isCall_0 := by decide +kernel
theorem dX4_isCall_0 : decode cX4_isCall 0 = .ok (.iload_n 1, 1) := dk_27 (dk_at dksX4_isCall_0 0 rfl rfl)
theorem dX4_isCall_1 : decode cX4_isCall 1 = .ok (.iconst 0, 1) := dk_3 (dk_at dksX4_isCall_0 1 rfl rfl)
theorem dX4_isCall_2 : decode cX4_isCall 2 = .ok (.aload_n 0, 1) := dk_42 (dk_at dksX4_isCall_0 2 rfl rfl)
theorem dX4_isCall_3 : decode cX4_isCall 3 = .ok (.getfield 7, 3) := dk_180 0 7 (dk_at dksX4_isCall_0 3 rfl rfl)
theorem dX4_isCall_6 : decode cX4_isCall 6 = .ok (.bipush 9, 2) := dk_16 9 (dk_at dksX4_isCall_0 6 rfl rfl)
theorem dX4_isCall_8 : decode cX4_isCall 8 = .ok (.iaload, 1) := dk_46 (dk_at dksX4_isCall_0 8 rfl rfl)
theorem dX4_isCall_9 : decode cX4_isCall 9 = .ok (.iconst 1, 1) := dk_4 (dk_at dksX4_isCall_0 9 rfl rfl)
theorem dX4_isCall_10 : decode cX4_isCall 10 = .ok (.isub, 1) := dk_100 (dk_at dksX4_isCall_0 10 rfl rfl)
theorem dX4_isCall_11 : decode cX4_isCall 11 = .ok (.invokestatic 48, 3) := dk_184 0 48 (dk_at dksX4_isCall_0 11 rfl rfl)
theorem dX4_isCall_14 : decode cX4_isCall 14 = .ok (.ireturn, 1) := dk_172 (dk_at dksX4_isCall_0 14 rfl rfl)
abbrev cX4_waitedOf : ByteArray := prog_16_method_31_code
def yX4_waitedOf : MethodName := ⟨RX4, "waitedOf", "(I)I"⟩
def dkwX4_waitedOf_2 : List UInt8 := [46, 42, 27, 7, 182, 0, 72, 100, 172]
abbrev dktX4_waitedOf_2 : List UInt8 := dkwX4_waitedOf_2 ++ []
def dkwX4_waitedOf_1 : List UInt8 := [167, 0, 4, 3, 61, 28, 153, 0, 13, 42, 27, 16, 7, 182, 0, 72, 167, 0, 16, 42, 180, 0, 7, 3]
abbrev dktX4_waitedOf_1 : List UInt8 := dkwX4_waitedOf_1 ++ dktX4_waitedOf_2
def dkwX4_waitedOf_0 : List UInt8 := [42, 27, 16, 8, 182, 0, 72, 16, 251, 160, 0, 14, 42, 27, 8, 182, 0, 72, 16, 7, 160, 0, 7, 4]
abbrev dktX4_waitedOf_0 : List UInt8 := dkwX4_waitedOf_0 ++ dktX4_waitedOf_1
theorem dksX4_waitedOf_0 : cX4_waitedOf.data.toList.drop 0 = dktX4_waitedOf_0 := by decide +kernel
theorem dksX4_waitedOf_1 : cX4_waitedOf.data.toList.drop 24 = dktX4_waitedOf_1 := dk_seg dksX4_waitedOf_0 24 rfl rfl
theorem dksX4_waitedOf_2 : cX4_waitedOf.data.toList.drop 48 = dktX4_waitedOf_2 := dk_seg dksX4_waitedOf_1 24 rfl rfl
theorem dX4_waitedOf_0 : decode cX4_waitedOf 0 = .ok (.aload_n 0, 1) := dk_42 (dk_at dksX4_waitedOf_0 0 rfl rfl)
theorem dX4_waitedOf_1 : decode cX4_waitedOf 1 = .ok (.iload_n 1, 1) := dk_27 (dk_at dksX4_waitedOf_0 1 rfl rfl)
theorem dX4_waitedOf_2 : decode cX4_waitedOf 2 = .ok (.bipush 8, 2) := dk_16 8 (dk_at dksX4_waitedOf_0 2 rfl rfl)
theorem dX4_waitedOf_4 : decode cX4_waitedOf 4 = .ok (.invokevirtual 72, 3) := dk_182 0 72 (dk_at dksX4_waitedOf_0 4 rfl rfl)
theorem dX4_waitedOf_7 : decode cX4_waitedOf 7 = .ok (.bipush (-5), 2) := dk_16 251 (dk_at dksX4_waitedOf_0 7 rfl rfl)
theorem dX4_waitedOf_9 : decode cX4_waitedOf 9 = .ok (.if_icmp .ne 14, 3) := dk_160 0 14 (dk_at dksX4_waitedOf_0 9 rfl rfl)
theorem dX4_waitedOf_12 : decode cX4_waitedOf 12 = .ok (.aload_n 0, 1) := dk_42 (dk_at dksX4_waitedOf_0 12 rfl rfl)
theorem dX4_waitedOf_13 : decode cX4_waitedOf 13 = .ok (.iload_n 1, 1) := dk_27 (dk_at dksX4_waitedOf_0 13 rfl rfl)
theorem dX4_waitedOf_14 : decode cX4_waitedOf 14 = .ok (.iconst 5, 1) := dk_8 (dk_at dksX4_waitedOf_0 14 rfl rfl)
theorem dX4_waitedOf_15 : decode cX4_waitedOf 15 = .ok (.invokevirtual 72, 3) := dk_182 0 72 (dk_at dksX4_waitedOf_0 15 rfl rfl)
theorem dX4_waitedOf_18 : decode cX4_waitedOf 18 = .ok (.bipush 7, 2) := dk_16 7 (dk_at dksX4_waitedOf_0 18 rfl rfl)
theorem dX4_waitedOf_20 : decode cX4_waitedOf 20 = .ok (.if_icmp .ne 7, 3) := dk_160 0 7 (dk_at dksX4_waitedOf_0 20 rfl rfl)
theorem dX4_waitedOf_23 : decode cX4_waitedOf 23 = .ok (.iconst 1, 1) := dk_4 (dk_at dksX4_waitedOf_0 23 rfl rfl)
theorem dX4_waitedOf_24 : decode cX4_waitedOf 24 = .ok (.goto 4, 3) := dk_167 0 4 (dk_at dksX4_waitedOf_1 0 rfl rfl)
theorem dX4_waitedOf_27 : decode cX4_waitedOf 27 = .ok (.iconst 0, 1) := dk_3 (dk_at dksX4_waitedOf_1 3 rfl rfl)
theorem dX4_waitedOf_28 : decode cX4_waitedOf 28 = .ok (.istore_n 2, 1) := dk_61 (dk_at dksX4_waitedOf_1 4 rfl rfl)
theorem dX4_waitedOf_29 : decode cX4_waitedOf 29 = .ok (.iload_n 2, 1) := dk_28 (dk_at dksX4_waitedOf_1 5 rfl rfl)
theorem dX4_waitedOf_30 : decode cX4_waitedOf 30 = .ok (.ifCond .eq 13, 3) := dk_153 0 13 (dk_at dksX4_waitedOf_1 6 rfl rfl)
theorem dX4_waitedOf_33 : decode cX4_waitedOf 33 = .ok (.aload_n 0, 1) := dk_42 (dk_at dksX4_waitedOf_1 9 rfl rfl)
theorem dX4_waitedOf_34 : decode cX4_waitedOf 34 = .ok (.iload_n 1, 1) := dk_27 (dk_at dksX4_waitedOf_1 10 rfl rfl)
theorem dX4_waitedOf_35 : decode cX4_waitedOf 35 = .ok (.bipush 7, 2) := dk_16 7 (dk_at dksX4_waitedOf_1 11 rfl rfl)
theorem dX4_waitedOf_37 : decode cX4_waitedOf 37 = .ok (.invokevirtual 72, 3) := dk_182 0 72 (dk_at dksX4_waitedOf_1 13 rfl rfl)
theorem dX4_waitedOf_40 : decode cX4_waitedOf 40 = .ok (.goto 16, 3) := dk_167 0 16 (dk_at dksX4_waitedOf_1 16 rfl rfl)
theorem dX4_waitedOf_43 : decode cX4_waitedOf 43 = .ok (.aload_n 0, 1) := dk_42 (dk_at dksX4_waitedOf_1 19 rfl rfl)
theorem dX4_waitedOf_44 : decode cX4_waitedOf 44 = .ok (.getfield 7, 3) := dk_180 0 7 (dk_at dksX4_waitedOf_1 20 rfl rfl)
theorem dX4_waitedOf_47 : decode cX4_waitedOf 47 = .ok (.iconst 0, 1) := dk_3 (dk_at dksX4_waitedOf_1 23 rfl rfl)
theorem dX4_waitedOf_48 : decode cX4_waitedOf 48 = .ok (.iaload, 1) := dk_46 (dk_at dksX4_waitedOf_2 0 rfl rfl)
theorem dX4_waitedOf_49 : decode cX4_waitedOf 49 = .ok (.aload_n 0, 1) := dk_42 (dk_at dksX4_waitedOf_2 1 rfl rfl)
theorem dX4_waitedOf_50 : decode cX4_waitedOf 50 = .ok (.iload_n 1, 1) := dk_27 (dk_at dksX4_waitedOf_2 2 rfl rfl)
theorem dX4_waitedOf_51 : decode cX4_waitedOf 51 = .ok (.iconst 4, 1) := dk_7 (dk_at dksX4_waitedOf_2 3 rfl rfl)
theorem dX4_waitedOf_52 : decode cX4_waitedOf 52 = .ok (.invokevirtual 72, 3) := dk_182 0 72 (dk_at dksX4_waitedOf_2 4 rfl rfl)
theorem dX4_waitedOf_55 : decode cX4_waitedOf 55 = .ok (.isub, 1) := dk_100 (dk_at dksX4_waitedOf_2 7 rfl rfl)
theorem dX4_waitedOf_56 : decode cX4_waitedOf 56 = .ok (.ireturn, 1) := dk_172 (dk_at dksX4_waitedOf_2 8 rfl rfl)
abbrev cX4_duty : ByteArray := prog_16_method_35_code
def yX4_duty : MethodName := ⟨RX4, "duty", "(IZ)I"⟩
def dkwX4_duty_3 : List UInt8 := [182, 0, 64, 42, 182, 0, 110, 172]
abbrev dktX4_duty_3 : List UInt8 := dkwX4_duty_3 ++ []
def dkwX4_duty_2 : List UInt8 := [160, 0, 6, 16, 251, 172, 42, 182, 0, 61, 42, 27, 6, 28, 153, 0, 7, 3, 167, 0, 4, 7]
abbrev dktX4_duty_2 : List UInt8 := dkwX4_duty_2 ++ dktX4_duty_3
def dkwX4_duty_1 : List UInt8 := [153, 0, 11, 29, 7, 159, 0, 6, 16, 252, 172, 28, 29, 7, 159, 0, 7, 4, 167, 0, 4, 3]
abbrev dktX4_duty_1 : List UInt8 := dkwX4_duty_1 ++ dktX4_duty_2
def dkwX4_duty_0 : List UInt8 := [42, 27, 182, 0, 107, 154, 0, 5, 2, 172, 42, 27, 6, 182, 0, 88, 62, 28, 154, 0, 15, 29]
abbrev dktX4_duty_0 : List UInt8 := dkwX4_duty_0 ++ dktX4_duty_1
theorem dksX4_duty_0 : cX4_duty.data.toList.drop 0 = dktX4_duty_0 := by decide +kernel
theorem dksX4_duty_1 : cX4_duty.data.toList.drop 22 = dktX4_duty_1 := dk_seg dksX4_duty_0 22 rfl rfl
theorem dksX4_duty_2 : cX4_duty.data.toList.drop 44 = dktX4_duty_2 := dk_seg dksX4_duty_1 22 rfl rfl
theorem dksX4_duty_3 : cX4_duty.data.toList.drop 66 = dktX4_duty_3 := dk_seg dksX4_duty_2 22 rfl rfl
theorem dX4_duty_0 : decode cX4_duty 0 = .ok (.aload_n 0, 1) := dk_42 (dk_at dksX4_duty_0 0 rfl rfl)
theorem dX4_duty_1 : decode cX4_duty 1 = .ok (.iload_n 1, 1) := dk_27 (dk_at dksX4_duty_0 1 rfl rfl)
theorem dX4_duty_2 : decode cX4_duty 2 = .ok (.invokevirtual 107, 3) := dk_182 0 107 (dk_at dksX4_duty_0 2 rfl rfl)
theorem dX4_duty_5 : decode cX4_duty 5 = .ok (.ifCond .ne 5, 3) := dk_154 0 5 (dk_at dksX4_duty_0 5 rfl rfl)
theorem dX4_duty_8 : decode cX4_duty 8 = .ok (.iconst (-1), 1) := dk_2 (dk_at dksX4_duty_0 8 rfl rfl)
theorem dX4_duty_9 : decode cX4_duty 9 = .ok (.ireturn, 1) := dk_172 (dk_at dksX4_duty_0 9 rfl rfl)
theorem dX4_duty_10 : decode cX4_duty 10 = .ok (.aload_n 0, 1) := dk_42 (dk_at dksX4_duty_0 10 rfl rfl)
theorem dX4_duty_11 : decode cX4_duty 11 = .ok (.iload_n 1, 1) := dk_27 (dk_at dksX4_duty_0 11 rfl rfl)
theorem dX4_duty_12 : decode cX4_duty 12 = .ok (.iconst 3, 1) := dk_6 (dk_at dksX4_duty_0 12 rfl rfl)
theorem dX4_duty_13 : decode cX4_duty 13 = .ok (.invokevirtual 88, 3) := dk_182 0 88 (dk_at dksX4_duty_0 13 rfl rfl)
theorem dX4_duty_16 : decode cX4_duty 16 = .ok (.istore_n 3, 1) := dk_62 (dk_at dksX4_duty_0 16 rfl rfl)
theorem dX4_duty_17 : decode cX4_duty 17 = .ok (.iload_n 2, 1) := dk_28 (dk_at dksX4_duty_0 17 rfl rfl)
theorem dX4_duty_18 : decode cX4_duty 18 = .ok (.ifCond .ne 15, 3) := dk_154 0 15 (dk_at dksX4_duty_0 18 rfl rfl)
theorem dX4_duty_21 : decode cX4_duty 21 = .ok (.iload_n 3, 1) := dk_29 (dk_at dksX4_duty_0 21 rfl rfl)
theorem dX4_duty_22 : decode cX4_duty 22 = .ok (.ifCond .eq 11, 3) := dk_153 0 11 (dk_at dksX4_duty_1 0 rfl rfl)
theorem dX4_duty_25 : decode cX4_duty 25 = .ok (.iload_n 3, 1) := dk_29 (dk_at dksX4_duty_1 3 rfl rfl)
theorem dX4_duty_26 : decode cX4_duty 26 = .ok (.iconst 4, 1) := dk_7 (dk_at dksX4_duty_1 4 rfl rfl)
theorem dX4_duty_27 : decode cX4_duty 27 = .ok (.if_icmp .eq 6, 3) := dk_159 0 6 (dk_at dksX4_duty_1 5 rfl rfl)
theorem dX4_duty_30 : decode cX4_duty 30 = .ok (.bipush (-4), 2) := dk_16 252 (dk_at dksX4_duty_1 8 rfl rfl)
theorem dX4_duty_32 : decode cX4_duty 32 = .ok (.ireturn, 1) := dk_172 (dk_at dksX4_duty_1 10 rfl rfl)
theorem dX4_duty_33 : decode cX4_duty 33 = .ok (.iload_n 2, 1) := dk_28 (dk_at dksX4_duty_1 11 rfl rfl)
theorem dX4_duty_34 : decode cX4_duty 34 = .ok (.iload_n 3, 1) := dk_29 (dk_at dksX4_duty_1 12 rfl rfl)
theorem dX4_duty_35 : decode cX4_duty 35 = .ok (.iconst 4, 1) := dk_7 (dk_at dksX4_duty_1 13 rfl rfl)
theorem dX4_duty_36 : decode cX4_duty 36 = .ok (.if_icmp .eq 7, 3) := dk_159 0 7 (dk_at dksX4_duty_1 14 rfl rfl)
theorem dX4_duty_39 : decode cX4_duty 39 = .ok (.iconst 1, 1) := dk_4 (dk_at dksX4_duty_1 17 rfl rfl)
theorem dX4_duty_40 : decode cX4_duty 40 = .ok (.goto 4, 3) := dk_167 0 4 (dk_at dksX4_duty_1 18 rfl rfl)
theorem dX4_duty_43 : decode cX4_duty 43 = .ok (.iconst 0, 1) := dk_3 (dk_at dksX4_duty_1 21 rfl rfl)
theorem dX4_duty_44 : decode cX4_duty 44 = .ok (.if_icmp .ne 6, 3) := dk_160 0 6 (dk_at dksX4_duty_2 0 rfl rfl)
theorem dX4_duty_47 : decode cX4_duty 47 = .ok (.bipush (-5), 2) := dk_16 251 (dk_at dksX4_duty_2 3 rfl rfl)
theorem dX4_duty_49 : decode cX4_duty 49 = .ok (.ireturn, 1) := dk_172 (dk_at dksX4_duty_2 5 rfl rfl)
theorem dX4_duty_50 : decode cX4_duty 50 = .ok (.aload_n 0, 1) := dk_42 (dk_at dksX4_duty_2 6 rfl rfl)
theorem dX4_duty_51 : decode cX4_duty 51 = .ok (.invokevirtual 61, 3) := dk_182 0 61 (dk_at dksX4_duty_2 7 rfl rfl)
theorem dX4_duty_54 : decode cX4_duty 54 = .ok (.aload_n 0, 1) := dk_42 (dk_at dksX4_duty_2 10 rfl rfl)
theorem dX4_duty_55 : decode cX4_duty 55 = .ok (.iload_n 1, 1) := dk_27 (dk_at dksX4_duty_2 11 rfl rfl)
theorem dX4_duty_56 : decode cX4_duty 56 = .ok (.iconst 3, 1) := dk_6 (dk_at dksX4_duty_2 12 rfl rfl)
theorem dX4_duty_57 : decode cX4_duty 57 = .ok (.iload_n 2, 1) := dk_28 (dk_at dksX4_duty_2 13 rfl rfl)
theorem dX4_duty_58 : decode cX4_duty 58 = .ok (.ifCond .eq 7, 3) := dk_153 0 7 (dk_at dksX4_duty_2 14 rfl rfl)
theorem dX4_duty_61 : decode cX4_duty 61 = .ok (.iconst 0, 1) := dk_3 (dk_at dksX4_duty_2 17 rfl rfl)
theorem dX4_duty_62 : decode cX4_duty 62 = .ok (.goto 4, 3) := dk_167 0 4 (dk_at dksX4_duty_2 18 rfl rfl)
theorem dX4_duty_65 : decode cX4_duty 65 = .ok (.iconst 4, 1) := dk_7 (dk_at dksX4_duty_2 21 rfl rfl)
theorem dX4_duty_66 : decode cX4_duty 66 = .ok (.invokevirtual 64, 3) := dk_182 0 64 (dk_at dksX4_duty_3 0 rfl rfl)
theorem dX4_duty_69 : decode cX4_duty 69 = .ok (.aload_n 0, 1) := dk_42 (dk_at dksX4_duty_3 3 rfl rfl)
theorem dX4_duty_70 : decode cX4_duty 70 = .ok (.invokevirtual 110, 3) := dk_182 0 110 (dk_at dksX4_duty_3 4 rfl rfl)
theorem dX4_duty_73 : decode cX4_duty 73 = .ok (.ireturn, 1) := dk_172 (dk_at dksX4_duty_3 7 rfl rfl)
abbrev cX4_isPatrol : ByteArray := prog_16_method_8_code
def yX4_isPatrol : MethodName := ⟨RX4, "isPatrol", "(I)Z"⟩
def dkwX4_isPatrol_0 : List UInt8 := [27, 3, 42, 180, 0, 7, 16, 7, 46, 4, 100, 184, 0, 48, 172]
abbrev dktX4_isPatrol_0 : List UInt8 := dkwX4_isPatrol_0 ++ []
theorem dksX4_isPatrol_0 : cX4_isPatrol.data.toList.drop 0 = dktX4_isPatrol_0 := by decide +kernel
theorem dX4_isPatrol_0 : decode cX4_isPatrol 0 = .ok (.iload_n 1, 1) := dk_27 (dk_at dksX4_isPatrol_0 0 rfl rfl)
theorem dX4_isPatrol_1 : decode cX4_isPatrol 1 = .ok (.iconst 0, 1) := dk_3 (dk_at dksX4_isPatrol_0 1 rfl rfl)
theorem dX4_isPatrol_2 : decode cX4_isPatrol 2 = .ok (.aload_n 0, 1) := dk_42 (dk_at dksX4_isPatrol_0 2 rfl rfl)
theorem dX4_isPatrol_3 : decode cX4_isPatrol 3 = .ok (.getfield 7, 3) := dk_180 0 7 (dk_at dksX4_isPatrol_0 3 rfl rfl)
theorem dX4_isPatrol_6 : decode cX4_isPatrol 6 = .ok (.bipush 7, 2) := dk_16 7 (dk_at dksX4_isPatrol_0 6 rfl rfl)
theorem dX4_isPatrol_8 : decode cX4_isPatrol 8 = .ok (.iaload, 1) := dk_46 (dk_at dksX4_isPatrol_0 8 rfl rfl)
theorem dX4_isPatrol_9 : decode cX4_isPatrol 9 = .ok (.iconst 1, 1) := dk_4 (dk_at dksX4_isPatrol_0 9 rfl rfl)
theorem dX4_isPatrol_10 : decode cX4_isPatrol 10 = .ok (.isub, 1) := dk_100 (dk_at dksX4_isPatrol_0 10 rfl rfl)
theorem dX4_isPatrol_11 : decode cX4_isPatrol 11 = .ok (.invokestatic 48, 3) := dk_184 0 48 (dk_at dksX4_isPatrol_0 11 rfl rfl)
theorem dX4_isPatrol_14 : decode cX4_isPatrol 14 = .ok (.ireturn, 1) := dk_172 (dk_at dksX4_isPatrol_0 14 rfl rfl)
abbrev cX4_onDuty : ByteArray := prog_16_method_34_code
def yX4_onDuty : MethodName := ⟨RX4, "onDuty", "()I"⟩
def dkwX4_onDuty_1 : List UInt8 := [159, 0, 7, 4, 167, 0, 4, 3, 96, 60, 132, 2, 1, 167, 255, 224, 27, 172]
abbrev dktX4_onDuty_1 : List UInt8 := dkwX4_onDuty_1 ++ []
def dkwX4_onDuty_0 : List UInt8 := [3, 60, 3, 61, 28, 42, 180, 0, 7, 16, 7, 46, 162, 0, 27, 27, 42, 28, 6, 182, 0, 88, 7]
abbrev dktX4_onDuty_0 : List UInt8 := dkwX4_onDuty_0 ++ dktX4_onDuty_1
theorem dksX4_onDuty_0 : cX4_onDuty.data.toList.drop 0 = dktX4_onDuty_0 := by decide +kernel
theorem dksX4_onDuty_1 : cX4_onDuty.data.toList.drop 23 = dktX4_onDuty_1 := dk_seg dksX4_onDuty_0 23 rfl rfl
theorem dX4_onDuty_0 : decode cX4_onDuty 0 = .ok (.iconst 0, 1) := dk_3 (dk_at dksX4_onDuty_0 0 rfl rfl)
theorem dX4_onDuty_1 : decode cX4_onDuty 1 = .ok (.istore_n 1, 1) := dk_60 (dk_at dksX4_onDuty_0 1 rfl rfl)
theorem dX4_onDuty_2 : decode cX4_onDuty 2 = .ok (.iconst 0, 1) := dk_3 (dk_at dksX4_onDuty_0 2 rfl rfl)
theorem dX4_onDuty_3 : decode cX4_onDuty 3 = .ok (.istore_n 2, 1) := dk_61 (dk_at dksX4_onDuty_0 3 rfl rfl)
theorem dX4_onDuty_4 : decode cX4_onDuty 4 = .ok (.iload_n 2, 1) := dk_28 (dk_at dksX4_onDuty_0 4 rfl rfl)
theorem dX4_onDuty_5 : decode cX4_onDuty 5 = .ok (.aload_n 0, 1) := dk_42 (dk_at dksX4_onDuty_0 5 rfl rfl)
theorem dX4_onDuty_6 : decode cX4_onDuty 6 = .ok (.getfield 7, 3) := dk_180 0 7 (dk_at dksX4_onDuty_0 6 rfl rfl)
theorem dX4_onDuty_9 : decode cX4_onDuty 9 = .ok (.bipush 7, 2) := dk_16 7 (dk_at dksX4_onDuty_0 9 rfl rfl)
theorem dX4_onDuty_11 : decode cX4_onDuty 11 = .ok (.iaload, 1) := dk_46 (dk_at dksX4_onDuty_0 11 rfl rfl)
theorem dX4_onDuty_12 : decode cX4_onDuty 12 = .ok (.if_icmp .ge 27, 3) := dk_162 0 27 (dk_at dksX4_onDuty_0 12 rfl rfl)
theorem dX4_onDuty_15 : decode cX4_onDuty 15 = .ok (.iload_n 1, 1) := dk_27 (dk_at dksX4_onDuty_0 15 rfl rfl)
theorem dX4_onDuty_16 : decode cX4_onDuty 16 = .ok (.aload_n 0, 1) := dk_42 (dk_at dksX4_onDuty_0 16 rfl rfl)
theorem dX4_onDuty_17 : decode cX4_onDuty 17 = .ok (.iload_n 2, 1) := dk_28 (dk_at dksX4_onDuty_0 17 rfl rfl)
theorem dX4_onDuty_18 : decode cX4_onDuty 18 = .ok (.iconst 3, 1) := dk_6 (dk_at dksX4_onDuty_0 18 rfl rfl)
theorem dX4_onDuty_19 : decode cX4_onDuty 19 = .ok (.invokevirtual 88, 3) := dk_182 0 88 (dk_at dksX4_onDuty_0 19 rfl rfl)
theorem dX4_onDuty_22 : decode cX4_onDuty 22 = .ok (.iconst 4, 1) := dk_7 (dk_at dksX4_onDuty_0 22 rfl rfl)
theorem dX4_onDuty_23 : decode cX4_onDuty 23 = .ok (.if_icmp .eq 7, 3) := dk_159 0 7 (dk_at dksX4_onDuty_1 0 rfl rfl)
theorem dX4_onDuty_26 : decode cX4_onDuty 26 = .ok (.iconst 1, 1) := dk_4 (dk_at dksX4_onDuty_1 3 rfl rfl)
theorem dX4_onDuty_27 : decode cX4_onDuty 27 = .ok (.goto 4, 3) := dk_167 0 4 (dk_at dksX4_onDuty_1 4 rfl rfl)
theorem dX4_onDuty_30 : decode cX4_onDuty 30 = .ok (.iconst 0, 1) := dk_3 (dk_at dksX4_onDuty_1 7 rfl rfl)
theorem dX4_onDuty_31 : decode cX4_onDuty 31 = .ok (.iadd, 1) := dk_96 (dk_at dksX4_onDuty_1 8 rfl rfl)
theorem dX4_onDuty_32 : decode cX4_onDuty 32 = .ok (.istore_n 1, 1) := dk_60 (dk_at dksX4_onDuty_1 9 rfl rfl)
theorem dX4_onDuty_33 : decode cX4_onDuty 33 = .ok (.iinc 2 1, 3) := dk_132 2 1 (dk_at dksX4_onDuty_1 10 rfl rfl)
theorem dX4_onDuty_36 : decode cX4_onDuty 36 = .ok (.goto (-32), 3) := dk_167 255 224 (dk_at dksX4_onDuty_1 13 rfl rfl)
theorem dX4_onDuty_39 : decode cX4_onDuty 39 = .ok (.iload_n 1, 1) := dk_27 (dk_at dksX4_onDuty_1 16 rfl rfl)
theorem dX4_onDuty_40 : decode cX4_onDuty 40 = .ok (.ireturn, 1) := dk_172 (dk_at dksX4_onDuty_1 17 rfl rfl)
abbrev cX4_goHome : ByteArray := prog_16_method_36_code
def yX4_goHome : MethodName := ⟨RX4, "goHome", "(I)I"⟩
def dkwX4_goHome_3 : List UInt8 := [172]
abbrev dktX4_goHome_3 : List UInt8 := dkwX4_goHome_3 ++ []
def dkwX4_goHome_2 : List UInt8 := [27, 7, 182, 0, 88, 28, 160, 0, 6, 16, 251, 172, 42, 182, 0, 61, 42, 27, 7, 28, 182, 0, 64, 29]
abbrev dktX4_goHome_2 : List UInt8 := dkwX4_goHome_2 ++ dktX4_goHome_3
def dkwX4_goHome_1 : List UInt8 := [28, 182, 0, 53, 62, 42, 27, 6, 182, 0, 88, 154, 0, 9, 29, 18, 52, 161, 0, 6, 16, 252, 172, 42]
abbrev dktX4_goHome_1 : List UInt8 := dkwX4_goHome_1 ++ dktX4_goHome_2
def dkwX4_goHome_0 : List UInt8 := [42, 27, 182, 0, 107, 154, 0, 5, 2, 172, 42, 27, 3, 182, 0, 88, 61, 42, 42, 27, 7, 182, 0, 88]
abbrev dktX4_goHome_0 : List UInt8 := dkwX4_goHome_0 ++ dktX4_goHome_1
theorem dksX4_goHome_0 : cX4_goHome.data.toList.drop 0 = dktX4_goHome_0 := by decide +kernel
theorem dksX4_goHome_1 : cX4_goHome.data.toList.drop 24 = dktX4_goHome_1 := dk_seg dksX4_goHome_0 24 rfl rfl
theorem dksX4_goHome_2 : cX4_goHome.data.toList.drop 48 = dktX4_goHome_2 := dk_seg dksX4_goHome_1 24 rfl rfl
theorem dksX4_goHome_3 : cX4_goHome.data.toList.drop 72 = dktX4_goHome_3 := dk_seg dksX4_goHome_2 24 rfl rfl
theorem dX4_goHome_0 : decode cX4_goHome 0 = .ok (.aload_n 0, 1) := dk_42 (dk_at dksX4_goHome_0 0 rfl rfl)
theorem dX4_goHome_1 : decode cX4_goHome 1 = .ok (.iload_n 1, 1) := dk_27 (dk_at dksX4_goHome_0 1 rfl rfl)
theorem dX4_goHome_2 : decode cX4_goHome 2 = .ok (.invokevirtual 107, 3) := dk_182 0 107 (dk_at dksX4_goHome_0 2 rfl rfl)
theorem dX4_goHome_5 : decode cX4_goHome 5 = .ok (.ifCond .ne 5, 3) := dk_154 0 5 (dk_at dksX4_goHome_0 5 rfl rfl)
theorem dX4_goHome_8 : decode cX4_goHome 8 = .ok (.iconst (-1), 1) := dk_2 (dk_at dksX4_goHome_0 8 rfl rfl)
theorem dX4_goHome_9 : decode cX4_goHome 9 = .ok (.ireturn, 1) := dk_172 (dk_at dksX4_goHome_0 9 rfl rfl)
theorem dX4_goHome_10 : decode cX4_goHome 10 = .ok (.aload_n 0, 1) := dk_42 (dk_at dksX4_goHome_0 10 rfl rfl)
theorem dX4_goHome_11 : decode cX4_goHome 11 = .ok (.iload_n 1, 1) := dk_27 (dk_at dksX4_goHome_0 11 rfl rfl)
theorem dX4_goHome_12 : decode cX4_goHome 12 = .ok (.iconst 0, 1) := dk_3 (dk_at dksX4_goHome_0 12 rfl rfl)
theorem dX4_goHome_13 : decode cX4_goHome 13 = .ok (.invokevirtual 88, 3) := dk_182 0 88 (dk_at dksX4_goHome_0 13 rfl rfl)
theorem dX4_goHome_16 : decode cX4_goHome 16 = .ok (.istore_n 2, 1) := dk_61 (dk_at dksX4_goHome_0 16 rfl rfl)
theorem dX4_goHome_17 : decode cX4_goHome 17 = .ok (.aload_n 0, 1) := dk_42 (dk_at dksX4_goHome_0 17 rfl rfl)
theorem dX4_goHome_18 : decode cX4_goHome 18 = .ok (.aload_n 0, 1) := dk_42 (dk_at dksX4_goHome_0 18 rfl rfl)
theorem dX4_goHome_19 : decode cX4_goHome 19 = .ok (.iload_n 1, 1) := dk_27 (dk_at dksX4_goHome_0 19 rfl rfl)
theorem dX4_goHome_20 : decode cX4_goHome 20 = .ok (.iconst 4, 1) := dk_7 (dk_at dksX4_goHome_0 20 rfl rfl)
theorem dX4_goHome_21 : decode cX4_goHome 21 = .ok (.invokevirtual 88, 3) := dk_182 0 88 (dk_at dksX4_goHome_0 21 rfl rfl)
theorem dX4_goHome_24 : decode cX4_goHome 24 = .ok (.iload_n 2, 1) := dk_28 (dk_at dksX4_goHome_1 0 rfl rfl)
theorem dX4_goHome_25 : decode cX4_goHome 25 = .ok (.invokevirtual 53, 3) := dk_182 0 53 (dk_at dksX4_goHome_1 1 rfl rfl)
theorem dX4_goHome_28 : decode cX4_goHome 28 = .ok (.istore_n 3, 1) := dk_62 (dk_at dksX4_goHome_1 4 rfl rfl)
theorem dX4_goHome_29 : decode cX4_goHome 29 = .ok (.aload_n 0, 1) := dk_42 (dk_at dksX4_goHome_1 5 rfl rfl)
theorem dX4_goHome_30 : decode cX4_goHome 30 = .ok (.iload_n 1, 1) := dk_27 (dk_at dksX4_goHome_1 6 rfl rfl)
theorem dX4_goHome_31 : decode cX4_goHome 31 = .ok (.iconst 3, 1) := dk_6 (dk_at dksX4_goHome_1 7 rfl rfl)
theorem dX4_goHome_32 : decode cX4_goHome 32 = .ok (.invokevirtual 88, 3) := dk_182 0 88 (dk_at dksX4_goHome_1 8 rfl rfl)
theorem dX4_goHome_35 : decode cX4_goHome 35 = .ok (.ifCond .ne 9, 3) := dk_154 0 9 (dk_at dksX4_goHome_1 11 rfl rfl)
theorem dX4_goHome_38 : decode cX4_goHome 38 = .ok (.iload_n 3, 1) := dk_29 (dk_at dksX4_goHome_1 14 rfl rfl)
theorem dX4_goHome_39 : decode cX4_goHome 39 = .ok (.ldc 52, 2) := dk_18 52 (dk_at dksX4_goHome_1 15 rfl rfl)
theorem dX4_goHome_41 : decode cX4_goHome 41 = .ok (.if_icmp .lt 6, 3) := dk_161 0 6 (dk_at dksX4_goHome_1 17 rfl rfl)
theorem dX4_goHome_44 : decode cX4_goHome 44 = .ok (.bipush (-4), 2) := dk_16 252 (dk_at dksX4_goHome_1 20 rfl rfl)
theorem dX4_goHome_46 : decode cX4_goHome 46 = .ok (.ireturn, 1) := dk_172 (dk_at dksX4_goHome_1 22 rfl rfl)
theorem dX4_goHome_47 : decode cX4_goHome 47 = .ok (.aload_n 0, 1) := dk_42 (dk_at dksX4_goHome_1 23 rfl rfl)
theorem dX4_goHome_48 : decode cX4_goHome 48 = .ok (.iload_n 1, 1) := dk_27 (dk_at dksX4_goHome_2 0 rfl rfl)
theorem dX4_goHome_49 : decode cX4_goHome 49 = .ok (.iconst 4, 1) := dk_7 (dk_at dksX4_goHome_2 1 rfl rfl)
theorem dX4_goHome_50 : decode cX4_goHome 50 = .ok (.invokevirtual 88, 3) := dk_182 0 88 (dk_at dksX4_goHome_2 2 rfl rfl)
theorem dX4_goHome_53 : decode cX4_goHome 53 = .ok (.iload_n 2, 1) := dk_28 (dk_at dksX4_goHome_2 5 rfl rfl)
theorem dX4_goHome_54 : decode cX4_goHome 54 = .ok (.if_icmp .ne 6, 3) := dk_160 0 6 (dk_at dksX4_goHome_2 6 rfl rfl)
theorem dX4_goHome_57 : decode cX4_goHome 57 = .ok (.bipush (-5), 2) := dk_16 251 (dk_at dksX4_goHome_2 9 rfl rfl)
theorem dX4_goHome_59 : decode cX4_goHome 59 = .ok (.ireturn, 1) := dk_172 (dk_at dksX4_goHome_2 11 rfl rfl)
theorem dX4_goHome_60 : decode cX4_goHome 60 = .ok (.aload_n 0, 1) := dk_42 (dk_at dksX4_goHome_2 12 rfl rfl)
theorem dX4_goHome_61 : decode cX4_goHome 61 = .ok (.invokevirtual 61, 3) := dk_182 0 61 (dk_at dksX4_goHome_2 13 rfl rfl)
theorem dX4_goHome_64 : decode cX4_goHome 64 = .ok (.aload_n 0, 1) := dk_42 (dk_at dksX4_goHome_2 16 rfl rfl)
theorem dX4_goHome_65 : decode cX4_goHome 65 = .ok (.iload_n 1, 1) := dk_27 (dk_at dksX4_goHome_2 17 rfl rfl)
theorem dX4_goHome_66 : decode cX4_goHome 66 = .ok (.iconst 4, 1) := dk_7 (dk_at dksX4_goHome_2 18 rfl rfl)
theorem dX4_goHome_67 : decode cX4_goHome 67 = .ok (.iload_n 2, 1) := dk_28 (dk_at dksX4_goHome_2 19 rfl rfl)
theorem dX4_goHome_68 : decode cX4_goHome 68 = .ok (.invokevirtual 64, 3) := dk_182 0 64 (dk_at dksX4_goHome_2 20 rfl rfl)
theorem dX4_goHome_71 : decode cX4_goHome 71 = .ok (.iload_n 3, 1) := dk_29 (dk_at dksX4_goHome_2 23 rfl rfl)
theorem dX4_goHome_72 : decode cX4_goHome 72 = .ok (.ireturn, 1) := dk_172 (dk_at dksX4_goHome_3 0 rfl rfl)
abbrev cX4_way : ByteArray := prog_16_method_19_code
def yX4_way : MethodName := ⟨RX4, "way", "(II)I"⟩
def dkwX4_way_0 : List UInt8 := [42, 180, 0, 28, 16, 12, 27, 104, 28, 96, 46, 172]
abbrev dktX4_way_0 : List UInt8 := dkwX4_way_0 ++ []
theorem dksX4_way_0 : cX4_way.data.toList.drop 0 = dktX4_way_0 := by decide +kernel
theorem dX4_way_0 : decode cX4_way 0 = .ok (.aload_n 0, 1) := dk_42 (dk_at dksX4_way_0 0 rfl rfl)
theorem dX4_way_1 : decode cX4_way 1 = .ok (.getfield 28, 3) := dk_180 0 28 (dk_at dksX4_way_0 1 rfl rfl)
theorem dX4_way_4 : decode cX4_way 4 = .ok (.bipush 12, 2) := dk_16 12 (dk_at dksX4_way_0 4 rfl rfl)
theorem dX4_way_6 : decode cX4_way 6 = .ok (.iload_n 1, 1) := dk_27 (dk_at dksX4_way_0 6 rfl rfl)
theorem dX4_way_7 : decode cX4_way 7 = .ok (.imul, 1) := dk_104 (dk_at dksX4_way_0 7 rfl rfl)
theorem dX4_way_8 : decode cX4_way 8 = .ok (.iload_n 2, 1) := dk_28 (dk_at dksX4_way_0 8 rfl rfl)
theorem dX4_way_9 : decode cX4_way 9 = .ok (.iadd, 1) := dk_96 (dk_at dksX4_way_0 9 rfl rfl)
theorem dX4_way_10 : decode cX4_way 10 = .ok (.iaload, 1) := dk_46 (dk_at dksX4_way_0 10 rfl rfl)
theorem dX4_way_11 : decode cX4_way 11 = .ok (.ireturn, 1) := dk_172 (dk_at dksX4_way_0 11 rfl rfl)
abbrev cX4_fetch : ByteArray := prog_16_method_37_code
def yX4_fetch : MethodName := ⟨RX4, "fetch", "(II)I"⟩
def dkwX4_fetch_2 : List UInt8 := [27, 104, 96, 5, 96, 92, 46, 28, 100, 79, 42, 27, 5, 182, 0, 117, 172]
abbrev dktX4_fetch_2 : List UInt8 := dkwX4_fetch_2 ++ []
def dkwX4_fetch_1 : List UInt8 := [27, 5, 182, 0, 117, 28, 162, 0, 6, 16, 252, 172, 42, 182, 0, 61, 42, 180, 0, 7, 17, 1, 14, 7]
abbrev dktX4_fetch_1 : List UInt8 := dkwX4_fetch_1 ++ dktX4_fetch_2
def dkwX4_fetch_0 : List UInt8 := [42, 27, 182, 0, 114, 154, 0, 5, 2, 172, 28, 4, 16, 9, 184, 0, 48, 154, 0, 6, 16, 254, 172, 42]
abbrev dktX4_fetch_0 : List UInt8 := dkwX4_fetch_0 ++ dktX4_fetch_1
theorem dksX4_fetch_0 : cX4_fetch.data.toList.drop 0 = dktX4_fetch_0 := by decide +kernel
theorem dksX4_fetch_1 : cX4_fetch.data.toList.drop 24 = dktX4_fetch_1 := dk_seg dksX4_fetch_0 24 rfl rfl
theorem dksX4_fetch_2 : cX4_fetch.data.toList.drop 48 = dktX4_fetch_2 := dk_seg dksX4_fetch_1 24 rfl rfl
theorem dX4_fetch_0 : decode cX4_fetch 0 = .ok (.aload_n 0, 1) := dk_42 (dk_at dksX4_fetch_0 0 rfl rfl)
theorem dX4_fetch_1 : decode cX4_fetch 1 = .ok (.iload_n 1, 1) := dk_27 (dk_at dksX4_fetch_0 1 rfl rfl)
theorem dX4_fetch_2 : decode cX4_fetch 2 = .ok (.invokevirtual 114, 3) := dk_182 0 114 (dk_at dksX4_fetch_0 2 rfl rfl)
theorem dX4_fetch_5 : decode cX4_fetch 5 = .ok (.ifCond .ne 5, 3) := dk_154 0 5 (dk_at dksX4_fetch_0 5 rfl rfl)
theorem dX4_fetch_8 : decode cX4_fetch 8 = .ok (.iconst (-1), 1) := dk_2 (dk_at dksX4_fetch_0 8 rfl rfl)
theorem dX4_fetch_9 : decode cX4_fetch 9 = .ok (.ireturn, 1) := dk_172 (dk_at dksX4_fetch_0 9 rfl rfl)
theorem dX4_fetch_10 : decode cX4_fetch 10 = .ok (.iload_n 2, 1) := dk_28 (dk_at dksX4_fetch_0 10 rfl rfl)
theorem dX4_fetch_11 : decode cX4_fetch 11 = .ok (.iconst 1, 1) := dk_4 (dk_at dksX4_fetch_0 11 rfl rfl)
theorem dX4_fetch_12 : decode cX4_fetch 12 = .ok (.bipush 9, 2) := dk_16 9 (dk_at dksX4_fetch_0 12 rfl rfl)
theorem dX4_fetch_14 : decode cX4_fetch 14 = .ok (.invokestatic 48, 3) := dk_184 0 48 (dk_at dksX4_fetch_0 14 rfl rfl)
theorem dX4_fetch_17 : decode cX4_fetch 17 = .ok (.ifCond .ne 6, 3) := dk_154 0 6 (dk_at dksX4_fetch_0 17 rfl rfl)
theorem dX4_fetch_20 : decode cX4_fetch 20 = .ok (.bipush (-2), 2) := dk_16 254 (dk_at dksX4_fetch_0 20 rfl rfl)
theorem dX4_fetch_22 : decode cX4_fetch 22 = .ok (.ireturn, 1) := dk_172 (dk_at dksX4_fetch_0 22 rfl rfl)
theorem dX4_fetch_23 : decode cX4_fetch 23 = .ok (.aload_n 0, 1) := dk_42 (dk_at dksX4_fetch_0 23 rfl rfl)
theorem dX4_fetch_24 : decode cX4_fetch 24 = .ok (.iload_n 1, 1) := dk_27 (dk_at dksX4_fetch_1 0 rfl rfl)
theorem dX4_fetch_25 : decode cX4_fetch 25 = .ok (.iconst 2, 1) := dk_5 (dk_at dksX4_fetch_1 1 rfl rfl)
theorem dX4_fetch_26 : decode cX4_fetch 26 = .ok (.invokevirtual 117, 3) := dk_182 0 117 (dk_at dksX4_fetch_1 2 rfl rfl)
theorem dX4_fetch_29 : decode cX4_fetch 29 = .ok (.iload_n 2, 1) := dk_28 (dk_at dksX4_fetch_1 5 rfl rfl)
theorem dX4_fetch_30 : decode cX4_fetch 30 = .ok (.if_icmp .ge 6, 3) := dk_162 0 6 (dk_at dksX4_fetch_1 6 rfl rfl)
theorem dX4_fetch_33 : decode cX4_fetch 33 = .ok (.bipush (-4), 2) := dk_16 252 (dk_at dksX4_fetch_1 9 rfl rfl)
theorem dX4_fetch_35 : decode cX4_fetch 35 = .ok (.ireturn, 1) := dk_172 (dk_at dksX4_fetch_1 11 rfl rfl)
theorem dX4_fetch_36 : decode cX4_fetch 36 = .ok (.aload_n 0, 1) := dk_42 (dk_at dksX4_fetch_1 12 rfl rfl)
theorem dX4_fetch_37 : decode cX4_fetch 37 = .ok (.invokevirtual 61, 3) := dk_182 0 61 (dk_at dksX4_fetch_1 13 rfl rfl)
theorem dX4_fetch_40 : decode cX4_fetch 40 = .ok (.aload_n 0, 1) := dk_42 (dk_at dksX4_fetch_1 16 rfl rfl)
theorem dX4_fetch_41 : decode cX4_fetch 41 = .ok (.getfield 7, 3) := dk_180 0 7 (dk_at dksX4_fetch_1 17 rfl rfl)
theorem dX4_fetch_44 : decode cX4_fetch 44 = .ok (.sipush 270, 3) := dk_17 1 14 (dk_at dksX4_fetch_1 20 rfl rfl)
theorem dX4_fetch_47 : decode cX4_fetch 47 = .ok (.iconst 4, 1) := dk_7 (dk_at dksX4_fetch_1 23 rfl rfl)
theorem dX4_fetch_48 : decode cX4_fetch 48 = .ok (.iload_n 1, 1) := dk_27 (dk_at dksX4_fetch_2 0 rfl rfl)
theorem dX4_fetch_49 : decode cX4_fetch 49 = .ok (.imul, 1) := dk_104 (dk_at dksX4_fetch_2 1 rfl rfl)
theorem dX4_fetch_50 : decode cX4_fetch 50 = .ok (.iadd, 1) := dk_96 (dk_at dksX4_fetch_2 2 rfl rfl)
theorem dX4_fetch_51 : decode cX4_fetch 51 = .ok (.iconst 2, 1) := dk_5 (dk_at dksX4_fetch_2 3 rfl rfl)
theorem dX4_fetch_52 : decode cX4_fetch 52 = .ok (.iadd, 1) := dk_96 (dk_at dksX4_fetch_2 4 rfl rfl)
theorem dX4_fetch_53 : decode cX4_fetch 53 = .ok (.dup2, 1) := dk_92 (dk_at dksX4_fetch_2 5 rfl rfl)
theorem dX4_fetch_54 : decode cX4_fetch 54 = .ok (.iaload, 1) := dk_46 (dk_at dksX4_fetch_2 6 rfl rfl)
theorem dX4_fetch_55 : decode cX4_fetch 55 = .ok (.iload_n 2, 1) := dk_28 (dk_at dksX4_fetch_2 7 rfl rfl)
theorem dX4_fetch_56 : decode cX4_fetch 56 = .ok (.isub, 1) := dk_100 (dk_at dksX4_fetch_2 8 rfl rfl)
theorem dX4_fetch_57 : decode cX4_fetch 57 = .ok (.iastore, 1) := dk_79 (dk_at dksX4_fetch_2 9 rfl rfl)
theorem dX4_fetch_58 : decode cX4_fetch 58 = .ok (.aload_n 0, 1) := dk_42 (dk_at dksX4_fetch_2 10 rfl rfl)
theorem dX4_fetch_59 : decode cX4_fetch 59 = .ok (.iload_n 1, 1) := dk_27 (dk_at dksX4_fetch_2 11 rfl rfl)
theorem dX4_fetch_60 : decode cX4_fetch 60 = .ok (.iconst 2, 1) := dk_5 (dk_at dksX4_fetch_2 12 rfl rfl)
theorem dX4_fetch_61 : decode cX4_fetch 61 = .ok (.invokevirtual 117, 3) := dk_182 0 117 (dk_at dksX4_fetch_2 13 rfl rfl)
theorem dX4_fetch_64 : decode cX4_fetch 64 = .ok (.ireturn, 1) := dk_172 (dk_at dksX4_fetch_2 16 rfl rfl)
abbrev cX4_isGarage : ByteArray := prog_16_method_9_code
def yX4_isGarage : MethodName := ⟨RX4, "isGarage", "(I)Z"⟩
def dkwX4_isGarage_0 : List UInt8 := [27, 3, 42, 180, 0, 7, 16, 8, 46, 4, 100, 184, 0, 48, 172]
abbrev dktX4_isGarage_0 : List UInt8 := dkwX4_isGarage_0 ++ []
theorem dksX4_isGarage_0 : cX4_isGarage.data.toList.drop 0 = dktX4_isGarage_0 := by decide +kernel
theorem dX4_isGarage_0 : decode cX4_isGarage 0 = .ok (.iload_n 1, 1) := dk_27 (dk_at dksX4_isGarage_0 0 rfl rfl)
theorem dX4_isGarage_1 : decode cX4_isGarage 1 = .ok (.iconst 0, 1) := dk_3 (dk_at dksX4_isGarage_0 1 rfl rfl)
theorem dX4_isGarage_2 : decode cX4_isGarage 2 = .ok (.aload_n 0, 1) := dk_42 (dk_at dksX4_isGarage_0 2 rfl rfl)
theorem dX4_isGarage_3 : decode cX4_isGarage 3 = .ok (.getfield 7, 3) := dk_180 0 7 (dk_at dksX4_isGarage_0 3 rfl rfl)
theorem dX4_isGarage_6 : decode cX4_isGarage 6 = .ok (.bipush 8, 2) := dk_16 8 (dk_at dksX4_isGarage_0 6 rfl rfl)
theorem dX4_isGarage_8 : decode cX4_isGarage 8 = .ok (.iaload, 1) := dk_46 (dk_at dksX4_isGarage_0 8 rfl rfl)
theorem dX4_isGarage_9 : decode cX4_isGarage 9 = .ok (.iconst 1, 1) := dk_4 (dk_at dksX4_isGarage_0 9 rfl rfl)
theorem dX4_isGarage_10 : decode cX4_isGarage 10 = .ok (.isub, 1) := dk_100 (dk_at dksX4_isGarage_0 10 rfl rfl)
theorem dX4_isGarage_11 : decode cX4_isGarage 11 = .ok (.invokestatic 48, 3) := dk_184 0 48 (dk_at dksX4_isGarage_0 11 rfl rfl)
theorem dX4_isGarage_14 : decode cX4_isGarage 14 = .ok (.ireturn, 1) := dk_172 (dk_at dksX4_isGarage_0 14 rfl rfl)
abbrev cX4_ofGarage : ByteArray := prog_16_method_15_code
def yX4_ofGarage : MethodName := ⟨RX4, "ofGarage", "(II)I"⟩
def dkwX4_ofGarage_0 : List UInt8 := [42, 180, 0, 7, 17, 1, 14, 7, 27, 104, 96, 28, 96, 46, 172]
abbrev dktX4_ofGarage_0 : List UInt8 := dkwX4_ofGarage_0 ++ []
theorem dksX4_ofGarage_0 : cX4_ofGarage.data.toList.drop 0 = dktX4_ofGarage_0 := by decide +kernel
theorem dX4_ofGarage_0 : decode cX4_ofGarage 0 = .ok (.aload_n 0, 1) := dk_42 (dk_at dksX4_ofGarage_0 0 rfl rfl)
theorem dX4_ofGarage_1 : decode cX4_ofGarage 1 = .ok (.getfield 7, 3) := dk_180 0 7 (dk_at dksX4_ofGarage_0 1 rfl rfl)
theorem dX4_ofGarage_4 : decode cX4_ofGarage 4 = .ok (.sipush 270, 3) := dk_17 1 14 (dk_at dksX4_ofGarage_0 4 rfl rfl)
theorem dX4_ofGarage_7 : decode cX4_ofGarage 7 = .ok (.iconst 4, 1) := dk_7 (dk_at dksX4_ofGarage_0 7 rfl rfl)
theorem dX4_ofGarage_8 : decode cX4_ofGarage 8 = .ok (.iload_n 1, 1) := dk_27 (dk_at dksX4_ofGarage_0 8 rfl rfl)
theorem dX4_ofGarage_9 : decode cX4_ofGarage 9 = .ok (.imul, 1) := dk_104 (dk_at dksX4_ofGarage_0 9 rfl rfl)
theorem dX4_ofGarage_10 : decode cX4_ofGarage 10 = .ok (.iadd, 1) := dk_96 (dk_at dksX4_ofGarage_0 10 rfl rfl)
theorem dX4_ofGarage_11 : decode cX4_ofGarage 11 = .ok (.iload_n 2, 1) := dk_28 (dk_at dksX4_ofGarage_0 11 rfl rfl)
theorem dX4_ofGarage_12 : decode cX4_ofGarage 12 = .ok (.iadd, 1) := dk_96 (dk_at dksX4_ofGarage_0 12 rfl rfl)
theorem dX4_ofGarage_13 : decode cX4_ofGarage 13 = .ok (.iaload, 1) := dk_46 (dk_at dksX4_ofGarage_0 13 rfl rfl)
theorem dX4_ofGarage_14 : decode cX4_ofGarage 14 = .ok (.ireturn, 1) := dk_172 (dk_at dksX4_ofGarage_0 14 rfl rfl)
abbrev cX4_pass : ByteArray := prog_16_method_54_code
def yX4_pass : MethodName := ⟨RX4, "pass", "(I)I"⟩
def dkwX4_pass_3 : List UInt8 := [182, 0, 172, 96, 28, 100, 172]
abbrev dktX4_pass_3 : List UInt8 := dkwX4_pass_3 ++ []
def dkwX4_pass_2 : List UInt8 := [62, 29, 27, 162, 0, 13, 42, 182, 0, 175, 132, 3, 1, 167, 255, 244, 42, 8, 182, 0, 172, 42, 16, 6]
abbrev dktX4_pass_2 : List UInt8 := dkwX4_pass_2 ++ dktX4_pass_3
def dkwX4_pass_1 : List UInt8 := [164, 0, 6, 16, 252, 172, 42, 182, 0, 61, 42, 8, 182, 0, 172, 42, 16, 6, 182, 0, 172, 96, 61, 3]
abbrev dktX4_pass_1 : List UInt8 := dkwX4_pass_1 ++ dktX4_pass_2
def dkwX4_pass_0 : List UInt8 := [27, 4, 16, 120, 184, 0, 48, 154, 0, 6, 16, 254, 172, 42, 180, 0, 7, 3, 46, 27, 96, 17, 11, 64]
abbrev dktX4_pass_0 : List UInt8 := dkwX4_pass_0 ++ dktX4_pass_1
theorem dksX4_pass_0 : cX4_pass.data.toList.drop 0 = dktX4_pass_0 := by decide +kernel
theorem dksX4_pass_1 : cX4_pass.data.toList.drop 24 = dktX4_pass_1 := dk_seg dksX4_pass_0 24 rfl rfl
theorem dksX4_pass_2 : cX4_pass.data.toList.drop 48 = dktX4_pass_2 := dk_seg dksX4_pass_1 24 rfl rfl
theorem dksX4_pass_3 : cX4_pass.data.toList.drop 72 = dktX4_pass_3 := dk_seg dksX4_pass_2 24 rfl rfl
theorem dX4_pass_0 : decode cX4_pass 0 = .ok (.iload_n 1, 1) := dk_27 (dk_at dksX4_pass_0 0 rfl rfl)
theorem dX4_pass_1 : decode cX4_pass 1 = .ok (.iconst 1, 1) := dk_4 (dk_at dksX4_pass_0 1 rfl rfl)
theorem dX4_pass_2 : decode cX4_pass 2 = .ok (.bipush 120, 2) := dk_16 120 (dk_at dksX4_pass_0 2 rfl rfl)
theorem dX4_pass_4 : decode cX4_pass 4 = .ok (.invokestatic 48, 3) := dk_184 0 48 (dk_at dksX4_pass_0 4 rfl rfl)
theorem dX4_pass_7 : decode cX4_pass 7 = .ok (.ifCond .ne 6, 3) := dk_154 0 6 (dk_at dksX4_pass_0 7 rfl rfl)
theorem dX4_pass_10 : decode cX4_pass 10 = .ok (.bipush (-2), 2) := dk_16 254 (dk_at dksX4_pass_0 10 rfl rfl)
theorem dX4_pass_12 : decode cX4_pass 12 = .ok (.ireturn, 1) := dk_172 (dk_at dksX4_pass_0 12 rfl rfl)
theorem dX4_pass_13 : decode cX4_pass 13 = .ok (.aload_n 0, 1) := dk_42 (dk_at dksX4_pass_0 13 rfl rfl)
theorem dX4_pass_14 : decode cX4_pass 14 = .ok (.getfield 7, 3) := dk_180 0 7 (dk_at dksX4_pass_0 14 rfl rfl)
theorem dX4_pass_17 : decode cX4_pass 17 = .ok (.iconst 0, 1) := dk_3 (dk_at dksX4_pass_0 17 rfl rfl)
theorem dX4_pass_18 : decode cX4_pass 18 = .ok (.iaload, 1) := dk_46 (dk_at dksX4_pass_0 18 rfl rfl)
theorem dX4_pass_19 : decode cX4_pass 19 = .ok (.iload_n 1, 1) := dk_27 (dk_at dksX4_pass_0 19 rfl rfl)
theorem dX4_pass_20 : decode cX4_pass 20 = .ok (.iadd, 1) := dk_96 (dk_at dksX4_pass_0 20 rfl rfl)
theorem dX4_pass_21 : decode cX4_pass 21 = .ok (.sipush 2880, 3) := dk_17 11 64 (dk_at dksX4_pass_0 21 rfl rfl)
theorem dX4_pass_24 : decode cX4_pass 24 = .ok (.if_icmp .le 6, 3) := dk_164 0 6 (dk_at dksX4_pass_1 0 rfl rfl)
theorem dX4_pass_27 : decode cX4_pass 27 = .ok (.bipush (-4), 2) := dk_16 252 (dk_at dksX4_pass_1 3 rfl rfl)
theorem dX4_pass_29 : decode cX4_pass 29 = .ok (.ireturn, 1) := dk_172 (dk_at dksX4_pass_1 5 rfl rfl)
theorem dX4_pass_30 : decode cX4_pass 30 = .ok (.aload_n 0, 1) := dk_42 (dk_at dksX4_pass_1 6 rfl rfl)
theorem dX4_pass_31 : decode cX4_pass 31 = .ok (.invokevirtual 61, 3) := dk_182 0 61 (dk_at dksX4_pass_1 7 rfl rfl)
theorem dX4_pass_34 : decode cX4_pass 34 = .ok (.aload_n 0, 1) := dk_42 (dk_at dksX4_pass_1 10 rfl rfl)
theorem dX4_pass_35 : decode cX4_pass 35 = .ok (.iconst 5, 1) := dk_8 (dk_at dksX4_pass_1 11 rfl rfl)
theorem dX4_pass_36 : decode cX4_pass 36 = .ok (.invokevirtual 172, 3) := dk_182 0 172 (dk_at dksX4_pass_1 12 rfl rfl)
theorem dX4_pass_39 : decode cX4_pass 39 = .ok (.aload_n 0, 1) := dk_42 (dk_at dksX4_pass_1 15 rfl rfl)
theorem dX4_pass_40 : decode cX4_pass 40 = .ok (.bipush 6, 2) := dk_16 6 (dk_at dksX4_pass_1 16 rfl rfl)
theorem dX4_pass_42 : decode cX4_pass 42 = .ok (.invokevirtual 172, 3) := dk_182 0 172 (dk_at dksX4_pass_1 18 rfl rfl)
theorem dX4_pass_45 : decode cX4_pass 45 = .ok (.iadd, 1) := dk_96 (dk_at dksX4_pass_1 21 rfl rfl)
theorem dX4_pass_46 : decode cX4_pass 46 = .ok (.istore_n 2, 1) := dk_61 (dk_at dksX4_pass_1 22 rfl rfl)
theorem dX4_pass_47 : decode cX4_pass 47 = .ok (.iconst 0, 1) := dk_3 (dk_at dksX4_pass_1 23 rfl rfl)
theorem dX4_pass_48 : decode cX4_pass 48 = .ok (.istore_n 3, 1) := dk_62 (dk_at dksX4_pass_2 0 rfl rfl)
theorem dX4_pass_49 : decode cX4_pass 49 = .ok (.iload_n 3, 1) := dk_29 (dk_at dksX4_pass_2 1 rfl rfl)
theorem dX4_pass_50 : decode cX4_pass 50 = .ok (.iload_n 1, 1) := dk_27 (dk_at dksX4_pass_2 2 rfl rfl)
theorem dX4_pass_51 : decode cX4_pass 51 = .ok (.if_icmp .ge 13, 3) := dk_162 0 13 (dk_at dksX4_pass_2 3 rfl rfl)
theorem dX4_pass_54 : decode cX4_pass 54 = .ok (.aload_n 0, 1) := dk_42 (dk_at dksX4_pass_2 6 rfl rfl)
theorem dX4_pass_55 : decode cX4_pass 55 = .ok (.invokevirtual 175, 3) := dk_182 0 175 (dk_at dksX4_pass_2 7 rfl rfl)
theorem dX4_pass_58 : decode cX4_pass 58 = .ok (.iinc 3 1, 3) := dk_132 3 1 (dk_at dksX4_pass_2 10 rfl rfl)
theorem dX4_pass_61 : decode cX4_pass 61 = .ok (.goto (-12), 3) := dk_167 255 244 (dk_at dksX4_pass_2 13 rfl rfl)
theorem dX4_pass_64 : decode cX4_pass 64 = .ok (.aload_n 0, 1) := dk_42 (dk_at dksX4_pass_2 16 rfl rfl)
theorem dX4_pass_65 : decode cX4_pass 65 = .ok (.iconst 5, 1) := dk_8 (dk_at dksX4_pass_2 17 rfl rfl)
theorem dX4_pass_66 : decode cX4_pass 66 = .ok (.invokevirtual 172, 3) := dk_182 0 172 (dk_at dksX4_pass_2 18 rfl rfl)
theorem dX4_pass_69 : decode cX4_pass 69 = .ok (.aload_n 0, 1) := dk_42 (dk_at dksX4_pass_2 21 rfl rfl)
theorem dX4_pass_70 : decode cX4_pass 70 = .ok (.bipush 6, 2) := dk_16 6 (dk_at dksX4_pass_2 22 rfl rfl)
theorem dX4_pass_72 : decode cX4_pass 72 = .ok (.invokevirtual 172, 3) := dk_182 0 172 (dk_at dksX4_pass_3 0 rfl rfl)
theorem dX4_pass_75 : decode cX4_pass 75 = .ok (.iadd, 1) := dk_96 (dk_at dksX4_pass_3 3 rfl rfl)
theorem dX4_pass_76 : decode cX4_pass 76 = .ok (.iload_n 2, 1) := dk_28 (dk_at dksX4_pass_3 4 rfl rfl)
theorem dX4_pass_77 : decode cX4_pass 77 = .ok (.isub, 1) := dk_100 (dk_at dksX4_pass_3 5 rfl rfl)
theorem dX4_pass_78 : decode cX4_pass 78 = .ok (.ireturn, 1) := dk_172 (dk_at dksX4_pass_3 6 rfl rfl)
abbrev cX4_manyIn : ByteArray := prog_16_method_53_code
def yX4_manyIn : MethodName := ⟨RX4, "manyIn", "(I)I"⟩
def dkwX4_manyIn_1 : List UInt8 := [160, 0, 7, 4, 167, 0, 4, 3, 96, 61, 132, 3, 1, 167, 255, 224, 28, 172]
abbrev dktX4_manyIn_1 : List UInt8 := dkwX4_manyIn_1 ++ []
def dkwX4_manyIn_0 : List UInt8 := [3, 61, 3, 62, 29, 42, 180, 0, 7, 16, 9, 46, 162, 0, 27, 28, 42, 29, 8, 182, 0, 72, 27]
abbrev dktX4_manyIn_0 : List UInt8 := dkwX4_manyIn_0 ++ dktX4_manyIn_1
theorem dksX4_manyIn_0 : cX4_manyIn.data.toList.drop 0 = dktX4_manyIn_0 := by decide +kernel
theorem dksX4_manyIn_1 : cX4_manyIn.data.toList.drop 23 = dktX4_manyIn_1 := dk_seg dksX4_manyIn_0 23 rfl rfl
theorem dX4_manyIn_0 : decode cX4_manyIn 0 = .ok (.iconst 0, 1) := dk_3 (dk_at dksX4_manyIn_0 0 rfl rfl)
theorem dX4_manyIn_1 : decode cX4_manyIn 1 = .ok (.istore_n 2, 1) := dk_61 (dk_at dksX4_manyIn_0 1 rfl rfl)
theorem dX4_manyIn_2 : decode cX4_manyIn 2 = .ok (.iconst 0, 1) := dk_3 (dk_at dksX4_manyIn_0 2 rfl rfl)
theorem dX4_manyIn_3 : decode cX4_manyIn 3 = .ok (.istore_n 3, 1) := dk_62 (dk_at dksX4_manyIn_0 3 rfl rfl)
theorem dX4_manyIn_4 : decode cX4_manyIn 4 = .ok (.iload_n 3, 1) := dk_29 (dk_at dksX4_manyIn_0 4 rfl rfl)
theorem dX4_manyIn_5 : decode cX4_manyIn 5 = .ok (.aload_n 0, 1) := dk_42 (dk_at dksX4_manyIn_0 5 rfl rfl)
theorem dX4_manyIn_6 : decode cX4_manyIn 6 = .ok (.getfield 7, 3) := dk_180 0 7 (dk_at dksX4_manyIn_0 6 rfl rfl)
theorem dX4_manyIn_9 : decode cX4_manyIn 9 = .ok (.bipush 9, 2) := dk_16 9 (dk_at dksX4_manyIn_0 9 rfl rfl)
theorem dX4_manyIn_11 : decode cX4_manyIn 11 = .ok (.iaload, 1) := dk_46 (dk_at dksX4_manyIn_0 11 rfl rfl)
theorem dX4_manyIn_12 : decode cX4_manyIn 12 = .ok (.if_icmp .ge 27, 3) := dk_162 0 27 (dk_at dksX4_manyIn_0 12 rfl rfl)
theorem dX4_manyIn_15 : decode cX4_manyIn 15 = .ok (.iload_n 2, 1) := dk_28 (dk_at dksX4_manyIn_0 15 rfl rfl)
theorem dX4_manyIn_16 : decode cX4_manyIn 16 = .ok (.aload_n 0, 1) := dk_42 (dk_at dksX4_manyIn_0 16 rfl rfl)
theorem dX4_manyIn_17 : decode cX4_manyIn 17 = .ok (.iload_n 3, 1) := dk_29 (dk_at dksX4_manyIn_0 17 rfl rfl)
theorem dX4_manyIn_18 : decode cX4_manyIn 18 = .ok (.iconst 5, 1) := dk_8 (dk_at dksX4_manyIn_0 18 rfl rfl)
theorem dX4_manyIn_19 : decode cX4_manyIn 19 = .ok (.invokevirtual 72, 3) := dk_182 0 72 (dk_at dksX4_manyIn_0 19 rfl rfl)
theorem dX4_manyIn_22 : decode cX4_manyIn 22 = .ok (.iload_n 1, 1) := dk_27 (dk_at dksX4_manyIn_0 22 rfl rfl)
theorem dX4_manyIn_23 : decode cX4_manyIn 23 = .ok (.if_icmp .ne 7, 3) := dk_160 0 7 (dk_at dksX4_manyIn_1 0 rfl rfl)
theorem dX4_manyIn_26 : decode cX4_manyIn 26 = .ok (.iconst 1, 1) := dk_4 (dk_at dksX4_manyIn_1 3 rfl rfl)
theorem dX4_manyIn_27 : decode cX4_manyIn 27 = .ok (.goto 4, 3) := dk_167 0 4 (dk_at dksX4_manyIn_1 4 rfl rfl)
theorem dX4_manyIn_30 : decode cX4_manyIn 30 = .ok (.iconst 0, 1) := dk_3 (dk_at dksX4_manyIn_1 7 rfl rfl)
theorem dX4_manyIn_31 : decode cX4_manyIn 31 = .ok (.iadd, 1) := dk_96 (dk_at dksX4_manyIn_1 8 rfl rfl)
theorem dX4_manyIn_32 : decode cX4_manyIn 32 = .ok (.istore_n 2, 1) := dk_61 (dk_at dksX4_manyIn_1 9 rfl rfl)
theorem dX4_manyIn_33 : decode cX4_manyIn 33 = .ok (.iinc 3 1, 3) := dk_132 3 1 (dk_at dksX4_manyIn_1 10 rfl rfl)
theorem dX4_manyIn_36 : decode cX4_manyIn 36 = .ok (.goto (-32), 3) := dk_167 255 224 (dk_at dksX4_manyIn_1 13 rfl rfl)
theorem dX4_manyIn_39 : decode cX4_manyIn 39 = .ok (.iload_n 2, 1) := dk_28 (dk_at dksX4_manyIn_1 16 rfl rfl)
theorem dX4_manyIn_40 : decode cX4_manyIn 40 = .ok (.ireturn, 1) := dk_172 (dk_at dksX4_manyIn_1 17 rfl rfl)
abbrev cX4_passes : ByteArray := prog_16_method_52_code
def yX4_passes : MethodName := ⟨RX4, "passes", "()V"⟩
def dkwX4_passes_5 : List UInt8 := [46, 4, 96, 79, 177]
abbrev dktX4_passes_5 : List UInt8 := dkwX4_passes_5 ++ []
def dkwX4_passes_4 : List UInt8 := [167, 0, 8, 42, 27, 182, 0, 166, 132, 1, 1, 167, 255, 153, 42, 182, 0, 169, 42, 180, 0, 7, 3, 92]
abbrev dktX4_passes_4 : List UInt8 := dkwX4_passes_4 ++ dktX4_passes_5
def dkwX4_passes_3 : List UInt8 := [28, 4, 160, 0, 11, 42, 27, 182, 0, 160, 167, 0, 21, 28, 5, 160, 0, 11, 42, 27, 182, 0, 163]
abbrev dktX4_passes_3 : List UInt8 := dkwX4_passes_3 ++ dktX4_passes_4
def dkwX4_passes_2 : List UInt8 := [16, 11, 42, 27, 16, 11, 182, 0, 88, 4, 96, 182, 0, 64, 42, 27, 16, 6, 182, 0, 88, 154, 0, 34]
abbrev dktX4_passes_2 : List UInt8 := dkwX4_passes_2 ++ dktX4_passes_3
def dkwX4_passes_1 : List UInt8 := [184, 0, 48, 153, 0, 76, 42, 27, 16, 6, 42, 27, 16, 6, 182, 0, 88, 4, 100, 182, 0, 64, 42, 27]
abbrev dktX4_passes_1 : List UInt8 := dkwX4_passes_1 ++ dktX4_passes_2
def dkwX4_passes_0 : List UInt8 := [3, 60, 27, 42, 180, 0, 7, 16, 7, 46, 162, 0, 98, 42, 27, 6, 182, 0, 88, 61, 28, 4, 6]
abbrev dktX4_passes_0 : List UInt8 := dkwX4_passes_0 ++ dktX4_passes_1
theorem dksX4_passes_0 : cX4_passes.data.toList.drop 0 = dktX4_passes_0 := by decide +kernel
theorem dksX4_passes_1 : cX4_passes.data.toList.drop 23 = dktX4_passes_1 := dk_seg dksX4_passes_0 23 rfl rfl
theorem dksX4_passes_2 : cX4_passes.data.toList.drop 47 = dktX4_passes_2 := dk_seg dksX4_passes_1 24 rfl rfl
theorem dksX4_passes_3 : cX4_passes.data.toList.drop 71 = dktX4_passes_3 := dk_seg dksX4_passes_2 24 rfl rfl
theorem dksX4_passes_4 : cX4_passes.data.toList.drop 94 = dktX4_passes_4 := dk_seg dksX4_passes_3 23 rfl rfl
theorem dksX4_passes_5 : cX4_passes.data.toList.drop 118 = dktX4_passes_5 := dk_seg dksX4_passes_4 24 rfl rfl
theorem dX4_passes_0 : decode cX4_passes 0 = .ok (.iconst 0, 1) := dk_3 (dk_at dksX4_passes_0 0 rfl rfl)
theorem dX4_passes_1 : decode cX4_passes 1 = .ok (.istore_n 1, 1) := dk_60 (dk_at dksX4_passes_0 1 rfl rfl)
theorem dX4_passes_2 : decode cX4_passes 2 = .ok (.iload_n 1, 1) := dk_27 (dk_at dksX4_passes_0 2 rfl rfl)
theorem dX4_passes_3 : decode cX4_passes 3 = .ok (.aload_n 0, 1) := dk_42 (dk_at dksX4_passes_0 3 rfl rfl)
theorem dX4_passes_4 : decode cX4_passes 4 = .ok (.getfield 7, 3) := dk_180 0 7 (dk_at dksX4_passes_0 4 rfl rfl)
theorem dX4_passes_7 : decode cX4_passes 7 = .ok (.bipush 7, 2) := dk_16 7 (dk_at dksX4_passes_0 7 rfl rfl)
theorem dX4_passes_9 : decode cX4_passes 9 = .ok (.iaload, 1) := dk_46 (dk_at dksX4_passes_0 9 rfl rfl)
theorem dX4_passes_10 : decode cX4_passes 10 = .ok (.if_icmp .ge 98, 3) := dk_162 0 98 (dk_at dksX4_passes_0 10 rfl rfl)
theorem dX4_passes_13 : decode cX4_passes 13 = .ok (.aload_n 0, 1) := dk_42 (dk_at dksX4_passes_0 13 rfl rfl)
theorem dX4_passes_14 : decode cX4_passes 14 = .ok (.iload_n 1, 1) := dk_27 (dk_at dksX4_passes_0 14 rfl rfl)
theorem dX4_passes_15 : decode cX4_passes 15 = .ok (.iconst 3, 1) := dk_6 (dk_at dksX4_passes_0 15 rfl rfl)
theorem dX4_passes_16 : decode cX4_passes 16 = .ok (.invokevirtual 88, 3) := dk_182 0 88 (dk_at dksX4_passes_0 16 rfl rfl)
theorem dX4_passes_19 : decode cX4_passes 19 = .ok (.istore_n 2, 1) := dk_61 (dk_at dksX4_passes_0 19 rfl rfl)
theorem dX4_passes_20 : decode cX4_passes 20 = .ok (.iload_n 2, 1) := dk_28 (dk_at dksX4_passes_0 20 rfl rfl)
theorem dX4_passes_21 : decode cX4_passes 21 = .ok (.iconst 1, 1) := dk_4 (dk_at dksX4_passes_0 21 rfl rfl)
theorem dX4_passes_22 : decode cX4_passes 22 = .ok (.iconst 3, 1) := dk_6 (dk_at dksX4_passes_0 22 rfl rfl)
theorem dX4_passes_23 : decode cX4_passes 23 = .ok (.invokestatic 48, 3) := dk_184 0 48 (dk_at dksX4_passes_1 0 rfl rfl)
theorem dX4_passes_26 : decode cX4_passes 26 = .ok (.ifCond .eq 76, 3) := dk_153 0 76 (dk_at dksX4_passes_1 3 rfl rfl)
theorem dX4_passes_29 : decode cX4_passes 29 = .ok (.aload_n 0, 1) := dk_42 (dk_at dksX4_passes_1 6 rfl rfl)
theorem dX4_passes_30 : decode cX4_passes 30 = .ok (.iload_n 1, 1) := dk_27 (dk_at dksX4_passes_1 7 rfl rfl)
theorem dX4_passes_31 : decode cX4_passes 31 = .ok (.bipush 6, 2) := dk_16 6 (dk_at dksX4_passes_1 8 rfl rfl)
theorem dX4_passes_33 : decode cX4_passes 33 = .ok (.aload_n 0, 1) := dk_42 (dk_at dksX4_passes_1 10 rfl rfl)
theorem dX4_passes_34 : decode cX4_passes 34 = .ok (.iload_n 1, 1) := dk_27 (dk_at dksX4_passes_1 11 rfl rfl)
theorem dX4_passes_35 : decode cX4_passes 35 = .ok (.bipush 6, 2) := dk_16 6 (dk_at dksX4_passes_1 12 rfl rfl)
theorem dX4_passes_37 : decode cX4_passes 37 = .ok (.invokevirtual 88, 3) := dk_182 0 88 (dk_at dksX4_passes_1 14 rfl rfl)
theorem dX4_passes_40 : decode cX4_passes 40 = .ok (.iconst 1, 1) := dk_4 (dk_at dksX4_passes_1 17 rfl rfl)
theorem dX4_passes_41 : decode cX4_passes 41 = .ok (.isub, 1) := dk_100 (dk_at dksX4_passes_1 18 rfl rfl)
theorem dX4_passes_42 : decode cX4_passes 42 = .ok (.invokevirtual 64, 3) := dk_182 0 64 (dk_at dksX4_passes_1 19 rfl rfl)
theorem dX4_passes_45 : decode cX4_passes 45 = .ok (.aload_n 0, 1) := dk_42 (dk_at dksX4_passes_1 22 rfl rfl)
theorem dX4_passes_46 : decode cX4_passes 46 = .ok (.iload_n 1, 1) := dk_27 (dk_at dksX4_passes_1 23 rfl rfl)
theorem dX4_passes_47 : decode cX4_passes 47 = .ok (.bipush 11, 2) := dk_16 11 (dk_at dksX4_passes_2 0 rfl rfl)
theorem dX4_passes_49 : decode cX4_passes 49 = .ok (.aload_n 0, 1) := dk_42 (dk_at dksX4_passes_2 2 rfl rfl)
theorem dX4_passes_50 : decode cX4_passes 50 = .ok (.iload_n 1, 1) := dk_27 (dk_at dksX4_passes_2 3 rfl rfl)
theorem dX4_passes_51 : decode cX4_passes 51 = .ok (.bipush 11, 2) := dk_16 11 (dk_at dksX4_passes_2 4 rfl rfl)
theorem dX4_passes_53 : decode cX4_passes 53 = .ok (.invokevirtual 88, 3) := dk_182 0 88 (dk_at dksX4_passes_2 6 rfl rfl)
theorem dX4_passes_56 : decode cX4_passes 56 = .ok (.iconst 1, 1) := dk_4 (dk_at dksX4_passes_2 9 rfl rfl)
theorem dX4_passes_57 : decode cX4_passes 57 = .ok (.iadd, 1) := dk_96 (dk_at dksX4_passes_2 10 rfl rfl)
theorem dX4_passes_58 : decode cX4_passes 58 = .ok (.invokevirtual 64, 3) := dk_182 0 64 (dk_at dksX4_passes_2 11 rfl rfl)
theorem dX4_passes_61 : decode cX4_passes 61 = .ok (.aload_n 0, 1) := dk_42 (dk_at dksX4_passes_2 14 rfl rfl)
theorem dX4_passes_62 : decode cX4_passes 62 = .ok (.iload_n 1, 1) := dk_27 (dk_at dksX4_passes_2 15 rfl rfl)
theorem dX4_passes_63 : decode cX4_passes 63 = .ok (.bipush 6, 2) := dk_16 6 (dk_at dksX4_passes_2 16 rfl rfl)
theorem dX4_passes_65 : decode cX4_passes 65 = .ok (.invokevirtual 88, 3) := dk_182 0 88 (dk_at dksX4_passes_2 18 rfl rfl)
theorem dX4_passes_68 : decode cX4_passes 68 = .ok (.ifCond .ne 34, 3) := dk_154 0 34 (dk_at dksX4_passes_2 21 rfl rfl)
theorem dX4_passes_71 : decode cX4_passes 71 = .ok (.iload_n 2, 1) := dk_28 (dk_at dksX4_passes_3 0 rfl rfl)
theorem dX4_passes_72 : decode cX4_passes 72 = .ok (.iconst 1, 1) := dk_4 (dk_at dksX4_passes_3 1 rfl rfl)
theorem dX4_passes_73 : decode cX4_passes 73 = .ok (.if_icmp .ne 11, 3) := dk_160 0 11 (dk_at dksX4_passes_3 2 rfl rfl)
theorem dX4_passes_76 : decode cX4_passes 76 = .ok (.aload_n 0, 1) := dk_42 (dk_at dksX4_passes_3 5 rfl rfl)
theorem dX4_passes_77 : decode cX4_passes 77 = .ok (.iload_n 1, 1) := dk_27 (dk_at dksX4_passes_3 6 rfl rfl)
theorem dX4_passes_78 : decode cX4_passes 78 = .ok (.invokevirtual 160, 3) := dk_182 0 160 (dk_at dksX4_passes_3 7 rfl rfl)
theorem dX4_passes_81 : decode cX4_passes 81 = .ok (.goto 21, 3) := dk_167 0 21 (dk_at dksX4_passes_3 10 rfl rfl)
theorem dX4_passes_84 : decode cX4_passes 84 = .ok (.iload_n 2, 1) := dk_28 (dk_at dksX4_passes_3 13 rfl rfl)
theorem dX4_passes_85 : decode cX4_passes 85 = .ok (.iconst 2, 1) := dk_5 (dk_at dksX4_passes_3 14 rfl rfl)
theorem dX4_passes_86 : decode cX4_passes 86 = .ok (.if_icmp .ne 11, 3) := dk_160 0 11 (dk_at dksX4_passes_3 15 rfl rfl)
theorem dX4_passes_89 : decode cX4_passes 89 = .ok (.aload_n 0, 1) := dk_42 (dk_at dksX4_passes_3 18 rfl rfl)
theorem dX4_passes_90 : decode cX4_passes 90 = .ok (.iload_n 1, 1) := dk_27 (dk_at dksX4_passes_3 19 rfl rfl)
theorem dX4_passes_91 : decode cX4_passes 91 = .ok (.invokevirtual 163, 3) := dk_182 0 163 (dk_at dksX4_passes_3 20 rfl rfl)
theorem dX4_passes_94 : decode cX4_passes 94 = .ok (.goto 8, 3) := dk_167 0 8 (dk_at dksX4_passes_4 0 rfl rfl)
theorem dX4_passes_97 : decode cX4_passes 97 = .ok (.aload_n 0, 1) := dk_42 (dk_at dksX4_passes_4 3 rfl rfl)
theorem dX4_passes_98 : decode cX4_passes 98 = .ok (.iload_n 1, 1) := dk_27 (dk_at dksX4_passes_4 4 rfl rfl)
theorem dX4_passes_99 : decode cX4_passes 99 = .ok (.invokevirtual 166, 3) := dk_182 0 166 (dk_at dksX4_passes_4 5 rfl rfl)
theorem dX4_passes_102 : decode cX4_passes 102 = .ok (.iinc 1 1, 3) := dk_132 1 1 (dk_at dksX4_passes_4 8 rfl rfl)
theorem dX4_passes_105 : decode cX4_passes 105 = .ok (.goto (-103), 3) := dk_167 255 153 (dk_at dksX4_passes_4 11 rfl rfl)
theorem dX4_passes_108 : decode cX4_passes 108 = .ok (.aload_n 0, 1) := dk_42 (dk_at dksX4_passes_4 14 rfl rfl)
theorem dX4_passes_109 : decode cX4_passes 109 = .ok (.invokevirtual 169, 3) := dk_182 0 169 (dk_at dksX4_passes_4 15 rfl rfl)
theorem dX4_passes_112 : decode cX4_passes 112 = .ok (.aload_n 0, 1) := dk_42 (dk_at dksX4_passes_4 18 rfl rfl)
theorem dX4_passes_113 : decode cX4_passes 113 = .ok (.getfield 7, 3) := dk_180 0 7 (dk_at dksX4_passes_4 19 rfl rfl)
theorem dX4_passes_116 : decode cX4_passes 116 = .ok (.iconst 0, 1) := dk_3 (dk_at dksX4_passes_4 22 rfl rfl)
theorem dX4_passes_117 : decode cX4_passes 117 = .ok (.dup2, 1) := dk_92 (dk_at dksX4_passes_4 23 rfl rfl)
theorem dX4_passes_118 : decode cX4_passes 118 = .ok (.iaload, 1) := dk_46 (dk_at dksX4_passes_5 0 rfl rfl)
theorem dX4_passes_119 : decode cX4_passes 119 = .ok (.iconst 1, 1) := dk_4 (dk_at dksX4_passes_5 1 rfl rfl)
theorem dX4_passes_120 : decode cX4_passes 120 = .ok (.iadd, 1) := dk_96 (dk_at dksX4_passes_5 2 rfl rfl)
theorem dX4_passes_121 : decode cX4_passes 121 = .ok (.iastore, 1) := dk_79 (dk_at dksX4_passes_5 3 rfl rfl)
theorem dX4_passes_122 : decode cX4_passes 122 = .ok (.return_, 1) := dk_177 (dk_at dksX4_passes_5 4 rfl rfl)
abbrev cX4_gets : ByteArray := prog_16_method_42_code
def yX4_gets : MethodName := ⟨RX4, "gets", "(I)V"⟩
def dkwX4_gets_9 : List UInt8 := [167, 0, 8, 42, 27, 182, 0, 126, 177]
abbrev dktX4_gets_9 : List UInt8 := dkwX4_gets_9 ++ []
def dkwX4_gets_8 : List UInt8 := [160, 0, 27, 42, 27, 3, 182, 0, 88, 184, 0, 129, 29, 184, 0, 129, 160, 0, 11, 42, 27, 182, 0, 135]
abbrev dktX4_gets_8 : List UInt8 := dkwX4_gets_8 ++ dktX4_gets_9
def dkwX4_gets_7 : List UInt8 := [182, 0, 72, 104, 182, 0, 64, 42, 28, 8, 5, 182, 0, 82, 167, 0, 42, 42, 27, 5, 182, 0, 88, 4]
abbrev dktX4_gets_7 : List UInt8 := dkwX4_gets_7 ++ dktX4_gets_8
def dkwX4_gets_6 : List UInt8 := [5, 182, 0, 72, 6, 100, 161, 0, 35, 42, 27, 6, 5, 182, 0, 64, 42, 27, 16, 6, 8, 42, 28, 5]
abbrev dktX4_gets_6 : List UInt8 := dkwX4_gets_6 ++ dktX4_gets_7
def dkwX4_gets_5 : List UInt8 := [4, 182, 0, 91, 42, 180, 0, 7, 16, 11, 92, 46, 16, 15, 96, 79, 42, 27, 4, 182, 0, 88, 42, 28]
abbrev dktX4_gets_5 : List UInt8 := dkwX4_gets_5 ++ dktX4_gets_6
def dkwX4_gets_4 : List UInt8 := [164, 0, 40, 42, 42, 28, 3, 182, 0, 72, 4, 16, 241, 182, 0, 91, 42, 42, 28, 3, 182, 0, 72, 6]
abbrev dktX4_gets_4 : List UInt8 := dkwX4_gets_4 ++ dktX4_gets_5
def dkwX4_gets_3 : List UInt8 := [27, 16, 10, 42, 27, 16, 10, 182, 0, 88, 21, 4, 96, 182, 0, 64, 21, 4, 42, 28, 6, 182, 0, 72]
abbrev dktX4_gets_3 : List UInt8 := dkwX4_gets_3 ++ dktX4_gets_4
def dkwX4_gets_2 : List UInt8 := [182, 0, 72, 100, 54, 4, 42, 28, 16, 8, 27, 182, 0, 82, 42, 28, 16, 7, 21, 4, 182, 0, 82, 42]
abbrev dktX4_gets_2 : List UInt8 := dkwX4_gets_2 ++ dktX4_gets_3
def dkwX4_gets_1 : List UInt8 := [182, 0, 72, 6, 160, 0, 9, 42, 27, 182, 0, 135, 177, 42, 180, 0, 7, 3, 46, 42, 28, 7]
abbrev dktX4_gets_1 : List UInt8 := dkwX4_gets_1 ++ dktX4_gets_2
def dkwX4_gets_0 : List UInt8 := [42, 27, 8, 182, 0, 88, 61, 42, 28, 4, 182, 0, 72, 62, 42, 27, 7, 29, 182, 0, 64, 42, 28, 8]
abbrev dktX4_gets_0 : List UInt8 := dkwX4_gets_0 ++ dktX4_gets_1
theorem dksX4_gets_0 : cX4_gets.data.toList.drop 0 = dktX4_gets_0 := by decide +kernel
theorem dksX4_gets_1 : cX4_gets.data.toList.drop 24 = dktX4_gets_1 := dk_seg dksX4_gets_0 24 rfl rfl
theorem dksX4_gets_2 : cX4_gets.data.toList.drop 46 = dktX4_gets_2 := dk_seg dksX4_gets_1 22 rfl rfl
theorem dksX4_gets_3 : cX4_gets.data.toList.drop 70 = dktX4_gets_3 := dk_seg dksX4_gets_2 24 rfl rfl
theorem dksX4_gets_4 : cX4_gets.data.toList.drop 94 = dktX4_gets_4 := dk_seg dksX4_gets_3 24 rfl rfl
theorem dksX4_gets_5 : cX4_gets.data.toList.drop 118 = dktX4_gets_5 := dk_seg dksX4_gets_4 24 rfl rfl
theorem dksX4_gets_6 : cX4_gets.data.toList.drop 142 = dktX4_gets_6 := dk_seg dksX4_gets_5 24 rfl rfl
theorem dksX4_gets_7 : cX4_gets.data.toList.drop 166 = dktX4_gets_7 := dk_seg dksX4_gets_6 24 rfl rfl
theorem dksX4_gets_8 : cX4_gets.data.toList.drop 190 = dktX4_gets_8 := dk_seg dksX4_gets_7 24 rfl rfl
theorem dksX4_gets_9 : cX4_gets.data.toList.drop 214 = dktX4_gets_9 := dk_seg dksX4_gets_8 24 rfl rfl
theorem dX4_gets_0 : decode cX4_gets 0 = .ok (.aload_n 0, 1) := dk_42 (dk_at dksX4_gets_0 0 rfl rfl)
theorem dX4_gets_1 : decode cX4_gets 1 = .ok (.iload_n 1, 1) := dk_27 (dk_at dksX4_gets_0 1 rfl rfl)
theorem dX4_gets_2 : decode cX4_gets 2 = .ok (.iconst 5, 1) := dk_8 (dk_at dksX4_gets_0 2 rfl rfl)
theorem dX4_gets_3 : decode cX4_gets 3 = .ok (.invokevirtual 88, 3) := dk_182 0 88 (dk_at dksX4_gets_0 3 rfl rfl)
theorem dX4_gets_6 : decode cX4_gets 6 = .ok (.istore_n 2, 1) := dk_61 (dk_at dksX4_gets_0 6 rfl rfl)
theorem dX4_gets_7 : decode cX4_gets 7 = .ok (.aload_n 0, 1) := dk_42 (dk_at dksX4_gets_0 7 rfl rfl)
theorem dX4_gets_8 : decode cX4_gets 8 = .ok (.iload_n 2, 1) := dk_28 (dk_at dksX4_gets_0 8 rfl rfl)
theorem dX4_gets_9 : decode cX4_gets 9 = .ok (.iconst 1, 1) := dk_4 (dk_at dksX4_gets_0 9 rfl rfl)
theorem dX4_gets_10 : decode cX4_gets 10 = .ok (.invokevirtual 72, 3) := dk_182 0 72 (dk_at dksX4_gets_0 10 rfl rfl)
theorem dX4_gets_13 : decode cX4_gets 13 = .ok (.istore_n 3, 1) := dk_62 (dk_at dksX4_gets_0 13 rfl rfl)
theorem dX4_gets_14 : decode cX4_gets 14 = .ok (.aload_n 0, 1) := dk_42 (dk_at dksX4_gets_0 14 rfl rfl)
theorem dX4_gets_15 : decode cX4_gets 15 = .ok (.iload_n 1, 1) := dk_27 (dk_at dksX4_gets_0 15 rfl rfl)
theorem dX4_gets_16 : decode cX4_gets 16 = .ok (.iconst 4, 1) := dk_7 (dk_at dksX4_gets_0 16 rfl rfl)
theorem dX4_gets_17 : decode cX4_gets 17 = .ok (.iload_n 3, 1) := dk_29 (dk_at dksX4_gets_0 17 rfl rfl)
theorem dX4_gets_18 : decode cX4_gets 18 = .ok (.invokevirtual 64, 3) := dk_182 0 64 (dk_at dksX4_gets_0 18 rfl rfl)
theorem dX4_gets_21 : decode cX4_gets 21 = .ok (.aload_n 0, 1) := dk_42 (dk_at dksX4_gets_0 21 rfl rfl)
theorem dX4_gets_22 : decode cX4_gets 22 = .ok (.iload_n 2, 1) := dk_28 (dk_at dksX4_gets_0 22 rfl rfl)
theorem dX4_gets_23 : decode cX4_gets 23 = .ok (.iconst 5, 1) := dk_8 (dk_at dksX4_gets_0 23 rfl rfl)
theorem dX4_gets_24 : decode cX4_gets 24 = .ok (.invokevirtual 72, 3) := dk_182 0 72 (dk_at dksX4_gets_1 0 rfl rfl)
theorem dX4_gets_27 : decode cX4_gets 27 = .ok (.iconst 3, 1) := dk_6 (dk_at dksX4_gets_1 3 rfl rfl)
theorem dX4_gets_28 : decode cX4_gets 28 = .ok (.if_icmp .ne 9, 3) := dk_160 0 9 (dk_at dksX4_gets_1 4 rfl rfl)
theorem dX4_gets_31 : decode cX4_gets 31 = .ok (.aload_n 0, 1) := dk_42 (dk_at dksX4_gets_1 7 rfl rfl)
theorem dX4_gets_32 : decode cX4_gets 32 = .ok (.iload_n 1, 1) := dk_27 (dk_at dksX4_gets_1 8 rfl rfl)
theorem dX4_gets_33 : decode cX4_gets 33 = .ok (.invokevirtual 135, 3) := dk_182 0 135 (dk_at dksX4_gets_1 9 rfl rfl)
theorem dX4_gets_36 : decode cX4_gets 36 = .ok (.return_, 1) := dk_177 (dk_at dksX4_gets_1 12 rfl rfl)
theorem dX4_gets_37 : decode cX4_gets 37 = .ok (.aload_n 0, 1) := dk_42 (dk_at dksX4_gets_1 13 rfl rfl)
theorem dX4_gets_38 : decode cX4_gets 38 = .ok (.getfield 7, 3) := dk_180 0 7 (dk_at dksX4_gets_1 14 rfl rfl)
theorem dX4_gets_41 : decode cX4_gets 41 = .ok (.iconst 0, 1) := dk_3 (dk_at dksX4_gets_1 17 rfl rfl)
theorem dX4_gets_42 : decode cX4_gets 42 = .ok (.iaload, 1) := dk_46 (dk_at dksX4_gets_1 18 rfl rfl)
theorem dX4_gets_43 : decode cX4_gets 43 = .ok (.aload_n 0, 1) := dk_42 (dk_at dksX4_gets_1 19 rfl rfl)
theorem dX4_gets_44 : decode cX4_gets 44 = .ok (.iload_n 2, 1) := dk_28 (dk_at dksX4_gets_1 20 rfl rfl)
theorem dX4_gets_45 : decode cX4_gets 45 = .ok (.iconst 4, 1) := dk_7 (dk_at dksX4_gets_1 21 rfl rfl)
theorem dX4_gets_46 : decode cX4_gets 46 = .ok (.invokevirtual 72, 3) := dk_182 0 72 (dk_at dksX4_gets_2 0 rfl rfl)
theorem dX4_gets_49 : decode cX4_gets 49 = .ok (.isub, 1) := dk_100 (dk_at dksX4_gets_2 3 rfl rfl)
theorem dX4_gets_50 : decode cX4_gets 50 = .ok (.istore 4, 2) := dk_54 4 (dk_at dksX4_gets_2 4 rfl rfl)
theorem dX4_gets_52 : decode cX4_gets 52 = .ok (.aload_n 0, 1) := dk_42 (dk_at dksX4_gets_2 6 rfl rfl)
theorem dX4_gets_53 : decode cX4_gets 53 = .ok (.iload_n 2, 1) := dk_28 (dk_at dksX4_gets_2 7 rfl rfl)
theorem dX4_gets_54 : decode cX4_gets 54 = .ok (.bipush 8, 2) := dk_16 8 (dk_at dksX4_gets_2 8 rfl rfl)
theorem dX4_gets_56 : decode cX4_gets 56 = .ok (.iload_n 1, 1) := dk_27 (dk_at dksX4_gets_2 10 rfl rfl)
theorem dX4_gets_57 : decode cX4_gets 57 = .ok (.invokevirtual 82, 3) := dk_182 0 82 (dk_at dksX4_gets_2 11 rfl rfl)
theorem dX4_gets_60 : decode cX4_gets 60 = .ok (.aload_n 0, 1) := dk_42 (dk_at dksX4_gets_2 14 rfl rfl)
theorem dX4_gets_61 : decode cX4_gets 61 = .ok (.iload_n 2, 1) := dk_28 (dk_at dksX4_gets_2 15 rfl rfl)
theorem dX4_gets_62 : decode cX4_gets 62 = .ok (.bipush 7, 2) := dk_16 7 (dk_at dksX4_gets_2 16 rfl rfl)
theorem dX4_gets_64 : decode cX4_gets 64 = .ok (.iload 4, 2) := dk_21 4 (dk_at dksX4_gets_2 18 rfl rfl)
theorem dX4_gets_66 : decode cX4_gets 66 = .ok (.invokevirtual 82, 3) := dk_182 0 82 (dk_at dksX4_gets_2 20 rfl rfl)
theorem dX4_gets_69 : decode cX4_gets 69 = .ok (.aload_n 0, 1) := dk_42 (dk_at dksX4_gets_2 23 rfl rfl)
theorem dX4_gets_70 : decode cX4_gets 70 = .ok (.iload_n 1, 1) := dk_27 (dk_at dksX4_gets_3 0 rfl rfl)
theorem dX4_gets_71 : decode cX4_gets 71 = .ok (.bipush 10, 2) := dk_16 10 (dk_at dksX4_gets_3 1 rfl rfl)
theorem dX4_gets_73 : decode cX4_gets 73 = .ok (.aload_n 0, 1) := dk_42 (dk_at dksX4_gets_3 3 rfl rfl)
theorem dX4_gets_74 : decode cX4_gets 74 = .ok (.iload_n 1, 1) := dk_27 (dk_at dksX4_gets_3 4 rfl rfl)
theorem dX4_gets_75 : decode cX4_gets 75 = .ok (.bipush 10, 2) := dk_16 10 (dk_at dksX4_gets_3 5 rfl rfl)
theorem dX4_gets_77 : decode cX4_gets 77 = .ok (.invokevirtual 88, 3) := dk_182 0 88 (dk_at dksX4_gets_3 7 rfl rfl)
theorem dX4_gets_80 : decode cX4_gets 80 = .ok (.iload 4, 2) := dk_21 4 (dk_at dksX4_gets_3 10 rfl rfl)
theorem dX4_gets_82 : decode cX4_gets 82 = .ok (.iadd, 1) := dk_96 (dk_at dksX4_gets_3 12 rfl rfl)
theorem dX4_gets_83 : decode cX4_gets 83 = .ok (.invokevirtual 64, 3) := dk_182 0 64 (dk_at dksX4_gets_3 13 rfl rfl)
theorem dX4_gets_86 : decode cX4_gets 86 = .ok (.iload 4, 2) := dk_21 4 (dk_at dksX4_gets_3 16 rfl rfl)
theorem dX4_gets_88 : decode cX4_gets 88 = .ok (.aload_n 0, 1) := dk_42 (dk_at dksX4_gets_3 18 rfl rfl)
theorem dX4_gets_89 : decode cX4_gets 89 = .ok (.iload_n 2, 1) := dk_28 (dk_at dksX4_gets_3 19 rfl rfl)
theorem dX4_gets_90 : decode cX4_gets 90 = .ok (.iconst 3, 1) := dk_6 (dk_at dksX4_gets_3 20 rfl rfl)
theorem dX4_gets_91 : decode cX4_gets 91 = .ok (.invokevirtual 72, 3) := dk_182 0 72 (dk_at dksX4_gets_3 21 rfl rfl)
theorem dX4_gets_94 : decode cX4_gets 94 = .ok (.if_icmp .le 40, 3) := dk_164 0 40 (dk_at dksX4_gets_4 0 rfl rfl)
theorem dX4_gets_97 : decode cX4_gets 97 = .ok (.aload_n 0, 1) := dk_42 (dk_at dksX4_gets_4 3 rfl rfl)
theorem dX4_gets_98 : decode cX4_gets 98 = .ok (.aload_n 0, 1) := dk_42 (dk_at dksX4_gets_4 4 rfl rfl)
theorem dX4_gets_99 : decode cX4_gets 99 = .ok (.iload_n 2, 1) := dk_28 (dk_at dksX4_gets_4 5 rfl rfl)
theorem dX4_gets_100 : decode cX4_gets 100 = .ok (.iconst 0, 1) := dk_3 (dk_at dksX4_gets_4 6 rfl rfl)
theorem dX4_gets_101 : decode cX4_gets 101 = .ok (.invokevirtual 72, 3) := dk_182 0 72 (dk_at dksX4_gets_4 7 rfl rfl)
theorem dX4_gets_104 : decode cX4_gets 104 = .ok (.iconst 1, 1) := dk_4 (dk_at dksX4_gets_4 10 rfl rfl)
theorem dX4_gets_105 : decode cX4_gets 105 = .ok (.bipush (-15), 2) := dk_16 241 (dk_at dksX4_gets_4 11 rfl rfl)
theorem dX4_gets_107 : decode cX4_gets 107 = .ok (.invokevirtual 91, 3) := dk_182 0 91 (dk_at dksX4_gets_4 13 rfl rfl)
theorem dX4_gets_110 : decode cX4_gets 110 = .ok (.aload_n 0, 1) := dk_42 (dk_at dksX4_gets_4 16 rfl rfl)
theorem dX4_gets_111 : decode cX4_gets 111 = .ok (.aload_n 0, 1) := dk_42 (dk_at dksX4_gets_4 17 rfl rfl)
theorem dX4_gets_112 : decode cX4_gets 112 = .ok (.iload_n 2, 1) := dk_28 (dk_at dksX4_gets_4 18 rfl rfl)
theorem dX4_gets_113 : decode cX4_gets 113 = .ok (.iconst 0, 1) := dk_3 (dk_at dksX4_gets_4 19 rfl rfl)
theorem dX4_gets_114 : decode cX4_gets 114 = .ok (.invokevirtual 72, 3) := dk_182 0 72 (dk_at dksX4_gets_4 20 rfl rfl)
theorem dX4_gets_117 : decode cX4_gets 117 = .ok (.iconst 3, 1) := dk_6 (dk_at dksX4_gets_4 23 rfl rfl)
theorem dX4_gets_118 : decode cX4_gets 118 = .ok (.iconst 1, 1) := dk_4 (dk_at dksX4_gets_5 0 rfl rfl)
theorem dX4_gets_119 : decode cX4_gets 119 = .ok (.invokevirtual 91, 3) := dk_182 0 91 (dk_at dksX4_gets_5 1 rfl rfl)
theorem dX4_gets_122 : decode cX4_gets 122 = .ok (.aload_n 0, 1) := dk_42 (dk_at dksX4_gets_5 4 rfl rfl)
theorem dX4_gets_123 : decode cX4_gets 123 = .ok (.getfield 7, 3) := dk_180 0 7 (dk_at dksX4_gets_5 5 rfl rfl)
theorem dX4_gets_126 : decode cX4_gets 126 = .ok (.bipush 11, 2) := dk_16 11 (dk_at dksX4_gets_5 8 rfl rfl)
theorem dX4_gets_128 : decode cX4_gets 128 = .ok (.dup2, 1) := dk_92 (dk_at dksX4_gets_5 10 rfl rfl)
theorem dX4_gets_129 : decode cX4_gets 129 = .ok (.iaload, 1) := dk_46 (dk_at dksX4_gets_5 11 rfl rfl)
theorem dX4_gets_130 : decode cX4_gets 130 = .ok (.bipush 15, 2) := dk_16 15 (dk_at dksX4_gets_5 12 rfl rfl)
theorem dX4_gets_132 : decode cX4_gets 132 = .ok (.iadd, 1) := dk_96 (dk_at dksX4_gets_5 14 rfl rfl)
theorem dX4_gets_133 : decode cX4_gets 133 = .ok (.iastore, 1) := dk_79 (dk_at dksX4_gets_5 15 rfl rfl)
theorem dX4_gets_134 : decode cX4_gets 134 = .ok (.aload_n 0, 1) := dk_42 (dk_at dksX4_gets_5 16 rfl rfl)
theorem dX4_gets_135 : decode cX4_gets 135 = .ok (.iload_n 1, 1) := dk_27 (dk_at dksX4_gets_5 17 rfl rfl)
theorem dX4_gets_136 : decode cX4_gets 136 = .ok (.iconst 1, 1) := dk_4 (dk_at dksX4_gets_5 18 rfl rfl)
theorem dX4_gets_137 : decode cX4_gets 137 = .ok (.invokevirtual 88, 3) := dk_182 0 88 (dk_at dksX4_gets_5 19 rfl rfl)
theorem dX4_gets_140 : decode cX4_gets 140 = .ok (.aload_n 0, 1) := dk_42 (dk_at dksX4_gets_5 22 rfl rfl)
theorem dX4_gets_141 : decode cX4_gets 141 = .ok (.iload_n 2, 1) := dk_28 (dk_at dksX4_gets_5 23 rfl rfl)
theorem dX4_gets_142 : decode cX4_gets 142 = .ok (.iconst 2, 1) := dk_5 (dk_at dksX4_gets_6 0 rfl rfl)
theorem dX4_gets_143 : decode cX4_gets 143 = .ok (.invokevirtual 72, 3) := dk_182 0 72 (dk_at dksX4_gets_6 1 rfl rfl)
theorem dX4_gets_146 : decode cX4_gets 146 = .ok (.iconst 3, 1) := dk_6 (dk_at dksX4_gets_6 4 rfl rfl)
theorem dX4_gets_147 : decode cX4_gets 147 = .ok (.isub, 1) := dk_100 (dk_at dksX4_gets_6 5 rfl rfl)
theorem dX4_gets_148 : decode cX4_gets 148 = .ok (.if_icmp .lt 35, 3) := dk_161 0 35 (dk_at dksX4_gets_6 6 rfl rfl)
theorem dX4_gets_151 : decode cX4_gets 151 = .ok (.aload_n 0, 1) := dk_42 (dk_at dksX4_gets_6 9 rfl rfl)
theorem dX4_gets_152 : decode cX4_gets 152 = .ok (.iload_n 1, 1) := dk_27 (dk_at dksX4_gets_6 10 rfl rfl)
theorem dX4_gets_153 : decode cX4_gets 153 = .ok (.iconst 3, 1) := dk_6 (dk_at dksX4_gets_6 11 rfl rfl)
theorem dX4_gets_154 : decode cX4_gets 154 = .ok (.iconst 2, 1) := dk_5 (dk_at dksX4_gets_6 12 rfl rfl)
theorem dX4_gets_155 : decode cX4_gets 155 = .ok (.invokevirtual 64, 3) := dk_182 0 64 (dk_at dksX4_gets_6 13 rfl rfl)
theorem dX4_gets_158 : decode cX4_gets 158 = .ok (.aload_n 0, 1) := dk_42 (dk_at dksX4_gets_6 16 rfl rfl)
theorem dX4_gets_159 : decode cX4_gets 159 = .ok (.iload_n 1, 1) := dk_27 (dk_at dksX4_gets_6 17 rfl rfl)
theorem dX4_gets_160 : decode cX4_gets 160 = .ok (.bipush 6, 2) := dk_16 6 (dk_at dksX4_gets_6 18 rfl rfl)
theorem dX4_gets_162 : decode cX4_gets 162 = .ok (.iconst 5, 1) := dk_8 (dk_at dksX4_gets_6 20 rfl rfl)
theorem dX4_gets_163 : decode cX4_gets 163 = .ok (.aload_n 0, 1) := dk_42 (dk_at dksX4_gets_6 21 rfl rfl)
theorem dX4_gets_164 : decode cX4_gets 164 = .ok (.iload_n 2, 1) := dk_28 (dk_at dksX4_gets_6 22 rfl rfl)
theorem dX4_gets_165 : decode cX4_gets 165 = .ok (.iconst 2, 1) := dk_5 (dk_at dksX4_gets_6 23 rfl rfl)
theorem dX4_gets_166 : decode cX4_gets 166 = .ok (.invokevirtual 72, 3) := dk_182 0 72 (dk_at dksX4_gets_7 0 rfl rfl)
theorem dX4_gets_169 : decode cX4_gets 169 = .ok (.imul, 1) := dk_104 (dk_at dksX4_gets_7 3 rfl rfl)
theorem dX4_gets_170 : decode cX4_gets 170 = .ok (.invokevirtual 64, 3) := dk_182 0 64 (dk_at dksX4_gets_7 4 rfl rfl)
theorem dX4_gets_173 : decode cX4_gets 173 = .ok (.aload_n 0, 1) := dk_42 (dk_at dksX4_gets_7 7 rfl rfl)
theorem dX4_gets_174 : decode cX4_gets 174 = .ok (.iload_n 2, 1) := dk_28 (dk_at dksX4_gets_7 8 rfl rfl)
theorem dX4_gets_175 : decode cX4_gets 175 = .ok (.iconst 5, 1) := dk_8 (dk_at dksX4_gets_7 9 rfl rfl)
theorem dX4_gets_176 : decode cX4_gets 176 = .ok (.iconst 2, 1) := dk_5 (dk_at dksX4_gets_7 10 rfl rfl)
theorem dX4_gets_177 : decode cX4_gets 177 = .ok (.invokevirtual 82, 3) := dk_182 0 82 (dk_at dksX4_gets_7 11 rfl rfl)
theorem dX4_gets_180 : decode cX4_gets 180 = .ok (.goto 42, 3) := dk_167 0 42 (dk_at dksX4_gets_7 14 rfl rfl)
theorem dX4_gets_183 : decode cX4_gets 183 = .ok (.aload_n 0, 1) := dk_42 (dk_at dksX4_gets_7 17 rfl rfl)
theorem dX4_gets_184 : decode cX4_gets 184 = .ok (.iload_n 1, 1) := dk_27 (dk_at dksX4_gets_7 18 rfl rfl)
theorem dX4_gets_185 : decode cX4_gets 185 = .ok (.iconst 2, 1) := dk_5 (dk_at dksX4_gets_7 19 rfl rfl)
theorem dX4_gets_186 : decode cX4_gets 186 = .ok (.invokevirtual 88, 3) := dk_182 0 88 (dk_at dksX4_gets_7 20 rfl rfl)
theorem dX4_gets_189 : decode cX4_gets 189 = .ok (.iconst 1, 1) := dk_4 (dk_at dksX4_gets_7 23 rfl rfl)
theorem dX4_gets_190 : decode cX4_gets 190 = .ok (.if_icmp .ne 27, 3) := dk_160 0 27 (dk_at dksX4_gets_8 0 rfl rfl)
theorem dX4_gets_193 : decode cX4_gets 193 = .ok (.aload_n 0, 1) := dk_42 (dk_at dksX4_gets_8 3 rfl rfl)
theorem dX4_gets_194 : decode cX4_gets 194 = .ok (.iload_n 1, 1) := dk_27 (dk_at dksX4_gets_8 4 rfl rfl)
theorem dX4_gets_195 : decode cX4_gets 195 = .ok (.iconst 0, 1) := dk_3 (dk_at dksX4_gets_8 5 rfl rfl)
theorem dX4_gets_196 : decode cX4_gets 196 = .ok (.invokevirtual 88, 3) := dk_182 0 88 (dk_at dksX4_gets_8 6 rfl rfl)
theorem dX4_gets_199 : decode cX4_gets 199 = .ok (.invokestatic 129, 3) := dk_184 0 129 (dk_at dksX4_gets_8 9 rfl rfl)
theorem dX4_gets_202 : decode cX4_gets 202 = .ok (.iload_n 3, 1) := dk_29 (dk_at dksX4_gets_8 12 rfl rfl)
theorem dX4_gets_203 : decode cX4_gets 203 = .ok (.invokestatic 129, 3) := dk_184 0 129 (dk_at dksX4_gets_8 13 rfl rfl)
theorem dX4_gets_206 : decode cX4_gets 206 = .ok (.if_icmp .ne 11, 3) := dk_160 0 11 (dk_at dksX4_gets_8 16 rfl rfl)
theorem dX4_gets_209 : decode cX4_gets 209 = .ok (.aload_n 0, 1) := dk_42 (dk_at dksX4_gets_8 19 rfl rfl)
theorem dX4_gets_210 : decode cX4_gets 210 = .ok (.iload_n 1, 1) := dk_27 (dk_at dksX4_gets_8 20 rfl rfl)
theorem dX4_gets_211 : decode cX4_gets 211 = .ok (.invokevirtual 135, 3) := dk_182 0 135 (dk_at dksX4_gets_8 21 rfl rfl)
theorem dX4_gets_214 : decode cX4_gets 214 = .ok (.goto 8, 3) := dk_167 0 8 (dk_at dksX4_gets_9 0 rfl rfl)
theorem dX4_gets_217 : decode cX4_gets 217 = .ok (.aload_n 0, 1) := dk_42 (dk_at dksX4_gets_9 3 rfl rfl)
theorem dX4_gets_218 : decode cX4_gets 218 = .ok (.iload_n 1, 1) := dk_27 (dk_at dksX4_gets_9 4 rfl rfl)
theorem dX4_gets_219 : decode cX4_gets 219 = .ok (.invokevirtual 126, 3) := dk_182 0 126 (dk_at dksX4_gets_9 5 rfl rfl)
theorem dX4_gets_222 : decode cX4_gets 222 = .ok (.return_, 1) := dk_177 (dk_at dksX4_gets_9 8 rfl rfl)
abbrev cX4_tows : ByteArray := prog_16_method_41_code
def yX4_tows : MethodName := ⟨RX4, "tows", "(I)V"⟩
def dkwX4_tows_11 : List UInt8 := [7, 182, 0, 82, 42, 28, 16, 6, 27, 182, 0, 82, 177]
abbrev dktX4_tows_11 : List UInt8 := dkwX4_tows_11 ++ []
def dkwX4_tows_10 : List UInt8 := [182, 0, 64, 42, 27, 16, 12, 21, 7, 182, 0, 64, 42, 27, 16, 13, 21, 4, 182, 0, 64, 42, 28, 8]
abbrev dktX4_tows_10 : List UInt8 := dkwX4_tows_10 ++ dktX4_tows_11
def dkwX4_tows_9 : List UInt8 := [27, 6, 6, 182, 0, 64, 42, 27, 16, 6, 21, 8, 154, 0, 7, 4, 167, 0, 7, 5, 21, 8, 104]
abbrev dktX4_tows_9 : List UInt8 := dkwX4_tows_9 ++ dktX4_tows_10
def dkwX4_tows_8 : List UInt8 := [21, 9, 153, 0, 12, 21, 12, 154, 0, 7, 4, 167, 0, 4, 3, 54, 9, 132, 10, 1, 167, 255, 126, 42]
abbrev dktX4_tows_8 : List UInt8 := dkwX4_tows_8 ++ dktX4_tows_9
def dkwX4_tows_7 : List UInt8 := [160, 0, 7, 4, 167, 0, 4, 3, 54, 12, 21, 9, 153, 0, 8, 21, 11, 167, 0, 5, 21, 7, 54, 7]
abbrev dktX4_tows_7 : List UInt8 := dkwX4_tows_7 ++ dktX4_tows_8
def dkwX4_tows_6 : List UInt8 := [96, 46, 167, 0, 4, 3, 96, 54, 8, 21, 11, 184, 0, 129, 21, 6, 160, 0, 10, 21, 11, 21, 5]
abbrev dktX4_tows_6 : List UInt8 := dkwX4_tows_6 ++ dktX4_tows_7
def dkwX4_tows_5 : List UInt8 := [167, 0, 4, 3, 54, 9, 21, 8, 21, 9, 153, 0, 19, 42, 180, 0, 25, 16, 12, 21, 7, 104, 21, 11]
abbrev dktX4_tows_5 : List UInt8 := dkwX4_tows_5 ++ dktX4_tows_6
def dkwX4_tows_4 : List UInt8 := [21, 5, 182, 0, 132, 54, 11, 21, 11, 184, 0, 129, 21, 6, 159, 0, 9, 21, 7, 29, 160, 0, 7, 4]
abbrev dktX4_tows_4 : List UInt8 := dkwX4_tows_4 ++ dktX4_tows_5
def dkwX4_tows_3 : List UInt8 := [167, 0, 4, 3, 54, 9, 3, 54, 10, 21, 10, 16, 12, 162, 0, 129, 21, 9, 153, 0, 124, 42, 21, 7]
abbrev dktX4_tows_3 : List UInt8 := dkwX4_tows_3 ++ dktX4_tows_4
def dkwX4_tows_2 : List UInt8 := [182, 0, 88, 184, 0, 129, 54, 6, 29, 54, 7, 3, 54, 8, 21, 7, 21, 5, 159, 0, 7, 4]
abbrev dktX4_tows_2 : List UInt8 := dkwX4_tows_2 ++ dktX4_tows_3
def dkwX4_tows_1 : List UInt8 := [16, 251, 160, 0, 9, 42, 27, 182, 0, 126, 177, 42, 21, 4, 3, 182, 0, 117, 54, 5, 42, 27, 3]
abbrev dktX4_tows_1 : List UInt8 := dkwX4_tows_1 ++ dktX4_tows_2
def dkwX4_tows_0 : List UInt8 := [42, 27, 8, 182, 0, 88, 61, 42, 28, 4, 182, 0, 72, 62, 42, 29, 182, 0, 123, 54, 4, 21, 4]
abbrev dktX4_tows_0 : List UInt8 := dkwX4_tows_0 ++ dktX4_tows_1
theorem dksX4_tows_0 : cX4_tows.data.toList.drop 0 = dktX4_tows_0 := by decide +kernel
theorem dksX4_tows_1 : cX4_tows.data.toList.drop 23 = dktX4_tows_1 := dk_seg dksX4_tows_0 23 rfl rfl
theorem dksX4_tows_2 : cX4_tows.data.toList.drop 46 = dktX4_tows_2 := dk_seg dksX4_tows_1 23 rfl rfl
theorem dksX4_tows_3 : cX4_tows.data.toList.drop 68 = dktX4_tows_3 := dk_seg dksX4_tows_2 22 rfl rfl
theorem dksX4_tows_4 : cX4_tows.data.toList.drop 92 = dktX4_tows_4 := dk_seg dksX4_tows_3 24 rfl rfl
theorem dksX4_tows_5 : cX4_tows.data.toList.drop 116 = dktX4_tows_5 := dk_seg dksX4_tows_4 24 rfl rfl
theorem dksX4_tows_6 : cX4_tows.data.toList.drop 140 = dktX4_tows_6 := dk_seg dksX4_tows_5 24 rfl rfl
theorem dksX4_tows_7 : cX4_tows.data.toList.drop 163 = dktX4_tows_7 := dk_seg dksX4_tows_6 23 rfl rfl
theorem dksX4_tows_8 : cX4_tows.data.toList.drop 187 = dktX4_tows_8 := dk_seg dksX4_tows_7 24 rfl rfl
theorem dksX4_tows_9 : cX4_tows.data.toList.drop 211 = dktX4_tows_9 := dk_seg dksX4_tows_8 24 rfl rfl
theorem dksX4_tows_10 : cX4_tows.data.toList.drop 234 = dktX4_tows_10 := dk_seg dksX4_tows_9 23 rfl rfl
theorem dksX4_tows_11 : cX4_tows.data.toList.drop 258 = dktX4_tows_11 := dk_seg dksX4_tows_10 24 rfl rfl
theorem dX4_tows_0 : decode cX4_tows 0 = .ok (.aload_n 0, 1) := dk_42 (dk_at dksX4_tows_0 0 rfl rfl)
theorem dX4_tows_1 : decode cX4_tows 1 = .ok (.iload_n 1, 1) := dk_27 (dk_at dksX4_tows_0 1 rfl rfl)
theorem dX4_tows_2 : decode cX4_tows 2 = .ok (.iconst 5, 1) := dk_8 (dk_at dksX4_tows_0 2 rfl rfl)
theorem dX4_tows_3 : decode cX4_tows 3 = .ok (.invokevirtual 88, 3) := dk_182 0 88 (dk_at dksX4_tows_0 3 rfl rfl)
theorem dX4_tows_6 : decode cX4_tows 6 = .ok (.istore_n 2, 1) := dk_61 (dk_at dksX4_tows_0 6 rfl rfl)
theorem dX4_tows_7 : decode cX4_tows 7 = .ok (.aload_n 0, 1) := dk_42 (dk_at dksX4_tows_0 7 rfl rfl)
theorem dX4_tows_8 : decode cX4_tows 8 = .ok (.iload_n 2, 1) := dk_28 (dk_at dksX4_tows_0 8 rfl rfl)
theorem dX4_tows_9 : decode cX4_tows 9 = .ok (.iconst 1, 1) := dk_4 (dk_at dksX4_tows_0 9 rfl rfl)
theorem dX4_tows_10 : decode cX4_tows 10 = .ok (.invokevirtual 72, 3) := dk_182 0 72 (dk_at dksX4_tows_0 10 rfl rfl)
theorem dX4_tows_13 : decode cX4_tows 13 = .ok (.istore_n 3, 1) := dk_62 (dk_at dksX4_tows_0 13 rfl rfl)
theorem dX4_tows_14 : decode cX4_tows 14 = .ok (.aload_n 0, 1) := dk_42 (dk_at dksX4_tows_0 14 rfl rfl)
theorem dX4_tows_15 : decode cX4_tows 15 = .ok (.iload_n 3, 1) := dk_29 (dk_at dksX4_tows_0 15 rfl rfl)
theorem dX4_tows_16 : decode cX4_tows 16 = .ok (.invokevirtual 123, 3) := dk_182 0 123 (dk_at dksX4_tows_0 16 rfl rfl)
theorem dX4_tows_19 : decode cX4_tows 19 = .ok (.istore 4, 2) := dk_54 4 (dk_at dksX4_tows_0 19 rfl rfl)
theorem dX4_tows_21 : decode cX4_tows 21 = .ok (.iload 4, 2) := dk_21 4 (dk_at dksX4_tows_0 21 rfl rfl)
theorem dX4_tows_23 : decode cX4_tows 23 = .ok (.bipush (-5), 2) := dk_16 251 (dk_at dksX4_tows_1 0 rfl rfl)
theorem dX4_tows_25 : decode cX4_tows 25 = .ok (.if_icmp .ne 9, 3) := dk_160 0 9 (dk_at dksX4_tows_1 2 rfl rfl)
theorem dX4_tows_28 : decode cX4_tows 28 = .ok (.aload_n 0, 1) := dk_42 (dk_at dksX4_tows_1 5 rfl rfl)
theorem dX4_tows_29 : decode cX4_tows 29 = .ok (.iload_n 1, 1) := dk_27 (dk_at dksX4_tows_1 6 rfl rfl)
theorem dX4_tows_30 : decode cX4_tows 30 = .ok (.invokevirtual 126, 3) := dk_182 0 126 (dk_at dksX4_tows_1 7 rfl rfl)
theorem dX4_tows_33 : decode cX4_tows 33 = .ok (.return_, 1) := dk_177 (dk_at dksX4_tows_1 10 rfl rfl)
theorem dX4_tows_34 : decode cX4_tows 34 = .ok (.aload_n 0, 1) := dk_42 (dk_at dksX4_tows_1 11 rfl rfl)
theorem dX4_tows_35 : decode cX4_tows 35 = .ok (.iload 4, 2) := dk_21 4 (dk_at dksX4_tows_1 12 rfl rfl)
theorem dX4_tows_37 : decode cX4_tows 37 = .ok (.iconst 0, 1) := dk_3 (dk_at dksX4_tows_1 14 rfl rfl)
theorem dX4_tows_38 : decode cX4_tows 38 = .ok (.invokevirtual 117, 3) := dk_182 0 117 (dk_at dksX4_tows_1 15 rfl rfl)
theorem dX4_tows_41 : decode cX4_tows 41 = .ok (.istore 5, 2) := dk_54 5 (dk_at dksX4_tows_1 18 rfl rfl)
theorem dX4_tows_43 : decode cX4_tows 43 = .ok (.aload_n 0, 1) := dk_42 (dk_at dksX4_tows_1 20 rfl rfl)
theorem dX4_tows_44 : decode cX4_tows 44 = .ok (.iload_n 1, 1) := dk_27 (dk_at dksX4_tows_1 21 rfl rfl)
theorem dX4_tows_45 : decode cX4_tows 45 = .ok (.iconst 0, 1) := dk_3 (dk_at dksX4_tows_1 22 rfl rfl)
theorem dX4_tows_46 : decode cX4_tows 46 = .ok (.invokevirtual 88, 3) := dk_182 0 88 (dk_at dksX4_tows_2 0 rfl rfl)
theorem dX4_tows_49 : decode cX4_tows 49 = .ok (.invokestatic 129, 3) := dk_184 0 129 (dk_at dksX4_tows_2 3 rfl rfl)
theorem dX4_tows_52 : decode cX4_tows 52 = .ok (.istore 6, 2) := dk_54 6 (dk_at dksX4_tows_2 6 rfl rfl)
theorem dX4_tows_54 : decode cX4_tows 54 = .ok (.iload_n 3, 1) := dk_29 (dk_at dksX4_tows_2 8 rfl rfl)
theorem dX4_tows_55 : decode cX4_tows 55 = .ok (.istore 7, 2) := dk_54 7 (dk_at dksX4_tows_2 9 rfl rfl)
theorem dX4_tows_57 : decode cX4_tows 57 = .ok (.iconst 0, 1) := dk_3 (dk_at dksX4_tows_2 11 rfl rfl)
theorem dX4_tows_58 : decode cX4_tows 58 = .ok (.istore 8, 2) := dk_54 8 (dk_at dksX4_tows_2 12 rfl rfl)
theorem dX4_tows_60 : decode cX4_tows 60 = .ok (.iload 7, 2) := dk_21 7 (dk_at dksX4_tows_2 14 rfl rfl)
theorem dX4_tows_62 : decode cX4_tows 62 = .ok (.iload 5, 2) := dk_21 5 (dk_at dksX4_tows_2 16 rfl rfl)
theorem dX4_tows_64 : decode cX4_tows 64 = .ok (.if_icmp .eq 7, 3) := dk_159 0 7 (dk_at dksX4_tows_2 18 rfl rfl)
theorem dX4_tows_67 : decode cX4_tows 67 = .ok (.iconst 1, 1) := dk_4 (dk_at dksX4_tows_2 21 rfl rfl)
theorem dX4_tows_68 : decode cX4_tows 68 = .ok (.goto 4, 3) := dk_167 0 4 (dk_at dksX4_tows_3 0 rfl rfl)
theorem dX4_tows_71 : decode cX4_tows 71 = .ok (.iconst 0, 1) := dk_3 (dk_at dksX4_tows_3 3 rfl rfl)
theorem dX4_tows_72 : decode cX4_tows 72 = .ok (.istore 9, 2) := dk_54 9 (dk_at dksX4_tows_3 4 rfl rfl)
theorem dX4_tows_74 : decode cX4_tows 74 = .ok (.iconst 0, 1) := dk_3 (dk_at dksX4_tows_3 6 rfl rfl)
theorem dX4_tows_75 : decode cX4_tows 75 = .ok (.istore 10, 2) := dk_54 10 (dk_at dksX4_tows_3 7 rfl rfl)
theorem dX4_tows_77 : decode cX4_tows 77 = .ok (.iload 10, 2) := dk_21 10 (dk_at dksX4_tows_3 9 rfl rfl)
theorem dX4_tows_79 : decode cX4_tows 79 = .ok (.bipush 12, 2) := dk_16 12 (dk_at dksX4_tows_3 11 rfl rfl)
theorem dX4_tows_81 : decode cX4_tows 81 = .ok (.if_icmp .ge 129, 3) := dk_162 0 129 (dk_at dksX4_tows_3 13 rfl rfl)
theorem dX4_tows_84 : decode cX4_tows 84 = .ok (.iload 9, 2) := dk_21 9 (dk_at dksX4_tows_3 16 rfl rfl)
theorem dX4_tows_86 : decode cX4_tows 86 = .ok (.ifCond .eq 124, 3) := dk_153 0 124 (dk_at dksX4_tows_3 18 rfl rfl)
theorem dX4_tows_89 : decode cX4_tows 89 = .ok (.aload_n 0, 1) := dk_42 (dk_at dksX4_tows_3 21 rfl rfl)
theorem dX4_tows_90 : decode cX4_tows 90 = .ok (.iload 7, 2) := dk_21 7 (dk_at dksX4_tows_3 22 rfl rfl)
theorem dX4_tows_92 : decode cX4_tows 92 = .ok (.iload 5, 2) := dk_21 5 (dk_at dksX4_tows_4 0 rfl rfl)
theorem dX4_tows_94 : decode cX4_tows 94 = .ok (.invokevirtual 132, 3) := dk_182 0 132 (dk_at dksX4_tows_4 2 rfl rfl)
theorem dX4_tows_97 : decode cX4_tows 97 = .ok (.istore 11, 2) := dk_54 11 (dk_at dksX4_tows_4 5 rfl rfl)
theorem dX4_tows_99 : decode cX4_tows 99 = .ok (.iload 11, 2) := dk_21 11 (dk_at dksX4_tows_4 7 rfl rfl)
theorem dX4_tows_101 : decode cX4_tows 101 = .ok (.invokestatic 129, 3) := dk_184 0 129 (dk_at dksX4_tows_4 9 rfl rfl)
theorem dX4_tows_104 : decode cX4_tows 104 = .ok (.iload 6, 2) := dk_21 6 (dk_at dksX4_tows_4 12 rfl rfl)
theorem dX4_tows_106 : decode cX4_tows 106 = .ok (.if_icmp .eq 9, 3) := dk_159 0 9 (dk_at dksX4_tows_4 14 rfl rfl)
theorem dX4_tows_109 : decode cX4_tows 109 = .ok (.iload 7, 2) := dk_21 7 (dk_at dksX4_tows_4 17 rfl rfl)
theorem dX4_tows_111 : decode cX4_tows 111 = .ok (.iload_n 3, 1) := dk_29 (dk_at dksX4_tows_4 19 rfl rfl)
theorem dX4_tows_112 : decode cX4_tows 112 = .ok (.if_icmp .ne 7, 3) := dk_160 0 7 (dk_at dksX4_tows_4 20 rfl rfl)
theorem dX4_tows_115 : decode cX4_tows 115 = .ok (.iconst 1, 1) := dk_4 (dk_at dksX4_tows_4 23 rfl rfl)
theorem dX4_tows_116 : decode cX4_tows 116 = .ok (.goto 4, 3) := dk_167 0 4 (dk_at dksX4_tows_5 0 rfl rfl)
theorem dX4_tows_119 : decode cX4_tows 119 = .ok (.iconst 0, 1) := dk_3 (dk_at dksX4_tows_5 3 rfl rfl)
theorem dX4_tows_120 : decode cX4_tows 120 = .ok (.istore 9, 2) := dk_54 9 (dk_at dksX4_tows_5 4 rfl rfl)
theorem dX4_tows_122 : decode cX4_tows 122 = .ok (.iload 8, 2) := dk_21 8 (dk_at dksX4_tows_5 6 rfl rfl)
theorem dX4_tows_124 : decode cX4_tows 124 = .ok (.iload 9, 2) := dk_21 9 (dk_at dksX4_tows_5 8 rfl rfl)
theorem dX4_tows_126 : decode cX4_tows 126 = .ok (.ifCond .eq 19, 3) := dk_153 0 19 (dk_at dksX4_tows_5 10 rfl rfl)
theorem dX4_tows_129 : decode cX4_tows 129 = .ok (.aload_n 0, 1) := dk_42 (dk_at dksX4_tows_5 13 rfl rfl)
theorem dX4_tows_130 : decode cX4_tows 130 = .ok (.getfield 25, 3) := dk_180 0 25 (dk_at dksX4_tows_5 14 rfl rfl)
theorem dX4_tows_133 : decode cX4_tows 133 = .ok (.bipush 12, 2) := dk_16 12 (dk_at dksX4_tows_5 17 rfl rfl)
theorem dX4_tows_135 : decode cX4_tows 135 = .ok (.iload 7, 2) := dk_21 7 (dk_at dksX4_tows_5 19 rfl rfl)
theorem dX4_tows_137 : decode cX4_tows 137 = .ok (.imul, 1) := dk_104 (dk_at dksX4_tows_5 21 rfl rfl)
theorem dX4_tows_138 : decode cX4_tows 138 = .ok (.iload 11, 2) := dk_21 11 (dk_at dksX4_tows_5 22 rfl rfl)
theorem dX4_tows_140 : decode cX4_tows 140 = .ok (.iadd, 1) := dk_96 (dk_at dksX4_tows_6 0 rfl rfl)
theorem dX4_tows_141 : decode cX4_tows 141 = .ok (.iaload, 1) := dk_46 (dk_at dksX4_tows_6 1 rfl rfl)
theorem dX4_tows_142 : decode cX4_tows 142 = .ok (.goto 4, 3) := dk_167 0 4 (dk_at dksX4_tows_6 2 rfl rfl)
theorem dX4_tows_145 : decode cX4_tows 145 = .ok (.iconst 0, 1) := dk_3 (dk_at dksX4_tows_6 5 rfl rfl)
theorem dX4_tows_146 : decode cX4_tows 146 = .ok (.iadd, 1) := dk_96 (dk_at dksX4_tows_6 6 rfl rfl)
theorem dX4_tows_147 : decode cX4_tows 147 = .ok (.istore 8, 2) := dk_54 8 (dk_at dksX4_tows_6 7 rfl rfl)
theorem dX4_tows_149 : decode cX4_tows 149 = .ok (.iload 11, 2) := dk_21 11 (dk_at dksX4_tows_6 9 rfl rfl)
theorem dX4_tows_151 : decode cX4_tows 151 = .ok (.invokestatic 129, 3) := dk_184 0 129 (dk_at dksX4_tows_6 11 rfl rfl)
theorem dX4_tows_154 : decode cX4_tows 154 = .ok (.iload 6, 2) := dk_21 6 (dk_at dksX4_tows_6 14 rfl rfl)
theorem dX4_tows_156 : decode cX4_tows 156 = .ok (.if_icmp .ne 10, 3) := dk_160 0 10 (dk_at dksX4_tows_6 16 rfl rfl)
theorem dX4_tows_159 : decode cX4_tows 159 = .ok (.iload 11, 2) := dk_21 11 (dk_at dksX4_tows_6 19 rfl rfl)
theorem dX4_tows_161 : decode cX4_tows 161 = .ok (.iload 5, 2) := dk_21 5 (dk_at dksX4_tows_6 21 rfl rfl)
theorem dX4_tows_163 : decode cX4_tows 163 = .ok (.if_icmp .ne 7, 3) := dk_160 0 7 (dk_at dksX4_tows_7 0 rfl rfl)
theorem dX4_tows_166 : decode cX4_tows 166 = .ok (.iconst 1, 1) := dk_4 (dk_at dksX4_tows_7 3 rfl rfl)
theorem dX4_tows_167 : decode cX4_tows 167 = .ok (.goto 4, 3) := dk_167 0 4 (dk_at dksX4_tows_7 4 rfl rfl)
theorem dX4_tows_170 : decode cX4_tows 170 = .ok (.iconst 0, 1) := dk_3 (dk_at dksX4_tows_7 7 rfl rfl)
theorem dX4_tows_171 : decode cX4_tows 171 = .ok (.istore 12, 2) := dk_54 12 (dk_at dksX4_tows_7 8 rfl rfl)
theorem dX4_tows_173 : decode cX4_tows 173 = .ok (.iload 9, 2) := dk_21 9 (dk_at dksX4_tows_7 10 rfl rfl)
theorem dX4_tows_175 : decode cX4_tows 175 = .ok (.ifCond .eq 8, 3) := dk_153 0 8 (dk_at dksX4_tows_7 12 rfl rfl)
theorem dX4_tows_178 : decode cX4_tows 178 = .ok (.iload 11, 2) := dk_21 11 (dk_at dksX4_tows_7 15 rfl rfl)
theorem dX4_tows_180 : decode cX4_tows 180 = .ok (.goto 5, 3) := dk_167 0 5 (dk_at dksX4_tows_7 17 rfl rfl)
theorem dX4_tows_183 : decode cX4_tows 183 = .ok (.iload 7, 2) := dk_21 7 (dk_at dksX4_tows_7 20 rfl rfl)
theorem dX4_tows_185 : decode cX4_tows 185 = .ok (.istore 7, 2) := dk_54 7 (dk_at dksX4_tows_7 22 rfl rfl)
theorem dX4_tows_187 : decode cX4_tows 187 = .ok (.iload 9, 2) := dk_21 9 (dk_at dksX4_tows_8 0 rfl rfl)
theorem dX4_tows_189 : decode cX4_tows 189 = .ok (.ifCond .eq 12, 3) := dk_153 0 12 (dk_at dksX4_tows_8 2 rfl rfl)
theorem dX4_tows_192 : decode cX4_tows 192 = .ok (.iload 12, 2) := dk_21 12 (dk_at dksX4_tows_8 5 rfl rfl)
theorem dX4_tows_194 : decode cX4_tows 194 = .ok (.ifCond .ne 7, 3) := dk_154 0 7 (dk_at dksX4_tows_8 7 rfl rfl)
theorem dX4_tows_197 : decode cX4_tows 197 = .ok (.iconst 1, 1) := dk_4 (dk_at dksX4_tows_8 10 rfl rfl)
theorem dX4_tows_198 : decode cX4_tows 198 = .ok (.goto 4, 3) := dk_167 0 4 (dk_at dksX4_tows_8 11 rfl rfl)
theorem dX4_tows_201 : decode cX4_tows 201 = .ok (.iconst 0, 1) := dk_3 (dk_at dksX4_tows_8 14 rfl rfl)
theorem dX4_tows_202 : decode cX4_tows 202 = .ok (.istore 9, 2) := dk_54 9 (dk_at dksX4_tows_8 15 rfl rfl)
theorem dX4_tows_204 : decode cX4_tows 204 = .ok (.iinc 10 1, 3) := dk_132 10 1 (dk_at dksX4_tows_8 17 rfl rfl)
theorem dX4_tows_207 : decode cX4_tows 207 = .ok (.goto (-130), 3) := dk_167 255 126 (dk_at dksX4_tows_8 20 rfl rfl)
theorem dX4_tows_210 : decode cX4_tows 210 = .ok (.aload_n 0, 1) := dk_42 (dk_at dksX4_tows_8 23 rfl rfl)
theorem dX4_tows_211 : decode cX4_tows 211 = .ok (.iload_n 1, 1) := dk_27 (dk_at dksX4_tows_9 0 rfl rfl)
theorem dX4_tows_212 : decode cX4_tows 212 = .ok (.iconst 3, 1) := dk_6 (dk_at dksX4_tows_9 1 rfl rfl)
theorem dX4_tows_213 : decode cX4_tows 213 = .ok (.iconst 3, 1) := dk_6 (dk_at dksX4_tows_9 2 rfl rfl)
theorem dX4_tows_214 : decode cX4_tows 214 = .ok (.invokevirtual 64, 3) := dk_182 0 64 (dk_at dksX4_tows_9 3 rfl rfl)
theorem dX4_tows_217 : decode cX4_tows 217 = .ok (.aload_n 0, 1) := dk_42 (dk_at dksX4_tows_9 6 rfl rfl)
theorem dX4_tows_218 : decode cX4_tows 218 = .ok (.iload_n 1, 1) := dk_27 (dk_at dksX4_tows_9 7 rfl rfl)
theorem dX4_tows_219 : decode cX4_tows 219 = .ok (.bipush 6, 2) := dk_16 6 (dk_at dksX4_tows_9 8 rfl rfl)
theorem dX4_tows_221 : decode cX4_tows 221 = .ok (.iload 8, 2) := dk_21 8 (dk_at dksX4_tows_9 10 rfl rfl)
theorem dX4_tows_223 : decode cX4_tows 223 = .ok (.ifCond .ne 7, 3) := dk_154 0 7 (dk_at dksX4_tows_9 12 rfl rfl)
theorem dX4_tows_226 : decode cX4_tows 226 = .ok (.iconst 1, 1) := dk_4 (dk_at dksX4_tows_9 15 rfl rfl)
theorem dX4_tows_227 : decode cX4_tows 227 = .ok (.goto 7, 3) := dk_167 0 7 (dk_at dksX4_tows_9 16 rfl rfl)
theorem dX4_tows_230 : decode cX4_tows 230 = .ok (.iconst 2, 1) := dk_5 (dk_at dksX4_tows_9 19 rfl rfl)
theorem dX4_tows_231 : decode cX4_tows 231 = .ok (.iload 8, 2) := dk_21 8 (dk_at dksX4_tows_9 20 rfl rfl)
theorem dX4_tows_233 : decode cX4_tows 233 = .ok (.imul, 1) := dk_104 (dk_at dksX4_tows_9 22 rfl rfl)
theorem dX4_tows_234 : decode cX4_tows 234 = .ok (.invokevirtual 64, 3) := dk_182 0 64 (dk_at dksX4_tows_10 0 rfl rfl)
theorem dX4_tows_237 : decode cX4_tows 237 = .ok (.aload_n 0, 1) := dk_42 (dk_at dksX4_tows_10 3 rfl rfl)
theorem dX4_tows_238 : decode cX4_tows 238 = .ok (.iload_n 1, 1) := dk_27 (dk_at dksX4_tows_10 4 rfl rfl)
theorem dX4_tows_239 : decode cX4_tows 239 = .ok (.bipush 12, 2) := dk_16 12 (dk_at dksX4_tows_10 5 rfl rfl)
theorem dX4_tows_241 : decode cX4_tows 241 = .ok (.iload 7, 2) := dk_21 7 (dk_at dksX4_tows_10 7 rfl rfl)
theorem dX4_tows_243 : decode cX4_tows 243 = .ok (.invokevirtual 64, 3) := dk_182 0 64 (dk_at dksX4_tows_10 9 rfl rfl)
theorem dX4_tows_246 : decode cX4_tows 246 = .ok (.aload_n 0, 1) := dk_42 (dk_at dksX4_tows_10 12 rfl rfl)
theorem dX4_tows_247 : decode cX4_tows 247 = .ok (.iload_n 1, 1) := dk_27 (dk_at dksX4_tows_10 13 rfl rfl)
theorem dX4_tows_248 : decode cX4_tows 248 = .ok (.bipush 13, 2) := dk_16 13 (dk_at dksX4_tows_10 14 rfl rfl)
theorem dX4_tows_250 : decode cX4_tows 250 = .ok (.iload 4, 2) := dk_21 4 (dk_at dksX4_tows_10 16 rfl rfl)
theorem dX4_tows_252 : decode cX4_tows 252 = .ok (.invokevirtual 64, 3) := dk_182 0 64 (dk_at dksX4_tows_10 18 rfl rfl)
theorem dX4_tows_255 : decode cX4_tows 255 = .ok (.aload_n 0, 1) := dk_42 (dk_at dksX4_tows_10 21 rfl rfl)
theorem dX4_tows_256 : decode cX4_tows 256 = .ok (.iload_n 2, 1) := dk_28 (dk_at dksX4_tows_10 22 rfl rfl)
theorem dX4_tows_257 : decode cX4_tows 257 = .ok (.iconst 5, 1) := dk_8 (dk_at dksX4_tows_10 23 rfl rfl)
theorem dX4_tows_258 : decode cX4_tows 258 = .ok (.iconst 4, 1) := dk_7 (dk_at dksX4_tows_11 0 rfl rfl)
theorem dX4_tows_259 : decode cX4_tows 259 = .ok (.invokevirtual 82, 3) := dk_182 0 82 (dk_at dksX4_tows_11 1 rfl rfl)
theorem dX4_tows_262 : decode cX4_tows 262 = .ok (.aload_n 0, 1) := dk_42 (dk_at dksX4_tows_11 4 rfl rfl)
theorem dX4_tows_263 : decode cX4_tows 263 = .ok (.iload_n 2, 1) := dk_28 (dk_at dksX4_tows_11 5 rfl rfl)
theorem dX4_tows_264 : decode cX4_tows 264 = .ok (.bipush 6, 2) := dk_16 6 (dk_at dksX4_tows_11 6 rfl rfl)
theorem dX4_tows_266 : decode cX4_tows 266 = .ok (.iload_n 1, 1) := dk_27 (dk_at dksX4_tows_11 8 rfl rfl)
theorem dX4_tows_267 : decode cX4_tows 267 = .ok (.invokevirtual 82, 3) := dk_182 0 82 (dk_at dksX4_tows_11 9 rfl rfl)
theorem dX4_tows_270 : decode cX4_tows 270 = .ok (.return_, 1) := dk_177 (dk_at dksX4_tows_11 12 rfl rfl)
abbrev cX4_garageFor : ByteArray := prog_16_method_39_code
def yX4_garageFor : MethodName := ⟨RX4, "garageFor", "(I)I"⟩
def dkwX4_garageFor_4 : List UInt8 := [61, 132, 3, 1, 167, 255, 161, 28, 172]
abbrev dktX4_garageFor_4 : List UInt8 := dkwX4_garageFor_4 ++ []
def dkwX4_garageFor_3 : List UInt8 := [159, 0, 19, 21, 4, 42, 27, 42, 28, 3, 182, 0, 117, 182, 0, 53, 162, 0, 7, 29, 167, 0, 4, 28]
abbrev dktX4_garageFor_3 : List UInt8 := dkwX4_garageFor_3 ++ dktX4_garageFor_4
def dkwX4_garageFor_2 : List UInt8 := [42, 29, 4, 182, 0, 117, 162, 0, 7, 4, 167, 0, 4, 3, 54, 5, 21, 5, 153, 0, 29, 28, 16, 251]
abbrev dktX4_garageFor_2 : List UInt8 := dkwX4_garageFor_2 ++ dktX4_garageFor_3
def dkwX4_garageFor_1 : List UInt8 := [182, 0, 53, 54, 4, 21, 4, 18, 52, 162, 0, 28, 42, 29, 5, 182, 0, 117, 42, 29, 182, 0, 120, 96]
abbrev dktX4_garageFor_1 : List UInt8 := dkwX4_garageFor_1 ++ dktX4_garageFor_2
def dkwX4_garageFor_0 : List UInt8 := [16, 251, 61, 3, 62, 29, 42, 180, 0, 7, 16, 8, 46, 162, 0, 90, 42, 27, 42, 29, 3, 182, 0, 117]
abbrev dktX4_garageFor_0 : List UInt8 := dkwX4_garageFor_0 ++ dktX4_garageFor_1
theorem dksX4_garageFor_0 : cX4_garageFor.data.toList.drop 0 = dktX4_garageFor_0 := by decide +kernel
theorem dksX4_garageFor_1 : cX4_garageFor.data.toList.drop 24 = dktX4_garageFor_1 := dk_seg dksX4_garageFor_0 24 rfl rfl
theorem dksX4_garageFor_2 : cX4_garageFor.data.toList.drop 48 = dktX4_garageFor_2 := dk_seg dksX4_garageFor_1 24 rfl rfl
theorem dksX4_garageFor_3 : cX4_garageFor.data.toList.drop 72 = dktX4_garageFor_3 := dk_seg dksX4_garageFor_2 24 rfl rfl
theorem dksX4_garageFor_4 : cX4_garageFor.data.toList.drop 96 = dktX4_garageFor_4 := dk_seg dksX4_garageFor_3 24 rfl rfl
theorem dX4_garageFor_0 : decode cX4_garageFor 0 = .ok (.bipush (-5), 2) := dk_16 251 (dk_at dksX4_garageFor_0 0 rfl rfl)
theorem dX4_garageFor_2 : decode cX4_garageFor 2 = .ok (.istore_n 2, 1) := dk_61 (dk_at dksX4_garageFor_0 2 rfl rfl)
theorem dX4_garageFor_3 : decode cX4_garageFor 3 = .ok (.iconst 0, 1) := dk_3 (dk_at dksX4_garageFor_0 3 rfl rfl)
theorem dX4_garageFor_4 : decode cX4_garageFor 4 = .ok (.istore_n 3, 1) := dk_62 (dk_at dksX4_garageFor_0 4 rfl rfl)
theorem dX4_garageFor_5 : decode cX4_garageFor 5 = .ok (.iload_n 3, 1) := dk_29 (dk_at dksX4_garageFor_0 5 rfl rfl)
theorem dX4_garageFor_6 : decode cX4_garageFor 6 = .ok (.aload_n 0, 1) := dk_42 (dk_at dksX4_garageFor_0 6 rfl rfl)
theorem dX4_garageFor_7 : decode cX4_garageFor 7 = .ok (.getfield 7, 3) := dk_180 0 7 (dk_at dksX4_garageFor_0 7 rfl rfl)
theorem dX4_garageFor_10 : decode cX4_garageFor 10 = .ok (.bipush 8, 2) := dk_16 8 (dk_at dksX4_garageFor_0 10 rfl rfl)
theorem dX4_garageFor_12 : decode cX4_garageFor 12 = .ok (.iaload, 1) := dk_46 (dk_at dksX4_garageFor_0 12 rfl rfl)
theorem dX4_garageFor_13 : decode cX4_garageFor 13 = .ok (.if_icmp .ge 90, 3) := dk_162 0 90 (dk_at dksX4_garageFor_0 13 rfl rfl)
theorem dX4_garageFor_16 : decode cX4_garageFor 16 = .ok (.aload_n 0, 1) := dk_42 (dk_at dksX4_garageFor_0 16 rfl rfl)
theorem dX4_garageFor_17 : decode cX4_garageFor 17 = .ok (.iload_n 1, 1) := dk_27 (dk_at dksX4_garageFor_0 17 rfl rfl)
theorem dX4_garageFor_18 : decode cX4_garageFor 18 = .ok (.aload_n 0, 1) := dk_42 (dk_at dksX4_garageFor_0 18 rfl rfl)
theorem dX4_garageFor_19 : decode cX4_garageFor 19 = .ok (.iload_n 3, 1) := dk_29 (dk_at dksX4_garageFor_0 19 rfl rfl)
theorem dX4_garageFor_20 : decode cX4_garageFor 20 = .ok (.iconst 0, 1) := dk_3 (dk_at dksX4_garageFor_0 20 rfl rfl)
theorem dX4_garageFor_21 : decode cX4_garageFor 21 = .ok (.invokevirtual 117, 3) := dk_182 0 117 (dk_at dksX4_garageFor_0 21 rfl rfl)
theorem dX4_garageFor_24 : decode cX4_garageFor 24 = .ok (.invokevirtual 53, 3) := dk_182 0 53 (dk_at dksX4_garageFor_1 0 rfl rfl)
theorem dX4_garageFor_27 : decode cX4_garageFor 27 = .ok (.istore 4, 2) := dk_54 4 (dk_at dksX4_garageFor_1 3 rfl rfl)
theorem dX4_garageFor_29 : decode cX4_garageFor 29 = .ok (.iload 4, 2) := dk_21 4 (dk_at dksX4_garageFor_1 5 rfl rfl)
theorem dX4_garageFor_31 : decode cX4_garageFor 31 = .ok (.ldc 52, 2) := dk_18 52 (dk_at dksX4_garageFor_1 7 rfl rfl)
theorem dX4_garageFor_33 : decode cX4_garageFor 33 = .ok (.if_icmp .ge 28, 3) := dk_162 0 28 (dk_at dksX4_garageFor_1 9 rfl rfl)
theorem dX4_garageFor_36 : decode cX4_garageFor 36 = .ok (.aload_n 0, 1) := dk_42 (dk_at dksX4_garageFor_1 12 rfl rfl)
theorem dX4_garageFor_37 : decode cX4_garageFor 37 = .ok (.iload_n 3, 1) := dk_29 (dk_at dksX4_garageFor_1 13 rfl rfl)
theorem dX4_garageFor_38 : decode cX4_garageFor 38 = .ok (.iconst 2, 1) := dk_5 (dk_at dksX4_garageFor_1 14 rfl rfl)
theorem dX4_garageFor_39 : decode cX4_garageFor 39 = .ok (.invokevirtual 117, 3) := dk_182 0 117 (dk_at dksX4_garageFor_1 15 rfl rfl)
theorem dX4_garageFor_42 : decode cX4_garageFor 42 = .ok (.aload_n 0, 1) := dk_42 (dk_at dksX4_garageFor_1 18 rfl rfl)
theorem dX4_garageFor_43 : decode cX4_garageFor 43 = .ok (.iload_n 3, 1) := dk_29 (dk_at dksX4_garageFor_1 19 rfl rfl)
theorem dX4_garageFor_44 : decode cX4_garageFor 44 = .ok (.invokevirtual 120, 3) := dk_182 0 120 (dk_at dksX4_garageFor_1 20 rfl rfl)
theorem dX4_garageFor_47 : decode cX4_garageFor 47 = .ok (.iadd, 1) := dk_96 (dk_at dksX4_garageFor_1 23 rfl rfl)
theorem dX4_garageFor_48 : decode cX4_garageFor 48 = .ok (.aload_n 0, 1) := dk_42 (dk_at dksX4_garageFor_2 0 rfl rfl)
theorem dX4_garageFor_49 : decode cX4_garageFor 49 = .ok (.iload_n 3, 1) := dk_29 (dk_at dksX4_garageFor_2 1 rfl rfl)
theorem dX4_garageFor_50 : decode cX4_garageFor 50 = .ok (.iconst 1, 1) := dk_4 (dk_at dksX4_garageFor_2 2 rfl rfl)
theorem dX4_garageFor_51 : decode cX4_garageFor 51 = .ok (.invokevirtual 117, 3) := dk_182 0 117 (dk_at dksX4_garageFor_2 3 rfl rfl)
theorem dX4_garageFor_54 : decode cX4_garageFor 54 = .ok (.if_icmp .ge 7, 3) := dk_162 0 7 (dk_at dksX4_garageFor_2 6 rfl rfl)
theorem dX4_garageFor_57 : decode cX4_garageFor 57 = .ok (.iconst 1, 1) := dk_4 (dk_at dksX4_garageFor_2 9 rfl rfl)
theorem dX4_garageFor_58 : decode cX4_garageFor 58 = .ok (.goto 4, 3) := dk_167 0 4 (dk_at dksX4_garageFor_2 10 rfl rfl)
theorem dX4_garageFor_61 : decode cX4_garageFor 61 = .ok (.iconst 0, 1) := dk_3 (dk_at dksX4_garageFor_2 13 rfl rfl)
theorem dX4_garageFor_62 : decode cX4_garageFor 62 = .ok (.istore 5, 2) := dk_54 5 (dk_at dksX4_garageFor_2 14 rfl rfl)
theorem dX4_garageFor_64 : decode cX4_garageFor 64 = .ok (.iload 5, 2) := dk_21 5 (dk_at dksX4_garageFor_2 16 rfl rfl)
theorem dX4_garageFor_66 : decode cX4_garageFor 66 = .ok (.ifCond .eq 29, 3) := dk_153 0 29 (dk_at dksX4_garageFor_2 18 rfl rfl)
theorem dX4_garageFor_69 : decode cX4_garageFor 69 = .ok (.iload_n 2, 1) := dk_28 (dk_at dksX4_garageFor_2 21 rfl rfl)
theorem dX4_garageFor_70 : decode cX4_garageFor 70 = .ok (.bipush (-5), 2) := dk_16 251 (dk_at dksX4_garageFor_2 22 rfl rfl)
theorem dX4_garageFor_72 : decode cX4_garageFor 72 = .ok (.if_icmp .eq 19, 3) := dk_159 0 19 (dk_at dksX4_garageFor_3 0 rfl rfl)
theorem dX4_garageFor_75 : decode cX4_garageFor 75 = .ok (.iload 4, 2) := dk_21 4 (dk_at dksX4_garageFor_3 3 rfl rfl)
theorem dX4_garageFor_77 : decode cX4_garageFor 77 = .ok (.aload_n 0, 1) := dk_42 (dk_at dksX4_garageFor_3 5 rfl rfl)
theorem dX4_garageFor_78 : decode cX4_garageFor 78 = .ok (.iload_n 1, 1) := dk_27 (dk_at dksX4_garageFor_3 6 rfl rfl)
theorem dX4_garageFor_79 : decode cX4_garageFor 79 = .ok (.aload_n 0, 1) := dk_42 (dk_at dksX4_garageFor_3 7 rfl rfl)
theorem dX4_garageFor_80 : decode cX4_garageFor 80 = .ok (.iload_n 2, 1) := dk_28 (dk_at dksX4_garageFor_3 8 rfl rfl)
theorem dX4_garageFor_81 : decode cX4_garageFor 81 = .ok (.iconst 0, 1) := dk_3 (dk_at dksX4_garageFor_3 9 rfl rfl)
theorem dX4_garageFor_82 : decode cX4_garageFor 82 = .ok (.invokevirtual 117, 3) := dk_182 0 117 (dk_at dksX4_garageFor_3 10 rfl rfl)
theorem dX4_garageFor_85 : decode cX4_garageFor 85 = .ok (.invokevirtual 53, 3) := dk_182 0 53 (dk_at dksX4_garageFor_3 13 rfl rfl)
theorem dX4_garageFor_88 : decode cX4_garageFor 88 = .ok (.if_icmp .ge 7, 3) := dk_162 0 7 (dk_at dksX4_garageFor_3 16 rfl rfl)
theorem dX4_garageFor_91 : decode cX4_garageFor 91 = .ok (.iload_n 3, 1) := dk_29 (dk_at dksX4_garageFor_3 19 rfl rfl)
theorem dX4_garageFor_92 : decode cX4_garageFor 92 = .ok (.goto 4, 3) := dk_167 0 4 (dk_at dksX4_garageFor_3 20 rfl rfl)
theorem dX4_garageFor_95 : decode cX4_garageFor 95 = .ok (.iload_n 2, 1) := dk_28 (dk_at dksX4_garageFor_3 23 rfl rfl)
theorem dX4_garageFor_96 : decode cX4_garageFor 96 = .ok (.istore_n 2, 1) := dk_61 (dk_at dksX4_garageFor_4 0 rfl rfl)
theorem dX4_garageFor_97 : decode cX4_garageFor 97 = .ok (.iinc 3 1, 3) := dk_132 3 1 (dk_at dksX4_garageFor_4 1 rfl rfl)
theorem dX4_garageFor_100 : decode cX4_garageFor 100 = .ok (.goto (-95), 3) := dk_167 255 161 (dk_at dksX4_garageFor_4 4 rfl rfl)
theorem dX4_garageFor_103 : decode cX4_garageFor 103 = .ok (.iload_n 2, 1) := dk_28 (dk_at dksX4_garageFor_4 7 rfl rfl)
theorem dX4_garageFor_104 : decode cX4_garageFor 104 = .ok (.ireturn, 1) := dk_172 (dk_at dksX4_garageFor_4 8 rfl rfl)
abbrev cX4_underWay : ByteArray := prog_16_method_38_code
def yX4_underWay : MethodName := ⟨RX4, "underWay", "(I)I"⟩
def dkwX4_underWay_2 : List UInt8 := [167, 255, 213, 28, 172]
abbrev dktX4_underWay_2 : List UInt8 := dkwX4_underWay_2 ++ []
def dkwX4_underWay_1 : List UInt8 := [160, 0, 18, 42, 29, 16, 13, 182, 0, 88, 27, 160, 0, 7, 4, 167, 0, 4, 3, 96, 61, 132, 3, 1]
abbrev dktX4_underWay_1 : List UInt8 := dkwX4_underWay_1 ++ dktX4_underWay_2
def dkwX4_underWay_0 : List UInt8 := [3, 61, 3, 62, 29, 42, 180, 0, 7, 16, 7, 46, 162, 0, 38, 28, 42, 29, 6, 182, 0, 88, 6]
abbrev dktX4_underWay_0 : List UInt8 := dkwX4_underWay_0 ++ dktX4_underWay_1
theorem dksX4_underWay_0 : cX4_underWay.data.toList.drop 0 = dktX4_underWay_0 := by decide +kernel
theorem dksX4_underWay_1 : cX4_underWay.data.toList.drop 23 = dktX4_underWay_1 := dk_seg dksX4_underWay_0 23 rfl rfl
theorem dksX4_underWay_2 : cX4_underWay.data.toList.drop 47 = dktX4_underWay_2 := dk_seg dksX4_underWay_1 24 rfl rfl
theorem dX4_underWay_0 : decode cX4_underWay 0 = .ok (.iconst 0, 1) := dk_3 (dk_at dksX4_underWay_0 0 rfl rfl)
theorem dX4_underWay_1 : decode cX4_underWay 1 = .ok (.istore_n 2, 1) := dk_61 (dk_at dksX4_underWay_0 1 rfl rfl)
theorem dX4_underWay_2 : decode cX4_underWay 2 = .ok (.iconst 0, 1) := dk_3 (dk_at dksX4_underWay_0 2 rfl rfl)
theorem dX4_underWay_3 : decode cX4_underWay 3 = .ok (.istore_n 3, 1) := dk_62 (dk_at dksX4_underWay_0 3 rfl rfl)
theorem dX4_underWay_4 : decode cX4_underWay 4 = .ok (.iload_n 3, 1) := dk_29 (dk_at dksX4_underWay_0 4 rfl rfl)
theorem dX4_underWay_5 : decode cX4_underWay 5 = .ok (.aload_n 0, 1) := dk_42 (dk_at dksX4_underWay_0 5 rfl rfl)
theorem dX4_underWay_6 : decode cX4_underWay 6 = .ok (.getfield 7, 3) := dk_180 0 7 (dk_at dksX4_underWay_0 6 rfl rfl)
theorem dX4_underWay_9 : decode cX4_underWay 9 = .ok (.bipush 7, 2) := dk_16 7 (dk_at dksX4_underWay_0 9 rfl rfl)
theorem dX4_underWay_11 : decode cX4_underWay 11 = .ok (.iaload, 1) := dk_46 (dk_at dksX4_underWay_0 11 rfl rfl)
theorem dX4_underWay_12 : decode cX4_underWay 12 = .ok (.if_icmp .ge 38, 3) := dk_162 0 38 (dk_at dksX4_underWay_0 12 rfl rfl)
theorem dX4_underWay_15 : decode cX4_underWay 15 = .ok (.iload_n 2, 1) := dk_28 (dk_at dksX4_underWay_0 15 rfl rfl)
theorem dX4_underWay_16 : decode cX4_underWay 16 = .ok (.aload_n 0, 1) := dk_42 (dk_at dksX4_underWay_0 16 rfl rfl)
theorem dX4_underWay_17 : decode cX4_underWay 17 = .ok (.iload_n 3, 1) := dk_29 (dk_at dksX4_underWay_0 17 rfl rfl)
theorem dX4_underWay_18 : decode cX4_underWay 18 = .ok (.iconst 3, 1) := dk_6 (dk_at dksX4_underWay_0 18 rfl rfl)
theorem dX4_underWay_19 : decode cX4_underWay 19 = .ok (.invokevirtual 88, 3) := dk_182 0 88 (dk_at dksX4_underWay_0 19 rfl rfl)
theorem dX4_underWay_22 : decode cX4_underWay 22 = .ok (.iconst 3, 1) := dk_6 (dk_at dksX4_underWay_0 22 rfl rfl)
theorem dX4_underWay_23 : decode cX4_underWay 23 = .ok (.if_icmp .ne 18, 3) := dk_160 0 18 (dk_at dksX4_underWay_1 0 rfl rfl)
theorem dX4_underWay_26 : decode cX4_underWay 26 = .ok (.aload_n 0, 1) := dk_42 (dk_at dksX4_underWay_1 3 rfl rfl)
theorem dX4_underWay_27 : decode cX4_underWay 27 = .ok (.iload_n 3, 1) := dk_29 (dk_at dksX4_underWay_1 4 rfl rfl)
theorem dX4_underWay_28 : decode cX4_underWay 28 = .ok (.bipush 13, 2) := dk_16 13 (dk_at dksX4_underWay_1 5 rfl rfl)
theorem dX4_underWay_30 : decode cX4_underWay 30 = .ok (.invokevirtual 88, 3) := dk_182 0 88 (dk_at dksX4_underWay_1 7 rfl rfl)
theorem dX4_underWay_33 : decode cX4_underWay 33 = .ok (.iload_n 1, 1) := dk_27 (dk_at dksX4_underWay_1 10 rfl rfl)
theorem dX4_underWay_34 : decode cX4_underWay 34 = .ok (.if_icmp .ne 7, 3) := dk_160 0 7 (dk_at dksX4_underWay_1 11 rfl rfl)
theorem dX4_underWay_37 : decode cX4_underWay 37 = .ok (.iconst 1, 1) := dk_4 (dk_at dksX4_underWay_1 14 rfl rfl)
theorem dX4_underWay_38 : decode cX4_underWay 38 = .ok (.goto 4, 3) := dk_167 0 4 (dk_at dksX4_underWay_1 15 rfl rfl)
theorem dX4_underWay_41 : decode cX4_underWay 41 = .ok (.iconst 0, 1) := dk_3 (dk_at dksX4_underWay_1 18 rfl rfl)
theorem dX4_underWay_42 : decode cX4_underWay 42 = .ok (.iadd, 1) := dk_96 (dk_at dksX4_underWay_1 19 rfl rfl)
theorem dX4_underWay_43 : decode cX4_underWay 43 = .ok (.istore_n 2, 1) := dk_61 (dk_at dksX4_underWay_1 20 rfl rfl)
theorem dX4_underWay_44 : decode cX4_underWay 44 = .ok (.iinc 3 1, 3) := dk_132 3 1 (dk_at dksX4_underWay_1 21 rfl rfl)
theorem dX4_underWay_47 : decode cX4_underWay 47 = .ok (.goto (-43), 3) := dk_167 255 213 (dk_at dksX4_underWay_2 0 rfl rfl)
theorem dX4_underWay_50 : decode cX4_underWay 50 = .ok (.iload_n 2, 1) := dk_28 (dk_at dksX4_underWay_2 3 rfl rfl)
theorem dX4_underWay_51 : decode cX4_underWay 51 = .ok (.ireturn, 1) := dk_172 (dk_at dksX4_underWay_2 4 rfl rfl)
abbrev cX4_leaves : ByteArray := prog_16_method_40_code
def yX4_leaves : MethodName := ⟨RX4, "leaves", "(I)V"⟩
def dkwX4_leaves_1 : List UInt8 := [27, 182, 0, 68, 177]
abbrev dktX4_leaves_1 : List UInt8 := dkwX4_leaves_1 ++ []
def dkwX4_leaves_0 : List UInt8 := [42, 27, 8, 182, 0, 88, 61, 42, 28, 8, 6, 182, 0, 82, 42, 28, 16, 6, 16, 251, 182, 0, 82, 42]
abbrev dktX4_leaves_0 : List UInt8 := dkwX4_leaves_0 ++ dktX4_leaves_1
theorem dksX4_leaves_0 : cX4_leaves.data.toList.drop 0 = dktX4_leaves_0 := by decide +kernel
theorem dksX4_leaves_1 : cX4_leaves.data.toList.drop 24 = dktX4_leaves_1 := dk_seg dksX4_leaves_0 24 rfl rfl
theorem dX4_leaves_0 : decode cX4_leaves 0 = .ok (.aload_n 0, 1) := dk_42 (dk_at dksX4_leaves_0 0 rfl rfl)
theorem dX4_leaves_1 : decode cX4_leaves 1 = .ok (.iload_n 1, 1) := dk_27 (dk_at dksX4_leaves_0 1 rfl rfl)
theorem dX4_leaves_2 : decode cX4_leaves 2 = .ok (.iconst 5, 1) := dk_8 (dk_at dksX4_leaves_0 2 rfl rfl)
theorem dX4_leaves_3 : decode cX4_leaves 3 = .ok (.invokevirtual 88, 3) := dk_182 0 88 (dk_at dksX4_leaves_0 3 rfl rfl)
theorem dX4_leaves_6 : decode cX4_leaves 6 = .ok (.istore_n 2, 1) := dk_61 (dk_at dksX4_leaves_0 6 rfl rfl)
theorem dX4_leaves_7 : decode cX4_leaves 7 = .ok (.aload_n 0, 1) := dk_42 (dk_at dksX4_leaves_0 7 rfl rfl)
theorem dX4_leaves_8 : decode cX4_leaves 8 = .ok (.iload_n 2, 1) := dk_28 (dk_at dksX4_leaves_0 8 rfl rfl)
theorem dX4_leaves_9 : decode cX4_leaves 9 = .ok (.iconst 5, 1) := dk_8 (dk_at dksX4_leaves_0 9 rfl rfl)
theorem dX4_leaves_10 : decode cX4_leaves 10 = .ok (.iconst 3, 1) := dk_6 (dk_at dksX4_leaves_0 10 rfl rfl)
theorem dX4_leaves_11 : decode cX4_leaves 11 = .ok (.invokevirtual 82, 3) := dk_182 0 82 (dk_at dksX4_leaves_0 11 rfl rfl)
theorem dX4_leaves_14 : decode cX4_leaves 14 = .ok (.aload_n 0, 1) := dk_42 (dk_at dksX4_leaves_0 14 rfl rfl)
theorem dX4_leaves_15 : decode cX4_leaves 15 = .ok (.iload_n 2, 1) := dk_28 (dk_at dksX4_leaves_0 15 rfl rfl)
theorem dX4_leaves_16 : decode cX4_leaves 16 = .ok (.bipush 6, 2) := dk_16 6 (dk_at dksX4_leaves_0 16 rfl rfl)
theorem dX4_leaves_18 : decode cX4_leaves 18 = .ok (.bipush (-5), 2) := dk_16 251 (dk_at dksX4_leaves_0 18 rfl rfl)
theorem dX4_leaves_20 : decode cX4_leaves 20 = .ok (.invokevirtual 82, 3) := dk_182 0 82 (dk_at dksX4_leaves_0 20 rfl rfl)
theorem dX4_leaves_23 : decode cX4_leaves 23 = .ok (.aload_n 0, 1) := dk_42 (dk_at dksX4_leaves_0 23 rfl rfl)
theorem dX4_leaves_24 : decode cX4_leaves 24 = .ok (.iload_n 1, 1) := dk_27 (dk_at dksX4_leaves_1 0 rfl rfl)
theorem dX4_leaves_25 : decode cX4_leaves 25 = .ok (.invokevirtual 68, 3) := dk_182 0 68 (dk_at dksX4_leaves_1 1 rfl rfl)
theorem dX4_leaves_28 : decode cX4_leaves 28 = .ok (.return_, 1) := dk_177 (dk_at dksX4_leaves_1 4 rfl rfl)
abbrev cX4_region : ByteArray := prog_16_method_6_code
def yX4_region : MethodName := ⟨RX4, "region", "(I)I"⟩
def dkwX4_region_0 : List UInt8 := [26, 7, 108, 172]
abbrev dktX4_region_0 : List UInt8 := dkwX4_region_0 ++ []
theorem dksX4_region_0 : cX4_region.data.toList.drop 0 = dktX4_region_0 := by decide +kernel
theorem dX4_region_0 : decode cX4_region 0 = .ok (.iload_n 0, 1) := dk_26 (dk_at dksX4_region_0 0 rfl rfl)
theorem dX4_region_1 : decode cX4_region 1 = .ok (.iconst 4, 1) := dk_7 (dk_at dksX4_region_0 1 rfl rfl)
theorem dX4_region_2 : decode cX4_region 2 = .ok (.idiv, 1) := dk_108 (dk_at dksX4_region_0 2 rfl rfl)
theorem dX4_region_3 : decode cX4_region 3 = .ok (.ireturn, 1) := dk_172 (dk_at dksX4_region_0 3 rfl rfl)
abbrev cX4_nextOn : ByteArray := prog_16_method_20_code
def yX4_nextOn : MethodName := ⟨RX4, "nextOn", "(II)I"⟩
def dkwX4_nextOn_2 : List UInt8 := [160, 0, 5, 29, 172, 132, 3, 1, 167, 255, 202, 28, 172]
abbrev dktX4_nextOn_2 : List UInt8 := dkwX4_nextOn_2 ++ []
def dkwX4_nextOn_1 : List UInt8 := [42, 180, 0, 25, 16, 12, 27, 104, 29, 96, 46, 42, 29, 28, 182, 0, 53, 96, 42, 27, 28, 182, 0, 53]
abbrev dktX4_nextOn_1 : List UInt8 := dkwX4_nextOn_1 ++ dktX4_nextOn_2
def dkwX4_nextOn_0 : List UInt8 := [3, 62, 29, 16, 12, 162, 0, 54, 42, 180, 0, 25, 16, 12, 27, 104, 29, 96, 46, 18, 52, 162, 0, 32]
abbrev dktX4_nextOn_0 : List UInt8 := dkwX4_nextOn_0 ++ dktX4_nextOn_1
theorem dksX4_nextOn_0 : cX4_nextOn.data.toList.drop 0 = dktX4_nextOn_0 := by decide +kernel
theorem dksX4_nextOn_1 : cX4_nextOn.data.toList.drop 24 = dktX4_nextOn_1 := dk_seg dksX4_nextOn_0 24 rfl rfl
theorem dksX4_nextOn_2 : cX4_nextOn.data.toList.drop 48 = dktX4_nextOn_2 := dk_seg dksX4_nextOn_1 24 rfl rfl
theorem dX4_nextOn_0 : decode cX4_nextOn 0 = .ok (.iconst 0, 1) := dk_3 (dk_at dksX4_nextOn_0 0 rfl rfl)
theorem dX4_nextOn_1 : decode cX4_nextOn 1 = .ok (.istore_n 3, 1) := dk_62 (dk_at dksX4_nextOn_0 1 rfl rfl)
theorem dX4_nextOn_2 : decode cX4_nextOn 2 = .ok (.iload_n 3, 1) := dk_29 (dk_at dksX4_nextOn_0 2 rfl rfl)
theorem dX4_nextOn_3 : decode cX4_nextOn 3 = .ok (.bipush 12, 2) := dk_16 12 (dk_at dksX4_nextOn_0 3 rfl rfl)
theorem dX4_nextOn_5 : decode cX4_nextOn 5 = .ok (.if_icmp .ge 54, 3) := dk_162 0 54 (dk_at dksX4_nextOn_0 5 rfl rfl)
theorem dX4_nextOn_8 : decode cX4_nextOn 8 = .ok (.aload_n 0, 1) := dk_42 (dk_at dksX4_nextOn_0 8 rfl rfl)
theorem dX4_nextOn_9 : decode cX4_nextOn 9 = .ok (.getfield 25, 3) := dk_180 0 25 (dk_at dksX4_nextOn_0 9 rfl rfl)
theorem dX4_nextOn_12 : decode cX4_nextOn 12 = .ok (.bipush 12, 2) := dk_16 12 (dk_at dksX4_nextOn_0 12 rfl rfl)
theorem dX4_nextOn_14 : decode cX4_nextOn 14 = .ok (.iload_n 1, 1) := dk_27 (dk_at dksX4_nextOn_0 14 rfl rfl)
theorem dX4_nextOn_15 : decode cX4_nextOn 15 = .ok (.imul, 1) := dk_104 (dk_at dksX4_nextOn_0 15 rfl rfl)
theorem dX4_nextOn_16 : decode cX4_nextOn 16 = .ok (.iload_n 3, 1) := dk_29 (dk_at dksX4_nextOn_0 16 rfl rfl)
theorem dX4_nextOn_17 : decode cX4_nextOn 17 = .ok (.iadd, 1) := dk_96 (dk_at dksX4_nextOn_0 17 rfl rfl)
theorem dX4_nextOn_18 : decode cX4_nextOn 18 = .ok (.iaload, 1) := dk_46 (dk_at dksX4_nextOn_0 18 rfl rfl)
theorem dX4_nextOn_19 : decode cX4_nextOn 19 = .ok (.ldc 52, 2) := dk_18 52 (dk_at dksX4_nextOn_0 19 rfl rfl)
theorem dX4_nextOn_21 : decode cX4_nextOn 21 = .ok (.if_icmp .ge 32, 3) := dk_162 0 32 (dk_at dksX4_nextOn_0 21 rfl rfl)
theorem dX4_nextOn_24 : decode cX4_nextOn 24 = .ok (.aload_n 0, 1) := dk_42 (dk_at dksX4_nextOn_1 0 rfl rfl)
theorem dX4_nextOn_25 : decode cX4_nextOn 25 = .ok (.getfield 25, 3) := dk_180 0 25 (dk_at dksX4_nextOn_1 1 rfl rfl)
theorem dX4_nextOn_28 : decode cX4_nextOn 28 = .ok (.bipush 12, 2) := dk_16 12 (dk_at dksX4_nextOn_1 4 rfl rfl)
theorem dX4_nextOn_30 : decode cX4_nextOn 30 = .ok (.iload_n 1, 1) := dk_27 (dk_at dksX4_nextOn_1 6 rfl rfl)
theorem dX4_nextOn_31 : decode cX4_nextOn 31 = .ok (.imul, 1) := dk_104 (dk_at dksX4_nextOn_1 7 rfl rfl)
theorem dX4_nextOn_32 : decode cX4_nextOn 32 = .ok (.iload_n 3, 1) := dk_29 (dk_at dksX4_nextOn_1 8 rfl rfl)
theorem dX4_nextOn_33 : decode cX4_nextOn 33 = .ok (.iadd, 1) := dk_96 (dk_at dksX4_nextOn_1 9 rfl rfl)
theorem dX4_nextOn_34 : decode cX4_nextOn 34 = .ok (.iaload, 1) := dk_46 (dk_at dksX4_nextOn_1 10 rfl rfl)
theorem dX4_nextOn_35 : decode cX4_nextOn 35 = .ok (.aload_n 0, 1) := dk_42 (dk_at dksX4_nextOn_1 11 rfl rfl)
theorem dX4_nextOn_36 : decode cX4_nextOn 36 = .ok (.iload_n 3, 1) := dk_29 (dk_at dksX4_nextOn_1 12 rfl rfl)
theorem dX4_nextOn_37 : decode cX4_nextOn 37 = .ok (.iload_n 2, 1) := dk_28 (dk_at dksX4_nextOn_1 13 rfl rfl)
theorem dX4_nextOn_38 : decode cX4_nextOn 38 = .ok (.invokevirtual 53, 3) := dk_182 0 53 (dk_at dksX4_nextOn_1 14 rfl rfl)
theorem dX4_nextOn_41 : decode cX4_nextOn 41 = .ok (.iadd, 1) := dk_96 (dk_at dksX4_nextOn_1 17 rfl rfl)
theorem dX4_nextOn_42 : decode cX4_nextOn 42 = .ok (.aload_n 0, 1) := dk_42 (dk_at dksX4_nextOn_1 18 rfl rfl)
theorem dX4_nextOn_43 : decode cX4_nextOn 43 = .ok (.iload_n 1, 1) := dk_27 (dk_at dksX4_nextOn_1 19 rfl rfl)
theorem dX4_nextOn_44 : decode cX4_nextOn 44 = .ok (.iload_n 2, 1) := dk_28 (dk_at dksX4_nextOn_1 20 rfl rfl)
theorem dX4_nextOn_45 : decode cX4_nextOn 45 = .ok (.invokevirtual 53, 3) := dk_182 0 53 (dk_at dksX4_nextOn_1 21 rfl rfl)
theorem dX4_nextOn_48 : decode cX4_nextOn 48 = .ok (.if_icmp .ne 5, 3) := dk_160 0 5 (dk_at dksX4_nextOn_2 0 rfl rfl)
theorem dX4_nextOn_51 : decode cX4_nextOn 51 = .ok (.iload_n 3, 1) := dk_29 (dk_at dksX4_nextOn_2 3 rfl rfl)
theorem dX4_nextOn_52 : decode cX4_nextOn 52 = .ok (.ireturn, 1) := dk_172 (dk_at dksX4_nextOn_2 4 rfl rfl)
theorem dX4_nextOn_53 : decode cX4_nextOn 53 = .ok (.iinc 3 1, 3) := dk_132 3 1 (dk_at dksX4_nextOn_2 5 rfl rfl)
theorem dX4_nextOn_56 : decode cX4_nextOn 56 = .ok (.goto (-54), 3) := dk_167 255 202 (dk_at dksX4_nextOn_2 8 rfl rfl)
theorem dX4_nextOn_59 : decode cX4_nextOn 59 = .ok (.iload_n 2, 1) := dk_28 (dk_at dksX4_nextOn_2 11 rfl rfl)
theorem dX4_nextOn_60 : decode cX4_nextOn 60 = .ok (.ireturn, 1) := dk_172 (dk_at dksX4_nextOn_2 12 rfl rfl)
abbrev cX4_repaired : ByteArray := prog_16_method_43_code
def yX4_repaired : MethodName := ⟨RX4, "repaired", "(I)V"⟩
def dkwX4_repaired_5 : List UInt8 := [182, 0, 64, 42, 27, 182, 0, 68, 177]
abbrev dktX4_repaired_5 : List UInt8 := dkwX4_repaired_5 ++ []
def dkwX4_repaired_4 : List UInt8 := [16, 9, 42, 180, 0, 7, 3, 46, 182, 0, 82, 42, 27, 16, 7, 42, 27, 16, 7, 182, 0, 88, 4, 96]
abbrev dktX4_repaired_4 : List UInt8 := dkwX4_repaired_4 ++ dktX4_repaired_5
def dkwX4_repaired_3 : List UInt8 := [46, 21, 4, 96, 79, 42, 28, 8, 8, 182, 0, 82, 42, 28, 16, 6, 16, 251, 182, 0, 82, 42, 28]
abbrev dktX4_repaired_3 : List UInt8 := dkwX4_repaired_3 ++ dktX4_repaired_4
def dkwX4_repaired_2 : List UInt8 := [21, 4, 54, 4, 42, 42, 28, 3, 182, 0, 72, 4, 21, 4, 182, 0, 91, 42, 180, 0, 7, 16, 10, 92]
abbrev dktX4_repaired_2 : List UInt8 := dkwX4_repaired_2 ++ dktX4_repaired_3
def dkwX4_repaired_1 : List UInt8 := [104, 100, 8, 42, 28, 16, 10, 182, 0, 72, 104, 100, 54, 4, 21, 4, 156, 0, 7, 3, 167, 0, 5]
abbrev dktX4_repaired_1 : List UInt8 := dkwX4_repaired_1 ++ dktX4_repaired_2
def dkwX4_repaired_0 : List UInt8 := [42, 27, 8, 182, 0, 88, 61, 42, 42, 28, 3, 182, 0, 72, 3, 182, 0, 85, 62, 16, 20, 16, 10, 29]
abbrev dktX4_repaired_0 : List UInt8 := dkwX4_repaired_0 ++ dktX4_repaired_1
theorem dksX4_repaired_0 : cX4_repaired.data.toList.drop 0 = dktX4_repaired_0 := by decide +kernel
theorem dksX4_repaired_1 : cX4_repaired.data.toList.drop 24 = dktX4_repaired_1 := dk_seg dksX4_repaired_0 24 rfl rfl
theorem dksX4_repaired_2 : cX4_repaired.data.toList.drop 47 = dktX4_repaired_2 := dk_seg dksX4_repaired_1 23 rfl rfl
theorem dksX4_repaired_3 : cX4_repaired.data.toList.drop 71 = dktX4_repaired_3 := dk_seg dksX4_repaired_2 24 rfl rfl
theorem dksX4_repaired_4 : cX4_repaired.data.toList.drop 94 = dktX4_repaired_4 := dk_seg dksX4_repaired_3 23 rfl rfl
theorem dksX4_repaired_5 : cX4_repaired.data.toList.drop 118 = dktX4_repaired_5 := dk_seg dksX4_repaired_4 24 rfl rfl
theorem dX4_repaired_0 : decode cX4_repaired 0 = .ok (.aload_n 0, 1) := dk_42 (dk_at dksX4_repaired_0 0 rfl rfl)
theorem dX4_repaired_1 : decode cX4_repaired 1 = .ok (.iload_n 1, 1) := dk_27 (dk_at dksX4_repaired_0 1 rfl rfl)
theorem dX4_repaired_2 : decode cX4_repaired 2 = .ok (.iconst 5, 1) := dk_8 (dk_at dksX4_repaired_0 2 rfl rfl)
theorem dX4_repaired_3 : decode cX4_repaired 3 = .ok (.invokevirtual 88, 3) := dk_182 0 88 (dk_at dksX4_repaired_0 3 rfl rfl)
theorem dX4_repaired_6 : decode cX4_repaired 6 = .ok (.istore_n 2, 1) := dk_61 (dk_at dksX4_repaired_0 6 rfl rfl)
theorem dX4_repaired_7 : decode cX4_repaired 7 = .ok (.aload_n 0, 1) := dk_42 (dk_at dksX4_repaired_0 7 rfl rfl)
theorem dX4_repaired_8 : decode cX4_repaired 8 = .ok (.aload_n 0, 1) := dk_42 (dk_at dksX4_repaired_0 8 rfl rfl)
theorem dX4_repaired_9 : decode cX4_repaired 9 = .ok (.iload_n 2, 1) := dk_28 (dk_at dksX4_repaired_0 9 rfl rfl)
theorem dX4_repaired_10 : decode cX4_repaired 10 = .ok (.iconst 0, 1) := dk_3 (dk_at dksX4_repaired_0 10 rfl rfl)
theorem dX4_repaired_11 : decode cX4_repaired 11 = .ok (.invokevirtual 72, 3) := dk_182 0 72 (dk_at dksX4_repaired_0 11 rfl rfl)
theorem dX4_repaired_14 : decode cX4_repaired 14 = .ok (.iconst 0, 1) := dk_3 (dk_at dksX4_repaired_0 14 rfl rfl)
theorem dX4_repaired_15 : decode cX4_repaired 15 = .ok (.invokevirtual 85, 3) := dk_182 0 85 (dk_at dksX4_repaired_0 15 rfl rfl)
theorem dX4_repaired_18 : decode cX4_repaired 18 = .ok (.istore_n 3, 1) := dk_62 (dk_at dksX4_repaired_0 18 rfl rfl)
theorem dX4_repaired_19 : decode cX4_repaired 19 = .ok (.bipush 20, 2) := dk_16 20 (dk_at dksX4_repaired_0 19 rfl rfl)
theorem dX4_repaired_21 : decode cX4_repaired 21 = .ok (.bipush 10, 2) := dk_16 10 (dk_at dksX4_repaired_0 21 rfl rfl)
theorem dX4_repaired_23 : decode cX4_repaired 23 = .ok (.iload_n 3, 1) := dk_29 (dk_at dksX4_repaired_0 23 rfl rfl)
theorem dX4_repaired_24 : decode cX4_repaired 24 = .ok (.imul, 1) := dk_104 (dk_at dksX4_repaired_1 0 rfl rfl)
theorem dX4_repaired_25 : decode cX4_repaired 25 = .ok (.isub, 1) := dk_100 (dk_at dksX4_repaired_1 1 rfl rfl)
theorem dX4_repaired_26 : decode cX4_repaired 26 = .ok (.iconst 5, 1) := dk_8 (dk_at dksX4_repaired_1 2 rfl rfl)
theorem dX4_repaired_27 : decode cX4_repaired 27 = .ok (.aload_n 0, 1) := dk_42 (dk_at dksX4_repaired_1 3 rfl rfl)
theorem dX4_repaired_28 : decode cX4_repaired 28 = .ok (.iload_n 2, 1) := dk_28 (dk_at dksX4_repaired_1 4 rfl rfl)
theorem dX4_repaired_29 : decode cX4_repaired 29 = .ok (.bipush 10, 2) := dk_16 10 (dk_at dksX4_repaired_1 5 rfl rfl)
theorem dX4_repaired_31 : decode cX4_repaired 31 = .ok (.invokevirtual 72, 3) := dk_182 0 72 (dk_at dksX4_repaired_1 7 rfl rfl)
theorem dX4_repaired_34 : decode cX4_repaired 34 = .ok (.imul, 1) := dk_104 (dk_at dksX4_repaired_1 10 rfl rfl)
theorem dX4_repaired_35 : decode cX4_repaired 35 = .ok (.isub, 1) := dk_100 (dk_at dksX4_repaired_1 11 rfl rfl)
theorem dX4_repaired_36 : decode cX4_repaired 36 = .ok (.istore 4, 2) := dk_54 4 (dk_at dksX4_repaired_1 12 rfl rfl)
theorem dX4_repaired_38 : decode cX4_repaired 38 = .ok (.iload 4, 2) := dk_21 4 (dk_at dksX4_repaired_1 14 rfl rfl)
theorem dX4_repaired_40 : decode cX4_repaired 40 = .ok (.ifCond .ge 7, 3) := dk_156 0 7 (dk_at dksX4_repaired_1 16 rfl rfl)
theorem dX4_repaired_43 : decode cX4_repaired 43 = .ok (.iconst 0, 1) := dk_3 (dk_at dksX4_repaired_1 19 rfl rfl)
theorem dX4_repaired_44 : decode cX4_repaired 44 = .ok (.goto 5, 3) := dk_167 0 5 (dk_at dksX4_repaired_1 20 rfl rfl)
theorem dX4_repaired_47 : decode cX4_repaired 47 = .ok (.iload 4, 2) := dk_21 4 (dk_at dksX4_repaired_2 0 rfl rfl)
theorem dX4_repaired_49 : decode cX4_repaired 49 = .ok (.istore 4, 2) := dk_54 4 (dk_at dksX4_repaired_2 2 rfl rfl)
theorem dX4_repaired_51 : decode cX4_repaired 51 = .ok (.aload_n 0, 1) := dk_42 (dk_at dksX4_repaired_2 4 rfl rfl)
theorem dX4_repaired_52 : decode cX4_repaired 52 = .ok (.aload_n 0, 1) := dk_42 (dk_at dksX4_repaired_2 5 rfl rfl)
theorem dX4_repaired_53 : decode cX4_repaired 53 = .ok (.iload_n 2, 1) := dk_28 (dk_at dksX4_repaired_2 6 rfl rfl)
theorem dX4_repaired_54 : decode cX4_repaired 54 = .ok (.iconst 0, 1) := dk_3 (dk_at dksX4_repaired_2 7 rfl rfl)
theorem dX4_repaired_55 : decode cX4_repaired 55 = .ok (.invokevirtual 72, 3) := dk_182 0 72 (dk_at dksX4_repaired_2 8 rfl rfl)
theorem dX4_repaired_58 : decode cX4_repaired 58 = .ok (.iconst 1, 1) := dk_4 (dk_at dksX4_repaired_2 11 rfl rfl)
theorem dX4_repaired_59 : decode cX4_repaired 59 = .ok (.iload 4, 2) := dk_21 4 (dk_at dksX4_repaired_2 12 rfl rfl)
theorem dX4_repaired_61 : decode cX4_repaired 61 = .ok (.invokevirtual 91, 3) := dk_182 0 91 (dk_at dksX4_repaired_2 14 rfl rfl)
theorem dX4_repaired_64 : decode cX4_repaired 64 = .ok (.aload_n 0, 1) := dk_42 (dk_at dksX4_repaired_2 17 rfl rfl)
theorem dX4_repaired_65 : decode cX4_repaired 65 = .ok (.getfield 7, 3) := dk_180 0 7 (dk_at dksX4_repaired_2 18 rfl rfl)
theorem dX4_repaired_68 : decode cX4_repaired 68 = .ok (.bipush 10, 2) := dk_16 10 (dk_at dksX4_repaired_2 21 rfl rfl)
theorem dX4_repaired_70 : decode cX4_repaired 70 = .ok (.dup2, 1) := dk_92 (dk_at dksX4_repaired_2 23 rfl rfl)
theorem dX4_repaired_71 : decode cX4_repaired 71 = .ok (.iaload, 1) := dk_46 (dk_at dksX4_repaired_3 0 rfl rfl)
theorem dX4_repaired_72 : decode cX4_repaired 72 = .ok (.iload 4, 2) := dk_21 4 (dk_at dksX4_repaired_3 1 rfl rfl)
theorem dX4_repaired_74 : decode cX4_repaired 74 = .ok (.iadd, 1) := dk_96 (dk_at dksX4_repaired_3 3 rfl rfl)
theorem dX4_repaired_75 : decode cX4_repaired 75 = .ok (.iastore, 1) := dk_79 (dk_at dksX4_repaired_3 4 rfl rfl)
theorem dX4_repaired_76 : decode cX4_repaired 76 = .ok (.aload_n 0, 1) := dk_42 (dk_at dksX4_repaired_3 5 rfl rfl)
theorem dX4_repaired_77 : decode cX4_repaired 77 = .ok (.iload_n 2, 1) := dk_28 (dk_at dksX4_repaired_3 6 rfl rfl)
theorem dX4_repaired_78 : decode cX4_repaired 78 = .ok (.iconst 5, 1) := dk_8 (dk_at dksX4_repaired_3 7 rfl rfl)
theorem dX4_repaired_79 : decode cX4_repaired 79 = .ok (.iconst 5, 1) := dk_8 (dk_at dksX4_repaired_3 8 rfl rfl)
theorem dX4_repaired_80 : decode cX4_repaired 80 = .ok (.invokevirtual 82, 3) := dk_182 0 82 (dk_at dksX4_repaired_3 9 rfl rfl)
theorem dX4_repaired_83 : decode cX4_repaired 83 = .ok (.aload_n 0, 1) := dk_42 (dk_at dksX4_repaired_3 12 rfl rfl)
theorem dX4_repaired_84 : decode cX4_repaired 84 = .ok (.iload_n 2, 1) := dk_28 (dk_at dksX4_repaired_3 13 rfl rfl)
theorem dX4_repaired_85 : decode cX4_repaired 85 = .ok (.bipush 6, 2) := dk_16 6 (dk_at dksX4_repaired_3 14 rfl rfl)
theorem dX4_repaired_87 : decode cX4_repaired 87 = .ok (.bipush (-5), 2) := dk_16 251 (dk_at dksX4_repaired_3 16 rfl rfl)
theorem dX4_repaired_89 : decode cX4_repaired 89 = .ok (.invokevirtual 82, 3) := dk_182 0 82 (dk_at dksX4_repaired_3 18 rfl rfl)
theorem dX4_repaired_92 : decode cX4_repaired 92 = .ok (.aload_n 0, 1) := dk_42 (dk_at dksX4_repaired_3 21 rfl rfl)
theorem dX4_repaired_93 : decode cX4_repaired 93 = .ok (.iload_n 2, 1) := dk_28 (dk_at dksX4_repaired_3 22 rfl rfl)
theorem dX4_repaired_94 : decode cX4_repaired 94 = .ok (.bipush 9, 2) := dk_16 9 (dk_at dksX4_repaired_4 0 rfl rfl)
theorem dX4_repaired_96 : decode cX4_repaired 96 = .ok (.aload_n 0, 1) := dk_42 (dk_at dksX4_repaired_4 2 rfl rfl)
theorem dX4_repaired_97 : decode cX4_repaired 97 = .ok (.getfield 7, 3) := dk_180 0 7 (dk_at dksX4_repaired_4 3 rfl rfl)
theorem dX4_repaired_100 : decode cX4_repaired 100 = .ok (.iconst 0, 1) := dk_3 (dk_at dksX4_repaired_4 6 rfl rfl)
theorem dX4_repaired_101 : decode cX4_repaired 101 = .ok (.iaload, 1) := dk_46 (dk_at dksX4_repaired_4 7 rfl rfl)
theorem dX4_repaired_102 : decode cX4_repaired 102 = .ok (.invokevirtual 82, 3) := dk_182 0 82 (dk_at dksX4_repaired_4 8 rfl rfl)
theorem dX4_repaired_105 : decode cX4_repaired 105 = .ok (.aload_n 0, 1) := dk_42 (dk_at dksX4_repaired_4 11 rfl rfl)
theorem dX4_repaired_106 : decode cX4_repaired 106 = .ok (.iload_n 1, 1) := dk_27 (dk_at dksX4_repaired_4 12 rfl rfl)
theorem dX4_repaired_107 : decode cX4_repaired 107 = .ok (.bipush 7, 2) := dk_16 7 (dk_at dksX4_repaired_4 13 rfl rfl)
theorem dX4_repaired_109 : decode cX4_repaired 109 = .ok (.aload_n 0, 1) := dk_42 (dk_at dksX4_repaired_4 15 rfl rfl)
theorem dX4_repaired_110 : decode cX4_repaired 110 = .ok (.iload_n 1, 1) := dk_27 (dk_at dksX4_repaired_4 16 rfl rfl)
theorem dX4_repaired_111 : decode cX4_repaired 111 = .ok (.bipush 7, 2) := dk_16 7 (dk_at dksX4_repaired_4 17 rfl rfl)
theorem dX4_repaired_113 : decode cX4_repaired 113 = .ok (.invokevirtual 88, 3) := dk_182 0 88 (dk_at dksX4_repaired_4 19 rfl rfl)
theorem dX4_repaired_116 : decode cX4_repaired 116 = .ok (.iconst 1, 1) := dk_4 (dk_at dksX4_repaired_4 22 rfl rfl)
theorem dX4_repaired_117 : decode cX4_repaired 117 = .ok (.iadd, 1) := dk_96 (dk_at dksX4_repaired_4 23 rfl rfl)
theorem dX4_repaired_118 : decode cX4_repaired 118 = .ok (.invokevirtual 64, 3) := dk_182 0 64 (dk_at dksX4_repaired_5 0 rfl rfl)
theorem dX4_repaired_121 : decode cX4_repaired 121 = .ok (.aload_n 0, 1) := dk_42 (dk_at dksX4_repaired_5 3 rfl rfl)
theorem dX4_repaired_122 : decode cX4_repaired 122 = .ok (.iload_n 1, 1) := dk_27 (dk_at dksX4_repaired_5 4 rfl rfl)
theorem dX4_repaired_123 : decode cX4_repaired 123 = .ok (.invokevirtual 68, 3) := dk_182 0 68 (dk_at dksX4_repaired_5 5 rfl rfl)
theorem dX4_repaired_126 : decode cX4_repaired 126 = .ok (.return_, 1) := dk_177 (dk_at dksX4_repaired_5 8 rfl rfl)
abbrev cX4_towed : ByteArray := prog_16_method_44_code
def yX4_towed : MethodName := ⟨RX4, "towed", "(I)V"⟩
def dkwX4_towed_6 : List UInt8 := [29, 182, 0, 82, 42, 27, 182, 0, 68, 177]
abbrev dktX4_towed_6 : List UInt8 := dkwX4_towed_6 ++ []
def dkwX4_towed_5 : List UInt8 := [16, 6, 16, 251, 182, 0, 82, 42, 28, 16, 9, 42, 180, 0, 7, 3, 46, 182, 0, 82, 42, 28, 16, 11]
abbrev dktX4_towed_5 : List UInt8 := dkwX4_towed_5 ++ dktX4_towed_6
def dkwX4_towed_4 : List UInt8 := [17, 1, 14, 7, 29, 104, 96, 6, 96, 92, 46, 4, 96, 79, 42, 28, 8, 16, 6, 182, 0, 82, 42, 28]
abbrev dktX4_towed_4 : List UInt8 := dkwX4_towed_4 ++ dktX4_towed_5
def dkwX4_towed_3 : List UInt8 := [177, 42, 180, 0, 7, 17, 1, 14, 7, 29, 104, 96, 5, 96, 92, 46, 4, 96, 79, 42, 180, 0, 7]
abbrev dktX4_towed_3 : List UInt8 := dkwX4_towed_3 ++ dktX4_towed_4
def dkwX4_towed_2 : List UInt8 := [42, 28, 4, 21, 4, 182, 0, 82, 42, 29, 3, 182, 0, 117, 21, 4, 159, 0, 9, 42, 27, 182, 0, 126]
abbrev dktX4_towed_2 : List UInt8 := dkwX4_towed_2 ++ dktX4_towed_3
def dkwX4_towed_1 : List UInt8 := [42, 27, 7, 21, 4, 182, 0, 64, 42, 27, 16, 8, 42, 27, 16, 8, 182, 0, 88, 4, 96, 182, 0, 64]
abbrev dktX4_towed_1 : List UInt8 := dkwX4_towed_1 ++ dktX4_towed_2
def dkwX4_towed_0 : List UInt8 := [42, 27, 8, 182, 0, 88, 61, 42, 27, 16, 13, 182, 0, 88, 62, 42, 27, 16, 12, 182, 0, 88, 54, 4]
abbrev dktX4_towed_0 : List UInt8 := dkwX4_towed_0 ++ dktX4_towed_1
theorem dksX4_towed_0 : cX4_towed.data.toList.drop 0 = dktX4_towed_0 := by decide +kernel
theorem dksX4_towed_1 : cX4_towed.data.toList.drop 24 = dktX4_towed_1 := dk_seg dksX4_towed_0 24 rfl rfl
theorem dksX4_towed_2 : cX4_towed.data.toList.drop 48 = dktX4_towed_2 := dk_seg dksX4_towed_1 24 rfl rfl
theorem dksX4_towed_3 : cX4_towed.data.toList.drop 72 = dktX4_towed_3 := dk_seg dksX4_towed_2 24 rfl rfl
theorem dksX4_towed_4 : cX4_towed.data.toList.drop 95 = dktX4_towed_4 := dk_seg dksX4_towed_3 23 rfl rfl
theorem dksX4_towed_5 : cX4_towed.data.toList.drop 119 = dktX4_towed_5 := dk_seg dksX4_towed_4 24 rfl rfl
theorem dksX4_towed_6 : cX4_towed.data.toList.drop 143 = dktX4_towed_6 := dk_seg dksX4_towed_5 24 rfl rfl
theorem dX4_towed_0 : decode cX4_towed 0 = .ok (.aload_n 0, 1) := dk_42 (dk_at dksX4_towed_0 0 rfl rfl)
theorem dX4_towed_1 : decode cX4_towed 1 = .ok (.iload_n 1, 1) := dk_27 (dk_at dksX4_towed_0 1 rfl rfl)
theorem dX4_towed_2 : decode cX4_towed 2 = .ok (.iconst 5, 1) := dk_8 (dk_at dksX4_towed_0 2 rfl rfl)
theorem dX4_towed_3 : decode cX4_towed 3 = .ok (.invokevirtual 88, 3) := dk_182 0 88 (dk_at dksX4_towed_0 3 rfl rfl)
theorem dX4_towed_6 : decode cX4_towed 6 = .ok (.istore_n 2, 1) := dk_61 (dk_at dksX4_towed_0 6 rfl rfl)
theorem dX4_towed_7 : decode cX4_towed 7 = .ok (.aload_n 0, 1) := dk_42 (dk_at dksX4_towed_0 7 rfl rfl)
theorem dX4_towed_8 : decode cX4_towed 8 = .ok (.iload_n 1, 1) := dk_27 (dk_at dksX4_towed_0 8 rfl rfl)
theorem dX4_towed_9 : decode cX4_towed 9 = .ok (.bipush 13, 2) := dk_16 13 (dk_at dksX4_towed_0 9 rfl rfl)
theorem dX4_towed_11 : decode cX4_towed 11 = .ok (.invokevirtual 88, 3) := dk_182 0 88 (dk_at dksX4_towed_0 11 rfl rfl)
theorem dX4_towed_14 : decode cX4_towed 14 = .ok (.istore_n 3, 1) := dk_62 (dk_at dksX4_towed_0 14 rfl rfl)
theorem dX4_towed_15 : decode cX4_towed 15 = .ok (.aload_n 0, 1) := dk_42 (dk_at dksX4_towed_0 15 rfl rfl)
theorem dX4_towed_16 : decode cX4_towed 16 = .ok (.iload_n 1, 1) := dk_27 (dk_at dksX4_towed_0 16 rfl rfl)
theorem dX4_towed_17 : decode cX4_towed 17 = .ok (.bipush 12, 2) := dk_16 12 (dk_at dksX4_towed_0 17 rfl rfl)
theorem dX4_towed_19 : decode cX4_towed 19 = .ok (.invokevirtual 88, 3) := dk_182 0 88 (dk_at dksX4_towed_0 19 rfl rfl)
theorem dX4_towed_22 : decode cX4_towed 22 = .ok (.istore 4, 2) := dk_54 4 (dk_at dksX4_towed_0 22 rfl rfl)
theorem dX4_towed_24 : decode cX4_towed 24 = .ok (.aload_n 0, 1) := dk_42 (dk_at dksX4_towed_1 0 rfl rfl)
theorem dX4_towed_25 : decode cX4_towed 25 = .ok (.iload_n 1, 1) := dk_27 (dk_at dksX4_towed_1 1 rfl rfl)
theorem dX4_towed_26 : decode cX4_towed 26 = .ok (.iconst 4, 1) := dk_7 (dk_at dksX4_towed_1 2 rfl rfl)
theorem dX4_towed_27 : decode cX4_towed 27 = .ok (.iload 4, 2) := dk_21 4 (dk_at dksX4_towed_1 3 rfl rfl)
theorem dX4_towed_29 : decode cX4_towed 29 = .ok (.invokevirtual 64, 3) := dk_182 0 64 (dk_at dksX4_towed_1 5 rfl rfl)
theorem dX4_towed_32 : decode cX4_towed 32 = .ok (.aload_n 0, 1) := dk_42 (dk_at dksX4_towed_1 8 rfl rfl)
theorem dX4_towed_33 : decode cX4_towed 33 = .ok (.iload_n 1, 1) := dk_27 (dk_at dksX4_towed_1 9 rfl rfl)
theorem dX4_towed_34 : decode cX4_towed 34 = .ok (.bipush 8, 2) := dk_16 8 (dk_at dksX4_towed_1 10 rfl rfl)
theorem dX4_towed_36 : decode cX4_towed 36 = .ok (.aload_n 0, 1) := dk_42 (dk_at dksX4_towed_1 12 rfl rfl)
theorem dX4_towed_37 : decode cX4_towed 37 = .ok (.iload_n 1, 1) := dk_27 (dk_at dksX4_towed_1 13 rfl rfl)
theorem dX4_towed_38 : decode cX4_towed 38 = .ok (.bipush 8, 2) := dk_16 8 (dk_at dksX4_towed_1 14 rfl rfl)
theorem dX4_towed_40 : decode cX4_towed 40 = .ok (.invokevirtual 88, 3) := dk_182 0 88 (dk_at dksX4_towed_1 16 rfl rfl)
theorem dX4_towed_43 : decode cX4_towed 43 = .ok (.iconst 1, 1) := dk_4 (dk_at dksX4_towed_1 19 rfl rfl)
theorem dX4_towed_44 : decode cX4_towed 44 = .ok (.iadd, 1) := dk_96 (dk_at dksX4_towed_1 20 rfl rfl)
theorem dX4_towed_45 : decode cX4_towed 45 = .ok (.invokevirtual 64, 3) := dk_182 0 64 (dk_at dksX4_towed_1 21 rfl rfl)
theorem dX4_towed_48 : decode cX4_towed 48 = .ok (.aload_n 0, 1) := dk_42 (dk_at dksX4_towed_2 0 rfl rfl)
theorem dX4_towed_49 : decode cX4_towed 49 = .ok (.iload_n 2, 1) := dk_28 (dk_at dksX4_towed_2 1 rfl rfl)
theorem dX4_towed_50 : decode cX4_towed 50 = .ok (.iconst 1, 1) := dk_4 (dk_at dksX4_towed_2 2 rfl rfl)
theorem dX4_towed_51 : decode cX4_towed 51 = .ok (.iload 4, 2) := dk_21 4 (dk_at dksX4_towed_2 3 rfl rfl)
theorem dX4_towed_53 : decode cX4_towed 53 = .ok (.invokevirtual 82, 3) := dk_182 0 82 (dk_at dksX4_towed_2 5 rfl rfl)
theorem dX4_towed_56 : decode cX4_towed 56 = .ok (.aload_n 0, 1) := dk_42 (dk_at dksX4_towed_2 8 rfl rfl)
theorem dX4_towed_57 : decode cX4_towed 57 = .ok (.iload_n 3, 1) := dk_29 (dk_at dksX4_towed_2 9 rfl rfl)
theorem dX4_towed_58 : decode cX4_towed 58 = .ok (.iconst 0, 1) := dk_3 (dk_at dksX4_towed_2 10 rfl rfl)
theorem dX4_towed_59 : decode cX4_towed 59 = .ok (.invokevirtual 117, 3) := dk_182 0 117 (dk_at dksX4_towed_2 11 rfl rfl)
theorem dX4_towed_62 : decode cX4_towed 62 = .ok (.iload 4, 2) := dk_21 4 (dk_at dksX4_towed_2 14 rfl rfl)
theorem dX4_towed_64 : decode cX4_towed 64 = .ok (.if_icmp .eq 9, 3) := dk_159 0 9 (dk_at dksX4_towed_2 16 rfl rfl)
theorem dX4_towed_67 : decode cX4_towed 67 = .ok (.aload_n 0, 1) := dk_42 (dk_at dksX4_towed_2 19 rfl rfl)
theorem dX4_towed_68 : decode cX4_towed 68 = .ok (.iload_n 1, 1) := dk_27 (dk_at dksX4_towed_2 20 rfl rfl)
theorem dX4_towed_69 : decode cX4_towed 69 = .ok (.invokevirtual 126, 3) := dk_182 0 126 (dk_at dksX4_towed_2 21 rfl rfl)
theorem dX4_towed_72 : decode cX4_towed 72 = .ok (.return_, 1) := dk_177 (dk_at dksX4_towed_3 0 rfl rfl)
theorem dX4_towed_73 : decode cX4_towed 73 = .ok (.aload_n 0, 1) := dk_42 (dk_at dksX4_towed_3 1 rfl rfl)
theorem dX4_towed_74 : decode cX4_towed 74 = .ok (.getfield 7, 3) := dk_180 0 7 (dk_at dksX4_towed_3 2 rfl rfl)
theorem dX4_towed_77 : decode cX4_towed 77 = .ok (.sipush 270, 3) := dk_17 1 14 (dk_at dksX4_towed_3 5 rfl rfl)
theorem dX4_towed_80 : decode cX4_towed 80 = .ok (.iconst 4, 1) := dk_7 (dk_at dksX4_towed_3 8 rfl rfl)
theorem dX4_towed_81 : decode cX4_towed 81 = .ok (.iload_n 3, 1) := dk_29 (dk_at dksX4_towed_3 9 rfl rfl)
theorem dX4_towed_82 : decode cX4_towed 82 = .ok (.imul, 1) := dk_104 (dk_at dksX4_towed_3 10 rfl rfl)
theorem dX4_towed_83 : decode cX4_towed 83 = .ok (.iadd, 1) := dk_96 (dk_at dksX4_towed_3 11 rfl rfl)
theorem dX4_towed_84 : decode cX4_towed 84 = .ok (.iconst 2, 1) := dk_5 (dk_at dksX4_towed_3 12 rfl rfl)
theorem dX4_towed_85 : decode cX4_towed 85 = .ok (.iadd, 1) := dk_96 (dk_at dksX4_towed_3 13 rfl rfl)
theorem dX4_towed_86 : decode cX4_towed 86 = .ok (.dup2, 1) := dk_92 (dk_at dksX4_towed_3 14 rfl rfl)
theorem dX4_towed_87 : decode cX4_towed 87 = .ok (.iaload, 1) := dk_46 (dk_at dksX4_towed_3 15 rfl rfl)
theorem dX4_towed_88 : decode cX4_towed 88 = .ok (.iconst 1, 1) := dk_4 (dk_at dksX4_towed_3 16 rfl rfl)
theorem dX4_towed_89 : decode cX4_towed 89 = .ok (.iadd, 1) := dk_96 (dk_at dksX4_towed_3 17 rfl rfl)
theorem dX4_towed_90 : decode cX4_towed 90 = .ok (.iastore, 1) := dk_79 (dk_at dksX4_towed_3 18 rfl rfl)
theorem dX4_towed_91 : decode cX4_towed 91 = .ok (.aload_n 0, 1) := dk_42 (dk_at dksX4_towed_3 19 rfl rfl)
theorem dX4_towed_92 : decode cX4_towed 92 = .ok (.getfield 7, 3) := dk_180 0 7 (dk_at dksX4_towed_3 20 rfl rfl)
theorem dX4_towed_95 : decode cX4_towed 95 = .ok (.sipush 270, 3) := dk_17 1 14 (dk_at dksX4_towed_4 0 rfl rfl)
theorem dX4_towed_98 : decode cX4_towed 98 = .ok (.iconst 4, 1) := dk_7 (dk_at dksX4_towed_4 3 rfl rfl)
theorem dX4_towed_99 : decode cX4_towed 99 = .ok (.iload_n 3, 1) := dk_29 (dk_at dksX4_towed_4 4 rfl rfl)
theorem dX4_towed_100 : decode cX4_towed 100 = .ok (.imul, 1) := dk_104 (dk_at dksX4_towed_4 5 rfl rfl)
theorem dX4_towed_101 : decode cX4_towed 101 = .ok (.iadd, 1) := dk_96 (dk_at dksX4_towed_4 6 rfl rfl)
theorem dX4_towed_102 : decode cX4_towed 102 = .ok (.iconst 3, 1) := dk_6 (dk_at dksX4_towed_4 7 rfl rfl)
theorem dX4_towed_103 : decode cX4_towed 103 = .ok (.iadd, 1) := dk_96 (dk_at dksX4_towed_4 8 rfl rfl)
theorem dX4_towed_104 : decode cX4_towed 104 = .ok (.dup2, 1) := dk_92 (dk_at dksX4_towed_4 9 rfl rfl)
theorem dX4_towed_105 : decode cX4_towed 105 = .ok (.iaload, 1) := dk_46 (dk_at dksX4_towed_4 10 rfl rfl)
theorem dX4_towed_106 : decode cX4_towed 106 = .ok (.iconst 1, 1) := dk_4 (dk_at dksX4_towed_4 11 rfl rfl)
theorem dX4_towed_107 : decode cX4_towed 107 = .ok (.iadd, 1) := dk_96 (dk_at dksX4_towed_4 12 rfl rfl)
theorem dX4_towed_108 : decode cX4_towed 108 = .ok (.iastore, 1) := dk_79 (dk_at dksX4_towed_4 13 rfl rfl)
theorem dX4_towed_109 : decode cX4_towed 109 = .ok (.aload_n 0, 1) := dk_42 (dk_at dksX4_towed_4 14 rfl rfl)
theorem dX4_towed_110 : decode cX4_towed 110 = .ok (.iload_n 2, 1) := dk_28 (dk_at dksX4_towed_4 15 rfl rfl)
theorem dX4_towed_111 : decode cX4_towed 111 = .ok (.iconst 5, 1) := dk_8 (dk_at dksX4_towed_4 16 rfl rfl)
theorem dX4_towed_112 : decode cX4_towed 112 = .ok (.bipush 6, 2) := dk_16 6 (dk_at dksX4_towed_4 17 rfl rfl)
theorem dX4_towed_114 : decode cX4_towed 114 = .ok (.invokevirtual 82, 3) := dk_182 0 82 (dk_at dksX4_towed_4 19 rfl rfl)
theorem dX4_towed_117 : decode cX4_towed 117 = .ok (.aload_n 0, 1) := dk_42 (dk_at dksX4_towed_4 22 rfl rfl)
theorem dX4_towed_118 : decode cX4_towed 118 = .ok (.iload_n 2, 1) := dk_28 (dk_at dksX4_towed_4 23 rfl rfl)
theorem dX4_towed_119 : decode cX4_towed 119 = .ok (.bipush 6, 2) := dk_16 6 (dk_at dksX4_towed_5 0 rfl rfl)
theorem dX4_towed_121 : decode cX4_towed 121 = .ok (.bipush (-5), 2) := dk_16 251 (dk_at dksX4_towed_5 2 rfl rfl)
theorem dX4_towed_123 : decode cX4_towed 123 = .ok (.invokevirtual 82, 3) := dk_182 0 82 (dk_at dksX4_towed_5 4 rfl rfl)
theorem dX4_towed_126 : decode cX4_towed 126 = .ok (.aload_n 0, 1) := dk_42 (dk_at dksX4_towed_5 7 rfl rfl)
theorem dX4_towed_127 : decode cX4_towed 127 = .ok (.iload_n 2, 1) := dk_28 (dk_at dksX4_towed_5 8 rfl rfl)
theorem dX4_towed_128 : decode cX4_towed 128 = .ok (.bipush 9, 2) := dk_16 9 (dk_at dksX4_towed_5 9 rfl rfl)
theorem dX4_towed_130 : decode cX4_towed 130 = .ok (.aload_n 0, 1) := dk_42 (dk_at dksX4_towed_5 11 rfl rfl)
theorem dX4_towed_131 : decode cX4_towed 131 = .ok (.getfield 7, 3) := dk_180 0 7 (dk_at dksX4_towed_5 12 rfl rfl)
theorem dX4_towed_134 : decode cX4_towed 134 = .ok (.iconst 0, 1) := dk_3 (dk_at dksX4_towed_5 15 rfl rfl)
theorem dX4_towed_135 : decode cX4_towed 135 = .ok (.iaload, 1) := dk_46 (dk_at dksX4_towed_5 16 rfl rfl)
theorem dX4_towed_136 : decode cX4_towed 136 = .ok (.invokevirtual 82, 3) := dk_182 0 82 (dk_at dksX4_towed_5 17 rfl rfl)
theorem dX4_towed_139 : decode cX4_towed 139 = .ok (.aload_n 0, 1) := dk_42 (dk_at dksX4_towed_5 20 rfl rfl)
theorem dX4_towed_140 : decode cX4_towed 140 = .ok (.iload_n 2, 1) := dk_28 (dk_at dksX4_towed_5 21 rfl rfl)
theorem dX4_towed_141 : decode cX4_towed 141 = .ok (.bipush 11, 2) := dk_16 11 (dk_at dksX4_towed_5 22 rfl rfl)
theorem dX4_towed_143 : decode cX4_towed 143 = .ok (.iload_n 3, 1) := dk_29 (dk_at dksX4_towed_6 0 rfl rfl)
theorem dX4_towed_144 : decode cX4_towed 144 = .ok (.invokevirtual 82, 3) := dk_182 0 82 (dk_at dksX4_towed_6 1 rfl rfl)
theorem dX4_towed_147 : decode cX4_towed 147 = .ok (.aload_n 0, 1) := dk_42 (dk_at dksX4_towed_6 4 rfl rfl)
theorem dX4_towed_148 : decode cX4_towed 148 = .ok (.iload_n 1, 1) := dk_27 (dk_at dksX4_towed_6 5 rfl rfl)
theorem dX4_towed_149 : decode cX4_towed 149 = .ok (.invokevirtual 68, 3) := dk_182 0 68 (dk_at dksX4_towed_6 6 rfl rfl)
theorem dX4_towed_152 : decode cX4_towed 152 = .ok (.return_, 1) := dk_177 (dk_at dksX4_towed_6 9 rfl rfl)
abbrev cX4_sends : ByteArray := prog_16_method_51_code
def yX4_sends : MethodName := ⟨RX4, "sends", "()V"⟩
def dkwX4_sends_5 : List UInt8 := [167, 255, 147, 177]
abbrev dktX4_sends_5 : List UInt8 := dkwX4_sends_5 ++ []
def dkwX4_sends_4 : List UInt8 := [182, 0, 82, 42, 28, 16, 6, 29, 182, 0, 82, 21, 4, 154, 0, 8, 42, 29, 182, 0, 160, 132, 1, 1]
abbrev dktX4_sends_4 : List UInt8 := dkwX4_sends_4 ++ dktX4_sends_5
def dkwX4_sends_3 : List UInt8 := [21, 4, 182, 0, 64, 42, 28, 8, 42, 28, 8, 182, 0, 72, 154, 0, 7, 4, 167, 0, 4, 6]
abbrev dktX4_sends_3 : List UInt8 := dkwX4_sends_3 ++ dktX4_sends_4
def dkwX4_sends_2 : List UInt8 := [182, 0, 53, 54, 4, 42, 29, 6, 4, 182, 0, 64, 42, 29, 8, 28, 182, 0, 64, 42, 29, 16, 6]
abbrev dktX4_sends_2 : List UInt8 := dkwX4_sends_2 ++ dktX4_sends_3
def dkwX4_sends_1 : List UInt8 := [182, 0, 157, 62, 29, 16, 251, 159, 0, 82, 42, 42, 29, 7, 182, 0, 88, 42, 28, 4, 182, 0, 72]
abbrev dktX4_sends_1 : List UInt8 := dkwX4_sends_1 ++ dktX4_sends_2
def dkwX4_sends_0 : List UInt8 := [42, 182, 0, 154, 3, 60, 27, 42, 180, 0, 141, 162, 0, 107, 42, 180, 0, 31, 27, 46, 61, 42, 28]
abbrev dktX4_sends_0 : List UInt8 := dkwX4_sends_0 ++ dktX4_sends_1
theorem dksX4_sends_0 : cX4_sends.data.toList.drop 0 = dktX4_sends_0 := by decide +kernel
theorem dksX4_sends_1 : cX4_sends.data.toList.drop 23 = dktX4_sends_1 := dk_seg dksX4_sends_0 23 rfl rfl
theorem dksX4_sends_2 : cX4_sends.data.toList.drop 46 = dktX4_sends_2 := dk_seg dksX4_sends_1 23 rfl rfl
theorem dksX4_sends_3 : cX4_sends.data.toList.drop 69 = dktX4_sends_3 := dk_seg dksX4_sends_2 23 rfl rfl
theorem dksX4_sends_4 : cX4_sends.data.toList.drop 91 = dktX4_sends_4 := dk_seg dksX4_sends_3 22 rfl rfl
theorem dksX4_sends_5 : cX4_sends.data.toList.drop 115 = dktX4_sends_5 := dk_seg dksX4_sends_4 24 rfl rfl
theorem dX4_sends_0 : decode cX4_sends 0 = .ok (.aload_n 0, 1) := dk_42 (dk_at dksX4_sends_0 0 rfl rfl)
theorem dX4_sends_1 : decode cX4_sends 1 = .ok (.invokevirtual 154, 3) := dk_182 0 154 (dk_at dksX4_sends_0 1 rfl rfl)
theorem dX4_sends_4 : decode cX4_sends 4 = .ok (.iconst 0, 1) := dk_3 (dk_at dksX4_sends_0 4 rfl rfl)
theorem dX4_sends_5 : decode cX4_sends 5 = .ok (.istore_n 1, 1) := dk_60 (dk_at dksX4_sends_0 5 rfl rfl)
theorem dX4_sends_6 : decode cX4_sends 6 = .ok (.iload_n 1, 1) := dk_27 (dk_at dksX4_sends_0 6 rfl rfl)
theorem dX4_sends_7 : decode cX4_sends 7 = .ok (.aload_n 0, 1) := dk_42 (dk_at dksX4_sends_0 7 rfl rfl)
theorem dX4_sends_8 : decode cX4_sends 8 = .ok (.getfield 141, 3) := dk_180 0 141 (dk_at dksX4_sends_0 8 rfl rfl)
theorem dX4_sends_11 : decode cX4_sends 11 = .ok (.if_icmp .ge 107, 3) := dk_162 0 107 (dk_at dksX4_sends_0 11 rfl rfl)
theorem dX4_sends_14 : decode cX4_sends 14 = .ok (.aload_n 0, 1) := dk_42 (dk_at dksX4_sends_0 14 rfl rfl)
theorem dX4_sends_15 : decode cX4_sends 15 = .ok (.getfield 31, 3) := dk_180 0 31 (dk_at dksX4_sends_0 15 rfl rfl)
theorem dX4_sends_18 : decode cX4_sends 18 = .ok (.iload_n 1, 1) := dk_27 (dk_at dksX4_sends_0 18 rfl rfl)
theorem dX4_sends_19 : decode cX4_sends 19 = .ok (.iaload, 1) := dk_46 (dk_at dksX4_sends_0 19 rfl rfl)
theorem dX4_sends_20 : decode cX4_sends 20 = .ok (.istore_n 2, 1) := dk_61 (dk_at dksX4_sends_0 20 rfl rfl)
theorem dX4_sends_21 : decode cX4_sends 21 = .ok (.aload_n 0, 1) := dk_42 (dk_at dksX4_sends_0 21 rfl rfl)
theorem dX4_sends_22 : decode cX4_sends 22 = .ok (.iload_n 2, 1) := dk_28 (dk_at dksX4_sends_0 22 rfl rfl)
theorem dX4_sends_23 : decode cX4_sends 23 = .ok (.invokevirtual 157, 3) := dk_182 0 157 (dk_at dksX4_sends_1 0 rfl rfl)
theorem dX4_sends_26 : decode cX4_sends 26 = .ok (.istore_n 3, 1) := dk_62 (dk_at dksX4_sends_1 3 rfl rfl)
theorem dX4_sends_27 : decode cX4_sends 27 = .ok (.iload_n 3, 1) := dk_29 (dk_at dksX4_sends_1 4 rfl rfl)
theorem dX4_sends_28 : decode cX4_sends 28 = .ok (.bipush (-5), 2) := dk_16 251 (dk_at dksX4_sends_1 5 rfl rfl)
theorem dX4_sends_30 : decode cX4_sends 30 = .ok (.if_icmp .eq 82, 3) := dk_159 0 82 (dk_at dksX4_sends_1 7 rfl rfl)
theorem dX4_sends_33 : decode cX4_sends 33 = .ok (.aload_n 0, 1) := dk_42 (dk_at dksX4_sends_1 10 rfl rfl)
theorem dX4_sends_34 : decode cX4_sends 34 = .ok (.aload_n 0, 1) := dk_42 (dk_at dksX4_sends_1 11 rfl rfl)
theorem dX4_sends_35 : decode cX4_sends 35 = .ok (.iload_n 3, 1) := dk_29 (dk_at dksX4_sends_1 12 rfl rfl)
theorem dX4_sends_36 : decode cX4_sends 36 = .ok (.iconst 4, 1) := dk_7 (dk_at dksX4_sends_1 13 rfl rfl)
theorem dX4_sends_37 : decode cX4_sends 37 = .ok (.invokevirtual 88, 3) := dk_182 0 88 (dk_at dksX4_sends_1 14 rfl rfl)
theorem dX4_sends_40 : decode cX4_sends 40 = .ok (.aload_n 0, 1) := dk_42 (dk_at dksX4_sends_1 17 rfl rfl)
theorem dX4_sends_41 : decode cX4_sends 41 = .ok (.iload_n 2, 1) := dk_28 (dk_at dksX4_sends_1 18 rfl rfl)
theorem dX4_sends_42 : decode cX4_sends 42 = .ok (.iconst 1, 1) := dk_4 (dk_at dksX4_sends_1 19 rfl rfl)
theorem dX4_sends_43 : decode cX4_sends 43 = .ok (.invokevirtual 72, 3) := dk_182 0 72 (dk_at dksX4_sends_1 20 rfl rfl)
theorem dX4_sends_46 : decode cX4_sends 46 = .ok (.invokevirtual 53, 3) := dk_182 0 53 (dk_at dksX4_sends_2 0 rfl rfl)
theorem dX4_sends_49 : decode cX4_sends 49 = .ok (.istore 4, 2) := dk_54 4 (dk_at dksX4_sends_2 3 rfl rfl)
theorem dX4_sends_51 : decode cX4_sends 51 = .ok (.aload_n 0, 1) := dk_42 (dk_at dksX4_sends_2 5 rfl rfl)
theorem dX4_sends_52 : decode cX4_sends 52 = .ok (.iload_n 3, 1) := dk_29 (dk_at dksX4_sends_2 6 rfl rfl)
theorem dX4_sends_53 : decode cX4_sends 53 = .ok (.iconst 3, 1) := dk_6 (dk_at dksX4_sends_2 7 rfl rfl)
theorem dX4_sends_54 : decode cX4_sends 54 = .ok (.iconst 1, 1) := dk_4 (dk_at dksX4_sends_2 8 rfl rfl)
theorem dX4_sends_55 : decode cX4_sends 55 = .ok (.invokevirtual 64, 3) := dk_182 0 64 (dk_at dksX4_sends_2 9 rfl rfl)
theorem dX4_sends_58 : decode cX4_sends 58 = .ok (.aload_n 0, 1) := dk_42 (dk_at dksX4_sends_2 12 rfl rfl)
theorem dX4_sends_59 : decode cX4_sends 59 = .ok (.iload_n 3, 1) := dk_29 (dk_at dksX4_sends_2 13 rfl rfl)
theorem dX4_sends_60 : decode cX4_sends 60 = .ok (.iconst 5, 1) := dk_8 (dk_at dksX4_sends_2 14 rfl rfl)
theorem dX4_sends_61 : decode cX4_sends 61 = .ok (.iload_n 2, 1) := dk_28 (dk_at dksX4_sends_2 15 rfl rfl)
theorem dX4_sends_62 : decode cX4_sends 62 = .ok (.invokevirtual 64, 3) := dk_182 0 64 (dk_at dksX4_sends_2 16 rfl rfl)
theorem dX4_sends_65 : decode cX4_sends 65 = .ok (.aload_n 0, 1) := dk_42 (dk_at dksX4_sends_2 19 rfl rfl)
theorem dX4_sends_66 : decode cX4_sends 66 = .ok (.iload_n 3, 1) := dk_29 (dk_at dksX4_sends_2 20 rfl rfl)
theorem dX4_sends_67 : decode cX4_sends 67 = .ok (.bipush 6, 2) := dk_16 6 (dk_at dksX4_sends_2 21 rfl rfl)
theorem dX4_sends_69 : decode cX4_sends 69 = .ok (.iload 4, 2) := dk_21 4 (dk_at dksX4_sends_3 0 rfl rfl)
theorem dX4_sends_71 : decode cX4_sends 71 = .ok (.invokevirtual 64, 3) := dk_182 0 64 (dk_at dksX4_sends_3 2 rfl rfl)
theorem dX4_sends_74 : decode cX4_sends 74 = .ok (.aload_n 0, 1) := dk_42 (dk_at dksX4_sends_3 5 rfl rfl)
theorem dX4_sends_75 : decode cX4_sends 75 = .ok (.iload_n 2, 1) := dk_28 (dk_at dksX4_sends_3 6 rfl rfl)
theorem dX4_sends_76 : decode cX4_sends 76 = .ok (.iconst 5, 1) := dk_8 (dk_at dksX4_sends_3 7 rfl rfl)
theorem dX4_sends_77 : decode cX4_sends 77 = .ok (.aload_n 0, 1) := dk_42 (dk_at dksX4_sends_3 8 rfl rfl)
theorem dX4_sends_78 : decode cX4_sends 78 = .ok (.iload_n 2, 1) := dk_28 (dk_at dksX4_sends_3 9 rfl rfl)
theorem dX4_sends_79 : decode cX4_sends 79 = .ok (.iconst 5, 1) := dk_8 (dk_at dksX4_sends_3 10 rfl rfl)
theorem dX4_sends_80 : decode cX4_sends 80 = .ok (.invokevirtual 72, 3) := dk_182 0 72 (dk_at dksX4_sends_3 11 rfl rfl)
theorem dX4_sends_83 : decode cX4_sends 83 = .ok (.ifCond .ne 7, 3) := dk_154 0 7 (dk_at dksX4_sends_3 14 rfl rfl)
theorem dX4_sends_86 : decode cX4_sends 86 = .ok (.iconst 1, 1) := dk_4 (dk_at dksX4_sends_3 17 rfl rfl)
theorem dX4_sends_87 : decode cX4_sends 87 = .ok (.goto 4, 3) := dk_167 0 4 (dk_at dksX4_sends_3 18 rfl rfl)
theorem dX4_sends_90 : decode cX4_sends 90 = .ok (.iconst 3, 1) := dk_6 (dk_at dksX4_sends_3 21 rfl rfl)
theorem dX4_sends_91 : decode cX4_sends 91 = .ok (.invokevirtual 82, 3) := dk_182 0 82 (dk_at dksX4_sends_4 0 rfl rfl)
theorem dX4_sends_94 : decode cX4_sends 94 = .ok (.aload_n 0, 1) := dk_42 (dk_at dksX4_sends_4 3 rfl rfl)
theorem dX4_sends_95 : decode cX4_sends 95 = .ok (.iload_n 2, 1) := dk_28 (dk_at dksX4_sends_4 4 rfl rfl)
theorem dX4_sends_96 : decode cX4_sends 96 = .ok (.bipush 6, 2) := dk_16 6 (dk_at dksX4_sends_4 5 rfl rfl)
theorem dX4_sends_98 : decode cX4_sends 98 = .ok (.iload_n 3, 1) := dk_29 (dk_at dksX4_sends_4 7 rfl rfl)
theorem dX4_sends_99 : decode cX4_sends 99 = .ok (.invokevirtual 82, 3) := dk_182 0 82 (dk_at dksX4_sends_4 8 rfl rfl)
theorem dX4_sends_102 : decode cX4_sends 102 = .ok (.iload 4, 2) := dk_21 4 (dk_at dksX4_sends_4 11 rfl rfl)
theorem dX4_sends_104 : decode cX4_sends 104 = .ok (.ifCond .ne 8, 3) := dk_154 0 8 (dk_at dksX4_sends_4 13 rfl rfl)
theorem dX4_sends_107 : decode cX4_sends 107 = .ok (.aload_n 0, 1) := dk_42 (dk_at dksX4_sends_4 16 rfl rfl)
theorem dX4_sends_108 : decode cX4_sends 108 = .ok (.iload_n 3, 1) := dk_29 (dk_at dksX4_sends_4 17 rfl rfl)
theorem dX4_sends_109 : decode cX4_sends 109 = .ok (.invokevirtual 160, 3) := dk_182 0 160 (dk_at dksX4_sends_4 18 rfl rfl)
theorem dX4_sends_112 : decode cX4_sends 112 = .ok (.iinc 1 1, 3) := dk_132 1 1 (dk_at dksX4_sends_4 21 rfl rfl)
theorem dX4_sends_115 : decode cX4_sends 115 = .ok (.goto (-109), 3) := dk_167 255 147 (dk_at dksX4_sends_5 0 rfl rfl)
theorem dX4_sends_118 : decode cX4_sends 118 = .ok (.return_, 1) := dk_177 (dk_at dksX4_sends_5 3 rfl rfl)
abbrev cX4_laysRow : ByteArray := prog_16_method_48_code
def yX4_laysRow : MethodName := ⟨RX4, "laysRow", "()V"⟩
def dkwX4_laysRow_4 : List UInt8 := [167, 255, 172, 177]
abbrev dktX4_laysRow_4 : List UInt8 := dkwX4_laysRow_4 ++ []
def dkwX4_laysRow_3 : List UInt8 := [167, 255, 219, 42, 180, 0, 31, 28, 27, 79, 42, 89, 180, 0, 141, 4, 96, 181, 0, 141, 132, 1, 1]
abbrev dktX4_laysRow_3 : List UInt8 := dkwX4_laysRow_3 ++ dktX4_laysRow_4
def dkwX4_laysRow_2 : List UInt8 := [182, 0, 147, 153, 0, 23, 42, 180, 0, 31, 28, 42, 180, 0, 31, 28, 4, 100, 46, 79, 132, 2, 255]
abbrev dktX4_laysRow_2 : List UInt8 := dkwX4_laysRow_2 ++ dktX4_laysRow_3
def dkwX4_laysRow_1 : List UInt8 := [153, 0, 65, 42, 180, 0, 141, 61, 28, 158, 0, 39, 42, 27, 42, 180, 0, 31, 28, 4, 100, 46]
abbrev dktX4_laysRow_1 : List UInt8 := dkwX4_laysRow_1 ++ dktX4_laysRow_2
def dkwX4_laysRow_0 : List UInt8 := [42, 3, 181, 0, 141, 3, 60, 27, 42, 180, 0, 7, 16, 9, 46, 162, 0, 79, 42, 27, 182, 0, 144]
abbrev dktX4_laysRow_0 : List UInt8 := dkwX4_laysRow_0 ++ dktX4_laysRow_1
theorem dksX4_laysRow_0 : cX4_laysRow.data.toList.drop 0 = dktX4_laysRow_0 := by decide +kernel
theorem dksX4_laysRow_1 : cX4_laysRow.data.toList.drop 23 = dktX4_laysRow_1 := dk_seg dksX4_laysRow_0 23 rfl rfl
theorem dksX4_laysRow_2 : cX4_laysRow.data.toList.drop 45 = dktX4_laysRow_2 := dk_seg dksX4_laysRow_1 22 rfl rfl
theorem dksX4_laysRow_3 : cX4_laysRow.data.toList.drop 68 = dktX4_laysRow_3 := dk_seg dksX4_laysRow_2 23 rfl rfl
theorem dksX4_laysRow_4 : cX4_laysRow.data.toList.drop 91 = dktX4_laysRow_4 := dk_seg dksX4_laysRow_3 23 rfl rfl
theorem dX4_laysRow_0 : decode cX4_laysRow 0 = .ok (.aload_n 0, 1) := dk_42 (dk_at dksX4_laysRow_0 0 rfl rfl)
theorem dX4_laysRow_1 : decode cX4_laysRow 1 = .ok (.iconst 0, 1) := dk_3 (dk_at dksX4_laysRow_0 1 rfl rfl)
theorem dX4_laysRow_2 : decode cX4_laysRow 2 = .ok (.putfield 141, 3) := dk_181 0 141 (dk_at dksX4_laysRow_0 2 rfl rfl)
theorem dX4_laysRow_5 : decode cX4_laysRow 5 = .ok (.iconst 0, 1) := dk_3 (dk_at dksX4_laysRow_0 5 rfl rfl)
theorem dX4_laysRow_6 : decode cX4_laysRow 6 = .ok (.istore_n 1, 1) := dk_60 (dk_at dksX4_laysRow_0 6 rfl rfl)
theorem dX4_laysRow_7 : decode cX4_laysRow 7 = .ok (.iload_n 1, 1) := dk_27 (dk_at dksX4_laysRow_0 7 rfl rfl)
theorem dX4_laysRow_8 : decode cX4_laysRow 8 = .ok (.aload_n 0, 1) := dk_42 (dk_at dksX4_laysRow_0 8 rfl rfl)
theorem dX4_laysRow_9 : decode cX4_laysRow 9 = .ok (.getfield 7, 3) := dk_180 0 7 (dk_at dksX4_laysRow_0 9 rfl rfl)
theorem dX4_laysRow_12 : decode cX4_laysRow 12 = .ok (.bipush 9, 2) := dk_16 9 (dk_at dksX4_laysRow_0 12 rfl rfl)
theorem dX4_laysRow_14 : decode cX4_laysRow 14 = .ok (.iaload, 1) := dk_46 (dk_at dksX4_laysRow_0 14 rfl rfl)
theorem dX4_laysRow_15 : decode cX4_laysRow 15 = .ok (.if_icmp .ge 79, 3) := dk_162 0 79 (dk_at dksX4_laysRow_0 15 rfl rfl)
theorem dX4_laysRow_18 : decode cX4_laysRow 18 = .ok (.aload_n 0, 1) := dk_42 (dk_at dksX4_laysRow_0 18 rfl rfl)
theorem dX4_laysRow_19 : decode cX4_laysRow 19 = .ok (.iload_n 1, 1) := dk_27 (dk_at dksX4_laysRow_0 19 rfl rfl)
theorem dX4_laysRow_20 : decode cX4_laysRow 20 = .ok (.invokevirtual 144, 3) := dk_182 0 144 (dk_at dksX4_laysRow_0 20 rfl rfl)
theorem dX4_laysRow_23 : decode cX4_laysRow 23 = .ok (.ifCond .eq 65, 3) := dk_153 0 65 (dk_at dksX4_laysRow_1 0 rfl rfl)
theorem dX4_laysRow_26 : decode cX4_laysRow 26 = .ok (.aload_n 0, 1) := dk_42 (dk_at dksX4_laysRow_1 3 rfl rfl)
theorem dX4_laysRow_27 : decode cX4_laysRow 27 = .ok (.getfield 141, 3) := dk_180 0 141 (dk_at dksX4_laysRow_1 4 rfl rfl)
theorem dX4_laysRow_30 : decode cX4_laysRow 30 = .ok (.istore_n 2, 1) := dk_61 (dk_at dksX4_laysRow_1 7 rfl rfl)
theorem dX4_laysRow_31 : decode cX4_laysRow 31 = .ok (.iload_n 2, 1) := dk_28 (dk_at dksX4_laysRow_1 8 rfl rfl)
theorem dX4_laysRow_32 : decode cX4_laysRow 32 = .ok (.ifCond .le 39, 3) := dk_158 0 39 (dk_at dksX4_laysRow_1 9 rfl rfl)
theorem dX4_laysRow_35 : decode cX4_laysRow 35 = .ok (.aload_n 0, 1) := dk_42 (dk_at dksX4_laysRow_1 12 rfl rfl)
theorem dX4_laysRow_36 : decode cX4_laysRow 36 = .ok (.iload_n 1, 1) := dk_27 (dk_at dksX4_laysRow_1 13 rfl rfl)
theorem dX4_laysRow_37 : decode cX4_laysRow 37 = .ok (.aload_n 0, 1) := dk_42 (dk_at dksX4_laysRow_1 14 rfl rfl)
theorem dX4_laysRow_38 : decode cX4_laysRow 38 = .ok (.getfield 31, 3) := dk_180 0 31 (dk_at dksX4_laysRow_1 15 rfl rfl)
theorem dX4_laysRow_41 : decode cX4_laysRow 41 = .ok (.iload_n 2, 1) := dk_28 (dk_at dksX4_laysRow_1 18 rfl rfl)
theorem dX4_laysRow_42 : decode cX4_laysRow 42 = .ok (.iconst 1, 1) := dk_4 (dk_at dksX4_laysRow_1 19 rfl rfl)
theorem dX4_laysRow_43 : decode cX4_laysRow 43 = .ok (.isub, 1) := dk_100 (dk_at dksX4_laysRow_1 20 rfl rfl)
theorem dX4_laysRow_44 : decode cX4_laysRow 44 = .ok (.iaload, 1) := dk_46 (dk_at dksX4_laysRow_1 21 rfl rfl)
theorem dX4_laysRow_45 : decode cX4_laysRow 45 = .ok (.invokevirtual 147, 3) := dk_182 0 147 (dk_at dksX4_laysRow_2 0 rfl rfl)
theorem dX4_laysRow_48 : decode cX4_laysRow 48 = .ok (.ifCond .eq 23, 3) := dk_153 0 23 (dk_at dksX4_laysRow_2 3 rfl rfl)
theorem dX4_laysRow_51 : decode cX4_laysRow 51 = .ok (.aload_n 0, 1) := dk_42 (dk_at dksX4_laysRow_2 6 rfl rfl)
theorem dX4_laysRow_52 : decode cX4_laysRow 52 = .ok (.getfield 31, 3) := dk_180 0 31 (dk_at dksX4_laysRow_2 7 rfl rfl)
theorem dX4_laysRow_55 : decode cX4_laysRow 55 = .ok (.iload_n 2, 1) := dk_28 (dk_at dksX4_laysRow_2 10 rfl rfl)
theorem dX4_laysRow_56 : decode cX4_laysRow 56 = .ok (.aload_n 0, 1) := dk_42 (dk_at dksX4_laysRow_2 11 rfl rfl)
theorem dX4_laysRow_57 : decode cX4_laysRow 57 = .ok (.getfield 31, 3) := dk_180 0 31 (dk_at dksX4_laysRow_2 12 rfl rfl)
theorem dX4_laysRow_60 : decode cX4_laysRow 60 = .ok (.iload_n 2, 1) := dk_28 (dk_at dksX4_laysRow_2 15 rfl rfl)
theorem dX4_laysRow_61 : decode cX4_laysRow 61 = .ok (.iconst 1, 1) := dk_4 (dk_at dksX4_laysRow_2 16 rfl rfl)
theorem dX4_laysRow_62 : decode cX4_laysRow 62 = .ok (.isub, 1) := dk_100 (dk_at dksX4_laysRow_2 17 rfl rfl)
theorem dX4_laysRow_63 : decode cX4_laysRow 63 = .ok (.iaload, 1) := dk_46 (dk_at dksX4_laysRow_2 18 rfl rfl)
theorem dX4_laysRow_64 : decode cX4_laysRow 64 = .ok (.iastore, 1) := dk_79 (dk_at dksX4_laysRow_2 19 rfl rfl)
theorem dX4_laysRow_65 : decode cX4_laysRow 65 = .ok (.iinc 2 (-1), 3) := dk_132 2 255 (dk_at dksX4_laysRow_2 20 rfl rfl)
theorem dX4_laysRow_68 : decode cX4_laysRow 68 = .ok (.goto (-37), 3) := dk_167 255 219 (dk_at dksX4_laysRow_3 0 rfl rfl)
theorem dX4_laysRow_71 : decode cX4_laysRow 71 = .ok (.aload_n 0, 1) := dk_42 (dk_at dksX4_laysRow_3 3 rfl rfl)
theorem dX4_laysRow_72 : decode cX4_laysRow 72 = .ok (.getfield 31, 3) := dk_180 0 31 (dk_at dksX4_laysRow_3 4 rfl rfl)
theorem dX4_laysRow_75 : decode cX4_laysRow 75 = .ok (.iload_n 2, 1) := dk_28 (dk_at dksX4_laysRow_3 7 rfl rfl)
theorem dX4_laysRow_76 : decode cX4_laysRow 76 = .ok (.iload_n 1, 1) := dk_27 (dk_at dksX4_laysRow_3 8 rfl rfl)
theorem dX4_laysRow_77 : decode cX4_laysRow 77 = .ok (.iastore, 1) := dk_79 (dk_at dksX4_laysRow_3 9 rfl rfl)
theorem dX4_laysRow_78 : decode cX4_laysRow 78 = .ok (.aload_n 0, 1) := dk_42 (dk_at dksX4_laysRow_3 10 rfl rfl)
theorem dX4_laysRow_79 : decode cX4_laysRow 79 = .ok (.dup, 1) := dk_89 (dk_at dksX4_laysRow_3 11 rfl rfl)
theorem dX4_laysRow_80 : decode cX4_laysRow 80 = .ok (.getfield 141, 3) := dk_180 0 141 (dk_at dksX4_laysRow_3 12 rfl rfl)
theorem dX4_laysRow_83 : decode cX4_laysRow 83 = .ok (.iconst 1, 1) := dk_4 (dk_at dksX4_laysRow_3 15 rfl rfl)
theorem dX4_laysRow_84 : decode cX4_laysRow 84 = .ok (.iadd, 1) := dk_96 (dk_at dksX4_laysRow_3 16 rfl rfl)
theorem dX4_laysRow_85 : decode cX4_laysRow 85 = .ok (.putfield 141, 3) := dk_181 0 141 (dk_at dksX4_laysRow_3 17 rfl rfl)
theorem dX4_laysRow_88 : decode cX4_laysRow 88 = .ok (.iinc 1 1, 3) := dk_132 1 1 (dk_at dksX4_laysRow_3 20 rfl rfl)
theorem dX4_laysRow_91 : decode cX4_laysRow 91 = .ok (.goto (-84), 3) := dk_167 255 172 (dk_at dksX4_laysRow_4 0 rfl rfl)
theorem dX4_laysRow_94 : decode cX4_laysRow 94 = .ok (.return_, 1) := dk_177 (dk_at dksX4_laysRow_4 3 rfl rfl)
abbrev cX4_waits : ByteArray := prog_16_method_45_code
def yX4_waits : MethodName := ⟨RX4, "waits", "(I)Z"⟩
def dkwX4_waits_1 : List UInt8 := [182, 0, 72, 16, 251, 160, 0, 7, 4, 167, 0, 4, 3, 172]
abbrev dktX4_waits_1 : List UInt8 := dkwX4_waits_1 ++ []
def dkwX4_waits_0 : List UInt8 := [42, 27, 8, 182, 0, 72, 153, 0, 25, 42, 27, 8, 182, 0, 72, 6, 160, 0, 19, 42, 27, 16, 6]
abbrev dktX4_waits_0 : List UInt8 := dkwX4_waits_0 ++ dktX4_waits_1
theorem dksX4_waits_0 : cX4_waits.data.toList.drop 0 = dktX4_waits_0 := by decide +kernel
theorem dksX4_waits_1 : cX4_waits.data.toList.drop 23 = dktX4_waits_1 := dk_seg dksX4_waits_0 23 rfl rfl
theorem dX4_waits_0 : decode cX4_waits 0 = .ok (.aload_n 0, 1) := dk_42 (dk_at dksX4_waits_0 0 rfl rfl)
theorem dX4_waits_1 : decode cX4_waits 1 = .ok (.iload_n 1, 1) := dk_27 (dk_at dksX4_waits_0 1 rfl rfl)
theorem dX4_waits_2 : decode cX4_waits 2 = .ok (.iconst 5, 1) := dk_8 (dk_at dksX4_waits_0 2 rfl rfl)
theorem dX4_waits_3 : decode cX4_waits 3 = .ok (.invokevirtual 72, 3) := dk_182 0 72 (dk_at dksX4_waits_0 3 rfl rfl)
theorem dX4_waits_6 : decode cX4_waits 6 = .ok (.ifCond .eq 25, 3) := dk_153 0 25 (dk_at dksX4_waits_0 6 rfl rfl)
theorem dX4_waits_9 : decode cX4_waits 9 = .ok (.aload_n 0, 1) := dk_42 (dk_at dksX4_waits_0 9 rfl rfl)
theorem dX4_waits_10 : decode cX4_waits 10 = .ok (.iload_n 1, 1) := dk_27 (dk_at dksX4_waits_0 10 rfl rfl)
theorem dX4_waits_11 : decode cX4_waits 11 = .ok (.iconst 5, 1) := dk_8 (dk_at dksX4_waits_0 11 rfl rfl)
theorem dX4_waits_12 : decode cX4_waits 12 = .ok (.invokevirtual 72, 3) := dk_182 0 72 (dk_at dksX4_waits_0 12 rfl rfl)
theorem dX4_waits_15 : decode cX4_waits 15 = .ok (.iconst 3, 1) := dk_6 (dk_at dksX4_waits_0 15 rfl rfl)
theorem dX4_waits_16 : decode cX4_waits 16 = .ok (.if_icmp .ne 19, 3) := dk_160 0 19 (dk_at dksX4_waits_0 16 rfl rfl)
theorem dX4_waits_19 : decode cX4_waits 19 = .ok (.aload_n 0, 1) := dk_42 (dk_at dksX4_waits_0 19 rfl rfl)
theorem dX4_waits_20 : decode cX4_waits 20 = .ok (.iload_n 1, 1) := dk_27 (dk_at dksX4_waits_0 20 rfl rfl)
theorem dX4_waits_21 : decode cX4_waits 21 = .ok (.bipush 6, 2) := dk_16 6 (dk_at dksX4_waits_0 21 rfl rfl)
theorem dX4_waits_23 : decode cX4_waits 23 = .ok (.invokevirtual 72, 3) := dk_182 0 72 (dk_at dksX4_waits_1 0 rfl rfl)
theorem dX4_waits_26 : decode cX4_waits 26 = .ok (.bipush (-5), 2) := dk_16 251 (dk_at dksX4_waits_1 3 rfl rfl)
theorem dX4_waits_28 : decode cX4_waits 28 = .ok (.if_icmp .ne 7, 3) := dk_160 0 7 (dk_at dksX4_waits_1 5 rfl rfl)
theorem dX4_waits_31 : decode cX4_waits 31 = .ok (.iconst 1, 1) := dk_4 (dk_at dksX4_waits_1 8 rfl rfl)
theorem dX4_waits_32 : decode cX4_waits 32 = .ok (.goto 4, 3) := dk_167 0 4 (dk_at dksX4_waits_1 9 rfl rfl)
theorem dX4_waits_35 : decode cX4_waits 35 = .ok (.iconst 0, 1) := dk_3 (dk_at dksX4_waits_1 12 rfl rfl)
theorem dX4_waits_36 : decode cX4_waits 36 = .ok (.ireturn, 1) := dk_172 (dk_at dksX4_waits_1 13 rfl rfl)
abbrev cX4_isAhead : ByteArray := prog_16_method_47_code
def yX4_isAhead : MethodName := ⟨RX4, "isAhead", "(II)Z"⟩
def dkwX4_isAhead_3 : List UInt8 := [167, 0, 17, 3, 167, 0, 13, 27, 28, 162, 0, 7, 4, 167, 0, 4, 3, 172]
abbrev dktX4_isAhead_3 : List UInt8 := dkwX4_isAhead_3 ++ []
def dkwX4_isAhead_2 : List UInt8 := [3, 182, 0, 72, 3, 182, 0, 85, 54, 4, 29, 21, 4, 159, 0, 17, 29, 21, 4, 164, 0, 7, 4]
abbrev dktX4_isAhead_2 : List UInt8 := dkwX4_isAhead_2 ++ dktX4_isAhead_3
def dkwX4_isAhead_1 : List UInt8 := [162, 0, 7, 4, 167, 0, 4, 3, 172, 42, 42, 27, 3, 182, 0, 72, 3, 182, 0, 85, 62, 42, 42, 28]
abbrev dktX4_isAhead_1 : List UInt8 := dkwX4_isAhead_1 ++ dktX4_isAhead_2
def dkwX4_isAhead_0 : List UInt8 := [42, 27, 182, 0, 138, 42, 28, 182, 0, 138, 159, 0, 22, 42, 27, 182, 0, 138, 42, 28, 182, 0, 138]
abbrev dktX4_isAhead_0 : List UInt8 := dkwX4_isAhead_0 ++ dktX4_isAhead_1
theorem dksX4_isAhead_0 : cX4_isAhead.data.toList.drop 0 = dktX4_isAhead_0 := by decide +kernel
theorem dksX4_isAhead_1 : cX4_isAhead.data.toList.drop 23 = dktX4_isAhead_1 := dk_seg dksX4_isAhead_0 23 rfl rfl
theorem dksX4_isAhead_2 : cX4_isAhead.data.toList.drop 47 = dktX4_isAhead_2 := dk_seg dksX4_isAhead_1 24 rfl rfl
theorem dksX4_isAhead_3 : cX4_isAhead.data.toList.drop 70 = dktX4_isAhead_3 := dk_seg dksX4_isAhead_2 23 rfl rfl
theorem dX4_isAhead_0 : decode cX4_isAhead 0 = .ok (.aload_n 0, 1) := dk_42 (dk_at dksX4_isAhead_0 0 rfl rfl)
theorem dX4_isAhead_1 : decode cX4_isAhead 1 = .ok (.iload_n 1, 1) := dk_27 (dk_at dksX4_isAhead_0 1 rfl rfl)
theorem dX4_isAhead_2 : decode cX4_isAhead 2 = .ok (.invokevirtual 138, 3) := dk_182 0 138 (dk_at dksX4_isAhead_0 2 rfl rfl)
theorem dX4_isAhead_5 : decode cX4_isAhead 5 = .ok (.aload_n 0, 1) := dk_42 (dk_at dksX4_isAhead_0 5 rfl rfl)
theorem dX4_isAhead_6 : decode cX4_isAhead 6 = .ok (.iload_n 2, 1) := dk_28 (dk_at dksX4_isAhead_0 6 rfl rfl)
theorem dX4_isAhead_7 : decode cX4_isAhead 7 = .ok (.invokevirtual 138, 3) := dk_182 0 138 (dk_at dksX4_isAhead_0 7 rfl rfl)
theorem dX4_isAhead_10 : decode cX4_isAhead 10 = .ok (.if_icmp .eq 22, 3) := dk_159 0 22 (dk_at dksX4_isAhead_0 10 rfl rfl)
theorem dX4_isAhead_13 : decode cX4_isAhead 13 = .ok (.aload_n 0, 1) := dk_42 (dk_at dksX4_isAhead_0 13 rfl rfl)
theorem dX4_isAhead_14 : decode cX4_isAhead 14 = .ok (.iload_n 1, 1) := dk_27 (dk_at dksX4_isAhead_0 14 rfl rfl)
theorem dX4_isAhead_15 : decode cX4_isAhead 15 = .ok (.invokevirtual 138, 3) := dk_182 0 138 (dk_at dksX4_isAhead_0 15 rfl rfl)
theorem dX4_isAhead_18 : decode cX4_isAhead 18 = .ok (.aload_n 0, 1) := dk_42 (dk_at dksX4_isAhead_0 18 rfl rfl)
theorem dX4_isAhead_19 : decode cX4_isAhead 19 = .ok (.iload_n 2, 1) := dk_28 (dk_at dksX4_isAhead_0 19 rfl rfl)
theorem dX4_isAhead_20 : decode cX4_isAhead 20 = .ok (.invokevirtual 138, 3) := dk_182 0 138 (dk_at dksX4_isAhead_0 20 rfl rfl)
theorem dX4_isAhead_23 : decode cX4_isAhead 23 = .ok (.if_icmp .ge 7, 3) := dk_162 0 7 (dk_at dksX4_isAhead_1 0 rfl rfl)
theorem dX4_isAhead_26 : decode cX4_isAhead 26 = .ok (.iconst 1, 1) := dk_4 (dk_at dksX4_isAhead_1 3 rfl rfl)
theorem dX4_isAhead_27 : decode cX4_isAhead 27 = .ok (.goto 4, 3) := dk_167 0 4 (dk_at dksX4_isAhead_1 4 rfl rfl)
theorem dX4_isAhead_30 : decode cX4_isAhead 30 = .ok (.iconst 0, 1) := dk_3 (dk_at dksX4_isAhead_1 7 rfl rfl)
theorem dX4_isAhead_31 : decode cX4_isAhead 31 = .ok (.ireturn, 1) := dk_172 (dk_at dksX4_isAhead_1 8 rfl rfl)
theorem dX4_isAhead_32 : decode cX4_isAhead 32 = .ok (.aload_n 0, 1) := dk_42 (dk_at dksX4_isAhead_1 9 rfl rfl)
theorem dX4_isAhead_33 : decode cX4_isAhead 33 = .ok (.aload_n 0, 1) := dk_42 (dk_at dksX4_isAhead_1 10 rfl rfl)
theorem dX4_isAhead_34 : decode cX4_isAhead 34 = .ok (.iload_n 1, 1) := dk_27 (dk_at dksX4_isAhead_1 11 rfl rfl)
theorem dX4_isAhead_35 : decode cX4_isAhead 35 = .ok (.iconst 0, 1) := dk_3 (dk_at dksX4_isAhead_1 12 rfl rfl)
theorem dX4_isAhead_36 : decode cX4_isAhead 36 = .ok (.invokevirtual 72, 3) := dk_182 0 72 (dk_at dksX4_isAhead_1 13 rfl rfl)
theorem dX4_isAhead_39 : decode cX4_isAhead 39 = .ok (.iconst 0, 1) := dk_3 (dk_at dksX4_isAhead_1 16 rfl rfl)
theorem dX4_isAhead_40 : decode cX4_isAhead 40 = .ok (.invokevirtual 85, 3) := dk_182 0 85 (dk_at dksX4_isAhead_1 17 rfl rfl)
theorem dX4_isAhead_43 : decode cX4_isAhead 43 = .ok (.istore_n 3, 1) := dk_62 (dk_at dksX4_isAhead_1 20 rfl rfl)
theorem dX4_isAhead_44 : decode cX4_isAhead 44 = .ok (.aload_n 0, 1) := dk_42 (dk_at dksX4_isAhead_1 21 rfl rfl)
theorem dX4_isAhead_45 : decode cX4_isAhead 45 = .ok (.aload_n 0, 1) := dk_42 (dk_at dksX4_isAhead_1 22 rfl rfl)
theorem dX4_isAhead_46 : decode cX4_isAhead 46 = .ok (.iload_n 2, 1) := dk_28 (dk_at dksX4_isAhead_1 23 rfl rfl)
theorem dX4_isAhead_47 : decode cX4_isAhead 47 = .ok (.iconst 0, 1) := dk_3 (dk_at dksX4_isAhead_2 0 rfl rfl)
theorem dX4_isAhead_48 : decode cX4_isAhead 48 = .ok (.invokevirtual 72, 3) := dk_182 0 72 (dk_at dksX4_isAhead_2 1 rfl rfl)
theorem dX4_isAhead_51 : decode cX4_isAhead 51 = .ok (.iconst 0, 1) := dk_3 (dk_at dksX4_isAhead_2 4 rfl rfl)
theorem dX4_isAhead_52 : decode cX4_isAhead 52 = .ok (.invokevirtual 85, 3) := dk_182 0 85 (dk_at dksX4_isAhead_2 5 rfl rfl)
theorem dX4_isAhead_55 : decode cX4_isAhead 55 = .ok (.istore 4, 2) := dk_54 4 (dk_at dksX4_isAhead_2 8 rfl rfl)
theorem dX4_isAhead_57 : decode cX4_isAhead 57 = .ok (.iload_n 3, 1) := dk_29 (dk_at dksX4_isAhead_2 10 rfl rfl)
theorem dX4_isAhead_58 : decode cX4_isAhead 58 = .ok (.iload 4, 2) := dk_21 4 (dk_at dksX4_isAhead_2 11 rfl rfl)
theorem dX4_isAhead_60 : decode cX4_isAhead 60 = .ok (.if_icmp .eq 17, 3) := dk_159 0 17 (dk_at dksX4_isAhead_2 13 rfl rfl)
theorem dX4_isAhead_63 : decode cX4_isAhead 63 = .ok (.iload_n 3, 1) := dk_29 (dk_at dksX4_isAhead_2 16 rfl rfl)
theorem dX4_isAhead_64 : decode cX4_isAhead 64 = .ok (.iload 4, 2) := dk_21 4 (dk_at dksX4_isAhead_2 17 rfl rfl)
theorem dX4_isAhead_66 : decode cX4_isAhead 66 = .ok (.if_icmp .le 7, 3) := dk_164 0 7 (dk_at dksX4_isAhead_2 19 rfl rfl)
theorem dX4_isAhead_69 : decode cX4_isAhead 69 = .ok (.iconst 1, 1) := dk_4 (dk_at dksX4_isAhead_2 22 rfl rfl)
theorem dX4_isAhead_70 : decode cX4_isAhead 70 = .ok (.goto 17, 3) := dk_167 0 17 (dk_at dksX4_isAhead_3 0 rfl rfl)
theorem dX4_isAhead_73 : decode cX4_isAhead 73 = .ok (.iconst 0, 1) := dk_3 (dk_at dksX4_isAhead_3 3 rfl rfl)
theorem dX4_isAhead_74 : decode cX4_isAhead 74 = .ok (.goto 13, 3) := dk_167 0 13 (dk_at dksX4_isAhead_3 4 rfl rfl)
theorem dX4_isAhead_77 : decode cX4_isAhead 77 = .ok (.iload_n 1, 1) := dk_27 (dk_at dksX4_isAhead_3 7 rfl rfl)
theorem dX4_isAhead_78 : decode cX4_isAhead 78 = .ok (.iload_n 2, 1) := dk_28 (dk_at dksX4_isAhead_3 8 rfl rfl)
theorem dX4_isAhead_79 : decode cX4_isAhead 79 = .ok (.if_icmp .ge 7, 3) := dk_162 0 7 (dk_at dksX4_isAhead_3 9 rfl rfl)
theorem dX4_isAhead_82 : decode cX4_isAhead 82 = .ok (.iconst 1, 1) := dk_4 (dk_at dksX4_isAhead_3 12 rfl rfl)
theorem dX4_isAhead_83 : decode cX4_isAhead 83 = .ok (.goto 4, 3) := dk_167 0 4 (dk_at dksX4_isAhead_3 13 rfl rfl)
theorem dX4_isAhead_86 : decode cX4_isAhead 86 = .ok (.iconst 0, 1) := dk_3 (dk_at dksX4_isAhead_3 16 rfl rfl)
theorem dX4_isAhead_87 : decode cX4_isAhead 87 = .ok (.ireturn, 1) := dk_172 (dk_at dksX4_isAhead_3 17 rfl rfl)
abbrev cX4_rest : ByteArray := prog_16_method_46_code
def yX4_rest : MethodName := ⟨RX4, "rest", "(I)I"⟩
def dkwX4_rest_0 : List UInt8 := [42, 27, 6, 182, 0, 72, 42, 180, 0, 7, 3, 46, 42, 27, 7, 182, 0, 72, 100, 100, 172]
abbrev dktX4_rest_0 : List UInt8 := dkwX4_rest_0 ++ []
theorem dksX4_rest_0 : cX4_rest.data.toList.drop 0 = dktX4_rest_0 := by decide +kernel
theorem dX4_rest_0 : decode cX4_rest 0 = .ok (.aload_n 0, 1) := dk_42 (dk_at dksX4_rest_0 0 rfl rfl)
theorem dX4_rest_1 : decode cX4_rest 1 = .ok (.iload_n 1, 1) := dk_27 (dk_at dksX4_rest_0 1 rfl rfl)
theorem dX4_rest_2 : decode cX4_rest 2 = .ok (.iconst 3, 1) := dk_6 (dk_at dksX4_rest_0 2 rfl rfl)
theorem dX4_rest_3 : decode cX4_rest 3 = .ok (.invokevirtual 72, 3) := dk_182 0 72 (dk_at dksX4_rest_0 3 rfl rfl)
theorem dX4_rest_6 : decode cX4_rest 6 = .ok (.aload_n 0, 1) := dk_42 (dk_at dksX4_rest_0 6 rfl rfl)
theorem dX4_rest_7 : decode cX4_rest 7 = .ok (.getfield 7, 3) := dk_180 0 7 (dk_at dksX4_rest_0 7 rfl rfl)
theorem dX4_rest_10 : decode cX4_rest 10 = .ok (.iconst 0, 1) := dk_3 (dk_at dksX4_rest_0 10 rfl rfl)
theorem dX4_rest_11 : decode cX4_rest 11 = .ok (.iaload, 1) := dk_46 (dk_at dksX4_rest_0 11 rfl rfl)
theorem dX4_rest_12 : decode cX4_rest 12 = .ok (.aload_n 0, 1) := dk_42 (dk_at dksX4_rest_0 12 rfl rfl)
theorem dX4_rest_13 : decode cX4_rest 13 = .ok (.iload_n 1, 1) := dk_27 (dk_at dksX4_rest_0 13 rfl rfl)
theorem dX4_rest_14 : decode cX4_rest 14 = .ok (.iconst 4, 1) := dk_7 (dk_at dksX4_rest_0 14 rfl rfl)
theorem dX4_rest_15 : decode cX4_rest 15 = .ok (.invokevirtual 72, 3) := dk_182 0 72 (dk_at dksX4_rest_0 15 rfl rfl)
theorem dX4_rest_18 : decode cX4_rest 18 = .ok (.isub, 1) := dk_100 (dk_at dksX4_rest_0 18 rfl rfl)
theorem dX4_rest_19 : decode cX4_rest 19 = .ok (.isub, 1) := dk_100 (dk_at dksX4_rest_0 19 rfl rfl)
theorem dX4_rest_20 : decode cX4_rest 20 = .ok (.ireturn, 1) := dk_172 (dk_at dksX4_rest_0 20 rfl rfl)
abbrev cX4_nearestOf : ByteArray := prog_16_method_50_code
def yX4_nearestOf : MethodName := ⟨RX4, "nearestOf", "(I)I"⟩
def dkwX4_nearestOf_5 : List UInt8 := [61, 132, 3, 1, 167, 255, 139, 28, 172]
abbrev dktX4_nearestOf_5 : List UInt8 := dkwX4_nearestOf_5 ++ []
def dkwX4_nearestOf_4 : List UInt8 := [4, 182, 0, 88, 164, 0, 7, 4, 167, 0, 4, 3, 54, 6, 21, 6, 153, 0, 7, 29, 167, 0, 4, 28]
abbrev dktX4_nearestOf_4 : List UInt8 := dkwX4_nearestOf_4 ++ dktX4_nearestOf_5
def dkwX4_nearestOf_3 : List UInt8 := [54, 5, 21, 4, 21, 5, 161, 0, 25, 21, 4, 21, 5, 160, 0, 22, 42, 29, 4, 182, 0, 88, 42, 28]
abbrev dktX4_nearestOf_3 : List UInt8 := dkwX4_nearestOf_3 ++ dktX4_nearestOf_4
def dkwX4_nearestOf_2 : List UInt8 := [160, 0, 8, 18, 52, 167, 0, 19, 42, 42, 28, 7, 182, 0, 88, 42, 27, 4, 182, 0, 72, 182, 0, 53]
abbrev dktX4_nearestOf_2 : List UInt8 := dkwX4_nearestOf_2 ++ dktX4_nearestOf_3
def dkwX4_nearestOf_1 : List UInt8 := [153, 0, 97, 42, 42, 29, 7, 182, 0, 88, 42, 27, 4, 182, 0, 72, 182, 0, 53, 54, 4, 28, 16, 251]
abbrev dktX4_nearestOf_1 : List UInt8 := dkwX4_nearestOf_1 ++ dktX4_nearestOf_2
def dkwX4_nearestOf_0 : List UInt8 := [16, 251, 61, 3, 62, 29, 42, 180, 0, 7, 16, 7, 46, 162, 0, 112, 42, 29, 27, 182, 0, 151]
abbrev dktX4_nearestOf_0 : List UInt8 := dkwX4_nearestOf_0 ++ dktX4_nearestOf_1
theorem dksX4_nearestOf_0 : cX4_nearestOf.data.toList.drop 0 = dktX4_nearestOf_0 := by decide +kernel
theorem dksX4_nearestOf_1 : cX4_nearestOf.data.toList.drop 22 = dktX4_nearestOf_1 := dk_seg dksX4_nearestOf_0 22 rfl rfl
theorem dksX4_nearestOf_2 : cX4_nearestOf.data.toList.drop 46 = dktX4_nearestOf_2 := dk_seg dksX4_nearestOf_1 24 rfl rfl
theorem dksX4_nearestOf_3 : cX4_nearestOf.data.toList.drop 70 = dktX4_nearestOf_3 := dk_seg dksX4_nearestOf_2 24 rfl rfl
theorem dksX4_nearestOf_4 : cX4_nearestOf.data.toList.drop 94 = dktX4_nearestOf_4 := dk_seg dksX4_nearestOf_3 24 rfl rfl
theorem dksX4_nearestOf_5 : cX4_nearestOf.data.toList.drop 118 = dktX4_nearestOf_5 := dk_seg dksX4_nearestOf_4 24 rfl rfl
theorem dX4_nearestOf_0 : decode cX4_nearestOf 0 = .ok (.bipush (-5), 2) := dk_16 251 (dk_at dksX4_nearestOf_0 0 rfl rfl)
theorem dX4_nearestOf_2 : decode cX4_nearestOf 2 = .ok (.istore_n 2, 1) := dk_61 (dk_at dksX4_nearestOf_0 2 rfl rfl)
theorem dX4_nearestOf_3 : decode cX4_nearestOf 3 = .ok (.iconst 0, 1) := dk_3 (dk_at dksX4_nearestOf_0 3 rfl rfl)
theorem dX4_nearestOf_4 : decode cX4_nearestOf 4 = .ok (.istore_n 3, 1) := dk_62 (dk_at dksX4_nearestOf_0 4 rfl rfl)
theorem dX4_nearestOf_5 : decode cX4_nearestOf 5 = .ok (.iload_n 3, 1) := dk_29 (dk_at dksX4_nearestOf_0 5 rfl rfl)
theorem dX4_nearestOf_6 : decode cX4_nearestOf 6 = .ok (.aload_n 0, 1) := dk_42 (dk_at dksX4_nearestOf_0 6 rfl rfl)
theorem dX4_nearestOf_7 : decode cX4_nearestOf 7 = .ok (.getfield 7, 3) := dk_180 0 7 (dk_at dksX4_nearestOf_0 7 rfl rfl)
theorem dX4_nearestOf_10 : decode cX4_nearestOf 10 = .ok (.bipush 7, 2) := dk_16 7 (dk_at dksX4_nearestOf_0 10 rfl rfl)
theorem dX4_nearestOf_12 : decode cX4_nearestOf 12 = .ok (.iaload, 1) := dk_46 (dk_at dksX4_nearestOf_0 12 rfl rfl)
theorem dX4_nearestOf_13 : decode cX4_nearestOf 13 = .ok (.if_icmp .ge 112, 3) := dk_162 0 112 (dk_at dksX4_nearestOf_0 13 rfl rfl)
theorem dX4_nearestOf_16 : decode cX4_nearestOf 16 = .ok (.aload_n 0, 1) := dk_42 (dk_at dksX4_nearestOf_0 16 rfl rfl)
theorem dX4_nearestOf_17 : decode cX4_nearestOf 17 = .ok (.iload_n 3, 1) := dk_29 (dk_at dksX4_nearestOf_0 17 rfl rfl)
theorem dX4_nearestOf_18 : decode cX4_nearestOf 18 = .ok (.iload_n 1, 1) := dk_27 (dk_at dksX4_nearestOf_0 18 rfl rfl)
theorem dX4_nearestOf_19 : decode cX4_nearestOf 19 = .ok (.invokevirtual 151, 3) := dk_182 0 151 (dk_at dksX4_nearestOf_0 19 rfl rfl)
theorem dX4_nearestOf_22 : decode cX4_nearestOf 22 = .ok (.ifCond .eq 97, 3) := dk_153 0 97 (dk_at dksX4_nearestOf_1 0 rfl rfl)
theorem dX4_nearestOf_25 : decode cX4_nearestOf 25 = .ok (.aload_n 0, 1) := dk_42 (dk_at dksX4_nearestOf_1 3 rfl rfl)
theorem dX4_nearestOf_26 : decode cX4_nearestOf 26 = .ok (.aload_n 0, 1) := dk_42 (dk_at dksX4_nearestOf_1 4 rfl rfl)
theorem dX4_nearestOf_27 : decode cX4_nearestOf 27 = .ok (.iload_n 3, 1) := dk_29 (dk_at dksX4_nearestOf_1 5 rfl rfl)
theorem dX4_nearestOf_28 : decode cX4_nearestOf 28 = .ok (.iconst 4, 1) := dk_7 (dk_at dksX4_nearestOf_1 6 rfl rfl)
theorem dX4_nearestOf_29 : decode cX4_nearestOf 29 = .ok (.invokevirtual 88, 3) := dk_182 0 88 (dk_at dksX4_nearestOf_1 7 rfl rfl)
theorem dX4_nearestOf_32 : decode cX4_nearestOf 32 = .ok (.aload_n 0, 1) := dk_42 (dk_at dksX4_nearestOf_1 10 rfl rfl)
theorem dX4_nearestOf_33 : decode cX4_nearestOf 33 = .ok (.iload_n 1, 1) := dk_27 (dk_at dksX4_nearestOf_1 11 rfl rfl)
theorem dX4_nearestOf_34 : decode cX4_nearestOf 34 = .ok (.iconst 1, 1) := dk_4 (dk_at dksX4_nearestOf_1 12 rfl rfl)
theorem dX4_nearestOf_35 : decode cX4_nearestOf 35 = .ok (.invokevirtual 72, 3) := dk_182 0 72 (dk_at dksX4_nearestOf_1 13 rfl rfl)
theorem dX4_nearestOf_38 : decode cX4_nearestOf 38 = .ok (.invokevirtual 53, 3) := dk_182 0 53 (dk_at dksX4_nearestOf_1 16 rfl rfl)
theorem dX4_nearestOf_41 : decode cX4_nearestOf 41 = .ok (.istore 4, 2) := dk_54 4 (dk_at dksX4_nearestOf_1 19 rfl rfl)
theorem dX4_nearestOf_43 : decode cX4_nearestOf 43 = .ok (.iload_n 2, 1) := dk_28 (dk_at dksX4_nearestOf_1 21 rfl rfl)
theorem dX4_nearestOf_44 : decode cX4_nearestOf 44 = .ok (.bipush (-5), 2) := dk_16 251 (dk_at dksX4_nearestOf_1 22 rfl rfl)
theorem dX4_nearestOf_46 : decode cX4_nearestOf 46 = .ok (.if_icmp .ne 8, 3) := dk_160 0 8 (dk_at dksX4_nearestOf_2 0 rfl rfl)
theorem dX4_nearestOf_49 : decode cX4_nearestOf 49 = .ok (.ldc 52, 2) := dk_18 52 (dk_at dksX4_nearestOf_2 3 rfl rfl)
theorem dX4_nearestOf_51 : decode cX4_nearestOf 51 = .ok (.goto 19, 3) := dk_167 0 19 (dk_at dksX4_nearestOf_2 5 rfl rfl)
theorem dX4_nearestOf_54 : decode cX4_nearestOf 54 = .ok (.aload_n 0, 1) := dk_42 (dk_at dksX4_nearestOf_2 8 rfl rfl)
theorem dX4_nearestOf_55 : decode cX4_nearestOf 55 = .ok (.aload_n 0, 1) := dk_42 (dk_at dksX4_nearestOf_2 9 rfl rfl)
theorem dX4_nearestOf_56 : decode cX4_nearestOf 56 = .ok (.iload_n 2, 1) := dk_28 (dk_at dksX4_nearestOf_2 10 rfl rfl)
theorem dX4_nearestOf_57 : decode cX4_nearestOf 57 = .ok (.iconst 4, 1) := dk_7 (dk_at dksX4_nearestOf_2 11 rfl rfl)
theorem dX4_nearestOf_58 : decode cX4_nearestOf 58 = .ok (.invokevirtual 88, 3) := dk_182 0 88 (dk_at dksX4_nearestOf_2 12 rfl rfl)
theorem dX4_nearestOf_61 : decode cX4_nearestOf 61 = .ok (.aload_n 0, 1) := dk_42 (dk_at dksX4_nearestOf_2 15 rfl rfl)
theorem dX4_nearestOf_62 : decode cX4_nearestOf 62 = .ok (.iload_n 1, 1) := dk_27 (dk_at dksX4_nearestOf_2 16 rfl rfl)
theorem dX4_nearestOf_63 : decode cX4_nearestOf 63 = .ok (.iconst 1, 1) := dk_4 (dk_at dksX4_nearestOf_2 17 rfl rfl)
theorem dX4_nearestOf_64 : decode cX4_nearestOf 64 = .ok (.invokevirtual 72, 3) := dk_182 0 72 (dk_at dksX4_nearestOf_2 18 rfl rfl)
theorem dX4_nearestOf_67 : decode cX4_nearestOf 67 = .ok (.invokevirtual 53, 3) := dk_182 0 53 (dk_at dksX4_nearestOf_2 21 rfl rfl)
theorem dX4_nearestOf_70 : decode cX4_nearestOf 70 = .ok (.istore 5, 2) := dk_54 5 (dk_at dksX4_nearestOf_3 0 rfl rfl)
theorem dX4_nearestOf_72 : decode cX4_nearestOf 72 = .ok (.iload 4, 2) := dk_21 4 (dk_at dksX4_nearestOf_3 2 rfl rfl)
theorem dX4_nearestOf_74 : decode cX4_nearestOf 74 = .ok (.iload 5, 2) := dk_21 5 (dk_at dksX4_nearestOf_3 4 rfl rfl)
theorem dX4_nearestOf_76 : decode cX4_nearestOf 76 = .ok (.if_icmp .lt 25, 3) := dk_161 0 25 (dk_at dksX4_nearestOf_3 6 rfl rfl)
theorem dX4_nearestOf_79 : decode cX4_nearestOf 79 = .ok (.iload 4, 2) := dk_21 4 (dk_at dksX4_nearestOf_3 9 rfl rfl)
theorem dX4_nearestOf_81 : decode cX4_nearestOf 81 = .ok (.iload 5, 2) := dk_21 5 (dk_at dksX4_nearestOf_3 11 rfl rfl)
theorem dX4_nearestOf_83 : decode cX4_nearestOf 83 = .ok (.if_icmp .ne 22, 3) := dk_160 0 22 (dk_at dksX4_nearestOf_3 13 rfl rfl)
theorem dX4_nearestOf_86 : decode cX4_nearestOf 86 = .ok (.aload_n 0, 1) := dk_42 (dk_at dksX4_nearestOf_3 16 rfl rfl)
theorem dX4_nearestOf_87 : decode cX4_nearestOf 87 = .ok (.iload_n 3, 1) := dk_29 (dk_at dksX4_nearestOf_3 17 rfl rfl)
theorem dX4_nearestOf_88 : decode cX4_nearestOf 88 = .ok (.iconst 1, 1) := dk_4 (dk_at dksX4_nearestOf_3 18 rfl rfl)
theorem dX4_nearestOf_89 : decode cX4_nearestOf 89 = .ok (.invokevirtual 88, 3) := dk_182 0 88 (dk_at dksX4_nearestOf_3 19 rfl rfl)
theorem dX4_nearestOf_92 : decode cX4_nearestOf 92 = .ok (.aload_n 0, 1) := dk_42 (dk_at dksX4_nearestOf_3 22 rfl rfl)
theorem dX4_nearestOf_93 : decode cX4_nearestOf 93 = .ok (.iload_n 2, 1) := dk_28 (dk_at dksX4_nearestOf_3 23 rfl rfl)
theorem dX4_nearestOf_94 : decode cX4_nearestOf 94 = .ok (.iconst 1, 1) := dk_4 (dk_at dksX4_nearestOf_4 0 rfl rfl)
theorem dX4_nearestOf_95 : decode cX4_nearestOf 95 = .ok (.invokevirtual 88, 3) := dk_182 0 88 (dk_at dksX4_nearestOf_4 1 rfl rfl)
theorem dX4_nearestOf_98 : decode cX4_nearestOf 98 = .ok (.if_icmp .le 7, 3) := dk_164 0 7 (dk_at dksX4_nearestOf_4 4 rfl rfl)
theorem dX4_nearestOf_101 : decode cX4_nearestOf 101 = .ok (.iconst 1, 1) := dk_4 (dk_at dksX4_nearestOf_4 7 rfl rfl)
theorem dX4_nearestOf_102 : decode cX4_nearestOf 102 = .ok (.goto 4, 3) := dk_167 0 4 (dk_at dksX4_nearestOf_4 8 rfl rfl)
theorem dX4_nearestOf_105 : decode cX4_nearestOf 105 = .ok (.iconst 0, 1) := dk_3 (dk_at dksX4_nearestOf_4 11 rfl rfl)
theorem dX4_nearestOf_106 : decode cX4_nearestOf 106 = .ok (.istore 6, 2) := dk_54 6 (dk_at dksX4_nearestOf_4 12 rfl rfl)
theorem dX4_nearestOf_108 : decode cX4_nearestOf 108 = .ok (.iload 6, 2) := dk_21 6 (dk_at dksX4_nearestOf_4 14 rfl rfl)
theorem dX4_nearestOf_110 : decode cX4_nearestOf 110 = .ok (.ifCond .eq 7, 3) := dk_153 0 7 (dk_at dksX4_nearestOf_4 16 rfl rfl)
theorem dX4_nearestOf_113 : decode cX4_nearestOf 113 = .ok (.iload_n 3, 1) := dk_29 (dk_at dksX4_nearestOf_4 19 rfl rfl)
theorem dX4_nearestOf_114 : decode cX4_nearestOf 114 = .ok (.goto 4, 3) := dk_167 0 4 (dk_at dksX4_nearestOf_4 20 rfl rfl)
theorem dX4_nearestOf_117 : decode cX4_nearestOf 117 = .ok (.iload_n 2, 1) := dk_28 (dk_at dksX4_nearestOf_4 23 rfl rfl)
theorem dX4_nearestOf_118 : decode cX4_nearestOf 118 = .ok (.istore_n 2, 1) := dk_61 (dk_at dksX4_nearestOf_5 0 rfl rfl)
theorem dX4_nearestOf_119 : decode cX4_nearestOf 119 = .ok (.iinc 3 1, 3) := dk_132 3 1 (dk_at dksX4_nearestOf_5 1 rfl rfl)
theorem dX4_nearestOf_122 : decode cX4_nearestOf 122 = .ok (.goto (-117), 3) := dk_167 255 139 (dk_at dksX4_nearestOf_5 4 rfl rfl)
theorem dX4_nearestOf_125 : decode cX4_nearestOf 125 = .ok (.iload_n 2, 1) := dk_28 (dk_at dksX4_nearestOf_5 7 rfl rfl)
theorem dX4_nearestOf_126 : decode cX4_nearestOf 126 = .ok (.ireturn, 1) := dk_172 (dk_at dksX4_nearestOf_5 8 rfl rfl)
abbrev cX4_mayTake : ByteArray := prog_16_method_49_code
def yX4_mayTake : MethodName := ⟨RX4, "mayTake", "(II)Z"⟩
def dkwX4_mayTake_4 : List UInt8 := [172]
abbrev dktX4_mayTake_4 : List UInt8 := dkwX4_mayTake_4 ++ []
def dkwX4_mayTake_3 : List UInt8 := [167, 0, 24, 29, 21, 4, 160, 0, 17, 42, 27, 5, 182, 0, 88, 4, 160, 0, 7, 4, 167, 0, 4, 3]
abbrev dktX4_mayTake_3 : List UInt8 := dkwX4_mayTake_3 ++ dktX4_mayTake_4
def dkwX4_mayTake_2 : List UInt8 := [161, 0, 5, 3, 172, 42, 28, 8, 182, 0, 72, 154, 0, 15, 29, 21, 4, 100, 2, 4, 184, 0, 48]
abbrev dktX4_mayTake_2 : List UInt8 := dkwX4_mayTake_2 ++ dktX4_mayTake_3
def dkwX4_mayTake_1 : List UInt8 := [182, 0, 88, 154, 0, 24, 42, 42, 27, 7, 182, 0, 88, 42, 28, 4, 182, 0, 72, 182, 0, 53, 18, 52]
abbrev dktX4_mayTake_1 : List UInt8 := dkwX4_mayTake_1 ++ dktX4_mayTake_2
def dkwX4_mayTake_0 : List UInt8 := [42, 27, 3, 182, 0, 88, 184, 0, 129, 62, 42, 28, 4, 182, 0, 72, 184, 0, 129, 54, 4, 42, 27, 6]
abbrev dktX4_mayTake_0 : List UInt8 := dkwX4_mayTake_0 ++ dktX4_mayTake_1
theorem dksX4_mayTake_0 : cX4_mayTake.data.toList.drop 0 = dktX4_mayTake_0 := by decide +kernel
theorem dksX4_mayTake_1 : cX4_mayTake.data.toList.drop 24 = dktX4_mayTake_1 := dk_seg dksX4_mayTake_0 24 rfl rfl
theorem dksX4_mayTake_2 : cX4_mayTake.data.toList.drop 48 = dktX4_mayTake_2 := dk_seg dksX4_mayTake_1 24 rfl rfl
theorem dksX4_mayTake_3 : cX4_mayTake.data.toList.drop 71 = dktX4_mayTake_3 := dk_seg dksX4_mayTake_2 23 rfl rfl
theorem dksX4_mayTake_4 : cX4_mayTake.data.toList.drop 95 = dktX4_mayTake_4 := dk_seg dksX4_mayTake_3 24 rfl rfl
theorem dX4_mayTake_0 : decode cX4_mayTake 0 = .ok (.aload_n 0, 1) := dk_42 (dk_at dksX4_mayTake_0 0 rfl rfl)
theorem dX4_mayTake_1 : decode cX4_mayTake 1 = .ok (.iload_n 1, 1) := dk_27 (dk_at dksX4_mayTake_0 1 rfl rfl)
theorem dX4_mayTake_2 : decode cX4_mayTake 2 = .ok (.iconst 0, 1) := dk_3 (dk_at dksX4_mayTake_0 2 rfl rfl)
theorem dX4_mayTake_3 : decode cX4_mayTake 3 = .ok (.invokevirtual 88, 3) := dk_182 0 88 (dk_at dksX4_mayTake_0 3 rfl rfl)
theorem dX4_mayTake_6 : decode cX4_mayTake 6 = .ok (.invokestatic 129, 3) := dk_184 0 129 (dk_at dksX4_mayTake_0 6 rfl rfl)
theorem dX4_mayTake_9 : decode cX4_mayTake 9 = .ok (.istore_n 3, 1) := dk_62 (dk_at dksX4_mayTake_0 9 rfl rfl)
theorem dX4_mayTake_10 : decode cX4_mayTake 10 = .ok (.aload_n 0, 1) := dk_42 (dk_at dksX4_mayTake_0 10 rfl rfl)
theorem dX4_mayTake_11 : decode cX4_mayTake 11 = .ok (.iload_n 2, 1) := dk_28 (dk_at dksX4_mayTake_0 11 rfl rfl)
theorem dX4_mayTake_12 : decode cX4_mayTake 12 = .ok (.iconst 1, 1) := dk_4 (dk_at dksX4_mayTake_0 12 rfl rfl)
theorem dX4_mayTake_13 : decode cX4_mayTake 13 = .ok (.invokevirtual 72, 3) := dk_182 0 72 (dk_at dksX4_mayTake_0 13 rfl rfl)
theorem dX4_mayTake_16 : decode cX4_mayTake 16 = .ok (.invokestatic 129, 3) := dk_184 0 129 (dk_at dksX4_mayTake_0 16 rfl rfl)
theorem dX4_mayTake_19 : decode cX4_mayTake 19 = .ok (.istore 4, 2) := dk_54 4 (dk_at dksX4_mayTake_0 19 rfl rfl)
theorem dX4_mayTake_21 : decode cX4_mayTake 21 = .ok (.aload_n 0, 1) := dk_42 (dk_at dksX4_mayTake_0 21 rfl rfl)
theorem dX4_mayTake_22 : decode cX4_mayTake 22 = .ok (.iload_n 1, 1) := dk_27 (dk_at dksX4_mayTake_0 22 rfl rfl)
theorem dX4_mayTake_23 : decode cX4_mayTake 23 = .ok (.iconst 3, 1) := dk_6 (dk_at dksX4_mayTake_0 23 rfl rfl)
theorem dX4_mayTake_24 : decode cX4_mayTake 24 = .ok (.invokevirtual 88, 3) := dk_182 0 88 (dk_at dksX4_mayTake_1 0 rfl rfl)
theorem dX4_mayTake_27 : decode cX4_mayTake 27 = .ok (.ifCond .ne 24, 3) := dk_154 0 24 (dk_at dksX4_mayTake_1 3 rfl rfl)
theorem dX4_mayTake_30 : decode cX4_mayTake 30 = .ok (.aload_n 0, 1) := dk_42 (dk_at dksX4_mayTake_1 6 rfl rfl)
theorem dX4_mayTake_31 : decode cX4_mayTake 31 = .ok (.aload_n 0, 1) := dk_42 (dk_at dksX4_mayTake_1 7 rfl rfl)
theorem dX4_mayTake_32 : decode cX4_mayTake 32 = .ok (.iload_n 1, 1) := dk_27 (dk_at dksX4_mayTake_1 8 rfl rfl)
theorem dX4_mayTake_33 : decode cX4_mayTake 33 = .ok (.iconst 4, 1) := dk_7 (dk_at dksX4_mayTake_1 9 rfl rfl)
theorem dX4_mayTake_34 : decode cX4_mayTake 34 = .ok (.invokevirtual 88, 3) := dk_182 0 88 (dk_at dksX4_mayTake_1 10 rfl rfl)
theorem dX4_mayTake_37 : decode cX4_mayTake 37 = .ok (.aload_n 0, 1) := dk_42 (dk_at dksX4_mayTake_1 13 rfl rfl)
theorem dX4_mayTake_38 : decode cX4_mayTake 38 = .ok (.iload_n 2, 1) := dk_28 (dk_at dksX4_mayTake_1 14 rfl rfl)
theorem dX4_mayTake_39 : decode cX4_mayTake 39 = .ok (.iconst 1, 1) := dk_4 (dk_at dksX4_mayTake_1 15 rfl rfl)
theorem dX4_mayTake_40 : decode cX4_mayTake 40 = .ok (.invokevirtual 72, 3) := dk_182 0 72 (dk_at dksX4_mayTake_1 16 rfl rfl)
theorem dX4_mayTake_43 : decode cX4_mayTake 43 = .ok (.invokevirtual 53, 3) := dk_182 0 53 (dk_at dksX4_mayTake_1 19 rfl rfl)
theorem dX4_mayTake_46 : decode cX4_mayTake 46 = .ok (.ldc 52, 2) := dk_18 52 (dk_at dksX4_mayTake_1 22 rfl rfl)
theorem dX4_mayTake_48 : decode cX4_mayTake 48 = .ok (.if_icmp .lt 5, 3) := dk_161 0 5 (dk_at dksX4_mayTake_2 0 rfl rfl)
theorem dX4_mayTake_51 : decode cX4_mayTake 51 = .ok (.iconst 0, 1) := dk_3 (dk_at dksX4_mayTake_2 3 rfl rfl)
theorem dX4_mayTake_52 : decode cX4_mayTake 52 = .ok (.ireturn, 1) := dk_172 (dk_at dksX4_mayTake_2 4 rfl rfl)
theorem dX4_mayTake_53 : decode cX4_mayTake 53 = .ok (.aload_n 0, 1) := dk_42 (dk_at dksX4_mayTake_2 5 rfl rfl)
theorem dX4_mayTake_54 : decode cX4_mayTake 54 = .ok (.iload_n 2, 1) := dk_28 (dk_at dksX4_mayTake_2 6 rfl rfl)
theorem dX4_mayTake_55 : decode cX4_mayTake 55 = .ok (.iconst 5, 1) := dk_8 (dk_at dksX4_mayTake_2 7 rfl rfl)
theorem dX4_mayTake_56 : decode cX4_mayTake 56 = .ok (.invokevirtual 72, 3) := dk_182 0 72 (dk_at dksX4_mayTake_2 8 rfl rfl)
theorem dX4_mayTake_59 : decode cX4_mayTake 59 = .ok (.ifCond .ne 15, 3) := dk_154 0 15 (dk_at dksX4_mayTake_2 11 rfl rfl)
theorem dX4_mayTake_62 : decode cX4_mayTake 62 = .ok (.iload_n 3, 1) := dk_29 (dk_at dksX4_mayTake_2 14 rfl rfl)
theorem dX4_mayTake_63 : decode cX4_mayTake 63 = .ok (.iload 4, 2) := dk_21 4 (dk_at dksX4_mayTake_2 15 rfl rfl)
theorem dX4_mayTake_65 : decode cX4_mayTake 65 = .ok (.isub, 1) := dk_100 (dk_at dksX4_mayTake_2 17 rfl rfl)
theorem dX4_mayTake_66 : decode cX4_mayTake 66 = .ok (.iconst (-1), 1) := dk_2 (dk_at dksX4_mayTake_2 18 rfl rfl)
theorem dX4_mayTake_67 : decode cX4_mayTake 67 = .ok (.iconst 1, 1) := dk_4 (dk_at dksX4_mayTake_2 19 rfl rfl)
theorem dX4_mayTake_68 : decode cX4_mayTake 68 = .ok (.invokestatic 48, 3) := dk_184 0 48 (dk_at dksX4_mayTake_2 20 rfl rfl)
theorem dX4_mayTake_71 : decode cX4_mayTake 71 = .ok (.goto 24, 3) := dk_167 0 24 (dk_at dksX4_mayTake_3 0 rfl rfl)
theorem dX4_mayTake_74 : decode cX4_mayTake 74 = .ok (.iload_n 3, 1) := dk_29 (dk_at dksX4_mayTake_3 3 rfl rfl)
theorem dX4_mayTake_75 : decode cX4_mayTake 75 = .ok (.iload 4, 2) := dk_21 4 (dk_at dksX4_mayTake_3 4 rfl rfl)
theorem dX4_mayTake_77 : decode cX4_mayTake 77 = .ok (.if_icmp .ne 17, 3) := dk_160 0 17 (dk_at dksX4_mayTake_3 6 rfl rfl)
theorem dX4_mayTake_80 : decode cX4_mayTake 80 = .ok (.aload_n 0, 1) := dk_42 (dk_at dksX4_mayTake_3 9 rfl rfl)
theorem dX4_mayTake_81 : decode cX4_mayTake 81 = .ok (.iload_n 1, 1) := dk_27 (dk_at dksX4_mayTake_3 10 rfl rfl)
theorem dX4_mayTake_82 : decode cX4_mayTake 82 = .ok (.iconst 2, 1) := dk_5 (dk_at dksX4_mayTake_3 11 rfl rfl)
theorem dX4_mayTake_83 : decode cX4_mayTake 83 = .ok (.invokevirtual 88, 3) := dk_182 0 88 (dk_at dksX4_mayTake_3 12 rfl rfl)
theorem dX4_mayTake_86 : decode cX4_mayTake 86 = .ok (.iconst 1, 1) := dk_4 (dk_at dksX4_mayTake_3 15 rfl rfl)
theorem dX4_mayTake_87 : decode cX4_mayTake 87 = .ok (.if_icmp .ne 7, 3) := dk_160 0 7 (dk_at dksX4_mayTake_3 16 rfl rfl)
theorem dX4_mayTake_90 : decode cX4_mayTake 90 = .ok (.iconst 1, 1) := dk_4 (dk_at dksX4_mayTake_3 19 rfl rfl)
theorem dX4_mayTake_91 : decode cX4_mayTake 91 = .ok (.goto 4, 3) := dk_167 0 4 (dk_at dksX4_mayTake_3 20 rfl rfl)
theorem dX4_mayTake_94 : decode cX4_mayTake 94 = .ok (.iconst 0, 1) := dk_3 (dk_at dksX4_mayTake_3 23 rfl rfl)
theorem dX4_mayTake_95 : decode cX4_mayTake 95 = .ok (.ireturn, 1) := dk_172 (dk_at dksX4_mayTake_4 0 rfl rfl)
abbrev cX4_type : ByteArray := prog_16_method_55_code
def yX4_type : MethodName := ⟨RX4, "type", "(C)I"⟩
def dkwX4_type_1 : List UInt8 := [180, 0, 178, 4, 96, 181, 0, 178, 42, 180, 0, 178, 172]
abbrev dktX4_type_1 : List UInt8 := dkwX4_type_1 ++ []
def dkwX4_type_0 : List UInt8 := [42, 180, 0, 178, 16, 60, 160, 0, 6, 16, 253, 172, 42, 180, 0, 22, 42, 180, 0, 178, 27, 79, 42, 89]
abbrev dktX4_type_0 : List UInt8 := dkwX4_type_0 ++ dktX4_type_1
theorem dksX4_type_0 : cX4_type.data.toList.drop 0 = dktX4_type_0 := by decide +kernel
theorem dksX4_type_1 : cX4_type.data.toList.drop 24 = dktX4_type_1 := dk_seg dksX4_type_0 24 rfl rfl
theorem dX4_type_0 : decode cX4_type 0 = .ok (.aload_n 0, 1) := dk_42 (dk_at dksX4_type_0 0 rfl rfl)
theorem dX4_type_1 : decode cX4_type 1 = .ok (.getfield 178, 3) := dk_180 0 178 (dk_at dksX4_type_0 1 rfl rfl)
theorem dX4_type_4 : decode cX4_type 4 = .ok (.bipush 60, 2) := dk_16 60 (dk_at dksX4_type_0 4 rfl rfl)
theorem dX4_type_6 : decode cX4_type 6 = .ok (.if_icmp .ne 6, 3) := dk_160 0 6 (dk_at dksX4_type_0 6 rfl rfl)
theorem dX4_type_9 : decode cX4_type 9 = .ok (.bipush (-3), 2) := dk_16 253 (dk_at dksX4_type_0 9 rfl rfl)
theorem dX4_type_11 : decode cX4_type 11 = .ok (.ireturn, 1) := dk_172 (dk_at dksX4_type_0 11 rfl rfl)
theorem dX4_type_12 : decode cX4_type 12 = .ok (.aload_n 0, 1) := dk_42 (dk_at dksX4_type_0 12 rfl rfl)
theorem dX4_type_13 : decode cX4_type 13 = .ok (.getfield 22, 3) := dk_180 0 22 (dk_at dksX4_type_0 13 rfl rfl)
theorem dX4_type_16 : decode cX4_type 16 = .ok (.aload_n 0, 1) := dk_42 (dk_at dksX4_type_0 16 rfl rfl)
theorem dX4_type_17 : decode cX4_type 17 = .ok (.getfield 178, 3) := dk_180 0 178 (dk_at dksX4_type_0 17 rfl rfl)
theorem dX4_type_20 : decode cX4_type 20 = .ok (.iload_n 1, 1) := dk_27 (dk_at dksX4_type_0 20 rfl rfl)
theorem dX4_type_21 : decode cX4_type 21 = .ok (.iastore, 1) := dk_79 (dk_at dksX4_type_0 21 rfl rfl)
theorem dX4_type_22 : decode cX4_type 22 = .ok (.aload_n 0, 1) := dk_42 (dk_at dksX4_type_0 22 rfl rfl)
theorem dX4_type_23 : decode cX4_type 23 = .ok (.dup, 1) := dk_89 (dk_at dksX4_type_0 23 rfl rfl)
theorem dX4_type_24 : decode cX4_type 24 = .ok (.getfield 178, 3) := dk_180 0 178 (dk_at dksX4_type_1 0 rfl rfl)
theorem dX4_type_27 : decode cX4_type 27 = .ok (.iconst 1, 1) := dk_4 (dk_at dksX4_type_1 3 rfl rfl)
theorem dX4_type_28 : decode cX4_type 28 = .ok (.iadd, 1) := dk_96 (dk_at dksX4_type_1 4 rfl rfl)
theorem dX4_type_29 : decode cX4_type 29 = .ok (.putfield 178, 3) := dk_181 0 178 (dk_at dksX4_type_1 5 rfl rfl)
theorem dX4_type_32 : decode cX4_type 32 = .ok (.aload_n 0, 1) := dk_42 (dk_at dksX4_type_1 8 rfl rfl)
theorem dX4_type_33 : decode cX4_type 33 = .ok (.getfield 178, 3) := dk_180 0 178 (dk_at dksX4_type_1 9 rfl rfl)
theorem dX4_type_36 : decode cX4_type 36 = .ok (.ireturn, 1) := dk_172 (dk_at dksX4_type_1 12 rfl rfl)
abbrev cX4_clearText : ByteArray := prog_16_method_56_code
def yX4_clearText : MethodName := ⟨RX4, "clearText", "()I"⟩
def dkwX4_clearText_0 : List UInt8 := [42, 180, 0, 178, 60, 42, 3, 181, 0, 178, 27, 172]
abbrev dktX4_clearText_0 : List UInt8 := dkwX4_clearText_0 ++ []
theorem dksX4_clearText_0 : cX4_clearText.data.toList.drop 0 = dktX4_clearText_0 := by decide +kernel
theorem dX4_clearText_0 : decode cX4_clearText 0 = .ok (.aload_n 0, 1) := dk_42 (dk_at dksX4_clearText_0 0 rfl rfl)
theorem dX4_clearText_1 : decode cX4_clearText 1 = .ok (.getfield 178, 3) := dk_180 0 178 (dk_at dksX4_clearText_0 1 rfl rfl)
theorem dX4_clearText_4 : decode cX4_clearText 4 = .ok (.istore_n 1, 1) := dk_60 (dk_at dksX4_clearText_0 4 rfl rfl)
theorem dX4_clearText_5 : decode cX4_clearText 5 = .ok (.aload_n 0, 1) := dk_42 (dk_at dksX4_clearText_0 5 rfl rfl)
theorem dX4_clearText_6 : decode cX4_clearText 6 = .ok (.iconst 0, 1) := dk_3 (dk_at dksX4_clearText_0 6 rfl rfl)
theorem dX4_clearText_7 : decode cX4_clearText 7 = .ok (.putfield 178, 3) := dk_181 0 178 (dk_at dksX4_clearText_0 7 rfl rfl)
theorem dX4_clearText_10 : decode cX4_clearText 10 = .ok (.iload_n 1, 1) := dk_27 (dk_at dksX4_clearText_0 10 rfl rfl)
theorem dX4_clearText_11 : decode cX4_clearText 11 = .ok (.ireturn, 1) := dk_172 (dk_at dksX4_clearText_0 11 rfl rfl)
abbrev cX4_readCalls : ByteArray := prog_16_method_60_code
def yX4_readCalls : MethodName := ⟨RX4, "readCalls", "()I"⟩
def dkwX4_readCalls_8 : List UInt8 := [182, 0, 98, 132, 2, 1, 167, 255, 213, 42, 180, 0, 187, 172]
abbrev dktX4_readCalls_8 : List UInt8 := dkwX4_readCalls_8 ++ []
def dkwX4_readCalls_7 : List UInt8 := [104, 46, 42, 180, 0, 34, 6, 28, 104, 4, 96, 46, 42, 180, 0, 34, 6, 28, 104, 5, 96, 46]
abbrev dktX4_readCalls_7 : List UInt8 := dkwX4_readCalls_7 ++ dktX4_readCalls_8
def dkwX4_readCalls_6 : List UInt8 := [184, 0, 44, 42, 182, 0, 61, 3, 61, 28, 42, 180, 0, 187, 162, 0, 41, 42, 42, 180, 0, 34, 6, 28]
abbrev dktX4_readCalls_6 : List UInt8 := dkwX4_readCalls_6 ++ dktX4_readCalls_7
def dkwX4_readCalls_5 : List UInt8 := [104, 5, 96, 46, 182, 0, 98, 132, 2, 1, 167, 255, 161, 42, 180, 0, 19, 3, 42, 180, 0, 7, 3]
abbrev dktX4_readCalls_5 : List UInt8 := dkwX4_readCalls_5 ++ dktX4_readCalls_6
def dkwX4_readCalls_4 : List UInt8 := [42, 180, 0, 34, 6, 28, 104, 46, 42, 180, 0, 34, 6, 28, 104, 4, 96, 46, 42, 180, 0, 34, 6, 28]
abbrev dktX4_readCalls_4 : List UInt8 := dkwX4_readCalls_4 ++ dktX4_readCalls_5
def dkwX4_readCalls_3 : List UInt8 := [182, 0, 94, 62, 29, 153, 0, 18, 42, 180, 0, 19, 3, 42, 180, 0, 7, 3, 184, 0, 44, 29, 172, 42]
abbrev dktX4_readCalls_3 : List UInt8 := dkwX4_readCalls_3 ++ dktX4_readCalls_4
def dkwX4_readCalls_2 : List UInt8 := [104, 46, 42, 180, 0, 34, 6, 28, 104, 4, 96, 46, 42, 180, 0, 34, 6, 28, 104, 5, 96, 46]
abbrev dktX4_readCalls_2 : List UInt8 := dkwX4_readCalls_2 ++ dktX4_readCalls_3
def dkwX4_readCalls_1 : List UInt8 := [180, 0, 19, 3, 184, 0, 44, 3, 61, 28, 42, 180, 0, 187, 162, 0, 93, 42, 42, 180, 0, 34, 6, 28]
abbrev dktX4_readCalls_1 : List UInt8 := dkwX4_readCalls_1 ++ dktX4_readCalls_2
def dkwX4_readCalls_0 : List UInt8 := [42, 182, 0, 193, 60, 27, 16, 251, 159, 0, 8, 16, 156, 27, 100, 172, 42, 180, 0, 7, 3, 42]
abbrev dktX4_readCalls_0 : List UInt8 := dkwX4_readCalls_0 ++ dktX4_readCalls_1
theorem dksX4_readCalls_0 : cX4_readCalls.data.toList.drop 0 = dktX4_readCalls_0 := by decide +kernel
theorem dksX4_readCalls_1 : cX4_readCalls.data.toList.drop 22 = dktX4_readCalls_1 := dk_seg dksX4_readCalls_0 22 rfl rfl
theorem dksX4_readCalls_2 : cX4_readCalls.data.toList.drop 46 = dktX4_readCalls_2 := dk_seg dksX4_readCalls_1 24 rfl rfl
theorem dksX4_readCalls_3 : cX4_readCalls.data.toList.drop 68 = dktX4_readCalls_3 := dk_seg dksX4_readCalls_2 22 rfl rfl
theorem dksX4_readCalls_4 : cX4_readCalls.data.toList.drop 92 = dktX4_readCalls_4 := dk_seg dksX4_readCalls_3 24 rfl rfl
theorem dksX4_readCalls_5 : cX4_readCalls.data.toList.drop 116 = dktX4_readCalls_5 := dk_seg dksX4_readCalls_4 24 rfl rfl
theorem dksX4_readCalls_6 : cX4_readCalls.data.toList.drop 139 = dktX4_readCalls_6 := dk_seg dksX4_readCalls_5 23 rfl rfl
theorem dksX4_readCalls_7 : cX4_readCalls.data.toList.drop 163 = dktX4_readCalls_7 := dk_seg dksX4_readCalls_6 24 rfl rfl
theorem dksX4_readCalls_8 : cX4_readCalls.data.toList.drop 185 = dktX4_readCalls_8 := dk_seg dksX4_readCalls_7 22 rfl rfl
theorem dX4_readCalls_0 : decode cX4_readCalls 0 = .ok (.aload_n 0, 1) := dk_42 (dk_at dksX4_readCalls_0 0 rfl rfl)
theorem dX4_readCalls_1 : decode cX4_readCalls 1 = .ok (.invokevirtual 193, 3) := dk_182 0 193 (dk_at dksX4_readCalls_0 1 rfl rfl)
theorem dX4_readCalls_4 : decode cX4_readCalls 4 = .ok (.istore_n 1, 1) := dk_60 (dk_at dksX4_readCalls_0 4 rfl rfl)
theorem dX4_readCalls_5 : decode cX4_readCalls 5 = .ok (.iload_n 1, 1) := dk_27 (dk_at dksX4_readCalls_0 5 rfl rfl)
theorem dX4_readCalls_6 : decode cX4_readCalls 6 = .ok (.bipush (-5), 2) := dk_16 251 (dk_at dksX4_readCalls_0 6 rfl rfl)
theorem dX4_readCalls_8 : decode cX4_readCalls 8 = .ok (.if_icmp .eq 8, 3) := dk_159 0 8 (dk_at dksX4_readCalls_0 8 rfl rfl)
theorem dX4_readCalls_11 : decode cX4_readCalls 11 = .ok (.bipush (-100), 2) := dk_16 156 (dk_at dksX4_readCalls_0 11 rfl rfl)
theorem dX4_readCalls_13 : decode cX4_readCalls 13 = .ok (.iload_n 1, 1) := dk_27 (dk_at dksX4_readCalls_0 13 rfl rfl)
theorem dX4_readCalls_14 : decode cX4_readCalls 14 = .ok (.isub, 1) := dk_100 (dk_at dksX4_readCalls_0 14 rfl rfl)
theorem dX4_readCalls_15 : decode cX4_readCalls 15 = .ok (.ireturn, 1) := dk_172 (dk_at dksX4_readCalls_0 15 rfl rfl)
theorem dX4_readCalls_16 : decode cX4_readCalls 16 = .ok (.aload_n 0, 1) := dk_42 (dk_at dksX4_readCalls_0 16 rfl rfl)
theorem dX4_readCalls_17 : decode cX4_readCalls 17 = .ok (.getfield 7, 3) := dk_180 0 7 (dk_at dksX4_readCalls_0 17 rfl rfl)
theorem dX4_readCalls_20 : decode cX4_readCalls 20 = .ok (.iconst 0, 1) := dk_3 (dk_at dksX4_readCalls_0 20 rfl rfl)
theorem dX4_readCalls_21 : decode cX4_readCalls 21 = .ok (.aload_n 0, 1) := dk_42 (dk_at dksX4_readCalls_0 21 rfl rfl)
theorem dX4_readCalls_22 : decode cX4_readCalls 22 = .ok (.getfield 19, 3) := dk_180 0 19 (dk_at dksX4_readCalls_1 0 rfl rfl)
theorem dX4_readCalls_25 : decode cX4_readCalls 25 = .ok (.iconst 0, 1) := dk_3 (dk_at dksX4_readCalls_1 3 rfl rfl)
theorem dX4_readCalls_26 : decode cX4_readCalls 26 = .ok (.invokestatic 44, 3) := dk_184 0 44 (dk_at dksX4_readCalls_1 4 rfl rfl)
theorem dX4_readCalls_29 : decode cX4_readCalls 29 = .ok (.iconst 0, 1) := dk_3 (dk_at dksX4_readCalls_1 7 rfl rfl)
theorem dX4_readCalls_30 : decode cX4_readCalls 30 = .ok (.istore_n 2, 1) := dk_61 (dk_at dksX4_readCalls_1 8 rfl rfl)
theorem dX4_readCalls_31 : decode cX4_readCalls 31 = .ok (.iload_n 2, 1) := dk_28 (dk_at dksX4_readCalls_1 9 rfl rfl)
theorem dX4_readCalls_32 : decode cX4_readCalls 32 = .ok (.aload_n 0, 1) := dk_42 (dk_at dksX4_readCalls_1 10 rfl rfl)
theorem dX4_readCalls_33 : decode cX4_readCalls 33 = .ok (.getfield 187, 3) := dk_180 0 187 (dk_at dksX4_readCalls_1 11 rfl rfl)
theorem dX4_readCalls_36 : decode cX4_readCalls 36 = .ok (.if_icmp .ge 93, 3) := dk_162 0 93 (dk_at dksX4_readCalls_1 14 rfl rfl)
theorem dX4_readCalls_39 : decode cX4_readCalls 39 = .ok (.aload_n 0, 1) := dk_42 (dk_at dksX4_readCalls_1 17 rfl rfl)
theorem dX4_readCalls_40 : decode cX4_readCalls 40 = .ok (.aload_n 0, 1) := dk_42 (dk_at dksX4_readCalls_1 18 rfl rfl)
theorem dX4_readCalls_41 : decode cX4_readCalls 41 = .ok (.getfield 34, 3) := dk_180 0 34 (dk_at dksX4_readCalls_1 19 rfl rfl)
theorem dX4_readCalls_44 : decode cX4_readCalls 44 = .ok (.iconst 3, 1) := dk_6 (dk_at dksX4_readCalls_1 22 rfl rfl)
theorem dX4_readCalls_45 : decode cX4_readCalls 45 = .ok (.iload_n 2, 1) := dk_28 (dk_at dksX4_readCalls_1 23 rfl rfl)
theorem dX4_readCalls_46 : decode cX4_readCalls 46 = .ok (.imul, 1) := dk_104 (dk_at dksX4_readCalls_2 0 rfl rfl)
theorem dX4_readCalls_47 : decode cX4_readCalls 47 = .ok (.iaload, 1) := dk_46 (dk_at dksX4_readCalls_2 1 rfl rfl)
theorem dX4_readCalls_48 : decode cX4_readCalls 48 = .ok (.aload_n 0, 1) := dk_42 (dk_at dksX4_readCalls_2 2 rfl rfl)
theorem dX4_readCalls_49 : decode cX4_readCalls 49 = .ok (.getfield 34, 3) := dk_180 0 34 (dk_at dksX4_readCalls_2 3 rfl rfl)
theorem dX4_readCalls_52 : decode cX4_readCalls 52 = .ok (.iconst 3, 1) := dk_6 (dk_at dksX4_readCalls_2 6 rfl rfl)
theorem dX4_readCalls_53 : decode cX4_readCalls 53 = .ok (.iload_n 2, 1) := dk_28 (dk_at dksX4_readCalls_2 7 rfl rfl)
theorem dX4_readCalls_54 : decode cX4_readCalls 54 = .ok (.imul, 1) := dk_104 (dk_at dksX4_readCalls_2 8 rfl rfl)
theorem dX4_readCalls_55 : decode cX4_readCalls 55 = .ok (.iconst 1, 1) := dk_4 (dk_at dksX4_readCalls_2 9 rfl rfl)
theorem dX4_readCalls_56 : decode cX4_readCalls 56 = .ok (.iadd, 1) := dk_96 (dk_at dksX4_readCalls_2 10 rfl rfl)
theorem dX4_readCalls_57 : decode cX4_readCalls 57 = .ok (.iaload, 1) := dk_46 (dk_at dksX4_readCalls_2 11 rfl rfl)
theorem dX4_readCalls_58 : decode cX4_readCalls 58 = .ok (.aload_n 0, 1) := dk_42 (dk_at dksX4_readCalls_2 12 rfl rfl)
theorem dX4_readCalls_59 : decode cX4_readCalls 59 = .ok (.getfield 34, 3) := dk_180 0 34 (dk_at dksX4_readCalls_2 13 rfl rfl)
theorem dX4_readCalls_62 : decode cX4_readCalls 62 = .ok (.iconst 3, 1) := dk_6 (dk_at dksX4_readCalls_2 16 rfl rfl)
theorem dX4_readCalls_63 : decode cX4_readCalls 63 = .ok (.iload_n 2, 1) := dk_28 (dk_at dksX4_readCalls_2 17 rfl rfl)
theorem dX4_readCalls_64 : decode cX4_readCalls 64 = .ok (.imul, 1) := dk_104 (dk_at dksX4_readCalls_2 18 rfl rfl)
theorem dX4_readCalls_65 : decode cX4_readCalls 65 = .ok (.iconst 2, 1) := dk_5 (dk_at dksX4_readCalls_2 19 rfl rfl)
theorem dX4_readCalls_66 : decode cX4_readCalls 66 = .ok (.iadd, 1) := dk_96 (dk_at dksX4_readCalls_2 20 rfl rfl)
theorem dX4_readCalls_67 : decode cX4_readCalls 67 = .ok (.iaload, 1) := dk_46 (dk_at dksX4_readCalls_2 21 rfl rfl)
theorem dX4_readCalls_68 : decode cX4_readCalls 68 = .ok (.invokevirtual 94, 3) := dk_182 0 94 (dk_at dksX4_readCalls_3 0 rfl rfl)
theorem dX4_readCalls_71 : decode cX4_readCalls 71 = .ok (.istore_n 3, 1) := dk_62 (dk_at dksX4_readCalls_3 3 rfl rfl)
theorem dX4_readCalls_72 : decode cX4_readCalls 72 = .ok (.iload_n 3, 1) := dk_29 (dk_at dksX4_readCalls_3 4 rfl rfl)
theorem dX4_readCalls_73 : decode cX4_readCalls 73 = .ok (.ifCond .eq 18, 3) := dk_153 0 18 (dk_at dksX4_readCalls_3 5 rfl rfl)
theorem dX4_readCalls_76 : decode cX4_readCalls 76 = .ok (.aload_n 0, 1) := dk_42 (dk_at dksX4_readCalls_3 8 rfl rfl)
theorem dX4_readCalls_77 : decode cX4_readCalls 77 = .ok (.getfield 19, 3) := dk_180 0 19 (dk_at dksX4_readCalls_3 9 rfl rfl)
theorem dX4_readCalls_80 : decode cX4_readCalls 80 = .ok (.iconst 0, 1) := dk_3 (dk_at dksX4_readCalls_3 12 rfl rfl)
theorem dX4_readCalls_81 : decode cX4_readCalls 81 = .ok (.aload_n 0, 1) := dk_42 (dk_at dksX4_readCalls_3 13 rfl rfl)
theorem dX4_readCalls_82 : decode cX4_readCalls 82 = .ok (.getfield 7, 3) := dk_180 0 7 (dk_at dksX4_readCalls_3 14 rfl rfl)
theorem dX4_readCalls_85 : decode cX4_readCalls 85 = .ok (.iconst 0, 1) := dk_3 (dk_at dksX4_readCalls_3 17 rfl rfl)
theorem dX4_readCalls_86 : decode cX4_readCalls 86 = .ok (.invokestatic 44, 3) := dk_184 0 44 (dk_at dksX4_readCalls_3 18 rfl rfl)
theorem dX4_readCalls_89 : decode cX4_readCalls 89 = .ok (.iload_n 3, 1) := dk_29 (dk_at dksX4_readCalls_3 21 rfl rfl)
theorem dX4_readCalls_90 : decode cX4_readCalls 90 = .ok (.ireturn, 1) := dk_172 (dk_at dksX4_readCalls_3 22 rfl rfl)
theorem dX4_readCalls_91 : decode cX4_readCalls 91 = .ok (.aload_n 0, 1) := dk_42 (dk_at dksX4_readCalls_3 23 rfl rfl)
theorem dX4_readCalls_92 : decode cX4_readCalls 92 = .ok (.aload_n 0, 1) := dk_42 (dk_at dksX4_readCalls_4 0 rfl rfl)
theorem dX4_readCalls_93 : decode cX4_readCalls 93 = .ok (.getfield 34, 3) := dk_180 0 34 (dk_at dksX4_readCalls_4 1 rfl rfl)
theorem dX4_readCalls_96 : decode cX4_readCalls 96 = .ok (.iconst 3, 1) := dk_6 (dk_at dksX4_readCalls_4 4 rfl rfl)
theorem dX4_readCalls_97 : decode cX4_readCalls 97 = .ok (.iload_n 2, 1) := dk_28 (dk_at dksX4_readCalls_4 5 rfl rfl)
theorem dX4_readCalls_98 : decode cX4_readCalls 98 = .ok (.imul, 1) := dk_104 (dk_at dksX4_readCalls_4 6 rfl rfl)
theorem dX4_readCalls_99 : decode cX4_readCalls 99 = .ok (.iaload, 1) := dk_46 (dk_at dksX4_readCalls_4 7 rfl rfl)
theorem dX4_readCalls_100 : decode cX4_readCalls 100 = .ok (.aload_n 0, 1) := dk_42 (dk_at dksX4_readCalls_4 8 rfl rfl)
theorem dX4_readCalls_101 : decode cX4_readCalls 101 = .ok (.getfield 34, 3) := dk_180 0 34 (dk_at dksX4_readCalls_4 9 rfl rfl)
theorem dX4_readCalls_104 : decode cX4_readCalls 104 = .ok (.iconst 3, 1) := dk_6 (dk_at dksX4_readCalls_4 12 rfl rfl)
theorem dX4_readCalls_105 : decode cX4_readCalls 105 = .ok (.iload_n 2, 1) := dk_28 (dk_at dksX4_readCalls_4 13 rfl rfl)
theorem dX4_readCalls_106 : decode cX4_readCalls 106 = .ok (.imul, 1) := dk_104 (dk_at dksX4_readCalls_4 14 rfl rfl)
theorem dX4_readCalls_107 : decode cX4_readCalls 107 = .ok (.iconst 1, 1) := dk_4 (dk_at dksX4_readCalls_4 15 rfl rfl)
theorem dX4_readCalls_108 : decode cX4_readCalls 108 = .ok (.iadd, 1) := dk_96 (dk_at dksX4_readCalls_4 16 rfl rfl)
theorem dX4_readCalls_109 : decode cX4_readCalls 109 = .ok (.iaload, 1) := dk_46 (dk_at dksX4_readCalls_4 17 rfl rfl)
theorem dX4_readCalls_110 : decode cX4_readCalls 110 = .ok (.aload_n 0, 1) := dk_42 (dk_at dksX4_readCalls_4 18 rfl rfl)
theorem dX4_readCalls_111 : decode cX4_readCalls 111 = .ok (.getfield 34, 3) := dk_180 0 34 (dk_at dksX4_readCalls_4 19 rfl rfl)
theorem dX4_readCalls_114 : decode cX4_readCalls 114 = .ok (.iconst 3, 1) := dk_6 (dk_at dksX4_readCalls_4 22 rfl rfl)
theorem dX4_readCalls_115 : decode cX4_readCalls 115 = .ok (.iload_n 2, 1) := dk_28 (dk_at dksX4_readCalls_4 23 rfl rfl)
theorem dX4_readCalls_116 : decode cX4_readCalls 116 = .ok (.imul, 1) := dk_104 (dk_at dksX4_readCalls_5 0 rfl rfl)
theorem dX4_readCalls_117 : decode cX4_readCalls 117 = .ok (.iconst 2, 1) := dk_5 (dk_at dksX4_readCalls_5 1 rfl rfl)
theorem dX4_readCalls_118 : decode cX4_readCalls 118 = .ok (.iadd, 1) := dk_96 (dk_at dksX4_readCalls_5 2 rfl rfl)
theorem dX4_readCalls_119 : decode cX4_readCalls 119 = .ok (.iaload, 1) := dk_46 (dk_at dksX4_readCalls_5 3 rfl rfl)
theorem dX4_readCalls_120 : decode cX4_readCalls 120 = .ok (.invokevirtual 98, 3) := dk_182 0 98 (dk_at dksX4_readCalls_5 4 rfl rfl)
theorem dX4_readCalls_123 : decode cX4_readCalls 123 = .ok (.iinc 2 1, 3) := dk_132 2 1 (dk_at dksX4_readCalls_5 7 rfl rfl)
theorem dX4_readCalls_126 : decode cX4_readCalls 126 = .ok (.goto (-95), 3) := dk_167 255 161 (dk_at dksX4_readCalls_5 10 rfl rfl)
theorem dX4_readCalls_129 : decode cX4_readCalls 129 = .ok (.aload_n 0, 1) := dk_42 (dk_at dksX4_readCalls_5 13 rfl rfl)
theorem dX4_readCalls_130 : decode cX4_readCalls 130 = .ok (.getfield 19, 3) := dk_180 0 19 (dk_at dksX4_readCalls_5 14 rfl rfl)
theorem dX4_readCalls_133 : decode cX4_readCalls 133 = .ok (.iconst 0, 1) := dk_3 (dk_at dksX4_readCalls_5 17 rfl rfl)
theorem dX4_readCalls_134 : decode cX4_readCalls 134 = .ok (.aload_n 0, 1) := dk_42 (dk_at dksX4_readCalls_5 18 rfl rfl)
theorem dX4_readCalls_135 : decode cX4_readCalls 135 = .ok (.getfield 7, 3) := dk_180 0 7 (dk_at dksX4_readCalls_5 19 rfl rfl)
theorem dX4_readCalls_138 : decode cX4_readCalls 138 = .ok (.iconst 0, 1) := dk_3 (dk_at dksX4_readCalls_5 22 rfl rfl)
theorem dX4_readCalls_139 : decode cX4_readCalls 139 = .ok (.invokestatic 44, 3) := dk_184 0 44 (dk_at dksX4_readCalls_6 0 rfl rfl)
theorem dX4_readCalls_142 : decode cX4_readCalls 142 = .ok (.aload_n 0, 1) := dk_42 (dk_at dksX4_readCalls_6 3 rfl rfl)
theorem dX4_readCalls_143 : decode cX4_readCalls 143 = .ok (.invokevirtual 61, 3) := dk_182 0 61 (dk_at dksX4_readCalls_6 4 rfl rfl)
theorem dX4_readCalls_146 : decode cX4_readCalls 146 = .ok (.iconst 0, 1) := dk_3 (dk_at dksX4_readCalls_6 7 rfl rfl)
theorem dX4_readCalls_147 : decode cX4_readCalls 147 = .ok (.istore_n 2, 1) := dk_61 (dk_at dksX4_readCalls_6 8 rfl rfl)
theorem dX4_readCalls_148 : decode cX4_readCalls 148 = .ok (.iload_n 2, 1) := dk_28 (dk_at dksX4_readCalls_6 9 rfl rfl)
theorem dX4_readCalls_149 : decode cX4_readCalls 149 = .ok (.aload_n 0, 1) := dk_42 (dk_at dksX4_readCalls_6 10 rfl rfl)
theorem dX4_readCalls_150 : decode cX4_readCalls 150 = .ok (.getfield 187, 3) := dk_180 0 187 (dk_at dksX4_readCalls_6 11 rfl rfl)
theorem dX4_readCalls_153 : decode cX4_readCalls 153 = .ok (.if_icmp .ge 41, 3) := dk_162 0 41 (dk_at dksX4_readCalls_6 14 rfl rfl)
theorem dX4_readCalls_156 : decode cX4_readCalls 156 = .ok (.aload_n 0, 1) := dk_42 (dk_at dksX4_readCalls_6 17 rfl rfl)
theorem dX4_readCalls_157 : decode cX4_readCalls 157 = .ok (.aload_n 0, 1) := dk_42 (dk_at dksX4_readCalls_6 18 rfl rfl)
theorem dX4_readCalls_158 : decode cX4_readCalls 158 = .ok (.getfield 34, 3) := dk_180 0 34 (dk_at dksX4_readCalls_6 19 rfl rfl)
theorem dX4_readCalls_161 : decode cX4_readCalls 161 = .ok (.iconst 3, 1) := dk_6 (dk_at dksX4_readCalls_6 22 rfl rfl)
theorem dX4_readCalls_162 : decode cX4_readCalls 162 = .ok (.iload_n 2, 1) := dk_28 (dk_at dksX4_readCalls_6 23 rfl rfl)
theorem dX4_readCalls_163 : decode cX4_readCalls 163 = .ok (.imul, 1) := dk_104 (dk_at dksX4_readCalls_7 0 rfl rfl)
theorem dX4_readCalls_164 : decode cX4_readCalls 164 = .ok (.iaload, 1) := dk_46 (dk_at dksX4_readCalls_7 1 rfl rfl)
theorem dX4_readCalls_165 : decode cX4_readCalls 165 = .ok (.aload_n 0, 1) := dk_42 (dk_at dksX4_readCalls_7 2 rfl rfl)
theorem dX4_readCalls_166 : decode cX4_readCalls 166 = .ok (.getfield 34, 3) := dk_180 0 34 (dk_at dksX4_readCalls_7 3 rfl rfl)
theorem dX4_readCalls_169 : decode cX4_readCalls 169 = .ok (.iconst 3, 1) := dk_6 (dk_at dksX4_readCalls_7 6 rfl rfl)
theorem dX4_readCalls_170 : decode cX4_readCalls 170 = .ok (.iload_n 2, 1) := dk_28 (dk_at dksX4_readCalls_7 7 rfl rfl)
theorem dX4_readCalls_171 : decode cX4_readCalls 171 = .ok (.imul, 1) := dk_104 (dk_at dksX4_readCalls_7 8 rfl rfl)
theorem dX4_readCalls_172 : decode cX4_readCalls 172 = .ok (.iconst 1, 1) := dk_4 (dk_at dksX4_readCalls_7 9 rfl rfl)
theorem dX4_readCalls_173 : decode cX4_readCalls 173 = .ok (.iadd, 1) := dk_96 (dk_at dksX4_readCalls_7 10 rfl rfl)
theorem dX4_readCalls_174 : decode cX4_readCalls 174 = .ok (.iaload, 1) := dk_46 (dk_at dksX4_readCalls_7 11 rfl rfl)
theorem dX4_readCalls_175 : decode cX4_readCalls 175 = .ok (.aload_n 0, 1) := dk_42 (dk_at dksX4_readCalls_7 12 rfl rfl)
theorem dX4_readCalls_176 : decode cX4_readCalls 176 = .ok (.getfield 34, 3) := dk_180 0 34 (dk_at dksX4_readCalls_7 13 rfl rfl)
theorem dX4_readCalls_179 : decode cX4_readCalls 179 = .ok (.iconst 3, 1) := dk_6 (dk_at dksX4_readCalls_7 16 rfl rfl)
theorem dX4_readCalls_180 : decode cX4_readCalls 180 = .ok (.iload_n 2, 1) := dk_28 (dk_at dksX4_readCalls_7 17 rfl rfl)
theorem dX4_readCalls_181 : decode cX4_readCalls 181 = .ok (.imul, 1) := dk_104 (dk_at dksX4_readCalls_7 18 rfl rfl)
theorem dX4_readCalls_182 : decode cX4_readCalls 182 = .ok (.iconst 2, 1) := dk_5 (dk_at dksX4_readCalls_7 19 rfl rfl)
theorem dX4_readCalls_183 : decode cX4_readCalls 183 = .ok (.iadd, 1) := dk_96 (dk_at dksX4_readCalls_7 20 rfl rfl)
theorem dX4_readCalls_184 : decode cX4_readCalls 184 = .ok (.iaload, 1) := dk_46 (dk_at dksX4_readCalls_7 21 rfl rfl)
theorem dX4_readCalls_185 : decode cX4_readCalls 185 = .ok (.invokevirtual 98, 3) := dk_182 0 98 (dk_at dksX4_readCalls_8 0 rfl rfl)
theorem dX4_readCalls_188 : decode cX4_readCalls 188 = .ok (.iinc 2 1, 3) := dk_132 2 1 (dk_at dksX4_readCalls_8 3 rfl rfl)
theorem dX4_readCalls_191 : decode cX4_readCalls 191 = .ok (.goto (-43), 3) := dk_167 255 213 (dk_at dksX4_readCalls_8 6 rfl rfl)
theorem dX4_readCalls_194 : decode cX4_readCalls 194 = .ok (.aload_n 0, 1) := dk_42 (dk_at dksX4_readCalls_8 9 rfl rfl)
theorem dX4_readCalls_195 : decode cX4_readCalls 195 = .ok (.getfield 187, 3) := dk_180 0 187 (dk_at dksX4_readCalls_8 10 rfl rfl)
theorem dX4_readCalls_198 : decode cX4_readCalls 198 = .ok (.ireturn, 1) := dk_172 (dk_at dksX4_readCalls_8 13 rfl rfl)
abbrev cX4_faultOf : ByteArray := prog_16_method_59_code
def yX4_faultOf : MethodName := ⟨RX4, "faultOf", "()I"⟩
def dkwX4_faultOf_5 : List UInt8 := [89, 180, 0, 181, 27, 153, 0, 7, 4, 167, 0, 4, 3, 96, 181, 0, 181, 167, 255, 131, 16, 251, 172]
abbrev dktX4_faultOf_5 : List UInt8 := dkwX4_faultOf_5 ++ []
def dkwX4_faultOf_4 : List UInt8 := [60, 27, 153, 0, 21, 42, 42, 180, 0, 181, 182, 0, 184, 16, 59, 159, 0, 8, 42, 180, 0, 181, 172, 42]
abbrev dktX4_faultOf_4 : List UInt8 := dkwX4_faultOf_4 ++ dktX4_faultOf_5
def dkwX4_faultOf_3 : List UInt8 := [180, 0, 187, 4, 96, 181, 0, 187, 42, 180, 0, 181, 42, 180, 0, 178, 162, 0, 7, 4, 167, 0, 4, 3]
abbrev dktX4_faultOf_3 : List UInt8 := dkwX4_faultOf_3 ++ dktX4_faultOf_4
def dkwX4_faultOf_2 : List UInt8 := [42, 16, 33, 6, 42, 180, 0, 187, 104, 5, 96, 182, 0, 190, 154, 0, 8, 42, 180, 0, 181, 172, 42, 89]
abbrev dktX4_faultOf_2 : List UInt8 := dkwX4_faultOf_2 ++ dktX4_faultOf_3
def dkwX4_faultOf_1 : List UInt8 := [104, 182, 0, 190, 153, 0, 37, 42, 16, 64, 6, 42, 180, 0, 187, 104, 4, 96, 182, 0, 190, 153, 0, 20]
abbrev dktX4_faultOf_1 : List UInt8 := dkwX4_faultOf_1 ++ dktX4_faultOf_2
def dkwX4_faultOf_0 : List UInt8 := [42, 3, 181, 0, 181, 42, 3, 181, 0, 187, 4, 60, 27, 153, 0, 127, 42, 16, 109, 6, 42, 180, 0, 187]
abbrev dktX4_faultOf_0 : List UInt8 := dkwX4_faultOf_0 ++ dktX4_faultOf_1
theorem dksX4_faultOf_0 : cX4_faultOf.data.toList.drop 0 = dktX4_faultOf_0 := by decide +kernel
theorem dksX4_faultOf_1 : cX4_faultOf.data.toList.drop 24 = dktX4_faultOf_1 := dk_seg dksX4_faultOf_0 24 rfl rfl
theorem dksX4_faultOf_2 : cX4_faultOf.data.toList.drop 48 = dktX4_faultOf_2 := dk_seg dksX4_faultOf_1 24 rfl rfl
theorem dksX4_faultOf_3 : cX4_faultOf.data.toList.drop 72 = dktX4_faultOf_3 := dk_seg dksX4_faultOf_2 24 rfl rfl
theorem dksX4_faultOf_4 : cX4_faultOf.data.toList.drop 96 = dktX4_faultOf_4 := dk_seg dksX4_faultOf_3 24 rfl rfl
theorem dksX4_faultOf_5 : cX4_faultOf.data.toList.drop 120 = dktX4_faultOf_5 := dk_seg dksX4_faultOf_4 24 rfl rfl
theorem dX4_faultOf_0 : decode cX4_faultOf 0 = .ok (.aload_n 0, 1) := dk_42 (dk_at dksX4_faultOf_0 0 rfl rfl)
theorem dX4_faultOf_1 : decode cX4_faultOf 1 = .ok (.iconst 0, 1) := dk_3 (dk_at dksX4_faultOf_0 1 rfl rfl)
theorem dX4_faultOf_2 : decode cX4_faultOf 2 = .ok (.putfield 181, 3) := dk_181 0 181 (dk_at dksX4_faultOf_0 2 rfl rfl)
theorem dX4_faultOf_5 : decode cX4_faultOf 5 = .ok (.aload_n 0, 1) := dk_42 (dk_at dksX4_faultOf_0 5 rfl rfl)
theorem dX4_faultOf_6 : decode cX4_faultOf 6 = .ok (.iconst 0, 1) := dk_3 (dk_at dksX4_faultOf_0 6 rfl rfl)
theorem dX4_faultOf_7 : decode cX4_faultOf 7 = .ok (.putfield 187, 3) := dk_181 0 187 (dk_at dksX4_faultOf_0 7 rfl rfl)
theorem dX4_faultOf_10 : decode cX4_faultOf 10 = .ok (.iconst 1, 1) := dk_4 (dk_at dksX4_faultOf_0 10 rfl rfl)
theorem dX4_faultOf_11 : decode cX4_faultOf 11 = .ok (.istore_n 1, 1) := dk_60 (dk_at dksX4_faultOf_0 11 rfl rfl)
theorem dX4_faultOf_12 : decode cX4_faultOf 12 = .ok (.iload_n 1, 1) := dk_27 (dk_at dksX4_faultOf_0 12 rfl rfl)
theorem dX4_faultOf_13 : decode cX4_faultOf 13 = .ok (.ifCond .eq 127, 3) := dk_153 0 127 (dk_at dksX4_faultOf_0 13 rfl rfl)
theorem dX4_faultOf_16 : decode cX4_faultOf 16 = .ok (.aload_n 0, 1) := dk_42 (dk_at dksX4_faultOf_0 16 rfl rfl)
theorem dX4_faultOf_17 : decode cX4_faultOf 17 = .ok (.bipush 109, 2) := dk_16 109 (dk_at dksX4_faultOf_0 17 rfl rfl)
theorem dX4_faultOf_19 : decode cX4_faultOf 19 = .ok (.iconst 3, 1) := dk_6 (dk_at dksX4_faultOf_0 19 rfl rfl)
theorem dX4_faultOf_20 : decode cX4_faultOf 20 = .ok (.aload_n 0, 1) := dk_42 (dk_at dksX4_faultOf_0 20 rfl rfl)
theorem dX4_faultOf_21 : decode cX4_faultOf 21 = .ok (.getfield 187, 3) := dk_180 0 187 (dk_at dksX4_faultOf_0 21 rfl rfl)
theorem dX4_faultOf_24 : decode cX4_faultOf 24 = .ok (.imul, 1) := dk_104 (dk_at dksX4_faultOf_1 0 rfl rfl)
theorem dX4_faultOf_25 : decode cX4_faultOf 25 = .ok (.invokevirtual 190, 3) := dk_182 0 190 (dk_at dksX4_faultOf_1 1 rfl rfl)
theorem dX4_faultOf_28 : decode cX4_faultOf 28 = .ok (.ifCond .eq 37, 3) := dk_153 0 37 (dk_at dksX4_faultOf_1 4 rfl rfl)
theorem dX4_faultOf_31 : decode cX4_faultOf 31 = .ok (.aload_n 0, 1) := dk_42 (dk_at dksX4_faultOf_1 7 rfl rfl)
theorem dX4_faultOf_32 : decode cX4_faultOf 32 = .ok (.bipush 64, 2) := dk_16 64 (dk_at dksX4_faultOf_1 8 rfl rfl)
theorem dX4_faultOf_34 : decode cX4_faultOf 34 = .ok (.iconst 3, 1) := dk_6 (dk_at dksX4_faultOf_1 10 rfl rfl)
theorem dX4_faultOf_35 : decode cX4_faultOf 35 = .ok (.aload_n 0, 1) := dk_42 (dk_at dksX4_faultOf_1 11 rfl rfl)
theorem dX4_faultOf_36 : decode cX4_faultOf 36 = .ok (.getfield 187, 3) := dk_180 0 187 (dk_at dksX4_faultOf_1 12 rfl rfl)
theorem dX4_faultOf_39 : decode cX4_faultOf 39 = .ok (.imul, 1) := dk_104 (dk_at dksX4_faultOf_1 15 rfl rfl)
theorem dX4_faultOf_40 : decode cX4_faultOf 40 = .ok (.iconst 1, 1) := dk_4 (dk_at dksX4_faultOf_1 16 rfl rfl)
theorem dX4_faultOf_41 : decode cX4_faultOf 41 = .ok (.iadd, 1) := dk_96 (dk_at dksX4_faultOf_1 17 rfl rfl)
theorem dX4_faultOf_42 : decode cX4_faultOf 42 = .ok (.invokevirtual 190, 3) := dk_182 0 190 (dk_at dksX4_faultOf_1 18 rfl rfl)
theorem dX4_faultOf_45 : decode cX4_faultOf 45 = .ok (.ifCond .eq 20, 3) := dk_153 0 20 (dk_at dksX4_faultOf_1 21 rfl rfl)
theorem dX4_faultOf_48 : decode cX4_faultOf 48 = .ok (.aload_n 0, 1) := dk_42 (dk_at dksX4_faultOf_2 0 rfl rfl)
theorem dX4_faultOf_49 : decode cX4_faultOf 49 = .ok (.bipush 33, 2) := dk_16 33 (dk_at dksX4_faultOf_2 1 rfl rfl)
theorem dX4_faultOf_51 : decode cX4_faultOf 51 = .ok (.iconst 3, 1) := dk_6 (dk_at dksX4_faultOf_2 3 rfl rfl)
theorem dX4_faultOf_52 : decode cX4_faultOf 52 = .ok (.aload_n 0, 1) := dk_42 (dk_at dksX4_faultOf_2 4 rfl rfl)
theorem dX4_faultOf_53 : decode cX4_faultOf 53 = .ok (.getfield 187, 3) := dk_180 0 187 (dk_at dksX4_faultOf_2 5 rfl rfl)
theorem dX4_faultOf_56 : decode cX4_faultOf 56 = .ok (.imul, 1) := dk_104 (dk_at dksX4_faultOf_2 8 rfl rfl)
theorem dX4_faultOf_57 : decode cX4_faultOf 57 = .ok (.iconst 2, 1) := dk_5 (dk_at dksX4_faultOf_2 9 rfl rfl)
theorem dX4_faultOf_58 : decode cX4_faultOf 58 = .ok (.iadd, 1) := dk_96 (dk_at dksX4_faultOf_2 10 rfl rfl)
theorem dX4_faultOf_59 : decode cX4_faultOf 59 = .ok (.invokevirtual 190, 3) := dk_182 0 190 (dk_at dksX4_faultOf_2 11 rfl rfl)
theorem dX4_faultOf_62 : decode cX4_faultOf 62 = .ok (.ifCond .ne 8, 3) := dk_154 0 8 (dk_at dksX4_faultOf_2 14 rfl rfl)
theorem dX4_faultOf_65 : decode cX4_faultOf 65 = .ok (.aload_n 0, 1) := dk_42 (dk_at dksX4_faultOf_2 17 rfl rfl)
theorem dX4_faultOf_66 : decode cX4_faultOf 66 = .ok (.getfield 181, 3) := dk_180 0 181 (dk_at dksX4_faultOf_2 18 rfl rfl)
theorem dX4_faultOf_69 : decode cX4_faultOf 69 = .ok (.ireturn, 1) := dk_172 (dk_at dksX4_faultOf_2 21 rfl rfl)
theorem dX4_faultOf_70 : decode cX4_faultOf 70 = .ok (.aload_n 0, 1) := dk_42 (dk_at dksX4_faultOf_2 22 rfl rfl)
theorem dX4_faultOf_71 : decode cX4_faultOf 71 = .ok (.dup, 1) := dk_89 (dk_at dksX4_faultOf_2 23 rfl rfl)
theorem dX4_faultOf_72 : decode cX4_faultOf 72 = .ok (.getfield 187, 3) := dk_180 0 187 (dk_at dksX4_faultOf_3 0 rfl rfl)
theorem dX4_faultOf_75 : decode cX4_faultOf 75 = .ok (.iconst 1, 1) := dk_4 (dk_at dksX4_faultOf_3 3 rfl rfl)
theorem dX4_faultOf_76 : decode cX4_faultOf 76 = .ok (.iadd, 1) := dk_96 (dk_at dksX4_faultOf_3 4 rfl rfl)
theorem dX4_faultOf_77 : decode cX4_faultOf 77 = .ok (.putfield 187, 3) := dk_181 0 187 (dk_at dksX4_faultOf_3 5 rfl rfl)
theorem dX4_faultOf_80 : decode cX4_faultOf 80 = .ok (.aload_n 0, 1) := dk_42 (dk_at dksX4_faultOf_3 8 rfl rfl)
theorem dX4_faultOf_81 : decode cX4_faultOf 81 = .ok (.getfield 181, 3) := dk_180 0 181 (dk_at dksX4_faultOf_3 9 rfl rfl)
theorem dX4_faultOf_84 : decode cX4_faultOf 84 = .ok (.aload_n 0, 1) := dk_42 (dk_at dksX4_faultOf_3 12 rfl rfl)
theorem dX4_faultOf_85 : decode cX4_faultOf 85 = .ok (.getfield 178, 3) := dk_180 0 178 (dk_at dksX4_faultOf_3 13 rfl rfl)
theorem dX4_faultOf_88 : decode cX4_faultOf 88 = .ok (.if_icmp .ge 7, 3) := dk_162 0 7 (dk_at dksX4_faultOf_3 16 rfl rfl)
theorem dX4_faultOf_91 : decode cX4_faultOf 91 = .ok (.iconst 1, 1) := dk_4 (dk_at dksX4_faultOf_3 19 rfl rfl)
theorem dX4_faultOf_92 : decode cX4_faultOf 92 = .ok (.goto 4, 3) := dk_167 0 4 (dk_at dksX4_faultOf_3 20 rfl rfl)
theorem dX4_faultOf_95 : decode cX4_faultOf 95 = .ok (.iconst 0, 1) := dk_3 (dk_at dksX4_faultOf_3 23 rfl rfl)
theorem dX4_faultOf_96 : decode cX4_faultOf 96 = .ok (.istore_n 1, 1) := dk_60 (dk_at dksX4_faultOf_4 0 rfl rfl)
theorem dX4_faultOf_97 : decode cX4_faultOf 97 = .ok (.iload_n 1, 1) := dk_27 (dk_at dksX4_faultOf_4 1 rfl rfl)
theorem dX4_faultOf_98 : decode cX4_faultOf 98 = .ok (.ifCond .eq 21, 3) := dk_153 0 21 (dk_at dksX4_faultOf_4 2 rfl rfl)
theorem dX4_faultOf_101 : decode cX4_faultOf 101 = .ok (.aload_n 0, 1) := dk_42 (dk_at dksX4_faultOf_4 5 rfl rfl)
theorem dX4_faultOf_102 : decode cX4_faultOf 102 = .ok (.aload_n 0, 1) := dk_42 (dk_at dksX4_faultOf_4 6 rfl rfl)
theorem dX4_faultOf_103 : decode cX4_faultOf 103 = .ok (.getfield 181, 3) := dk_180 0 181 (dk_at dksX4_faultOf_4 7 rfl rfl)
theorem dX4_faultOf_106 : decode cX4_faultOf 106 = .ok (.invokevirtual 184, 3) := dk_182 0 184 (dk_at dksX4_faultOf_4 10 rfl rfl)
theorem dX4_faultOf_109 : decode cX4_faultOf 109 = .ok (.bipush 59, 2) := dk_16 59 (dk_at dksX4_faultOf_4 13 rfl rfl)
theorem dX4_faultOf_111 : decode cX4_faultOf 111 = .ok (.if_icmp .eq 8, 3) := dk_159 0 8 (dk_at dksX4_faultOf_4 15 rfl rfl)
theorem dX4_faultOf_114 : decode cX4_faultOf 114 = .ok (.aload_n 0, 1) := dk_42 (dk_at dksX4_faultOf_4 18 rfl rfl)
theorem dX4_faultOf_115 : decode cX4_faultOf 115 = .ok (.getfield 181, 3) := dk_180 0 181 (dk_at dksX4_faultOf_4 19 rfl rfl)
theorem dX4_faultOf_118 : decode cX4_faultOf 118 = .ok (.ireturn, 1) := dk_172 (dk_at dksX4_faultOf_4 22 rfl rfl)
theorem dX4_faultOf_119 : decode cX4_faultOf 119 = .ok (.aload_n 0, 1) := dk_42 (dk_at dksX4_faultOf_4 23 rfl rfl)
theorem dX4_faultOf_120 : decode cX4_faultOf 120 = .ok (.dup, 1) := dk_89 (dk_at dksX4_faultOf_5 0 rfl rfl)
theorem dX4_faultOf_121 : decode cX4_faultOf 121 = .ok (.getfield 181, 3) := dk_180 0 181 (dk_at dksX4_faultOf_5 1 rfl rfl)
theorem dX4_faultOf_124 : decode cX4_faultOf 124 = .ok (.iload_n 1, 1) := dk_27 (dk_at dksX4_faultOf_5 4 rfl rfl)
theorem dX4_faultOf_125 : decode cX4_faultOf 125 = .ok (.ifCond .eq 7, 3) := dk_153 0 7 (dk_at dksX4_faultOf_5 5 rfl rfl)
theorem dX4_faultOf_128 : decode cX4_faultOf 128 = .ok (.iconst 1, 1) := dk_4 (dk_at dksX4_faultOf_5 8 rfl rfl)
theorem dX4_faultOf_129 : decode cX4_faultOf 129 = .ok (.goto 4, 3) := dk_167 0 4 (dk_at dksX4_faultOf_5 9 rfl rfl)
theorem dX4_faultOf_132 : decode cX4_faultOf 132 = .ok (.iconst 0, 1) := dk_3 (dk_at dksX4_faultOf_5 12 rfl rfl)
theorem dX4_faultOf_133 : decode cX4_faultOf 133 = .ok (.iadd, 1) := dk_96 (dk_at dksX4_faultOf_5 13 rfl rfl)
theorem dX4_faultOf_134 : decode cX4_faultOf 134 = .ok (.putfield 181, 3) := dk_181 0 181 (dk_at dksX4_faultOf_5 14 rfl rfl)
theorem dX4_faultOf_137 : decode cX4_faultOf 137 = .ok (.goto (-125), 3) := dk_167 255 131 (dk_at dksX4_faultOf_5 17 rfl rfl)
theorem dX4_faultOf_140 : decode cX4_faultOf 140 = .ok (.bipush (-5), 2) := dk_16 251 (dk_at dksX4_faultOf_5 20 rfl rfl)
theorem dX4_faultOf_142 : decode cX4_faultOf 142 = .ok (.ireturn, 1) := dk_172 (dk_at dksX4_faultOf_5 22 rfl rfl)
abbrev cX4_reads : ByteArray := prog_16_method_58_code
def yX4_reads : MethodName := ⟨RX4, "reads", "(II)Z"⟩
def dkwX4_reads_5 : List UInt8 := [180, 0, 34, 28, 29, 79, 4, 172]
abbrev dktX4_reads_5 : List UInt8 := dkwX4_reads_5 ++ []
def dkwX4_reads_4 : List UInt8 := [180, 0, 181, 182, 0, 184, 96, 16, 48, 100, 62, 42, 89, 180, 0, 181, 4, 96, 181, 0, 181, 42]
abbrev dktX4_reads_4 : List UInt8 := dkwX4_reads_4 ++ dktX4_reads_5
def dkwX4_reads_3 : List UInt8 := [42, 42, 180, 0, 181, 182, 0, 184, 16, 48, 16, 57, 184, 0, 48, 153, 0, 30, 16, 10, 29, 104, 42, 42]
abbrev dktX4_reads_3 : List UInt8 := dkwX4_reads_3 ++ dktX4_reads_4
def dkwX4_reads_2 : List UInt8 := [180, 0, 181, 182, 0, 184, 16, 48, 100, 62, 42, 89, 180, 0, 181, 4, 96, 181, 0, 181, 29, 158, 0, 48]
abbrev dktX4_reads_2 : List UInt8 := dkwX4_reads_2 ++ dktX4_reads_3
def dkwX4_reads_1 : List UInt8 := [42, 42, 180, 0, 181, 182, 0, 184, 16, 48, 16, 57, 184, 0, 48, 154, 0, 5, 3, 172, 42, 42]
abbrev dktX4_reads_1 : List UInt8 := dkwX4_reads_1 ++ dktX4_reads_2
def dkwX4_reads_0 : List UInt8 := [42, 42, 180, 0, 181, 182, 0, 184, 27, 159, 0, 5, 3, 172, 42, 89, 180, 0, 181, 4, 96, 181, 0, 181]
abbrev dktX4_reads_0 : List UInt8 := dkwX4_reads_0 ++ dktX4_reads_1
theorem dksX4_reads_0 : cX4_reads.data.toList.drop 0 = dktX4_reads_0 := by decide +kernel
theorem dksX4_reads_1 : cX4_reads.data.toList.drop 24 = dktX4_reads_1 := dk_seg dksX4_reads_0 24 rfl rfl
theorem dksX4_reads_2 : cX4_reads.data.toList.drop 46 = dktX4_reads_2 := dk_seg dksX4_reads_1 22 rfl rfl
theorem dksX4_reads_3 : cX4_reads.data.toList.drop 70 = dktX4_reads_3 := dk_seg dksX4_reads_2 24 rfl rfl
theorem dksX4_reads_4 : cX4_reads.data.toList.drop 94 = dktX4_reads_4 := dk_seg dksX4_reads_3 24 rfl rfl
theorem dksX4_reads_5 : cX4_reads.data.toList.drop 116 = dktX4_reads_5 := dk_seg dksX4_reads_4 22 rfl rfl
theorem dX4_reads_0 : decode cX4_reads 0 = .ok (.aload_n 0, 1) := dk_42 (dk_at dksX4_reads_0 0 rfl rfl)
theorem dX4_reads_1 : decode cX4_reads 1 = .ok (.aload_n 0, 1) := dk_42 (dk_at dksX4_reads_0 1 rfl rfl)
theorem dX4_reads_2 : decode cX4_reads 2 = .ok (.getfield 181, 3) := dk_180 0 181 (dk_at dksX4_reads_0 2 rfl rfl)
theorem dX4_reads_5 : decode cX4_reads 5 = .ok (.invokevirtual 184, 3) := dk_182 0 184 (dk_at dksX4_reads_0 5 rfl rfl)
theorem dX4_reads_8 : decode cX4_reads 8 = .ok (.iload_n 1, 1) := dk_27 (dk_at dksX4_reads_0 8 rfl rfl)
theorem dX4_reads_9 : decode cX4_reads 9 = .ok (.if_icmp .eq 5, 3) := dk_159 0 5 (dk_at dksX4_reads_0 9 rfl rfl)
theorem dX4_reads_12 : decode cX4_reads 12 = .ok (.iconst 0, 1) := dk_3 (dk_at dksX4_reads_0 12 rfl rfl)
theorem dX4_reads_13 : decode cX4_reads 13 = .ok (.ireturn, 1) := dk_172 (dk_at dksX4_reads_0 13 rfl rfl)
theorem dX4_reads_14 : decode cX4_reads 14 = .ok (.aload_n 0, 1) := dk_42 (dk_at dksX4_reads_0 14 rfl rfl)
theorem dX4_reads_15 : decode cX4_reads 15 = .ok (.dup, 1) := dk_89 (dk_at dksX4_reads_0 15 rfl rfl)
theorem dX4_reads_16 : decode cX4_reads 16 = .ok (.getfield 181, 3) := dk_180 0 181 (dk_at dksX4_reads_0 16 rfl rfl)
theorem dX4_reads_19 : decode cX4_reads 19 = .ok (.iconst 1, 1) := dk_4 (dk_at dksX4_reads_0 19 rfl rfl)
theorem dX4_reads_20 : decode cX4_reads 20 = .ok (.iadd, 1) := dk_96 (dk_at dksX4_reads_0 20 rfl rfl)
theorem dX4_reads_21 : decode cX4_reads 21 = .ok (.putfield 181, 3) := dk_181 0 181 (dk_at dksX4_reads_0 21 rfl rfl)
theorem dX4_reads_24 : decode cX4_reads 24 = .ok (.aload_n 0, 1) := dk_42 (dk_at dksX4_reads_1 0 rfl rfl)
theorem dX4_reads_25 : decode cX4_reads 25 = .ok (.aload_n 0, 1) := dk_42 (dk_at dksX4_reads_1 1 rfl rfl)
theorem dX4_reads_26 : decode cX4_reads 26 = .ok (.getfield 181, 3) := dk_180 0 181 (dk_at dksX4_reads_1 2 rfl rfl)
theorem dX4_reads_29 : decode cX4_reads 29 = .ok (.invokevirtual 184, 3) := dk_182 0 184 (dk_at dksX4_reads_1 5 rfl rfl)
theorem dX4_reads_32 : decode cX4_reads 32 = .ok (.bipush 48, 2) := dk_16 48 (dk_at dksX4_reads_1 8 rfl rfl)
theorem dX4_reads_34 : decode cX4_reads 34 = .ok (.bipush 57, 2) := dk_16 57 (dk_at dksX4_reads_1 10 rfl rfl)
theorem dX4_reads_36 : decode cX4_reads 36 = .ok (.invokestatic 48, 3) := dk_184 0 48 (dk_at dksX4_reads_1 12 rfl rfl)
theorem dX4_reads_39 : decode cX4_reads 39 = .ok (.ifCond .ne 5, 3) := dk_154 0 5 (dk_at dksX4_reads_1 15 rfl rfl)
theorem dX4_reads_42 : decode cX4_reads 42 = .ok (.iconst 0, 1) := dk_3 (dk_at dksX4_reads_1 18 rfl rfl)
theorem dX4_reads_43 : decode cX4_reads 43 = .ok (.ireturn, 1) := dk_172 (dk_at dksX4_reads_1 19 rfl rfl)
theorem dX4_reads_44 : decode cX4_reads 44 = .ok (.aload_n 0, 1) := dk_42 (dk_at dksX4_reads_1 20 rfl rfl)
theorem dX4_reads_45 : decode cX4_reads 45 = .ok (.aload_n 0, 1) := dk_42 (dk_at dksX4_reads_1 21 rfl rfl)
theorem dX4_reads_46 : decode cX4_reads 46 = .ok (.getfield 181, 3) := dk_180 0 181 (dk_at dksX4_reads_2 0 rfl rfl)
theorem dX4_reads_49 : decode cX4_reads 49 = .ok (.invokevirtual 184, 3) := dk_182 0 184 (dk_at dksX4_reads_2 3 rfl rfl)
theorem dX4_reads_52 : decode cX4_reads 52 = .ok (.bipush 48, 2) := dk_16 48 (dk_at dksX4_reads_2 6 rfl rfl)
theorem dX4_reads_54 : decode cX4_reads 54 = .ok (.isub, 1) := dk_100 (dk_at dksX4_reads_2 8 rfl rfl)
theorem dX4_reads_55 : decode cX4_reads 55 = .ok (.istore_n 3, 1) := dk_62 (dk_at dksX4_reads_2 9 rfl rfl)
theorem dX4_reads_56 : decode cX4_reads 56 = .ok (.aload_n 0, 1) := dk_42 (dk_at dksX4_reads_2 10 rfl rfl)
theorem dX4_reads_57 : decode cX4_reads 57 = .ok (.dup, 1) := dk_89 (dk_at dksX4_reads_2 11 rfl rfl)
theorem dX4_reads_58 : decode cX4_reads 58 = .ok (.getfield 181, 3) := dk_180 0 181 (dk_at dksX4_reads_2 12 rfl rfl)
theorem dX4_reads_61 : decode cX4_reads 61 = .ok (.iconst 1, 1) := dk_4 (dk_at dksX4_reads_2 15 rfl rfl)
theorem dX4_reads_62 : decode cX4_reads 62 = .ok (.iadd, 1) := dk_96 (dk_at dksX4_reads_2 16 rfl rfl)
theorem dX4_reads_63 : decode cX4_reads 63 = .ok (.putfield 181, 3) := dk_181 0 181 (dk_at dksX4_reads_2 17 rfl rfl)
theorem dX4_reads_66 : decode cX4_reads 66 = .ok (.iload_n 3, 1) := dk_29 (dk_at dksX4_reads_2 20 rfl rfl)
theorem dX4_reads_67 : decode cX4_reads 67 = .ok (.ifCond .le 48, 3) := dk_158 0 48 (dk_at dksX4_reads_2 21 rfl rfl)
theorem dX4_reads_70 : decode cX4_reads 70 = .ok (.aload_n 0, 1) := dk_42 (dk_at dksX4_reads_3 0 rfl rfl)
theorem dX4_reads_71 : decode cX4_reads 71 = .ok (.aload_n 0, 1) := dk_42 (dk_at dksX4_reads_3 1 rfl rfl)
theorem dX4_reads_72 : decode cX4_reads 72 = .ok (.getfield 181, 3) := dk_180 0 181 (dk_at dksX4_reads_3 2 rfl rfl)
theorem dX4_reads_75 : decode cX4_reads 75 = .ok (.invokevirtual 184, 3) := dk_182 0 184 (dk_at dksX4_reads_3 5 rfl rfl)
theorem dX4_reads_78 : decode cX4_reads 78 = .ok (.bipush 48, 2) := dk_16 48 (dk_at dksX4_reads_3 8 rfl rfl)
theorem dX4_reads_80 : decode cX4_reads 80 = .ok (.bipush 57, 2) := dk_16 57 (dk_at dksX4_reads_3 10 rfl rfl)
theorem dX4_reads_82 : decode cX4_reads 82 = .ok (.invokestatic 48, 3) := dk_184 0 48 (dk_at dksX4_reads_3 12 rfl rfl)
theorem dX4_reads_85 : decode cX4_reads 85 = .ok (.ifCond .eq 30, 3) := dk_153 0 30 (dk_at dksX4_reads_3 15 rfl rfl)
theorem dX4_reads_88 : decode cX4_reads 88 = .ok (.bipush 10, 2) := dk_16 10 (dk_at dksX4_reads_3 18 rfl rfl)
theorem dX4_reads_90 : decode cX4_reads 90 = .ok (.iload_n 3, 1) := dk_29 (dk_at dksX4_reads_3 20 rfl rfl)
theorem dX4_reads_91 : decode cX4_reads 91 = .ok (.imul, 1) := dk_104 (dk_at dksX4_reads_3 21 rfl rfl)
theorem dX4_reads_92 : decode cX4_reads 92 = .ok (.aload_n 0, 1) := dk_42 (dk_at dksX4_reads_3 22 rfl rfl)
theorem dX4_reads_93 : decode cX4_reads 93 = .ok (.aload_n 0, 1) := dk_42 (dk_at dksX4_reads_3 23 rfl rfl)
theorem dX4_reads_94 : decode cX4_reads 94 = .ok (.getfield 181, 3) := dk_180 0 181 (dk_at dksX4_reads_4 0 rfl rfl)
theorem dX4_reads_97 : decode cX4_reads 97 = .ok (.invokevirtual 184, 3) := dk_182 0 184 (dk_at dksX4_reads_4 3 rfl rfl)
theorem dX4_reads_100 : decode cX4_reads 100 = .ok (.iadd, 1) := dk_96 (dk_at dksX4_reads_4 6 rfl rfl)
theorem dX4_reads_101 : decode cX4_reads 101 = .ok (.bipush 48, 2) := dk_16 48 (dk_at dksX4_reads_4 7 rfl rfl)
theorem dX4_reads_103 : decode cX4_reads 103 = .ok (.isub, 1) := dk_100 (dk_at dksX4_reads_4 9 rfl rfl)
theorem dX4_reads_104 : decode cX4_reads 104 = .ok (.istore_n 3, 1) := dk_62 (dk_at dksX4_reads_4 10 rfl rfl)
theorem dX4_reads_105 : decode cX4_reads 105 = .ok (.aload_n 0, 1) := dk_42 (dk_at dksX4_reads_4 11 rfl rfl)
theorem dX4_reads_106 : decode cX4_reads 106 = .ok (.dup, 1) := dk_89 (dk_at dksX4_reads_4 12 rfl rfl)
theorem dX4_reads_107 : decode cX4_reads 107 = .ok (.getfield 181, 3) := dk_180 0 181 (dk_at dksX4_reads_4 13 rfl rfl)
theorem dX4_reads_110 : decode cX4_reads 110 = .ok (.iconst 1, 1) := dk_4 (dk_at dksX4_reads_4 16 rfl rfl)
theorem dX4_reads_111 : decode cX4_reads 111 = .ok (.iadd, 1) := dk_96 (dk_at dksX4_reads_4 17 rfl rfl)
theorem dX4_reads_112 : decode cX4_reads 112 = .ok (.putfield 181, 3) := dk_181 0 181 (dk_at dksX4_reads_4 18 rfl rfl)
theorem dX4_reads_115 : decode cX4_reads 115 = .ok (.aload_n 0, 1) := dk_42 (dk_at dksX4_reads_4 21 rfl rfl)
theorem dX4_reads_116 : decode cX4_reads 116 = .ok (.getfield 34, 3) := dk_180 0 34 (dk_at dksX4_reads_5 0 rfl rfl)
theorem dX4_reads_119 : decode cX4_reads 119 = .ok (.iload_n 2, 1) := dk_28 (dk_at dksX4_reads_5 3 rfl rfl)
theorem dX4_reads_120 : decode cX4_reads 120 = .ok (.iload_n 3, 1) := dk_29 (dk_at dksX4_reads_5 4 rfl rfl)
theorem dX4_reads_121 : decode cX4_reads 121 = .ok (.iastore, 1) := dk_79 (dk_at dksX4_reads_5 5 rfl rfl)
theorem dX4_reads_122 : decode cX4_reads 122 = .ok (.iconst 1, 1) := dk_4 (dk_at dksX4_reads_5 6 rfl rfl)
theorem dX4_reads_123 : decode cX4_reads 123 = .ok (.ireturn, 1) := dk_172 (dk_at dksX4_reads_5 7 rfl rfl)
abbrev cX4_signAt : ByteArray := prog_16_method_57_code
def yX4_signAt : MethodName := ⟨RX4, "signAt", "(I)I"⟩
def dkwX4_signAt_0 : List UInt8 := [27, 42, 180, 0, 178, 162, 0, 12, 42, 180, 0, 22, 27, 46, 167, 0, 5, 16, 251, 172]
abbrev dktX4_signAt_0 : List UInt8 := dkwX4_signAt_0 ++ []
theorem dksX4_signAt_0 : cX4_signAt.data.toList.drop 0 = dktX4_signAt_0 := by decide +kernel
theorem dX4_signAt_0 : decode cX4_signAt 0 = .ok (.iload_n 1, 1) := dk_27 (dk_at dksX4_signAt_0 0 rfl rfl)
theorem dX4_signAt_1 : decode cX4_signAt 1 = .ok (.aload_n 0, 1) := dk_42 (dk_at dksX4_signAt_0 1 rfl rfl)
theorem dX4_signAt_2 : decode cX4_signAt 2 = .ok (.getfield 178, 3) := dk_180 0 178 (dk_at dksX4_signAt_0 2 rfl rfl)
theorem dX4_signAt_5 : decode cX4_signAt 5 = .ok (.if_icmp .ge 12, 3) := dk_162 0 12 (dk_at dksX4_signAt_0 5 rfl rfl)
theorem dX4_signAt_8 : decode cX4_signAt 8 = .ok (.aload_n 0, 1) := dk_42 (dk_at dksX4_signAt_0 8 rfl rfl)
theorem dX4_signAt_9 : decode cX4_signAt 9 = .ok (.getfield 22, 3) := dk_180 0 22 (dk_at dksX4_signAt_0 9 rfl rfl)
theorem dX4_signAt_12 : decode cX4_signAt 12 = .ok (.iload_n 1, 1) := dk_27 (dk_at dksX4_signAt_0 12 rfl rfl)
theorem dX4_signAt_13 : decode cX4_signAt 13 = .ok (.iaload, 1) := dk_46 (dk_at dksX4_signAt_0 13 rfl rfl)
theorem dX4_signAt_14 : decode cX4_signAt 14 = .ok (.goto 5, 3) := dk_167 0 5 (dk_at dksX4_signAt_0 14 rfl rfl)
theorem dX4_signAt_17 : decode cX4_signAt 17 = .ok (.bipush (-5), 2) := dk_16 251 (dk_at dksX4_signAt_0 17 rfl rfl)
theorem dX4_signAt_19 : decode cX4_signAt 19 = .ok (.ireturn, 1) := dk_172 (dk_at dksX4_signAt_0 19 rfl rfl)
abbrev cX4_undo : ByteArray := prog_16_method_61_code
def yX4_undo : MethodName := ⟨RX4, "undo", "()I"⟩
def dkwX4_undo_2 : List UInt8 := [172]
abbrev dktX4_undo_2 : List UInt8 := dkwX4_undo_2 ++ []
def dkwX4_undo_1 : List UInt8 := [42, 180, 0, 40, 17, 3, 42, 104, 42, 180, 0, 7, 3, 184, 0, 44, 42, 182, 0, 37, 42, 180, 0, 40]
abbrev dktX4_undo_1 : List UInt8 := dkwX4_undo_1 ++ dktX4_undo_2
def dkwX4_undo_0 : List UInt8 := [42, 180, 0, 40, 154, 0, 6, 16, 251, 172, 42, 89, 180, 0, 40, 4, 100, 181, 0, 40, 42, 180, 0, 13]
abbrev dktX4_undo_0 : List UInt8 := dkwX4_undo_0 ++ dktX4_undo_1
theorem dksX4_undo_0 : cX4_undo.data.toList.drop 0 = dktX4_undo_0 := by decide +kernel
theorem dksX4_undo_1 : cX4_undo.data.toList.drop 24 = dktX4_undo_1 := dk_seg dksX4_undo_0 24 rfl rfl
theorem dksX4_undo_2 : cX4_undo.data.toList.drop 48 = dktX4_undo_2 := dk_seg dksX4_undo_1 24 rfl rfl
theorem dX4_undo_0 : decode cX4_undo 0 = .ok (.aload_n 0, 1) := dk_42 (dk_at dksX4_undo_0 0 rfl rfl)
theorem dX4_undo_1 : decode cX4_undo 1 = .ok (.getfield 40, 3) := dk_180 0 40 (dk_at dksX4_undo_0 1 rfl rfl)
theorem dX4_undo_4 : decode cX4_undo 4 = .ok (.ifCond .ne 6, 3) := dk_154 0 6 (dk_at dksX4_undo_0 4 rfl rfl)
theorem dX4_undo_7 : decode cX4_undo 7 = .ok (.bipush (-5), 2) := dk_16 251 (dk_at dksX4_undo_0 7 rfl rfl)
theorem dX4_undo_9 : decode cX4_undo 9 = .ok (.ireturn, 1) := dk_172 (dk_at dksX4_undo_0 9 rfl rfl)
theorem dX4_undo_10 : decode cX4_undo 10 = .ok (.aload_n 0, 1) := dk_42 (dk_at dksX4_undo_0 10 rfl rfl)
theorem dX4_undo_11 : decode cX4_undo 11 = .ok (.dup, 1) := dk_89 (dk_at dksX4_undo_0 11 rfl rfl)
theorem dX4_undo_12 : decode cX4_undo 12 = .ok (.getfield 40, 3) := dk_180 0 40 (dk_at dksX4_undo_0 12 rfl rfl)
theorem dX4_undo_15 : decode cX4_undo 15 = .ok (.iconst 1, 1) := dk_4 (dk_at dksX4_undo_0 15 rfl rfl)
theorem dX4_undo_16 : decode cX4_undo 16 = .ok (.isub, 1) := dk_100 (dk_at dksX4_undo_0 16 rfl rfl)
theorem dX4_undo_17 : decode cX4_undo 17 = .ok (.putfield 40, 3) := dk_181 0 40 (dk_at dksX4_undo_0 17 rfl rfl)
theorem dX4_undo_20 : decode cX4_undo 20 = .ok (.aload_n 0, 1) := dk_42 (dk_at dksX4_undo_0 20 rfl rfl)
theorem dX4_undo_21 : decode cX4_undo 21 = .ok (.getfield 13, 3) := dk_180 0 13 (dk_at dksX4_undo_0 21 rfl rfl)
theorem dX4_undo_24 : decode cX4_undo 24 = .ok (.aload_n 0, 1) := dk_42 (dk_at dksX4_undo_1 0 rfl rfl)
theorem dX4_undo_25 : decode cX4_undo 25 = .ok (.getfield 40, 3) := dk_180 0 40 (dk_at dksX4_undo_1 1 rfl rfl)
theorem dX4_undo_28 : decode cX4_undo 28 = .ok (.sipush 810, 3) := dk_17 3 42 (dk_at dksX4_undo_1 4 rfl rfl)
theorem dX4_undo_31 : decode cX4_undo 31 = .ok (.imul, 1) := dk_104 (dk_at dksX4_undo_1 7 rfl rfl)
theorem dX4_undo_32 : decode cX4_undo 32 = .ok (.aload_n 0, 1) := dk_42 (dk_at dksX4_undo_1 8 rfl rfl)
theorem dX4_undo_33 : decode cX4_undo 33 = .ok (.getfield 7, 3) := dk_180 0 7 (dk_at dksX4_undo_1 9 rfl rfl)
theorem dX4_undo_36 : decode cX4_undo 36 = .ok (.iconst 0, 1) := dk_3 (dk_at dksX4_undo_1 12 rfl rfl)
theorem dX4_undo_37 : decode cX4_undo 37 = .ok (.invokestatic 44, 3) := dk_184 0 44 (dk_at dksX4_undo_1 13 rfl rfl)
theorem dX4_undo_40 : decode cX4_undo 40 = .ok (.aload_n 0, 1) := dk_42 (dk_at dksX4_undo_1 16 rfl rfl)
theorem dX4_undo_41 : decode cX4_undo 41 = .ok (.invokevirtual 37, 3) := dk_182 0 37 (dk_at dksX4_undo_1 17 rfl rfl)
theorem dX4_undo_44 : decode cX4_undo 44 = .ok (.aload_n 0, 1) := dk_42 (dk_at dksX4_undo_1 20 rfl rfl)
theorem dX4_undo_45 : decode cX4_undo 45 = .ok (.getfield 40, 3) := dk_180 0 40 (dk_at dksX4_undo_1 21 rfl rfl)
theorem dX4_undo_48 : decode cX4_undo 48 = .ok (.ireturn, 1) := dk_172 (dk_at dksX4_undo_2 0 rfl rfl)
abbrev cX4_keep : ByteArray := prog_16_method_62_code
def yX4_keep : MethodName := ⟨RX4, "keep", "()I"⟩
def dkwX4_keep_1 : List UInt8 := [172]
abbrev dktX4_keep_1 : List UInt8 := dkwX4_keep_1 ++ []
def dkwX4_keep_0 : List UInt8 := [42, 180, 0, 7, 3, 42, 180, 0, 16, 3, 184, 0, 44, 42, 4, 181, 0, 196, 42, 180, 0, 7, 3, 46]
abbrev dktX4_keep_0 : List UInt8 := dkwX4_keep_0 ++ dktX4_keep_1
theorem dksX4_keep_0 : cX4_keep.data.toList.drop 0 = dktX4_keep_0 := by decide +kernel
theorem dksX4_keep_1 : cX4_keep.data.toList.drop 24 = dktX4_keep_1 := dk_seg dksX4_keep_0 24 rfl rfl
theorem dX4_keep_0 : decode cX4_keep 0 = .ok (.aload_n 0, 1) := dk_42 (dk_at dksX4_keep_0 0 rfl rfl)
theorem dX4_keep_1 : decode cX4_keep 1 = .ok (.getfield 7, 3) := dk_180 0 7 (dk_at dksX4_keep_0 1 rfl rfl)
theorem dX4_keep_4 : decode cX4_keep 4 = .ok (.iconst 0, 1) := dk_3 (dk_at dksX4_keep_0 4 rfl rfl)
theorem dX4_keep_5 : decode cX4_keep 5 = .ok (.aload_n 0, 1) := dk_42 (dk_at dksX4_keep_0 5 rfl rfl)
theorem dX4_keep_6 : decode cX4_keep 6 = .ok (.getfield 16, 3) := dk_180 0 16 (dk_at dksX4_keep_0 6 rfl rfl)
theorem dX4_keep_9 : decode cX4_keep 9 = .ok (.iconst 0, 1) := dk_3 (dk_at dksX4_keep_0 9 rfl rfl)
theorem dX4_keep_10 : decode cX4_keep 10 = .ok (.invokestatic 44, 3) := dk_184 0 44 (dk_at dksX4_keep_0 10 rfl rfl)
theorem dX4_keep_13 : decode cX4_keep 13 = .ok (.aload_n 0, 1) := dk_42 (dk_at dksX4_keep_0 13 rfl rfl)
theorem dX4_keep_14 : decode cX4_keep 14 = .ok (.iconst 1, 1) := dk_4 (dk_at dksX4_keep_0 14 rfl rfl)
theorem dX4_keep_15 : decode cX4_keep 15 = .ok (.putfield 196, 3) := dk_181 0 196 (dk_at dksX4_keep_0 15 rfl rfl)
theorem dX4_keep_18 : decode cX4_keep 18 = .ok (.aload_n 0, 1) := dk_42 (dk_at dksX4_keep_0 18 rfl rfl)
theorem dX4_keep_19 : decode cX4_keep 19 = .ok (.getfield 7, 3) := dk_180 0 7 (dk_at dksX4_keep_0 19 rfl rfl)
theorem dX4_keep_22 : decode cX4_keep 22 = .ok (.iconst 0, 1) := dk_3 (dk_at dksX4_keep_0 22 rfl rfl)
theorem dX4_keep_23 : decode cX4_keep 23 = .ok (.iaload, 1) := dk_46 (dk_at dksX4_keep_0 23 rfl rfl)
theorem dX4_keep_24 : decode cX4_keep 24 = .ok (.ireturn, 1) := dk_172 (dk_at dksX4_keep_1 0 rfl rfl)
abbrev cX4_restore : ByteArray := prog_16_method_63_code
def yX4_restore : MethodName := ⟨RX4, "restore", "()I"⟩
def dkwX4_restore_1 : List UInt8 := [184, 0, 44, 42, 182, 0, 37, 42, 180, 0, 7, 3, 46, 172]
abbrev dktX4_restore_1 : List UInt8 := dkwX4_restore_1 ++ []
def dkwX4_restore_0 : List UInt8 := [42, 180, 0, 196, 154, 0, 6, 16, 251, 172, 42, 182, 0, 61, 42, 180, 0, 16, 3, 42, 180, 0, 7, 3]
abbrev dktX4_restore_0 : List UInt8 := dkwX4_restore_0 ++ dktX4_restore_1
theorem dksX4_restore_0 : cX4_restore.data.toList.drop 0 = dktX4_restore_0 := by decide +kernel
theorem dksX4_restore_1 : cX4_restore.data.toList.drop 24 = dktX4_restore_1 := dk_seg dksX4_restore_0 24 rfl rfl
theorem dX4_restore_0 : decode cX4_restore 0 = .ok (.aload_n 0, 1) := dk_42 (dk_at dksX4_restore_0 0 rfl rfl)
theorem dX4_restore_1 : decode cX4_restore 1 = .ok (.getfield 196, 3) := dk_180 0 196 (dk_at dksX4_restore_0 1 rfl rfl)
theorem dX4_restore_4 : decode cX4_restore 4 = .ok (.ifCond .ne 6, 3) := dk_154 0 6 (dk_at dksX4_restore_0 4 rfl rfl)
theorem dX4_restore_7 : decode cX4_restore 7 = .ok (.bipush (-5), 2) := dk_16 251 (dk_at dksX4_restore_0 7 rfl rfl)
theorem dX4_restore_9 : decode cX4_restore 9 = .ok (.ireturn, 1) := dk_172 (dk_at dksX4_restore_0 9 rfl rfl)
theorem dX4_restore_10 : decode cX4_restore 10 = .ok (.aload_n 0, 1) := dk_42 (dk_at dksX4_restore_0 10 rfl rfl)
theorem dX4_restore_11 : decode cX4_restore 11 = .ok (.invokevirtual 61, 3) := dk_182 0 61 (dk_at dksX4_restore_0 11 rfl rfl)
theorem dX4_restore_14 : decode cX4_restore 14 = .ok (.aload_n 0, 1) := dk_42 (dk_at dksX4_restore_0 14 rfl rfl)
theorem dX4_restore_15 : decode cX4_restore 15 = .ok (.getfield 16, 3) := dk_180 0 16 (dk_at dksX4_restore_0 15 rfl rfl)
theorem dX4_restore_18 : decode cX4_restore 18 = .ok (.iconst 0, 1) := dk_3 (dk_at dksX4_restore_0 18 rfl rfl)
theorem dX4_restore_19 : decode cX4_restore 19 = .ok (.aload_n 0, 1) := dk_42 (dk_at dksX4_restore_0 19 rfl rfl)
theorem dX4_restore_20 : decode cX4_restore 20 = .ok (.getfield 7, 3) := dk_180 0 7 (dk_at dksX4_restore_0 20 rfl rfl)
theorem dX4_restore_23 : decode cX4_restore 23 = .ok (.iconst 0, 1) := dk_3 (dk_at dksX4_restore_0 23 rfl rfl)
theorem dX4_restore_24 : decode cX4_restore 24 = .ok (.invokestatic 44, 3) := dk_184 0 44 (dk_at dksX4_restore_1 0 rfl rfl)
theorem dX4_restore_27 : decode cX4_restore 27 = .ok (.aload_n 0, 1) := dk_42 (dk_at dksX4_restore_1 3 rfl rfl)
theorem dX4_restore_28 : decode cX4_restore 28 = .ok (.invokevirtual 37, 3) := dk_182 0 37 (dk_at dksX4_restore_1 4 rfl rfl)
theorem dX4_restore_31 : decode cX4_restore 31 = .ok (.aload_n 0, 1) := dk_42 (dk_at dksX4_restore_1 7 rfl rfl)
theorem dX4_restore_32 : decode cX4_restore 32 = .ok (.getfield 7, 3) := dk_180 0 7 (dk_at dksX4_restore_1 8 rfl rfl)
theorem dX4_restore_35 : decode cX4_restore 35 = .ok (.iconst 0, 1) := dk_3 (dk_at dksX4_restore_1 11 rfl rfl)
theorem dX4_restore_36 : decode cX4_restore 36 = .ok (.iaload, 1) := dk_46 (dk_at dksX4_restore_1 12 rfl rfl)
theorem dX4_restore_37 : decode cX4_restore 37 = .ok (.ireturn, 1) := dk_172 (dk_at dksX4_restore_1 13 rfl rfl)
abbrev cX4_distance : ByteArray := prog_16_method_64_code
def yX4_distance : MethodName := ⟨RX4, "distance", "(II)I"⟩
def dkwX4_distance_1 : List UInt8 := [18, 52, 161, 0, 8, 16, 251, 167, 0, 9, 42, 27, 28, 182, 0, 53, 172]
abbrev dktX4_distance_1 : List UInt8 := dkwX4_distance_1 ++ []
def dkwX4_distance_0 : List UInt8 := [27, 184, 0, 57, 153, 0, 10, 28, 184, 0, 57, 154, 0, 7, 2, 167, 0, 25, 42, 27, 28, 182, 0, 53]
abbrev dktX4_distance_0 : List UInt8 := dkwX4_distance_0 ++ dktX4_distance_1
theorem dksX4_distance_0 : cX4_distance.data.toList.drop 0 = dktX4_distance_0 := by decide +kernel
theorem dksX4_distance_1 : cX4_distance.data.toList.drop 24 = dktX4_distance_1 := dk_seg dksX4_distance_0 24 rfl rfl
theorem dX4_distance_0 : decode cX4_distance 0 = .ok (.iload_n 1, 1) := dk_27 (dk_at dksX4_distance_0 0 rfl rfl)
theorem dX4_distance_1 : decode cX4_distance 1 = .ok (.invokestatic 57, 3) := dk_184 0 57 (dk_at dksX4_distance_0 1 rfl rfl)
theorem dX4_distance_4 : decode cX4_distance 4 = .ok (.ifCond .eq 10, 3) := dk_153 0 10 (dk_at dksX4_distance_0 4 rfl rfl)
theorem dX4_distance_7 : decode cX4_distance 7 = .ok (.iload_n 2, 1) := dk_28 (dk_at dksX4_distance_0 7 rfl rfl)
theorem dX4_distance_8 : decode cX4_distance 8 = .ok (.invokestatic 57, 3) := dk_184 0 57 (dk_at dksX4_distance_0 8 rfl rfl)
theorem dX4_distance_11 : decode cX4_distance 11 = .ok (.ifCond .ne 7, 3) := dk_154 0 7 (dk_at dksX4_distance_0 11 rfl rfl)
theorem dX4_distance_14 : decode cX4_distance 14 = .ok (.iconst (-1), 1) := dk_2 (dk_at dksX4_distance_0 14 rfl rfl)
theorem dX4_distance_15 : decode cX4_distance 15 = .ok (.goto 25, 3) := dk_167 0 25 (dk_at dksX4_distance_0 15 rfl rfl)
theorem dX4_distance_18 : decode cX4_distance 18 = .ok (.aload_n 0, 1) := dk_42 (dk_at dksX4_distance_0 18 rfl rfl)
theorem dX4_distance_19 : decode cX4_distance 19 = .ok (.iload_n 1, 1) := dk_27 (dk_at dksX4_distance_0 19 rfl rfl)
theorem dX4_distance_20 : decode cX4_distance 20 = .ok (.iload_n 2, 1) := dk_28 (dk_at dksX4_distance_0 20 rfl rfl)
theorem dX4_distance_21 : decode cX4_distance 21 = .ok (.invokevirtual 53, 3) := dk_182 0 53 (dk_at dksX4_distance_0 21 rfl rfl)
theorem dX4_distance_24 : decode cX4_distance 24 = .ok (.ldc 52, 2) := dk_18 52 (dk_at dksX4_distance_1 0 rfl rfl)
theorem dX4_distance_26 : decode cX4_distance 26 = .ok (.if_icmp .lt 8, 3) := dk_161 0 8 (dk_at dksX4_distance_1 2 rfl rfl)
theorem dX4_distance_29 : decode cX4_distance 29 = .ok (.bipush (-5), 2) := dk_16 251 (dk_at dksX4_distance_1 5 rfl rfl)
theorem dX4_distance_31 : decode cX4_distance 31 = .ok (.goto 9, 3) := dk_167 0 9 (dk_at dksX4_distance_1 7 rfl rfl)
theorem dX4_distance_34 : decode cX4_distance 34 = .ok (.aload_n 0, 1) := dk_42 (dk_at dksX4_distance_1 10 rfl rfl)
theorem dX4_distance_35 : decode cX4_distance 35 = .ok (.iload_n 1, 1) := dk_27 (dk_at dksX4_distance_1 11 rfl rfl)
theorem dX4_distance_36 : decode cX4_distance 36 = .ok (.iload_n 2, 1) := dk_28 (dk_at dksX4_distance_1 12 rfl rfl)
theorem dX4_distance_37 : decode cX4_distance 37 = .ok (.invokevirtual 53, 3) := dk_182 0 53 (dk_at dksX4_distance_1 13 rfl rfl)
theorem dX4_distance_40 : decode cX4_distance 40 = .ok (.ireturn, 1) := dk_172 (dk_at dksX4_distance_1 16 rfl rfl)
abbrev cX4_wayAt : ByteArray := prog_16_method_65_code
def yX4_wayAt : MethodName := ⟨RX4, "wayAt", "(III)I"⟩
def dkwX4_wayAt_3 : List UInt8 := [182, 0, 53, 18, 52, 162, 0, 14, 21, 5, 29, 160, 0, 8, 21, 4, 167, 0, 5, 16, 251, 172]
abbrev dktX4_wayAt_3 : List UInt8 := dkwX4_wayAt_3 ++ []
def dkwX4_wayAt_2 : List UInt8 := [18, 52, 162, 0, 18, 42, 21, 4, 28, 182, 0, 132, 54, 4, 132, 5, 1, 167, 255, 221, 42, 27, 28]
abbrev dktX4_wayAt_2 : List UInt8 := dkwX4_wayAt_2 ++ dktX4_wayAt_3
def dkwX4_wayAt_1 : List UInt8 := [54, 4, 3, 54, 5, 21, 5, 29, 162, 0, 35, 21, 4, 28, 159, 0, 29, 42, 27, 28, 182, 0, 53]
abbrev dktX4_wayAt_1 : List UInt8 := dkwX4_wayAt_1 ++ dktX4_wayAt_2
def dkwX4_wayAt_0 : List UInt8 := [27, 184, 0, 57, 153, 0, 10, 28, 184, 0, 57, 154, 0, 5, 2, 172, 29, 156, 0, 6, 16, 254, 172, 27]
abbrev dktX4_wayAt_0 : List UInt8 := dkwX4_wayAt_0 ++ dktX4_wayAt_1
theorem dksX4_wayAt_0 : cX4_wayAt.data.toList.drop 0 = dktX4_wayAt_0 := by decide +kernel
theorem dksX4_wayAt_1 : cX4_wayAt.data.toList.drop 24 = dktX4_wayAt_1 := dk_seg dksX4_wayAt_0 24 rfl rfl
theorem dksX4_wayAt_2 : cX4_wayAt.data.toList.drop 47 = dktX4_wayAt_2 := dk_seg dksX4_wayAt_1 23 rfl rfl
theorem dksX4_wayAt_3 : cX4_wayAt.data.toList.drop 70 = dktX4_wayAt_3 := dk_seg dksX4_wayAt_2 23 rfl rfl
theorem dX4_wayAt_0 : decode cX4_wayAt 0 = .ok (.iload_n 1, 1) := dk_27 (dk_at dksX4_wayAt_0 0 rfl rfl)
theorem dX4_wayAt_1 : decode cX4_wayAt 1 = .ok (.invokestatic 57, 3) := dk_184 0 57 (dk_at dksX4_wayAt_0 1 rfl rfl)
theorem dX4_wayAt_4 : decode cX4_wayAt 4 = .ok (.ifCond .eq 10, 3) := dk_153 0 10 (dk_at dksX4_wayAt_0 4 rfl rfl)
theorem dX4_wayAt_7 : decode cX4_wayAt 7 = .ok (.iload_n 2, 1) := dk_28 (dk_at dksX4_wayAt_0 7 rfl rfl)
theorem dX4_wayAt_8 : decode cX4_wayAt 8 = .ok (.invokestatic 57, 3) := dk_184 0 57 (dk_at dksX4_wayAt_0 8 rfl rfl)
theorem dX4_wayAt_11 : decode cX4_wayAt 11 = .ok (.ifCond .ne 5, 3) := dk_154 0 5 (dk_at dksX4_wayAt_0 11 rfl rfl)
theorem dX4_wayAt_14 : decode cX4_wayAt 14 = .ok (.iconst (-1), 1) := dk_2 (dk_at dksX4_wayAt_0 14 rfl rfl)
theorem dX4_wayAt_15 : decode cX4_wayAt 15 = .ok (.ireturn, 1) := dk_172 (dk_at dksX4_wayAt_0 15 rfl rfl)
theorem dX4_wayAt_16 : decode cX4_wayAt 16 = .ok (.iload_n 3, 1) := dk_29 (dk_at dksX4_wayAt_0 16 rfl rfl)
theorem dX4_wayAt_17 : decode cX4_wayAt 17 = .ok (.ifCond .ge 6, 3) := dk_156 0 6 (dk_at dksX4_wayAt_0 17 rfl rfl)
theorem dX4_wayAt_20 : decode cX4_wayAt 20 = .ok (.bipush (-2), 2) := dk_16 254 (dk_at dksX4_wayAt_0 20 rfl rfl)
theorem dX4_wayAt_22 : decode cX4_wayAt 22 = .ok (.ireturn, 1) := dk_172 (dk_at dksX4_wayAt_0 22 rfl rfl)
theorem dX4_wayAt_23 : decode cX4_wayAt 23 = .ok (.iload_n 1, 1) := dk_27 (dk_at dksX4_wayAt_0 23 rfl rfl)
theorem dX4_wayAt_24 : decode cX4_wayAt 24 = .ok (.istore 4, 2) := dk_54 4 (dk_at dksX4_wayAt_1 0 rfl rfl)
theorem dX4_wayAt_26 : decode cX4_wayAt 26 = .ok (.iconst 0, 1) := dk_3 (dk_at dksX4_wayAt_1 2 rfl rfl)
theorem dX4_wayAt_27 : decode cX4_wayAt 27 = .ok (.istore 5, 2) := dk_54 5 (dk_at dksX4_wayAt_1 3 rfl rfl)
theorem dX4_wayAt_29 : decode cX4_wayAt 29 = .ok (.iload 5, 2) := dk_21 5 (dk_at dksX4_wayAt_1 5 rfl rfl)
theorem dX4_wayAt_31 : decode cX4_wayAt 31 = .ok (.iload_n 3, 1) := dk_29 (dk_at dksX4_wayAt_1 7 rfl rfl)
theorem dX4_wayAt_32 : decode cX4_wayAt 32 = .ok (.if_icmp .ge 35, 3) := dk_162 0 35 (dk_at dksX4_wayAt_1 8 rfl rfl)
theorem dX4_wayAt_35 : decode cX4_wayAt 35 = .ok (.iload 4, 2) := dk_21 4 (dk_at dksX4_wayAt_1 11 rfl rfl)
theorem dX4_wayAt_37 : decode cX4_wayAt 37 = .ok (.iload_n 2, 1) := dk_28 (dk_at dksX4_wayAt_1 13 rfl rfl)
theorem dX4_wayAt_38 : decode cX4_wayAt 38 = .ok (.if_icmp .eq 29, 3) := dk_159 0 29 (dk_at dksX4_wayAt_1 14 rfl rfl)
theorem dX4_wayAt_41 : decode cX4_wayAt 41 = .ok (.aload_n 0, 1) := dk_42 (dk_at dksX4_wayAt_1 17 rfl rfl)
theorem dX4_wayAt_42 : decode cX4_wayAt 42 = .ok (.iload_n 1, 1) := dk_27 (dk_at dksX4_wayAt_1 18 rfl rfl)
theorem dX4_wayAt_43 : decode cX4_wayAt 43 = .ok (.iload_n 2, 1) := dk_28 (dk_at dksX4_wayAt_1 19 rfl rfl)
theorem dX4_wayAt_44 : decode cX4_wayAt 44 = .ok (.invokevirtual 53, 3) := dk_182 0 53 (dk_at dksX4_wayAt_1 20 rfl rfl)
theorem dX4_wayAt_47 : decode cX4_wayAt 47 = .ok (.ldc 52, 2) := dk_18 52 (dk_at dksX4_wayAt_2 0 rfl rfl)
theorem dX4_wayAt_49 : decode cX4_wayAt 49 = .ok (.if_icmp .ge 18, 3) := dk_162 0 18 (dk_at dksX4_wayAt_2 2 rfl rfl)
theorem dX4_wayAt_52 : decode cX4_wayAt 52 = .ok (.aload_n 0, 1) := dk_42 (dk_at dksX4_wayAt_2 5 rfl rfl)
theorem dX4_wayAt_53 : decode cX4_wayAt 53 = .ok (.iload 4, 2) := dk_21 4 (dk_at dksX4_wayAt_2 6 rfl rfl)
theorem dX4_wayAt_55 : decode cX4_wayAt 55 = .ok (.iload_n 2, 1) := dk_28 (dk_at dksX4_wayAt_2 8 rfl rfl)
theorem dX4_wayAt_56 : decode cX4_wayAt 56 = .ok (.invokevirtual 132, 3) := dk_182 0 132 (dk_at dksX4_wayAt_2 9 rfl rfl)
theorem dX4_wayAt_59 : decode cX4_wayAt 59 = .ok (.istore 4, 2) := dk_54 4 (dk_at dksX4_wayAt_2 12 rfl rfl)
theorem dX4_wayAt_61 : decode cX4_wayAt 61 = .ok (.iinc 5 1, 3) := dk_132 5 1 (dk_at dksX4_wayAt_2 14 rfl rfl)
theorem dX4_wayAt_64 : decode cX4_wayAt 64 = .ok (.goto (-35), 3) := dk_167 255 221 (dk_at dksX4_wayAt_2 17 rfl rfl)
theorem dX4_wayAt_67 : decode cX4_wayAt 67 = .ok (.aload_n 0, 1) := dk_42 (dk_at dksX4_wayAt_2 20 rfl rfl)
theorem dX4_wayAt_68 : decode cX4_wayAt 68 = .ok (.iload_n 1, 1) := dk_27 (dk_at dksX4_wayAt_2 21 rfl rfl)
theorem dX4_wayAt_69 : decode cX4_wayAt 69 = .ok (.iload_n 2, 1) := dk_28 (dk_at dksX4_wayAt_2 22 rfl rfl)
theorem dX4_wayAt_70 : decode cX4_wayAt 70 = .ok (.invokevirtual 53, 3) := dk_182 0 53 (dk_at dksX4_wayAt_3 0 rfl rfl)
theorem dX4_wayAt_73 : decode cX4_wayAt 73 = .ok (.ldc 52, 2) := dk_18 52 (dk_at dksX4_wayAt_3 3 rfl rfl)
theorem dX4_wayAt_75 : decode cX4_wayAt 75 = .ok (.if_icmp .ge 14, 3) := dk_162 0 14 (dk_at dksX4_wayAt_3 5 rfl rfl)
theorem dX4_wayAt_78 : decode cX4_wayAt 78 = .ok (.iload 5, 2) := dk_21 5 (dk_at dksX4_wayAt_3 8 rfl rfl)
theorem dX4_wayAt_80 : decode cX4_wayAt 80 = .ok (.iload_n 3, 1) := dk_29 (dk_at dksX4_wayAt_3 10 rfl rfl)
theorem dX4_wayAt_81 : decode cX4_wayAt 81 = .ok (.if_icmp .ne 8, 3) := dk_160 0 8 (dk_at dksX4_wayAt_3 11 rfl rfl)
theorem dX4_wayAt_84 : decode cX4_wayAt 84 = .ok (.iload 4, 2) := dk_21 4 (dk_at dksX4_wayAt_3 14 rfl rfl)
theorem dX4_wayAt_86 : decode cX4_wayAt 86 = .ok (.goto 5, 3) := dk_167 0 5 (dk_at dksX4_wayAt_3 16 rfl rfl)
theorem dX4_wayAt_89 : decode cX4_wayAt 89 = .ok (.bipush (-5), 2) := dk_16 251 (dk_at dksX4_wayAt_3 19 rfl rfl)
theorem dX4_wayAt_91 : decode cX4_wayAt 91 = .ok (.ireturn, 1) := dk_172 (dk_at dksX4_wayAt_3 21 rfl rfl)
abbrev cX4_member : ByteArray := prog_16_method_66_code
def yX4_member : MethodName := ⟨RX4, "member", "(II)I"⟩
def dkwX4_member_5 : List UInt8 := [17, 3, 232, 96, 172, 42, 27, 5, 182, 0, 85, 172, 42, 27, 6, 182, 0, 85, 172, 16, 254, 172]
abbrev dktX4_member_5 : List UInt8 := dkwX4_member_5 ++ []
def dkwX4_member_4 : List UInt8 := [42, 27, 3, 182, 0, 85, 172, 29, 172, 42, 27, 182, 0, 78, 172, 21, 4, 172, 42, 27, 4, 182, 0, 85]
abbrev dktX4_member_4 : List UInt8 := dkwX4_member_4 ++ dktX4_member_5
def dkwX4_member_3 : List UInt8 := [170, 0, 0, 0, 0, 85, 0, 0, 0, 0, 0, 0, 0, 6, 0, 0, 0, 42, 0, 0, 0, 49, 0, 0, 0, 51, 0, 0, 0, 57, 0, 0, 0, 60, 0, 0, 0, 71, 0, 0, 0, 78]
abbrev dktX4_member_3 : List UInt8 := dkwX4_member_3 ++ dktX4_member_4
def dkwX4_member_2 : List UInt8 := [21, 5, 182, 0, 104, 96, 54, 4, 132, 5, 1, 167, 255, 216, 28]
abbrev dktX4_member_2 : List UInt8 := dkwX4_member_2 ++ dktX4_member_3
def dkwX4_member_1 : List UInt8 := [16, 9, 46, 162, 0, 34, 42, 21, 5, 3, 182, 0, 72, 27, 160, 0, 17, 132, 3, 1, 21, 4, 42]
abbrev dktX4_member_1 : List UInt8 := dkwX4_member_1 ++ dktX4_member_2
def dkwX4_member_0 : List UInt8 := [42, 27, 182, 0, 75, 154, 0, 5, 2, 172, 3, 62, 3, 54, 4, 3, 54, 5, 21, 5, 42, 180, 0, 7]
abbrev dktX4_member_0 : List UInt8 := dkwX4_member_0 ++ dktX4_member_1
theorem dksX4_member_0 : cX4_member.data.toList.drop 0 = dktX4_member_0 := by decide +kernel
theorem dksX4_member_1 : cX4_member.data.toList.drop 24 = dktX4_member_1 := dk_seg dksX4_member_0 24 rfl rfl
theorem dksX4_member_2 : cX4_member.data.toList.drop 47 = dktX4_member_2 := dk_seg dksX4_member_1 23 rfl rfl
theorem dksX4_member_3 : cX4_member.data.toList.drop 62 = dktX4_member_3 := dk_seg dksX4_member_2 15 rfl rfl
theorem dksX4_member_4 : cX4_member.data.toList.drop 104 = dktX4_member_4 := dk_seg dksX4_member_3 42 rfl rfl
theorem dksX4_member_5 : cX4_member.data.toList.drop 128 = dktX4_member_5 := dk_seg dksX4_member_4 24 rfl rfl
theorem dX4_member_0 : decode cX4_member 0 = .ok (.aload_n 0, 1) := dk_42 (dk_at dksX4_member_0 0 rfl rfl)
theorem dX4_member_1 : decode cX4_member 1 = .ok (.iload_n 1, 1) := dk_27 (dk_at dksX4_member_0 1 rfl rfl)
theorem dX4_member_2 : decode cX4_member 2 = .ok (.invokevirtual 75, 3) := dk_182 0 75 (dk_at dksX4_member_0 2 rfl rfl)
theorem dX4_member_5 : decode cX4_member 5 = .ok (.ifCond .ne 5, 3) := dk_154 0 5 (dk_at dksX4_member_0 5 rfl rfl)
theorem dX4_member_8 : decode cX4_member 8 = .ok (.iconst (-1), 1) := dk_2 (dk_at dksX4_member_0 8 rfl rfl)
theorem dX4_member_9 : decode cX4_member 9 = .ok (.ireturn, 1) := dk_172 (dk_at dksX4_member_0 9 rfl rfl)
theorem dX4_member_10 : decode cX4_member 10 = .ok (.iconst 0, 1) := dk_3 (dk_at dksX4_member_0 10 rfl rfl)
theorem dX4_member_11 : decode cX4_member 11 = .ok (.istore_n 3, 1) := dk_62 (dk_at dksX4_member_0 11 rfl rfl)
theorem dX4_member_12 : decode cX4_member 12 = .ok (.iconst 0, 1) := dk_3 (dk_at dksX4_member_0 12 rfl rfl)
theorem dX4_member_13 : decode cX4_member 13 = .ok (.istore 4, 2) := dk_54 4 (dk_at dksX4_member_0 13 rfl rfl)
theorem dX4_member_15 : decode cX4_member 15 = .ok (.iconst 0, 1) := dk_3 (dk_at dksX4_member_0 15 rfl rfl)
theorem dX4_member_16 : decode cX4_member 16 = .ok (.istore 5, 2) := dk_54 5 (dk_at dksX4_member_0 16 rfl rfl)
theorem dX4_member_18 : decode cX4_member 18 = .ok (.iload 5, 2) := dk_21 5 (dk_at dksX4_member_0 18 rfl rfl)
theorem dX4_member_20 : decode cX4_member 20 = .ok (.aload_n 0, 1) := dk_42 (dk_at dksX4_member_0 20 rfl rfl)
theorem dX4_member_21 : decode cX4_member 21 = .ok (.getfield 7, 3) := dk_180 0 7 (dk_at dksX4_member_0 21 rfl rfl)
theorem dX4_member_24 : decode cX4_member 24 = .ok (.bipush 9, 2) := dk_16 9 (dk_at dksX4_member_1 0 rfl rfl)
theorem dX4_member_26 : decode cX4_member 26 = .ok (.iaload, 1) := dk_46 (dk_at dksX4_member_1 2 rfl rfl)
theorem dX4_member_27 : decode cX4_member 27 = .ok (.if_icmp .ge 34, 3) := dk_162 0 34 (dk_at dksX4_member_1 3 rfl rfl)
theorem dX4_member_30 : decode cX4_member 30 = .ok (.aload_n 0, 1) := dk_42 (dk_at dksX4_member_1 6 rfl rfl)
theorem dX4_member_31 : decode cX4_member 31 = .ok (.iload 5, 2) := dk_21 5 (dk_at dksX4_member_1 7 rfl rfl)
theorem dX4_member_33 : decode cX4_member 33 = .ok (.iconst 0, 1) := dk_3 (dk_at dksX4_member_1 9 rfl rfl)
theorem dX4_member_34 : decode cX4_member 34 = .ok (.invokevirtual 72, 3) := dk_182 0 72 (dk_at dksX4_member_1 10 rfl rfl)
theorem dX4_member_37 : decode cX4_member 37 = .ok (.iload_n 1, 1) := dk_27 (dk_at dksX4_member_1 13 rfl rfl)
theorem dX4_member_38 : decode cX4_member 38 = .ok (.if_icmp .ne 17, 3) := dk_160 0 17 (dk_at dksX4_member_1 14 rfl rfl)
theorem dX4_member_41 : decode cX4_member 41 = .ok (.iinc 3 1, 3) := dk_132 3 1 (dk_at dksX4_member_1 17 rfl rfl)
theorem dX4_member_44 : decode cX4_member 44 = .ok (.iload 4, 2) := dk_21 4 (dk_at dksX4_member_1 20 rfl rfl)
theorem dX4_member_46 : decode cX4_member 46 = .ok (.aload_n 0, 1) := dk_42 (dk_at dksX4_member_1 22 rfl rfl)
theorem dX4_member_47 : decode cX4_member 47 = .ok (.iload 5, 2) := dk_21 5 (dk_at dksX4_member_2 0 rfl rfl)
theorem dX4_member_49 : decode cX4_member 49 = .ok (.invokevirtual 104, 3) := dk_182 0 104 (dk_at dksX4_member_2 2 rfl rfl)
theorem dX4_member_52 : decode cX4_member 52 = .ok (.iadd, 1) := dk_96 (dk_at dksX4_member_2 5 rfl rfl)
theorem dX4_member_53 : decode cX4_member 53 = .ok (.istore 4, 2) := dk_54 4 (dk_at dksX4_member_2 6 rfl rfl)
theorem dX4_member_55 : decode cX4_member 55 = .ok (.iinc 5 1, 3) := dk_132 5 1 (dk_at dksX4_member_2 8 rfl rfl)
theorem dX4_member_58 : decode cX4_member 58 = .ok (.goto (-40), 3) := dk_167 255 216 (dk_at dksX4_member_2 11 rfl rfl)
theorem dX4_member_61 : decode cX4_member 61 = .ok (.iload_n 2, 1) := dk_28 (dk_at dksX4_member_2 14 rfl rfl)
theorem dX4_member_62 : decode cX4_member 62 = .ok (.tableswitch 85 0 6 #[42, 49, 51, 57, 60, 71, 78], 42) := by decide +kernel
theorem dX4_member_104 : decode cX4_member 104 = .ok (.aload_n 0, 1) := dk_42 (dk_at dksX4_member_4 0 rfl rfl)
theorem dX4_member_105 : decode cX4_member 105 = .ok (.iload_n 1, 1) := dk_27 (dk_at dksX4_member_4 1 rfl rfl)
theorem dX4_member_106 : decode cX4_member 106 = .ok (.iconst 0, 1) := dk_3 (dk_at dksX4_member_4 2 rfl rfl)
theorem dX4_member_107 : decode cX4_member 107 = .ok (.invokevirtual 85, 3) := dk_182 0 85 (dk_at dksX4_member_4 3 rfl rfl)
theorem dX4_member_110 : decode cX4_member 110 = .ok (.ireturn, 1) := dk_172 (dk_at dksX4_member_4 6 rfl rfl)
theorem dX4_member_111 : decode cX4_member 111 = .ok (.iload_n 3, 1) := dk_29 (dk_at dksX4_member_4 7 rfl rfl)
theorem dX4_member_112 : decode cX4_member 112 = .ok (.ireturn, 1) := dk_172 (dk_at dksX4_member_4 8 rfl rfl)
theorem dX4_member_113 : decode cX4_member 113 = .ok (.aload_n 0, 1) := dk_42 (dk_at dksX4_member_4 9 rfl rfl)
theorem dX4_member_114 : decode cX4_member 114 = .ok (.iload_n 1, 1) := dk_27 (dk_at dksX4_member_4 10 rfl rfl)
theorem dX4_member_115 : decode cX4_member 115 = .ok (.invokevirtual 78, 3) := dk_182 0 78 (dk_at dksX4_member_4 11 rfl rfl)
theorem dX4_member_118 : decode cX4_member 118 = .ok (.ireturn, 1) := dk_172 (dk_at dksX4_member_4 14 rfl rfl)
theorem dX4_member_119 : decode cX4_member 119 = .ok (.iload 4, 2) := dk_21 4 (dk_at dksX4_member_4 15 rfl rfl)
theorem dX4_member_121 : decode cX4_member 121 = .ok (.ireturn, 1) := dk_172 (dk_at dksX4_member_4 17 rfl rfl)
theorem dX4_member_122 : decode cX4_member 122 = .ok (.aload_n 0, 1) := dk_42 (dk_at dksX4_member_4 18 rfl rfl)
theorem dX4_member_123 : decode cX4_member 123 = .ok (.iload_n 1, 1) := dk_27 (dk_at dksX4_member_4 19 rfl rfl)
theorem dX4_member_124 : decode cX4_member 124 = .ok (.iconst 1, 1) := dk_4 (dk_at dksX4_member_4 20 rfl rfl)
theorem dX4_member_125 : decode cX4_member 125 = .ok (.invokevirtual 85, 3) := dk_182 0 85 (dk_at dksX4_member_4 21 rfl rfl)
theorem dX4_member_128 : decode cX4_member 128 = .ok (.sipush 1000, 3) := dk_17 3 232 (dk_at dksX4_member_5 0 rfl rfl)
theorem dX4_member_131 : decode cX4_member 131 = .ok (.iadd, 1) := dk_96 (dk_at dksX4_member_5 3 rfl rfl)
theorem dX4_member_132 : decode cX4_member 132 = .ok (.ireturn, 1) := dk_172 (dk_at dksX4_member_5 4 rfl rfl)
theorem dX4_member_133 : decode cX4_member 133 = .ok (.aload_n 0, 1) := dk_42 (dk_at dksX4_member_5 5 rfl rfl)
theorem dX4_member_134 : decode cX4_member 134 = .ok (.iload_n 1, 1) := dk_27 (dk_at dksX4_member_5 6 rfl rfl)
theorem dX4_member_135 : decode cX4_member 135 = .ok (.iconst 2, 1) := dk_5 (dk_at dksX4_member_5 7 rfl rfl)
theorem dX4_member_136 : decode cX4_member 136 = .ok (.invokevirtual 85, 3) := dk_182 0 85 (dk_at dksX4_member_5 8 rfl rfl)
theorem dX4_member_139 : decode cX4_member 139 = .ok (.ireturn, 1) := dk_172 (dk_at dksX4_member_5 11 rfl rfl)
theorem dX4_member_140 : decode cX4_member 140 = .ok (.aload_n 0, 1) := dk_42 (dk_at dksX4_member_5 12 rfl rfl)
theorem dX4_member_141 : decode cX4_member 141 = .ok (.iload_n 1, 1) := dk_27 (dk_at dksX4_member_5 13 rfl rfl)
theorem dX4_member_142 : decode cX4_member 142 = .ok (.iconst 3, 1) := dk_6 (dk_at dksX4_member_5 14 rfl rfl)
theorem dX4_member_143 : decode cX4_member 143 = .ok (.invokevirtual 85, 3) := dk_182 0 85 (dk_at dksX4_member_5 15 rfl rfl)
theorem dX4_member_146 : decode cX4_member 146 = .ok (.ireturn, 1) := dk_172 (dk_at dksX4_member_5 18 rfl rfl)
theorem dX4_member_147 : decode cX4_member 147 = .ok (.bipush (-2), 2) := dk_16 254 (dk_at dksX4_member_5 19 rfl rfl)
theorem dX4_member_149 : decode cX4_member 149 = .ok (.ireturn, 1) := dk_172 (dk_at dksX4_member_5 21 rfl rfl)
abbrev cX4_patrol : ByteArray := prog_16_method_67_code
def yX4_patrol : MethodName := ⟨RX4, "patrol", "(II)I"⟩
def dkwX4_patrol_1 : List UInt8 := [167, 0, 9, 42, 27, 28, 182, 0, 88, 172]
abbrev dktX4_patrol_1 : List UInt8 := dkwX4_patrol_1 ++ []
def dkwX4_patrol_0 : List UInt8 := [42, 27, 182, 0, 107, 154, 0, 7, 2, 167, 0, 24, 28, 3, 16, 11, 184, 0, 48, 154, 0, 8, 16, 254]
abbrev dktX4_patrol_0 : List UInt8 := dkwX4_patrol_0 ++ dktX4_patrol_1
theorem dksX4_patrol_0 : cX4_patrol.data.toList.drop 0 = dktX4_patrol_0 := by decide +kernel
theorem dksX4_patrol_1 : cX4_patrol.data.toList.drop 24 = dktX4_patrol_1 := dk_seg dksX4_patrol_0 24 rfl rfl
theorem dX4_patrol_0 : decode cX4_patrol 0 = .ok (.aload_n 0, 1) := dk_42 (dk_at dksX4_patrol_0 0 rfl rfl)
theorem dX4_patrol_1 : decode cX4_patrol 1 = .ok (.iload_n 1, 1) := dk_27 (dk_at dksX4_patrol_0 1 rfl rfl)
theorem dX4_patrol_2 : decode cX4_patrol 2 = .ok (.invokevirtual 107, 3) := dk_182 0 107 (dk_at dksX4_patrol_0 2 rfl rfl)
theorem dX4_patrol_5 : decode cX4_patrol 5 = .ok (.ifCond .ne 7, 3) := dk_154 0 7 (dk_at dksX4_patrol_0 5 rfl rfl)
theorem dX4_patrol_8 : decode cX4_patrol 8 = .ok (.iconst (-1), 1) := dk_2 (dk_at dksX4_patrol_0 8 rfl rfl)
theorem dX4_patrol_9 : decode cX4_patrol 9 = .ok (.goto 24, 3) := dk_167 0 24 (dk_at dksX4_patrol_0 9 rfl rfl)
theorem dX4_patrol_12 : decode cX4_patrol 12 = .ok (.iload_n 2, 1) := dk_28 (dk_at dksX4_patrol_0 12 rfl rfl)
theorem dX4_patrol_13 : decode cX4_patrol 13 = .ok (.iconst 0, 1) := dk_3 (dk_at dksX4_patrol_0 13 rfl rfl)
theorem dX4_patrol_14 : decode cX4_patrol 14 = .ok (.bipush 11, 2) := dk_16 11 (dk_at dksX4_patrol_0 14 rfl rfl)
theorem dX4_patrol_16 : decode cX4_patrol 16 = .ok (.invokestatic 48, 3) := dk_184 0 48 (dk_at dksX4_patrol_0 16 rfl rfl)
theorem dX4_patrol_19 : decode cX4_patrol 19 = .ok (.ifCond .ne 8, 3) := dk_154 0 8 (dk_at dksX4_patrol_0 19 rfl rfl)
theorem dX4_patrol_22 : decode cX4_patrol 22 = .ok (.bipush (-2), 2) := dk_16 254 (dk_at dksX4_patrol_0 22 rfl rfl)
theorem dX4_patrol_24 : decode cX4_patrol 24 = .ok (.goto 9, 3) := dk_167 0 9 (dk_at dksX4_patrol_1 0 rfl rfl)
theorem dX4_patrol_27 : decode cX4_patrol 27 = .ok (.aload_n 0, 1) := dk_42 (dk_at dksX4_patrol_1 3 rfl rfl)
theorem dX4_patrol_28 : decode cX4_patrol 28 = .ok (.iload_n 1, 1) := dk_27 (dk_at dksX4_patrol_1 4 rfl rfl)
theorem dX4_patrol_29 : decode cX4_patrol 29 = .ok (.iload_n 2, 1) := dk_28 (dk_at dksX4_patrol_1 5 rfl rfl)
theorem dX4_patrol_30 : decode cX4_patrol 30 = .ok (.invokevirtual 88, 3) := dk_182 0 88 (dk_at dksX4_patrol_1 6 rfl rfl)
theorem dX4_patrol_33 : decode cX4_patrol 33 = .ok (.ireturn, 1) := dk_172 (dk_at dksX4_patrol_1 9 rfl rfl)
abbrev cX4_garage : ByteArray := prog_16_method_68_code
def yX4_garage : MethodName := ⟨RX4, "garage", "(II)I"⟩
def dkwX4_garage_2 : List UInt8 := [182, 0, 117, 172]
abbrev dktX4_garage_2 : List UInt8 := dkwX4_garage_2 ++ []
def dkwX4_garage_1 : List UInt8 := [160, 0, 11, 42, 27, 182, 0, 120, 167, 0, 18, 42, 27, 28, 7, 160, 0, 7, 6, 167, 0, 4, 28]
abbrev dktX4_garage_1 : List UInt8 := dkwX4_garage_1 ++ dktX4_garage_2
def dkwX4_garage_0 : List UInt8 := [42, 27, 182, 0, 114, 154, 0, 5, 2, 172, 28, 3, 7, 184, 0, 48, 154, 0, 6, 16, 254, 172, 28, 6]
abbrev dktX4_garage_0 : List UInt8 := dkwX4_garage_0 ++ dktX4_garage_1
theorem dksX4_garage_0 : cX4_garage.data.toList.drop 0 = dktX4_garage_0 := by decide +kernel
theorem dksX4_garage_1 : cX4_garage.data.toList.drop 24 = dktX4_garage_1 := dk_seg dksX4_garage_0 24 rfl rfl
theorem dksX4_garage_2 : cX4_garage.data.toList.drop 47 = dktX4_garage_2 := dk_seg dksX4_garage_1 23 rfl rfl
theorem dX4_garage_0 : decode cX4_garage 0 = .ok (.aload_n 0, 1) := dk_42 (dk_at dksX4_garage_0 0 rfl rfl)
theorem dX4_garage_1 : decode cX4_garage 1 = .ok (.iload_n 1, 1) := dk_27 (dk_at dksX4_garage_0 1 rfl rfl)
theorem dX4_garage_2 : decode cX4_garage 2 = .ok (.invokevirtual 114, 3) := dk_182 0 114 (dk_at dksX4_garage_0 2 rfl rfl)
theorem dX4_garage_5 : decode cX4_garage 5 = .ok (.ifCond .ne 5, 3) := dk_154 0 5 (dk_at dksX4_garage_0 5 rfl rfl)
theorem dX4_garage_8 : decode cX4_garage 8 = .ok (.iconst (-1), 1) := dk_2 (dk_at dksX4_garage_0 8 rfl rfl)
theorem dX4_garage_9 : decode cX4_garage 9 = .ok (.ireturn, 1) := dk_172 (dk_at dksX4_garage_0 9 rfl rfl)
theorem dX4_garage_10 : decode cX4_garage 10 = .ok (.iload_n 2, 1) := dk_28 (dk_at dksX4_garage_0 10 rfl rfl)
theorem dX4_garage_11 : decode cX4_garage 11 = .ok (.iconst 0, 1) := dk_3 (dk_at dksX4_garage_0 11 rfl rfl)
theorem dX4_garage_12 : decode cX4_garage 12 = .ok (.iconst 4, 1) := dk_7 (dk_at dksX4_garage_0 12 rfl rfl)
theorem dX4_garage_13 : decode cX4_garage 13 = .ok (.invokestatic 48, 3) := dk_184 0 48 (dk_at dksX4_garage_0 13 rfl rfl)
theorem dX4_garage_16 : decode cX4_garage 16 = .ok (.ifCond .ne 6, 3) := dk_154 0 6 (dk_at dksX4_garage_0 16 rfl rfl)
theorem dX4_garage_19 : decode cX4_garage 19 = .ok (.bipush (-2), 2) := dk_16 254 (dk_at dksX4_garage_0 19 rfl rfl)
theorem dX4_garage_21 : decode cX4_garage 21 = .ok (.ireturn, 1) := dk_172 (dk_at dksX4_garage_0 21 rfl rfl)
theorem dX4_garage_22 : decode cX4_garage 22 = .ok (.iload_n 2, 1) := dk_28 (dk_at dksX4_garage_0 22 rfl rfl)
theorem dX4_garage_23 : decode cX4_garage 23 = .ok (.iconst 3, 1) := dk_6 (dk_at dksX4_garage_0 23 rfl rfl)
theorem dX4_garage_24 : decode cX4_garage 24 = .ok (.if_icmp .ne 11, 3) := dk_160 0 11 (dk_at dksX4_garage_1 0 rfl rfl)
theorem dX4_garage_27 : decode cX4_garage 27 = .ok (.aload_n 0, 1) := dk_42 (dk_at dksX4_garage_1 3 rfl rfl)
theorem dX4_garage_28 : decode cX4_garage 28 = .ok (.iload_n 1, 1) := dk_27 (dk_at dksX4_garage_1 4 rfl rfl)
theorem dX4_garage_29 : decode cX4_garage 29 = .ok (.invokevirtual 120, 3) := dk_182 0 120 (dk_at dksX4_garage_1 5 rfl rfl)
theorem dX4_garage_32 : decode cX4_garage 32 = .ok (.goto 18, 3) := dk_167 0 18 (dk_at dksX4_garage_1 8 rfl rfl)
theorem dX4_garage_35 : decode cX4_garage 35 = .ok (.aload_n 0, 1) := dk_42 (dk_at dksX4_garage_1 11 rfl rfl)
theorem dX4_garage_36 : decode cX4_garage 36 = .ok (.iload_n 1, 1) := dk_27 (dk_at dksX4_garage_1 12 rfl rfl)
theorem dX4_garage_37 : decode cX4_garage 37 = .ok (.iload_n 2, 1) := dk_28 (dk_at dksX4_garage_1 13 rfl rfl)
theorem dX4_garage_38 : decode cX4_garage 38 = .ok (.iconst 4, 1) := dk_7 (dk_at dksX4_garage_1 14 rfl rfl)
theorem dX4_garage_39 : decode cX4_garage 39 = .ok (.if_icmp .ne 7, 3) := dk_160 0 7 (dk_at dksX4_garage_1 15 rfl rfl)
theorem dX4_garage_42 : decode cX4_garage 42 = .ok (.iconst 3, 1) := dk_6 (dk_at dksX4_garage_1 18 rfl rfl)
theorem dX4_garage_43 : decode cX4_garage 43 = .ok (.goto 4, 3) := dk_167 0 4 (dk_at dksX4_garage_1 19 rfl rfl)
theorem dX4_garage_46 : decode cX4_garage 46 = .ok (.iload_n 2, 1) := dk_28 (dk_at dksX4_garage_1 22 rfl rfl)
theorem dX4_garage_47 : decode cX4_garage 47 = .ok (.invokevirtual 117, 3) := dk_182 0 117 (dk_at dksX4_garage_2 0 rfl rfl)
theorem dX4_garage_50 : decode cX4_garage 50 = .ok (.ireturn, 1) := dk_172 (dk_at dksX4_garage_2 3 rfl rfl)
abbrev cX4_callOf : ByteArray := prog_16_method_69_code
def yX4_callOf : MethodName := ⟨RX4, "callOf", "(II)I"⟩
def dkwX4_callOf_3 : List UInt8 := [182, 0, 138, 17, 39, 16, 96, 172, 42, 27, 16, 11, 182, 0, 72, 172, 42, 27, 28, 182, 0, 72, 172]
abbrev dktX4_callOf_3 : List UInt8 := dkwX4_callOf_3 ++ []
def dkwX4_callOf_2 : List UInt8 := [42, 27, 182, 0, 104, 172, 42, 27, 8, 182, 0, 72, 4, 164, 0, 8, 16, 251, 167, 0, 12, 42, 27]
abbrev dktX4_callOf_2 : List UInt8 := dkwX4_callOf_2 ++ dktX4_callOf_3
def dkwX4_callOf_1 : List UInt8 := [171, 0, 0, 0, 0, 0, 0, 75, 0, 0, 0, 3, 0, 0, 0, 7, 0, 0, 0, 36, 0, 0, 0, 11, 0, 0, 0, 42, 0, 0, 0, 12, 0, 0, 0, 67]
abbrev dktX4_callOf_1 : List UInt8 := dkwX4_callOf_1 ++ dktX4_callOf_2
def dkwX4_callOf_0 : List UInt8 := [42, 27, 182, 0, 101, 154, 0, 5, 2, 172, 28, 3, 16, 12, 184, 0, 48, 154, 0, 6, 16, 254, 172, 28]
abbrev dktX4_callOf_0 : List UInt8 := dkwX4_callOf_0 ++ dktX4_callOf_1
theorem dksX4_callOf_0 : cX4_callOf.data.toList.drop 0 = dktX4_callOf_0 := by decide +kernel
theorem dksX4_callOf_1 : cX4_callOf.data.toList.drop 24 = dktX4_callOf_1 := dk_seg dksX4_callOf_0 24 rfl rfl
theorem dksX4_callOf_2 : cX4_callOf.data.toList.drop 60 = dktX4_callOf_2 := dk_seg dksX4_callOf_1 36 rfl rfl
theorem dksX4_callOf_3 : cX4_callOf.data.toList.drop 83 = dktX4_callOf_3 := dk_seg dksX4_callOf_2 23 rfl rfl
theorem dX4_callOf_0 : decode cX4_callOf 0 = .ok (.aload_n 0, 1) := dk_42 (dk_at dksX4_callOf_0 0 rfl rfl)
theorem dX4_callOf_1 : decode cX4_callOf 1 = .ok (.iload_n 1, 1) := dk_27 (dk_at dksX4_callOf_0 1 rfl rfl)
theorem dX4_callOf_2 : decode cX4_callOf 2 = .ok (.invokevirtual 101, 3) := dk_182 0 101 (dk_at dksX4_callOf_0 2 rfl rfl)
theorem dX4_callOf_5 : decode cX4_callOf 5 = .ok (.ifCond .ne 5, 3) := dk_154 0 5 (dk_at dksX4_callOf_0 5 rfl rfl)
theorem dX4_callOf_8 : decode cX4_callOf 8 = .ok (.iconst (-1), 1) := dk_2 (dk_at dksX4_callOf_0 8 rfl rfl)
theorem dX4_callOf_9 : decode cX4_callOf 9 = .ok (.ireturn, 1) := dk_172 (dk_at dksX4_callOf_0 9 rfl rfl)
theorem dX4_callOf_10 : decode cX4_callOf 10 = .ok (.iload_n 2, 1) := dk_28 (dk_at dksX4_callOf_0 10 rfl rfl)
theorem dX4_callOf_11 : decode cX4_callOf 11 = .ok (.iconst 0, 1) := dk_3 (dk_at dksX4_callOf_0 11 rfl rfl)
theorem dX4_callOf_12 : decode cX4_callOf 12 = .ok (.bipush 12, 2) := dk_16 12 (dk_at dksX4_callOf_0 12 rfl rfl)
theorem dX4_callOf_14 : decode cX4_callOf 14 = .ok (.invokestatic 48, 3) := dk_184 0 48 (dk_at dksX4_callOf_0 14 rfl rfl)
theorem dX4_callOf_17 : decode cX4_callOf 17 = .ok (.ifCond .ne 6, 3) := dk_154 0 6 (dk_at dksX4_callOf_0 17 rfl rfl)
theorem dX4_callOf_20 : decode cX4_callOf 20 = .ok (.bipush (-2), 2) := dk_16 254 (dk_at dksX4_callOf_0 20 rfl rfl)
theorem dX4_callOf_22 : decode cX4_callOf 22 = .ok (.ireturn, 1) := dk_172 (dk_at dksX4_callOf_0 22 rfl rfl)
theorem dX4_callOf_23 : decode cX4_callOf 23 = .ok (.iload_n 2, 1) := dk_28 (dk_at dksX4_callOf_0 23 rfl rfl)
theorem dX4_callOf_24 : decode cX4_callOf 24 = .ok (.lookupswitch 75 #[(7, 36), (11, 42), (12, 67)], 36) := by decide +kernel
theorem dX4_callOf_60 : decode cX4_callOf 60 = .ok (.aload_n 0, 1) := dk_42 (dk_at dksX4_callOf_2 0 rfl rfl)
theorem dX4_callOf_61 : decode cX4_callOf 61 = .ok (.iload_n 1, 1) := dk_27 (dk_at dksX4_callOf_2 1 rfl rfl)
theorem dX4_callOf_62 : decode cX4_callOf 62 = .ok (.invokevirtual 104, 3) := dk_182 0 104 (dk_at dksX4_callOf_2 2 rfl rfl)
theorem dX4_callOf_65 : decode cX4_callOf 65 = .ok (.ireturn, 1) := dk_172 (dk_at dksX4_callOf_2 5 rfl rfl)
theorem dX4_callOf_66 : decode cX4_callOf 66 = .ok (.aload_n 0, 1) := dk_42 (dk_at dksX4_callOf_2 6 rfl rfl)
theorem dX4_callOf_67 : decode cX4_callOf 67 = .ok (.iload_n 1, 1) := dk_27 (dk_at dksX4_callOf_2 7 rfl rfl)
theorem dX4_callOf_68 : decode cX4_callOf 68 = .ok (.iconst 5, 1) := dk_8 (dk_at dksX4_callOf_2 8 rfl rfl)
theorem dX4_callOf_69 : decode cX4_callOf 69 = .ok (.invokevirtual 72, 3) := dk_182 0 72 (dk_at dksX4_callOf_2 9 rfl rfl)
theorem dX4_callOf_72 : decode cX4_callOf 72 = .ok (.iconst 1, 1) := dk_4 (dk_at dksX4_callOf_2 12 rfl rfl)
theorem dX4_callOf_73 : decode cX4_callOf 73 = .ok (.if_icmp .le 8, 3) := dk_164 0 8 (dk_at dksX4_callOf_2 13 rfl rfl)
theorem dX4_callOf_76 : decode cX4_callOf 76 = .ok (.bipush (-5), 2) := dk_16 251 (dk_at dksX4_callOf_2 16 rfl rfl)
theorem dX4_callOf_78 : decode cX4_callOf 78 = .ok (.goto 12, 3) := dk_167 0 12 (dk_at dksX4_callOf_2 18 rfl rfl)
theorem dX4_callOf_81 : decode cX4_callOf 81 = .ok (.aload_n 0, 1) := dk_42 (dk_at dksX4_callOf_2 21 rfl rfl)
theorem dX4_callOf_82 : decode cX4_callOf 82 = .ok (.iload_n 1, 1) := dk_27 (dk_at dksX4_callOf_2 22 rfl rfl)
theorem dX4_callOf_83 : decode cX4_callOf 83 = .ok (.invokevirtual 138, 3) := dk_182 0 138 (dk_at dksX4_callOf_3 0 rfl rfl)
theorem dX4_callOf_86 : decode cX4_callOf 86 = .ok (.sipush 10000, 3) := dk_17 39 16 (dk_at dksX4_callOf_3 3 rfl rfl)
theorem dX4_callOf_89 : decode cX4_callOf 89 = .ok (.iadd, 1) := dk_96 (dk_at dksX4_callOf_3 6 rfl rfl)
theorem dX4_callOf_90 : decode cX4_callOf 90 = .ok (.ireturn, 1) := dk_172 (dk_at dksX4_callOf_3 7 rfl rfl)
theorem dX4_callOf_91 : decode cX4_callOf 91 = .ok (.aload_n 0, 1) := dk_42 (dk_at dksX4_callOf_3 8 rfl rfl)
theorem dX4_callOf_92 : decode cX4_callOf 92 = .ok (.iload_n 1, 1) := dk_27 (dk_at dksX4_callOf_3 9 rfl rfl)
theorem dX4_callOf_93 : decode cX4_callOf 93 = .ok (.bipush 11, 2) := dk_16 11 (dk_at dksX4_callOf_3 10 rfl rfl)
theorem dX4_callOf_95 : decode cX4_callOf 95 = .ok (.invokevirtual 72, 3) := dk_182 0 72 (dk_at dksX4_callOf_3 12 rfl rfl)
theorem dX4_callOf_98 : decode cX4_callOf 98 = .ok (.ireturn, 1) := dk_172 (dk_at dksX4_callOf_3 15 rfl rfl)
theorem dX4_callOf_99 : decode cX4_callOf 99 = .ok (.aload_n 0, 1) := dk_42 (dk_at dksX4_callOf_3 16 rfl rfl)
theorem dX4_callOf_100 : decode cX4_callOf 100 = .ok (.iload_n 1, 1) := dk_27 (dk_at dksX4_callOf_3 17 rfl rfl)
theorem dX4_callOf_101 : decode cX4_callOf 101 = .ok (.iload_n 2, 1) := dk_28 (dk_at dksX4_callOf_3 18 rfl rfl)
theorem dX4_callOf_102 : decode cX4_callOf 102 = .ok (.invokevirtual 72, 3) := dk_182 0 72 (dk_at dksX4_callOf_3 19 rfl rfl)
theorem dX4_callOf_105 : decode cX4_callOf 105 = .ok (.ireturn, 1) := dk_172 (dk_at dksX4_callOf_3 22 rfl rfl)
abbrev cX4_waiting : ByteArray := prog_16_method_70_code
def yX4_waiting : MethodName := ⟨RX4, "waiting", "(I)I"⟩
def dkwX4_waiting_1 : List UInt8 := [46, 167, 0, 5, 16, 251, 172]
abbrev dktX4_waiting_1 : List UInt8 := dkwX4_waiting_1 ++ []
def dkwX4_waiting_0 : List UInt8 := [27, 156, 0, 6, 16, 254, 172, 42, 182, 0, 154, 27, 42, 180, 0, 141, 162, 0, 12, 42, 180, 0, 31, 27]
abbrev dktX4_waiting_0 : List UInt8 := dkwX4_waiting_0 ++ dktX4_waiting_1
theorem dksX4_waiting_0 : cX4_waiting.data.toList.drop 0 = dktX4_waiting_0 := by decide +kernel
theorem dksX4_waiting_1 : cX4_waiting.data.toList.drop 24 = dktX4_waiting_1 := dk_seg dksX4_waiting_0 24 rfl rfl
theorem dX4_waiting_0 : decode cX4_waiting 0 = .ok (.iload_n 1, 1) := dk_27 (dk_at dksX4_waiting_0 0 rfl rfl)
theorem dX4_waiting_1 : decode cX4_waiting 1 = .ok (.ifCond .ge 6, 3) := dk_156 0 6 (dk_at dksX4_waiting_0 1 rfl rfl)
theorem dX4_waiting_4 : decode cX4_waiting 4 = .ok (.bipush (-2), 2) := dk_16 254 (dk_at dksX4_waiting_0 4 rfl rfl)
theorem dX4_waiting_6 : decode cX4_waiting 6 = .ok (.ireturn, 1) := dk_172 (dk_at dksX4_waiting_0 6 rfl rfl)
theorem dX4_waiting_7 : decode cX4_waiting 7 = .ok (.aload_n 0, 1) := dk_42 (dk_at dksX4_waiting_0 7 rfl rfl)
theorem dX4_waiting_8 : decode cX4_waiting 8 = .ok (.invokevirtual 154, 3) := dk_182 0 154 (dk_at dksX4_waiting_0 8 rfl rfl)
theorem dX4_waiting_11 : decode cX4_waiting 11 = .ok (.iload_n 1, 1) := dk_27 (dk_at dksX4_waiting_0 11 rfl rfl)
theorem dX4_waiting_12 : decode cX4_waiting 12 = .ok (.aload_n 0, 1) := dk_42 (dk_at dksX4_waiting_0 12 rfl rfl)
theorem dX4_waiting_13 : decode cX4_waiting 13 = .ok (.getfield 141, 3) := dk_180 0 141 (dk_at dksX4_waiting_0 13 rfl rfl)
theorem dX4_waiting_16 : decode cX4_waiting 16 = .ok (.if_icmp .ge 12, 3) := dk_162 0 12 (dk_at dksX4_waiting_0 16 rfl rfl)
theorem dX4_waiting_19 : decode cX4_waiting 19 = .ok (.aload_n 0, 1) := dk_42 (dk_at dksX4_waiting_0 19 rfl rfl)
theorem dX4_waiting_20 : decode cX4_waiting 20 = .ok (.getfield 31, 3) := dk_180 0 31 (dk_at dksX4_waiting_0 20 rfl rfl)
theorem dX4_waiting_23 : decode cX4_waiting 23 = .ok (.iload_n 1, 1) := dk_27 (dk_at dksX4_waiting_0 23 rfl rfl)
theorem dX4_waiting_24 : decode cX4_waiting 24 = .ok (.iaload, 1) := dk_46 (dk_at dksX4_waiting_1 0 rfl rfl)
theorem dX4_waiting_25 : decode cX4_waiting 25 = .ok (.goto 5, 3) := dk_167 0 5 (dk_at dksX4_waiting_1 1 rfl rfl)
theorem dX4_waiting_28 : decode cX4_waiting 28 = .ok (.bipush (-5), 2) := dk_16 251 (dk_at dksX4_waiting_1 4 rfl rfl)
theorem dX4_waiting_30 : decode cX4_waiting 30 = .ok (.ireturn, 1) := dk_172 (dk_at dksX4_waiting_1 6 rfl rfl)
abbrev cX4_nearest : ByteArray := prog_16_method_71_code
def yX4_nearest : MethodName := ⟨RX4, "nearest", "(I)I"⟩
def dkwX4_nearest_1 : List UInt8 := [167, 0, 8, 42, 27, 182, 0, 157, 172]
abbrev dktX4_nearest_1 : List UInt8 := dkwX4_nearest_1 ++ []
def dkwX4_nearest_0 : List UInt8 := [42, 27, 182, 0, 101, 154, 0, 7, 2, 167, 0, 21, 42, 27, 182, 0, 144, 154, 0, 8, 16, 252]
abbrev dktX4_nearest_0 : List UInt8 := dkwX4_nearest_0 ++ dktX4_nearest_1
theorem dksX4_nearest_0 : cX4_nearest.data.toList.drop 0 = dktX4_nearest_0 := by decide +kernel
theorem dksX4_nearest_1 : cX4_nearest.data.toList.drop 22 = dktX4_nearest_1 := dk_seg dksX4_nearest_0 22 rfl rfl
theorem dX4_nearest_0 : decode cX4_nearest 0 = .ok (.aload_n 0, 1) := dk_42 (dk_at dksX4_nearest_0 0 rfl rfl)
theorem dX4_nearest_1 : decode cX4_nearest 1 = .ok (.iload_n 1, 1) := dk_27 (dk_at dksX4_nearest_0 1 rfl rfl)
theorem dX4_nearest_2 : decode cX4_nearest 2 = .ok (.invokevirtual 101, 3) := dk_182 0 101 (dk_at dksX4_nearest_0 2 rfl rfl)
theorem dX4_nearest_5 : decode cX4_nearest 5 = .ok (.ifCond .ne 7, 3) := dk_154 0 7 (dk_at dksX4_nearest_0 5 rfl rfl)
theorem dX4_nearest_8 : decode cX4_nearest 8 = .ok (.iconst (-1), 1) := dk_2 (dk_at dksX4_nearest_0 8 rfl rfl)
theorem dX4_nearest_9 : decode cX4_nearest 9 = .ok (.goto 21, 3) := dk_167 0 21 (dk_at dksX4_nearest_0 9 rfl rfl)
theorem dX4_nearest_12 : decode cX4_nearest 12 = .ok (.aload_n 0, 1) := dk_42 (dk_at dksX4_nearest_0 12 rfl rfl)
theorem dX4_nearest_13 : decode cX4_nearest 13 = .ok (.iload_n 1, 1) := dk_27 (dk_at dksX4_nearest_0 13 rfl rfl)
theorem dX4_nearest_14 : decode cX4_nearest 14 = .ok (.invokevirtual 144, 3) := dk_182 0 144 (dk_at dksX4_nearest_0 14 rfl rfl)
theorem dX4_nearest_17 : decode cX4_nearest 17 = .ok (.ifCond .ne 8, 3) := dk_154 0 8 (dk_at dksX4_nearest_0 17 rfl rfl)
theorem dX4_nearest_20 : decode cX4_nearest 20 = .ok (.bipush (-4), 2) := dk_16 252 (dk_at dksX4_nearest_0 20 rfl rfl)
theorem dX4_nearest_22 : decode cX4_nearest 22 = .ok (.goto 8, 3) := dk_167 0 8 (dk_at dksX4_nearest_1 0 rfl rfl)
theorem dX4_nearest_25 : decode cX4_nearest 25 = .ok (.aload_n 0, 1) := dk_42 (dk_at dksX4_nearest_1 3 rfl rfl)
theorem dX4_nearest_26 : decode cX4_nearest 26 = .ok (.iload_n 1, 1) := dk_27 (dk_at dksX4_nearest_1 4 rfl rfl)
theorem dX4_nearest_27 : decode cX4_nearest 27 = .ok (.invokevirtual 157, 3) := dk_182 0 157 (dk_at dksX4_nearest_1 5 rfl rfl)
theorem dX4_nearest_30 : decode cX4_nearest 30 = .ok (.ireturn, 1) := dk_172 (dk_at dksX4_nearest_1 8 rfl rfl)
abbrev cX4_waitFor : ByteArray := prog_16_method_72_code
def yX4_waitFor : MethodName := ⟨RX4, "waitFor", "(I)I"⟩
def dkwX4_waitFor_5 : List UInt8 := [28, 172]
abbrev dktX4_waitFor_5 : List UInt8 := dkwX4_waitFor_5 ++ []
def dkwX4_waitFor_4 : List UInt8 := [167, 0, 10, 42, 27, 16, 7, 182, 0, 72, 61, 42, 180, 0, 19, 3, 42, 180, 0, 7, 3, 184, 0, 44]
abbrev dktX4_waitFor_4 : List UInt8 := dkwX4_waitFor_4 ++ dktX4_waitFor_5
def dkwX4_waitFor_3 : List UInt8 := [182, 0, 175, 132, 2, 1, 167, 255, 218, 42, 27, 16, 8, 182, 0, 72, 16, 251, 160, 0, 8, 16, 251]
abbrev dktX4_waitFor_3 : List UInt8 := dkwX4_waitFor_3 ++ dktX4_waitFor_4
def dkwX4_waitFor_2 : List UInt8 := [180, 0, 7, 3, 46, 17, 11, 64, 162, 0, 25, 42, 27, 16, 8, 182, 0, 72, 16, 251, 160, 0, 13, 42]
abbrev dktX4_waitFor_2 : List UInt8 := dkwX4_waitFor_2 ++ dktX4_waitFor_3
def dkwX4_waitFor_1 : List UInt8 := [180, 0, 7, 3, 42, 180, 0, 19, 3, 184, 0, 44, 3, 61, 28, 17, 0, 240, 162, 0, 37, 42]
abbrev dktX4_waitFor_1 : List UInt8 := dkwX4_waitFor_1 ++ dktX4_waitFor_2
def dkwX4_waitFor_0 : List UInt8 := [42, 27, 182, 0, 101, 154, 0, 5, 2, 172, 42, 27, 8, 182, 0, 72, 4, 164, 0, 6, 16, 252, 172, 42]
abbrev dktX4_waitFor_0 : List UInt8 := dkwX4_waitFor_0 ++ dktX4_waitFor_1
theorem dksX4_waitFor_0 : cX4_waitFor.data.toList.drop 0 = dktX4_waitFor_0 := by decide +kernel
theorem dksX4_waitFor_1 : cX4_waitFor.data.toList.drop 24 = dktX4_waitFor_1 := dk_seg dksX4_waitFor_0 24 rfl rfl
theorem dksX4_waitFor_2 : cX4_waitFor.data.toList.drop 46 = dktX4_waitFor_2 := dk_seg dksX4_waitFor_1 22 rfl rfl
theorem dksX4_waitFor_3 : cX4_waitFor.data.toList.drop 70 = dktX4_waitFor_3 := dk_seg dksX4_waitFor_2 24 rfl rfl
theorem dksX4_waitFor_4 : cX4_waitFor.data.toList.drop 93 = dktX4_waitFor_4 := dk_seg dksX4_waitFor_3 23 rfl rfl
theorem dksX4_waitFor_5 : cX4_waitFor.data.toList.drop 117 = dktX4_waitFor_5 := dk_seg dksX4_waitFor_4 24 rfl rfl
theorem dX4_waitFor_0 : decode cX4_waitFor 0 = .ok (.aload_n 0, 1) := dk_42 (dk_at dksX4_waitFor_0 0 rfl rfl)
theorem dX4_waitFor_1 : decode cX4_waitFor 1 = .ok (.iload_n 1, 1) := dk_27 (dk_at dksX4_waitFor_0 1 rfl rfl)
theorem dX4_waitFor_2 : decode cX4_waitFor 2 = .ok (.invokevirtual 101, 3) := dk_182 0 101 (dk_at dksX4_waitFor_0 2 rfl rfl)
theorem dX4_waitFor_5 : decode cX4_waitFor 5 = .ok (.ifCond .ne 5, 3) := dk_154 0 5 (dk_at dksX4_waitFor_0 5 rfl rfl)
theorem dX4_waitFor_8 : decode cX4_waitFor 8 = .ok (.iconst (-1), 1) := dk_2 (dk_at dksX4_waitFor_0 8 rfl rfl)
theorem dX4_waitFor_9 : decode cX4_waitFor 9 = .ok (.ireturn, 1) := dk_172 (dk_at dksX4_waitFor_0 9 rfl rfl)
theorem dX4_waitFor_10 : decode cX4_waitFor 10 = .ok (.aload_n 0, 1) := dk_42 (dk_at dksX4_waitFor_0 10 rfl rfl)
theorem dX4_waitFor_11 : decode cX4_waitFor 11 = .ok (.iload_n 1, 1) := dk_27 (dk_at dksX4_waitFor_0 11 rfl rfl)
theorem dX4_waitFor_12 : decode cX4_waitFor 12 = .ok (.iconst 5, 1) := dk_8 (dk_at dksX4_waitFor_0 12 rfl rfl)
theorem dX4_waitFor_13 : decode cX4_waitFor 13 = .ok (.invokevirtual 72, 3) := dk_182 0 72 (dk_at dksX4_waitFor_0 13 rfl rfl)
theorem dX4_waitFor_16 : decode cX4_waitFor 16 = .ok (.iconst 1, 1) := dk_4 (dk_at dksX4_waitFor_0 16 rfl rfl)
theorem dX4_waitFor_17 : decode cX4_waitFor 17 = .ok (.if_icmp .le 6, 3) := dk_164 0 6 (dk_at dksX4_waitFor_0 17 rfl rfl)
theorem dX4_waitFor_20 : decode cX4_waitFor 20 = .ok (.bipush (-4), 2) := dk_16 252 (dk_at dksX4_waitFor_0 20 rfl rfl)
theorem dX4_waitFor_22 : decode cX4_waitFor 22 = .ok (.ireturn, 1) := dk_172 (dk_at dksX4_waitFor_0 22 rfl rfl)
theorem dX4_waitFor_23 : decode cX4_waitFor 23 = .ok (.aload_n 0, 1) := dk_42 (dk_at dksX4_waitFor_0 23 rfl rfl)
theorem dX4_waitFor_24 : decode cX4_waitFor 24 = .ok (.getfield 7, 3) := dk_180 0 7 (dk_at dksX4_waitFor_1 0 rfl rfl)
theorem dX4_waitFor_27 : decode cX4_waitFor 27 = .ok (.iconst 0, 1) := dk_3 (dk_at dksX4_waitFor_1 3 rfl rfl)
theorem dX4_waitFor_28 : decode cX4_waitFor 28 = .ok (.aload_n 0, 1) := dk_42 (dk_at dksX4_waitFor_1 4 rfl rfl)
theorem dX4_waitFor_29 : decode cX4_waitFor 29 = .ok (.getfield 19, 3) := dk_180 0 19 (dk_at dksX4_waitFor_1 5 rfl rfl)
theorem dX4_waitFor_32 : decode cX4_waitFor 32 = .ok (.iconst 0, 1) := dk_3 (dk_at dksX4_waitFor_1 8 rfl rfl)
theorem dX4_waitFor_33 : decode cX4_waitFor 33 = .ok (.invokestatic 44, 3) := dk_184 0 44 (dk_at dksX4_waitFor_1 9 rfl rfl)
theorem dX4_waitFor_36 : decode cX4_waitFor 36 = .ok (.iconst 0, 1) := dk_3 (dk_at dksX4_waitFor_1 12 rfl rfl)
theorem dX4_waitFor_37 : decode cX4_waitFor 37 = .ok (.istore_n 2, 1) := dk_61 (dk_at dksX4_waitFor_1 13 rfl rfl)
theorem dX4_waitFor_38 : decode cX4_waitFor 38 = .ok (.iload_n 2, 1) := dk_28 (dk_at dksX4_waitFor_1 14 rfl rfl)
theorem dX4_waitFor_39 : decode cX4_waitFor 39 = .ok (.sipush 240, 3) := dk_17 0 240 (dk_at dksX4_waitFor_1 15 rfl rfl)
theorem dX4_waitFor_42 : decode cX4_waitFor 42 = .ok (.if_icmp .ge 37, 3) := dk_162 0 37 (dk_at dksX4_waitFor_1 18 rfl rfl)
theorem dX4_waitFor_45 : decode cX4_waitFor 45 = .ok (.aload_n 0, 1) := dk_42 (dk_at dksX4_waitFor_1 21 rfl rfl)
theorem dX4_waitFor_46 : decode cX4_waitFor 46 = .ok (.getfield 7, 3) := dk_180 0 7 (dk_at dksX4_waitFor_2 0 rfl rfl)
theorem dX4_waitFor_49 : decode cX4_waitFor 49 = .ok (.iconst 0, 1) := dk_3 (dk_at dksX4_waitFor_2 3 rfl rfl)
theorem dX4_waitFor_50 : decode cX4_waitFor 50 = .ok (.iaload, 1) := dk_46 (dk_at dksX4_waitFor_2 4 rfl rfl)
theorem dX4_waitFor_51 : decode cX4_waitFor 51 = .ok (.sipush 2880, 3) := dk_17 11 64 (dk_at dksX4_waitFor_2 5 rfl rfl)
theorem dX4_waitFor_54 : decode cX4_waitFor 54 = .ok (.if_icmp .ge 25, 3) := dk_162 0 25 (dk_at dksX4_waitFor_2 8 rfl rfl)
theorem dX4_waitFor_57 : decode cX4_waitFor 57 = .ok (.aload_n 0, 1) := dk_42 (dk_at dksX4_waitFor_2 11 rfl rfl)
theorem dX4_waitFor_58 : decode cX4_waitFor 58 = .ok (.iload_n 1, 1) := dk_27 (dk_at dksX4_waitFor_2 12 rfl rfl)
theorem dX4_waitFor_59 : decode cX4_waitFor 59 = .ok (.bipush 8, 2) := dk_16 8 (dk_at dksX4_waitFor_2 13 rfl rfl)
theorem dX4_waitFor_61 : decode cX4_waitFor 61 = .ok (.invokevirtual 72, 3) := dk_182 0 72 (dk_at dksX4_waitFor_2 15 rfl rfl)
theorem dX4_waitFor_64 : decode cX4_waitFor 64 = .ok (.bipush (-5), 2) := dk_16 251 (dk_at dksX4_waitFor_2 18 rfl rfl)
theorem dX4_waitFor_66 : decode cX4_waitFor 66 = .ok (.if_icmp .ne 13, 3) := dk_160 0 13 (dk_at dksX4_waitFor_2 20 rfl rfl)
theorem dX4_waitFor_69 : decode cX4_waitFor 69 = .ok (.aload_n 0, 1) := dk_42 (dk_at dksX4_waitFor_2 23 rfl rfl)
theorem dX4_waitFor_70 : decode cX4_waitFor 70 = .ok (.invokevirtual 175, 3) := dk_182 0 175 (dk_at dksX4_waitFor_3 0 rfl rfl)
theorem dX4_waitFor_73 : decode cX4_waitFor 73 = .ok (.iinc 2 1, 3) := dk_132 2 1 (dk_at dksX4_waitFor_3 3 rfl rfl)
theorem dX4_waitFor_76 : decode cX4_waitFor 76 = .ok (.goto (-38), 3) := dk_167 255 218 (dk_at dksX4_waitFor_3 6 rfl rfl)
theorem dX4_waitFor_79 : decode cX4_waitFor 79 = .ok (.aload_n 0, 1) := dk_42 (dk_at dksX4_waitFor_3 9 rfl rfl)
theorem dX4_waitFor_80 : decode cX4_waitFor 80 = .ok (.iload_n 1, 1) := dk_27 (dk_at dksX4_waitFor_3 10 rfl rfl)
theorem dX4_waitFor_81 : decode cX4_waitFor 81 = .ok (.bipush 8, 2) := dk_16 8 (dk_at dksX4_waitFor_3 11 rfl rfl)
theorem dX4_waitFor_83 : decode cX4_waitFor 83 = .ok (.invokevirtual 72, 3) := dk_182 0 72 (dk_at dksX4_waitFor_3 13 rfl rfl)
theorem dX4_waitFor_86 : decode cX4_waitFor 86 = .ok (.bipush (-5), 2) := dk_16 251 (dk_at dksX4_waitFor_3 16 rfl rfl)
theorem dX4_waitFor_88 : decode cX4_waitFor 88 = .ok (.if_icmp .ne 8, 3) := dk_160 0 8 (dk_at dksX4_waitFor_3 18 rfl rfl)
theorem dX4_waitFor_91 : decode cX4_waitFor 91 = .ok (.bipush (-5), 2) := dk_16 251 (dk_at dksX4_waitFor_3 21 rfl rfl)
theorem dX4_waitFor_93 : decode cX4_waitFor 93 = .ok (.goto 10, 3) := dk_167 0 10 (dk_at dksX4_waitFor_4 0 rfl rfl)
theorem dX4_waitFor_96 : decode cX4_waitFor 96 = .ok (.aload_n 0, 1) := dk_42 (dk_at dksX4_waitFor_4 3 rfl rfl)
theorem dX4_waitFor_97 : decode cX4_waitFor 97 = .ok (.iload_n 1, 1) := dk_27 (dk_at dksX4_waitFor_4 4 rfl rfl)
theorem dX4_waitFor_98 : decode cX4_waitFor 98 = .ok (.bipush 7, 2) := dk_16 7 (dk_at dksX4_waitFor_4 5 rfl rfl)
theorem dX4_waitFor_100 : decode cX4_waitFor 100 = .ok (.invokevirtual 72, 3) := dk_182 0 72 (dk_at dksX4_waitFor_4 7 rfl rfl)
theorem dX4_waitFor_103 : decode cX4_waitFor 103 = .ok (.istore_n 2, 1) := dk_61 (dk_at dksX4_waitFor_4 10 rfl rfl)
theorem dX4_waitFor_104 : decode cX4_waitFor 104 = .ok (.aload_n 0, 1) := dk_42 (dk_at dksX4_waitFor_4 11 rfl rfl)
theorem dX4_waitFor_105 : decode cX4_waitFor 105 = .ok (.getfield 19, 3) := dk_180 0 19 (dk_at dksX4_waitFor_4 12 rfl rfl)
theorem dX4_waitFor_108 : decode cX4_waitFor 108 = .ok (.iconst 0, 1) := dk_3 (dk_at dksX4_waitFor_4 15 rfl rfl)
theorem dX4_waitFor_109 : decode cX4_waitFor 109 = .ok (.aload_n 0, 1) := dk_42 (dk_at dksX4_waitFor_4 16 rfl rfl)
theorem dX4_waitFor_110 : decode cX4_waitFor 110 = .ok (.getfield 7, 3) := dk_180 0 7 (dk_at dksX4_waitFor_4 17 rfl rfl)
theorem dX4_waitFor_113 : decode cX4_waitFor 113 = .ok (.iconst 0, 1) := dk_3 (dk_at dksX4_waitFor_4 20 rfl rfl)
theorem dX4_waitFor_114 : decode cX4_waitFor 114 = .ok (.invokestatic 44, 3) := dk_184 0 44 (dk_at dksX4_waitFor_4 21 rfl rfl)
theorem dX4_waitFor_117 : decode cX4_waitFor 117 = .ok (.iload_n 2, 1) := dk_28 (dk_at dksX4_waitFor_5 0 rfl rfl)
theorem dX4_waitFor_118 : decode cX4_waitFor 118 = .ok (.ireturn, 1) := dk_172 (dk_at dksX4_waitFor_5 1 rfl rfl)
abbrev cX4_count : ByteArray := prog_16_method_73_code
def yX4_count : MethodName := ⟨RX4, "count", "(I)I"⟩
def dkwX4_count_6 : List UInt8 := [180, 0, 178, 172, 16, 254, 172]
abbrev dktX4_count_6 : List UInt8 := dkwX4_count_6 ++ []
def dkwX4_count_5 : List UInt8 := [180, 0, 7, 5, 27, 96, 16, 19, 100, 46, 172, 42, 182, 0, 110, 172, 42, 180, 0, 40, 172, 42]
abbrev dktX4_count_5 : List UInt8 := dkwX4_count_5 ++ dktX4_count_6
def dkwX4_count_4 : List UInt8 := [42, 180, 0, 7, 27, 46, 172, 28, 172, 42, 180, 0, 7, 16, 10, 27, 96, 16, 16, 100, 46, 172, 42]
abbrev dktX4_count_4 : List UInt8 := dkwX4_count_4 ++ dktX4_count_5
def dkwX4_count_3 : List UInt8 := [170, 0, 0, 0, 162, 0, 0, 0, 0, 0, 0, 0, 24, 0, 0, 0, 113, 0, 0, 0, 113, 0, 0, 0, 162, 0, 0, 0, 162, 0, 0, 0, 162, 0, 0, 0, 162, 0, 0, 0, 162, 0, 0, 0, 162, 0, 0, 0, 162, 0, 0, 0, 162, 0, 0, 0, 162, 0, 0, 0, 162, 0, 0, 0, 162, 0, 0, 0, 162, 0, 0, 0, 162, 0, 0, 0, 120, 0, 0, 0, 122, 0, 0, 0, 122, 0, 0, 0, 122, 0, 0, 0, 135, 0, 0, 0, 135, 0, 0, 0, 135, 0, 0, 0, 147, 0, 0, 0, 152, 0, 0, 0, 157]
abbrev dktX4_count_3 : List UInt8 := dkwX4_count_3 ++ dktX4_count_4
def dkwX4_count_2 : List UInt8 := [180, 0, 7, 16, 9, 46, 162, 0, 17, 28, 42, 29, 182, 0, 104, 96, 61, 132, 3, 1, 167, 255, 234, 27]
abbrev dktX4_count_2 : List UInt8 := dkwX4_count_2 ++ dktX4_count_3
def dkwX4_count_1 : List UInt8 := [16, 14, 184, 0, 48, 153, 0, 12, 42, 27, 16, 7, 100, 182, 0, 172, 172, 3, 61, 3, 62, 29, 42]
abbrev dktX4_count_1 : List UInt8 := dkwX4_count_1 ++ dktX4_count_2
def dkwX4_count_0 : List UInt8 := [27, 5, 16, 6, 184, 0, 48, 153, 0, 14, 42, 180, 0, 7, 8, 27, 96, 5, 100, 46, 172, 27, 16, 7]
abbrev dktX4_count_0 : List UInt8 := dkwX4_count_0 ++ dktX4_count_1
theorem dksX4_count_0 : cX4_count.data.toList.drop 0 = dktX4_count_0 := by decide +kernel
theorem dksX4_count_1 : cX4_count.data.toList.drop 24 = dktX4_count_1 := dk_seg dksX4_count_0 24 rfl rfl
theorem dksX4_count_2 : cX4_count.data.toList.drop 47 = dktX4_count_2 := dk_seg dksX4_count_1 23 rfl rfl
theorem dksX4_count_3 : cX4_count.data.toList.drop 71 = dktX4_count_3 := dk_seg dksX4_count_2 24 rfl rfl
theorem dksX4_count_4 : cX4_count.data.toList.drop 184 = dktX4_count_4 := dk_seg dksX4_count_3 113 rfl rfl
theorem dksX4_count_5 : cX4_count.data.toList.drop 207 = dktX4_count_5 := dk_seg dksX4_count_4 23 rfl rfl
theorem dksX4_count_6 : cX4_count.data.toList.drop 229 = dktX4_count_6 := dk_seg dksX4_count_5 22 rfl rfl
theorem dX4_count_0 : decode cX4_count 0 = .ok (.iload_n 1, 1) := dk_27 (dk_at dksX4_count_0 0 rfl rfl)
theorem dX4_count_1 : decode cX4_count 1 = .ok (.iconst 2, 1) := dk_5 (dk_at dksX4_count_0 1 rfl rfl)
theorem dX4_count_2 : decode cX4_count 2 = .ok (.bipush 6, 2) := dk_16 6 (dk_at dksX4_count_0 2 rfl rfl)
theorem dX4_count_4 : decode cX4_count 4 = .ok (.invokestatic 48, 3) := dk_184 0 48 (dk_at dksX4_count_0 4 rfl rfl)
theorem dX4_count_7 : decode cX4_count 7 = .ok (.ifCond .eq 14, 3) := dk_153 0 14 (dk_at dksX4_count_0 7 rfl rfl)
theorem dX4_count_10 : decode cX4_count 10 = .ok (.aload_n 0, 1) := dk_42 (dk_at dksX4_count_0 10 rfl rfl)
theorem dX4_count_11 : decode cX4_count 11 = .ok (.getfield 7, 3) := dk_180 0 7 (dk_at dksX4_count_0 11 rfl rfl)
theorem dX4_count_14 : decode cX4_count 14 = .ok (.iconst 5, 1) := dk_8 (dk_at dksX4_count_0 14 rfl rfl)
theorem dX4_count_15 : decode cX4_count 15 = .ok (.iload_n 1, 1) := dk_27 (dk_at dksX4_count_0 15 rfl rfl)
theorem dX4_count_16 : decode cX4_count 16 = .ok (.iadd, 1) := dk_96 (dk_at dksX4_count_0 16 rfl rfl)
theorem dX4_count_17 : decode cX4_count 17 = .ok (.iconst 2, 1) := dk_5 (dk_at dksX4_count_0 17 rfl rfl)
theorem dX4_count_18 : decode cX4_count 18 = .ok (.isub, 1) := dk_100 (dk_at dksX4_count_0 18 rfl rfl)
theorem dX4_count_19 : decode cX4_count 19 = .ok (.iaload, 1) := dk_46 (dk_at dksX4_count_0 19 rfl rfl)
theorem dX4_count_20 : decode cX4_count 20 = .ok (.ireturn, 1) := dk_172 (dk_at dksX4_count_0 20 rfl rfl)
theorem dX4_count_21 : decode cX4_count 21 = .ok (.iload_n 1, 1) := dk_27 (dk_at dksX4_count_0 21 rfl rfl)
theorem dX4_count_22 : decode cX4_count 22 = .ok (.bipush 7, 2) := dk_16 7 (dk_at dksX4_count_0 22 rfl rfl)
theorem dX4_count_24 : decode cX4_count 24 = .ok (.bipush 14, 2) := dk_16 14 (dk_at dksX4_count_1 0 rfl rfl)
theorem dX4_count_26 : decode cX4_count 26 = .ok (.invokestatic 48, 3) := dk_184 0 48 (dk_at dksX4_count_1 2 rfl rfl)
theorem dX4_count_29 : decode cX4_count 29 = .ok (.ifCond .eq 12, 3) := dk_153 0 12 (dk_at dksX4_count_1 5 rfl rfl)
theorem dX4_count_32 : decode cX4_count 32 = .ok (.aload_n 0, 1) := dk_42 (dk_at dksX4_count_1 8 rfl rfl)
theorem dX4_count_33 : decode cX4_count 33 = .ok (.iload_n 1, 1) := dk_27 (dk_at dksX4_count_1 9 rfl rfl)
theorem dX4_count_34 : decode cX4_count 34 = .ok (.bipush 7, 2) := dk_16 7 (dk_at dksX4_count_1 10 rfl rfl)
theorem dX4_count_36 : decode cX4_count 36 = .ok (.isub, 1) := dk_100 (dk_at dksX4_count_1 12 rfl rfl)
theorem dX4_count_37 : decode cX4_count 37 = .ok (.invokevirtual 172, 3) := dk_182 0 172 (dk_at dksX4_count_1 13 rfl rfl)
theorem dX4_count_40 : decode cX4_count 40 = .ok (.ireturn, 1) := dk_172 (dk_at dksX4_count_1 16 rfl rfl)
theorem dX4_count_41 : decode cX4_count 41 = .ok (.iconst 0, 1) := dk_3 (dk_at dksX4_count_1 17 rfl rfl)
theorem dX4_count_42 : decode cX4_count 42 = .ok (.istore_n 2, 1) := dk_61 (dk_at dksX4_count_1 18 rfl rfl)
theorem dX4_count_43 : decode cX4_count 43 = .ok (.iconst 0, 1) := dk_3 (dk_at dksX4_count_1 19 rfl rfl)
theorem dX4_count_44 : decode cX4_count 44 = .ok (.istore_n 3, 1) := dk_62 (dk_at dksX4_count_1 20 rfl rfl)
theorem dX4_count_45 : decode cX4_count 45 = .ok (.iload_n 3, 1) := dk_29 (dk_at dksX4_count_1 21 rfl rfl)
theorem dX4_count_46 : decode cX4_count 46 = .ok (.aload_n 0, 1) := dk_42 (dk_at dksX4_count_1 22 rfl rfl)
theorem dX4_count_47 : decode cX4_count 47 = .ok (.getfield 7, 3) := dk_180 0 7 (dk_at dksX4_count_2 0 rfl rfl)
theorem dX4_count_50 : decode cX4_count 50 = .ok (.bipush 9, 2) := dk_16 9 (dk_at dksX4_count_2 3 rfl rfl)
theorem dX4_count_52 : decode cX4_count 52 = .ok (.iaload, 1) := dk_46 (dk_at dksX4_count_2 5 rfl rfl)
theorem dX4_count_53 : decode cX4_count 53 = .ok (.if_icmp .ge 17, 3) := dk_162 0 17 (dk_at dksX4_count_2 6 rfl rfl)
theorem dX4_count_56 : decode cX4_count 56 = .ok (.iload_n 2, 1) := dk_28 (dk_at dksX4_count_2 9 rfl rfl)
theorem dX4_count_57 : decode cX4_count 57 = .ok (.aload_n 0, 1) := dk_42 (dk_at dksX4_count_2 10 rfl rfl)
theorem dX4_count_58 : decode cX4_count 58 = .ok (.iload_n 3, 1) := dk_29 (dk_at dksX4_count_2 11 rfl rfl)
theorem dX4_count_59 : decode cX4_count 59 = .ok (.invokevirtual 104, 3) := dk_182 0 104 (dk_at dksX4_count_2 12 rfl rfl)
theorem dX4_count_62 : decode cX4_count 62 = .ok (.iadd, 1) := dk_96 (dk_at dksX4_count_2 15 rfl rfl)
theorem dX4_count_63 : decode cX4_count 63 = .ok (.istore_n 2, 1) := dk_61 (dk_at dksX4_count_2 16 rfl rfl)
theorem dX4_count_64 : decode cX4_count 64 = .ok (.iinc 3 1, 3) := dk_132 3 1 (dk_at dksX4_count_2 17 rfl rfl)
theorem dX4_count_67 : decode cX4_count 67 = .ok (.goto (-22), 3) := dk_167 255 234 (dk_at dksX4_count_2 20 rfl rfl)
theorem dX4_count_70 : decode cX4_count 70 = .ok (.iload_n 1, 1) := dk_27 (dk_at dksX4_count_2 23 rfl rfl)
theorem dX4_count_71 : decode cX4_count 71 = .ok (.tableswitch 162 0 24 #[113, 113, 162, 162, 162, 162, 162, 162, 162, 162, 162, 162, 162, 162, 162, 120, 122, 122, 122, 135, 135, 135, 147, 152, 157], 113) := by decide +kernel
theorem dX4_count_184 : decode cX4_count 184 = .ok (.aload_n 0, 1) := dk_42 (dk_at dksX4_count_4 0 rfl rfl)
theorem dX4_count_185 : decode cX4_count 185 = .ok (.getfield 7, 3) := dk_180 0 7 (dk_at dksX4_count_4 1 rfl rfl)
theorem dX4_count_188 : decode cX4_count 188 = .ok (.iload_n 1, 1) := dk_27 (dk_at dksX4_count_4 4 rfl rfl)
theorem dX4_count_189 : decode cX4_count 189 = .ok (.iaload, 1) := dk_46 (dk_at dksX4_count_4 5 rfl rfl)
theorem dX4_count_190 : decode cX4_count 190 = .ok (.ireturn, 1) := dk_172 (dk_at dksX4_count_4 6 rfl rfl)
theorem dX4_count_191 : decode cX4_count 191 = .ok (.iload_n 2, 1) := dk_28 (dk_at dksX4_count_4 7 rfl rfl)
theorem dX4_count_192 : decode cX4_count 192 = .ok (.ireturn, 1) := dk_172 (dk_at dksX4_count_4 8 rfl rfl)
theorem dX4_count_193 : decode cX4_count 193 = .ok (.aload_n 0, 1) := dk_42 (dk_at dksX4_count_4 9 rfl rfl)
theorem dX4_count_194 : decode cX4_count 194 = .ok (.getfield 7, 3) := dk_180 0 7 (dk_at dksX4_count_4 10 rfl rfl)
theorem dX4_count_197 : decode cX4_count 197 = .ok (.bipush 10, 2) := dk_16 10 (dk_at dksX4_count_4 13 rfl rfl)
theorem dX4_count_199 : decode cX4_count 199 = .ok (.iload_n 1, 1) := dk_27 (dk_at dksX4_count_4 15 rfl rfl)
theorem dX4_count_200 : decode cX4_count 200 = .ok (.iadd, 1) := dk_96 (dk_at dksX4_count_4 16 rfl rfl)
theorem dX4_count_201 : decode cX4_count 201 = .ok (.bipush 16, 2) := dk_16 16 (dk_at dksX4_count_4 17 rfl rfl)
theorem dX4_count_203 : decode cX4_count 203 = .ok (.isub, 1) := dk_100 (dk_at dksX4_count_4 19 rfl rfl)
theorem dX4_count_204 : decode cX4_count 204 = .ok (.iaload, 1) := dk_46 (dk_at dksX4_count_4 20 rfl rfl)
theorem dX4_count_205 : decode cX4_count 205 = .ok (.ireturn, 1) := dk_172 (dk_at dksX4_count_4 21 rfl rfl)
theorem dX4_count_206 : decode cX4_count 206 = .ok (.aload_n 0, 1) := dk_42 (dk_at dksX4_count_4 22 rfl rfl)
theorem dX4_count_207 : decode cX4_count 207 = .ok (.getfield 7, 3) := dk_180 0 7 (dk_at dksX4_count_5 0 rfl rfl)
theorem dX4_count_210 : decode cX4_count 210 = .ok (.iconst 2, 1) := dk_5 (dk_at dksX4_count_5 3 rfl rfl)
theorem dX4_count_211 : decode cX4_count 211 = .ok (.iload_n 1, 1) := dk_27 (dk_at dksX4_count_5 4 rfl rfl)
theorem dX4_count_212 : decode cX4_count 212 = .ok (.iadd, 1) := dk_96 (dk_at dksX4_count_5 5 rfl rfl)
theorem dX4_count_213 : decode cX4_count 213 = .ok (.bipush 19, 2) := dk_16 19 (dk_at dksX4_count_5 6 rfl rfl)
theorem dX4_count_215 : decode cX4_count 215 = .ok (.isub, 1) := dk_100 (dk_at dksX4_count_5 8 rfl rfl)
theorem dX4_count_216 : decode cX4_count 216 = .ok (.iaload, 1) := dk_46 (dk_at dksX4_count_5 9 rfl rfl)
theorem dX4_count_217 : decode cX4_count 217 = .ok (.ireturn, 1) := dk_172 (dk_at dksX4_count_5 10 rfl rfl)
theorem dX4_count_218 : decode cX4_count 218 = .ok (.aload_n 0, 1) := dk_42 (dk_at dksX4_count_5 11 rfl rfl)
theorem dX4_count_219 : decode cX4_count 219 = .ok (.invokevirtual 110, 3) := dk_182 0 110 (dk_at dksX4_count_5 12 rfl rfl)
theorem dX4_count_222 : decode cX4_count 222 = .ok (.ireturn, 1) := dk_172 (dk_at dksX4_count_5 15 rfl rfl)
theorem dX4_count_223 : decode cX4_count 223 = .ok (.aload_n 0, 1) := dk_42 (dk_at dksX4_count_5 16 rfl rfl)
theorem dX4_count_224 : decode cX4_count 224 = .ok (.getfield 40, 3) := dk_180 0 40 (dk_at dksX4_count_5 17 rfl rfl)
theorem dX4_count_227 : decode cX4_count 227 = .ok (.ireturn, 1) := dk_172 (dk_at dksX4_count_5 20 rfl rfl)
theorem dX4_count_228 : decode cX4_count 228 = .ok (.aload_n 0, 1) := dk_42 (dk_at dksX4_count_5 21 rfl rfl)
theorem dX4_count_229 : decode cX4_count 229 = .ok (.getfield 178, 3) := dk_180 0 178 (dk_at dksX4_count_6 0 rfl rfl)
theorem dX4_count_232 : decode cX4_count 232 = .ok (.ireturn, 1) := dk_172 (dk_at dksX4_count_6 3 rfl rfl)
theorem dX4_count_233 : decode cX4_count 233 = .ok (.bipush (-2), 2) := dk_16 254 (dk_at dksX4_count_6 4 rfl rfl)
theorem dX4_count_235 : decode cX4_count 235 = .ok (.ireturn, 1) := dk_172 (dk_at dksX4_count_6 6 rfl rfl)
theorem q107 : (Jvm.Cond.initialized "PatrolDeskModel") ∈ lw_all := lw_g (lw_at lw_m1 30 rfl) rfl
theorem q350 : (Jvm.Cond.selects "PatrolDeskModel" ({ cls := "java/lang/Object", name := "hashCode", desc := "()I" } : Jvm.MethodName) ({ cls := "java/lang/Object", name := "hashCode", desc := "()I" } : Jvm.MethodName)) ∈ lw_all := lw_g (lw_at lw_m2 33 rfl) rfl
theorem q382 : (Jvm.Cond.selects "PatrolDeskModel" ({ cls := "java/lang/Object", name := "equals", desc := "(Ljava/lang/Object;)Z" } : Jvm.MethodName) ({ cls := "java/lang/Object", name := "equals", desc := "(Ljava/lang/Object;)Z" } : Jvm.MethodName)) ∈ lw_all := lw_g (lw_at lw_m2 65 rfl) rfl
theorem q427 : (Jvm.Cond.selects "PatrolDeskModel" ({ cls := "java/lang/Object", name := "getClass", desc := "()Ljava/lang/Class;" } : Jvm.MethodName) ({ cls := "java/lang/Object", name := "getClass", desc := "()Ljava/lang/Class;" } : Jvm.MethodName)) ∈ lw_all := lw_g (lw_at lw_m2 110 rfl) rfl
theorem q1936 : (Jvm.Cond.instantiable "PatrolDeskModel" (15 : Nat)) ∈ lw_all := lw_g (lw_at lw_m8 179 rfl) rfl
theorem q1938 : (Jvm.Cond.instanceMethod ({ cls := "PatrolDeskModel", name := "<init>", desc := "()V" } : Jvm.MethodName)) ∈ lw_all := lw_g (lw_at lw_m8 181 rfl) rfl
theorem q1939 : (Jvm.Cond.code ({ cls := "PatrolDeskModel", name := "<init>", desc := "()V" } : Jvm.MethodName) prog_16_method_1_code (1 : Nat) (Option.none : Option Jvm.ClassFile.FieldType)) ∈ lw_all := lw_g (lw_at lw_m8 182 rfl) rfl
theorem q1940 : (Jvm.Cond.methodLink "PatrolDeskModel" (1 : Nat) ({ cls := "java/lang/Object", name := "<init>", desc := "()V" } : Jvm.MethodName)) ∈ lw_all := lw_g (lw_at lw_m8 183 rfl) rfl
theorem q1941 : (Jvm.Cond.methodLink "PatrolDeskModel" (37 : Nat) ({ cls := "PatrolDeskModel", name := "laysWays", desc := "()V" } : Jvm.MethodName)) ∈ lw_all := lw_g (lw_at lw_m8 184 rfl) rfl
theorem q1942 : (Jvm.Cond.privateMethod ({ cls := "PatrolDeskModel", name := "laysWays", desc := "()V" } : Jvm.MethodName)) ∈ lw_tbl := lw_at lw_m8 185 rfl
theorem q1943 : (Jvm.Cond.instanceMethod ({ cls := "PatrolDeskModel", name := "laysWays", desc := "()V" } : Jvm.MethodName)) ∈ lw_all := lw_g (lw_at lw_m8 186 rfl) rfl
theorem q1944 : (Jvm.Cond.code ({ cls := "PatrolDeskModel", name := "laysWays", desc := "()V" } : Jvm.MethodName) prog_16_method_18_code (4 : Nat) (Option.none : Option Jvm.ClassFile.FieldType)) ∈ lw_all := lw_g (lw_at lw_m8 187 rfl) rfl
theorem q1945 : (Jvm.Cond.constant "PatrolDeskModel" (52 : Nat) (100000 : Int32)) ∈ lw_all := lw_g (lw_at lw_m8 188 rfl) rfl
theorem q1946 : (Jvm.Cond.fieldLink "PatrolDeskModel" (7 : Nat) "PatrolDeskModel" "now" "[I") ∈ lw_all := lw_g (lw_at lw_m8 189 rfl) rfl
theorem q1947 : (Jvm.Cond.fieldLink "PatrolDeskModel" (13 : Nat) "PatrolDeskModel" "past" "[I") ∈ lw_all := lw_g (lw_at lw_m8 190 rfl) rfl
theorem q1948 : (Jvm.Cond.fieldLink "PatrolDeskModel" (40 : Nat) "PatrolDeskModel" "pasts" "I") ∈ lw_all := lw_g (lw_at lw_m8 191 rfl) rfl
theorem q1949 : (Jvm.Cond.fieldLink "PatrolDeskModel" (16 : Nat) "PatrolDeskModel" "kept" "[I") ∈ lw_all := lw_g (lw_at lw_m8 192 rfl) rfl
theorem q1950 : (Jvm.Cond.fieldLink "PatrolDeskModel" (196 : Nat) "PatrolDeskModel" "isKept" "Z") ∈ lw_all := lw_g (lw_at lw_m8 193 rfl) rfl
theorem q1951 : (Jvm.Cond.fieldLink "PatrolDeskModel" (19 : Nat) "PatrolDeskModel" "trial" "[I") ∈ lw_all := lw_g (lw_at lw_m8 194 rfl) rfl
theorem q1952 : (Jvm.Cond.fieldLink "PatrolDeskModel" (22 : Nat) "PatrolDeskModel" "text" "[I") ∈ lw_all := lw_g (lw_at lw_m8 195 rfl) rfl
theorem q1953 : (Jvm.Cond.fieldLink "PatrolDeskModel" (178 : Nat) "PatrolDeskModel" "typed" "I") ∈ lw_all := lw_g (lw_at lw_m8 196 rfl) rfl
theorem q1954 : (Jvm.Cond.fieldLink "PatrolDeskModel" (25 : Nat) "PatrolDeskModel" "roads" "[I") ∈ lw_all := lw_g (lw_at lw_m8 197 rfl) rfl
theorem q1955 : (Jvm.Cond.fieldLink "PatrolDeskModel" (28 : Nat) "PatrolDeskModel" "ways" "[I") ∈ lw_all := lw_g (lw_at lw_m8 198 rfl) rfl
theorem q1956 : (Jvm.Cond.fieldLink "PatrolDeskModel" (31 : Nat) "PatrolDeskModel" "row" "[I") ∈ lw_all := lw_g (lw_at lw_m8 199 rfl) rfl
theorem q1957 : (Jvm.Cond.fieldLink "PatrolDeskModel" (141 : Nat) "PatrolDeskModel" "rowMany" "I") ∈ lw_all := lw_g (lw_at lw_m8 200 rfl) rfl
theorem q1958 : (Jvm.Cond.fieldLink "PatrolDeskModel" (34 : Nat) "PatrolDeskModel" "numbers" "[I") ∈ lw_all := lw_g (lw_at lw_m8 201 rfl) rfl
theorem q1959 : (Jvm.Cond.fieldLink "PatrolDeskModel" (187 : Nat) "PatrolDeskModel" "readMany" "I") ∈ lw_all := lw_g (lw_at lw_m8 202 rfl) rfl
theorem q1960 : (Jvm.Cond.fieldLink "PatrolDeskModel" (181 : Nat) "PatrolDeskModel" "at" "I") ∈ lw_all := lw_g (lw_at lw_m8 203 rfl) rfl
theorem q1961 : (Jvm.Cond.laysFinal "PatrolDeskModel" "PatrolDeskModel" "now" "[I") ∈ lw_all := lw_g (lw_at lw_m8 204 rfl) rfl
theorem q1962 : (Jvm.Cond.soleField "PatrolDeskModel" "now") ∈ lw_all := lw_g (lw_at lw_m8 205 rfl) rfl
theorem q1963 : (Jvm.Cond.laysFinal "PatrolDeskModel" "PatrolDeskModel" "past" "[I") ∈ lw_all := lw_g (lw_at lw_m8 206 rfl) rfl
theorem q1964 : (Jvm.Cond.soleField "PatrolDeskModel" "past") ∈ lw_all := lw_g (lw_at lw_m8 207 rfl) rfl
theorem q1965 : (Jvm.Cond.lays "PatrolDeskModel" "PatrolDeskModel" "pasts" "I") ∈ lw_all := lw_g (lw_at lw_m8 208 rfl) rfl
theorem q1966 : (Jvm.Cond.soleField "PatrolDeskModel" "pasts") ∈ lw_all := lw_g (lw_at lw_m8 209 rfl) rfl
theorem q1967 : (Jvm.Cond.laysFinal "PatrolDeskModel" "PatrolDeskModel" "kept" "[I") ∈ lw_all := lw_g (lw_at lw_m8 210 rfl) rfl
theorem q1968 : (Jvm.Cond.soleField "PatrolDeskModel" "kept") ∈ lw_all := lw_g (lw_at lw_m8 211 rfl) rfl
theorem q1969 : (Jvm.Cond.lays "PatrolDeskModel" "PatrolDeskModel" "isKept" "Z") ∈ lw_all := lw_g (lw_at lw_m8 212 rfl) rfl
theorem q1970 : (Jvm.Cond.soleField "PatrolDeskModel" "isKept") ∈ lw_all := lw_g (lw_at lw_m8 213 rfl) rfl
theorem q1971 : (Jvm.Cond.laysFinal "PatrolDeskModel" "PatrolDeskModel" "trial" "[I") ∈ lw_all := lw_g (lw_at lw_m8 214 rfl) rfl
theorem q1972 : (Jvm.Cond.soleField "PatrolDeskModel" "trial") ∈ lw_all := lw_g (lw_at lw_m8 215 rfl) rfl
theorem q1973 : (Jvm.Cond.laysFinal "PatrolDeskModel" "PatrolDeskModel" "text" "[I") ∈ lw_all := lw_g (lw_at lw_m8 216 rfl) rfl
theorem q1974 : (Jvm.Cond.soleField "PatrolDeskModel" "text") ∈ lw_all := lw_g (lw_at lw_m8 217 rfl) rfl
theorem q1975 : (Jvm.Cond.lays "PatrolDeskModel" "PatrolDeskModel" "typed" "I") ∈ lw_all := lw_g (lw_at lw_m8 218 rfl) rfl
theorem q1976 : (Jvm.Cond.soleField "PatrolDeskModel" "typed") ∈ lw_all := lw_g (lw_at lw_m8 219 rfl) rfl
theorem q1977 : (Jvm.Cond.laysFinal "PatrolDeskModel" "PatrolDeskModel" "roads" "[I") ∈ lw_all := lw_g (lw_at lw_m8 220 rfl) rfl
theorem q1978 : (Jvm.Cond.soleField "PatrolDeskModel" "roads") ∈ lw_all := lw_g (lw_at lw_m8 221 rfl) rfl
theorem q1979 : (Jvm.Cond.laysFinal "PatrolDeskModel" "PatrolDeskModel" "ways" "[I") ∈ lw_all := lw_g (lw_at lw_m8 222 rfl) rfl
theorem q1980 : (Jvm.Cond.soleField "PatrolDeskModel" "ways") ∈ lw_all := lw_g (lw_at lw_m8 223 rfl) rfl
theorem q1981 : (Jvm.Cond.laysFinal "PatrolDeskModel" "PatrolDeskModel" "row" "[I") ∈ lw_all := lw_g (lw_at lw_m8 224 rfl) rfl
theorem q1982 : (Jvm.Cond.soleField "PatrolDeskModel" "row") ∈ lw_all := lw_g (lw_at lw_m8 225 rfl) rfl
theorem q1983 : (Jvm.Cond.lays "PatrolDeskModel" "PatrolDeskModel" "rowMany" "I") ∈ lw_all := lw_g (lw_at lw_m8 226 rfl) rfl
theorem q1984 : (Jvm.Cond.soleField "PatrolDeskModel" "rowMany") ∈ lw_all := lw_g (lw_at lw_m8 227 rfl) rfl
theorem q1985 : (Jvm.Cond.laysFinal "PatrolDeskModel" "PatrolDeskModel" "numbers" "[I") ∈ lw_all := lw_g (lw_at lw_m8 228 rfl) rfl
theorem q1986 : (Jvm.Cond.soleField "PatrolDeskModel" "numbers") ∈ lw_all := lw_g (lw_at lw_m8 229 rfl) rfl
theorem q1987 : (Jvm.Cond.lays "PatrolDeskModel" "PatrolDeskModel" "readMany" "I") ∈ lw_all := lw_g (lw_at lw_m8 230 rfl) rfl
theorem q1988 : (Jvm.Cond.soleField "PatrolDeskModel" "readMany") ∈ lw_all := lw_g (lw_at lw_m8 231 rfl) rfl
theorem q1989 : (Jvm.Cond.lays "PatrolDeskModel" "PatrolDeskModel" "at" "I") ∈ lw_all := lw_g (lw_at lw_m8 232 rfl) rfl
theorem q1990 : (Jvm.Cond.soleField "PatrolDeskModel" "at") ∈ lw_all := lw_g (lw_at lw_m8 233 rfl) rfl
theorem q1991 : (Jvm.Cond.superclass "PatrolDeskModel" "java/lang/Object") ∈ lw_all := lw_g (lw_at lw_m8 234 rfl) rfl
theorem q1993 : (Jvm.Cond.instanceMethod ({ cls := "PatrolDeskModel", name := "addRoad", desc := "(III)I" } : Jvm.MethodName)) ∈ lw_all := lw_g (lw_at lw_m8 236 rfl) rfl
theorem q1994 : (Jvm.Cond.selects "PatrolDeskModel" ({ cls := "PatrolDeskModel", name := "addRoad", desc := "(III)I" } : Jvm.MethodName) ({ cls := "PatrolDeskModel", name := "addRoad", desc := "(III)I" } : Jvm.MethodName)) ∈ lw_all := lw_g (lw_at lw_m8 237 rfl) rfl
theorem q1995 : (Jvm.Cond.code ({ cls := "PatrolDeskModel", name := "addRoad", desc := "(III)I" } : Jvm.MethodName) prog_16_method_21_code (5 : Nat) (Option.some Jvm.ClassFile.FieldType.int)) ∈ lw_all := lw_g (lw_at lw_m8 238 rfl) rfl
theorem q1996 : (Jvm.Cond.methodLink "PatrolDeskModel" (57 : Nat) ({ cls := "PatrolDeskModel", name := "isArea", desc := "(I)Z" } : Jvm.MethodName)) ∈ lw_all := lw_g (lw_at lw_m8 239 rfl) rfl
theorem q1997 : (Jvm.Cond.static ({ cls := "PatrolDeskModel", name := "isArea", desc := "(I)Z" } : Jvm.MethodName)) ∈ lw_all := lw_g (lw_at lw_m9 0 rfl) rfl
theorem q1998 : (Jvm.Cond.code ({ cls := "PatrolDeskModel", name := "isArea", desc := "(I)Z" } : Jvm.MethodName) prog_16_method_5_code (1 : Nat) (Option.some Jvm.ClassFile.FieldType.boolean)) ∈ lw_all := lw_g (lw_at lw_m9 1 rfl) rfl
theorem q1999 : (Jvm.Cond.methodLink "PatrolDeskModel" (48 : Nat) ({ cls := "PatrolDeskModel", name := "in", desc := "(III)Z" } : Jvm.MethodName)) ∈ lw_all := lw_g (lw_at lw_m9 2 rfl) rfl
theorem q2000 : (Jvm.Cond.static ({ cls := "PatrolDeskModel", name := "in", desc := "(III)Z" } : Jvm.MethodName)) ∈ lw_all := lw_g (lw_at lw_m9 3 rfl) rfl
theorem q2001 : (Jvm.Cond.code ({ cls := "PatrolDeskModel", name := "in", desc := "(III)Z" } : Jvm.MethodName) prog_16_method_2_code (3 : Nat) (Option.some Jvm.ClassFile.FieldType.boolean)) ∈ lw_all := lw_g (lw_at lw_m9 4 rfl) rfl
theorem q2002 : (Jvm.Cond.methodLink "PatrolDeskModel" (61 : Nat) ({ cls := "PatrolDeskModel", name := "records", desc := "()V" } : Jvm.MethodName)) ∈ lw_all := lw_g (lw_at lw_m9 5 rfl) rfl
theorem q2003 : (Jvm.Cond.privateMethod ({ cls := "PatrolDeskModel", name := "records", desc := "()V" } : Jvm.MethodName)) ∈ lw_tbl := lw_at lw_m9 6 rfl
theorem q2004 : (Jvm.Cond.instanceMethod ({ cls := "PatrolDeskModel", name := "records", desc := "()V" } : Jvm.MethodName)) ∈ lw_all := lw_g (lw_at lw_m9 7 rfl) rfl
theorem q2005 : (Jvm.Cond.code ({ cls := "PatrolDeskModel", name := "records", desc := "()V" } : Jvm.MethodName) prog_16_method_4_code (2 : Nat) (Option.none : Option Jvm.ClassFile.FieldType)) ∈ lw_all := lw_g (lw_at lw_m9 8 rfl) rfl
theorem q2006 : (Jvm.Cond.methodLink "PatrolDeskModel" (44 : Nat) ({ cls := "PatrolDeskModel", name := "copies", desc := "([II[II)V" } : Jvm.MethodName)) ∈ lw_all := lw_g (lw_at lw_m9 9 rfl) rfl
theorem q2007 : (Jvm.Cond.static ({ cls := "PatrolDeskModel", name := "copies", desc := "([II[II)V" } : Jvm.MethodName)) ∈ lw_all := lw_g (lw_at lw_m9 10 rfl) rfl
theorem q2008 : (Jvm.Cond.code ({ cls := "PatrolDeskModel", name := "copies", desc := "([II[II)V" } : Jvm.MethodName) prog_16_method_3_code (5 : Nat) (Option.none : Option Jvm.ClassFile.FieldType)) ∈ lw_all := lw_g (lw_at lw_m9 11 rfl) rfl
theorem q2010 : (Jvm.Cond.instanceMethod ({ cls := "PatrolDeskModel", name := "addMember", desc := "(I)I" } : Jvm.MethodName)) ∈ lw_all := lw_g (lw_at lw_m9 13 rfl) rfl
theorem q2011 : (Jvm.Cond.selects "PatrolDeskModel" ({ cls := "PatrolDeskModel", name := "addMember", desc := "(I)I" } : Jvm.MethodName) ({ cls := "PatrolDeskModel", name := "addMember", desc := "(I)I" } : Jvm.MethodName)) ∈ lw_all := lw_g (lw_at lw_m9 14 rfl) rfl
theorem q2012 : (Jvm.Cond.code ({ cls := "PatrolDeskModel", name := "addMember", desc := "(I)I" } : Jvm.MethodName) prog_16_method_22_code (2 : Nat) (Option.some Jvm.ClassFile.FieldType.int)) ∈ lw_all := lw_g (lw_at lw_m9 15 rfl) rfl
theorem q2014 : (Jvm.Cond.instanceMethod ({ cls := "PatrolDeskModel", name := "addPatrol", desc := "(IIZ)I" } : Jvm.MethodName)) ∈ lw_all := lw_g (lw_at lw_m9 17 rfl) rfl
theorem q2015 : (Jvm.Cond.selects "PatrolDeskModel" ({ cls := "PatrolDeskModel", name := "addPatrol", desc := "(IIZ)I" } : Jvm.MethodName) ({ cls := "PatrolDeskModel", name := "addPatrol", desc := "(IIZ)I" } : Jvm.MethodName)) ∈ lw_all := lw_g (lw_at lw_m9 18 rfl) rfl
theorem q2016 : (Jvm.Cond.code ({ cls := "PatrolDeskModel", name := "addPatrol", desc := "(IIZ)I" } : Jvm.MethodName) prog_16_method_23_code (5 : Nat) (Option.some Jvm.ClassFile.FieldType.int)) ∈ lw_all := lw_g (lw_at lw_m9 19 rfl) rfl
theorem q2017 : (Jvm.Cond.methodLink "PatrolDeskModel" (64 : Nat) ({ cls := "PatrolDeskModel", name := "laysPatrol", desc := "(III)V" } : Jvm.MethodName)) ∈ lw_all := lw_g (lw_at lw_m9 20 rfl) rfl
theorem q2018 : (Jvm.Cond.privateMethod ({ cls := "PatrolDeskModel", name := "laysPatrol", desc := "(III)V" } : Jvm.MethodName)) ∈ lw_tbl := lw_at lw_m9 21 rfl
theorem q2019 : (Jvm.Cond.instanceMethod ({ cls := "PatrolDeskModel", name := "laysPatrol", desc := "(III)V" } : Jvm.MethodName)) ∈ lw_all := lw_g (lw_at lw_m9 22 rfl) rfl
theorem q2020 : (Jvm.Cond.code ({ cls := "PatrolDeskModel", name := "laysPatrol", desc := "(III)V" } : Jvm.MethodName) prog_16_method_14_code (4 : Nat) (Option.none : Option Jvm.ClassFile.FieldType)) ∈ lw_all := lw_g (lw_at lw_m9 23 rfl) rfl
theorem q2021 : (Jvm.Cond.methodLink "PatrolDeskModel" (68 : Nat) ({ cls := "PatrolDeskModel", name := "frees", desc := "(I)V" } : Jvm.MethodName)) ∈ lw_all := lw_g (lw_at lw_m9 24 rfl) rfl
theorem q2022 : (Jvm.Cond.privateMethod ({ cls := "PatrolDeskModel", name := "frees", desc := "(I)V" } : Jvm.MethodName)) ∈ lw_tbl := lw_at lw_m9 25 rfl
theorem q2023 : (Jvm.Cond.instanceMethod ({ cls := "PatrolDeskModel", name := "frees", desc := "(I)V" } : Jvm.MethodName)) ∈ lw_all := lw_g (lw_at lw_m9 26 rfl) rfl
theorem q2024 : (Jvm.Cond.code ({ cls := "PatrolDeskModel", name := "frees", desc := "(I)V" } : Jvm.MethodName) prog_16_method_32_code (2 : Nat) (Option.none : Option Jvm.ClassFile.FieldType)) ∈ lw_all := lw_g (lw_at lw_m9 27 rfl) rfl
theorem q2026 : (Jvm.Cond.instanceMethod ({ cls := "PatrolDeskModel", name := "addGarage", desc := "(II)I" } : Jvm.MethodName)) ∈ lw_all := lw_g (lw_at lw_m9 29 rfl) rfl
theorem q2027 : (Jvm.Cond.selects "PatrolDeskModel" ({ cls := "PatrolDeskModel", name := "addGarage", desc := "(II)I" } : Jvm.MethodName) ({ cls := "PatrolDeskModel", name := "addGarage", desc := "(II)I" } : Jvm.MethodName)) ∈ lw_all := lw_g (lw_at lw_m9 30 rfl) rfl
theorem q2028 : (Jvm.Cond.code ({ cls := "PatrolDeskModel", name := "addGarage", desc := "(II)I" } : Jvm.MethodName) prog_16_method_24_code (4 : Nat) (Option.some Jvm.ClassFile.FieldType.int)) ∈ lw_all := lw_g (lw_at lw_m9 31 rfl) rfl
theorem q2030 : (Jvm.Cond.instanceMethod ({ cls := "PatrolDeskModel", name := "setPromise", desc := "(II)I" } : Jvm.MethodName)) ∈ lw_all := lw_g (lw_at lw_m9 33 rfl) rfl
theorem q2031 : (Jvm.Cond.selects "PatrolDeskModel" ({ cls := "PatrolDeskModel", name := "setPromise", desc := "(II)I" } : Jvm.MethodName) ({ cls := "PatrolDeskModel", name := "setPromise", desc := "(II)I" } : Jvm.MethodName)) ∈ lw_all := lw_g (lw_at lw_m9 34 rfl) rfl
theorem q2032 : (Jvm.Cond.code ({ cls := "PatrolDeskModel", name := "setPromise", desc := "(II)I" } : Jvm.MethodName) prog_16_method_25_code (4 : Nat) (Option.some Jvm.ClassFile.FieldType.int)) ∈ lw_all := lw_g (lw_at lw_m9 35 rfl) rfl
theorem q2034 : (Jvm.Cond.instanceMethod ({ cls := "PatrolDeskModel", name := "setWeather", desc := "(I)I" } : Jvm.MethodName)) ∈ lw_all := lw_g (lw_at lw_m9 37 rfl) rfl
theorem q2035 : (Jvm.Cond.selects "PatrolDeskModel" ({ cls := "PatrolDeskModel", name := "setWeather", desc := "(I)I" } : Jvm.MethodName) ({ cls := "PatrolDeskModel", name := "setWeather", desc := "(I)I" } : Jvm.MethodName)) ∈ lw_all := lw_g (lw_at lw_m9 38 rfl) rfl
theorem q2036 : (Jvm.Cond.code ({ cls := "PatrolDeskModel", name := "setWeather", desc := "(I)I" } : Jvm.MethodName) prog_16_method_26_code (3 : Nat) (Option.some Jvm.ClassFile.FieldType.int)) ∈ lw_all := lw_g (lw_at lw_m9 39 rfl) rfl
theorem q2038 : (Jvm.Cond.instanceMethod ({ cls := "PatrolDeskModel", name := "call", desc := "(III)I" } : Jvm.MethodName)) ∈ lw_all := lw_g (lw_at lw_m9 41 rfl) rfl
theorem q2039 : (Jvm.Cond.selects "PatrolDeskModel" ({ cls := "PatrolDeskModel", name := "call", desc := "(III)I" } : Jvm.MethodName) ({ cls := "PatrolDeskModel", name := "call", desc := "(III)I" } : Jvm.MethodName)) ∈ lw_all := lw_g (lw_at lw_m9 42 rfl) rfl
theorem q2040 : (Jvm.Cond.code ({ cls := "PatrolDeskModel", name := "call", desc := "(III)I" } : Jvm.MethodName) prog_16_method_30_code (5 : Nat) (Option.some Jvm.ClassFile.FieldType.int)) ∈ lw_all := lw_g (lw_at lw_m9 43 rfl) rfl
theorem q2041 : (Jvm.Cond.methodLink "PatrolDeskModel" (94 : Nat) ({ cls := "PatrolDeskModel", name := "against", desc := "(III)I" } : Jvm.MethodName)) ∈ lw_all := lw_g (lw_at lw_m9 44 rfl) rfl
theorem q2042 : (Jvm.Cond.privateMethod ({ cls := "PatrolDeskModel", name := "against", desc := "(III)I" } : Jvm.MethodName)) ∈ lw_tbl := lw_at lw_m9 45 rfl
theorem q2043 : (Jvm.Cond.instanceMethod ({ cls := "PatrolDeskModel", name := "against", desc := "(III)I" } : Jvm.MethodName)) ∈ lw_all := lw_g (lw_at lw_m9 46 rfl) rfl
theorem q2044 : (Jvm.Cond.code ({ cls := "PatrolDeskModel", name := "against", desc := "(III)I" } : Jvm.MethodName) prog_16_method_28_code (4 : Nat) (Option.some Jvm.ClassFile.FieldType.int)) ∈ lw_all := lw_g (lw_at lw_m9 47 rfl) rfl
theorem q2045 : (Jvm.Cond.methodLink "PatrolDeskModel" (75 : Nat) ({ cls := "PatrolDeskModel", name := "isMember", desc := "(I)Z" } : Jvm.MethodName)) ∈ lw_all := lw_g (lw_at lw_m9 48 rfl) rfl
theorem q2046 : (Jvm.Cond.privateMethod ({ cls := "PatrolDeskModel", name := "isMember", desc := "(I)Z" } : Jvm.MethodName)) ∈ lw_tbl := lw_at lw_m9 49 rfl
theorem q2047 : (Jvm.Cond.instanceMethod ({ cls := "PatrolDeskModel", name := "isMember", desc := "(I)Z" } : Jvm.MethodName)) ∈ lw_all := lw_g (lw_at lw_m9 50 rfl) rfl
theorem q2048 : (Jvm.Cond.code ({ cls := "PatrolDeskModel", name := "isMember", desc := "(I)Z" } : Jvm.MethodName) prog_16_method_7_code (2 : Nat) (Option.some Jvm.ClassFile.FieldType.boolean)) ∈ lw_all := lw_g (lw_at lw_m9 51 rfl) rfl
theorem q2049 : (Jvm.Cond.methodLink "PatrolDeskModel" (78 : Nat) ({ cls := "PatrolDeskModel", name := "openOf", desc := "(I)I" } : Jvm.MethodName)) ∈ lw_all := lw_g (lw_at lw_m9 52 rfl) rfl
theorem q2050 : (Jvm.Cond.privateMethod ({ cls := "PatrolDeskModel", name := "openOf", desc := "(I)I" } : Jvm.MethodName)) ∈ lw_tbl := lw_at lw_m9 53 rfl
theorem q2051 : (Jvm.Cond.instanceMethod ({ cls := "PatrolDeskModel", name := "openOf", desc := "(I)I" } : Jvm.MethodName)) ∈ lw_all := lw_g (lw_at lw_m9 54 rfl) rfl
theorem q2052 : (Jvm.Cond.code ({ cls := "PatrolDeskModel", name := "openOf", desc := "(I)I" } : Jvm.MethodName) prog_16_method_27_code (3 : Nat) (Option.some Jvm.ClassFile.FieldType.int)) ∈ lw_all := lw_g (lw_at lw_m9 55 rfl) rfl
theorem q2053 : (Jvm.Cond.methodLink "PatrolDeskModel" (72 : Nat) ({ cls := "PatrolDeskModel", name := "ofCall", desc := "(II)I" } : Jvm.MethodName)) ∈ lw_all := lw_g (lw_at lw_m9 56 rfl) rfl
theorem q2054 : (Jvm.Cond.privateMethod ({ cls := "PatrolDeskModel", name := "ofCall", desc := "(II)I" } : Jvm.MethodName)) ∈ lw_tbl := lw_at lw_m9 57 rfl
theorem q2055 : (Jvm.Cond.instanceMethod ({ cls := "PatrolDeskModel", name := "ofCall", desc := "(II)I" } : Jvm.MethodName)) ∈ lw_all := lw_g (lw_at lw_m9 58 rfl) rfl
theorem q2056 : (Jvm.Cond.code ({ cls := "PatrolDeskModel", name := "ofCall", desc := "(II)I" } : Jvm.MethodName) prog_16_method_16_code (3 : Nat) (Option.some Jvm.ClassFile.FieldType.int)) ∈ lw_all := lw_g (lw_at lw_m9 59 rfl) rfl
theorem q2057 : (Jvm.Cond.methodLink "PatrolDeskModel" (98 : Nat) ({ cls := "PatrolDeskModel", name := "comes", desc := "(III)V" } : Jvm.MethodName)) ∈ lw_all := lw_g (lw_at lw_m9 60 rfl) rfl
theorem q2058 : (Jvm.Cond.privateMethod ({ cls := "PatrolDeskModel", name := "comes", desc := "(III)V" } : Jvm.MethodName)) ∈ lw_tbl := lw_at lw_m9 61 rfl
theorem q2059 : (Jvm.Cond.instanceMethod ({ cls := "PatrolDeskModel", name := "comes", desc := "(III)V" } : Jvm.MethodName)) ∈ lw_all := lw_g (lw_at lw_m9 62 rfl) rfl
theorem q2060 : (Jvm.Cond.code ({ cls := "PatrolDeskModel", name := "comes", desc := "(III)V" } : Jvm.MethodName) prog_16_method_29_code (7 : Nat) (Option.none : Option Jvm.ClassFile.FieldType)) ∈ lw_all := lw_g (lw_at lw_m9 63 rfl) rfl
theorem q2061 : (Jvm.Cond.methodLink "PatrolDeskModel" (82 : Nat) ({ cls := "PatrolDeskModel", name := "laysCall", desc := "(III)V" } : Jvm.MethodName)) ∈ lw_all := lw_g (lw_at lw_m9 64 rfl) rfl
theorem q2062 : (Jvm.Cond.privateMethod ({ cls := "PatrolDeskModel", name := "laysCall", desc := "(III)V" } : Jvm.MethodName)) ∈ lw_tbl := lw_at lw_m9 65 rfl
theorem q2063 : (Jvm.Cond.instanceMethod ({ cls := "PatrolDeskModel", name := "laysCall", desc := "(III)V" } : Jvm.MethodName)) ∈ lw_all := lw_g (lw_at lw_m9 66 rfl) rfl
theorem q2064 : (Jvm.Cond.code ({ cls := "PatrolDeskModel", name := "laysCall", desc := "(III)V" } : Jvm.MethodName) prog_16_method_17_code (4 : Nat) (Option.none : Option Jvm.ClassFile.FieldType)) ∈ lw_all := lw_g (lw_at lw_m9 67 rfl) rfl
theorem q2065 : (Jvm.Cond.methodLink "PatrolDeskModel" (85 : Nat) ({ cls := "PatrolDeskModel", name := "ofMember", desc := "(II)I" } : Jvm.MethodName)) ∈ lw_all := lw_g (lw_at lw_m9 68 rfl) rfl
theorem q2066 : (Jvm.Cond.privateMethod ({ cls := "PatrolDeskModel", name := "ofMember", desc := "(II)I" } : Jvm.MethodName)) ∈ lw_tbl := lw_at lw_m9 69 rfl
theorem q2067 : (Jvm.Cond.instanceMethod ({ cls := "PatrolDeskModel", name := "ofMember", desc := "(II)I" } : Jvm.MethodName)) ∈ lw_all := lw_g (lw_at lw_m9 70 rfl) rfl
theorem q2068 : (Jvm.Cond.code ({ cls := "PatrolDeskModel", name := "ofMember", desc := "(II)I" } : Jvm.MethodName) prog_16_method_11_code (3 : Nat) (Option.some Jvm.ClassFile.FieldType.int)) ∈ lw_all := lw_g (lw_at lw_m9 71 rfl) rfl
theorem q2069 : (Jvm.Cond.methodLink "PatrolDeskModel" (88 : Nat) ({ cls := "PatrolDeskModel", name := "ofPatrol", desc := "(II)I" } : Jvm.MethodName)) ∈ lw_all := lw_g (lw_at lw_m9 72 rfl) rfl
theorem q2070 : (Jvm.Cond.privateMethod ({ cls := "PatrolDeskModel", name := "ofPatrol", desc := "(II)I" } : Jvm.MethodName)) ∈ lw_tbl := lw_at lw_m9 73 rfl
theorem q2071 : (Jvm.Cond.instanceMethod ({ cls := "PatrolDeskModel", name := "ofPatrol", desc := "(II)I" } : Jvm.MethodName)) ∈ lw_all := lw_g (lw_at lw_m9 74 rfl) rfl
theorem q2072 : (Jvm.Cond.code ({ cls := "PatrolDeskModel", name := "ofPatrol", desc := "(II)I" } : Jvm.MethodName) prog_16_method_13_code (3 : Nat) (Option.some Jvm.ClassFile.FieldType.int)) ∈ lw_all := lw_g (lw_at lw_m9 75 rfl) rfl
theorem q2073 : (Jvm.Cond.methodLink "PatrolDeskModel" (91 : Nat) ({ cls := "PatrolDeskModel", name := "addsMember", desc := "(III)V" } : Jvm.MethodName)) ∈ lw_all := lw_g (lw_at lw_m9 76 rfl) rfl
theorem q2074 : (Jvm.Cond.privateMethod ({ cls := "PatrolDeskModel", name := "addsMember", desc := "(III)V" } : Jvm.MethodName)) ∈ lw_tbl := lw_at lw_m9 77 rfl
theorem q2075 : (Jvm.Cond.instanceMethod ({ cls := "PatrolDeskModel", name := "addsMember", desc := "(III)V" } : Jvm.MethodName)) ∈ lw_all := lw_g (lw_at lw_m9 78 rfl) rfl
theorem q2076 : (Jvm.Cond.code ({ cls := "PatrolDeskModel", name := "addsMember", desc := "(III)V" } : Jvm.MethodName) prog_16_method_12_code (4 : Nat) (Option.none : Option Jvm.ClassFile.FieldType)) ∈ lw_all := lw_g (lw_at lw_m9 79 rfl) rfl
theorem q2078 : (Jvm.Cond.instanceMethod ({ cls := "PatrolDeskModel", name := "cancel", desc := "(I)I" } : Jvm.MethodName)) ∈ lw_all := lw_g (lw_at lw_m9 81 rfl) rfl
theorem q2079 : (Jvm.Cond.selects "PatrolDeskModel" ({ cls := "PatrolDeskModel", name := "cancel", desc := "(I)I" } : Jvm.MethodName) ({ cls := "PatrolDeskModel", name := "cancel", desc := "(I)I" } : Jvm.MethodName)) ∈ lw_all := lw_g (lw_at lw_m9 82 rfl) rfl
theorem q2080 : (Jvm.Cond.code ({ cls := "PatrolDeskModel", name := "cancel", desc := "(I)I" } : Jvm.MethodName) prog_16_method_33_code (3 : Nat) (Option.some Jvm.ClassFile.FieldType.int)) ∈ lw_all := lw_g (lw_at lw_m9 83 rfl) rfl
theorem q2081 : (Jvm.Cond.methodLink "PatrolDeskModel" (101 : Nat) ({ cls := "PatrolDeskModel", name := "isCall", desc := "(I)Z" } : Jvm.MethodName)) ∈ lw_all := lw_g (lw_at lw_m9 84 rfl) rfl
theorem q2082 : (Jvm.Cond.privateMethod ({ cls := "PatrolDeskModel", name := "isCall", desc := "(I)Z" } : Jvm.MethodName)) ∈ lw_tbl := lw_at lw_m9 85 rfl
theorem q2083 : (Jvm.Cond.instanceMethod ({ cls := "PatrolDeskModel", name := "isCall", desc := "(I)Z" } : Jvm.MethodName)) ∈ lw_all := lw_g (lw_at lw_m9 86 rfl) rfl
theorem q2084 : (Jvm.Cond.code ({ cls := "PatrolDeskModel", name := "isCall", desc := "(I)Z" } : Jvm.MethodName) prog_16_method_10_code (2 : Nat) (Option.some Jvm.ClassFile.FieldType.boolean)) ∈ lw_all := lw_g (lw_at lw_m9 87 rfl) rfl
theorem q2085 : (Jvm.Cond.methodLink "PatrolDeskModel" (104 : Nat) ({ cls := "PatrolDeskModel", name := "waitedOf", desc := "(I)I" } : Jvm.MethodName)) ∈ lw_all := lw_g (lw_at lw_m9 88 rfl) rfl
theorem q2086 : (Jvm.Cond.privateMethod ({ cls := "PatrolDeskModel", name := "waitedOf", desc := "(I)I" } : Jvm.MethodName)) ∈ lw_tbl := lw_at lw_m9 89 rfl
theorem q2087 : (Jvm.Cond.instanceMethod ({ cls := "PatrolDeskModel", name := "waitedOf", desc := "(I)I" } : Jvm.MethodName)) ∈ lw_all := lw_g (lw_at lw_m9 90 rfl) rfl
theorem q2088 : (Jvm.Cond.code ({ cls := "PatrolDeskModel", name := "waitedOf", desc := "(I)I" } : Jvm.MethodName) prog_16_method_31_code (3 : Nat) (Option.some Jvm.ClassFile.FieldType.int)) ∈ lw_all := lw_g (lw_at lw_m9 91 rfl) rfl
theorem q2090 : (Jvm.Cond.instanceMethod ({ cls := "PatrolDeskModel", name := "duty", desc := "(IZ)I" } : Jvm.MethodName)) ∈ lw_all := lw_g (lw_at lw_m9 93 rfl) rfl
theorem q2091 : (Jvm.Cond.selects "PatrolDeskModel" ({ cls := "PatrolDeskModel", name := "duty", desc := "(IZ)I" } : Jvm.MethodName) ({ cls := "PatrolDeskModel", name := "duty", desc := "(IZ)I" } : Jvm.MethodName)) ∈ lw_all := lw_g (lw_at lw_m9 94 rfl) rfl
theorem q2092 : (Jvm.Cond.code ({ cls := "PatrolDeskModel", name := "duty", desc := "(IZ)I" } : Jvm.MethodName) prog_16_method_35_code (4 : Nat) (Option.some Jvm.ClassFile.FieldType.int)) ∈ lw_all := lw_g (lw_at lw_m9 95 rfl) rfl
theorem q2093 : (Jvm.Cond.methodLink "PatrolDeskModel" (107 : Nat) ({ cls := "PatrolDeskModel", name := "isPatrol", desc := "(I)Z" } : Jvm.MethodName)) ∈ lw_all := lw_g (lw_at lw_m9 96 rfl) rfl
theorem q2094 : (Jvm.Cond.privateMethod ({ cls := "PatrolDeskModel", name := "isPatrol", desc := "(I)Z" } : Jvm.MethodName)) ∈ lw_tbl := lw_at lw_m9 97 rfl
theorem q2095 : (Jvm.Cond.instanceMethod ({ cls := "PatrolDeskModel", name := "isPatrol", desc := "(I)Z" } : Jvm.MethodName)) ∈ lw_all := lw_g (lw_at lw_m9 98 rfl) rfl
theorem q2096 : (Jvm.Cond.code ({ cls := "PatrolDeskModel", name := "isPatrol", desc := "(I)Z" } : Jvm.MethodName) prog_16_method_8_code (2 : Nat) (Option.some Jvm.ClassFile.FieldType.boolean)) ∈ lw_all := lw_g (lw_at lw_m9 99 rfl) rfl
theorem q2097 : (Jvm.Cond.methodLink "PatrolDeskModel" (110 : Nat) ({ cls := "PatrolDeskModel", name := "onDuty", desc := "()I" } : Jvm.MethodName)) ∈ lw_all := lw_g (lw_at lw_m9 100 rfl) rfl
theorem q2098 : (Jvm.Cond.privateMethod ({ cls := "PatrolDeskModel", name := "onDuty", desc := "()I" } : Jvm.MethodName)) ∈ lw_tbl := lw_at lw_m9 101 rfl
theorem q2099 : (Jvm.Cond.instanceMethod ({ cls := "PatrolDeskModel", name := "onDuty", desc := "()I" } : Jvm.MethodName)) ∈ lw_all := lw_g (lw_at lw_m9 102 rfl) rfl
theorem q2100 : (Jvm.Cond.code ({ cls := "PatrolDeskModel", name := "onDuty", desc := "()I" } : Jvm.MethodName) prog_16_method_34_code (3 : Nat) (Option.some Jvm.ClassFile.FieldType.int)) ∈ lw_all := lw_g (lw_at lw_m9 103 rfl) rfl
theorem q2102 : (Jvm.Cond.instanceMethod ({ cls := "PatrolDeskModel", name := "goHome", desc := "(I)I" } : Jvm.MethodName)) ∈ lw_all := lw_g (lw_at lw_m9 105 rfl) rfl
theorem q2103 : (Jvm.Cond.selects "PatrolDeskModel" ({ cls := "PatrolDeskModel", name := "goHome", desc := "(I)I" } : Jvm.MethodName) ({ cls := "PatrolDeskModel", name := "goHome", desc := "(I)I" } : Jvm.MethodName)) ∈ lw_all := lw_g (lw_at lw_m9 106 rfl) rfl
theorem q2104 : (Jvm.Cond.code ({ cls := "PatrolDeskModel", name := "goHome", desc := "(I)I" } : Jvm.MethodName) prog_16_method_36_code (4 : Nat) (Option.some Jvm.ClassFile.FieldType.int)) ∈ lw_all := lw_g (lw_at lw_m9 107 rfl) rfl
theorem q2105 : (Jvm.Cond.methodLink "PatrolDeskModel" (53 : Nat) ({ cls := "PatrolDeskModel", name := "way", desc := "(II)I" } : Jvm.MethodName)) ∈ lw_all := lw_g (lw_at lw_m9 108 rfl) rfl
theorem q2106 : (Jvm.Cond.privateMethod ({ cls := "PatrolDeskModel", name := "way", desc := "(II)I" } : Jvm.MethodName)) ∈ lw_tbl := lw_at lw_m9 109 rfl
theorem q2107 : (Jvm.Cond.instanceMethod ({ cls := "PatrolDeskModel", name := "way", desc := "(II)I" } : Jvm.MethodName)) ∈ lw_all := lw_g (lw_at lw_m9 110 rfl) rfl
theorem q2108 : (Jvm.Cond.code ({ cls := "PatrolDeskModel", name := "way", desc := "(II)I" } : Jvm.MethodName) prog_16_method_19_code (3 : Nat) (Option.some Jvm.ClassFile.FieldType.int)) ∈ lw_all := lw_g (lw_at lw_m9 111 rfl) rfl
theorem q2110 : (Jvm.Cond.instanceMethod ({ cls := "PatrolDeskModel", name := "fetch", desc := "(II)I" } : Jvm.MethodName)) ∈ lw_all := lw_g (lw_at lw_m9 113 rfl) rfl
theorem q2111 : (Jvm.Cond.selects "PatrolDeskModel" ({ cls := "PatrolDeskModel", name := "fetch", desc := "(II)I" } : Jvm.MethodName) ({ cls := "PatrolDeskModel", name := "fetch", desc := "(II)I" } : Jvm.MethodName)) ∈ lw_all := lw_g (lw_at lw_m9 114 rfl) rfl
theorem q2112 : (Jvm.Cond.code ({ cls := "PatrolDeskModel", name := "fetch", desc := "(II)I" } : Jvm.MethodName) prog_16_method_37_code (3 : Nat) (Option.some Jvm.ClassFile.FieldType.int)) ∈ lw_all := lw_g (lw_at lw_m9 115 rfl) rfl
theorem q2113 : (Jvm.Cond.methodLink "PatrolDeskModel" (114 : Nat) ({ cls := "PatrolDeskModel", name := "isGarage", desc := "(I)Z" } : Jvm.MethodName)) ∈ lw_all := lw_g (lw_at lw_m9 116 rfl) rfl
theorem q2114 : (Jvm.Cond.privateMethod ({ cls := "PatrolDeskModel", name := "isGarage", desc := "(I)Z" } : Jvm.MethodName)) ∈ lw_tbl := lw_at lw_m9 117 rfl
theorem q2115 : (Jvm.Cond.instanceMethod ({ cls := "PatrolDeskModel", name := "isGarage", desc := "(I)Z" } : Jvm.MethodName)) ∈ lw_all := lw_g (lw_at lw_m9 118 rfl) rfl
theorem q2116 : (Jvm.Cond.code ({ cls := "PatrolDeskModel", name := "isGarage", desc := "(I)Z" } : Jvm.MethodName) prog_16_method_9_code (2 : Nat) (Option.some Jvm.ClassFile.FieldType.boolean)) ∈ lw_all := lw_g (lw_at lw_m9 119 rfl) rfl
theorem q2117 : (Jvm.Cond.methodLink "PatrolDeskModel" (117 : Nat) ({ cls := "PatrolDeskModel", name := "ofGarage", desc := "(II)I" } : Jvm.MethodName)) ∈ lw_all := lw_g (lw_at lw_m9 120 rfl) rfl
theorem q2118 : (Jvm.Cond.privateMethod ({ cls := "PatrolDeskModel", name := "ofGarage", desc := "(II)I" } : Jvm.MethodName)) ∈ lw_tbl := lw_at lw_m9 121 rfl
theorem q2119 : (Jvm.Cond.instanceMethod ({ cls := "PatrolDeskModel", name := "ofGarage", desc := "(II)I" } : Jvm.MethodName)) ∈ lw_all := lw_g (lw_at lw_m9 122 rfl) rfl
theorem q2120 : (Jvm.Cond.code ({ cls := "PatrolDeskModel", name := "ofGarage", desc := "(II)I" } : Jvm.MethodName) prog_16_method_15_code (3 : Nat) (Option.some Jvm.ClassFile.FieldType.int)) ∈ lw_all := lw_g (lw_at lw_m9 123 rfl) rfl
theorem q2122 : (Jvm.Cond.instanceMethod ({ cls := "PatrolDeskModel", name := "pass", desc := "(I)I" } : Jvm.MethodName)) ∈ lw_all := lw_g (lw_at lw_m9 125 rfl) rfl
theorem q2123 : (Jvm.Cond.selects "PatrolDeskModel" ({ cls := "PatrolDeskModel", name := "pass", desc := "(I)I" } : Jvm.MethodName) ({ cls := "PatrolDeskModel", name := "pass", desc := "(I)I" } : Jvm.MethodName)) ∈ lw_all := lw_g (lw_at lw_m9 126 rfl) rfl
theorem q2124 : (Jvm.Cond.code ({ cls := "PatrolDeskModel", name := "pass", desc := "(I)I" } : Jvm.MethodName) prog_16_method_54_code (4 : Nat) (Option.some Jvm.ClassFile.FieldType.int)) ∈ lw_all := lw_g (lw_at lw_m9 127 rfl) rfl
theorem q2125 : (Jvm.Cond.methodLink "PatrolDeskModel" (172 : Nat) ({ cls := "PatrolDeskModel", name := "manyIn", desc := "(I)I" } : Jvm.MethodName)) ∈ lw_all := lw_g (lw_at lw_m9 128 rfl) rfl
theorem q2126 : (Jvm.Cond.privateMethod ({ cls := "PatrolDeskModel", name := "manyIn", desc := "(I)I" } : Jvm.MethodName)) ∈ lw_tbl := lw_at lw_m9 129 rfl
theorem q2127 : (Jvm.Cond.instanceMethod ({ cls := "PatrolDeskModel", name := "manyIn", desc := "(I)I" } : Jvm.MethodName)) ∈ lw_all := lw_g (lw_at lw_m9 130 rfl) rfl
theorem q2128 : (Jvm.Cond.code ({ cls := "PatrolDeskModel", name := "manyIn", desc := "(I)I" } : Jvm.MethodName) prog_16_method_53_code (4 : Nat) (Option.some Jvm.ClassFile.FieldType.int)) ∈ lw_all := lw_g (lw_at lw_m9 131 rfl) rfl
theorem q2129 : (Jvm.Cond.methodLink "PatrolDeskModel" (175 : Nat) ({ cls := "PatrolDeskModel", name := "passes", desc := "()V" } : Jvm.MethodName)) ∈ lw_all := lw_g (lw_at lw_m9 132 rfl) rfl
theorem q2130 : (Jvm.Cond.privateMethod ({ cls := "PatrolDeskModel", name := "passes", desc := "()V" } : Jvm.MethodName)) ∈ lw_tbl := lw_at lw_m9 133 rfl
theorem q2131 : (Jvm.Cond.instanceMethod ({ cls := "PatrolDeskModel", name := "passes", desc := "()V" } : Jvm.MethodName)) ∈ lw_all := lw_g (lw_at lw_m9 134 rfl) rfl
theorem q2132 : (Jvm.Cond.code ({ cls := "PatrolDeskModel", name := "passes", desc := "()V" } : Jvm.MethodName) prog_16_method_52_code (3 : Nat) (Option.none : Option Jvm.ClassFile.FieldType)) ∈ lw_all := lw_g (lw_at lw_m9 135 rfl) rfl
theorem q2133 : (Jvm.Cond.methodLink "PatrolDeskModel" (160 : Nat) ({ cls := "PatrolDeskModel", name := "gets", desc := "(I)V" } : Jvm.MethodName)) ∈ lw_all := lw_g (lw_at lw_m9 136 rfl) rfl
theorem q2134 : (Jvm.Cond.privateMethod ({ cls := "PatrolDeskModel", name := "gets", desc := "(I)V" } : Jvm.MethodName)) ∈ lw_tbl := lw_at lw_m9 137 rfl
theorem q2135 : (Jvm.Cond.instanceMethod ({ cls := "PatrolDeskModel", name := "gets", desc := "(I)V" } : Jvm.MethodName)) ∈ lw_all := lw_g (lw_at lw_m9 138 rfl) rfl
theorem q2136 : (Jvm.Cond.code ({ cls := "PatrolDeskModel", name := "gets", desc := "(I)V" } : Jvm.MethodName) prog_16_method_42_code (5 : Nat) (Option.none : Option Jvm.ClassFile.FieldType)) ∈ lw_all := lw_g (lw_at lw_m9 139 rfl) rfl
theorem q2137 : (Jvm.Cond.methodLink "PatrolDeskModel" (135 : Nat) ({ cls := "PatrolDeskModel", name := "tows", desc := "(I)V" } : Jvm.MethodName)) ∈ lw_all := lw_g (lw_at lw_m9 140 rfl) rfl
theorem q2138 : (Jvm.Cond.privateMethod ({ cls := "PatrolDeskModel", name := "tows", desc := "(I)V" } : Jvm.MethodName)) ∈ lw_tbl := lw_at lw_m9 141 rfl
theorem q2139 : (Jvm.Cond.instanceMethod ({ cls := "PatrolDeskModel", name := "tows", desc := "(I)V" } : Jvm.MethodName)) ∈ lw_all := lw_g (lw_at lw_m9 142 rfl) rfl
theorem q2140 : (Jvm.Cond.code ({ cls := "PatrolDeskModel", name := "tows", desc := "(I)V" } : Jvm.MethodName) prog_16_method_41_code (13 : Nat) (Option.none : Option Jvm.ClassFile.FieldType)) ∈ lw_all := lw_g (lw_at lw_m9 143 rfl) rfl
theorem q2141 : (Jvm.Cond.methodLink "PatrolDeskModel" (123 : Nat) ({ cls := "PatrolDeskModel", name := "garageFor", desc := "(I)I" } : Jvm.MethodName)) ∈ lw_all := lw_g (lw_at lw_m9 144 rfl) rfl
theorem q2142 : (Jvm.Cond.privateMethod ({ cls := "PatrolDeskModel", name := "garageFor", desc := "(I)I" } : Jvm.MethodName)) ∈ lw_tbl := lw_at lw_m9 145 rfl
theorem q2143 : (Jvm.Cond.instanceMethod ({ cls := "PatrolDeskModel", name := "garageFor", desc := "(I)I" } : Jvm.MethodName)) ∈ lw_all := lw_g (lw_at lw_m9 146 rfl) rfl
theorem q2144 : (Jvm.Cond.code ({ cls := "PatrolDeskModel", name := "garageFor", desc := "(I)I" } : Jvm.MethodName) prog_16_method_39_code (6 : Nat) (Option.some Jvm.ClassFile.FieldType.int)) ∈ lw_all := lw_g (lw_at lw_m9 147 rfl) rfl
theorem q2145 : (Jvm.Cond.methodLink "PatrolDeskModel" (120 : Nat) ({ cls := "PatrolDeskModel", name := "underWay", desc := "(I)I" } : Jvm.MethodName)) ∈ lw_all := lw_g (lw_at lw_m9 148 rfl) rfl
theorem q2146 : (Jvm.Cond.privateMethod ({ cls := "PatrolDeskModel", name := "underWay", desc := "(I)I" } : Jvm.MethodName)) ∈ lw_tbl := lw_at lw_m9 149 rfl
theorem q2147 : (Jvm.Cond.instanceMethod ({ cls := "PatrolDeskModel", name := "underWay", desc := "(I)I" } : Jvm.MethodName)) ∈ lw_all := lw_g (lw_at lw_m9 150 rfl) rfl
theorem q2148 : (Jvm.Cond.code ({ cls := "PatrolDeskModel", name := "underWay", desc := "(I)I" } : Jvm.MethodName) prog_16_method_38_code (4 : Nat) (Option.some Jvm.ClassFile.FieldType.int)) ∈ lw_all := lw_g (lw_at lw_m9 151 rfl) rfl
theorem q2149 : (Jvm.Cond.methodLink "PatrolDeskModel" (126 : Nat) ({ cls := "PatrolDeskModel", name := "leaves", desc := "(I)V" } : Jvm.MethodName)) ∈ lw_all := lw_g (lw_at lw_m9 152 rfl) rfl
theorem q2150 : (Jvm.Cond.privateMethod ({ cls := "PatrolDeskModel", name := "leaves", desc := "(I)V" } : Jvm.MethodName)) ∈ lw_tbl := lw_at lw_m9 153 rfl
theorem q2151 : (Jvm.Cond.instanceMethod ({ cls := "PatrolDeskModel", name := "leaves", desc := "(I)V" } : Jvm.MethodName)) ∈ lw_all := lw_g (lw_at lw_m9 154 rfl) rfl
theorem q2152 : (Jvm.Cond.code ({ cls := "PatrolDeskModel", name := "leaves", desc := "(I)V" } : Jvm.MethodName) prog_16_method_40_code (3 : Nat) (Option.none : Option Jvm.ClassFile.FieldType)) ∈ lw_all := lw_g (lw_at lw_m9 155 rfl) rfl
theorem q2153 : (Jvm.Cond.methodLink "PatrolDeskModel" (129 : Nat) ({ cls := "PatrolDeskModel", name := "region", desc := "(I)I" } : Jvm.MethodName)) ∈ lw_all := lw_g (lw_at lw_m9 156 rfl) rfl
theorem q2154 : (Jvm.Cond.static ({ cls := "PatrolDeskModel", name := "region", desc := "(I)I" } : Jvm.MethodName)) ∈ lw_all := lw_g (lw_at lw_m9 157 rfl) rfl
theorem q2155 : (Jvm.Cond.code ({ cls := "PatrolDeskModel", name := "region", desc := "(I)I" } : Jvm.MethodName) prog_16_method_6_code (1 : Nat) (Option.some Jvm.ClassFile.FieldType.int)) ∈ lw_all := lw_g (lw_at lw_m9 158 rfl) rfl
theorem q2156 : (Jvm.Cond.methodLink "PatrolDeskModel" (132 : Nat) ({ cls := "PatrolDeskModel", name := "nextOn", desc := "(II)I" } : Jvm.MethodName)) ∈ lw_all := lw_g (lw_at lw_m9 159 rfl) rfl
theorem q2157 : (Jvm.Cond.privateMethod ({ cls := "PatrolDeskModel", name := "nextOn", desc := "(II)I" } : Jvm.MethodName)) ∈ lw_tbl := lw_at lw_m9 160 rfl
theorem q2158 : (Jvm.Cond.instanceMethod ({ cls := "PatrolDeskModel", name := "nextOn", desc := "(II)I" } : Jvm.MethodName)) ∈ lw_all := lw_g (lw_at lw_m9 161 rfl) rfl
theorem q2159 : (Jvm.Cond.code ({ cls := "PatrolDeskModel", name := "nextOn", desc := "(II)I" } : Jvm.MethodName) prog_16_method_20_code (4 : Nat) (Option.some Jvm.ClassFile.FieldType.int)) ∈ lw_all := lw_g (lw_at lw_m9 162 rfl) rfl
theorem q2160 : (Jvm.Cond.methodLink "PatrolDeskModel" (163 : Nat) ({ cls := "PatrolDeskModel", name := "repaired", desc := "(I)V" } : Jvm.MethodName)) ∈ lw_all := lw_g (lw_at lw_m9 163 rfl) rfl
theorem q2161 : (Jvm.Cond.privateMethod ({ cls := "PatrolDeskModel", name := "repaired", desc := "(I)V" } : Jvm.MethodName)) ∈ lw_tbl := lw_at lw_m9 164 rfl
theorem q2162 : (Jvm.Cond.instanceMethod ({ cls := "PatrolDeskModel", name := "repaired", desc := "(I)V" } : Jvm.MethodName)) ∈ lw_all := lw_g (lw_at lw_m9 165 rfl) rfl
theorem q2163 : (Jvm.Cond.code ({ cls := "PatrolDeskModel", name := "repaired", desc := "(I)V" } : Jvm.MethodName) prog_16_method_43_code (5 : Nat) (Option.none : Option Jvm.ClassFile.FieldType)) ∈ lw_all := lw_g (lw_at lw_m9 166 rfl) rfl
theorem q2164 : (Jvm.Cond.methodLink "PatrolDeskModel" (166 : Nat) ({ cls := "PatrolDeskModel", name := "towed", desc := "(I)V" } : Jvm.MethodName)) ∈ lw_all := lw_g (lw_at lw_m9 167 rfl) rfl
theorem q2165 : (Jvm.Cond.privateMethod ({ cls := "PatrolDeskModel", name := "towed", desc := "(I)V" } : Jvm.MethodName)) ∈ lw_tbl := lw_at lw_m9 168 rfl
theorem q2166 : (Jvm.Cond.instanceMethod ({ cls := "PatrolDeskModel", name := "towed", desc := "(I)V" } : Jvm.MethodName)) ∈ lw_all := lw_g (lw_at lw_m9 169 rfl) rfl
theorem q2167 : (Jvm.Cond.code ({ cls := "PatrolDeskModel", name := "towed", desc := "(I)V" } : Jvm.MethodName) prog_16_method_44_code (5 : Nat) (Option.none : Option Jvm.ClassFile.FieldType)) ∈ lw_all := lw_g (lw_at lw_m9 170 rfl) rfl
theorem q2168 : (Jvm.Cond.methodLink "PatrolDeskModel" (169 : Nat) ({ cls := "PatrolDeskModel", name := "sends", desc := "()V" } : Jvm.MethodName)) ∈ lw_all := lw_g (lw_at lw_m9 171 rfl) rfl
theorem q2169 : (Jvm.Cond.privateMethod ({ cls := "PatrolDeskModel", name := "sends", desc := "()V" } : Jvm.MethodName)) ∈ lw_tbl := lw_at lw_m9 172 rfl
theorem q2170 : (Jvm.Cond.instanceMethod ({ cls := "PatrolDeskModel", name := "sends", desc := "()V" } : Jvm.MethodName)) ∈ lw_all := lw_g (lw_at lw_m9 173 rfl) rfl
theorem q2171 : (Jvm.Cond.code ({ cls := "PatrolDeskModel", name := "sends", desc := "()V" } : Jvm.MethodName) prog_16_method_51_code (5 : Nat) (Option.none : Option Jvm.ClassFile.FieldType)) ∈ lw_all := lw_g (lw_at lw_m9 174 rfl) rfl
theorem q2172 : (Jvm.Cond.methodLink "PatrolDeskModel" (154 : Nat) ({ cls := "PatrolDeskModel", name := "laysRow", desc := "()V" } : Jvm.MethodName)) ∈ lw_all := lw_g (lw_at lw_m9 175 rfl) rfl
theorem q2173 : (Jvm.Cond.privateMethod ({ cls := "PatrolDeskModel", name := "laysRow", desc := "()V" } : Jvm.MethodName)) ∈ lw_tbl := lw_at lw_m9 176 rfl
theorem q2174 : (Jvm.Cond.instanceMethod ({ cls := "PatrolDeskModel", name := "laysRow", desc := "()V" } : Jvm.MethodName)) ∈ lw_all := lw_g (lw_at lw_m9 177 rfl) rfl
theorem q2175 : (Jvm.Cond.code ({ cls := "PatrolDeskModel", name := "laysRow", desc := "()V" } : Jvm.MethodName) prog_16_method_48_code (3 : Nat) (Option.none : Option Jvm.ClassFile.FieldType)) ∈ lw_all := lw_g (lw_at lw_m9 178 rfl) rfl
theorem q2176 : (Jvm.Cond.methodLink "PatrolDeskModel" (144 : Nat) ({ cls := "PatrolDeskModel", name := "waits", desc := "(I)Z" } : Jvm.MethodName)) ∈ lw_all := lw_g (lw_at lw_m9 179 rfl) rfl
theorem q2177 : (Jvm.Cond.privateMethod ({ cls := "PatrolDeskModel", name := "waits", desc := "(I)Z" } : Jvm.MethodName)) ∈ lw_tbl := lw_at lw_m9 180 rfl
theorem q2178 : (Jvm.Cond.instanceMethod ({ cls := "PatrolDeskModel", name := "waits", desc := "(I)Z" } : Jvm.MethodName)) ∈ lw_all := lw_g (lw_at lw_m9 181 rfl) rfl
theorem q2179 : (Jvm.Cond.code ({ cls := "PatrolDeskModel", name := "waits", desc := "(I)Z" } : Jvm.MethodName) prog_16_method_45_code (2 : Nat) (Option.some Jvm.ClassFile.FieldType.boolean)) ∈ lw_all := lw_g (lw_at lw_m9 182 rfl) rfl
theorem q2180 : (Jvm.Cond.methodLink "PatrolDeskModel" (147 : Nat) ({ cls := "PatrolDeskModel", name := "isAhead", desc := "(II)Z" } : Jvm.MethodName)) ∈ lw_all := lw_g (lw_at lw_m9 183 rfl) rfl
theorem q2181 : (Jvm.Cond.privateMethod ({ cls := "PatrolDeskModel", name := "isAhead", desc := "(II)Z" } : Jvm.MethodName)) ∈ lw_tbl := lw_at lw_m9 184 rfl
theorem q2182 : (Jvm.Cond.instanceMethod ({ cls := "PatrolDeskModel", name := "isAhead", desc := "(II)Z" } : Jvm.MethodName)) ∈ lw_all := lw_g (lw_at lw_m9 185 rfl) rfl
theorem q2183 : (Jvm.Cond.code ({ cls := "PatrolDeskModel", name := "isAhead", desc := "(II)Z" } : Jvm.MethodName) prog_16_method_47_code (5 : Nat) (Option.some Jvm.ClassFile.FieldType.boolean)) ∈ lw_all := lw_g (lw_at lw_m9 186 rfl) rfl
theorem q2184 : (Jvm.Cond.methodLink "PatrolDeskModel" (138 : Nat) ({ cls := "PatrolDeskModel", name := "rest", desc := "(I)I" } : Jvm.MethodName)) ∈ lw_all := lw_g (lw_at lw_m9 187 rfl) rfl
theorem q2185 : (Jvm.Cond.privateMethod ({ cls := "PatrolDeskModel", name := "rest", desc := "(I)I" } : Jvm.MethodName)) ∈ lw_tbl := lw_at lw_m9 188 rfl
theorem q2186 : (Jvm.Cond.instanceMethod ({ cls := "PatrolDeskModel", name := "rest", desc := "(I)I" } : Jvm.MethodName)) ∈ lw_all := lw_g (lw_at lw_m9 189 rfl) rfl
theorem q2187 : (Jvm.Cond.code ({ cls := "PatrolDeskModel", name := "rest", desc := "(I)I" } : Jvm.MethodName) prog_16_method_46_code (2 : Nat) (Option.some Jvm.ClassFile.FieldType.int)) ∈ lw_all := lw_g (lw_at lw_m9 190 rfl) rfl
theorem q2188 : (Jvm.Cond.methodLink "PatrolDeskModel" (157 : Nat) ({ cls := "PatrolDeskModel", name := "nearestOf", desc := "(I)I" } : Jvm.MethodName)) ∈ lw_all := lw_g (lw_at lw_m9 191 rfl) rfl
theorem q2189 : (Jvm.Cond.privateMethod ({ cls := "PatrolDeskModel", name := "nearestOf", desc := "(I)I" } : Jvm.MethodName)) ∈ lw_tbl := lw_at lw_m9 192 rfl
theorem q2190 : (Jvm.Cond.instanceMethod ({ cls := "PatrolDeskModel", name := "nearestOf", desc := "(I)I" } : Jvm.MethodName)) ∈ lw_all := lw_g (lw_at lw_m9 193 rfl) rfl
theorem q2191 : (Jvm.Cond.code ({ cls := "PatrolDeskModel", name := "nearestOf", desc := "(I)I" } : Jvm.MethodName) prog_16_method_50_code (7 : Nat) (Option.some Jvm.ClassFile.FieldType.int)) ∈ lw_all := lw_g (lw_at lw_m9 194 rfl) rfl
theorem q2192 : (Jvm.Cond.methodLink "PatrolDeskModel" (151 : Nat) ({ cls := "PatrolDeskModel", name := "mayTake", desc := "(II)Z" } : Jvm.MethodName)) ∈ lw_all := lw_g (lw_at lw_m9 195 rfl) rfl
theorem q2193 : (Jvm.Cond.privateMethod ({ cls := "PatrolDeskModel", name := "mayTake", desc := "(II)Z" } : Jvm.MethodName)) ∈ lw_tbl := lw_at lw_m9 196 rfl
theorem q2194 : (Jvm.Cond.instanceMethod ({ cls := "PatrolDeskModel", name := "mayTake", desc := "(II)Z" } : Jvm.MethodName)) ∈ lw_all := lw_g (lw_at lw_m9 197 rfl) rfl
theorem q2195 : (Jvm.Cond.code ({ cls := "PatrolDeskModel", name := "mayTake", desc := "(II)Z" } : Jvm.MethodName) prog_16_method_49_code (5 : Nat) (Option.some Jvm.ClassFile.FieldType.boolean)) ∈ lw_all := lw_g (lw_at lw_m9 198 rfl) rfl
theorem q2197 : (Jvm.Cond.instanceMethod ({ cls := "PatrolDeskModel", name := "type", desc := "(C)I" } : Jvm.MethodName)) ∈ lw_all := lw_g (lw_at lw_m9 200 rfl) rfl
theorem q2198 : (Jvm.Cond.selects "PatrolDeskModel" ({ cls := "PatrolDeskModel", name := "type", desc := "(C)I" } : Jvm.MethodName) ({ cls := "PatrolDeskModel", name := "type", desc := "(C)I" } : Jvm.MethodName)) ∈ lw_all := lw_g (lw_at lw_m9 201 rfl) rfl
theorem q2199 : (Jvm.Cond.code ({ cls := "PatrolDeskModel", name := "type", desc := "(C)I" } : Jvm.MethodName) prog_16_method_55_code (2 : Nat) (Option.some Jvm.ClassFile.FieldType.int)) ∈ lw_all := lw_g (lw_at lw_m9 202 rfl) rfl
theorem q2201 : (Jvm.Cond.instanceMethod ({ cls := "PatrolDeskModel", name := "clearText", desc := "()I" } : Jvm.MethodName)) ∈ lw_all := lw_g (lw_at lw_m9 204 rfl) rfl
theorem q2202 : (Jvm.Cond.selects "PatrolDeskModel" ({ cls := "PatrolDeskModel", name := "clearText", desc := "()I" } : Jvm.MethodName) ({ cls := "PatrolDeskModel", name := "clearText", desc := "()I" } : Jvm.MethodName)) ∈ lw_all := lw_g (lw_at lw_m9 205 rfl) rfl
theorem q2203 : (Jvm.Cond.code ({ cls := "PatrolDeskModel", name := "clearText", desc := "()I" } : Jvm.MethodName) prog_16_method_56_code (2 : Nat) (Option.some Jvm.ClassFile.FieldType.int)) ∈ lw_all := lw_g (lw_at lw_m9 206 rfl) rfl
theorem q2205 : (Jvm.Cond.instanceMethod ({ cls := "PatrolDeskModel", name := "readCalls", desc := "()I" } : Jvm.MethodName)) ∈ lw_all := lw_g (lw_at lw_m9 208 rfl) rfl
theorem q2206 : (Jvm.Cond.selects "PatrolDeskModel" ({ cls := "PatrolDeskModel", name := "readCalls", desc := "()I" } : Jvm.MethodName) ({ cls := "PatrolDeskModel", name := "readCalls", desc := "()I" } : Jvm.MethodName)) ∈ lw_all := lw_g (lw_at lw_m9 209 rfl) rfl
theorem q2207 : (Jvm.Cond.code ({ cls := "PatrolDeskModel", name := "readCalls", desc := "()I" } : Jvm.MethodName) prog_16_method_60_code (4 : Nat) (Option.some Jvm.ClassFile.FieldType.int)) ∈ lw_all := lw_g (lw_at lw_m9 210 rfl) rfl
theorem q2208 : (Jvm.Cond.methodLink "PatrolDeskModel" (193 : Nat) ({ cls := "PatrolDeskModel", name := "faultOf", desc := "()I" } : Jvm.MethodName)) ∈ lw_all := lw_g (lw_at lw_m9 211 rfl) rfl
theorem q2209 : (Jvm.Cond.privateMethod ({ cls := "PatrolDeskModel", name := "faultOf", desc := "()I" } : Jvm.MethodName)) ∈ lw_tbl := lw_at lw_m9 212 rfl
theorem q2210 : (Jvm.Cond.instanceMethod ({ cls := "PatrolDeskModel", name := "faultOf", desc := "()I" } : Jvm.MethodName)) ∈ lw_all := lw_g (lw_at lw_m9 213 rfl) rfl
theorem q2211 : (Jvm.Cond.code ({ cls := "PatrolDeskModel", name := "faultOf", desc := "()I" } : Jvm.MethodName) prog_16_method_59_code (2 : Nat) (Option.some Jvm.ClassFile.FieldType.int)) ∈ lw_all := lw_g (lw_at lw_m9 214 rfl) rfl
theorem q2212 : (Jvm.Cond.methodLink "PatrolDeskModel" (190 : Nat) ({ cls := "PatrolDeskModel", name := "reads", desc := "(II)Z" } : Jvm.MethodName)) ∈ lw_all := lw_g (lw_at lw_m9 215 rfl) rfl
theorem q2213 : (Jvm.Cond.privateMethod ({ cls := "PatrolDeskModel", name := "reads", desc := "(II)Z" } : Jvm.MethodName)) ∈ lw_tbl := lw_at lw_m9 216 rfl
theorem q2214 : (Jvm.Cond.instanceMethod ({ cls := "PatrolDeskModel", name := "reads", desc := "(II)Z" } : Jvm.MethodName)) ∈ lw_all := lw_g (lw_at lw_m9 217 rfl) rfl
theorem q2215 : (Jvm.Cond.code ({ cls := "PatrolDeskModel", name := "reads", desc := "(II)Z" } : Jvm.MethodName) prog_16_method_58_code (4 : Nat) (Option.some Jvm.ClassFile.FieldType.boolean)) ∈ lw_all := lw_g (lw_at lw_m9 218 rfl) rfl
theorem q2216 : (Jvm.Cond.methodLink "PatrolDeskModel" (184 : Nat) ({ cls := "PatrolDeskModel", name := "signAt", desc := "(I)I" } : Jvm.MethodName)) ∈ lw_all := lw_g (lw_at lw_m9 219 rfl) rfl
theorem q2217 : (Jvm.Cond.privateMethod ({ cls := "PatrolDeskModel", name := "signAt", desc := "(I)I" } : Jvm.MethodName)) ∈ lw_tbl := lw_at lw_m9 220 rfl
theorem q2218 : (Jvm.Cond.instanceMethod ({ cls := "PatrolDeskModel", name := "signAt", desc := "(I)I" } : Jvm.MethodName)) ∈ lw_all := lw_g (lw_at lw_m9 221 rfl) rfl
theorem q2219 : (Jvm.Cond.code ({ cls := "PatrolDeskModel", name := "signAt", desc := "(I)I" } : Jvm.MethodName) prog_16_method_57_code (2 : Nat) (Option.some Jvm.ClassFile.FieldType.int)) ∈ lw_all := lw_g (lw_at lw_m9 222 rfl) rfl
theorem q2221 : (Jvm.Cond.instanceMethod ({ cls := "PatrolDeskModel", name := "undo", desc := "()I" } : Jvm.MethodName)) ∈ lw_all := lw_g (lw_at lw_m9 224 rfl) rfl
theorem q2222 : (Jvm.Cond.selects "PatrolDeskModel" ({ cls := "PatrolDeskModel", name := "undo", desc := "()I" } : Jvm.MethodName) ({ cls := "PatrolDeskModel", name := "undo", desc := "()I" } : Jvm.MethodName)) ∈ lw_all := lw_g (lw_at lw_m9 225 rfl) rfl
theorem q2223 : (Jvm.Cond.code ({ cls := "PatrolDeskModel", name := "undo", desc := "()I" } : Jvm.MethodName) prog_16_method_61_code (1 : Nat) (Option.some Jvm.ClassFile.FieldType.int)) ∈ lw_all := lw_g (lw_at lw_m9 226 rfl) rfl
theorem q2225 : (Jvm.Cond.instanceMethod ({ cls := "PatrolDeskModel", name := "keep", desc := "()I" } : Jvm.MethodName)) ∈ lw_all := lw_g (lw_at lw_m9 228 rfl) rfl
theorem q2226 : (Jvm.Cond.selects "PatrolDeskModel" ({ cls := "PatrolDeskModel", name := "keep", desc := "()I" } : Jvm.MethodName) ({ cls := "PatrolDeskModel", name := "keep", desc := "()I" } : Jvm.MethodName)) ∈ lw_all := lw_g (lw_at lw_m9 229 rfl) rfl
theorem q2227 : (Jvm.Cond.code ({ cls := "PatrolDeskModel", name := "keep", desc := "()I" } : Jvm.MethodName) prog_16_method_62_code (1 : Nat) (Option.some Jvm.ClassFile.FieldType.int)) ∈ lw_all := lw_g (lw_at lw_m9 230 rfl) rfl
theorem q2229 : (Jvm.Cond.instanceMethod ({ cls := "PatrolDeskModel", name := "restore", desc := "()I" } : Jvm.MethodName)) ∈ lw_all := lw_g (lw_at lw_m9 232 rfl) rfl
theorem q2230 : (Jvm.Cond.selects "PatrolDeskModel" ({ cls := "PatrolDeskModel", name := "restore", desc := "()I" } : Jvm.MethodName) ({ cls := "PatrolDeskModel", name := "restore", desc := "()I" } : Jvm.MethodName)) ∈ lw_all := lw_g (lw_at lw_m9 233 rfl) rfl
theorem q2231 : (Jvm.Cond.code ({ cls := "PatrolDeskModel", name := "restore", desc := "()I" } : Jvm.MethodName) prog_16_method_63_code (1 : Nat) (Option.some Jvm.ClassFile.FieldType.int)) ∈ lw_all := lw_g (lw_at lw_m9 234 rfl) rfl
theorem q2233 : (Jvm.Cond.instanceMethod ({ cls := "PatrolDeskModel", name := "distance", desc := "(II)I" } : Jvm.MethodName)) ∈ lw_all := lw_g (lw_at lw_m9 236 rfl) rfl
theorem q2234 : (Jvm.Cond.selects "PatrolDeskModel" ({ cls := "PatrolDeskModel", name := "distance", desc := "(II)I" } : Jvm.MethodName) ({ cls := "PatrolDeskModel", name := "distance", desc := "(II)I" } : Jvm.MethodName)) ∈ lw_all := lw_g (lw_at lw_m9 237 rfl) rfl
theorem q2235 : (Jvm.Cond.code ({ cls := "PatrolDeskModel", name := "distance", desc := "(II)I" } : Jvm.MethodName) prog_16_method_64_code (3 : Nat) (Option.some Jvm.ClassFile.FieldType.int)) ∈ lw_all := lw_g (lw_at lw_m9 238 rfl) rfl
theorem q2237 : (Jvm.Cond.instanceMethod ({ cls := "PatrolDeskModel", name := "wayAt", desc := "(III)I" } : Jvm.MethodName)) ∈ lw_all := lw_g (lw_at lw_m10 0 rfl) rfl
theorem q2238 : (Jvm.Cond.selects "PatrolDeskModel" ({ cls := "PatrolDeskModel", name := "wayAt", desc := "(III)I" } : Jvm.MethodName) ({ cls := "PatrolDeskModel", name := "wayAt", desc := "(III)I" } : Jvm.MethodName)) ∈ lw_all := lw_g (lw_at lw_m10 1 rfl) rfl
theorem q2239 : (Jvm.Cond.code ({ cls := "PatrolDeskModel", name := "wayAt", desc := "(III)I" } : Jvm.MethodName) prog_16_method_65_code (6 : Nat) (Option.some Jvm.ClassFile.FieldType.int)) ∈ lw_all := lw_g (lw_at lw_m10 2 rfl) rfl
theorem q2241 : (Jvm.Cond.instanceMethod ({ cls := "PatrolDeskModel", name := "member", desc := "(II)I" } : Jvm.MethodName)) ∈ lw_all := lw_g (lw_at lw_m10 4 rfl) rfl
theorem q2242 : (Jvm.Cond.selects "PatrolDeskModel" ({ cls := "PatrolDeskModel", name := "member", desc := "(II)I" } : Jvm.MethodName) ({ cls := "PatrolDeskModel", name := "member", desc := "(II)I" } : Jvm.MethodName)) ∈ lw_all := lw_g (lw_at lw_m10 5 rfl) rfl
theorem q2243 : (Jvm.Cond.code ({ cls := "PatrolDeskModel", name := "member", desc := "(II)I" } : Jvm.MethodName) prog_16_method_66_code (6 : Nat) (Option.some Jvm.ClassFile.FieldType.int)) ∈ lw_all := lw_g (lw_at lw_m10 6 rfl) rfl
theorem q2245 : (Jvm.Cond.instanceMethod ({ cls := "PatrolDeskModel", name := "patrol", desc := "(II)I" } : Jvm.MethodName)) ∈ lw_all := lw_g (lw_at lw_m10 8 rfl) rfl
theorem q2246 : (Jvm.Cond.selects "PatrolDeskModel" ({ cls := "PatrolDeskModel", name := "patrol", desc := "(II)I" } : Jvm.MethodName) ({ cls := "PatrolDeskModel", name := "patrol", desc := "(II)I" } : Jvm.MethodName)) ∈ lw_all := lw_g (lw_at lw_m10 9 rfl) rfl
theorem q2247 : (Jvm.Cond.code ({ cls := "PatrolDeskModel", name := "patrol", desc := "(II)I" } : Jvm.MethodName) prog_16_method_67_code (3 : Nat) (Option.some Jvm.ClassFile.FieldType.int)) ∈ lw_all := lw_g (lw_at lw_m10 10 rfl) rfl
theorem q2249 : (Jvm.Cond.instanceMethod ({ cls := "PatrolDeskModel", name := "garage", desc := "(II)I" } : Jvm.MethodName)) ∈ lw_all := lw_g (lw_at lw_m10 12 rfl) rfl
theorem q2250 : (Jvm.Cond.selects "PatrolDeskModel" ({ cls := "PatrolDeskModel", name := "garage", desc := "(II)I" } : Jvm.MethodName) ({ cls := "PatrolDeskModel", name := "garage", desc := "(II)I" } : Jvm.MethodName)) ∈ lw_all := lw_g (lw_at lw_m10 13 rfl) rfl
theorem q2251 : (Jvm.Cond.code ({ cls := "PatrolDeskModel", name := "garage", desc := "(II)I" } : Jvm.MethodName) prog_16_method_68_code (3 : Nat) (Option.some Jvm.ClassFile.FieldType.int)) ∈ lw_all := lw_g (lw_at lw_m10 14 rfl) rfl
theorem q2253 : (Jvm.Cond.instanceMethod ({ cls := "PatrolDeskModel", name := "callOf", desc := "(II)I" } : Jvm.MethodName)) ∈ lw_all := lw_g (lw_at lw_m10 16 rfl) rfl
theorem q2254 : (Jvm.Cond.selects "PatrolDeskModel" ({ cls := "PatrolDeskModel", name := "callOf", desc := "(II)I" } : Jvm.MethodName) ({ cls := "PatrolDeskModel", name := "callOf", desc := "(II)I" } : Jvm.MethodName)) ∈ lw_all := lw_g (lw_at lw_m10 17 rfl) rfl
theorem q2255 : (Jvm.Cond.code ({ cls := "PatrolDeskModel", name := "callOf", desc := "(II)I" } : Jvm.MethodName) prog_16_method_69_code (3 : Nat) (Option.some Jvm.ClassFile.FieldType.int)) ∈ lw_all := lw_g (lw_at lw_m10 18 rfl) rfl
theorem q2257 : (Jvm.Cond.instanceMethod ({ cls := "PatrolDeskModel", name := "waiting", desc := "(I)I" } : Jvm.MethodName)) ∈ lw_all := lw_g (lw_at lw_m10 20 rfl) rfl
theorem q2258 : (Jvm.Cond.selects "PatrolDeskModel" ({ cls := "PatrolDeskModel", name := "waiting", desc := "(I)I" } : Jvm.MethodName) ({ cls := "PatrolDeskModel", name := "waiting", desc := "(I)I" } : Jvm.MethodName)) ∈ lw_all := lw_g (lw_at lw_m10 21 rfl) rfl
theorem q2259 : (Jvm.Cond.code ({ cls := "PatrolDeskModel", name := "waiting", desc := "(I)I" } : Jvm.MethodName) prog_16_method_70_code (2 : Nat) (Option.some Jvm.ClassFile.FieldType.int)) ∈ lw_all := lw_g (lw_at lw_m10 22 rfl) rfl
theorem q2261 : (Jvm.Cond.instanceMethod ({ cls := "PatrolDeskModel", name := "nearest", desc := "(I)I" } : Jvm.MethodName)) ∈ lw_all := lw_g (lw_at lw_m10 24 rfl) rfl
theorem q2262 : (Jvm.Cond.selects "PatrolDeskModel" ({ cls := "PatrolDeskModel", name := "nearest", desc := "(I)I" } : Jvm.MethodName) ({ cls := "PatrolDeskModel", name := "nearest", desc := "(I)I" } : Jvm.MethodName)) ∈ lw_all := lw_g (lw_at lw_m10 25 rfl) rfl
theorem q2263 : (Jvm.Cond.code ({ cls := "PatrolDeskModel", name := "nearest", desc := "(I)I" } : Jvm.MethodName) prog_16_method_71_code (2 : Nat) (Option.some Jvm.ClassFile.FieldType.int)) ∈ lw_all := lw_g (lw_at lw_m10 26 rfl) rfl
theorem q2265 : (Jvm.Cond.instanceMethod ({ cls := "PatrolDeskModel", name := "waitFor", desc := "(I)I" } : Jvm.MethodName)) ∈ lw_all := lw_g (lw_at lw_m10 28 rfl) rfl
theorem q2266 : (Jvm.Cond.selects "PatrolDeskModel" ({ cls := "PatrolDeskModel", name := "waitFor", desc := "(I)I" } : Jvm.MethodName) ({ cls := "PatrolDeskModel", name := "waitFor", desc := "(I)I" } : Jvm.MethodName)) ∈ lw_all := lw_g (lw_at lw_m10 29 rfl) rfl
theorem q2267 : (Jvm.Cond.code ({ cls := "PatrolDeskModel", name := "waitFor", desc := "(I)I" } : Jvm.MethodName) prog_16_method_72_code (3 : Nat) (Option.some Jvm.ClassFile.FieldType.int)) ∈ lw_all := lw_g (lw_at lw_m10 30 rfl) rfl
theorem q2269 : (Jvm.Cond.instanceMethod ({ cls := "PatrolDeskModel", name := "count", desc := "(I)I" } : Jvm.MethodName)) ∈ lw_all := lw_g (lw_at lw_m10 32 rfl) rfl
theorem q2270 : (Jvm.Cond.selects "PatrolDeskModel" ({ cls := "PatrolDeskModel", name := "count", desc := "(I)I" } : Jvm.MethodName) ({ cls := "PatrolDeskModel", name := "count", desc := "(I)I" } : Jvm.MethodName)) ∈ lw_all := lw_g (lw_at lw_m10 33 rfl) rfl
theorem q2271 : (Jvm.Cond.code ({ cls := "PatrolDeskModel", name := "count", desc := "(I)I" } : Jvm.MethodName) prog_16_method_73_code (4 : Nat) (Option.some Jvm.ClassFile.FieldType.int)) ∈ lw_all := lw_g (lw_at lw_m10 34 rfl) rfl
theorem q2298 : (Jvm.Cond.castable "PatrolDeskModel" "java/lang/Object") ∈ lw_tbl := lw_at lw_m10 61 rfl
theorem in_X4 : ∀ w ∈ wsX40, w ∈ lw_all := lw_in wsX40 [1961, 1963, 1965, 1967, 1969, 1971, 1973, 1975, 1977, 1979, 1981, 1983, 1985, 1987, 1989] (by decide +kernel) (by decide +kernel)
