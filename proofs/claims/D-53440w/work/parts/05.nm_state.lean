/-! PatrolDesk$State -/
set_option maxRecDepth 100000
def RX1 : String := "PatrolDesk$State"
def TX1 : u_T := fun k => match k with
  | 0 => ("PatrolDesk$State", "members", "Ljava/util/List;", true)
  | 1 => ("PatrolDesk$State", "patrols", "Ljava/util/List;", true)
  | 2 => ("PatrolDesk$State", "garages", "Ljava/util/List;", true)
  | 3 => ("PatrolDesk$State", "calls", "Ljava/util/List;", true)
  | 4 => ("PatrolDesk$State", "promises", "[I", true)
  | 5 => ("PatrolDesk$State", "roads", "LPatrolDesk$Roads;", false)
  | 6 => ("PatrolDesk$State", "weather", "I", false)
  | _ => ("PatrolDesk$State", "minute", "I", false)
def tyX1 : Nat → FieldType := fun k => match k with
  | 0 => .object "java/util/List"
  | 1 => .object "java/util/List"
  | 2 => .object "java/util/List"
  | 3 => .object "java/util/List"
  | 4 => .array .int
  | 5 => .object "PatrolDesk$Roads"
  | 6 => .int
  | _ => .int
abbrev wsX10 : List Cond := u_ws RX1 TX1 8
theorem nmX1 : ∀ a, a < 8 → ∀ b, b < 8 → a ≠ b → (TX1 a).2.1 ≠ (TX1 b).2.1 := by decide +kernel
theorem tyX1_ok : ∀ k, k < 8 → parseFieldDescriptor (TX1 k).2.2.1 = some (tyX1 k) := by decide +kernel
abbrev cX1_init : ByteArray := prog_13_method_1_code
def yX1_init : MethodName := ⟨RX1, "<init>", "()V"⟩
def dkwX1_init_2 : List UInt8 := [181, 0, 24, 42, 6, 188, 10, 181, 0, 27, 177]
abbrev dktX1_init_2 : List UInt8 := dkwX1_init_2 ++ []
def dkwX1_init_1 : List UInt8 := [181, 0, 18, 42, 187, 0, 9, 89, 183, 0, 11, 181, 0, 21, 42, 187, 0, 9, 89, 183, 0, 11]
abbrev dktX1_init_1 : List UInt8 := dkwX1_init_1 ++ dktX1_init_2
def dkwX1_init_0 : List UInt8 := [42, 183, 0, 3, 42, 187, 0, 9, 89, 183, 0, 11, 181, 0, 12, 42, 187, 0, 9, 89, 183, 0, 11]
abbrev dktX1_init_0 : List UInt8 := dkwX1_init_0 ++ dktX1_init_1
theorem dksX1_init_0 : cX1_init.data.toList.drop 0 = dktX1_init_0 := by decide +kernel
theorem dksX1_init_1 : cX1_init.data.toList.drop 23 = dktX1_init_1 := dk_seg dksX1_init_0 23 rfl rfl
theorem dksX1_init_2 : cX1_init.data.toList.drop 45 = dktX1_init_2 := dk_seg dksX1_init_1 22 rfl rfl
theorem dX1_init_0 : decode cX1_init 0 = .ok (.aload_n 0, 1) := dk_42 (dk_at dksX1_init_0 0 rfl rfl)
theorem dX1_init_1 : decode cX1_init 1 = .ok (.invokespecial 3, 3) := dk_183 0 3 (dk_at dksX1_init_0 1 rfl rfl)
theorem dX1_init_4 : decode cX1_init 4 = .ok (.aload_n 0, 1) := dk_42 (dk_at dksX1_init_0 4 rfl rfl)
theorem dX1_init_5 : decode cX1_init 5 = .ok (.new 9, 3) := dk_187 0 9 (dk_at dksX1_init_0 5 rfl rfl)
theorem dX1_init_8 : decode cX1_init 8 = .ok (.dup, 1) := dk_89 (dk_at dksX1_init_0 8 rfl rfl)
theorem dX1_init_9 : decode cX1_init 9 = .ok (.invokespecial 11, 3) := dk_183 0 11 (dk_at dksX1_init_0 9 rfl rfl)
theorem dX1_init_12 : decode cX1_init 12 = .ok (.putfield 12, 3) := dk_181 0 12 (dk_at dksX1_init_0 12 rfl rfl)
theorem dX1_init_15 : decode cX1_init 15 = .ok (.aload_n 0, 1) := dk_42 (dk_at dksX1_init_0 15 rfl rfl)
theorem dX1_init_16 : decode cX1_init 16 = .ok (.new 9, 3) := dk_187 0 9 (dk_at dksX1_init_0 16 rfl rfl)
theorem dX1_init_19 : decode cX1_init 19 = .ok (.dup, 1) := dk_89 (dk_at dksX1_init_0 19 rfl rfl)
theorem dX1_init_20 : decode cX1_init 20 = .ok (.invokespecial 11, 3) := dk_183 0 11 (dk_at dksX1_init_0 20 rfl rfl)
theorem dX1_init_23 : decode cX1_init 23 = .ok (.putfield 18, 3) := dk_181 0 18 (dk_at dksX1_init_1 0 rfl rfl)
theorem dX1_init_26 : decode cX1_init 26 = .ok (.aload_n 0, 1) := dk_42 (dk_at dksX1_init_1 3 rfl rfl)
theorem dX1_init_27 : decode cX1_init 27 = .ok (.new 9, 3) := dk_187 0 9 (dk_at dksX1_init_1 4 rfl rfl)
theorem dX1_init_30 : decode cX1_init 30 = .ok (.dup, 1) := dk_89 (dk_at dksX1_init_1 7 rfl rfl)
theorem dX1_init_31 : decode cX1_init 31 = .ok (.invokespecial 11, 3) := dk_183 0 11 (dk_at dksX1_init_1 8 rfl rfl)
theorem dX1_init_34 : decode cX1_init 34 = .ok (.putfield 21, 3) := dk_181 0 21 (dk_at dksX1_init_1 11 rfl rfl)
theorem dX1_init_37 : decode cX1_init 37 = .ok (.aload_n 0, 1) := dk_42 (dk_at dksX1_init_1 14 rfl rfl)
theorem dX1_init_38 : decode cX1_init 38 = .ok (.new 9, 3) := dk_187 0 9 (dk_at dksX1_init_1 15 rfl rfl)
theorem dX1_init_41 : decode cX1_init 41 = .ok (.dup, 1) := dk_89 (dk_at dksX1_init_1 18 rfl rfl)
theorem dX1_init_42 : decode cX1_init 42 = .ok (.invokespecial 11, 3) := dk_183 0 11 (dk_at dksX1_init_1 19 rfl rfl)
theorem dX1_init_45 : decode cX1_init 45 = .ok (.putfield 24, 3) := dk_181 0 24 (dk_at dksX1_init_2 0 rfl rfl)
theorem dX1_init_48 : decode cX1_init 48 = .ok (.aload_n 0, 1) := dk_42 (dk_at dksX1_init_2 3 rfl rfl)
theorem dX1_init_49 : decode cX1_init 49 = .ok (.iconst 3, 1) := dk_6 (dk_at dksX1_init_2 4 rfl rfl)
theorem dX1_init_50 : decode cX1_init 50 = .ok (.newarray .int, 2) := dk_188_10 (dk_at dksX1_init_2 5 rfl rfl)
theorem dX1_init_52 : decode cX1_init 52 = .ok (.putfield 27, 3) := dk_181 0 27 (dk_at dksX1_init_2 7 rfl rfl)
theorem dX1_init_55 : decode cX1_init 55 = .ok (.return_, 1) := dk_177 (dk_at dksX1_init_2 10 rfl rfl)
abbrev cX1_copy : ByteArray := prog_13_method_2_code
def yX1_copy : MethodName := ⟨RX1, "copy", "()LPatrolDesk$State;"⟩
def dkwX1_copy_9 : List UInt8 := [180, 0, 73, 181, 0, 73, 43, 42, 180, 0, 77, 181, 0, 77, 43, 42, 180, 0, 81, 181, 0, 81, 43, 176]
abbrev dktX1_copy_9 : List UInt8 := dkwX1_copy_9 ++ []
def dkwX1_copy_8 : List UInt8 := [87, 132, 2, 1, 167, 255, 214, 42, 180, 0, 27, 3, 43, 180, 0, 27, 3, 6, 184, 0, 67, 43, 42]
abbrev dktX1_copy_8 : List UInt8 := dkwX1_copy_8 ++ dktX1_copy_9
def dkwX1_copy_7 : List UInt8 := [180, 0, 24, 42, 180, 0, 24, 28, 185, 0, 38, 2, 0, 192, 0, 62, 182, 0, 64, 185, 0, 48, 2, 0]
abbrev dktX1_copy_7 : List UInt8 := dkwX1_copy_7 ++ dktX1_copy_8
def dkwX1_copy_6 : List UInt8 := [87, 132, 2, 1, 167, 255, 214, 3, 61, 28, 42, 180, 0, 24, 185, 0, 32, 1, 0, 162, 0, 35, 43]
abbrev dktX1_copy_6 : List UInt8 := dkwX1_copy_6 ++ dktX1_copy_7
def dkwX1_copy_5 : List UInt8 := [180, 0, 21, 42, 180, 0, 21, 28, 185, 0, 38, 2, 0, 192, 0, 57, 182, 0, 59, 185, 0, 48, 2, 0]
abbrev dktX1_copy_5 : List UInt8 := dkwX1_copy_5 ++ dktX1_copy_6
def dkwX1_copy_4 : List UInt8 := [87, 132, 2, 1, 167, 255, 214, 3, 61, 28, 42, 180, 0, 21, 185, 0, 32, 1, 0, 162, 0, 35, 43]
abbrev dktX1_copy_4 : List UInt8 := dkwX1_copy_4 ++ dktX1_copy_5
def dkwX1_copy_3 : List UInt8 := [180, 0, 18, 42, 180, 0, 18, 28, 185, 0, 38, 2, 0, 192, 0, 52, 182, 0, 54, 185, 0, 48, 2, 0]
abbrev dktX1_copy_3 : List UInt8 := dkwX1_copy_3 ++ dktX1_copy_4
def dkwX1_copy_2 : List UInt8 := [87, 132, 2, 1, 167, 255, 214, 3, 61, 28, 42, 180, 0, 18, 185, 0, 32, 1, 0, 162, 0, 35, 43]
abbrev dktX1_copy_2 : List UInt8 := dkwX1_copy_2 ++ dktX1_copy_3
def dkwX1_copy_1 : List UInt8 := [180, 0, 12, 42, 180, 0, 12, 28, 185, 0, 38, 2, 0, 192, 0, 42, 182, 0, 44, 185, 0, 48, 2, 0]
abbrev dktX1_copy_1 : List UInt8 := dkwX1_copy_1 ++ dktX1_copy_2
def dkwX1_copy_0 : List UInt8 := [187, 0, 13, 89, 183, 0, 31, 76, 3, 61, 28, 42, 180, 0, 12, 185, 0, 32, 1, 0, 162, 0, 35, 43]
abbrev dktX1_copy_0 : List UInt8 := dkwX1_copy_0 ++ dktX1_copy_1
theorem dksX1_copy_0 : cX1_copy.data.toList.drop 0 = dktX1_copy_0 := by decide +kernel
theorem dksX1_copy_1 : cX1_copy.data.toList.drop 24 = dktX1_copy_1 := dk_seg dksX1_copy_0 24 rfl rfl
theorem dksX1_copy_2 : cX1_copy.data.toList.drop 48 = dktX1_copy_2 := dk_seg dksX1_copy_1 24 rfl rfl
theorem dksX1_copy_3 : cX1_copy.data.toList.drop 71 = dktX1_copy_3 := dk_seg dksX1_copy_2 23 rfl rfl
theorem dksX1_copy_4 : cX1_copy.data.toList.drop 95 = dktX1_copy_4 := dk_seg dksX1_copy_3 24 rfl rfl
theorem dksX1_copy_5 : cX1_copy.data.toList.drop 118 = dktX1_copy_5 := dk_seg dksX1_copy_4 23 rfl rfl
theorem dksX1_copy_6 : cX1_copy.data.toList.drop 142 = dktX1_copy_6 := dk_seg dksX1_copy_5 24 rfl rfl
theorem dksX1_copy_7 : cX1_copy.data.toList.drop 165 = dktX1_copy_7 := dk_seg dksX1_copy_6 23 rfl rfl
theorem dksX1_copy_8 : cX1_copy.data.toList.drop 189 = dktX1_copy_8 := dk_seg dksX1_copy_7 24 rfl rfl
theorem dksX1_copy_9 : cX1_copy.data.toList.drop 212 = dktX1_copy_9 := dk_seg dksX1_copy_8 23 rfl rfl
theorem dX1_copy_0 : decode cX1_copy 0 = .ok (.new 13, 3) := dk_187 0 13 (dk_at dksX1_copy_0 0 rfl rfl)
theorem dX1_copy_3 : decode cX1_copy 3 = .ok (.dup, 1) := dk_89 (dk_at dksX1_copy_0 3 rfl rfl)
theorem dX1_copy_4 : decode cX1_copy 4 = .ok (.invokespecial 31, 3) := dk_183 0 31 (dk_at dksX1_copy_0 4 rfl rfl)
theorem dX1_copy_7 : decode cX1_copy 7 = .ok (.astore_n 1, 1) := dk_76 (dk_at dksX1_copy_0 7 rfl rfl)
theorem dX1_copy_8 : decode cX1_copy 8 = .ok (.iconst 0, 1) := dk_3 (dk_at dksX1_copy_0 8 rfl rfl)
theorem dX1_copy_9 : decode cX1_copy 9 = .ok (.istore_n 2, 1) := dk_61 (dk_at dksX1_copy_0 9 rfl rfl)
theorem dX1_copy_10 : decode cX1_copy 10 = .ok (.iload_n 2, 1) := dk_28 (dk_at dksX1_copy_0 10 rfl rfl)
theorem dX1_copy_11 : decode cX1_copy 11 = .ok (.aload_n 0, 1) := dk_42 (dk_at dksX1_copy_0 11 rfl rfl)
theorem dX1_copy_12 : decode cX1_copy 12 = .ok (.getfield 12, 3) := dk_180 0 12 (dk_at dksX1_copy_0 12 rfl rfl)
theorem dX1_copy_15 : decode cX1_copy 15 = .ok (.invokeinterface 32 1, 5) := by decide +kernel
theorem dX1_copy_20 : decode cX1_copy 20 = .ok (.if_icmp .ge 35, 3) := dk_162 0 35 (dk_at dksX1_copy_0 20 rfl rfl)
theorem dX1_copy_23 : decode cX1_copy 23 = .ok (.aload_n 1, 1) := dk_43 (dk_at dksX1_copy_0 23 rfl rfl)
theorem dX1_copy_24 : decode cX1_copy 24 = .ok (.getfield 12, 3) := dk_180 0 12 (dk_at dksX1_copy_1 0 rfl rfl)
theorem dX1_copy_27 : decode cX1_copy 27 = .ok (.aload_n 0, 1) := dk_42 (dk_at dksX1_copy_1 3 rfl rfl)
theorem dX1_copy_28 : decode cX1_copy 28 = .ok (.getfield 12, 3) := dk_180 0 12 (dk_at dksX1_copy_1 4 rfl rfl)
theorem dX1_copy_31 : decode cX1_copy 31 = .ok (.iload_n 2, 1) := dk_28 (dk_at dksX1_copy_1 7 rfl rfl)
theorem dX1_copy_32 : decode cX1_copy 32 = .ok (.invokeinterface 38 2, 5) := by decide +kernel
theorem dX1_copy_37 : decode cX1_copy 37 = .ok (.checkcast 42, 3) := dk_192 0 42 (dk_at dksX1_copy_1 13 rfl rfl)
theorem dX1_copy_40 : decode cX1_copy 40 = .ok (.invokevirtual 44, 3) := dk_182 0 44 (dk_at dksX1_copy_1 16 rfl rfl)
theorem dX1_copy_43 : decode cX1_copy 43 = .ok (.invokeinterface 48 2, 5) := by decide +kernel
theorem dX1_copy_48 : decode cX1_copy 48 = .ok (.pop, 1) := dk_87 (dk_at dksX1_copy_2 0 rfl rfl)
theorem dX1_copy_49 : decode cX1_copy 49 = .ok (.iinc 2 1, 3) := dk_132 2 1 (dk_at dksX1_copy_2 1 rfl rfl)
theorem dX1_copy_52 : decode cX1_copy 52 = .ok (.goto (-42), 3) := dk_167 255 214 (dk_at dksX1_copy_2 4 rfl rfl)
theorem dX1_copy_55 : decode cX1_copy 55 = .ok (.iconst 0, 1) := dk_3 (dk_at dksX1_copy_2 7 rfl rfl)
theorem dX1_copy_56 : decode cX1_copy 56 = .ok (.istore_n 2, 1) := dk_61 (dk_at dksX1_copy_2 8 rfl rfl)
theorem dX1_copy_57 : decode cX1_copy 57 = .ok (.iload_n 2, 1) := dk_28 (dk_at dksX1_copy_2 9 rfl rfl)
theorem dX1_copy_58 : decode cX1_copy 58 = .ok (.aload_n 0, 1) := dk_42 (dk_at dksX1_copy_2 10 rfl rfl)
theorem dX1_copy_59 : decode cX1_copy 59 = .ok (.getfield 18, 3) := dk_180 0 18 (dk_at dksX1_copy_2 11 rfl rfl)
theorem dX1_copy_62 : decode cX1_copy 62 = .ok (.invokeinterface 32 1, 5) := by decide +kernel
theorem dX1_copy_67 : decode cX1_copy 67 = .ok (.if_icmp .ge 35, 3) := dk_162 0 35 (dk_at dksX1_copy_2 19 rfl rfl)
theorem dX1_copy_70 : decode cX1_copy 70 = .ok (.aload_n 1, 1) := dk_43 (dk_at dksX1_copy_2 22 rfl rfl)
theorem dX1_copy_71 : decode cX1_copy 71 = .ok (.getfield 18, 3) := dk_180 0 18 (dk_at dksX1_copy_3 0 rfl rfl)
theorem dX1_copy_74 : decode cX1_copy 74 = .ok (.aload_n 0, 1) := dk_42 (dk_at dksX1_copy_3 3 rfl rfl)
theorem dX1_copy_75 : decode cX1_copy 75 = .ok (.getfield 18, 3) := dk_180 0 18 (dk_at dksX1_copy_3 4 rfl rfl)
theorem dX1_copy_78 : decode cX1_copy 78 = .ok (.iload_n 2, 1) := dk_28 (dk_at dksX1_copy_3 7 rfl rfl)
theorem dX1_copy_79 : decode cX1_copy 79 = .ok (.invokeinterface 38 2, 5) := by decide +kernel
theorem dX1_copy_84 : decode cX1_copy 84 = .ok (.checkcast 52, 3) := dk_192 0 52 (dk_at dksX1_copy_3 13 rfl rfl)
theorem dX1_copy_87 : decode cX1_copy 87 = .ok (.invokevirtual 54, 3) := dk_182 0 54 (dk_at dksX1_copy_3 16 rfl rfl)
theorem dX1_copy_90 : decode cX1_copy 90 = .ok (.invokeinterface 48 2, 5) := by decide +kernel
theorem dX1_copy_95 : decode cX1_copy 95 = .ok (.pop, 1) := dk_87 (dk_at dksX1_copy_4 0 rfl rfl)
theorem dX1_copy_96 : decode cX1_copy 96 = .ok (.iinc 2 1, 3) := dk_132 2 1 (dk_at dksX1_copy_4 1 rfl rfl)
theorem dX1_copy_99 : decode cX1_copy 99 = .ok (.goto (-42), 3) := dk_167 255 214 (dk_at dksX1_copy_4 4 rfl rfl)
theorem dX1_copy_102 : decode cX1_copy 102 = .ok (.iconst 0, 1) := dk_3 (dk_at dksX1_copy_4 7 rfl rfl)
theorem dX1_copy_103 : decode cX1_copy 103 = .ok (.istore_n 2, 1) := dk_61 (dk_at dksX1_copy_4 8 rfl rfl)
theorem dX1_copy_104 : decode cX1_copy 104 = .ok (.iload_n 2, 1) := dk_28 (dk_at dksX1_copy_4 9 rfl rfl)
theorem dX1_copy_105 : decode cX1_copy 105 = .ok (.aload_n 0, 1) := dk_42 (dk_at dksX1_copy_4 10 rfl rfl)
theorem dX1_copy_106 : decode cX1_copy 106 = .ok (.getfield 21, 3) := dk_180 0 21 (dk_at dksX1_copy_4 11 rfl rfl)
theorem dX1_copy_109 : decode cX1_copy 109 = .ok (.invokeinterface 32 1, 5) := by decide +kernel
theorem dX1_copy_114 : decode cX1_copy 114 = .ok (.if_icmp .ge 35, 3) := dk_162 0 35 (dk_at dksX1_copy_4 19 rfl rfl)
theorem dX1_copy_117 : decode cX1_copy 117 = .ok (.aload_n 1, 1) := dk_43 (dk_at dksX1_copy_4 22 rfl rfl)
theorem dX1_copy_118 : decode cX1_copy 118 = .ok (.getfield 21, 3) := dk_180 0 21 (dk_at dksX1_copy_5 0 rfl rfl)
theorem dX1_copy_121 : decode cX1_copy 121 = .ok (.aload_n 0, 1) := dk_42 (dk_at dksX1_copy_5 3 rfl rfl)
theorem dX1_copy_122 : decode cX1_copy 122 = .ok (.getfield 21, 3) := dk_180 0 21 (dk_at dksX1_copy_5 4 rfl rfl)
theorem dX1_copy_125 : decode cX1_copy 125 = .ok (.iload_n 2, 1) := dk_28 (dk_at dksX1_copy_5 7 rfl rfl)
theorem dX1_copy_126 : decode cX1_copy 126 = .ok (.invokeinterface 38 2, 5) := by decide +kernel
theorem dX1_copy_131 : decode cX1_copy 131 = .ok (.checkcast 57, 3) := dk_192 0 57 (dk_at dksX1_copy_5 13 rfl rfl)
theorem dX1_copy_134 : decode cX1_copy 134 = .ok (.invokevirtual 59, 3) := dk_182 0 59 (dk_at dksX1_copy_5 16 rfl rfl)
theorem dX1_copy_137 : decode cX1_copy 137 = .ok (.invokeinterface 48 2, 5) := by decide +kernel
theorem dX1_copy_142 : decode cX1_copy 142 = .ok (.pop, 1) := dk_87 (dk_at dksX1_copy_6 0 rfl rfl)
theorem dX1_copy_143 : decode cX1_copy 143 = .ok (.iinc 2 1, 3) := dk_132 2 1 (dk_at dksX1_copy_6 1 rfl rfl)
theorem dX1_copy_146 : decode cX1_copy 146 = .ok (.goto (-42), 3) := dk_167 255 214 (dk_at dksX1_copy_6 4 rfl rfl)
theorem dX1_copy_149 : decode cX1_copy 149 = .ok (.iconst 0, 1) := dk_3 (dk_at dksX1_copy_6 7 rfl rfl)
theorem dX1_copy_150 : decode cX1_copy 150 = .ok (.istore_n 2, 1) := dk_61 (dk_at dksX1_copy_6 8 rfl rfl)
theorem dX1_copy_151 : decode cX1_copy 151 = .ok (.iload_n 2, 1) := dk_28 (dk_at dksX1_copy_6 9 rfl rfl)
theorem dX1_copy_152 : decode cX1_copy 152 = .ok (.aload_n 0, 1) := dk_42 (dk_at dksX1_copy_6 10 rfl rfl)
theorem dX1_copy_153 : decode cX1_copy 153 = .ok (.getfield 24, 3) := dk_180 0 24 (dk_at dksX1_copy_6 11 rfl rfl)
theorem dX1_copy_156 : decode cX1_copy 156 = .ok (.invokeinterface 32 1, 5) := by decide +kernel
theorem dX1_copy_161 : decode cX1_copy 161 = .ok (.if_icmp .ge 35, 3) := dk_162 0 35 (dk_at dksX1_copy_6 19 rfl rfl)
theorem dX1_copy_164 : decode cX1_copy 164 = .ok (.aload_n 1, 1) := dk_43 (dk_at dksX1_copy_6 22 rfl rfl)
theorem dX1_copy_165 : decode cX1_copy 165 = .ok (.getfield 24, 3) := dk_180 0 24 (dk_at dksX1_copy_7 0 rfl rfl)
theorem dX1_copy_168 : decode cX1_copy 168 = .ok (.aload_n 0, 1) := dk_42 (dk_at dksX1_copy_7 3 rfl rfl)
theorem dX1_copy_169 : decode cX1_copy 169 = .ok (.getfield 24, 3) := dk_180 0 24 (dk_at dksX1_copy_7 4 rfl rfl)
theorem dX1_copy_172 : decode cX1_copy 172 = .ok (.iload_n 2, 1) := dk_28 (dk_at dksX1_copy_7 7 rfl rfl)
theorem dX1_copy_173 : decode cX1_copy 173 = .ok (.invokeinterface 38 2, 5) := by decide +kernel
theorem dX1_copy_178 : decode cX1_copy 178 = .ok (.checkcast 62, 3) := dk_192 0 62 (dk_at dksX1_copy_7 13 rfl rfl)
theorem dX1_copy_181 : decode cX1_copy 181 = .ok (.invokevirtual 64, 3) := dk_182 0 64 (dk_at dksX1_copy_7 16 rfl rfl)
theorem dX1_copy_184 : decode cX1_copy 184 = .ok (.invokeinterface 48 2, 5) := by decide +kernel
theorem dX1_copy_189 : decode cX1_copy 189 = .ok (.pop, 1) := dk_87 (dk_at dksX1_copy_8 0 rfl rfl)
theorem dX1_copy_190 : decode cX1_copy 190 = .ok (.iinc 2 1, 3) := dk_132 2 1 (dk_at dksX1_copy_8 1 rfl rfl)
theorem dX1_copy_193 : decode cX1_copy 193 = .ok (.goto (-42), 3) := dk_167 255 214 (dk_at dksX1_copy_8 4 rfl rfl)
theorem dX1_copy_196 : decode cX1_copy 196 = .ok (.aload_n 0, 1) := dk_42 (dk_at dksX1_copy_8 7 rfl rfl)
theorem dX1_copy_197 : decode cX1_copy 197 = .ok (.getfield 27, 3) := dk_180 0 27 (dk_at dksX1_copy_8 8 rfl rfl)
theorem dX1_copy_200 : decode cX1_copy 200 = .ok (.iconst 0, 1) := dk_3 (dk_at dksX1_copy_8 11 rfl rfl)
theorem dX1_copy_201 : decode cX1_copy 201 = .ok (.aload_n 1, 1) := dk_43 (dk_at dksX1_copy_8 12 rfl rfl)
theorem dX1_copy_202 : decode cX1_copy 202 = .ok (.getfield 27, 3) := dk_180 0 27 (dk_at dksX1_copy_8 13 rfl rfl)
theorem dX1_copy_205 : decode cX1_copy 205 = .ok (.iconst 0, 1) := dk_3 (dk_at dksX1_copy_8 16 rfl rfl)
theorem dX1_copy_206 : decode cX1_copy 206 = .ok (.iconst 3, 1) := dk_6 (dk_at dksX1_copy_8 17 rfl rfl)
theorem dX1_copy_207 : decode cX1_copy 207 = .ok (.invokestatic 67, 3) := dk_184 0 67 (dk_at dksX1_copy_8 18 rfl rfl)
theorem dX1_copy_210 : decode cX1_copy 210 = .ok (.aload_n 1, 1) := dk_43 (dk_at dksX1_copy_8 21 rfl rfl)
theorem dX1_copy_211 : decode cX1_copy 211 = .ok (.aload_n 0, 1) := dk_42 (dk_at dksX1_copy_8 22 rfl rfl)
theorem dX1_copy_212 : decode cX1_copy 212 = .ok (.getfield 73, 3) := dk_180 0 73 (dk_at dksX1_copy_9 0 rfl rfl)
theorem dX1_copy_215 : decode cX1_copy 215 = .ok (.putfield 73, 3) := dk_181 0 73 (dk_at dksX1_copy_9 3 rfl rfl)
theorem dX1_copy_218 : decode cX1_copy 218 = .ok (.aload_n 1, 1) := dk_43 (dk_at dksX1_copy_9 6 rfl rfl)
theorem dX1_copy_219 : decode cX1_copy 219 = .ok (.aload_n 0, 1) := dk_42 (dk_at dksX1_copy_9 7 rfl rfl)
theorem dX1_copy_220 : decode cX1_copy 220 = .ok (.getfield 77, 3) := dk_180 0 77 (dk_at dksX1_copy_9 8 rfl rfl)
theorem dX1_copy_223 : decode cX1_copy 223 = .ok (.putfield 77, 3) := dk_181 0 77 (dk_at dksX1_copy_9 11 rfl rfl)
theorem dX1_copy_226 : decode cX1_copy 226 = .ok (.aload_n 1, 1) := dk_43 (dk_at dksX1_copy_9 14 rfl rfl)
theorem dX1_copy_227 : decode cX1_copy 227 = .ok (.aload_n 0, 1) := dk_42 (dk_at dksX1_copy_9 15 rfl rfl)
theorem dX1_copy_228 : decode cX1_copy 228 = .ok (.getfield 81, 3) := dk_180 0 81 (dk_at dksX1_copy_9 16 rfl rfl)
theorem dX1_copy_231 : decode cX1_copy 231 = .ok (.putfield 81, 3) := dk_181 0 81 (dk_at dksX1_copy_9 19 rfl rfl)
theorem dX1_copy_234 : decode cX1_copy 234 = .ok (.aload_n 1, 1) := dk_43 (dk_at dksX1_copy_9 22 rfl rfl)
theorem dX1_copy_235 : decode cX1_copy 235 = .ok (.areturn, 1) := dk_176 (dk_at dksX1_copy_9 23 rfl rfl)
abbrev cX1_check : ByteArray := prog_13_method_18_code
def yX1_check : MethodName := ⟨RX1, "check", "(III)V"⟩
def dkwX1_check_4 : List UInt8 := [183, 1, 61, 191, 177]
abbrev dktX1_check_4 : List UInt8 := dkwX1_check_4 ++ []
def dkwX1_check_3 : List UInt8 := [183, 1, 61, 191, 42, 180, 0, 24, 185, 0, 32, 1, 0, 16, 40, 160, 0, 13, 187, 1, 59, 89, 16, 253]
abbrev dktX1_check_3 : List UInt8 := dkwX1_check_3 ++ dktX1_check_4
def dkwX1_check_2 : List UInt8 := [187, 1, 59, 89, 16, 254, 183, 1, 61, 191, 42, 27, 182, 1, 63, 198, 0, 13, 187, 1, 59, 89, 16, 252]
abbrev dktX1_check_2 : List UInt8 := dkwX1_check_2 ++ dktX1_check_3
def dkwX1_check_1 : List UInt8 := [154, 0, 12, 187, 1, 59, 89, 2, 183, 1, 61, 191, 29, 4, 16, 12, 184, 1, 52, 154, 0, 13]
abbrev dktX1_check_1 : List UInt8 := dkwX1_check_1 ++ dktX1_check_2
def dkwX1_check_0 : List UInt8 := [27, 3, 42, 180, 0, 12, 185, 0, 32, 1, 0, 4, 100, 184, 1, 52, 153, 0, 10, 28, 184, 1, 56]
abbrev dktX1_check_0 : List UInt8 := dkwX1_check_0 ++ dktX1_check_1
theorem dksX1_check_0 : cX1_check.data.toList.drop 0 = dktX1_check_0 := by decide +kernel
theorem dksX1_check_1 : cX1_check.data.toList.drop 23 = dktX1_check_1 := dk_seg dksX1_check_0 23 rfl rfl
theorem dksX1_check_2 : cX1_check.data.toList.drop 45 = dktX1_check_2 := dk_seg dksX1_check_1 22 rfl rfl
theorem dksX1_check_3 : cX1_check.data.toList.drop 69 = dktX1_check_3 := dk_seg dksX1_check_2 24 rfl rfl
theorem dksX1_check_4 : cX1_check.data.toList.drop 93 = dktX1_check_4 := dk_seg dksX1_check_3 24 rfl rfl
theorem dX1_check_0 : decode cX1_check 0 = .ok (.iload_n 1, 1) := dk_27 (dk_at dksX1_check_0 0 rfl rfl)
theorem dX1_check_1 : decode cX1_check 1 = .ok (.iconst 0, 1) := dk_3 (dk_at dksX1_check_0 1 rfl rfl)
theorem dX1_check_2 : decode cX1_check 2 = .ok (.aload_n 0, 1) := dk_42 (dk_at dksX1_check_0 2 rfl rfl)
theorem dX1_check_3 : decode cX1_check 3 = .ok (.getfield 12, 3) := dk_180 0 12 (dk_at dksX1_check_0 3 rfl rfl)
theorem dX1_check_6 : decode cX1_check 6 = .ok (.invokeinterface 32 1, 5) := by decide +kernel
theorem dX1_check_11 : decode cX1_check 11 = .ok (.iconst 1, 1) := dk_4 (dk_at dksX1_check_0 11 rfl rfl)
theorem dX1_check_12 : decode cX1_check 12 = .ok (.isub, 1) := dk_100 (dk_at dksX1_check_0 12 rfl rfl)
theorem dX1_check_13 : decode cX1_check 13 = .ok (.invokestatic 308, 3) := dk_184 1 52 (dk_at dksX1_check_0 13 rfl rfl)
theorem dX1_check_16 : decode cX1_check 16 = .ok (.ifCond .eq 10, 3) := dk_153 0 10 (dk_at dksX1_check_0 16 rfl rfl)
theorem dX1_check_19 : decode cX1_check 19 = .ok (.iload_n 2, 1) := dk_28 (dk_at dksX1_check_0 19 rfl rfl)
theorem dX1_check_20 : decode cX1_check 20 = .ok (.invokestatic 312, 3) := dk_184 1 56 (dk_at dksX1_check_0 20 rfl rfl)
theorem dX1_check_23 : decode cX1_check 23 = .ok (.ifCond .ne 12, 3) := dk_154 0 12 (dk_at dksX1_check_1 0 rfl rfl)
theorem dX1_check_26 : decode cX1_check 26 = .ok (.new 315, 3) := dk_187 1 59 (dk_at dksX1_check_1 3 rfl rfl)
theorem dX1_check_29 : decode cX1_check 29 = .ok (.dup, 1) := dk_89 (dk_at dksX1_check_1 6 rfl rfl)
theorem dX1_check_30 : decode cX1_check 30 = .ok (.iconst (-1), 1) := dk_2 (dk_at dksX1_check_1 7 rfl rfl)
theorem dX1_check_31 : decode cX1_check 31 = .ok (.invokespecial 317, 3) := dk_183 1 61 (dk_at dksX1_check_1 8 rfl rfl)
theorem dX1_check_34 : decode cX1_check 34 = .ok (.athrow, 1) := dk_191 (dk_at dksX1_check_1 11 rfl rfl)
theorem dX1_check_35 : decode cX1_check 35 = .ok (.iload_n 3, 1) := dk_29 (dk_at dksX1_check_1 12 rfl rfl)
theorem dX1_check_36 : decode cX1_check 36 = .ok (.iconst 1, 1) := dk_4 (dk_at dksX1_check_1 13 rfl rfl)
theorem dX1_check_37 : decode cX1_check 37 = .ok (.bipush 12, 2) := dk_16 12 (dk_at dksX1_check_1 14 rfl rfl)
theorem dX1_check_39 : decode cX1_check 39 = .ok (.invokestatic 308, 3) := dk_184 1 52 (dk_at dksX1_check_1 16 rfl rfl)
theorem dX1_check_42 : decode cX1_check 42 = .ok (.ifCond .ne 13, 3) := dk_154 0 13 (dk_at dksX1_check_1 19 rfl rfl)
theorem dX1_check_45 : decode cX1_check 45 = .ok (.new 315, 3) := dk_187 1 59 (dk_at dksX1_check_2 0 rfl rfl)
theorem dX1_check_48 : decode cX1_check 48 = .ok (.dup, 1) := dk_89 (dk_at dksX1_check_2 3 rfl rfl)
theorem dX1_check_49 : decode cX1_check 49 = .ok (.bipush (-2), 2) := dk_16 254 (dk_at dksX1_check_2 4 rfl rfl)
theorem dX1_check_51 : decode cX1_check 51 = .ok (.invokespecial 317, 3) := dk_183 1 61 (dk_at dksX1_check_2 6 rfl rfl)
theorem dX1_check_54 : decode cX1_check 54 = .ok (.athrow, 1) := dk_191 (dk_at dksX1_check_2 9 rfl rfl)
theorem dX1_check_55 : decode cX1_check 55 = .ok (.aload_n 0, 1) := dk_42 (dk_at dksX1_check_2 10 rfl rfl)
theorem dX1_check_56 : decode cX1_check 56 = .ok (.iload_n 1, 1) := dk_27 (dk_at dksX1_check_2 11 rfl rfl)
theorem dX1_check_57 : decode cX1_check 57 = .ok (.invokevirtual 319, 3) := dk_182 1 63 (dk_at dksX1_check_2 12 rfl rfl)
theorem dX1_check_60 : decode cX1_check 60 = .ok (.ifnull 13, 3) := dk_198 0 13 (dk_at dksX1_check_2 15 rfl rfl)
theorem dX1_check_63 : decode cX1_check 63 = .ok (.new 315, 3) := dk_187 1 59 (dk_at dksX1_check_2 18 rfl rfl)
theorem dX1_check_66 : decode cX1_check 66 = .ok (.dup, 1) := dk_89 (dk_at dksX1_check_2 21 rfl rfl)
theorem dX1_check_67 : decode cX1_check 67 = .ok (.bipush (-4), 2) := dk_16 252 (dk_at dksX1_check_2 22 rfl rfl)
theorem dX1_check_69 : decode cX1_check 69 = .ok (.invokespecial 317, 3) := dk_183 1 61 (dk_at dksX1_check_3 0 rfl rfl)
theorem dX1_check_72 : decode cX1_check 72 = .ok (.athrow, 1) := dk_191 (dk_at dksX1_check_3 3 rfl rfl)
theorem dX1_check_73 : decode cX1_check 73 = .ok (.aload_n 0, 1) := dk_42 (dk_at dksX1_check_3 4 rfl rfl)
theorem dX1_check_74 : decode cX1_check 74 = .ok (.getfield 24, 3) := dk_180 0 24 (dk_at dksX1_check_3 5 rfl rfl)
theorem dX1_check_77 : decode cX1_check 77 = .ok (.invokeinterface 32 1, 5) := by decide +kernel
theorem dX1_check_82 : decode cX1_check 82 = .ok (.bipush 40, 2) := dk_16 40 (dk_at dksX1_check_3 13 rfl rfl)
theorem dX1_check_84 : decode cX1_check 84 = .ok (.if_icmp .ne 13, 3) := dk_160 0 13 (dk_at dksX1_check_3 15 rfl rfl)
theorem dX1_check_87 : decode cX1_check 87 = .ok (.new 315, 3) := dk_187 1 59 (dk_at dksX1_check_3 18 rfl rfl)
theorem dX1_check_90 : decode cX1_check 90 = .ok (.dup, 1) := dk_89 (dk_at dksX1_check_3 21 rfl rfl)
theorem dX1_check_91 : decode cX1_check 91 = .ok (.bipush (-3), 2) := dk_16 253 (dk_at dksX1_check_3 22 rfl rfl)
theorem dX1_check_93 : decode cX1_check 93 = .ok (.invokespecial 317, 3) := dk_183 1 61 (dk_at dksX1_check_4 0 rfl rfl)
theorem dX1_check_96 : decode cX1_check 96 = .ok (.athrow, 1) := dk_191 (dk_at dksX1_check_4 3 rfl rfl)
theorem dX1_check_97 : decode cX1_check 97 = .ok (.return_, 1) := dk_177 (dk_at dksX1_check_4 4 rfl rfl)
abbrev cX1_openCall : ByteArray := prog_13_method_5_code
def yX1_openCall : MethodName := ⟨RX1, "openCall", "(I)LPatrolDesk$Call;"⟩
def dkwX1_openCall_3 : List UInt8 := [192, 0, 62, 176, 132, 2, 1, 167, 255, 187, 1, 176]
abbrev dktX1_openCall_3 : List UInt8 := dkwX1_openCall_3 ++ []
def dkwX1_openCall_2 : List UInt8 := [185, 0, 38, 2, 0, 192, 0, 62, 182, 0, 99, 153, 0, 17, 42, 180, 0, 24, 28, 185, 0, 38, 2, 0]
abbrev dktX1_openCall_2 : List UInt8 := dkwX1_openCall_2 ++ dktX1_openCall_3
def dkwX1_openCall_1 : List UInt8 := [185, 0, 38, 2, 0, 192, 0, 62, 180, 0, 96, 27, 160, 0, 36, 42, 180, 0, 24, 28]
abbrev dktX1_openCall_1 : List UInt8 := dkwX1_openCall_1 ++ dktX1_openCall_2
def dkwX1_openCall_0 : List UInt8 := [3, 61, 28, 42, 180, 0, 24, 185, 0, 32, 1, 0, 162, 0, 62, 42, 180, 0, 24, 28]
abbrev dktX1_openCall_0 : List UInt8 := dkwX1_openCall_0 ++ dktX1_openCall_1
theorem dksX1_openCall_0 : cX1_openCall.data.toList.drop 0 = dktX1_openCall_0 := by decide +kernel
theorem dksX1_openCall_1 : cX1_openCall.data.toList.drop 20 = dktX1_openCall_1 := dk_seg dksX1_openCall_0 20 rfl rfl
theorem dksX1_openCall_2 : cX1_openCall.data.toList.drop 40 = dktX1_openCall_2 := dk_seg dksX1_openCall_1 20 rfl rfl
theorem dksX1_openCall_3 : cX1_openCall.data.toList.drop 64 = dktX1_openCall_3 := dk_seg dksX1_openCall_2 24 rfl rfl
theorem dX1_openCall_0 : decode cX1_openCall 0 = .ok (.iconst 0, 1) := dk_3 (dk_at dksX1_openCall_0 0 rfl rfl)
theorem dX1_openCall_1 : decode cX1_openCall 1 = .ok (.istore_n 2, 1) := dk_61 (dk_at dksX1_openCall_0 1 rfl rfl)
theorem dX1_openCall_2 : decode cX1_openCall 2 = .ok (.iload_n 2, 1) := dk_28 (dk_at dksX1_openCall_0 2 rfl rfl)
theorem dX1_openCall_3 : decode cX1_openCall 3 = .ok (.aload_n 0, 1) := dk_42 (dk_at dksX1_openCall_0 3 rfl rfl)
theorem dX1_openCall_4 : decode cX1_openCall 4 = .ok (.getfield 24, 3) := dk_180 0 24 (dk_at dksX1_openCall_0 4 rfl rfl)
theorem dX1_openCall_7 : decode cX1_openCall 7 = .ok (.invokeinterface 32 1, 5) := by decide +kernel
theorem dX1_openCall_12 : decode cX1_openCall 12 = .ok (.if_icmp .ge 62, 3) := dk_162 0 62 (dk_at dksX1_openCall_0 12 rfl rfl)
theorem dX1_openCall_15 : decode cX1_openCall 15 = .ok (.aload_n 0, 1) := dk_42 (dk_at dksX1_openCall_0 15 rfl rfl)
theorem dX1_openCall_16 : decode cX1_openCall 16 = .ok (.getfield 24, 3) := dk_180 0 24 (dk_at dksX1_openCall_0 16 rfl rfl)
theorem dX1_openCall_19 : decode cX1_openCall 19 = .ok (.iload_n 2, 1) := dk_28 (dk_at dksX1_openCall_0 19 rfl rfl)
theorem dX1_openCall_20 : decode cX1_openCall 20 = .ok (.invokeinterface 38 2, 5) := by decide +kernel
theorem dX1_openCall_25 : decode cX1_openCall 25 = .ok (.checkcast 62, 3) := dk_192 0 62 (dk_at dksX1_openCall_1 5 rfl rfl)
theorem dX1_openCall_28 : decode cX1_openCall 28 = .ok (.getfield 96, 3) := dk_180 0 96 (dk_at dksX1_openCall_1 8 rfl rfl)
theorem dX1_openCall_31 : decode cX1_openCall 31 = .ok (.iload_n 1, 1) := dk_27 (dk_at dksX1_openCall_1 11 rfl rfl)
theorem dX1_openCall_32 : decode cX1_openCall 32 = .ok (.if_icmp .ne 36, 3) := dk_160 0 36 (dk_at dksX1_openCall_1 12 rfl rfl)
theorem dX1_openCall_35 : decode cX1_openCall 35 = .ok (.aload_n 0, 1) := dk_42 (dk_at dksX1_openCall_1 15 rfl rfl)
theorem dX1_openCall_36 : decode cX1_openCall 36 = .ok (.getfield 24, 3) := dk_180 0 24 (dk_at dksX1_openCall_1 16 rfl rfl)
theorem dX1_openCall_39 : decode cX1_openCall 39 = .ok (.iload_n 2, 1) := dk_28 (dk_at dksX1_openCall_1 19 rfl rfl)
theorem dX1_openCall_40 : decode cX1_openCall 40 = .ok (.invokeinterface 38 2, 5) := by decide +kernel
theorem dX1_openCall_45 : decode cX1_openCall 45 = .ok (.checkcast 62, 3) := dk_192 0 62 (dk_at dksX1_openCall_2 5 rfl rfl)
theorem dX1_openCall_48 : decode cX1_openCall 48 = .ok (.invokevirtual 99, 3) := dk_182 0 99 (dk_at dksX1_openCall_2 8 rfl rfl)
theorem dX1_openCall_51 : decode cX1_openCall 51 = .ok (.ifCond .eq 17, 3) := dk_153 0 17 (dk_at dksX1_openCall_2 11 rfl rfl)
theorem dX1_openCall_54 : decode cX1_openCall 54 = .ok (.aload_n 0, 1) := dk_42 (dk_at dksX1_openCall_2 14 rfl rfl)
theorem dX1_openCall_55 : decode cX1_openCall 55 = .ok (.getfield 24, 3) := dk_180 0 24 (dk_at dksX1_openCall_2 15 rfl rfl)
theorem dX1_openCall_58 : decode cX1_openCall 58 = .ok (.iload_n 2, 1) := dk_28 (dk_at dksX1_openCall_2 18 rfl rfl)
theorem dX1_openCall_59 : decode cX1_openCall 59 = .ok (.invokeinterface 38 2, 5) := by decide +kernel
theorem dX1_openCall_64 : decode cX1_openCall 64 = .ok (.checkcast 62, 3) := dk_192 0 62 (dk_at dksX1_openCall_3 0 rfl rfl)
theorem dX1_openCall_67 : decode cX1_openCall 67 = .ok (.areturn, 1) := dk_176 (dk_at dksX1_openCall_3 3 rfl rfl)
theorem dX1_openCall_68 : decode cX1_openCall 68 = .ok (.iinc 2 1, 3) := dk_132 2 1 (dk_at dksX1_openCall_3 4 rfl rfl)
theorem dX1_openCall_71 : decode cX1_openCall 71 = .ok (.goto (-69), 3) := dk_167 255 187 (dk_at dksX1_openCall_3 7 rfl rfl)
theorem dX1_openCall_74 : decode cX1_openCall 74 = .ok (.aconst_null, 1) := dk_1 (dk_at dksX1_openCall_3 10 rfl rfl)
theorem dX1_openCall_75 : decode cX1_openCall 75 = .ok (.areturn, 1) := dk_176 (dk_at dksX1_openCall_3 11 rfl rfl)
abbrev cX1_come : ByteArray := prog_13_method_19_code
def yX1_come : MethodName := ⟨RX1, "come", "(III)V"⟩
def dkwX1_come_4 : List UInt8 := [104, 96, 42, 180, 0, 81, 21, 5, 183, 1, 72, 185, 0, 48, 2, 0, 87, 177]
abbrev dktX1_come_4 : List UInt8 := dkwX1_come_4 ++ []
def dkwX1_come_3 : List UInt8 := [185, 0, 32, 1, 0, 27, 28, 29, 42, 180, 0, 27, 25, 4, 180, 0, 107, 46, 16, 10, 42, 180, 0, 77]
abbrev dktX1_come_3 : List UInt8 := dkwX1_come_3 ++ dktX1_come_4
def dkwX1_come_2 : List UInt8 := [89, 180, 1, 69, 4, 96, 181, 1, 69, 42, 180, 0, 24, 187, 0, 62, 89, 42, 180, 0, 24]
abbrev dktX1_come_2 : List UInt8 := dkwX1_come_2 ++ dktX1_come_3
def dkwX1_come_1 : List UInt8 := [54, 5, 21, 5, 153, 0, 29, 42, 180, 0, 18, 25, 4, 180, 1, 12, 185, 0, 38, 2, 0, 192, 0, 52]
abbrev dktX1_come_1 : List UInt8 := dkwX1_come_1 ++ dktX1_come_2
def dkwX1_come_0 : List UInt8 := [42, 180, 0, 12, 27, 185, 0, 38, 2, 0, 192, 0, 42, 58, 4, 25, 4, 42, 180, 0, 81, 182, 1, 67]
abbrev dktX1_come_0 : List UInt8 := dkwX1_come_0 ++ dktX1_come_1
theorem dksX1_come_0 : cX1_come.data.toList.drop 0 = dktX1_come_0 := by decide +kernel
theorem dksX1_come_1 : cX1_come.data.toList.drop 24 = dktX1_come_1 := dk_seg dksX1_come_0 24 rfl rfl
theorem dksX1_come_2 : cX1_come.data.toList.drop 48 = dktX1_come_2 := dk_seg dksX1_come_1 24 rfl rfl
theorem dksX1_come_3 : cX1_come.data.toList.drop 69 = dktX1_come_3 := dk_seg dksX1_come_2 21 rfl rfl
theorem dksX1_come_4 : cX1_come.data.toList.drop 93 = dktX1_come_4 := dk_seg dksX1_come_3 24 rfl rfl
theorem dX1_come_0 : decode cX1_come 0 = .ok (.aload_n 0, 1) := dk_42 (dk_at dksX1_come_0 0 rfl rfl)
theorem dX1_come_1 : decode cX1_come 1 = .ok (.getfield 12, 3) := dk_180 0 12 (dk_at dksX1_come_0 1 rfl rfl)
theorem dX1_come_4 : decode cX1_come 4 = .ok (.iload_n 1, 1) := dk_27 (dk_at dksX1_come_0 4 rfl rfl)
theorem dX1_come_5 : decode cX1_come 5 = .ok (.invokeinterface 38 2, 5) := by decide +kernel
theorem dX1_come_10 : decode cX1_come 10 = .ok (.checkcast 42, 3) := dk_192 0 42 (dk_at dksX1_come_0 10 rfl rfl)
theorem dX1_come_13 : decode cX1_come 13 = .ok (.astore 4, 2) := dk_58 4 (dk_at dksX1_come_0 13 rfl rfl)
theorem dX1_come_15 : decode cX1_come 15 = .ok (.aload 4, 2) := dk_25 4 (dk_at dksX1_come_0 15 rfl rfl)
theorem dX1_come_17 : decode cX1_come 17 = .ok (.aload_n 0, 1) := dk_42 (dk_at dksX1_come_0 17 rfl rfl)
theorem dX1_come_18 : decode cX1_come 18 = .ok (.getfield 81, 3) := dk_180 0 81 (dk_at dksX1_come_0 18 rfl rfl)
theorem dX1_come_21 : decode cX1_come 21 = .ok (.invokevirtual 323, 3) := dk_182 1 67 (dk_at dksX1_come_0 21 rfl rfl)
theorem dX1_come_24 : decode cX1_come 24 = .ok (.istore 5, 2) := dk_54 5 (dk_at dksX1_come_1 0 rfl rfl)
theorem dX1_come_26 : decode cX1_come 26 = .ok (.iload 5, 2) := dk_21 5 (dk_at dksX1_come_1 2 rfl rfl)
theorem dX1_come_28 : decode cX1_come 28 = .ok (.ifCond .eq 29, 3) := dk_153 0 29 (dk_at dksX1_come_1 4 rfl rfl)
theorem dX1_come_31 : decode cX1_come 31 = .ok (.aload_n 0, 1) := dk_42 (dk_at dksX1_come_1 7 rfl rfl)
theorem dX1_come_32 : decode cX1_come 32 = .ok (.getfield 18, 3) := dk_180 0 18 (dk_at dksX1_come_1 8 rfl rfl)
theorem dX1_come_35 : decode cX1_come 35 = .ok (.aload 4, 2) := dk_25 4 (dk_at dksX1_come_1 11 rfl rfl)
theorem dX1_come_37 : decode cX1_come 37 = .ok (.getfield 268, 3) := dk_180 1 12 (dk_at dksX1_come_1 13 rfl rfl)
theorem dX1_come_40 : decode cX1_come 40 = .ok (.invokeinterface 38 2, 5) := by decide +kernel
theorem dX1_come_45 : decode cX1_come 45 = .ok (.checkcast 52, 3) := dk_192 0 52 (dk_at dksX1_come_1 21 rfl rfl)
theorem dX1_come_48 : decode cX1_come 48 = .ok (.dup, 1) := dk_89 (dk_at dksX1_come_2 0 rfl rfl)
theorem dX1_come_49 : decode cX1_come 49 = .ok (.getfield 325, 3) := dk_180 1 69 (dk_at dksX1_come_2 1 rfl rfl)
theorem dX1_come_52 : decode cX1_come 52 = .ok (.iconst 1, 1) := dk_4 (dk_at dksX1_come_2 4 rfl rfl)
theorem dX1_come_53 : decode cX1_come 53 = .ok (.iadd, 1) := dk_96 (dk_at dksX1_come_2 5 rfl rfl)
theorem dX1_come_54 : decode cX1_come 54 = .ok (.putfield 325, 3) := dk_181 1 69 (dk_at dksX1_come_2 6 rfl rfl)
theorem dX1_come_57 : decode cX1_come 57 = .ok (.aload_n 0, 1) := dk_42 (dk_at dksX1_come_2 9 rfl rfl)
theorem dX1_come_58 : decode cX1_come 58 = .ok (.getfield 24, 3) := dk_180 0 24 (dk_at dksX1_come_2 10 rfl rfl)
theorem dX1_come_61 : decode cX1_come 61 = .ok (.new 62, 3) := dk_187 0 62 (dk_at dksX1_come_2 13 rfl rfl)
theorem dX1_come_64 : decode cX1_come 64 = .ok (.dup, 1) := dk_89 (dk_at dksX1_come_2 16 rfl rfl)
theorem dX1_come_65 : decode cX1_come 65 = .ok (.aload_n 0, 1) := dk_42 (dk_at dksX1_come_2 17 rfl rfl)
theorem dX1_come_66 : decode cX1_come 66 = .ok (.getfield 24, 3) := dk_180 0 24 (dk_at dksX1_come_2 18 rfl rfl)
theorem dX1_come_69 : decode cX1_come 69 = .ok (.invokeinterface 32 1, 5) := by decide +kernel
theorem dX1_come_74 : decode cX1_come 74 = .ok (.iload_n 1, 1) := dk_27 (dk_at dksX1_come_3 5 rfl rfl)
theorem dX1_come_75 : decode cX1_come 75 = .ok (.iload_n 2, 1) := dk_28 (dk_at dksX1_come_3 6 rfl rfl)
theorem dX1_come_76 : decode cX1_come 76 = .ok (.iload_n 3, 1) := dk_29 (dk_at dksX1_come_3 7 rfl rfl)
theorem dX1_come_77 : decode cX1_come 77 = .ok (.aload_n 0, 1) := dk_42 (dk_at dksX1_come_3 8 rfl rfl)
theorem dX1_come_78 : decode cX1_come 78 = .ok (.getfield 27, 3) := dk_180 0 27 (dk_at dksX1_come_3 9 rfl rfl)
theorem dX1_come_81 : decode cX1_come 81 = .ok (.aload 4, 2) := dk_25 4 (dk_at dksX1_come_3 12 rfl rfl)
theorem dX1_come_83 : decode cX1_come 83 = .ok (.getfield 107, 3) := dk_180 0 107 (dk_at dksX1_come_3 14 rfl rfl)
theorem dX1_come_86 : decode cX1_come 86 = .ok (.iaload, 1) := dk_46 (dk_at dksX1_come_3 17 rfl rfl)
theorem dX1_come_87 : decode cX1_come 87 = .ok (.bipush 10, 2) := dk_16 10 (dk_at dksX1_come_3 18 rfl rfl)
theorem dX1_come_89 : decode cX1_come 89 = .ok (.aload_n 0, 1) := dk_42 (dk_at dksX1_come_3 20 rfl rfl)
theorem dX1_come_90 : decode cX1_come 90 = .ok (.getfield 77, 3) := dk_180 0 77 (dk_at dksX1_come_3 21 rfl rfl)
theorem dX1_come_93 : decode cX1_come 93 = .ok (.imul, 1) := dk_104 (dk_at dksX1_come_4 0 rfl rfl)
theorem dX1_come_94 : decode cX1_come 94 = .ok (.iadd, 1) := dk_96 (dk_at dksX1_come_4 1 rfl rfl)
theorem dX1_come_95 : decode cX1_come 95 = .ok (.aload_n 0, 1) := dk_42 (dk_at dksX1_come_4 2 rfl rfl)
theorem dX1_come_96 : decode cX1_come 96 = .ok (.getfield 81, 3) := dk_180 0 81 (dk_at dksX1_come_4 3 rfl rfl)
theorem dX1_come_99 : decode cX1_come 99 = .ok (.iload 5, 2) := dk_21 5 (dk_at dksX1_come_4 6 rfl rfl)
theorem dX1_come_101 : decode cX1_come 101 = .ok (.invokespecial 328, 3) := dk_183 1 72 (dk_at dksX1_come_4 8 rfl rfl)
theorem dX1_come_104 : decode cX1_come 104 = .ok (.invokeinterface 48 2, 5) := by decide +kernel
theorem dX1_come_109 : decode cX1_come 109 = .ok (.pop, 1) := dk_87 (dk_at dksX1_come_4 16 rfl rfl)
theorem dX1_come_110 : decode cX1_come 110 = .ok (.return_, 1) := dk_177 (dk_at dksX1_come_4 17 rfl rfl)
abbrev cX1_far : ByteArray := prog_13_method_3_code
def yX1_far : MethodName := ⟨RX1, "far", "(II)I"⟩
def dkwX1_far_0 : List UInt8 := [42, 180, 0, 73, 180, 0, 84, 27, 50, 28, 46, 172]
abbrev dktX1_far_0 : List UInt8 := dkwX1_far_0 ++ []
theorem dksX1_far_0 : cX1_far.data.toList.drop 0 = dktX1_far_0 := by decide +kernel
theorem dX1_far_0 : decode cX1_far 0 = .ok (.aload_n 0, 1) := dk_42 (dk_at dksX1_far_0 0 rfl rfl)
theorem dX1_far_1 : decode cX1_far 1 = .ok (.getfield 73, 3) := dk_180 0 73 (dk_at dksX1_far_0 1 rfl rfl)
theorem dX1_far_4 : decode cX1_far 4 = .ok (.getfield 84, 3) := dk_180 0 84 (dk_at dksX1_far_0 4 rfl rfl)
theorem dX1_far_7 : decode cX1_far 7 = .ok (.iload_n 1, 1) := dk_27 (dk_at dksX1_far_0 7 rfl rfl)
theorem dX1_far_8 : decode cX1_far 8 = .ok (.aaload, 1) := dk_50 (dk_at dksX1_far_0 8 rfl rfl)
theorem dX1_far_9 : decode cX1_far 9 = .ok (.iload_n 2, 1) := dk_28 (dk_at dksX1_far_0 9 rfl rfl)
theorem dX1_far_10 : decode cX1_far 10 = .ok (.iaload, 1) := dk_46 (dk_at dksX1_far_0 10 rfl rfl)
theorem dX1_far_11 : decode cX1_far 11 = .ok (.ireturn, 1) := dk_172 (dk_at dksX1_far_0 11 rfl rfl)
abbrev cX1_passMinute : ByteArray := prog_13_method_17_code
def yX1_passMinute : MethodName := ⟨RX1, "passMinute", "()I"⟩
def dkwX1_passMinute_3 : List UInt8 := [182, 1, 48, 132, 3, 1, 167, 255, 229, 42, 89, 180, 0, 81, 4, 96, 181, 0, 81, 27, 172]
abbrev dktX1_passMinute_3 : List UInt8 := dkwX1_passMinute_3 ++ []
def dkwX1_passMinute_2 : List UInt8 := [3, 62, 29, 44, 185, 0, 32, 1, 0, 162, 0, 23, 42, 44, 29, 185, 0, 38, 2, 0, 192, 0, 62]
abbrev dktX1_passMinute_2 : List UInt8 := dkwX1_passMinute_2 ++ dktX1_passMinute_3
def dkwX1_passMinute_1 : List UInt8 := [185, 0, 38, 2, 0, 192, 0, 52, 182, 1, 40, 96, 60, 132, 2, 1, 167, 255, 220, 42, 182, 1, 44, 77]
abbrev dktX1_passMinute_1 : List UInt8 := dkwX1_passMinute_1 ++ dktX1_passMinute_2
def dkwX1_passMinute_0 : List UInt8 := [3, 60, 3, 61, 28, 42, 180, 0, 18, 185, 0, 32, 1, 0, 162, 0, 29, 27, 42, 42, 180, 0, 18, 28]
abbrev dktX1_passMinute_0 : List UInt8 := dkwX1_passMinute_0 ++ dktX1_passMinute_1
theorem dksX1_passMinute_0 : cX1_passMinute.data.toList.drop 0 = dktX1_passMinute_0 := by decide +kernel
theorem dksX1_passMinute_1 : cX1_passMinute.data.toList.drop 24 = dktX1_passMinute_1 := dk_seg dksX1_passMinute_0 24 rfl rfl
theorem dksX1_passMinute_2 : cX1_passMinute.data.toList.drop 48 = dktX1_passMinute_2 := dk_seg dksX1_passMinute_1 24 rfl rfl
theorem dksX1_passMinute_3 : cX1_passMinute.data.toList.drop 71 = dktX1_passMinute_3 := dk_seg dksX1_passMinute_2 23 rfl rfl
theorem dX1_passMinute_0 : decode cX1_passMinute 0 = .ok (.iconst 0, 1) := dk_3 (dk_at dksX1_passMinute_0 0 rfl rfl)
theorem dX1_passMinute_1 : decode cX1_passMinute 1 = .ok (.istore_n 1, 1) := dk_60 (dk_at dksX1_passMinute_0 1 rfl rfl)
theorem dX1_passMinute_2 : decode cX1_passMinute 2 = .ok (.iconst 0, 1) := dk_3 (dk_at dksX1_passMinute_0 2 rfl rfl)
theorem dX1_passMinute_3 : decode cX1_passMinute 3 = .ok (.istore_n 2, 1) := dk_61 (dk_at dksX1_passMinute_0 3 rfl rfl)
theorem dX1_passMinute_4 : decode cX1_passMinute 4 = .ok (.iload_n 2, 1) := dk_28 (dk_at dksX1_passMinute_0 4 rfl rfl)
theorem dX1_passMinute_5 : decode cX1_passMinute 5 = .ok (.aload_n 0, 1) := dk_42 (dk_at dksX1_passMinute_0 5 rfl rfl)
theorem dX1_passMinute_6 : decode cX1_passMinute 6 = .ok (.getfield 18, 3) := dk_180 0 18 (dk_at dksX1_passMinute_0 6 rfl rfl)
theorem dX1_passMinute_9 : decode cX1_passMinute 9 = .ok (.invokeinterface 32 1, 5) := by decide +kernel
theorem dX1_passMinute_14 : decode cX1_passMinute 14 = .ok (.if_icmp .ge 29, 3) := dk_162 0 29 (dk_at dksX1_passMinute_0 14 rfl rfl)
theorem dX1_passMinute_17 : decode cX1_passMinute 17 = .ok (.iload_n 1, 1) := dk_27 (dk_at dksX1_passMinute_0 17 rfl rfl)
theorem dX1_passMinute_18 : decode cX1_passMinute 18 = .ok (.aload_n 0, 1) := dk_42 (dk_at dksX1_passMinute_0 18 rfl rfl)
theorem dX1_passMinute_19 : decode cX1_passMinute 19 = .ok (.aload_n 0, 1) := dk_42 (dk_at dksX1_passMinute_0 19 rfl rfl)
theorem dX1_passMinute_20 : decode cX1_passMinute 20 = .ok (.getfield 18, 3) := dk_180 0 18 (dk_at dksX1_passMinute_0 20 rfl rfl)
theorem dX1_passMinute_23 : decode cX1_passMinute 23 = .ok (.iload_n 2, 1) := dk_28 (dk_at dksX1_passMinute_0 23 rfl rfl)
theorem dX1_passMinute_24 : decode cX1_passMinute 24 = .ok (.invokeinterface 38 2, 5) := by decide +kernel
theorem dX1_passMinute_29 : decode cX1_passMinute 29 = .ok (.checkcast 52, 3) := dk_192 0 52 (dk_at dksX1_passMinute_1 5 rfl rfl)
theorem dX1_passMinute_32 : decode cX1_passMinute 32 = .ok (.invokevirtual 296, 3) := dk_182 1 40 (dk_at dksX1_passMinute_1 8 rfl rfl)
theorem dX1_passMinute_35 : decode cX1_passMinute 35 = .ok (.iadd, 1) := dk_96 (dk_at dksX1_passMinute_1 11 rfl rfl)
theorem dX1_passMinute_36 : decode cX1_passMinute 36 = .ok (.istore_n 1, 1) := dk_60 (dk_at dksX1_passMinute_1 12 rfl rfl)
theorem dX1_passMinute_37 : decode cX1_passMinute 37 = .ok (.iinc 2 1, 3) := dk_132 2 1 (dk_at dksX1_passMinute_1 13 rfl rfl)
theorem dX1_passMinute_40 : decode cX1_passMinute 40 = .ok (.goto (-36), 3) := dk_167 255 220 (dk_at dksX1_passMinute_1 16 rfl rfl)
theorem dX1_passMinute_43 : decode cX1_passMinute 43 = .ok (.aload_n 0, 1) := dk_42 (dk_at dksX1_passMinute_1 19 rfl rfl)
theorem dX1_passMinute_44 : decode cX1_passMinute 44 = .ok (.invokevirtual 300, 3) := dk_182 1 44 (dk_at dksX1_passMinute_1 20 rfl rfl)
theorem dX1_passMinute_47 : decode cX1_passMinute 47 = .ok (.astore_n 2, 1) := dk_77 (dk_at dksX1_passMinute_1 23 rfl rfl)
theorem dX1_passMinute_48 : decode cX1_passMinute 48 = .ok (.iconst 0, 1) := dk_3 (dk_at dksX1_passMinute_2 0 rfl rfl)
theorem dX1_passMinute_49 : decode cX1_passMinute 49 = .ok (.istore_n 3, 1) := dk_62 (dk_at dksX1_passMinute_2 1 rfl rfl)
theorem dX1_passMinute_50 : decode cX1_passMinute 50 = .ok (.iload_n 3, 1) := dk_29 (dk_at dksX1_passMinute_2 2 rfl rfl)
theorem dX1_passMinute_51 : decode cX1_passMinute 51 = .ok (.aload_n 2, 1) := dk_44 (dk_at dksX1_passMinute_2 3 rfl rfl)
theorem dX1_passMinute_52 : decode cX1_passMinute 52 = .ok (.invokeinterface 32 1, 5) := by decide +kernel
theorem dX1_passMinute_57 : decode cX1_passMinute 57 = .ok (.if_icmp .ge 23, 3) := dk_162 0 23 (dk_at dksX1_passMinute_2 9 rfl rfl)
theorem dX1_passMinute_60 : decode cX1_passMinute 60 = .ok (.aload_n 0, 1) := dk_42 (dk_at dksX1_passMinute_2 12 rfl rfl)
theorem dX1_passMinute_61 : decode cX1_passMinute 61 = .ok (.aload_n 2, 1) := dk_44 (dk_at dksX1_passMinute_2 13 rfl rfl)
theorem dX1_passMinute_62 : decode cX1_passMinute 62 = .ok (.iload_n 3, 1) := dk_29 (dk_at dksX1_passMinute_2 14 rfl rfl)
theorem dX1_passMinute_63 : decode cX1_passMinute 63 = .ok (.invokeinterface 38 2, 5) := by decide +kernel
theorem dX1_passMinute_68 : decode cX1_passMinute 68 = .ok (.checkcast 62, 3) := dk_192 0 62 (dk_at dksX1_passMinute_2 20 rfl rfl)
theorem dX1_passMinute_71 : decode cX1_passMinute 71 = .ok (.invokevirtual 304, 3) := dk_182 1 48 (dk_at dksX1_passMinute_3 0 rfl rfl)
theorem dX1_passMinute_74 : decode cX1_passMinute 74 = .ok (.iinc 3 1, 3) := dk_132 3 1 (dk_at dksX1_passMinute_3 3 rfl rfl)
theorem dX1_passMinute_77 : decode cX1_passMinute 77 = .ok (.goto (-27), 3) := dk_167 255 229 (dk_at dksX1_passMinute_3 6 rfl rfl)
theorem dX1_passMinute_80 : decode cX1_passMinute 80 = .ok (.aload_n 0, 1) := dk_42 (dk_at dksX1_passMinute_3 9 rfl rfl)
theorem dX1_passMinute_81 : decode cX1_passMinute 81 = .ok (.dup, 1) := dk_89 (dk_at dksX1_passMinute_3 10 rfl rfl)
theorem dX1_passMinute_82 : decode cX1_passMinute 82 = .ok (.getfield 81, 3) := dk_180 0 81 (dk_at dksX1_passMinute_3 11 rfl rfl)
theorem dX1_passMinute_85 : decode cX1_passMinute 85 = .ok (.iconst 1, 1) := dk_4 (dk_at dksX1_passMinute_3 14 rfl rfl)
theorem dX1_passMinute_86 : decode cX1_passMinute 86 = .ok (.iadd, 1) := dk_96 (dk_at dksX1_passMinute_3 15 rfl rfl)
theorem dX1_passMinute_87 : decode cX1_passMinute 87 = .ok (.putfield 81, 3) := dk_181 0 81 (dk_at dksX1_passMinute_3 16 rfl rfl)
theorem dX1_passMinute_90 : decode cX1_passMinute 90 = .ok (.iload_n 1, 1) := dk_27 (dk_at dksX1_passMinute_3 19 rfl rfl)
theorem dX1_passMinute_91 : decode cX1_passMinute 91 = .ok (.ireturn, 1) := dk_172 (dk_at dksX1_passMinute_3 20 rfl rfl)
abbrev cX1_goOn : ByteArray := prog_13_method_16_code
def yX1_goOn : MethodName := ⟨RX1, "goOn", "(LPatrolDesk$Patrol;)I"⟩
def dkwX1_goOn_4 : List UInt8 := [42, 43, 44, 182, 0, 165, 3, 172, 42, 43, 44, 182, 1, 33, 172, 42, 43, 44, 182, 1, 37, 172]
abbrev dktX1_goOn_4 : List UInt8 := dkwX1_goOn_4 ++ []
def dkwX1_goOn_3 : List UInt8 := [171, 0, 0, 0, 40, 0, 0, 0, 2, 0, 0, 0, 1, 0, 0, 0, 25, 0, 0, 0, 2, 0, 0, 0, 33]
abbrev dktX1_goOn_3 : List UInt8 := dkwX1_goOn_3 ++ dktX1_goOn_4
def dkwX1_goOn_2 : List UInt8 := [185, 0, 38, 2, 0, 192, 0, 62, 77, 43, 180, 0, 123]
abbrev dktX1_goOn_2 : List UInt8 := dkwX1_goOn_2 ++ dktX1_goOn_3
def dkwX1_goOn_1 : List UInt8 := [4, 96, 181, 1, 27, 43, 180, 1, 24, 158, 0, 5, 3, 172, 42, 180, 0, 24, 43, 180, 1, 30]
abbrev dktX1_goOn_1 : List UInt8 := dkwX1_goOn_1 ++ dktX1_goOn_2
def dkwX1_goOn_0 : List UInt8 := [43, 182, 1, 21, 154, 0, 5, 3, 172, 43, 89, 180, 1, 24, 4, 100, 181, 1, 24, 43, 89, 180, 1, 27]
abbrev dktX1_goOn_0 : List UInt8 := dkwX1_goOn_0 ++ dktX1_goOn_1
theorem dksX1_goOn_0 : cX1_goOn.data.toList.drop 0 = dktX1_goOn_0 := by decide +kernel
theorem dksX1_goOn_1 : cX1_goOn.data.toList.drop 24 = dktX1_goOn_1 := dk_seg dksX1_goOn_0 24 rfl rfl
theorem dksX1_goOn_2 : cX1_goOn.data.toList.drop 46 = dktX1_goOn_2 := dk_seg dksX1_goOn_1 22 rfl rfl
theorem dksX1_goOn_3 : cX1_goOn.data.toList.drop 59 = dktX1_goOn_3 := dk_seg dksX1_goOn_2 13 rfl rfl
theorem dksX1_goOn_4 : cX1_goOn.data.toList.drop 84 = dktX1_goOn_4 := dk_seg dksX1_goOn_3 25 rfl rfl
theorem dX1_goOn_0 : decode cX1_goOn 0 = .ok (.aload_n 1, 1) := dk_43 (dk_at dksX1_goOn_0 0 rfl rfl)
theorem dX1_goOn_1 : decode cX1_goOn 1 = .ok (.invokevirtual 277, 3) := dk_182 1 21 (dk_at dksX1_goOn_0 1 rfl rfl)
theorem dX1_goOn_4 : decode cX1_goOn 4 = .ok (.ifCond .ne 5, 3) := dk_154 0 5 (dk_at dksX1_goOn_0 4 rfl rfl)
theorem dX1_goOn_7 : decode cX1_goOn 7 = .ok (.iconst 0, 1) := dk_3 (dk_at dksX1_goOn_0 7 rfl rfl)
theorem dX1_goOn_8 : decode cX1_goOn 8 = .ok (.ireturn, 1) := dk_172 (dk_at dksX1_goOn_0 8 rfl rfl)
theorem dX1_goOn_9 : decode cX1_goOn 9 = .ok (.aload_n 1, 1) := dk_43 (dk_at dksX1_goOn_0 9 rfl rfl)
theorem dX1_goOn_10 : decode cX1_goOn 10 = .ok (.dup, 1) := dk_89 (dk_at dksX1_goOn_0 10 rfl rfl)
theorem dX1_goOn_11 : decode cX1_goOn 11 = .ok (.getfield 280, 3) := dk_180 1 24 (dk_at dksX1_goOn_0 11 rfl rfl)
theorem dX1_goOn_14 : decode cX1_goOn 14 = .ok (.iconst 1, 1) := dk_4 (dk_at dksX1_goOn_0 14 rfl rfl)
theorem dX1_goOn_15 : decode cX1_goOn 15 = .ok (.isub, 1) := dk_100 (dk_at dksX1_goOn_0 15 rfl rfl)
theorem dX1_goOn_16 : decode cX1_goOn 16 = .ok (.putfield 280, 3) := dk_181 1 24 (dk_at dksX1_goOn_0 16 rfl rfl)
theorem dX1_goOn_19 : decode cX1_goOn 19 = .ok (.aload_n 1, 1) := dk_43 (dk_at dksX1_goOn_0 19 rfl rfl)
theorem dX1_goOn_20 : decode cX1_goOn 20 = .ok (.dup, 1) := dk_89 (dk_at dksX1_goOn_0 20 rfl rfl)
theorem dX1_goOn_21 : decode cX1_goOn 21 = .ok (.getfield 283, 3) := dk_180 1 27 (dk_at dksX1_goOn_0 21 rfl rfl)
theorem dX1_goOn_24 : decode cX1_goOn 24 = .ok (.iconst 1, 1) := dk_4 (dk_at dksX1_goOn_1 0 rfl rfl)
theorem dX1_goOn_25 : decode cX1_goOn 25 = .ok (.iadd, 1) := dk_96 (dk_at dksX1_goOn_1 1 rfl rfl)
theorem dX1_goOn_26 : decode cX1_goOn 26 = .ok (.putfield 283, 3) := dk_181 1 27 (dk_at dksX1_goOn_1 2 rfl rfl)
theorem dX1_goOn_29 : decode cX1_goOn 29 = .ok (.aload_n 1, 1) := dk_43 (dk_at dksX1_goOn_1 5 rfl rfl)
theorem dX1_goOn_30 : decode cX1_goOn 30 = .ok (.getfield 280, 3) := dk_180 1 24 (dk_at dksX1_goOn_1 6 rfl rfl)
theorem dX1_goOn_33 : decode cX1_goOn 33 = .ok (.ifCond .le 5, 3) := dk_158 0 5 (dk_at dksX1_goOn_1 9 rfl rfl)
theorem dX1_goOn_36 : decode cX1_goOn 36 = .ok (.iconst 0, 1) := dk_3 (dk_at dksX1_goOn_1 12 rfl rfl)
theorem dX1_goOn_37 : decode cX1_goOn 37 = .ok (.ireturn, 1) := dk_172 (dk_at dksX1_goOn_1 13 rfl rfl)
theorem dX1_goOn_38 : decode cX1_goOn 38 = .ok (.aload_n 0, 1) := dk_42 (dk_at dksX1_goOn_1 14 rfl rfl)
theorem dX1_goOn_39 : decode cX1_goOn 39 = .ok (.getfield 24, 3) := dk_180 0 24 (dk_at dksX1_goOn_1 15 rfl rfl)
theorem dX1_goOn_42 : decode cX1_goOn 42 = .ok (.aload_n 1, 1) := dk_43 (dk_at dksX1_goOn_1 18 rfl rfl)
theorem dX1_goOn_43 : decode cX1_goOn 43 = .ok (.getfield 286, 3) := dk_180 1 30 (dk_at dksX1_goOn_1 19 rfl rfl)
theorem dX1_goOn_46 : decode cX1_goOn 46 = .ok (.invokeinterface 38 2, 5) := by decide +kernel
theorem dX1_goOn_51 : decode cX1_goOn 51 = .ok (.checkcast 62, 3) := dk_192 0 62 (dk_at dksX1_goOn_2 5 rfl rfl)
theorem dX1_goOn_54 : decode cX1_goOn 54 = .ok (.astore_n 2, 1) := dk_77 (dk_at dksX1_goOn_2 8 rfl rfl)
theorem dX1_goOn_55 : decode cX1_goOn 55 = .ok (.aload_n 1, 1) := dk_43 (dk_at dksX1_goOn_2 9 rfl rfl)
theorem dX1_goOn_56 : decode cX1_goOn 56 = .ok (.getfield 123, 3) := dk_180 0 123 (dk_at dksX1_goOn_2 10 rfl rfl)
theorem dX1_goOn_59 : decode cX1_goOn 59 = .ok (.lookupswitch 40 #[(1, 25), (2, 33)], 25) := by decide +kernel
theorem dX1_goOn_84 : decode cX1_goOn 84 = .ok (.aload_n 0, 1) := dk_42 (dk_at dksX1_goOn_4 0 rfl rfl)
theorem dX1_goOn_85 : decode cX1_goOn 85 = .ok (.aload_n 1, 1) := dk_43 (dk_at dksX1_goOn_4 1 rfl rfl)
theorem dX1_goOn_86 : decode cX1_goOn 86 = .ok (.aload_n 2, 1) := dk_44 (dk_at dksX1_goOn_4 2 rfl rfl)
theorem dX1_goOn_87 : decode cX1_goOn 87 = .ok (.invokevirtual 165, 3) := dk_182 0 165 (dk_at dksX1_goOn_4 3 rfl rfl)
theorem dX1_goOn_90 : decode cX1_goOn 90 = .ok (.iconst 0, 1) := dk_3 (dk_at dksX1_goOn_4 6 rfl rfl)
theorem dX1_goOn_91 : decode cX1_goOn 91 = .ok (.ireturn, 1) := dk_172 (dk_at dksX1_goOn_4 7 rfl rfl)
theorem dX1_goOn_92 : decode cX1_goOn 92 = .ok (.aload_n 0, 1) := dk_42 (dk_at dksX1_goOn_4 8 rfl rfl)
theorem dX1_goOn_93 : decode cX1_goOn 93 = .ok (.aload_n 1, 1) := dk_43 (dk_at dksX1_goOn_4 9 rfl rfl)
theorem dX1_goOn_94 : decode cX1_goOn 94 = .ok (.aload_n 2, 1) := dk_44 (dk_at dksX1_goOn_4 10 rfl rfl)
theorem dX1_goOn_95 : decode cX1_goOn 95 = .ok (.invokevirtual 289, 3) := dk_182 1 33 (dk_at dksX1_goOn_4 11 rfl rfl)
theorem dX1_goOn_98 : decode cX1_goOn 98 = .ok (.ireturn, 1) := dk_172 (dk_at dksX1_goOn_4 14 rfl rfl)
theorem dX1_goOn_99 : decode cX1_goOn 99 = .ok (.aload_n 0, 1) := dk_42 (dk_at dksX1_goOn_4 15 rfl rfl)
theorem dX1_goOn_100 : decode cX1_goOn 100 = .ok (.aload_n 1, 1) := dk_43 (dk_at dksX1_goOn_4 16 rfl rfl)
theorem dX1_goOn_101 : decode cX1_goOn 101 = .ok (.aload_n 2, 1) := dk_44 (dk_at dksX1_goOn_4 17 rfl rfl)
theorem dX1_goOn_102 : decode cX1_goOn 102 = .ok (.invokevirtual 293, 3) := dk_182 1 37 (dk_at dksX1_goOn_4 18 rfl rfl)
theorem dX1_goOn_105 : decode cX1_goOn 105 = .ok (.ireturn, 1) := dk_172 (dk_at dksX1_goOn_4 21 rfl rfl)
abbrev cX1_getThere : ByteArray := prog_13_method_11_code
def yX1_getThere : MethodName := ⟨RX1, "getThere", "(LPatrolDesk$Patrol;LPatrolDesk$Call;)V"⟩
def dkwX1_getThere_7 : List UInt8 := [182, 0, 201, 177]
abbrev dktX1_getThere_7 : List UInt8 := dkwX1_getThere_7 ++ []
def dkwX1_getThere_6 : List UInt8 := [182, 0, 193, 153, 0, 12, 42, 43, 44, 182, 0, 169, 167, 0, 15, 44, 44, 180, 0, 141, 182, 0, 197, 43]
abbrev dktX1_getThere_6 : List UInt8 := dkwX1_getThere_6 ++ dktX1_getThere_7
def dkwX1_getThere_5 : List UInt8 := [43, 5, 44, 180, 0, 110, 8, 44, 180, 0, 190, 104, 182, 0, 157, 167, 0, 35, 43, 44, 180, 0, 141]
abbrev dktX1_getThere_5 : List UInt8 := dkwX1_getThere_5 ++ dktX1_getThere_6
def dkwX1_getThere_4 : List UInt8 := [16, 15, 96, 181, 0, 187, 43, 180, 0, 138, 44, 180, 0, 190, 6, 100, 161, 0, 26, 44, 5, 181, 0, 142]
abbrev dktX1_getThere_4 : List UInt8 := dkwX1_getThere_4 ++ dktX1_getThere_5
def dkwX1_getThere_3 : List UInt8 := [164, 0, 29, 42, 180, 0, 12, 44, 180, 0, 96, 185, 0, 38, 2, 0, 192, 0, 42, 89, 180, 0, 187]
abbrev dktX1_getThere_3 : List UInt8 := dkwX1_getThere_3 ++ dktX1_getThere_4
def dkwX1_getThere_2 : List UInt8 := [180, 0, 81, 182, 0, 181, 96, 181, 0, 178, 44, 42, 180, 0, 81, 182, 0, 181, 44, 180, 0, 184]
abbrev dktX1_getThere_2 : List UInt8 := dkwX1_getThere_2 ++ dktX1_getThere_3
def dkwX1_getThere_1 : List UInt8 := [43, 180, 0, 161, 181, 0, 172, 44, 42, 180, 0, 81, 181, 0, 175, 43, 89, 180, 0, 178, 44, 42]
abbrev dktX1_getThere_1 : List UInt8 := dkwX1_getThere_1 ++ dktX1_getThere_2
def dkwX1_getThere_0 : List UInt8 := [43, 44, 180, 0, 141, 181, 0, 126, 44, 180, 0, 142, 6, 160, 0, 10, 42, 43, 44, 182, 0, 169, 177, 44]
abbrev dktX1_getThere_0 : List UInt8 := dkwX1_getThere_0 ++ dktX1_getThere_1
theorem dksX1_getThere_0 : cX1_getThere.data.toList.drop 0 = dktX1_getThere_0 := by decide +kernel
theorem dksX1_getThere_1 : cX1_getThere.data.toList.drop 24 = dktX1_getThere_1 := dk_seg dksX1_getThere_0 24 rfl rfl
theorem dksX1_getThere_2 : cX1_getThere.data.toList.drop 46 = dktX1_getThere_2 := dk_seg dksX1_getThere_1 22 rfl rfl
theorem dksX1_getThere_3 : cX1_getThere.data.toList.drop 68 = dktX1_getThere_3 := dk_seg dksX1_getThere_2 22 rfl rfl
theorem dksX1_getThere_4 : cX1_getThere.data.toList.drop 91 = dktX1_getThere_4 := dk_seg dksX1_getThere_3 23 rfl rfl
theorem dksX1_getThere_5 : cX1_getThere.data.toList.drop 115 = dktX1_getThere_5 := dk_seg dksX1_getThere_4 24 rfl rfl
theorem dksX1_getThere_6 : cX1_getThere.data.toList.drop 138 = dktX1_getThere_6 := dk_seg dksX1_getThere_5 23 rfl rfl
theorem dksX1_getThere_7 : cX1_getThere.data.toList.drop 162 = dktX1_getThere_7 := dk_seg dksX1_getThere_6 24 rfl rfl
theorem dX1_getThere_0 : decode cX1_getThere 0 = .ok (.aload_n 1, 1) := dk_43 (dk_at dksX1_getThere_0 0 rfl rfl)
theorem dX1_getThere_1 : decode cX1_getThere 1 = .ok (.aload_n 2, 1) := dk_44 (dk_at dksX1_getThere_0 1 rfl rfl)
theorem dX1_getThere_2 : decode cX1_getThere 2 = .ok (.getfield 141, 3) := dk_180 0 141 (dk_at dksX1_getThere_0 2 rfl rfl)
theorem dX1_getThere_5 : decode cX1_getThere 5 = .ok (.putfield 126, 3) := dk_181 0 126 (dk_at dksX1_getThere_0 5 rfl rfl)
theorem dX1_getThere_8 : decode cX1_getThere 8 = .ok (.aload_n 2, 1) := dk_44 (dk_at dksX1_getThere_0 8 rfl rfl)
theorem dX1_getThere_9 : decode cX1_getThere 9 = .ok (.getfield 142, 3) := dk_180 0 142 (dk_at dksX1_getThere_0 9 rfl rfl)
theorem dX1_getThere_12 : decode cX1_getThere 12 = .ok (.iconst 3, 1) := dk_6 (dk_at dksX1_getThere_0 12 rfl rfl)
theorem dX1_getThere_13 : decode cX1_getThere 13 = .ok (.if_icmp .ne 10, 3) := dk_160 0 10 (dk_at dksX1_getThere_0 13 rfl rfl)
theorem dX1_getThere_16 : decode cX1_getThere 16 = .ok (.aload_n 0, 1) := dk_42 (dk_at dksX1_getThere_0 16 rfl rfl)
theorem dX1_getThere_17 : decode cX1_getThere 17 = .ok (.aload_n 1, 1) := dk_43 (dk_at dksX1_getThere_0 17 rfl rfl)
theorem dX1_getThere_18 : decode cX1_getThere 18 = .ok (.aload_n 2, 1) := dk_44 (dk_at dksX1_getThere_0 18 rfl rfl)
theorem dX1_getThere_19 : decode cX1_getThere 19 = .ok (.invokevirtual 169, 3) := dk_182 0 169 (dk_at dksX1_getThere_0 19 rfl rfl)
theorem dX1_getThere_22 : decode cX1_getThere 22 = .ok (.return_, 1) := dk_177 (dk_at dksX1_getThere_0 22 rfl rfl)
theorem dX1_getThere_23 : decode cX1_getThere 23 = .ok (.aload_n 2, 1) := dk_44 (dk_at dksX1_getThere_0 23 rfl rfl)
theorem dX1_getThere_24 : decode cX1_getThere 24 = .ok (.aload_n 1, 1) := dk_43 (dk_at dksX1_getThere_1 0 rfl rfl)
theorem dX1_getThere_25 : decode cX1_getThere 25 = .ok (.getfield 161, 3) := dk_180 0 161 (dk_at dksX1_getThere_1 1 rfl rfl)
theorem dX1_getThere_28 : decode cX1_getThere 28 = .ok (.putfield 172, 3) := dk_181 0 172 (dk_at dksX1_getThere_1 4 rfl rfl)
theorem dX1_getThere_31 : decode cX1_getThere 31 = .ok (.aload_n 2, 1) := dk_44 (dk_at dksX1_getThere_1 7 rfl rfl)
theorem dX1_getThere_32 : decode cX1_getThere 32 = .ok (.aload_n 0, 1) := dk_42 (dk_at dksX1_getThere_1 8 rfl rfl)
theorem dX1_getThere_33 : decode cX1_getThere 33 = .ok (.getfield 81, 3) := dk_180 0 81 (dk_at dksX1_getThere_1 9 rfl rfl)
theorem dX1_getThere_36 : decode cX1_getThere 36 = .ok (.putfield 175, 3) := dk_181 0 175 (dk_at dksX1_getThere_1 12 rfl rfl)
theorem dX1_getThere_39 : decode cX1_getThere 39 = .ok (.aload_n 1, 1) := dk_43 (dk_at dksX1_getThere_1 15 rfl rfl)
theorem dX1_getThere_40 : decode cX1_getThere 40 = .ok (.dup, 1) := dk_89 (dk_at dksX1_getThere_1 16 rfl rfl)
theorem dX1_getThere_41 : decode cX1_getThere 41 = .ok (.getfield 178, 3) := dk_180 0 178 (dk_at dksX1_getThere_1 17 rfl rfl)
theorem dX1_getThere_44 : decode cX1_getThere 44 = .ok (.aload_n 2, 1) := dk_44 (dk_at dksX1_getThere_1 20 rfl rfl)
theorem dX1_getThere_45 : decode cX1_getThere 45 = .ok (.aload_n 0, 1) := dk_42 (dk_at dksX1_getThere_1 21 rfl rfl)
theorem dX1_getThere_46 : decode cX1_getThere 46 = .ok (.getfield 81, 3) := dk_180 0 81 (dk_at dksX1_getThere_2 0 rfl rfl)
theorem dX1_getThere_49 : decode cX1_getThere 49 = .ok (.invokevirtual 181, 3) := dk_182 0 181 (dk_at dksX1_getThere_2 3 rfl rfl)
theorem dX1_getThere_52 : decode cX1_getThere 52 = .ok (.iadd, 1) := dk_96 (dk_at dksX1_getThere_2 6 rfl rfl)
theorem dX1_getThere_53 : decode cX1_getThere 53 = .ok (.putfield 178, 3) := dk_181 0 178 (dk_at dksX1_getThere_2 7 rfl rfl)
theorem dX1_getThere_56 : decode cX1_getThere 56 = .ok (.aload_n 2, 1) := dk_44 (dk_at dksX1_getThere_2 10 rfl rfl)
theorem dX1_getThere_57 : decode cX1_getThere 57 = .ok (.aload_n 0, 1) := dk_42 (dk_at dksX1_getThere_2 11 rfl rfl)
theorem dX1_getThere_58 : decode cX1_getThere 58 = .ok (.getfield 81, 3) := dk_180 0 81 (dk_at dksX1_getThere_2 12 rfl rfl)
theorem dX1_getThere_61 : decode cX1_getThere 61 = .ok (.invokevirtual 181, 3) := dk_182 0 181 (dk_at dksX1_getThere_2 15 rfl rfl)
theorem dX1_getThere_64 : decode cX1_getThere 64 = .ok (.aload_n 2, 1) := dk_44 (dk_at dksX1_getThere_2 18 rfl rfl)
theorem dX1_getThere_65 : decode cX1_getThere 65 = .ok (.getfield 184, 3) := dk_180 0 184 (dk_at dksX1_getThere_2 19 rfl rfl)
theorem dX1_getThere_68 : decode cX1_getThere 68 = .ok (.if_icmp .le 29, 3) := dk_164 0 29 (dk_at dksX1_getThere_3 0 rfl rfl)
theorem dX1_getThere_71 : decode cX1_getThere 71 = .ok (.aload_n 0, 1) := dk_42 (dk_at dksX1_getThere_3 3 rfl rfl)
theorem dX1_getThere_72 : decode cX1_getThere 72 = .ok (.getfield 12, 3) := dk_180 0 12 (dk_at dksX1_getThere_3 4 rfl rfl)
theorem dX1_getThere_75 : decode cX1_getThere 75 = .ok (.aload_n 2, 1) := dk_44 (dk_at dksX1_getThere_3 7 rfl rfl)
theorem dX1_getThere_76 : decode cX1_getThere 76 = .ok (.getfield 96, 3) := dk_180 0 96 (dk_at dksX1_getThere_3 8 rfl rfl)
theorem dX1_getThere_79 : decode cX1_getThere 79 = .ok (.invokeinterface 38 2, 5) := by decide +kernel
theorem dX1_getThere_84 : decode cX1_getThere 84 = .ok (.checkcast 42, 3) := dk_192 0 42 (dk_at dksX1_getThere_3 16 rfl rfl)
theorem dX1_getThere_87 : decode cX1_getThere 87 = .ok (.dup, 1) := dk_89 (dk_at dksX1_getThere_3 19 rfl rfl)
theorem dX1_getThere_88 : decode cX1_getThere 88 = .ok (.getfield 187, 3) := dk_180 0 187 (dk_at dksX1_getThere_3 20 rfl rfl)
theorem dX1_getThere_91 : decode cX1_getThere 91 = .ok (.bipush 15, 2) := dk_16 15 (dk_at dksX1_getThere_4 0 rfl rfl)
theorem dX1_getThere_93 : decode cX1_getThere 93 = .ok (.iadd, 1) := dk_96 (dk_at dksX1_getThere_4 2 rfl rfl)
theorem dX1_getThere_94 : decode cX1_getThere 94 = .ok (.putfield 187, 3) := dk_181 0 187 (dk_at dksX1_getThere_4 3 rfl rfl)
theorem dX1_getThere_97 : decode cX1_getThere 97 = .ok (.aload_n 1, 1) := dk_43 (dk_at dksX1_getThere_4 6 rfl rfl)
theorem dX1_getThere_98 : decode cX1_getThere 98 = .ok (.getfield 138, 3) := dk_180 0 138 (dk_at dksX1_getThere_4 7 rfl rfl)
theorem dX1_getThere_101 : decode cX1_getThere 101 = .ok (.aload_n 2, 1) := dk_44 (dk_at dksX1_getThere_4 10 rfl rfl)
theorem dX1_getThere_102 : decode cX1_getThere 102 = .ok (.getfield 190, 3) := dk_180 0 190 (dk_at dksX1_getThere_4 11 rfl rfl)
theorem dX1_getThere_105 : decode cX1_getThere 105 = .ok (.iconst 3, 1) := dk_6 (dk_at dksX1_getThere_4 14 rfl rfl)
theorem dX1_getThere_106 : decode cX1_getThere 106 = .ok (.isub, 1) := dk_100 (dk_at dksX1_getThere_4 15 rfl rfl)
theorem dX1_getThere_107 : decode cX1_getThere 107 = .ok (.if_icmp .lt 26, 3) := dk_161 0 26 (dk_at dksX1_getThere_4 16 rfl rfl)
theorem dX1_getThere_110 : decode cX1_getThere 110 = .ok (.aload_n 2, 1) := dk_44 (dk_at dksX1_getThere_4 19 rfl rfl)
theorem dX1_getThere_111 : decode cX1_getThere 111 = .ok (.iconst 2, 1) := dk_5 (dk_at dksX1_getThere_4 20 rfl rfl)
theorem dX1_getThere_112 : decode cX1_getThere 112 = .ok (.putfield 142, 3) := dk_181 0 142 (dk_at dksX1_getThere_4 21 rfl rfl)
theorem dX1_getThere_115 : decode cX1_getThere 115 = .ok (.aload_n 1, 1) := dk_43 (dk_at dksX1_getThere_5 0 rfl rfl)
theorem dX1_getThere_116 : decode cX1_getThere 116 = .ok (.iconst 2, 1) := dk_5 (dk_at dksX1_getThere_5 1 rfl rfl)
theorem dX1_getThere_117 : decode cX1_getThere 117 = .ok (.aload_n 2, 1) := dk_44 (dk_at dksX1_getThere_5 2 rfl rfl)
theorem dX1_getThere_118 : decode cX1_getThere 118 = .ok (.getfield 110, 3) := dk_180 0 110 (dk_at dksX1_getThere_5 3 rfl rfl)
theorem dX1_getThere_121 : decode cX1_getThere 121 = .ok (.iconst 5, 1) := dk_8 (dk_at dksX1_getThere_5 6 rfl rfl)
theorem dX1_getThere_122 : decode cX1_getThere 122 = .ok (.aload_n 2, 1) := dk_44 (dk_at dksX1_getThere_5 7 rfl rfl)
theorem dX1_getThere_123 : decode cX1_getThere 123 = .ok (.getfield 190, 3) := dk_180 0 190 (dk_at dksX1_getThere_5 8 rfl rfl)
theorem dX1_getThere_126 : decode cX1_getThere 126 = .ok (.imul, 1) := dk_104 (dk_at dksX1_getThere_5 11 rfl rfl)
theorem dX1_getThere_127 : decode cX1_getThere 127 = .ok (.invokevirtual 157, 3) := dk_182 0 157 (dk_at dksX1_getThere_5 12 rfl rfl)
theorem dX1_getThere_130 : decode cX1_getThere 130 = .ok (.goto 35, 3) := dk_167 0 35 (dk_at dksX1_getThere_5 15 rfl rfl)
theorem dX1_getThere_133 : decode cX1_getThere 133 = .ok (.aload_n 1, 1) := dk_43 (dk_at dksX1_getThere_5 18 rfl rfl)
theorem dX1_getThere_134 : decode cX1_getThere 134 = .ok (.aload_n 2, 1) := dk_44 (dk_at dksX1_getThere_5 19 rfl rfl)
theorem dX1_getThere_135 : decode cX1_getThere 135 = .ok (.getfield 141, 3) := dk_180 0 141 (dk_at dksX1_getThere_5 20 rfl rfl)
theorem dX1_getThere_138 : decode cX1_getThere 138 = .ok (.invokevirtual 193, 3) := dk_182 0 193 (dk_at dksX1_getThere_6 0 rfl rfl)
theorem dX1_getThere_141 : decode cX1_getThere 141 = .ok (.ifCond .eq 12, 3) := dk_153 0 12 (dk_at dksX1_getThere_6 3 rfl rfl)
theorem dX1_getThere_144 : decode cX1_getThere 144 = .ok (.aload_n 0, 1) := dk_42 (dk_at dksX1_getThere_6 6 rfl rfl)
theorem dX1_getThere_145 : decode cX1_getThere 145 = .ok (.aload_n 1, 1) := dk_43 (dk_at dksX1_getThere_6 7 rfl rfl)
theorem dX1_getThere_146 : decode cX1_getThere 146 = .ok (.aload_n 2, 1) := dk_44 (dk_at dksX1_getThere_6 8 rfl rfl)
theorem dX1_getThere_147 : decode cX1_getThere 147 = .ok (.invokevirtual 169, 3) := dk_182 0 169 (dk_at dksX1_getThere_6 9 rfl rfl)
theorem dX1_getThere_150 : decode cX1_getThere 150 = .ok (.goto 15, 3) := dk_167 0 15 (dk_at dksX1_getThere_6 12 rfl rfl)
theorem dX1_getThere_153 : decode cX1_getThere 153 = .ok (.aload_n 2, 1) := dk_44 (dk_at dksX1_getThere_6 15 rfl rfl)
theorem dX1_getThere_154 : decode cX1_getThere 154 = .ok (.aload_n 2, 1) := dk_44 (dk_at dksX1_getThere_6 16 rfl rfl)
theorem dX1_getThere_155 : decode cX1_getThere 155 = .ok (.getfield 141, 3) := dk_180 0 141 (dk_at dksX1_getThere_6 17 rfl rfl)
theorem dX1_getThere_158 : decode cX1_getThere 158 = .ok (.invokevirtual 197, 3) := dk_182 0 197 (dk_at dksX1_getThere_6 20 rfl rfl)
theorem dX1_getThere_161 : decode cX1_getThere 161 = .ok (.aload_n 1, 1) := dk_43 (dk_at dksX1_getThere_6 23 rfl rfl)
theorem dX1_getThere_162 : decode cX1_getThere 162 = .ok (.invokevirtual 201, 3) := dk_182 0 201 (dk_at dksX1_getThere_7 0 rfl rfl)
theorem dX1_getThere_165 : decode cX1_getThere 165 = .ok (.return_, 1) := dk_177 (dk_at dksX1_getThere_7 3 rfl rfl)
abbrev cX1_tow : ByteArray := prog_13_method_13_code
def yX1_tow : MethodName := ⟨RX1, "tow", "(LPatrolDesk$Patrol;LPatrolDesk$Call;)V"⟩
def dkwX1_tow_12 : List UInt8 := [180, 0, 240, 4, 96, 181, 0, 240, 177]
abbrev dktX1_tow_12 : List UInt8 := dkwX1_tow_12 ++ []
def dkwX1_tow_11 : List UInt8 := [181, 0, 234, 43, 29, 181, 0, 237, 42, 180, 0, 21, 29, 185, 0, 38, 2, 0, 192, 0, 57, 89]
abbrev dktX1_tow_11 : List UInt8 := dkwX1_tow_11 ++ dktX1_tow_12
def dkwX1_tow_10 : List UInt8 := [184, 0, 229, 182, 0, 157, 43, 25, 4, 21, 5, 185, 0, 38, 2, 0, 192, 0, 215, 182, 0, 217]
abbrev dktX1_tow_10 : List UInt8 := dkwX1_tow_10 ++ dktX1_tow_11
def dkwX1_tow_9 : List UInt8 := [44, 7, 181, 0, 142, 44, 43, 180, 0, 161, 181, 0, 162, 43, 6, 44, 180, 0, 110, 4, 5, 21, 6, 104]
abbrev dktX1_tow_9 : List UInt8 := dkwX1_tow_9 ++ dktX1_tow_10
def dkwX1_tow_8 : List UInt8 := [96, 185, 0, 38, 2, 0, 192, 0, 215, 182, 0, 217, 182, 0, 226, 96, 54, 6, 132, 7, 1, 167, 255, 202]
abbrev dktX1_tow_8 : List UInt8 := dkwX1_tow_8 ++ dktX1_tow_9
def dkwX1_tow_7 : List UInt8 := [42, 180, 0, 73, 25, 4, 21, 7, 185, 0, 38, 2, 0, 192, 0, 215, 182, 0, 217, 25, 4, 21, 7, 4]
abbrev dktX1_tow_7 : List UInt8 := dkwX1_tow_7 ++ dktX1_tow_8
def dkwX1_tow_6 : List UInt8 := [160, 0, 9, 132, 5, 1, 167, 255, 177, 3, 54, 6, 3, 54, 7, 21, 7, 21, 5, 162, 0, 53, 21, 6]
abbrev dktX1_tow_6 : List UInt8 := dkwX1_tow_6 ++ dktX1_tow_7
def dkwX1_tow_5 : List UInt8 := [21, 5, 4, 96, 185, 0, 38, 2, 0, 192, 0, 215, 182, 0, 217, 184, 0, 220, 43, 182, 0, 223]
abbrev dktX1_tow_5 : List UInt8 := dkwX1_tow_5 ++ dktX1_tow_6
def dkwX1_tow_4 : List UInt8 := [192, 0, 215, 182, 0, 217, 184, 0, 220, 43, 182, 0, 223, 160, 0, 41, 21, 5, 153, 0, 30, 25, 4]
abbrev dktX1_tow_4 : List UInt8 := dkwX1_tow_4 ++ dktX1_tow_5
def dkwX1_tow_3 : List UInt8 := [185, 0, 32, 1, 0, 162, 0, 71, 21, 5, 153, 0, 28, 25, 4, 21, 5, 185, 0, 38, 2, 0]
abbrev dktX1_tow_3 : List UInt8 := dkwX1_tow_3 ++ dktX1_tow_4
def dkwX1_tow_2 : List UInt8 := [192, 0, 57, 180, 0, 204, 182, 0, 211, 58, 4, 3, 54, 5, 21, 5, 4, 96, 25, 4]
abbrev dktX1_tow_2 : List UInt8 := dkwX1_tow_2 ++ dktX1_tow_3
def dkwX1_tow_1 : List UInt8 := [182, 0, 201, 177, 42, 180, 0, 73, 44, 180, 0, 141, 42, 180, 0, 21, 29, 185, 0, 38, 2, 0]
abbrev dktX1_tow_1 : List UInt8 := dkwX1_tow_1 ++ dktX1_tow_2
def dkwX1_tow_0 : List UInt8 := [42, 44, 180, 0, 141, 182, 0, 208, 62, 29, 16, 251, 160, 0, 16, 44, 44, 180, 0, 141, 182, 0, 197, 43]
abbrev dktX1_tow_0 : List UInt8 := dkwX1_tow_0 ++ dktX1_tow_1
theorem dksX1_tow_0 : cX1_tow.data.toList.drop 0 = dktX1_tow_0 := by decide +kernel
theorem dksX1_tow_1 : cX1_tow.data.toList.drop 24 = dktX1_tow_1 := dk_seg dksX1_tow_0 24 rfl rfl
theorem dksX1_tow_2 : cX1_tow.data.toList.drop 46 = dktX1_tow_2 := dk_seg dksX1_tow_1 22 rfl rfl
theorem dksX1_tow_3 : cX1_tow.data.toList.drop 66 = dktX1_tow_3 := dk_seg dksX1_tow_2 20 rfl rfl
theorem dksX1_tow_4 : cX1_tow.data.toList.drop 88 = dktX1_tow_4 := dk_seg dksX1_tow_3 22 rfl rfl
theorem dksX1_tow_5 : cX1_tow.data.toList.drop 111 = dktX1_tow_5 := dk_seg dksX1_tow_4 23 rfl rfl
theorem dksX1_tow_6 : cX1_tow.data.toList.drop 133 = dktX1_tow_6 := dk_seg dksX1_tow_5 22 rfl rfl
theorem dksX1_tow_7 : cX1_tow.data.toList.drop 157 = dktX1_tow_7 := dk_seg dksX1_tow_6 24 rfl rfl
theorem dksX1_tow_8 : cX1_tow.data.toList.drop 181 = dktX1_tow_8 := dk_seg dksX1_tow_7 24 rfl rfl
theorem dksX1_tow_9 : cX1_tow.data.toList.drop 205 = dktX1_tow_9 := dk_seg dksX1_tow_8 24 rfl rfl
theorem dksX1_tow_10 : cX1_tow.data.toList.drop 229 = dktX1_tow_10 := dk_seg dksX1_tow_9 24 rfl rfl
theorem dksX1_tow_11 : cX1_tow.data.toList.drop 251 = dktX1_tow_11 := dk_seg dksX1_tow_10 22 rfl rfl
theorem dksX1_tow_12 : cX1_tow.data.toList.drop 273 = dktX1_tow_12 := dk_seg dksX1_tow_11 22 rfl rfl
theorem dX1_tow_0 : decode cX1_tow 0 = .ok (.aload_n 0, 1) := dk_42 (dk_at dksX1_tow_0 0 rfl rfl)
theorem dX1_tow_1 : decode cX1_tow 1 = .ok (.aload_n 2, 1) := dk_44 (dk_at dksX1_tow_0 1 rfl rfl)
theorem dX1_tow_2 : decode cX1_tow 2 = .ok (.getfield 141, 3) := dk_180 0 141 (dk_at dksX1_tow_0 2 rfl rfl)
theorem dX1_tow_5 : decode cX1_tow 5 = .ok (.invokevirtual 208, 3) := dk_182 0 208 (dk_at dksX1_tow_0 5 rfl rfl)
theorem dX1_tow_8 : decode cX1_tow 8 = .ok (.istore_n 3, 1) := dk_62 (dk_at dksX1_tow_0 8 rfl rfl)
theorem dX1_tow_9 : decode cX1_tow 9 = .ok (.iload_n 3, 1) := dk_29 (dk_at dksX1_tow_0 9 rfl rfl)
theorem dX1_tow_10 : decode cX1_tow 10 = .ok (.bipush (-5), 2) := dk_16 251 (dk_at dksX1_tow_0 10 rfl rfl)
theorem dX1_tow_12 : decode cX1_tow 12 = .ok (.if_icmp .ne 16, 3) := dk_160 0 16 (dk_at dksX1_tow_0 12 rfl rfl)
theorem dX1_tow_15 : decode cX1_tow 15 = .ok (.aload_n 2, 1) := dk_44 (dk_at dksX1_tow_0 15 rfl rfl)
theorem dX1_tow_16 : decode cX1_tow 16 = .ok (.aload_n 2, 1) := dk_44 (dk_at dksX1_tow_0 16 rfl rfl)
theorem dX1_tow_17 : decode cX1_tow 17 = .ok (.getfield 141, 3) := dk_180 0 141 (dk_at dksX1_tow_0 17 rfl rfl)
theorem dX1_tow_20 : decode cX1_tow 20 = .ok (.invokevirtual 197, 3) := dk_182 0 197 (dk_at dksX1_tow_0 20 rfl rfl)
theorem dX1_tow_23 : decode cX1_tow 23 = .ok (.aload_n 1, 1) := dk_43 (dk_at dksX1_tow_0 23 rfl rfl)
theorem dX1_tow_24 : decode cX1_tow 24 = .ok (.invokevirtual 201, 3) := dk_182 0 201 (dk_at dksX1_tow_1 0 rfl rfl)
theorem dX1_tow_27 : decode cX1_tow 27 = .ok (.return_, 1) := dk_177 (dk_at dksX1_tow_1 3 rfl rfl)
theorem dX1_tow_28 : decode cX1_tow 28 = .ok (.aload_n 0, 1) := dk_42 (dk_at dksX1_tow_1 4 rfl rfl)
theorem dX1_tow_29 : decode cX1_tow 29 = .ok (.getfield 73, 3) := dk_180 0 73 (dk_at dksX1_tow_1 5 rfl rfl)
theorem dX1_tow_32 : decode cX1_tow 32 = .ok (.aload_n 2, 1) := dk_44 (dk_at dksX1_tow_1 8 rfl rfl)
theorem dX1_tow_33 : decode cX1_tow 33 = .ok (.getfield 141, 3) := dk_180 0 141 (dk_at dksX1_tow_1 9 rfl rfl)
theorem dX1_tow_36 : decode cX1_tow 36 = .ok (.aload_n 0, 1) := dk_42 (dk_at dksX1_tow_1 12 rfl rfl)
theorem dX1_tow_37 : decode cX1_tow 37 = .ok (.getfield 21, 3) := dk_180 0 21 (dk_at dksX1_tow_1 13 rfl rfl)
theorem dX1_tow_40 : decode cX1_tow 40 = .ok (.iload_n 3, 1) := dk_29 (dk_at dksX1_tow_1 16 rfl rfl)
theorem dX1_tow_41 : decode cX1_tow 41 = .ok (.invokeinterface 38 2, 5) := by decide +kernel
theorem dX1_tow_46 : decode cX1_tow 46 = .ok (.checkcast 57, 3) := dk_192 0 57 (dk_at dksX1_tow_2 0 rfl rfl)
theorem dX1_tow_49 : decode cX1_tow 49 = .ok (.getfield 204, 3) := dk_180 0 204 (dk_at dksX1_tow_2 3 rfl rfl)
theorem dX1_tow_52 : decode cX1_tow 52 = .ok (.invokevirtual 211, 3) := dk_182 0 211 (dk_at dksX1_tow_2 6 rfl rfl)
theorem dX1_tow_55 : decode cX1_tow 55 = .ok (.astore 4, 2) := dk_58 4 (dk_at dksX1_tow_2 9 rfl rfl)
theorem dX1_tow_57 : decode cX1_tow 57 = .ok (.iconst 0, 1) := dk_3 (dk_at dksX1_tow_2 11 rfl rfl)
theorem dX1_tow_58 : decode cX1_tow 58 = .ok (.istore 5, 2) := dk_54 5 (dk_at dksX1_tow_2 12 rfl rfl)
theorem dX1_tow_60 : decode cX1_tow 60 = .ok (.iload 5, 2) := dk_21 5 (dk_at dksX1_tow_2 14 rfl rfl)
theorem dX1_tow_62 : decode cX1_tow 62 = .ok (.iconst 1, 1) := dk_4 (dk_at dksX1_tow_2 16 rfl rfl)
theorem dX1_tow_63 : decode cX1_tow 63 = .ok (.iadd, 1) := dk_96 (dk_at dksX1_tow_2 17 rfl rfl)
theorem dX1_tow_64 : decode cX1_tow 64 = .ok (.aload 4, 2) := dk_25 4 (dk_at dksX1_tow_2 18 rfl rfl)
theorem dX1_tow_66 : decode cX1_tow 66 = .ok (.invokeinterface 32 1, 5) := by decide +kernel
theorem dX1_tow_71 : decode cX1_tow 71 = .ok (.if_icmp .ge 71, 3) := dk_162 0 71 (dk_at dksX1_tow_3 5 rfl rfl)
theorem dX1_tow_74 : decode cX1_tow 74 = .ok (.iload 5, 2) := dk_21 5 (dk_at dksX1_tow_3 8 rfl rfl)
theorem dX1_tow_76 : decode cX1_tow 76 = .ok (.ifCond .eq 28, 3) := dk_153 0 28 (dk_at dksX1_tow_3 10 rfl rfl)
theorem dX1_tow_79 : decode cX1_tow 79 = .ok (.aload 4, 2) := dk_25 4 (dk_at dksX1_tow_3 13 rfl rfl)
theorem dX1_tow_81 : decode cX1_tow 81 = .ok (.iload 5, 2) := dk_21 5 (dk_at dksX1_tow_3 15 rfl rfl)
theorem dX1_tow_83 : decode cX1_tow 83 = .ok (.invokeinterface 38 2, 5) := by decide +kernel
theorem dX1_tow_88 : decode cX1_tow 88 = .ok (.checkcast 215, 3) := dk_192 0 215 (dk_at dksX1_tow_4 0 rfl rfl)
theorem dX1_tow_91 : decode cX1_tow 91 = .ok (.invokevirtual 217, 3) := dk_182 0 217 (dk_at dksX1_tow_4 3 rfl rfl)
theorem dX1_tow_94 : decode cX1_tow 94 = .ok (.invokestatic 220, 3) := dk_184 0 220 (dk_at dksX1_tow_4 6 rfl rfl)
theorem dX1_tow_97 : decode cX1_tow 97 = .ok (.aload_n 1, 1) := dk_43 (dk_at dksX1_tow_4 9 rfl rfl)
theorem dX1_tow_98 : decode cX1_tow 98 = .ok (.invokevirtual 223, 3) := dk_182 0 223 (dk_at dksX1_tow_4 10 rfl rfl)
theorem dX1_tow_101 : decode cX1_tow 101 = .ok (.if_icmp .ne 41, 3) := dk_160 0 41 (dk_at dksX1_tow_4 13 rfl rfl)
theorem dX1_tow_104 : decode cX1_tow 104 = .ok (.iload 5, 2) := dk_21 5 (dk_at dksX1_tow_4 16 rfl rfl)
theorem dX1_tow_106 : decode cX1_tow 106 = .ok (.ifCond .eq 30, 3) := dk_153 0 30 (dk_at dksX1_tow_4 18 rfl rfl)
theorem dX1_tow_109 : decode cX1_tow 109 = .ok (.aload 4, 2) := dk_25 4 (dk_at dksX1_tow_4 21 rfl rfl)
theorem dX1_tow_111 : decode cX1_tow 111 = .ok (.iload 5, 2) := dk_21 5 (dk_at dksX1_tow_5 0 rfl rfl)
theorem dX1_tow_113 : decode cX1_tow 113 = .ok (.iconst 1, 1) := dk_4 (dk_at dksX1_tow_5 2 rfl rfl)
theorem dX1_tow_114 : decode cX1_tow 114 = .ok (.iadd, 1) := dk_96 (dk_at dksX1_tow_5 3 rfl rfl)
theorem dX1_tow_115 : decode cX1_tow 115 = .ok (.invokeinterface 38 2, 5) := by decide +kernel
theorem dX1_tow_120 : decode cX1_tow 120 = .ok (.checkcast 215, 3) := dk_192 0 215 (dk_at dksX1_tow_5 9 rfl rfl)
theorem dX1_tow_123 : decode cX1_tow 123 = .ok (.invokevirtual 217, 3) := dk_182 0 217 (dk_at dksX1_tow_5 12 rfl rfl)
theorem dX1_tow_126 : decode cX1_tow 126 = .ok (.invokestatic 220, 3) := dk_184 0 220 (dk_at dksX1_tow_5 15 rfl rfl)
theorem dX1_tow_129 : decode cX1_tow 129 = .ok (.aload_n 1, 1) := dk_43 (dk_at dksX1_tow_5 18 rfl rfl)
theorem dX1_tow_130 : decode cX1_tow 130 = .ok (.invokevirtual 223, 3) := dk_182 0 223 (dk_at dksX1_tow_5 19 rfl rfl)
theorem dX1_tow_133 : decode cX1_tow 133 = .ok (.if_icmp .ne 9, 3) := dk_160 0 9 (dk_at dksX1_tow_6 0 rfl rfl)
theorem dX1_tow_136 : decode cX1_tow 136 = .ok (.iinc 5 1, 3) := dk_132 5 1 (dk_at dksX1_tow_6 3 rfl rfl)
theorem dX1_tow_139 : decode cX1_tow 139 = .ok (.goto (-79), 3) := dk_167 255 177 (dk_at dksX1_tow_6 6 rfl rfl)
theorem dX1_tow_142 : decode cX1_tow 142 = .ok (.iconst 0, 1) := dk_3 (dk_at dksX1_tow_6 9 rfl rfl)
theorem dX1_tow_143 : decode cX1_tow 143 = .ok (.istore 6, 2) := dk_54 6 (dk_at dksX1_tow_6 10 rfl rfl)
theorem dX1_tow_145 : decode cX1_tow 145 = .ok (.iconst 0, 1) := dk_3 (dk_at dksX1_tow_6 12 rfl rfl)
theorem dX1_tow_146 : decode cX1_tow 146 = .ok (.istore 7, 2) := dk_54 7 (dk_at dksX1_tow_6 13 rfl rfl)
theorem dX1_tow_148 : decode cX1_tow 148 = .ok (.iload 7, 2) := dk_21 7 (dk_at dksX1_tow_6 15 rfl rfl)
theorem dX1_tow_150 : decode cX1_tow 150 = .ok (.iload 5, 2) := dk_21 5 (dk_at dksX1_tow_6 17 rfl rfl)
theorem dX1_tow_152 : decode cX1_tow 152 = .ok (.if_icmp .ge 53, 3) := dk_162 0 53 (dk_at dksX1_tow_6 19 rfl rfl)
theorem dX1_tow_155 : decode cX1_tow 155 = .ok (.iload 6, 2) := dk_21 6 (dk_at dksX1_tow_6 22 rfl rfl)
theorem dX1_tow_157 : decode cX1_tow 157 = .ok (.aload_n 0, 1) := dk_42 (dk_at dksX1_tow_7 0 rfl rfl)
theorem dX1_tow_158 : decode cX1_tow 158 = .ok (.getfield 73, 3) := dk_180 0 73 (dk_at dksX1_tow_7 1 rfl rfl)
theorem dX1_tow_161 : decode cX1_tow 161 = .ok (.aload 4, 2) := dk_25 4 (dk_at dksX1_tow_7 4 rfl rfl)
theorem dX1_tow_163 : decode cX1_tow 163 = .ok (.iload 7, 2) := dk_21 7 (dk_at dksX1_tow_7 6 rfl rfl)
theorem dX1_tow_165 : decode cX1_tow 165 = .ok (.invokeinterface 38 2, 5) := by decide +kernel
theorem dX1_tow_170 : decode cX1_tow 170 = .ok (.checkcast 215, 3) := dk_192 0 215 (dk_at dksX1_tow_7 13 rfl rfl)
theorem dX1_tow_173 : decode cX1_tow 173 = .ok (.invokevirtual 217, 3) := dk_182 0 217 (dk_at dksX1_tow_7 16 rfl rfl)
theorem dX1_tow_176 : decode cX1_tow 176 = .ok (.aload 4, 2) := dk_25 4 (dk_at dksX1_tow_7 19 rfl rfl)
theorem dX1_tow_178 : decode cX1_tow 178 = .ok (.iload 7, 2) := dk_21 7 (dk_at dksX1_tow_7 21 rfl rfl)
theorem dX1_tow_180 : decode cX1_tow 180 = .ok (.iconst 1, 1) := dk_4 (dk_at dksX1_tow_7 23 rfl rfl)
theorem dX1_tow_181 : decode cX1_tow 181 = .ok (.iadd, 1) := dk_96 (dk_at dksX1_tow_8 0 rfl rfl)
theorem dX1_tow_182 : decode cX1_tow 182 = .ok (.invokeinterface 38 2, 5) := by decide +kernel
theorem dX1_tow_187 : decode cX1_tow 187 = .ok (.checkcast 215, 3) := dk_192 0 215 (dk_at dksX1_tow_8 6 rfl rfl)
theorem dX1_tow_190 : decode cX1_tow 190 = .ok (.invokevirtual 217, 3) := dk_182 0 217 (dk_at dksX1_tow_8 9 rfl rfl)
theorem dX1_tow_193 : decode cX1_tow 193 = .ok (.invokevirtual 226, 3) := dk_182 0 226 (dk_at dksX1_tow_8 12 rfl rfl)
theorem dX1_tow_196 : decode cX1_tow 196 = .ok (.iadd, 1) := dk_96 (dk_at dksX1_tow_8 15 rfl rfl)
theorem dX1_tow_197 : decode cX1_tow 197 = .ok (.istore 6, 2) := dk_54 6 (dk_at dksX1_tow_8 16 rfl rfl)
theorem dX1_tow_199 : decode cX1_tow 199 = .ok (.iinc 7 1, 3) := dk_132 7 1 (dk_at dksX1_tow_8 18 rfl rfl)
theorem dX1_tow_202 : decode cX1_tow 202 = .ok (.goto (-54), 3) := dk_167 255 202 (dk_at dksX1_tow_8 21 rfl rfl)
theorem dX1_tow_205 : decode cX1_tow 205 = .ok (.aload_n 2, 1) := dk_44 (dk_at dksX1_tow_9 0 rfl rfl)
theorem dX1_tow_206 : decode cX1_tow 206 = .ok (.iconst 4, 1) := dk_7 (dk_at dksX1_tow_9 1 rfl rfl)
theorem dX1_tow_207 : decode cX1_tow 207 = .ok (.putfield 142, 3) := dk_181 0 142 (dk_at dksX1_tow_9 2 rfl rfl)
theorem dX1_tow_210 : decode cX1_tow 210 = .ok (.aload_n 2, 1) := dk_44 (dk_at dksX1_tow_9 5 rfl rfl)
theorem dX1_tow_211 : decode cX1_tow 211 = .ok (.aload_n 1, 1) := dk_43 (dk_at dksX1_tow_9 6 rfl rfl)
theorem dX1_tow_212 : decode cX1_tow 212 = .ok (.getfield 161, 3) := dk_180 0 161 (dk_at dksX1_tow_9 7 rfl rfl)
theorem dX1_tow_215 : decode cX1_tow 215 = .ok (.putfield 162, 3) := dk_181 0 162 (dk_at dksX1_tow_9 10 rfl rfl)
theorem dX1_tow_218 : decode cX1_tow 218 = .ok (.aload_n 1, 1) := dk_43 (dk_at dksX1_tow_9 13 rfl rfl)
theorem dX1_tow_219 : decode cX1_tow 219 = .ok (.iconst 3, 1) := dk_6 (dk_at dksX1_tow_9 14 rfl rfl)
theorem dX1_tow_220 : decode cX1_tow 220 = .ok (.aload_n 2, 1) := dk_44 (dk_at dksX1_tow_9 15 rfl rfl)
theorem dX1_tow_221 : decode cX1_tow 221 = .ok (.getfield 110, 3) := dk_180 0 110 (dk_at dksX1_tow_9 16 rfl rfl)
theorem dX1_tow_224 : decode cX1_tow 224 = .ok (.iconst 1, 1) := dk_4 (dk_at dksX1_tow_9 19 rfl rfl)
theorem dX1_tow_225 : decode cX1_tow 225 = .ok (.iconst 2, 1) := dk_5 (dk_at dksX1_tow_9 20 rfl rfl)
theorem dX1_tow_226 : decode cX1_tow 226 = .ok (.iload 6, 2) := dk_21 6 (dk_at dksX1_tow_9 21 rfl rfl)
theorem dX1_tow_228 : decode cX1_tow 228 = .ok (.imul, 1) := dk_104 (dk_at dksX1_tow_9 23 rfl rfl)
theorem dX1_tow_229 : decode cX1_tow 229 = .ok (.invokestatic 229, 3) := dk_184 0 229 (dk_at dksX1_tow_10 0 rfl rfl)
theorem dX1_tow_232 : decode cX1_tow 232 = .ok (.invokevirtual 157, 3) := dk_182 0 157 (dk_at dksX1_tow_10 3 rfl rfl)
theorem dX1_tow_235 : decode cX1_tow 235 = .ok (.aload_n 1, 1) := dk_43 (dk_at dksX1_tow_10 6 rfl rfl)
theorem dX1_tow_236 : decode cX1_tow 236 = .ok (.aload 4, 2) := dk_25 4 (dk_at dksX1_tow_10 7 rfl rfl)
theorem dX1_tow_238 : decode cX1_tow 238 = .ok (.iload 5, 2) := dk_21 5 (dk_at dksX1_tow_10 9 rfl rfl)
theorem dX1_tow_240 : decode cX1_tow 240 = .ok (.invokeinterface 38 2, 5) := by decide +kernel
theorem dX1_tow_245 : decode cX1_tow 245 = .ok (.checkcast 215, 3) := dk_192 0 215 (dk_at dksX1_tow_10 16 rfl rfl)
theorem dX1_tow_248 : decode cX1_tow 248 = .ok (.invokevirtual 217, 3) := dk_182 0 217 (dk_at dksX1_tow_10 19 rfl rfl)
theorem dX1_tow_251 : decode cX1_tow 251 = .ok (.putfield 234, 3) := dk_181 0 234 (dk_at dksX1_tow_11 0 rfl rfl)
theorem dX1_tow_254 : decode cX1_tow 254 = .ok (.aload_n 1, 1) := dk_43 (dk_at dksX1_tow_11 3 rfl rfl)
theorem dX1_tow_255 : decode cX1_tow 255 = .ok (.iload_n 3, 1) := dk_29 (dk_at dksX1_tow_11 4 rfl rfl)
theorem dX1_tow_256 : decode cX1_tow 256 = .ok (.putfield 237, 3) := dk_181 0 237 (dk_at dksX1_tow_11 5 rfl rfl)
theorem dX1_tow_259 : decode cX1_tow 259 = .ok (.aload_n 0, 1) := dk_42 (dk_at dksX1_tow_11 8 rfl rfl)
theorem dX1_tow_260 : decode cX1_tow 260 = .ok (.getfield 21, 3) := dk_180 0 21 (dk_at dksX1_tow_11 9 rfl rfl)
theorem dX1_tow_263 : decode cX1_tow 263 = .ok (.iload_n 3, 1) := dk_29 (dk_at dksX1_tow_11 12 rfl rfl)
theorem dX1_tow_264 : decode cX1_tow 264 = .ok (.invokeinterface 38 2, 5) := by decide +kernel
theorem dX1_tow_269 : decode cX1_tow 269 = .ok (.checkcast 57, 3) := dk_192 0 57 (dk_at dksX1_tow_11 18 rfl rfl)
theorem dX1_tow_272 : decode cX1_tow 272 = .ok (.dup, 1) := dk_89 (dk_at dksX1_tow_11 21 rfl rfl)
theorem dX1_tow_273 : decode cX1_tow 273 = .ok (.getfield 240, 3) := dk_180 0 240 (dk_at dksX1_tow_12 0 rfl rfl)
theorem dX1_tow_276 : decode cX1_tow 276 = .ok (.iconst 1, 1) := dk_4 (dk_at dksX1_tow_12 3 rfl rfl)
theorem dX1_tow_277 : decode cX1_tow 277 = .ok (.iadd, 1) := dk_96 (dk_at dksX1_tow_12 4 rfl rfl)
theorem dX1_tow_278 : decode cX1_tow 278 = .ok (.putfield 240, 3) := dk_181 0 240 (dk_at dksX1_tow_12 5 rfl rfl)
theorem dX1_tow_281 : decode cX1_tow 281 = .ok (.return_, 1) := dk_177 (dk_at dksX1_tow_12 8 rfl rfl)
abbrev cX1_garageFor : ByteArray := prog_13_method_12_code
def yX1_garageFor : MethodName := ⟨RX1, "garageFor", "(I)I"⟩
def dkwX1_garageFor_4 : List UInt8 := [182, 0, 129, 162, 0, 5, 29, 61, 132, 3, 1, 167, 255, 157, 28, 172]
abbrev dktX1_garageFor_4 : List UInt8 := dkwX1_garageFor_4 ++ []
def dkwX1_garageFor_3 : List UInt8 := [159, 0, 29, 21, 4, 42, 27, 42, 180, 0, 21, 28, 185, 0, 38, 2, 0, 192, 0, 57, 180, 0, 204]
abbrev dktX1_garageFor_3 : List UInt8 := dkwX1_garageFor_3 ++ dktX1_garageFor_4
def dkwX1_garageFor_2 : List UInt8 := [185, 0, 38, 2, 0, 192, 0, 57, 182, 0, 205, 153, 0, 44, 21, 4, 16, 251, 159, 0, 37, 28, 16, 251]
abbrev dktX1_garageFor_2 : List UInt8 := dkwX1_garageFor_2 ++ dktX1_garageFor_3
def dkwX1_garageFor_1 : List UInt8 := [29, 185, 0, 38, 2, 0, 192, 0, 57, 180, 0, 204, 182, 0, 129, 54, 4, 42, 180, 0, 21, 29]
abbrev dktX1_garageFor_1 : List UInt8 := dkwX1_garageFor_1 ++ dktX1_garageFor_2
def dkwX1_garageFor_0 : List UInt8 := [16, 251, 61, 3, 62, 29, 42, 180, 0, 21, 185, 0, 32, 1, 0, 162, 0, 92, 42, 27, 42, 180, 0, 21]
abbrev dktX1_garageFor_0 : List UInt8 := dkwX1_garageFor_0 ++ dktX1_garageFor_1
theorem dksX1_garageFor_0 : cX1_garageFor.data.toList.drop 0 = dktX1_garageFor_0 := by decide +kernel
theorem dksX1_garageFor_1 : cX1_garageFor.data.toList.drop 24 = dktX1_garageFor_1 := dk_seg dksX1_garageFor_0 24 rfl rfl
theorem dksX1_garageFor_2 : cX1_garageFor.data.toList.drop 46 = dktX1_garageFor_2 := dk_seg dksX1_garageFor_1 22 rfl rfl
theorem dksX1_garageFor_3 : cX1_garageFor.data.toList.drop 70 = dktX1_garageFor_3 := dk_seg dksX1_garageFor_2 24 rfl rfl
theorem dksX1_garageFor_4 : cX1_garageFor.data.toList.drop 93 = dktX1_garageFor_4 := dk_seg dksX1_garageFor_3 23 rfl rfl
theorem dX1_garageFor_0 : decode cX1_garageFor 0 = .ok (.bipush (-5), 2) := dk_16 251 (dk_at dksX1_garageFor_0 0 rfl rfl)
theorem dX1_garageFor_2 : decode cX1_garageFor 2 = .ok (.istore_n 2, 1) := dk_61 (dk_at dksX1_garageFor_0 2 rfl rfl)
theorem dX1_garageFor_3 : decode cX1_garageFor 3 = .ok (.iconst 0, 1) := dk_3 (dk_at dksX1_garageFor_0 3 rfl rfl)
theorem dX1_garageFor_4 : decode cX1_garageFor 4 = .ok (.istore_n 3, 1) := dk_62 (dk_at dksX1_garageFor_0 4 rfl rfl)
theorem dX1_garageFor_5 : decode cX1_garageFor 5 = .ok (.iload_n 3, 1) := dk_29 (dk_at dksX1_garageFor_0 5 rfl rfl)
theorem dX1_garageFor_6 : decode cX1_garageFor 6 = .ok (.aload_n 0, 1) := dk_42 (dk_at dksX1_garageFor_0 6 rfl rfl)
theorem dX1_garageFor_7 : decode cX1_garageFor 7 = .ok (.getfield 21, 3) := dk_180 0 21 (dk_at dksX1_garageFor_0 7 rfl rfl)
theorem dX1_garageFor_10 : decode cX1_garageFor 10 = .ok (.invokeinterface 32 1, 5) := by decide +kernel
theorem dX1_garageFor_15 : decode cX1_garageFor 15 = .ok (.if_icmp .ge 92, 3) := dk_162 0 92 (dk_at dksX1_garageFor_0 15 rfl rfl)
theorem dX1_garageFor_18 : decode cX1_garageFor 18 = .ok (.aload_n 0, 1) := dk_42 (dk_at dksX1_garageFor_0 18 rfl rfl)
theorem dX1_garageFor_19 : decode cX1_garageFor 19 = .ok (.iload_n 1, 1) := dk_27 (dk_at dksX1_garageFor_0 19 rfl rfl)
theorem dX1_garageFor_20 : decode cX1_garageFor 20 = .ok (.aload_n 0, 1) := dk_42 (dk_at dksX1_garageFor_0 20 rfl rfl)
theorem dX1_garageFor_21 : decode cX1_garageFor 21 = .ok (.getfield 21, 3) := dk_180 0 21 (dk_at dksX1_garageFor_0 21 rfl rfl)
theorem dX1_garageFor_24 : decode cX1_garageFor 24 = .ok (.iload_n 3, 1) := dk_29 (dk_at dksX1_garageFor_1 0 rfl rfl)
theorem dX1_garageFor_25 : decode cX1_garageFor 25 = .ok (.invokeinterface 38 2, 5) := by decide +kernel
theorem dX1_garageFor_30 : decode cX1_garageFor 30 = .ok (.checkcast 57, 3) := dk_192 0 57 (dk_at dksX1_garageFor_1 6 rfl rfl)
theorem dX1_garageFor_33 : decode cX1_garageFor 33 = .ok (.getfield 204, 3) := dk_180 0 204 (dk_at dksX1_garageFor_1 9 rfl rfl)
theorem dX1_garageFor_36 : decode cX1_garageFor 36 = .ok (.invokevirtual 129, 3) := dk_182 0 129 (dk_at dksX1_garageFor_1 12 rfl rfl)
theorem dX1_garageFor_39 : decode cX1_garageFor 39 = .ok (.istore 4, 2) := dk_54 4 (dk_at dksX1_garageFor_1 15 rfl rfl)
theorem dX1_garageFor_41 : decode cX1_garageFor 41 = .ok (.aload_n 0, 1) := dk_42 (dk_at dksX1_garageFor_1 17 rfl rfl)
theorem dX1_garageFor_42 : decode cX1_garageFor 42 = .ok (.getfield 21, 3) := dk_180 0 21 (dk_at dksX1_garageFor_1 18 rfl rfl)
theorem dX1_garageFor_45 : decode cX1_garageFor 45 = .ok (.iload_n 3, 1) := dk_29 (dk_at dksX1_garageFor_1 21 rfl rfl)
theorem dX1_garageFor_46 : decode cX1_garageFor 46 = .ok (.invokeinterface 38 2, 5) := by decide +kernel
theorem dX1_garageFor_51 : decode cX1_garageFor 51 = .ok (.checkcast 57, 3) := dk_192 0 57 (dk_at dksX1_garageFor_2 5 rfl rfl)
theorem dX1_garageFor_54 : decode cX1_garageFor 54 = .ok (.invokevirtual 205, 3) := dk_182 0 205 (dk_at dksX1_garageFor_2 8 rfl rfl)
theorem dX1_garageFor_57 : decode cX1_garageFor 57 = .ok (.ifCond .eq 44, 3) := dk_153 0 44 (dk_at dksX1_garageFor_2 11 rfl rfl)
theorem dX1_garageFor_60 : decode cX1_garageFor 60 = .ok (.iload 4, 2) := dk_21 4 (dk_at dksX1_garageFor_2 14 rfl rfl)
theorem dX1_garageFor_62 : decode cX1_garageFor 62 = .ok (.bipush (-5), 2) := dk_16 251 (dk_at dksX1_garageFor_2 16 rfl rfl)
theorem dX1_garageFor_64 : decode cX1_garageFor 64 = .ok (.if_icmp .eq 37, 3) := dk_159 0 37 (dk_at dksX1_garageFor_2 18 rfl rfl)
theorem dX1_garageFor_67 : decode cX1_garageFor 67 = .ok (.iload_n 2, 1) := dk_28 (dk_at dksX1_garageFor_2 21 rfl rfl)
theorem dX1_garageFor_68 : decode cX1_garageFor 68 = .ok (.bipush (-5), 2) := dk_16 251 (dk_at dksX1_garageFor_2 22 rfl rfl)
theorem dX1_garageFor_70 : decode cX1_garageFor 70 = .ok (.if_icmp .eq 29, 3) := dk_159 0 29 (dk_at dksX1_garageFor_3 0 rfl rfl)
theorem dX1_garageFor_73 : decode cX1_garageFor 73 = .ok (.iload 4, 2) := dk_21 4 (dk_at dksX1_garageFor_3 3 rfl rfl)
theorem dX1_garageFor_75 : decode cX1_garageFor 75 = .ok (.aload_n 0, 1) := dk_42 (dk_at dksX1_garageFor_3 5 rfl rfl)
theorem dX1_garageFor_76 : decode cX1_garageFor 76 = .ok (.iload_n 1, 1) := dk_27 (dk_at dksX1_garageFor_3 6 rfl rfl)
theorem dX1_garageFor_77 : decode cX1_garageFor 77 = .ok (.aload_n 0, 1) := dk_42 (dk_at dksX1_garageFor_3 7 rfl rfl)
theorem dX1_garageFor_78 : decode cX1_garageFor 78 = .ok (.getfield 21, 3) := dk_180 0 21 (dk_at dksX1_garageFor_3 8 rfl rfl)
theorem dX1_garageFor_81 : decode cX1_garageFor 81 = .ok (.iload_n 2, 1) := dk_28 (dk_at dksX1_garageFor_3 11 rfl rfl)
theorem dX1_garageFor_82 : decode cX1_garageFor 82 = .ok (.invokeinterface 38 2, 5) := by decide +kernel
theorem dX1_garageFor_87 : decode cX1_garageFor 87 = .ok (.checkcast 57, 3) := dk_192 0 57 (dk_at dksX1_garageFor_3 17 rfl rfl)
theorem dX1_garageFor_90 : decode cX1_garageFor 90 = .ok (.getfield 204, 3) := dk_180 0 204 (dk_at dksX1_garageFor_3 20 rfl rfl)
theorem dX1_garageFor_93 : decode cX1_garageFor 93 = .ok (.invokevirtual 129, 3) := dk_182 0 129 (dk_at dksX1_garageFor_4 0 rfl rfl)
theorem dX1_garageFor_96 : decode cX1_garageFor 96 = .ok (.if_icmp .ge 5, 3) := dk_162 0 5 (dk_at dksX1_garageFor_4 3 rfl rfl)
theorem dX1_garageFor_99 : decode cX1_garageFor 99 = .ok (.iload_n 3, 1) := dk_29 (dk_at dksX1_garageFor_4 6 rfl rfl)
theorem dX1_garageFor_100 : decode cX1_garageFor 100 = .ok (.istore_n 2, 1) := dk_61 (dk_at dksX1_garageFor_4 7 rfl rfl)
theorem dX1_garageFor_101 : decode cX1_garageFor 101 = .ok (.iinc 3 1, 3) := dk_132 3 1 (dk_at dksX1_garageFor_4 8 rfl rfl)
theorem dX1_garageFor_104 : decode cX1_garageFor 104 = .ok (.goto (-99), 3) := dk_167 255 157 (dk_at dksX1_garageFor_4 11 rfl rfl)
theorem dX1_garageFor_107 : decode cX1_garageFor 107 = .ok (.iload_n 2, 1) := dk_28 (dk_at dksX1_garageFor_4 14 rfl rfl)
theorem dX1_garageFor_108 : decode cX1_garageFor 108 = .ok (.ireturn, 1) := dk_172 (dk_at dksX1_garageFor_4 15 rfl rfl)
abbrev cX1_endRepair : ByteArray := prog_13_method_15_code
def yX1_endRepair : MethodName := ⟨RX1, "endRepair", "(LPatrolDesk$Patrol;LPatrolDesk$Call;)I"⟩
def dkwX1_endRepair_3 : List UInt8 := [182, 0, 201, 4, 172]
abbrev dktX1_endRepair_3 : List UInt8 := dkwX1_endRepair_3 ++ []
def dkwX1_endRepair_2 : List UInt8 := [181, 1, 15, 43, 89, 180, 1, 18, 4, 96, 181, 1, 18, 44, 8, 42, 180, 0, 81, 182, 0, 253, 43]
abbrev dktX1_endRepair_2 : List UInt8 := dkwX1_endRepair_2 ++ dktX1_endRepair_3
def dkwX1_endRepair_1 : List UInt8 := [180, 1, 4, 182, 1, 8, 96, 181, 1, 1, 45, 43, 180, 0, 161, 181, 1, 12, 45, 42, 180, 0, 81]
abbrev dktX1_endRepair_1 : List UInt8 := dkwX1_endRepair_1 ++ dktX1_endRepair_2
def dkwX1_endRepair_0 : List UInt8 := [42, 180, 0, 12, 44, 180, 0, 96, 185, 0, 38, 2, 0, 192, 0, 42, 78, 45, 89, 180, 1, 1, 45, 44]
abbrev dktX1_endRepair_0 : List UInt8 := dkwX1_endRepair_0 ++ dktX1_endRepair_1
theorem dksX1_endRepair_0 : cX1_endRepair.data.toList.drop 0 = dktX1_endRepair_0 := by decide +kernel
theorem dksX1_endRepair_1 : cX1_endRepair.data.toList.drop 24 = dktX1_endRepair_1 := dk_seg dksX1_endRepair_0 24 rfl rfl
theorem dksX1_endRepair_2 : cX1_endRepair.data.toList.drop 47 = dktX1_endRepair_2 := dk_seg dksX1_endRepair_1 23 rfl rfl
theorem dksX1_endRepair_3 : cX1_endRepair.data.toList.drop 70 = dktX1_endRepair_3 := dk_seg dksX1_endRepair_2 23 rfl rfl
theorem dX1_endRepair_0 : decode cX1_endRepair 0 = .ok (.aload_n 0, 1) := dk_42 (dk_at dksX1_endRepair_0 0 rfl rfl)
theorem dX1_endRepair_1 : decode cX1_endRepair 1 = .ok (.getfield 12, 3) := dk_180 0 12 (dk_at dksX1_endRepair_0 1 rfl rfl)
theorem dX1_endRepair_4 : decode cX1_endRepair 4 = .ok (.aload_n 2, 1) := dk_44 (dk_at dksX1_endRepair_0 4 rfl rfl)
theorem dX1_endRepair_5 : decode cX1_endRepair 5 = .ok (.getfield 96, 3) := dk_180 0 96 (dk_at dksX1_endRepair_0 5 rfl rfl)
theorem dX1_endRepair_8 : decode cX1_endRepair 8 = .ok (.invokeinterface 38 2, 5) := by decide +kernel
theorem dX1_endRepair_13 : decode cX1_endRepair 13 = .ok (.checkcast 42, 3) := dk_192 0 42 (dk_at dksX1_endRepair_0 13 rfl rfl)
theorem dX1_endRepair_16 : decode cX1_endRepair 16 = .ok (.astore_n 3, 1) := dk_78 (dk_at dksX1_endRepair_0 16 rfl rfl)
theorem dX1_endRepair_17 : decode cX1_endRepair 17 = .ok (.aload_n 3, 1) := dk_45 (dk_at dksX1_endRepair_0 17 rfl rfl)
theorem dX1_endRepair_18 : decode cX1_endRepair 18 = .ok (.dup, 1) := dk_89 (dk_at dksX1_endRepair_0 18 rfl rfl)
theorem dX1_endRepair_19 : decode cX1_endRepair 19 = .ok (.getfield 257, 3) := dk_180 1 1 (dk_at dksX1_endRepair_0 19 rfl rfl)
theorem dX1_endRepair_22 : decode cX1_endRepair 22 = .ok (.aload_n 3, 1) := dk_45 (dk_at dksX1_endRepair_0 22 rfl rfl)
theorem dX1_endRepair_23 : decode cX1_endRepair 23 = .ok (.aload_n 2, 1) := dk_44 (dk_at dksX1_endRepair_0 23 rfl rfl)
theorem dX1_endRepair_24 : decode cX1_endRepair 24 = .ok (.getfield 260, 3) := dk_180 1 4 (dk_at dksX1_endRepair_1 0 rfl rfl)
theorem dX1_endRepair_27 : decode cX1_endRepair 27 = .ok (.invokevirtual 264, 3) := dk_182 1 8 (dk_at dksX1_endRepair_1 3 rfl rfl)
theorem dX1_endRepair_30 : decode cX1_endRepair 30 = .ok (.iadd, 1) := dk_96 (dk_at dksX1_endRepair_1 6 rfl rfl)
theorem dX1_endRepair_31 : decode cX1_endRepair 31 = .ok (.putfield 257, 3) := dk_181 1 1 (dk_at dksX1_endRepair_1 7 rfl rfl)
theorem dX1_endRepair_34 : decode cX1_endRepair 34 = .ok (.aload_n 3, 1) := dk_45 (dk_at dksX1_endRepair_1 10 rfl rfl)
theorem dX1_endRepair_35 : decode cX1_endRepair 35 = .ok (.aload_n 1, 1) := dk_43 (dk_at dksX1_endRepair_1 11 rfl rfl)
theorem dX1_endRepair_36 : decode cX1_endRepair 36 = .ok (.getfield 161, 3) := dk_180 0 161 (dk_at dksX1_endRepair_1 12 rfl rfl)
theorem dX1_endRepair_39 : decode cX1_endRepair 39 = .ok (.putfield 268, 3) := dk_181 1 12 (dk_at dksX1_endRepair_1 15 rfl rfl)
theorem dX1_endRepair_42 : decode cX1_endRepair 42 = .ok (.aload_n 3, 1) := dk_45 (dk_at dksX1_endRepair_1 18 rfl rfl)
theorem dX1_endRepair_43 : decode cX1_endRepair 43 = .ok (.aload_n 0, 1) := dk_42 (dk_at dksX1_endRepair_1 19 rfl rfl)
theorem dX1_endRepair_44 : decode cX1_endRepair 44 = .ok (.getfield 81, 3) := dk_180 0 81 (dk_at dksX1_endRepair_1 20 rfl rfl)
theorem dX1_endRepair_47 : decode cX1_endRepair 47 = .ok (.putfield 271, 3) := dk_181 1 15 (dk_at dksX1_endRepair_2 0 rfl rfl)
theorem dX1_endRepair_50 : decode cX1_endRepair 50 = .ok (.aload_n 1, 1) := dk_43 (dk_at dksX1_endRepair_2 3 rfl rfl)
theorem dX1_endRepair_51 : decode cX1_endRepair 51 = .ok (.dup, 1) := dk_89 (dk_at dksX1_endRepair_2 4 rfl rfl)
theorem dX1_endRepair_52 : decode cX1_endRepair 52 = .ok (.getfield 274, 3) := dk_180 1 18 (dk_at dksX1_endRepair_2 5 rfl rfl)
theorem dX1_endRepair_55 : decode cX1_endRepair 55 = .ok (.iconst 1, 1) := dk_4 (dk_at dksX1_endRepair_2 8 rfl rfl)
theorem dX1_endRepair_56 : decode cX1_endRepair 56 = .ok (.iadd, 1) := dk_96 (dk_at dksX1_endRepair_2 9 rfl rfl)
theorem dX1_endRepair_57 : decode cX1_endRepair 57 = .ok (.putfield 274, 3) := dk_181 1 18 (dk_at dksX1_endRepair_2 10 rfl rfl)
theorem dX1_endRepair_60 : decode cX1_endRepair 60 = .ok (.aload_n 2, 1) := dk_44 (dk_at dksX1_endRepair_2 13 rfl rfl)
theorem dX1_endRepair_61 : decode cX1_endRepair 61 = .ok (.iconst 5, 1) := dk_8 (dk_at dksX1_endRepair_2 14 rfl rfl)
theorem dX1_endRepair_62 : decode cX1_endRepair 62 = .ok (.aload_n 0, 1) := dk_42 (dk_at dksX1_endRepair_2 15 rfl rfl)
theorem dX1_endRepair_63 : decode cX1_endRepair 63 = .ok (.getfield 81, 3) := dk_180 0 81 (dk_at dksX1_endRepair_2 16 rfl rfl)
theorem dX1_endRepair_66 : decode cX1_endRepair 66 = .ok (.invokevirtual 253, 3) := dk_182 0 253 (dk_at dksX1_endRepair_2 19 rfl rfl)
theorem dX1_endRepair_69 : decode cX1_endRepair 69 = .ok (.aload_n 1, 1) := dk_43 (dk_at dksX1_endRepair_2 22 rfl rfl)
theorem dX1_endRepair_70 : decode cX1_endRepair 70 = .ok (.invokevirtual 201, 3) := dk_182 0 201 (dk_at dksX1_endRepair_3 0 rfl rfl)
theorem dX1_endRepair_73 : decode cX1_endRepair 73 = .ok (.iconst 1, 1) := dk_4 (dk_at dksX1_endRepair_3 3 rfl rfl)
theorem dX1_endRepair_74 : decode cX1_endRepair 74 = .ok (.ireturn, 1) := dk_172 (dk_at dksX1_endRepair_3 4 rfl rfl)
abbrev cX1_endTow : ByteArray := prog_13_method_14_code
def yX1_endTow : MethodName := ⟨RX1, "endTow", "(LPatrolDesk$Patrol;LPatrolDesk$Call;)I"⟩
def dkwX1_endTow_5 : List UInt8 := [44, 43, 180, 0, 126, 182, 0, 197, 43, 182, 0, 201, 21, 4, 153, 0, 7, 4, 167, 0, 4, 3, 172]
abbrev dktX1_endTow_5 : List UInt8 := dkwX1_endTow_5 ++ []
def dkwX1_endTow_4 : List UInt8 := [181, 0, 141, 44, 43, 180, 0, 237, 181, 0, 252, 44, 16, 6, 42, 180, 0, 81, 182, 0, 253, 167, 0, 11]
abbrev dktX1_endTow_4 : List UInt8 := dkwX1_endTow_4 ++ dktX1_endTow_5
def dkwX1_endTow_3 : List UInt8 := [180, 0, 246, 4, 96, 181, 0, 246, 45, 89, 180, 0, 249, 4, 96, 181, 0, 249, 44, 43, 180, 0, 126]
abbrev dktX1_endTow_3 : List UInt8 := dkwX1_endTow_3 ++ dktX1_endTow_4
def dkwX1_endTow_2 : List UInt8 := [180, 0, 204, 43, 180, 0, 126, 160, 0, 7, 4, 167, 0, 4, 3, 54, 4, 21, 4, 153, 0, 52, 45, 89]
abbrev dktX1_endTow_2 : List UInt8 := dkwX1_endTow_2 ++ dktX1_endTow_3
def dkwX1_endTow_1 : List UInt8 := [181, 0, 126, 45, 89, 180, 0, 240, 4, 100, 181, 0, 240, 43, 89, 180, 0, 243, 4, 96, 181, 0, 243, 45]
abbrev dktX1_endTow_1 : List UInt8 := dkwX1_endTow_1 ++ dktX1_endTow_2
def dkwX1_endTow_0 : List UInt8 := [42, 180, 0, 21, 43, 180, 0, 237, 185, 0, 38, 2, 0, 192, 0, 57, 78, 43, 43, 180, 0, 234]
abbrev dktX1_endTow_0 : List UInt8 := dkwX1_endTow_0 ++ dktX1_endTow_1
theorem dksX1_endTow_0 : cX1_endTow.data.toList.drop 0 = dktX1_endTow_0 := by decide +kernel
theorem dksX1_endTow_1 : cX1_endTow.data.toList.drop 22 = dktX1_endTow_1 := dk_seg dksX1_endTow_0 22 rfl rfl
theorem dksX1_endTow_2 : cX1_endTow.data.toList.drop 46 = dktX1_endTow_2 := dk_seg dksX1_endTow_1 24 rfl rfl
theorem dksX1_endTow_3 : cX1_endTow.data.toList.drop 70 = dktX1_endTow_3 := dk_seg dksX1_endTow_2 24 rfl rfl
theorem dksX1_endTow_4 : cX1_endTow.data.toList.drop 93 = dktX1_endTow_4 := dk_seg dksX1_endTow_3 23 rfl rfl
theorem dksX1_endTow_5 : cX1_endTow.data.toList.drop 117 = dktX1_endTow_5 := dk_seg dksX1_endTow_4 24 rfl rfl
theorem dX1_endTow_0 : decode cX1_endTow 0 = .ok (.aload_n 0, 1) := dk_42 (dk_at dksX1_endTow_0 0 rfl rfl)
theorem dX1_endTow_1 : decode cX1_endTow 1 = .ok (.getfield 21, 3) := dk_180 0 21 (dk_at dksX1_endTow_0 1 rfl rfl)
theorem dX1_endTow_4 : decode cX1_endTow 4 = .ok (.aload_n 1, 1) := dk_43 (dk_at dksX1_endTow_0 4 rfl rfl)
theorem dX1_endTow_5 : decode cX1_endTow 5 = .ok (.getfield 237, 3) := dk_180 0 237 (dk_at dksX1_endTow_0 5 rfl rfl)
theorem dX1_endTow_8 : decode cX1_endTow 8 = .ok (.invokeinterface 38 2, 5) := by decide +kernel
theorem dX1_endTow_13 : decode cX1_endTow 13 = .ok (.checkcast 57, 3) := dk_192 0 57 (dk_at dksX1_endTow_0 13 rfl rfl)
theorem dX1_endTow_16 : decode cX1_endTow 16 = .ok (.astore_n 3, 1) := dk_78 (dk_at dksX1_endTow_0 16 rfl rfl)
theorem dX1_endTow_17 : decode cX1_endTow 17 = .ok (.aload_n 1, 1) := dk_43 (dk_at dksX1_endTow_0 17 rfl rfl)
theorem dX1_endTow_18 : decode cX1_endTow 18 = .ok (.aload_n 1, 1) := dk_43 (dk_at dksX1_endTow_0 18 rfl rfl)
theorem dX1_endTow_19 : decode cX1_endTow 19 = .ok (.getfield 234, 3) := dk_180 0 234 (dk_at dksX1_endTow_0 19 rfl rfl)
theorem dX1_endTow_22 : decode cX1_endTow 22 = .ok (.putfield 126, 3) := dk_181 0 126 (dk_at dksX1_endTow_1 0 rfl rfl)
theorem dX1_endTow_25 : decode cX1_endTow 25 = .ok (.aload_n 3, 1) := dk_45 (dk_at dksX1_endTow_1 3 rfl rfl)
theorem dX1_endTow_26 : decode cX1_endTow 26 = .ok (.dup, 1) := dk_89 (dk_at dksX1_endTow_1 4 rfl rfl)
theorem dX1_endTow_27 : decode cX1_endTow 27 = .ok (.getfield 240, 3) := dk_180 0 240 (dk_at dksX1_endTow_1 5 rfl rfl)
theorem dX1_endTow_30 : decode cX1_endTow 30 = .ok (.iconst 1, 1) := dk_4 (dk_at dksX1_endTow_1 8 rfl rfl)
theorem dX1_endTow_31 : decode cX1_endTow 31 = .ok (.isub, 1) := dk_100 (dk_at dksX1_endTow_1 9 rfl rfl)
theorem dX1_endTow_32 : decode cX1_endTow 32 = .ok (.putfield 240, 3) := dk_181 0 240 (dk_at dksX1_endTow_1 10 rfl rfl)
theorem dX1_endTow_35 : decode cX1_endTow 35 = .ok (.aload_n 1, 1) := dk_43 (dk_at dksX1_endTow_1 13 rfl rfl)
theorem dX1_endTow_36 : decode cX1_endTow 36 = .ok (.dup, 1) := dk_89 (dk_at dksX1_endTow_1 14 rfl rfl)
theorem dX1_endTow_37 : decode cX1_endTow 37 = .ok (.getfield 243, 3) := dk_180 0 243 (dk_at dksX1_endTow_1 15 rfl rfl)
theorem dX1_endTow_40 : decode cX1_endTow 40 = .ok (.iconst 1, 1) := dk_4 (dk_at dksX1_endTow_1 18 rfl rfl)
theorem dX1_endTow_41 : decode cX1_endTow 41 = .ok (.iadd, 1) := dk_96 (dk_at dksX1_endTow_1 19 rfl rfl)
theorem dX1_endTow_42 : decode cX1_endTow 42 = .ok (.putfield 243, 3) := dk_181 0 243 (dk_at dksX1_endTow_1 20 rfl rfl)
theorem dX1_endTow_45 : decode cX1_endTow 45 = .ok (.aload_n 3, 1) := dk_45 (dk_at dksX1_endTow_1 23 rfl rfl)
theorem dX1_endTow_46 : decode cX1_endTow 46 = .ok (.getfield 204, 3) := dk_180 0 204 (dk_at dksX1_endTow_2 0 rfl rfl)
theorem dX1_endTow_49 : decode cX1_endTow 49 = .ok (.aload_n 1, 1) := dk_43 (dk_at dksX1_endTow_2 3 rfl rfl)
theorem dX1_endTow_50 : decode cX1_endTow 50 = .ok (.getfield 126, 3) := dk_180 0 126 (dk_at dksX1_endTow_2 4 rfl rfl)
theorem dX1_endTow_53 : decode cX1_endTow 53 = .ok (.if_icmp .ne 7, 3) := dk_160 0 7 (dk_at dksX1_endTow_2 7 rfl rfl)
theorem dX1_endTow_56 : decode cX1_endTow 56 = .ok (.iconst 1, 1) := dk_4 (dk_at dksX1_endTow_2 10 rfl rfl)
theorem dX1_endTow_57 : decode cX1_endTow 57 = .ok (.goto 4, 3) := dk_167 0 4 (dk_at dksX1_endTow_2 11 rfl rfl)
theorem dX1_endTow_60 : decode cX1_endTow 60 = .ok (.iconst 0, 1) := dk_3 (dk_at dksX1_endTow_2 14 rfl rfl)
theorem dX1_endTow_61 : decode cX1_endTow 61 = .ok (.istore 4, 2) := dk_54 4 (dk_at dksX1_endTow_2 15 rfl rfl)
theorem dX1_endTow_63 : decode cX1_endTow 63 = .ok (.iload 4, 2) := dk_21 4 (dk_at dksX1_endTow_2 17 rfl rfl)
theorem dX1_endTow_65 : decode cX1_endTow 65 = .ok (.ifCond .eq 52, 3) := dk_153 0 52 (dk_at dksX1_endTow_2 19 rfl rfl)
theorem dX1_endTow_68 : decode cX1_endTow 68 = .ok (.aload_n 3, 1) := dk_45 (dk_at dksX1_endTow_2 22 rfl rfl)
theorem dX1_endTow_69 : decode cX1_endTow 69 = .ok (.dup, 1) := dk_89 (dk_at dksX1_endTow_2 23 rfl rfl)
theorem dX1_endTow_70 : decode cX1_endTow 70 = .ok (.getfield 246, 3) := dk_180 0 246 (dk_at dksX1_endTow_3 0 rfl rfl)
theorem dX1_endTow_73 : decode cX1_endTow 73 = .ok (.iconst 1, 1) := dk_4 (dk_at dksX1_endTow_3 3 rfl rfl)
theorem dX1_endTow_74 : decode cX1_endTow 74 = .ok (.iadd, 1) := dk_96 (dk_at dksX1_endTow_3 4 rfl rfl)
theorem dX1_endTow_75 : decode cX1_endTow 75 = .ok (.putfield 246, 3) := dk_181 0 246 (dk_at dksX1_endTow_3 5 rfl rfl)
theorem dX1_endTow_78 : decode cX1_endTow 78 = .ok (.aload_n 3, 1) := dk_45 (dk_at dksX1_endTow_3 8 rfl rfl)
theorem dX1_endTow_79 : decode cX1_endTow 79 = .ok (.dup, 1) := dk_89 (dk_at dksX1_endTow_3 9 rfl rfl)
theorem dX1_endTow_80 : decode cX1_endTow 80 = .ok (.getfield 249, 3) := dk_180 0 249 (dk_at dksX1_endTow_3 10 rfl rfl)
theorem dX1_endTow_83 : decode cX1_endTow 83 = .ok (.iconst 1, 1) := dk_4 (dk_at dksX1_endTow_3 13 rfl rfl)
theorem dX1_endTow_84 : decode cX1_endTow 84 = .ok (.iadd, 1) := dk_96 (dk_at dksX1_endTow_3 14 rfl rfl)
theorem dX1_endTow_85 : decode cX1_endTow 85 = .ok (.putfield 249, 3) := dk_181 0 249 (dk_at dksX1_endTow_3 15 rfl rfl)
theorem dX1_endTow_88 : decode cX1_endTow 88 = .ok (.aload_n 2, 1) := dk_44 (dk_at dksX1_endTow_3 18 rfl rfl)
theorem dX1_endTow_89 : decode cX1_endTow 89 = .ok (.aload_n 1, 1) := dk_43 (dk_at dksX1_endTow_3 19 rfl rfl)
theorem dX1_endTow_90 : decode cX1_endTow 90 = .ok (.getfield 126, 3) := dk_180 0 126 (dk_at dksX1_endTow_3 20 rfl rfl)
theorem dX1_endTow_93 : decode cX1_endTow 93 = .ok (.putfield 141, 3) := dk_181 0 141 (dk_at dksX1_endTow_4 0 rfl rfl)
theorem dX1_endTow_96 : decode cX1_endTow 96 = .ok (.aload_n 2, 1) := dk_44 (dk_at dksX1_endTow_4 3 rfl rfl)
theorem dX1_endTow_97 : decode cX1_endTow 97 = .ok (.aload_n 1, 1) := dk_43 (dk_at dksX1_endTow_4 4 rfl rfl)
theorem dX1_endTow_98 : decode cX1_endTow 98 = .ok (.getfield 237, 3) := dk_180 0 237 (dk_at dksX1_endTow_4 5 rfl rfl)
theorem dX1_endTow_101 : decode cX1_endTow 101 = .ok (.putfield 252, 3) := dk_181 0 252 (dk_at dksX1_endTow_4 8 rfl rfl)
theorem dX1_endTow_104 : decode cX1_endTow 104 = .ok (.aload_n 2, 1) := dk_44 (dk_at dksX1_endTow_4 11 rfl rfl)
theorem dX1_endTow_105 : decode cX1_endTow 105 = .ok (.bipush 6, 2) := dk_16 6 (dk_at dksX1_endTow_4 12 rfl rfl)
theorem dX1_endTow_107 : decode cX1_endTow 107 = .ok (.aload_n 0, 1) := dk_42 (dk_at dksX1_endTow_4 14 rfl rfl)
theorem dX1_endTow_108 : decode cX1_endTow 108 = .ok (.getfield 81, 3) := dk_180 0 81 (dk_at dksX1_endTow_4 15 rfl rfl)
theorem dX1_endTow_111 : decode cX1_endTow 111 = .ok (.invokevirtual 253, 3) := dk_182 0 253 (dk_at dksX1_endTow_4 18 rfl rfl)
theorem dX1_endTow_114 : decode cX1_endTow 114 = .ok (.goto 11, 3) := dk_167 0 11 (dk_at dksX1_endTow_4 21 rfl rfl)
theorem dX1_endTow_117 : decode cX1_endTow 117 = .ok (.aload_n 2, 1) := dk_44 (dk_at dksX1_endTow_5 0 rfl rfl)
theorem dX1_endTow_118 : decode cX1_endTow 118 = .ok (.aload_n 1, 1) := dk_43 (dk_at dksX1_endTow_5 1 rfl rfl)
theorem dX1_endTow_119 : decode cX1_endTow 119 = .ok (.getfield 126, 3) := dk_180 0 126 (dk_at dksX1_endTow_5 2 rfl rfl)
theorem dX1_endTow_122 : decode cX1_endTow 122 = .ok (.invokevirtual 197, 3) := dk_182 0 197 (dk_at dksX1_endTow_5 5 rfl rfl)
theorem dX1_endTow_125 : decode cX1_endTow 125 = .ok (.aload_n 1, 1) := dk_43 (dk_at dksX1_endTow_5 8 rfl rfl)
theorem dX1_endTow_126 : decode cX1_endTow 126 = .ok (.invokevirtual 201, 3) := dk_182 0 201 (dk_at dksX1_endTow_5 9 rfl rfl)
theorem dX1_endTow_129 : decode cX1_endTow 129 = .ok (.iload 4, 2) := dk_21 4 (dk_at dksX1_endTow_5 12 rfl rfl)
theorem dX1_endTow_131 : decode cX1_endTow 131 = .ok (.ifCond .eq 7, 3) := dk_153 0 7 (dk_at dksX1_endTow_5 14 rfl rfl)
theorem dX1_endTow_134 : decode cX1_endTow 134 = .ok (.iconst 1, 1) := dk_4 (dk_at dksX1_endTow_5 17 rfl rfl)
theorem dX1_endTow_135 : decode cX1_endTow 135 = .ok (.goto 4, 3) := dk_167 0 4 (dk_at dksX1_endTow_5 18 rfl rfl)
theorem dX1_endTow_138 : decode cX1_endTow 138 = .ok (.iconst 0, 1) := dk_3 (dk_at dksX1_endTow_5 21 rfl rfl)
theorem dX1_endTow_139 : decode cX1_endTow 139 = .ok (.ireturn, 1) := dk_172 (dk_at dksX1_endTow_5 22 rfl rfl)
abbrev cX1_waiting : ByteArray := prog_13_method_7_code
def yX1_waiting : MethodName := ⟨RX1, "waiting", "()Ljava/util/List;"⟩
def dkwX1_waiting_4 : List UInt8 := [132, 2, 1, 167, 255, 167, 43, 176]
abbrev dktX1_waiting_4 : List UInt8 := dkwX1_waiting_4 ++ []
def dkwX1_waiting_3 : List UInt8 := [192, 0, 62, 182, 0, 116, 153, 0, 9, 132, 4, 255, 167, 255, 227, 43, 21, 4, 45, 185, 0, 120, 3, 0]
abbrev dktX1_waiting_3 : List UInt8 := dkwX1_waiting_3 ++ dktX1_waiting_4
def dkwX1_waiting_2 : List UInt8 := [185, 0, 32, 1, 0, 54, 4, 21, 4, 158, 0, 30, 42, 45, 43, 21, 4, 4, 100, 185, 0, 38, 2, 0]
abbrev dktX1_waiting_2 : List UInt8 := dkwX1_waiting_2 ++ dktX1_waiting_3
def dkwX1_waiting_1 : List UInt8 := [180, 0, 24, 28, 185, 0, 38, 2, 0, 192, 0, 62, 78, 45, 182, 0, 113, 154, 0, 6, 167, 0, 52, 43]
abbrev dktX1_waiting_1 : List UInt8 := dkwX1_waiting_1 ++ dktX1_waiting_2
def dkwX1_waiting_0 : List UInt8 := [187, 0, 9, 89, 183, 0, 11, 76, 3, 61, 28, 42, 180, 0, 24, 185, 0, 32, 1, 0, 162, 0, 82, 42]
abbrev dktX1_waiting_0 : List UInt8 := dkwX1_waiting_0 ++ dktX1_waiting_1
theorem dksX1_waiting_0 : cX1_waiting.data.toList.drop 0 = dktX1_waiting_0 := by decide +kernel
theorem dksX1_waiting_1 : cX1_waiting.data.toList.drop 24 = dktX1_waiting_1 := dk_seg dksX1_waiting_0 24 rfl rfl
theorem dksX1_waiting_2 : cX1_waiting.data.toList.drop 48 = dktX1_waiting_2 := dk_seg dksX1_waiting_1 24 rfl rfl
theorem dksX1_waiting_3 : cX1_waiting.data.toList.drop 72 = dktX1_waiting_3 := dk_seg dksX1_waiting_2 24 rfl rfl
theorem dksX1_waiting_4 : cX1_waiting.data.toList.drop 96 = dktX1_waiting_4 := dk_seg dksX1_waiting_3 24 rfl rfl
theorem dX1_waiting_0 : decode cX1_waiting 0 = .ok (.new 9, 3) := dk_187 0 9 (dk_at dksX1_waiting_0 0 rfl rfl)
theorem dX1_waiting_3 : decode cX1_waiting 3 = .ok (.dup, 1) := dk_89 (dk_at dksX1_waiting_0 3 rfl rfl)
theorem dX1_waiting_4 : decode cX1_waiting 4 = .ok (.invokespecial 11, 3) := dk_183 0 11 (dk_at dksX1_waiting_0 4 rfl rfl)
theorem dX1_waiting_7 : decode cX1_waiting 7 = .ok (.astore_n 1, 1) := dk_76 (dk_at dksX1_waiting_0 7 rfl rfl)
theorem dX1_waiting_8 : decode cX1_waiting 8 = .ok (.iconst 0, 1) := dk_3 (dk_at dksX1_waiting_0 8 rfl rfl)
theorem dX1_waiting_9 : decode cX1_waiting 9 = .ok (.istore_n 2, 1) := dk_61 (dk_at dksX1_waiting_0 9 rfl rfl)
theorem dX1_waiting_10 : decode cX1_waiting 10 = .ok (.iload_n 2, 1) := dk_28 (dk_at dksX1_waiting_0 10 rfl rfl)
theorem dX1_waiting_11 : decode cX1_waiting 11 = .ok (.aload_n 0, 1) := dk_42 (dk_at dksX1_waiting_0 11 rfl rfl)
theorem dX1_waiting_12 : decode cX1_waiting 12 = .ok (.getfield 24, 3) := dk_180 0 24 (dk_at dksX1_waiting_0 12 rfl rfl)
theorem dX1_waiting_15 : decode cX1_waiting 15 = .ok (.invokeinterface 32 1, 5) := by decide +kernel
theorem dX1_waiting_20 : decode cX1_waiting 20 = .ok (.if_icmp .ge 82, 3) := dk_162 0 82 (dk_at dksX1_waiting_0 20 rfl rfl)
theorem dX1_waiting_23 : decode cX1_waiting 23 = .ok (.aload_n 0, 1) := dk_42 (dk_at dksX1_waiting_0 23 rfl rfl)
theorem dX1_waiting_24 : decode cX1_waiting 24 = .ok (.getfield 24, 3) := dk_180 0 24 (dk_at dksX1_waiting_1 0 rfl rfl)
theorem dX1_waiting_27 : decode cX1_waiting 27 = .ok (.iload_n 2, 1) := dk_28 (dk_at dksX1_waiting_1 3 rfl rfl)
theorem dX1_waiting_28 : decode cX1_waiting 28 = .ok (.invokeinterface 38 2, 5) := by decide +kernel
theorem dX1_waiting_33 : decode cX1_waiting 33 = .ok (.checkcast 62, 3) := dk_192 0 62 (dk_at dksX1_waiting_1 9 rfl rfl)
theorem dX1_waiting_36 : decode cX1_waiting 36 = .ok (.astore_n 3, 1) := dk_78 (dk_at dksX1_waiting_1 12 rfl rfl)
theorem dX1_waiting_37 : decode cX1_waiting 37 = .ok (.aload_n 3, 1) := dk_45 (dk_at dksX1_waiting_1 13 rfl rfl)
theorem dX1_waiting_38 : decode cX1_waiting 38 = .ok (.invokevirtual 113, 3) := dk_182 0 113 (dk_at dksX1_waiting_1 14 rfl rfl)
theorem dX1_waiting_41 : decode cX1_waiting 41 = .ok (.ifCond .ne 6, 3) := dk_154 0 6 (dk_at dksX1_waiting_1 17 rfl rfl)
theorem dX1_waiting_44 : decode cX1_waiting 44 = .ok (.goto 52, 3) := dk_167 0 52 (dk_at dksX1_waiting_1 20 rfl rfl)
theorem dX1_waiting_47 : decode cX1_waiting 47 = .ok (.aload_n 1, 1) := dk_43 (dk_at dksX1_waiting_1 23 rfl rfl)
theorem dX1_waiting_48 : decode cX1_waiting 48 = .ok (.invokeinterface 32 1, 5) := by decide +kernel
theorem dX1_waiting_53 : decode cX1_waiting 53 = .ok (.istore 4, 2) := dk_54 4 (dk_at dksX1_waiting_2 5 rfl rfl)
theorem dX1_waiting_55 : decode cX1_waiting 55 = .ok (.iload 4, 2) := dk_21 4 (dk_at dksX1_waiting_2 7 rfl rfl)
theorem dX1_waiting_57 : decode cX1_waiting 57 = .ok (.ifCond .le 30, 3) := dk_158 0 30 (dk_at dksX1_waiting_2 9 rfl rfl)
theorem dX1_waiting_60 : decode cX1_waiting 60 = .ok (.aload_n 0, 1) := dk_42 (dk_at dksX1_waiting_2 12 rfl rfl)
theorem dX1_waiting_61 : decode cX1_waiting 61 = .ok (.aload_n 3, 1) := dk_45 (dk_at dksX1_waiting_2 13 rfl rfl)
theorem dX1_waiting_62 : decode cX1_waiting 62 = .ok (.aload_n 1, 1) := dk_43 (dk_at dksX1_waiting_2 14 rfl rfl)
theorem dX1_waiting_63 : decode cX1_waiting 63 = .ok (.iload 4, 2) := dk_21 4 (dk_at dksX1_waiting_2 15 rfl rfl)
theorem dX1_waiting_65 : decode cX1_waiting 65 = .ok (.iconst 1, 1) := dk_4 (dk_at dksX1_waiting_2 17 rfl rfl)
theorem dX1_waiting_66 : decode cX1_waiting 66 = .ok (.isub, 1) := dk_100 (dk_at dksX1_waiting_2 18 rfl rfl)
theorem dX1_waiting_67 : decode cX1_waiting 67 = .ok (.invokeinterface 38 2, 5) := by decide +kernel
theorem dX1_waiting_72 : decode cX1_waiting 72 = .ok (.checkcast 62, 3) := dk_192 0 62 (dk_at dksX1_waiting_3 0 rfl rfl)
theorem dX1_waiting_75 : decode cX1_waiting 75 = .ok (.invokevirtual 116, 3) := dk_182 0 116 (dk_at dksX1_waiting_3 3 rfl rfl)
theorem dX1_waiting_78 : decode cX1_waiting 78 = .ok (.ifCond .eq 9, 3) := dk_153 0 9 (dk_at dksX1_waiting_3 6 rfl rfl)
theorem dX1_waiting_81 : decode cX1_waiting 81 = .ok (.iinc 4 (-1), 3) := dk_132 4 255 (dk_at dksX1_waiting_3 9 rfl rfl)
theorem dX1_waiting_84 : decode cX1_waiting 84 = .ok (.goto (-29), 3) := dk_167 255 227 (dk_at dksX1_waiting_3 12 rfl rfl)
theorem dX1_waiting_87 : decode cX1_waiting 87 = .ok (.aload_n 1, 1) := dk_43 (dk_at dksX1_waiting_3 15 rfl rfl)
theorem dX1_waiting_88 : decode cX1_waiting 88 = .ok (.iload 4, 2) := dk_21 4 (dk_at dksX1_waiting_3 16 rfl rfl)
theorem dX1_waiting_90 : decode cX1_waiting 90 = .ok (.aload_n 3, 1) := dk_45 (dk_at dksX1_waiting_3 18 rfl rfl)
theorem dX1_waiting_91 : decode cX1_waiting 91 = .ok (.invokeinterface 120 3, 5) := by decide +kernel
theorem dX1_waiting_96 : decode cX1_waiting 96 = .ok (.iinc 2 1, 3) := dk_132 2 1 (dk_at dksX1_waiting_4 0 rfl rfl)
theorem dX1_waiting_99 : decode cX1_waiting 99 = .ok (.goto (-89), 3) := dk_167 255 167 (dk_at dksX1_waiting_4 3 rfl rfl)
theorem dX1_waiting_102 : decode cX1_waiting 102 = .ok (.aload_n 1, 1) := dk_43 (dk_at dksX1_waiting_4 6 rfl rfl)
theorem dX1_waiting_103 : decode cX1_waiting 103 = .ok (.areturn, 1) := dk_176 (dk_at dksX1_waiting_4 7 rfl rfl)
abbrev cX1_isAhead : ByteArray := prog_13_method_6_code
def yX1_isAhead : MethodName := ⟨RX1, "isAhead", "(LPatrolDesk$Call;LPatrolDesk$Call;)Z"⟩
def dkwX1_isAhead_5 : List UInt8 := [167, 0, 4, 3, 172]
abbrev dktX1_isAhead_5 : List UInt8 := dkwX1_isAhead_5 ++ []
def dkwX1_isAhead_4 : List UInt8 := [164, 0, 7, 4, 167, 0, 23, 3, 167, 0, 19, 43, 180, 0, 110, 44, 180, 0, 110, 162, 0, 7, 4]
abbrev dktX1_isAhead_4 : List UInt8 := dkwX1_isAhead_4 ++ dktX1_isAhead_5
def dkwX1_isAhead_3 : List UInt8 := [185, 0, 38, 2, 0, 192, 0, 42, 180, 0, 107, 54, 4, 29, 21, 4, 159, 0, 17, 29, 21, 4]
abbrev dktX1_isAhead_3 : List UInt8 := dkwX1_isAhead_3 ++ dktX1_isAhead_4
def dkwX1_isAhead_2 : List UInt8 := [43, 180, 0, 96, 185, 0, 38, 2, 0, 192, 0, 42, 180, 0, 107, 62, 42, 180, 0, 12, 44, 180, 0, 96]
abbrev dktX1_isAhead_2 : List UInt8 := dkwX1_isAhead_2 ++ dktX1_isAhead_3
def dkwX1_isAhead_1 : List UInt8 := [182, 0, 103, 44, 42, 180, 0, 81, 182, 0, 103, 162, 0, 7, 4, 167, 0, 4, 3, 172, 42, 180, 0, 12]
abbrev dktX1_isAhead_1 : List UInt8 := dkwX1_isAhead_1 ++ dktX1_isAhead_2
def dkwX1_isAhead_0 : List UInt8 := [43, 42, 180, 0, 81, 182, 0, 103, 44, 42, 180, 0, 81, 182, 0, 103, 159, 0, 28, 43, 42, 180, 0, 81]
abbrev dktX1_isAhead_0 : List UInt8 := dkwX1_isAhead_0 ++ dktX1_isAhead_1
theorem dksX1_isAhead_0 : cX1_isAhead.data.toList.drop 0 = dktX1_isAhead_0 := by decide +kernel
theorem dksX1_isAhead_1 : cX1_isAhead.data.toList.drop 24 = dktX1_isAhead_1 := dk_seg dksX1_isAhead_0 24 rfl rfl
theorem dksX1_isAhead_2 : cX1_isAhead.data.toList.drop 48 = dktX1_isAhead_2 := dk_seg dksX1_isAhead_1 24 rfl rfl
theorem dksX1_isAhead_3 : cX1_isAhead.data.toList.drop 72 = dktX1_isAhead_3 := dk_seg dksX1_isAhead_2 24 rfl rfl
theorem dksX1_isAhead_4 : cX1_isAhead.data.toList.drop 94 = dktX1_isAhead_4 := dk_seg dksX1_isAhead_3 22 rfl rfl
theorem dksX1_isAhead_5 : cX1_isAhead.data.toList.drop 117 = dktX1_isAhead_5 := dk_seg dksX1_isAhead_4 23 rfl rfl
theorem dX1_isAhead_0 : decode cX1_isAhead 0 = .ok (.aload_n 1, 1) := dk_43 (dk_at dksX1_isAhead_0 0 rfl rfl)
theorem dX1_isAhead_1 : decode cX1_isAhead 1 = .ok (.aload_n 0, 1) := dk_42 (dk_at dksX1_isAhead_0 1 rfl rfl)
theorem dX1_isAhead_2 : decode cX1_isAhead 2 = .ok (.getfield 81, 3) := dk_180 0 81 (dk_at dksX1_isAhead_0 2 rfl rfl)
theorem dX1_isAhead_5 : decode cX1_isAhead 5 = .ok (.invokevirtual 103, 3) := dk_182 0 103 (dk_at dksX1_isAhead_0 5 rfl rfl)
theorem dX1_isAhead_8 : decode cX1_isAhead 8 = .ok (.aload_n 2, 1) := dk_44 (dk_at dksX1_isAhead_0 8 rfl rfl)
theorem dX1_isAhead_9 : decode cX1_isAhead 9 = .ok (.aload_n 0, 1) := dk_42 (dk_at dksX1_isAhead_0 9 rfl rfl)
theorem dX1_isAhead_10 : decode cX1_isAhead 10 = .ok (.getfield 81, 3) := dk_180 0 81 (dk_at dksX1_isAhead_0 10 rfl rfl)
theorem dX1_isAhead_13 : decode cX1_isAhead 13 = .ok (.invokevirtual 103, 3) := dk_182 0 103 (dk_at dksX1_isAhead_0 13 rfl rfl)
theorem dX1_isAhead_16 : decode cX1_isAhead 16 = .ok (.if_icmp .eq 28, 3) := dk_159 0 28 (dk_at dksX1_isAhead_0 16 rfl rfl)
theorem dX1_isAhead_19 : decode cX1_isAhead 19 = .ok (.aload_n 1, 1) := dk_43 (dk_at dksX1_isAhead_0 19 rfl rfl)
theorem dX1_isAhead_20 : decode cX1_isAhead 20 = .ok (.aload_n 0, 1) := dk_42 (dk_at dksX1_isAhead_0 20 rfl rfl)
theorem dX1_isAhead_21 : decode cX1_isAhead 21 = .ok (.getfield 81, 3) := dk_180 0 81 (dk_at dksX1_isAhead_0 21 rfl rfl)
theorem dX1_isAhead_24 : decode cX1_isAhead 24 = .ok (.invokevirtual 103, 3) := dk_182 0 103 (dk_at dksX1_isAhead_1 0 rfl rfl)
theorem dX1_isAhead_27 : decode cX1_isAhead 27 = .ok (.aload_n 2, 1) := dk_44 (dk_at dksX1_isAhead_1 3 rfl rfl)
theorem dX1_isAhead_28 : decode cX1_isAhead 28 = .ok (.aload_n 0, 1) := dk_42 (dk_at dksX1_isAhead_1 4 rfl rfl)
theorem dX1_isAhead_29 : decode cX1_isAhead 29 = .ok (.getfield 81, 3) := dk_180 0 81 (dk_at dksX1_isAhead_1 5 rfl rfl)
theorem dX1_isAhead_32 : decode cX1_isAhead 32 = .ok (.invokevirtual 103, 3) := dk_182 0 103 (dk_at dksX1_isAhead_1 8 rfl rfl)
theorem dX1_isAhead_35 : decode cX1_isAhead 35 = .ok (.if_icmp .ge 7, 3) := dk_162 0 7 (dk_at dksX1_isAhead_1 11 rfl rfl)
theorem dX1_isAhead_38 : decode cX1_isAhead 38 = .ok (.iconst 1, 1) := dk_4 (dk_at dksX1_isAhead_1 14 rfl rfl)
theorem dX1_isAhead_39 : decode cX1_isAhead 39 = .ok (.goto 4, 3) := dk_167 0 4 (dk_at dksX1_isAhead_1 15 rfl rfl)
theorem dX1_isAhead_42 : decode cX1_isAhead 42 = .ok (.iconst 0, 1) := dk_3 (dk_at dksX1_isAhead_1 18 rfl rfl)
theorem dX1_isAhead_43 : decode cX1_isAhead 43 = .ok (.ireturn, 1) := dk_172 (dk_at dksX1_isAhead_1 19 rfl rfl)
theorem dX1_isAhead_44 : decode cX1_isAhead 44 = .ok (.aload_n 0, 1) := dk_42 (dk_at dksX1_isAhead_1 20 rfl rfl)
theorem dX1_isAhead_45 : decode cX1_isAhead 45 = .ok (.getfield 12, 3) := dk_180 0 12 (dk_at dksX1_isAhead_1 21 rfl rfl)
theorem dX1_isAhead_48 : decode cX1_isAhead 48 = .ok (.aload_n 1, 1) := dk_43 (dk_at dksX1_isAhead_2 0 rfl rfl)
theorem dX1_isAhead_49 : decode cX1_isAhead 49 = .ok (.getfield 96, 3) := dk_180 0 96 (dk_at dksX1_isAhead_2 1 rfl rfl)
theorem dX1_isAhead_52 : decode cX1_isAhead 52 = .ok (.invokeinterface 38 2, 5) := by decide +kernel
theorem dX1_isAhead_57 : decode cX1_isAhead 57 = .ok (.checkcast 42, 3) := dk_192 0 42 (dk_at dksX1_isAhead_2 9 rfl rfl)
theorem dX1_isAhead_60 : decode cX1_isAhead 60 = .ok (.getfield 107, 3) := dk_180 0 107 (dk_at dksX1_isAhead_2 12 rfl rfl)
theorem dX1_isAhead_63 : decode cX1_isAhead 63 = .ok (.istore_n 3, 1) := dk_62 (dk_at dksX1_isAhead_2 15 rfl rfl)
theorem dX1_isAhead_64 : decode cX1_isAhead 64 = .ok (.aload_n 0, 1) := dk_42 (dk_at dksX1_isAhead_2 16 rfl rfl)
theorem dX1_isAhead_65 : decode cX1_isAhead 65 = .ok (.getfield 12, 3) := dk_180 0 12 (dk_at dksX1_isAhead_2 17 rfl rfl)
theorem dX1_isAhead_68 : decode cX1_isAhead 68 = .ok (.aload_n 2, 1) := dk_44 (dk_at dksX1_isAhead_2 20 rfl rfl)
theorem dX1_isAhead_69 : decode cX1_isAhead 69 = .ok (.getfield 96, 3) := dk_180 0 96 (dk_at dksX1_isAhead_2 21 rfl rfl)
theorem dX1_isAhead_72 : decode cX1_isAhead 72 = .ok (.invokeinterface 38 2, 5) := by decide +kernel
theorem dX1_isAhead_77 : decode cX1_isAhead 77 = .ok (.checkcast 42, 3) := dk_192 0 42 (dk_at dksX1_isAhead_3 5 rfl rfl)
theorem dX1_isAhead_80 : decode cX1_isAhead 80 = .ok (.getfield 107, 3) := dk_180 0 107 (dk_at dksX1_isAhead_3 8 rfl rfl)
theorem dX1_isAhead_83 : decode cX1_isAhead 83 = .ok (.istore 4, 2) := dk_54 4 (dk_at dksX1_isAhead_3 11 rfl rfl)
theorem dX1_isAhead_85 : decode cX1_isAhead 85 = .ok (.iload_n 3, 1) := dk_29 (dk_at dksX1_isAhead_3 13 rfl rfl)
theorem dX1_isAhead_86 : decode cX1_isAhead 86 = .ok (.iload 4, 2) := dk_21 4 (dk_at dksX1_isAhead_3 14 rfl rfl)
theorem dX1_isAhead_88 : decode cX1_isAhead 88 = .ok (.if_icmp .eq 17, 3) := dk_159 0 17 (dk_at dksX1_isAhead_3 16 rfl rfl)
theorem dX1_isAhead_91 : decode cX1_isAhead 91 = .ok (.iload_n 3, 1) := dk_29 (dk_at dksX1_isAhead_3 19 rfl rfl)
theorem dX1_isAhead_92 : decode cX1_isAhead 92 = .ok (.iload 4, 2) := dk_21 4 (dk_at dksX1_isAhead_3 20 rfl rfl)
theorem dX1_isAhead_94 : decode cX1_isAhead 94 = .ok (.if_icmp .le 7, 3) := dk_164 0 7 (dk_at dksX1_isAhead_4 0 rfl rfl)
theorem dX1_isAhead_97 : decode cX1_isAhead 97 = .ok (.iconst 1, 1) := dk_4 (dk_at dksX1_isAhead_4 3 rfl rfl)
theorem dX1_isAhead_98 : decode cX1_isAhead 98 = .ok (.goto 23, 3) := dk_167 0 23 (dk_at dksX1_isAhead_4 4 rfl rfl)
theorem dX1_isAhead_101 : decode cX1_isAhead 101 = .ok (.iconst 0, 1) := dk_3 (dk_at dksX1_isAhead_4 7 rfl rfl)
theorem dX1_isAhead_102 : decode cX1_isAhead 102 = .ok (.goto 19, 3) := dk_167 0 19 (dk_at dksX1_isAhead_4 8 rfl rfl)
theorem dX1_isAhead_105 : decode cX1_isAhead 105 = .ok (.aload_n 1, 1) := dk_43 (dk_at dksX1_isAhead_4 11 rfl rfl)
theorem dX1_isAhead_106 : decode cX1_isAhead 106 = .ok (.getfield 110, 3) := dk_180 0 110 (dk_at dksX1_isAhead_4 12 rfl rfl)
theorem dX1_isAhead_109 : decode cX1_isAhead 109 = .ok (.aload_n 2, 1) := dk_44 (dk_at dksX1_isAhead_4 15 rfl rfl)
theorem dX1_isAhead_110 : decode cX1_isAhead 110 = .ok (.getfield 110, 3) := dk_180 0 110 (dk_at dksX1_isAhead_4 16 rfl rfl)
theorem dX1_isAhead_113 : decode cX1_isAhead 113 = .ok (.if_icmp .ge 7, 3) := dk_162 0 7 (dk_at dksX1_isAhead_4 19 rfl rfl)
theorem dX1_isAhead_116 : decode cX1_isAhead 116 = .ok (.iconst 1, 1) := dk_4 (dk_at dksX1_isAhead_4 22 rfl rfl)
theorem dX1_isAhead_117 : decode cX1_isAhead 117 = .ok (.goto 4, 3) := dk_167 0 4 (dk_at dksX1_isAhead_5 0 rfl rfl)
theorem dX1_isAhead_120 : decode cX1_isAhead 120 = .ok (.iconst 0, 1) := dk_3 (dk_at dksX1_isAhead_5 3 rfl rfl)
theorem dX1_isAhead_121 : decode cX1_isAhead 121 = .ok (.ireturn, 1) := dk_172 (dk_at dksX1_isAhead_5 4 rfl rfl)
abbrev cX1_send : ByteArray := prog_13_method_10_code
def yX1_send : MethodName := ⟨RX1, "send", "(LPatrolDesk$Call;)V"⟩
def dkwX1_send_3 : List UInt8 := [154, 0, 9, 42, 44, 43, 182, 0, 165, 177]
abbrev dktX1_send_3 : List UInt8 := dkwX1_send_3 ++ []
def dkwX1_send_2 : List UInt8 := [182, 0, 157, 43, 44, 180, 0, 161, 181, 0, 162, 21, 4, 154, 0, 8, 43, 4, 181, 0, 142, 29]
abbrev dktX1_send_2 : List UInt8 := dkwX1_send_2 ++ dktX1_send_3
def dkwX1_send_1 : List UInt8 := [43, 180, 0, 142, 6, 160, 0, 7, 4, 167, 0, 4, 3, 54, 4, 44, 4, 43, 180, 0, 110, 29]
abbrev dktX1_send_1 : List UInt8 := dkwX1_send_1 ++ dktX1_send_2
def dkwX1_send_0 : List UInt8 := [42, 43, 182, 0, 153, 77, 44, 199, 0, 4, 177, 42, 44, 180, 0, 126, 43, 180, 0, 141, 182, 0, 129, 62]
abbrev dktX1_send_0 : List UInt8 := dkwX1_send_0 ++ dktX1_send_1
theorem dksX1_send_0 : cX1_send.data.toList.drop 0 = dktX1_send_0 := by decide +kernel
theorem dksX1_send_1 : cX1_send.data.toList.drop 24 = dktX1_send_1 := dk_seg dksX1_send_0 24 rfl rfl
theorem dksX1_send_2 : cX1_send.data.toList.drop 46 = dktX1_send_2 := dk_seg dksX1_send_1 22 rfl rfl
theorem dksX1_send_3 : cX1_send.data.toList.drop 68 = dktX1_send_3 := dk_seg dksX1_send_2 22 rfl rfl
theorem dX1_send_0 : decode cX1_send 0 = .ok (.aload_n 0, 1) := dk_42 (dk_at dksX1_send_0 0 rfl rfl)
theorem dX1_send_1 : decode cX1_send 1 = .ok (.aload_n 1, 1) := dk_43 (dk_at dksX1_send_0 1 rfl rfl)
theorem dX1_send_2 : decode cX1_send 2 = .ok (.invokevirtual 153, 3) := dk_182 0 153 (dk_at dksX1_send_0 2 rfl rfl)
theorem dX1_send_5 : decode cX1_send 5 = .ok (.astore_n 2, 1) := dk_77 (dk_at dksX1_send_0 5 rfl rfl)
theorem dX1_send_6 : decode cX1_send 6 = .ok (.aload_n 2, 1) := dk_44 (dk_at dksX1_send_0 6 rfl rfl)
theorem dX1_send_7 : decode cX1_send 7 = .ok (.ifnonnull 4, 3) := dk_199 0 4 (dk_at dksX1_send_0 7 rfl rfl)
theorem dX1_send_10 : decode cX1_send 10 = .ok (.return_, 1) := dk_177 (dk_at dksX1_send_0 10 rfl rfl)
theorem dX1_send_11 : decode cX1_send 11 = .ok (.aload_n 0, 1) := dk_42 (dk_at dksX1_send_0 11 rfl rfl)
theorem dX1_send_12 : decode cX1_send 12 = .ok (.aload_n 2, 1) := dk_44 (dk_at dksX1_send_0 12 rfl rfl)
theorem dX1_send_13 : decode cX1_send 13 = .ok (.getfield 126, 3) := dk_180 0 126 (dk_at dksX1_send_0 13 rfl rfl)
theorem dX1_send_16 : decode cX1_send 16 = .ok (.aload_n 1, 1) := dk_43 (dk_at dksX1_send_0 16 rfl rfl)
theorem dX1_send_17 : decode cX1_send 17 = .ok (.getfield 141, 3) := dk_180 0 141 (dk_at dksX1_send_0 17 rfl rfl)
theorem dX1_send_20 : decode cX1_send 20 = .ok (.invokevirtual 129, 3) := dk_182 0 129 (dk_at dksX1_send_0 20 rfl rfl)
theorem dX1_send_23 : decode cX1_send 23 = .ok (.istore_n 3, 1) := dk_62 (dk_at dksX1_send_0 23 rfl rfl)
theorem dX1_send_24 : decode cX1_send 24 = .ok (.aload_n 1, 1) := dk_43 (dk_at dksX1_send_1 0 rfl rfl)
theorem dX1_send_25 : decode cX1_send 25 = .ok (.getfield 142, 3) := dk_180 0 142 (dk_at dksX1_send_1 1 rfl rfl)
theorem dX1_send_28 : decode cX1_send 28 = .ok (.iconst 3, 1) := dk_6 (dk_at dksX1_send_1 4 rfl rfl)
theorem dX1_send_29 : decode cX1_send 29 = .ok (.if_icmp .ne 7, 3) := dk_160 0 7 (dk_at dksX1_send_1 5 rfl rfl)
theorem dX1_send_32 : decode cX1_send 32 = .ok (.iconst 1, 1) := dk_4 (dk_at dksX1_send_1 8 rfl rfl)
theorem dX1_send_33 : decode cX1_send 33 = .ok (.goto 4, 3) := dk_167 0 4 (dk_at dksX1_send_1 9 rfl rfl)
theorem dX1_send_36 : decode cX1_send 36 = .ok (.iconst 0, 1) := dk_3 (dk_at dksX1_send_1 12 rfl rfl)
theorem dX1_send_37 : decode cX1_send 37 = .ok (.istore 4, 2) := dk_54 4 (dk_at dksX1_send_1 13 rfl rfl)
theorem dX1_send_39 : decode cX1_send 39 = .ok (.aload_n 2, 1) := dk_44 (dk_at dksX1_send_1 15 rfl rfl)
theorem dX1_send_40 : decode cX1_send 40 = .ok (.iconst 1, 1) := dk_4 (dk_at dksX1_send_1 16 rfl rfl)
theorem dX1_send_41 : decode cX1_send 41 = .ok (.aload_n 1, 1) := dk_43 (dk_at dksX1_send_1 17 rfl rfl)
theorem dX1_send_42 : decode cX1_send 42 = .ok (.getfield 110, 3) := dk_180 0 110 (dk_at dksX1_send_1 18 rfl rfl)
theorem dX1_send_45 : decode cX1_send 45 = .ok (.iload_n 3, 1) := dk_29 (dk_at dksX1_send_1 21 rfl rfl)
theorem dX1_send_46 : decode cX1_send 46 = .ok (.invokevirtual 157, 3) := dk_182 0 157 (dk_at dksX1_send_2 0 rfl rfl)
theorem dX1_send_49 : decode cX1_send 49 = .ok (.aload_n 1, 1) := dk_43 (dk_at dksX1_send_2 3 rfl rfl)
theorem dX1_send_50 : decode cX1_send 50 = .ok (.aload_n 2, 1) := dk_44 (dk_at dksX1_send_2 4 rfl rfl)
theorem dX1_send_51 : decode cX1_send 51 = .ok (.getfield 161, 3) := dk_180 0 161 (dk_at dksX1_send_2 5 rfl rfl)
theorem dX1_send_54 : decode cX1_send 54 = .ok (.putfield 162, 3) := dk_181 0 162 (dk_at dksX1_send_2 8 rfl rfl)
theorem dX1_send_57 : decode cX1_send 57 = .ok (.iload 4, 2) := dk_21 4 (dk_at dksX1_send_2 11 rfl rfl)
theorem dX1_send_59 : decode cX1_send 59 = .ok (.ifCond .ne 8, 3) := dk_154 0 8 (dk_at dksX1_send_2 13 rfl rfl)
theorem dX1_send_62 : decode cX1_send 62 = .ok (.aload_n 1, 1) := dk_43 (dk_at dksX1_send_2 16 rfl rfl)
theorem dX1_send_63 : decode cX1_send 63 = .ok (.iconst 1, 1) := dk_4 (dk_at dksX1_send_2 17 rfl rfl)
theorem dX1_send_64 : decode cX1_send 64 = .ok (.putfield 142, 3) := dk_181 0 142 (dk_at dksX1_send_2 18 rfl rfl)
theorem dX1_send_67 : decode cX1_send 67 = .ok (.iload_n 3, 1) := dk_29 (dk_at dksX1_send_2 21 rfl rfl)
theorem dX1_send_68 : decode cX1_send 68 = .ok (.ifCond .ne 9, 3) := dk_154 0 9 (dk_at dksX1_send_3 0 rfl rfl)
theorem dX1_send_71 : decode cX1_send 71 = .ok (.aload_n 0, 1) := dk_42 (dk_at dksX1_send_3 3 rfl rfl)
theorem dX1_send_72 : decode cX1_send 72 = .ok (.aload_n 2, 1) := dk_44 (dk_at dksX1_send_3 4 rfl rfl)
theorem dX1_send_73 : decode cX1_send 73 = .ok (.aload_n 1, 1) := dk_43 (dk_at dksX1_send_3 5 rfl rfl)
theorem dX1_send_74 : decode cX1_send 74 = .ok (.invokevirtual 165, 3) := dk_182 0 165 (dk_at dksX1_send_3 6 rfl rfl)
theorem dX1_send_77 : decode cX1_send 77 = .ok (.return_, 1) := dk_177 (dk_at dksX1_send_3 9 rfl rfl)
abbrev cX1_nearest : ByteArray := prog_13_method_9_code
def yX1_nearest : MethodName := ⟨RX1, "nearest", "(LPatrolDesk$Call;)LPatrolDesk$Patrol;"⟩
def dkwX1_nearest_1 : List UInt8 := [167, 0, 13, 42, 28, 186, 0, 152, 0, 0, 182, 0, 148, 176]
abbrev dktX1_nearest_1 : List UInt8 := dkwX1_nearest_1 ++ []
def dkwX1_nearest_0 : List UInt8 := [43, 180, 0, 141, 61, 43, 180, 0, 142, 154, 0, 16, 42, 28, 186, 0, 145, 0, 0, 182, 0, 148]
abbrev dktX1_nearest_0 : List UInt8 := dkwX1_nearest_0 ++ dktX1_nearest_1
theorem dksX1_nearest_0 : cX1_nearest.data.toList.drop 0 = dktX1_nearest_0 := by decide +kernel
theorem dksX1_nearest_1 : cX1_nearest.data.toList.drop 22 = dktX1_nearest_1 := dk_seg dksX1_nearest_0 22 rfl rfl
theorem dX1_nearest_0 : decode cX1_nearest 0 = .ok (.aload_n 1, 1) := dk_43 (dk_at dksX1_nearest_0 0 rfl rfl)
theorem dX1_nearest_1 : decode cX1_nearest 1 = .ok (.getfield 141, 3) := dk_180 0 141 (dk_at dksX1_nearest_0 1 rfl rfl)
theorem dX1_nearest_4 : decode cX1_nearest 4 = .ok (.istore_n 2, 1) := dk_61 (dk_at dksX1_nearest_0 4 rfl rfl)
theorem dX1_nearest_5 : decode cX1_nearest 5 = .ok (.aload_n 1, 1) := dk_43 (dk_at dksX1_nearest_0 5 rfl rfl)
theorem dX1_nearest_6 : decode cX1_nearest 6 = .ok (.getfield 142, 3) := dk_180 0 142 (dk_at dksX1_nearest_0 6 rfl rfl)
theorem dX1_nearest_9 : decode cX1_nearest 9 = .ok (.ifCond .ne 16, 3) := dk_154 0 16 (dk_at dksX1_nearest_0 9 rfl rfl)
theorem dX1_nearest_12 : decode cX1_nearest 12 = .ok (.aload_n 0, 1) := dk_42 (dk_at dksX1_nearest_0 12 rfl rfl)
theorem dX1_nearest_13 : decode cX1_nearest 13 = .ok (.iload_n 2, 1) := dk_28 (dk_at dksX1_nearest_0 13 rfl rfl)
theorem dX1_nearest_14 : decode cX1_nearest 14 = .ok (.invokedynamic 145, 5) := by decide +kernel
theorem dX1_nearest_19 : decode cX1_nearest 19 = .ok (.invokevirtual 148, 3) := dk_182 0 148 (dk_at dksX1_nearest_0 19 rfl rfl)
theorem dX1_nearest_22 : decode cX1_nearest 22 = .ok (.goto 13, 3) := dk_167 0 13 (dk_at dksX1_nearest_1 0 rfl rfl)
theorem dX1_nearest_25 : decode cX1_nearest 25 = .ok (.aload_n 0, 1) := dk_42 (dk_at dksX1_nearest_1 3 rfl rfl)
theorem dX1_nearest_26 : decode cX1_nearest 26 = .ok (.iload_n 2, 1) := dk_28 (dk_at dksX1_nearest_1 4 rfl rfl)
theorem dX1_nearest_27 : decode cX1_nearest 27 = .ok (.invokedynamic 152, 5) := by decide +kernel
theorem dX1_nearest_32 : decode cX1_nearest 32 = .ok (.invokevirtual 148, 3) := dk_182 0 148 (dk_at dksX1_nearest_1 10 rfl rfl)
theorem dX1_nearest_35 : decode cX1_nearest 35 = .ok (.areturn, 1) := dk_176 (dk_at dksX1_nearest_1 13 rfl rfl)
abbrev cX1_lambda_nearest_0 : ByteArray := prog_13_method_21_code
def yX1_lambda_nearest_0 : MethodName := ⟨RX1, "lambda$nearest$0", "(LPatrolDesk$Patrol;I)Z"⟩
def dkwX1_lambda_nearest_0_0 : List UInt8 := [42, 27, 182, 1, 75, 172]
abbrev dktX1_lambda_nearest_0_0 : List UInt8 := dkwX1_lambda_nearest_0_0 ++ []
theorem dksX1_lambda_nearest_0_0 : cX1_lambda_nearest_0.data.toList.drop 0 = dktX1_lambda_nearest_0_0 := by decide +kernel
theorem dX1_lambda_nearest_0_0 : decode cX1_lambda_nearest_0 0 = .ok (.aload_n 0, 1) := dk_42 (dk_at dksX1_lambda_nearest_0_0 0 rfl rfl)
theorem dX1_lambda_nearest_0_1 : decode cX1_lambda_nearest_0 1 = .ok (.iload_n 1, 1) := dk_27 (dk_at dksX1_lambda_nearest_0_0 1 rfl rfl)
theorem dX1_lambda_nearest_0_2 : decode cX1_lambda_nearest_0 2 = .ok (.invokevirtual 331, 3) := dk_182 1 75 (dk_at dksX1_lambda_nearest_0_0 2 rfl rfl)
theorem dX1_lambda_nearest_0_5 : decode cX1_lambda_nearest_0 5 = .ok (.ireturn, 1) := dk_172 (dk_at dksX1_lambda_nearest_0_0 5 rfl rfl)
abbrev cX1_nearestOf : ByteArray := prog_13_method_8_code
def yX1_nearestOf : MethodName := ⟨RX1, "nearestOf", "(ILPatrolDesk$Fits;)LPatrolDesk$Patrol;"⟩
def dkwX1_nearestOf_5 : List UInt8 := [180, 0, 138, 45, 180, 0, 138, 164, 0, 6, 25, 5, 78, 132, 4, 1, 167, 255, 130, 45, 176]
abbrev dktX1_nearestOf_5 : List UInt8 := dkwX1_nearestOf_5 ++ []
def dkwX1_nearestOf_4 : List UInt8 := [180, 0, 126, 27, 182, 0, 129, 100, 54, 6, 21, 6, 157, 0, 20, 21, 6, 154, 0, 18, 25, 5]
abbrev dktX1_nearestOf_4 : List UInt8 := dkwX1_nearestOf_4 ++ dktX1_nearestOf_5
def dkwX1_nearestOf_3 : List UInt8 := [167, 0, 58, 45, 199, 0, 7, 4, 167, 0, 23, 42, 45, 180, 0, 126, 27, 182, 0, 129, 42, 25, 5]
abbrev dktX1_nearestOf_3 : List UInt8 := dkwX1_nearestOf_3 ++ dktX1_nearestOf_4
def dkwX1_nearestOf_2 : List UInt8 := [180, 0, 126, 27, 182, 0, 129, 16, 251, 159, 0, 73, 44, 25, 5, 27, 185, 0, 132, 3, 0, 154, 0, 6]
abbrev dktX1_nearestOf_2 : List UInt8 := dkwX1_nearestOf_2 ++ dktX1_nearestOf_3
def dkwX1_nearestOf_1 : List UInt8 := [21, 4, 185, 0, 38, 2, 0, 192, 0, 52, 58, 5, 25, 5, 180, 0, 123, 154, 0, 88, 42, 25, 5]
abbrev dktX1_nearestOf_1 : List UInt8 := dkwX1_nearestOf_1 ++ dktX1_nearestOf_2
def dkwX1_nearestOf_0 : List UInt8 := [1, 78, 3, 54, 4, 21, 4, 42, 180, 0, 18, 185, 0, 32, 1, 0, 162, 0, 118, 42, 180, 0, 18]
abbrev dktX1_nearestOf_0 : List UInt8 := dkwX1_nearestOf_0 ++ dktX1_nearestOf_1
theorem dksX1_nearestOf_0 : cX1_nearestOf.data.toList.drop 0 = dktX1_nearestOf_0 := by decide +kernel
theorem dksX1_nearestOf_1 : cX1_nearestOf.data.toList.drop 23 = dktX1_nearestOf_1 := dk_seg dksX1_nearestOf_0 23 rfl rfl
theorem dksX1_nearestOf_2 : cX1_nearestOf.data.toList.drop 46 = dktX1_nearestOf_2 := dk_seg dksX1_nearestOf_1 23 rfl rfl
theorem dksX1_nearestOf_3 : cX1_nearestOf.data.toList.drop 70 = dktX1_nearestOf_3 := dk_seg dksX1_nearestOf_2 24 rfl rfl
theorem dksX1_nearestOf_4 : cX1_nearestOf.data.toList.drop 93 = dktX1_nearestOf_4 := dk_seg dksX1_nearestOf_3 23 rfl rfl
theorem dksX1_nearestOf_5 : cX1_nearestOf.data.toList.drop 115 = dktX1_nearestOf_5 := dk_seg dksX1_nearestOf_4 22 rfl rfl
theorem dX1_nearestOf_0 : decode cX1_nearestOf 0 = .ok (.aconst_null, 1) := dk_1 (dk_at dksX1_nearestOf_0 0 rfl rfl)
theorem dX1_nearestOf_1 : decode cX1_nearestOf 1 = .ok (.astore_n 3, 1) := dk_78 (dk_at dksX1_nearestOf_0 1 rfl rfl)
theorem dX1_nearestOf_2 : decode cX1_nearestOf 2 = .ok (.iconst 0, 1) := dk_3 (dk_at dksX1_nearestOf_0 2 rfl rfl)
theorem dX1_nearestOf_3 : decode cX1_nearestOf 3 = .ok (.istore 4, 2) := dk_54 4 (dk_at dksX1_nearestOf_0 3 rfl rfl)
theorem dX1_nearestOf_5 : decode cX1_nearestOf 5 = .ok (.iload 4, 2) := dk_21 4 (dk_at dksX1_nearestOf_0 5 rfl rfl)
theorem dX1_nearestOf_7 : decode cX1_nearestOf 7 = .ok (.aload_n 0, 1) := dk_42 (dk_at dksX1_nearestOf_0 7 rfl rfl)
theorem dX1_nearestOf_8 : decode cX1_nearestOf 8 = .ok (.getfield 18, 3) := dk_180 0 18 (dk_at dksX1_nearestOf_0 8 rfl rfl)
theorem dX1_nearestOf_11 : decode cX1_nearestOf 11 = .ok (.invokeinterface 32 1, 5) := by decide +kernel
theorem dX1_nearestOf_16 : decode cX1_nearestOf 16 = .ok (.if_icmp .ge 118, 3) := dk_162 0 118 (dk_at dksX1_nearestOf_0 16 rfl rfl)
theorem dX1_nearestOf_19 : decode cX1_nearestOf 19 = .ok (.aload_n 0, 1) := dk_42 (dk_at dksX1_nearestOf_0 19 rfl rfl)
theorem dX1_nearestOf_20 : decode cX1_nearestOf 20 = .ok (.getfield 18, 3) := dk_180 0 18 (dk_at dksX1_nearestOf_0 20 rfl rfl)
theorem dX1_nearestOf_23 : decode cX1_nearestOf 23 = .ok (.iload 4, 2) := dk_21 4 (dk_at dksX1_nearestOf_1 0 rfl rfl)
theorem dX1_nearestOf_25 : decode cX1_nearestOf 25 = .ok (.invokeinterface 38 2, 5) := by decide +kernel
theorem dX1_nearestOf_30 : decode cX1_nearestOf 30 = .ok (.checkcast 52, 3) := dk_192 0 52 (dk_at dksX1_nearestOf_1 7 rfl rfl)
theorem dX1_nearestOf_33 : decode cX1_nearestOf 33 = .ok (.astore 5, 2) := dk_58 5 (dk_at dksX1_nearestOf_1 10 rfl rfl)
theorem dX1_nearestOf_35 : decode cX1_nearestOf 35 = .ok (.aload 5, 2) := dk_25 5 (dk_at dksX1_nearestOf_1 12 rfl rfl)
theorem dX1_nearestOf_37 : decode cX1_nearestOf 37 = .ok (.getfield 123, 3) := dk_180 0 123 (dk_at dksX1_nearestOf_1 14 rfl rfl)
theorem dX1_nearestOf_40 : decode cX1_nearestOf 40 = .ok (.ifCond .ne 88, 3) := dk_154 0 88 (dk_at dksX1_nearestOf_1 17 rfl rfl)
theorem dX1_nearestOf_43 : decode cX1_nearestOf 43 = .ok (.aload_n 0, 1) := dk_42 (dk_at dksX1_nearestOf_1 20 rfl rfl)
theorem dX1_nearestOf_44 : decode cX1_nearestOf 44 = .ok (.aload 5, 2) := dk_25 5 (dk_at dksX1_nearestOf_1 21 rfl rfl)
theorem dX1_nearestOf_46 : decode cX1_nearestOf 46 = .ok (.getfield 126, 3) := dk_180 0 126 (dk_at dksX1_nearestOf_2 0 rfl rfl)
theorem dX1_nearestOf_49 : decode cX1_nearestOf 49 = .ok (.iload_n 1, 1) := dk_27 (dk_at dksX1_nearestOf_2 3 rfl rfl)
theorem dX1_nearestOf_50 : decode cX1_nearestOf 50 = .ok (.invokevirtual 129, 3) := dk_182 0 129 (dk_at dksX1_nearestOf_2 4 rfl rfl)
theorem dX1_nearestOf_53 : decode cX1_nearestOf 53 = .ok (.bipush (-5), 2) := dk_16 251 (dk_at dksX1_nearestOf_2 7 rfl rfl)
theorem dX1_nearestOf_55 : decode cX1_nearestOf 55 = .ok (.if_icmp .eq 73, 3) := dk_159 0 73 (dk_at dksX1_nearestOf_2 9 rfl rfl)
theorem dX1_nearestOf_58 : decode cX1_nearestOf 58 = .ok (.aload_n 2, 1) := dk_44 (dk_at dksX1_nearestOf_2 12 rfl rfl)
theorem dX1_nearestOf_59 : decode cX1_nearestOf 59 = .ok (.aload 5, 2) := dk_25 5 (dk_at dksX1_nearestOf_2 13 rfl rfl)
theorem dX1_nearestOf_61 : decode cX1_nearestOf 61 = .ok (.iload_n 1, 1) := dk_27 (dk_at dksX1_nearestOf_2 15 rfl rfl)
theorem dX1_nearestOf_62 : decode cX1_nearestOf 62 = .ok (.invokeinterface 132 3, 5) := by decide +kernel
theorem dX1_nearestOf_67 : decode cX1_nearestOf 67 = .ok (.ifCond .ne 6, 3) := dk_154 0 6 (dk_at dksX1_nearestOf_2 21 rfl rfl)
theorem dX1_nearestOf_70 : decode cX1_nearestOf 70 = .ok (.goto 58, 3) := dk_167 0 58 (dk_at dksX1_nearestOf_3 0 rfl rfl)
theorem dX1_nearestOf_73 : decode cX1_nearestOf 73 = .ok (.aload_n 3, 1) := dk_45 (dk_at dksX1_nearestOf_3 3 rfl rfl)
theorem dX1_nearestOf_74 : decode cX1_nearestOf 74 = .ok (.ifnonnull 7, 3) := dk_199 0 7 (dk_at dksX1_nearestOf_3 4 rfl rfl)
theorem dX1_nearestOf_77 : decode cX1_nearestOf 77 = .ok (.iconst 1, 1) := dk_4 (dk_at dksX1_nearestOf_3 7 rfl rfl)
theorem dX1_nearestOf_78 : decode cX1_nearestOf 78 = .ok (.goto 23, 3) := dk_167 0 23 (dk_at dksX1_nearestOf_3 8 rfl rfl)
theorem dX1_nearestOf_81 : decode cX1_nearestOf 81 = .ok (.aload_n 0, 1) := dk_42 (dk_at dksX1_nearestOf_3 11 rfl rfl)
theorem dX1_nearestOf_82 : decode cX1_nearestOf 82 = .ok (.aload_n 3, 1) := dk_45 (dk_at dksX1_nearestOf_3 12 rfl rfl)
theorem dX1_nearestOf_83 : decode cX1_nearestOf 83 = .ok (.getfield 126, 3) := dk_180 0 126 (dk_at dksX1_nearestOf_3 13 rfl rfl)
theorem dX1_nearestOf_86 : decode cX1_nearestOf 86 = .ok (.iload_n 1, 1) := dk_27 (dk_at dksX1_nearestOf_3 16 rfl rfl)
theorem dX1_nearestOf_87 : decode cX1_nearestOf 87 = .ok (.invokevirtual 129, 3) := dk_182 0 129 (dk_at dksX1_nearestOf_3 17 rfl rfl)
theorem dX1_nearestOf_90 : decode cX1_nearestOf 90 = .ok (.aload_n 0, 1) := dk_42 (dk_at dksX1_nearestOf_3 20 rfl rfl)
theorem dX1_nearestOf_91 : decode cX1_nearestOf 91 = .ok (.aload 5, 2) := dk_25 5 (dk_at dksX1_nearestOf_3 21 rfl rfl)
theorem dX1_nearestOf_93 : decode cX1_nearestOf 93 = .ok (.getfield 126, 3) := dk_180 0 126 (dk_at dksX1_nearestOf_4 0 rfl rfl)
theorem dX1_nearestOf_96 : decode cX1_nearestOf 96 = .ok (.iload_n 1, 1) := dk_27 (dk_at dksX1_nearestOf_4 3 rfl rfl)
theorem dX1_nearestOf_97 : decode cX1_nearestOf 97 = .ok (.invokevirtual 129, 3) := dk_182 0 129 (dk_at dksX1_nearestOf_4 4 rfl rfl)
theorem dX1_nearestOf_100 : decode cX1_nearestOf 100 = .ok (.isub, 1) := dk_100 (dk_at dksX1_nearestOf_4 7 rfl rfl)
theorem dX1_nearestOf_101 : decode cX1_nearestOf 101 = .ok (.istore 6, 2) := dk_54 6 (dk_at dksX1_nearestOf_4 8 rfl rfl)
theorem dX1_nearestOf_103 : decode cX1_nearestOf 103 = .ok (.iload 6, 2) := dk_21 6 (dk_at dksX1_nearestOf_4 10 rfl rfl)
theorem dX1_nearestOf_105 : decode cX1_nearestOf 105 = .ok (.ifCond .gt 20, 3) := dk_157 0 20 (dk_at dksX1_nearestOf_4 12 rfl rfl)
theorem dX1_nearestOf_108 : decode cX1_nearestOf 108 = .ok (.iload 6, 2) := dk_21 6 (dk_at dksX1_nearestOf_4 15 rfl rfl)
theorem dX1_nearestOf_110 : decode cX1_nearestOf 110 = .ok (.ifCond .ne 18, 3) := dk_154 0 18 (dk_at dksX1_nearestOf_4 17 rfl rfl)
theorem dX1_nearestOf_113 : decode cX1_nearestOf 113 = .ok (.aload 5, 2) := dk_25 5 (dk_at dksX1_nearestOf_4 20 rfl rfl)
theorem dX1_nearestOf_115 : decode cX1_nearestOf 115 = .ok (.getfield 138, 3) := dk_180 0 138 (dk_at dksX1_nearestOf_5 0 rfl rfl)
theorem dX1_nearestOf_118 : decode cX1_nearestOf 118 = .ok (.aload_n 3, 1) := dk_45 (dk_at dksX1_nearestOf_5 3 rfl rfl)
theorem dX1_nearestOf_119 : decode cX1_nearestOf 119 = .ok (.getfield 138, 3) := dk_180 0 138 (dk_at dksX1_nearestOf_5 4 rfl rfl)
theorem dX1_nearestOf_122 : decode cX1_nearestOf 122 = .ok (.if_icmp .le 6, 3) := dk_164 0 6 (dk_at dksX1_nearestOf_5 7 rfl rfl)
theorem dX1_nearestOf_125 : decode cX1_nearestOf 125 = .ok (.aload 5, 2) := dk_25 5 (dk_at dksX1_nearestOf_5 10 rfl rfl)
theorem dX1_nearestOf_127 : decode cX1_nearestOf 127 = .ok (.astore_n 3, 1) := dk_78 (dk_at dksX1_nearestOf_5 12 rfl rfl)
theorem dX1_nearestOf_128 : decode cX1_nearestOf 128 = .ok (.iinc 4 1, 3) := dk_132 4 1 (dk_at dksX1_nearestOf_5 13 rfl rfl)
theorem dX1_nearestOf_131 : decode cX1_nearestOf 131 = .ok (.goto (-126), 3) := dk_167 255 130 (dk_at dksX1_nearestOf_5 16 rfl rfl)
theorem dX1_nearestOf_134 : decode cX1_nearestOf 134 = .ok (.aload_n 3, 1) := dk_45 (dk_at dksX1_nearestOf_5 19 rfl rfl)
theorem dX1_nearestOf_135 : decode cX1_nearestOf 135 = .ok (.areturn, 1) := dk_176 (dk_at dksX1_nearestOf_5 20 rfl rfl)
abbrev cX1_lambda_nearest_1 : ByteArray := prog_13_method_20_code
def yX1_lambda_nearest_1 : MethodName := ⟨RX1, "lambda$nearest$1", "(LPatrolDesk$Patrol;I)Z"⟩
def dkwX1_lambda_nearest_1_0 : List UInt8 := [42, 27, 182, 0, 193, 172]
abbrev dktX1_lambda_nearest_1_0 : List UInt8 := dkwX1_lambda_nearest_1_0 ++ []
theorem dksX1_lambda_nearest_1_0 : cX1_lambda_nearest_1.data.toList.drop 0 = dktX1_lambda_nearest_1_0 := by decide +kernel
theorem dX1_lambda_nearest_1_0 : decode cX1_lambda_nearest_1 0 = .ok (.aload_n 0, 1) := dk_42 (dk_at dksX1_lambda_nearest_1_0 0 rfl rfl)
theorem dX1_lambda_nearest_1_1 : decode cX1_lambda_nearest_1 1 = .ok (.iload_n 1, 1) := dk_27 (dk_at dksX1_lambda_nearest_1_0 1 rfl rfl)
theorem dX1_lambda_nearest_1_2 : decode cX1_lambda_nearest_1 2 = .ok (.invokevirtual 193, 3) := dk_182 0 193 (dk_at dksX1_lambda_nearest_1_0 2 rfl rfl)
theorem dX1_lambda_nearest_1_5 : decode cX1_lambda_nearest_1 5 = .ok (.ireturn, 1) := dk_172 (dk_at dksX1_lambda_nearest_1_0 5 rfl rfl)
abbrev cX1_sum : ByteArray := prog_13_method_4_code
def yX1_sum : MethodName := ⟨RX1, "sum", "(LPatrolDesk$Amount;)I"⟩
def dkwX1_sum_1 : List UInt8 := [185, 0, 38, 2, 0, 192, 0, 62, 185, 0, 90, 2, 0, 96, 61, 132, 3, 1, 167, 255, 218, 28, 172]
abbrev dktX1_sum_1 : List UInt8 := dkwX1_sum_1 ++ []
def dkwX1_sum_0 : List UInt8 := [3, 61, 3, 62, 29, 42, 180, 0, 24, 185, 0, 32, 1, 0, 162, 0, 31, 28, 43, 42, 180, 0, 24, 29]
abbrev dktX1_sum_0 : List UInt8 := dkwX1_sum_0 ++ dktX1_sum_1
theorem dksX1_sum_0 : cX1_sum.data.toList.drop 0 = dktX1_sum_0 := by decide +kernel
theorem dksX1_sum_1 : cX1_sum.data.toList.drop 24 = dktX1_sum_1 := dk_seg dksX1_sum_0 24 rfl rfl
theorem dX1_sum_0 : decode cX1_sum 0 = .ok (.iconst 0, 1) := dk_3 (dk_at dksX1_sum_0 0 rfl rfl)
theorem dX1_sum_1 : decode cX1_sum 1 = .ok (.istore_n 2, 1) := dk_61 (dk_at dksX1_sum_0 1 rfl rfl)
theorem dX1_sum_2 : decode cX1_sum 2 = .ok (.iconst 0, 1) := dk_3 (dk_at dksX1_sum_0 2 rfl rfl)
theorem dX1_sum_3 : decode cX1_sum 3 = .ok (.istore_n 3, 1) := dk_62 (dk_at dksX1_sum_0 3 rfl rfl)
theorem dX1_sum_4 : decode cX1_sum 4 = .ok (.iload_n 3, 1) := dk_29 (dk_at dksX1_sum_0 4 rfl rfl)
theorem dX1_sum_5 : decode cX1_sum 5 = .ok (.aload_n 0, 1) := dk_42 (dk_at dksX1_sum_0 5 rfl rfl)
theorem dX1_sum_6 : decode cX1_sum 6 = .ok (.getfield 24, 3) := dk_180 0 24 (dk_at dksX1_sum_0 6 rfl rfl)
theorem dX1_sum_9 : decode cX1_sum 9 = .ok (.invokeinterface 32 1, 5) := by decide +kernel
theorem dX1_sum_14 : decode cX1_sum 14 = .ok (.if_icmp .ge 31, 3) := dk_162 0 31 (dk_at dksX1_sum_0 14 rfl rfl)
theorem dX1_sum_17 : decode cX1_sum 17 = .ok (.iload_n 2, 1) := dk_28 (dk_at dksX1_sum_0 17 rfl rfl)
theorem dX1_sum_18 : decode cX1_sum 18 = .ok (.aload_n 1, 1) := dk_43 (dk_at dksX1_sum_0 18 rfl rfl)
theorem dX1_sum_19 : decode cX1_sum 19 = .ok (.aload_n 0, 1) := dk_42 (dk_at dksX1_sum_0 19 rfl rfl)
theorem dX1_sum_20 : decode cX1_sum 20 = .ok (.getfield 24, 3) := dk_180 0 24 (dk_at dksX1_sum_0 20 rfl rfl)
theorem dX1_sum_23 : decode cX1_sum 23 = .ok (.iload_n 3, 1) := dk_29 (dk_at dksX1_sum_0 23 rfl rfl)
theorem dX1_sum_24 : decode cX1_sum 24 = .ok (.invokeinterface 38 2, 5) := by decide +kernel
theorem dX1_sum_29 : decode cX1_sum 29 = .ok (.checkcast 62, 3) := dk_192 0 62 (dk_at dksX1_sum_1 5 rfl rfl)
theorem dX1_sum_32 : decode cX1_sum 32 = .ok (.invokeinterface 90 2, 5) := by decide +kernel
theorem dX1_sum_37 : decode cX1_sum 37 = .ok (.iadd, 1) := dk_96 (dk_at dksX1_sum_1 13 rfl rfl)
theorem dX1_sum_38 : decode cX1_sum 38 = .ok (.istore_n 2, 1) := dk_61 (dk_at dksX1_sum_1 14 rfl rfl)
theorem dX1_sum_39 : decode cX1_sum 39 = .ok (.iinc 3 1, 3) := dk_132 3 1 (dk_at dksX1_sum_1 15 rfl rfl)
theorem dX1_sum_42 : decode cX1_sum 42 = .ok (.goto (-38), 3) := dk_167 255 218 (dk_at dksX1_sum_1 18 rfl rfl)
theorem dX1_sum_45 : decode cX1_sum 45 = .ok (.iload_n 2, 1) := dk_28 (dk_at dksX1_sum_1 21 rfl rfl)
theorem dX1_sum_46 : decode cX1_sum 46 = .ok (.ireturn, 1) := dk_172 (dk_at dksX1_sum_1 22 rfl rfl)
theorem q79 : (Jvm.Cond.initialized "PatrolDesk$State") ∈ lw_all := lw_g (lw_at lw_m1 2 rfl) rfl
theorem q130 : (Jvm.Cond.instantiable "PatrolDesk$State" (8 : Nat)) ∈ lw_all := lw_g (lw_at lw_m1 53 rfl) rfl
theorem q132 : (Jvm.Cond.instanceMethod ({ cls := "PatrolDesk$State", name := "<init>", desc := "()V" } : Jvm.MethodName)) ∈ lw_all := lw_g (lw_at lw_m1 55 rfl) rfl
theorem q133 : (Jvm.Cond.code ({ cls := "PatrolDesk$State", name := "<init>", desc := "()V" } : Jvm.MethodName) prog_13_method_1_code (1 : Nat) (Option.none : Option Jvm.ClassFile.FieldType)) ∈ lw_all := lw_g (lw_at lw_m1 56 rfl) rfl
theorem q134 : (Jvm.Cond.methodLink "PatrolDesk$State" (3 : Nat) ({ cls := "java/lang/Object", name := "<init>", desc := "()V" } : Jvm.MethodName)) ∈ lw_all := lw_g (lw_at lw_m1 57 rfl) rfl
theorem q135 : (Jvm.Cond.classLink "PatrolDesk$State" (9 : Nat) "java/util/ArrayList") ∈ lw_all := lw_g (lw_at lw_m1 58 rfl) rfl
theorem q137 : (Jvm.Cond.methodLink "PatrolDesk$State" (11 : Nat) ({ cls := "java/util/ArrayList", name := "<init>", desc := "()V" } : Jvm.MethodName)) ∈ lw_all := lw_g (lw_at lw_m1 60 rfl) rfl
theorem q161 : (Jvm.Cond.fieldLink "PatrolDesk$State" (12 : Nat) "PatrolDesk$State" "members" "Ljava/util/List;") ∈ lw_all := lw_g (lw_at lw_m1 84 rfl) rfl
theorem q163 : (Jvm.Cond.fieldLink "PatrolDesk$State" (18 : Nat) "PatrolDesk$State" "patrols" "Ljava/util/List;") ∈ lw_all := lw_g (lw_at lw_m1 86 rfl) rfl
theorem q165 : (Jvm.Cond.fieldLink "PatrolDesk$State" (21 : Nat) "PatrolDesk$State" "garages" "Ljava/util/List;") ∈ lw_all := lw_g (lw_at lw_m1 88 rfl) rfl
theorem q167 : (Jvm.Cond.fieldLink "PatrolDesk$State" (24 : Nat) "PatrolDesk$State" "calls" "Ljava/util/List;") ∈ lw_all := lw_g (lw_at lw_m1 90 rfl) rfl
theorem q169 : (Jvm.Cond.fieldLink "PatrolDesk$State" (27 : Nat) "PatrolDesk$State" "promises" "[I") ∈ lw_all := lw_g (lw_at lw_m1 92 rfl) rfl
theorem q171 : (Jvm.Cond.fieldLink "PatrolDesk$State" (73 : Nat) "PatrolDesk$State" "roads" "LPatrolDesk$Roads;") ∈ lw_all := lw_g (lw_at lw_m1 94 rfl) rfl
theorem q173 : (Jvm.Cond.fieldLink "PatrolDesk$State" (77 : Nat) "PatrolDesk$State" "weather" "I") ∈ lw_all := lw_g (lw_at lw_m1 96 rfl) rfl
theorem q175 : (Jvm.Cond.fieldLink "PatrolDesk$State" (81 : Nat) "PatrolDesk$State" "minute" "I") ∈ lw_all := lw_g (lw_at lw_m1 98 rfl) rfl
theorem q177 : (Jvm.Cond.laysFinal "PatrolDesk$State" "PatrolDesk$State" "members" "Ljava/util/List;") ∈ lw_all := lw_g (lw_at lw_m1 100 rfl) rfl
theorem q178 : (Jvm.Cond.soleField "PatrolDesk$State" "members") ∈ lw_all := lw_g (lw_at lw_m1 101 rfl) rfl
theorem q179 : (Jvm.Cond.laysFinal "PatrolDesk$State" "PatrolDesk$State" "patrols" "Ljava/util/List;") ∈ lw_all := lw_g (lw_at lw_m1 102 rfl) rfl
theorem q180 : (Jvm.Cond.soleField "PatrolDesk$State" "patrols") ∈ lw_all := lw_g (lw_at lw_m1 103 rfl) rfl
theorem q181 : (Jvm.Cond.laysFinal "PatrolDesk$State" "PatrolDesk$State" "garages" "Ljava/util/List;") ∈ lw_all := lw_g (lw_at lw_m1 104 rfl) rfl
theorem q182 : (Jvm.Cond.soleField "PatrolDesk$State" "garages") ∈ lw_all := lw_g (lw_at lw_m1 105 rfl) rfl
theorem q183 : (Jvm.Cond.laysFinal "PatrolDesk$State" "PatrolDesk$State" "calls" "Ljava/util/List;") ∈ lw_all := lw_g (lw_at lw_m1 106 rfl) rfl
theorem q184 : (Jvm.Cond.soleField "PatrolDesk$State" "calls") ∈ lw_all := lw_g (lw_at lw_m1 107 rfl) rfl
theorem q185 : (Jvm.Cond.laysFinal "PatrolDesk$State" "PatrolDesk$State" "promises" "[I") ∈ lw_all := lw_g (lw_at lw_m1 108 rfl) rfl
theorem q186 : (Jvm.Cond.soleField "PatrolDesk$State" "promises") ∈ lw_all := lw_g (lw_at lw_m1 109 rfl) rfl
theorem q187 : (Jvm.Cond.lays "PatrolDesk$State" "PatrolDesk$State" "roads" "LPatrolDesk$Roads;") ∈ lw_all := lw_g (lw_at lw_m1 110 rfl) rfl
theorem q188 : (Jvm.Cond.soleField "PatrolDesk$State" "roads") ∈ lw_all := lw_g (lw_at lw_m1 111 rfl) rfl
theorem q189 : (Jvm.Cond.lays "PatrolDesk$State" "PatrolDesk$State" "weather" "I") ∈ lw_all := lw_g (lw_at lw_m1 112 rfl) rfl
theorem q190 : (Jvm.Cond.soleField "PatrolDesk$State" "weather") ∈ lw_all := lw_g (lw_at lw_m1 113 rfl) rfl
theorem q191 : (Jvm.Cond.lays "PatrolDesk$State" "PatrolDesk$State" "minute" "I") ∈ lw_all := lw_g (lw_at lw_m1 114 rfl) rfl
theorem q192 : (Jvm.Cond.soleField "PatrolDesk$State" "minute") ∈ lw_all := lw_g (lw_at lw_m1 115 rfl) rfl
theorem q193 : (Jvm.Cond.superclass "PatrolDesk$State" "java/lang/Object") ∈ lw_all := lw_g (lw_at lw_m1 116 rfl) rfl
theorem q348 : (Jvm.Cond.selects "PatrolDesk$State" ({ cls := "java/lang/Object", name := "hashCode", desc := "()I" } : Jvm.MethodName) ({ cls := "java/lang/Object", name := "hashCode", desc := "()I" } : Jvm.MethodName)) ∈ lw_all := lw_g (lw_at lw_m2 31 rfl) rfl
theorem q380 : (Jvm.Cond.selects "PatrolDesk$State" ({ cls := "java/lang/Object", name := "equals", desc := "(Ljava/lang/Object;)Z" } : Jvm.MethodName) ({ cls := "java/lang/Object", name := "equals", desc := "(Ljava/lang/Object;)Z" } : Jvm.MethodName)) ∈ lw_all := lw_g (lw_at lw_m2 63 rfl) rfl
theorem q425 : (Jvm.Cond.selects "PatrolDesk$State" ({ cls := "java/lang/Object", name := "getClass", desc := "()Ljava/lang/Class;" } : Jvm.MethodName) ({ cls := "java/lang/Object", name := "getClass", desc := "()Ljava/lang/Class;" } : Jvm.MethodName)) ∈ lw_all := lw_g (lw_at lw_m2 108 rfl) rfl
theorem q937 : (Jvm.Cond.fieldLinkNest "PatrolDesk$State" (84 : Nat) "PatrolDesk$Roads" "far" "[[I" "PatrolDesk") ∈ lw_tbl := lw_at lw_m4 140 rfl
theorem q1020 : (Jvm.Cond.instanceMethod ({ cls := "PatrolDesk$State", name := "copy", desc := "()LPatrolDesk$State;" } : Jvm.MethodName)) ∈ lw_all := lw_g (lw_at lw_m4 223 rfl) rfl
theorem q1021 : (Jvm.Cond.selects "PatrolDesk$State" ({ cls := "PatrolDesk$State", name := "copy", desc := "()LPatrolDesk$State;" } : Jvm.MethodName) ({ cls := "PatrolDesk$State", name := "copy", desc := "()LPatrolDesk$State;" } : Jvm.MethodName)) ∈ lw_all := lw_g (lw_at lw_m4 224 rfl) rfl
theorem q1022 : (Jvm.Cond.code ({ cls := "PatrolDesk$State", name := "copy", desc := "()LPatrolDesk$State;" } : Jvm.MethodName) prog_13_method_2_code (3 : Nat) (Option.some (Jvm.ClassFile.FieldType.object "PatrolDesk$State"))) ∈ lw_all := lw_g (lw_at lw_m4 225 rfl) rfl
theorem q1023 : (Jvm.Cond.classLink "PatrolDesk$State" (13 : Nat) "PatrolDesk$State") ∈ lw_all := lw_g (lw_at lw_m4 226 rfl) rfl
theorem q1024 : (Jvm.Cond.methodLink "PatrolDesk$State" (31 : Nat) ({ cls := "PatrolDesk$State", name := "<init>", desc := "()V" } : Jvm.MethodName)) ∈ lw_all := lw_g (lw_at lw_m4 227 rfl) rfl
theorem q1025 : (Jvm.Cond.interfaceEntry "PatrolDesk$State" (32 : Nat)) ∈ lw_tbl := lw_at lw_m4 228 rfl
theorem q1026 : (Jvm.Cond.methodLink "PatrolDesk$State" (32 : Nat) ({ cls := "java/util/List", name := "size", desc := "()I" } : Jvm.MethodName)) ∈ lw_all := lw_g (lw_at lw_m4 229 rfl) rfl
theorem q1027 : (Jvm.Cond.interfaceEntry "PatrolDesk$State" (38 : Nat)) ∈ lw_tbl := lw_at lw_m4 230 rfl
theorem q1028 : (Jvm.Cond.methodLink "PatrolDesk$State" (38 : Nat) ({ cls := "java/util/List", name := "get", desc := "(I)Ljava/lang/Object;" } : Jvm.MethodName)) ∈ lw_all := lw_g (lw_at lw_m4 231 rfl) rfl
theorem q1040 : (Jvm.Cond.classLink "PatrolDesk$State" (42 : Nat) "PatrolDesk$Member") ∈ lw_all := lw_g (lw_at lw_m5 3 rfl) rfl
theorem q1041 : (Jvm.Cond.methodLink "PatrolDesk$State" (44 : Nat) ({ cls := "PatrolDesk$Member", name := "copy", desc := "()LPatrolDesk$Member;" } : Jvm.MethodName)) ∈ lw_all := lw_g (lw_at lw_m5 4 rfl) rfl
theorem q1052 : (Jvm.Cond.fieldLinkNest "PatrolDesk$State" (107 : Nat) "PatrolDesk$Member" "tier" "I" "PatrolDesk") ∈ lw_tbl := lw_at lw_m5 15 rfl
theorem q1055 : (Jvm.Cond.fieldLinkNest "PatrolDesk$State" (257 : Nat) "PatrolDesk$Member" "paid" "I" "PatrolDesk") ∈ lw_tbl := lw_at lw_m5 18 rfl
theorem q1058 : (Jvm.Cond.fieldLinkNest "PatrolDesk$State" (187 : Nat) "PatrolDesk$Member" "givenBack" "I" "PatrolDesk") ∈ lw_tbl := lw_at lw_m5 21 rfl
theorem q1061 : (Jvm.Cond.fieldLinkNest "PatrolDesk$State" (268 : Nat) "PatrolDesk$Member" "repairer" "I" "PatrolDesk") ∈ lw_tbl := lw_at lw_m5 24 rfl
theorem q1063 : (Jvm.Cond.fieldLinkNest "PatrolDesk$State" (271 : Nat) "PatrolDesk$Member" "repairedAt" "I" "PatrolDesk") ∈ lw_tbl := lw_at lw_m5 26 rfl
theorem q1075 : (Jvm.Cond.interfaceEntry "PatrolDesk$State" (48 : Nat)) ∈ lw_tbl := lw_at lw_m5 38 rfl
theorem q1076 : (Jvm.Cond.methodLink "PatrolDesk$State" (48 : Nat) ({ cls := "java/util/List", name := "add", desc := "(Ljava/lang/Object;)Z" } : Jvm.MethodName)) ∈ lw_all := lw_g (lw_at lw_m5 39 rfl) rfl
theorem q1077 : (Jvm.Cond.classLink "PatrolDesk$State" (52 : Nat) "PatrolDesk$Patrol") ∈ lw_all := lw_g (lw_at lw_m5 40 rfl) rfl
theorem q1078 : (Jvm.Cond.methodLink "PatrolDesk$State" (54 : Nat) ({ cls := "PatrolDesk$Patrol", name := "copy", desc := "()LPatrolDesk$Patrol;" } : Jvm.MethodName)) ∈ lw_all := lw_g (lw_at lw_m5 41 rfl) rfl
theorem q1089 : (Jvm.Cond.fieldLinkNest "PatrolDesk$State" (161 : Nat) "PatrolDesk$Patrol" "number" "I" "PatrolDesk") ∈ lw_tbl := lw_at lw_m5 52 rfl
theorem q1094 : (Jvm.Cond.fieldLinkNest "PatrolDesk$State" (138 : Nat) "PatrolDesk$Patrol" "skill" "I" "PatrolDesk") ∈ lw_tbl := lw_at lw_m5 57 rfl
theorem q1099 : (Jvm.Cond.fieldLinkNest "PatrolDesk$State" (126 : Nat) "PatrolDesk$Patrol" "area" "I" "PatrolDesk") ∈ lw_tbl := lw_at lw_m5 62 rfl
theorem q1102 : (Jvm.Cond.fieldLinkNest "PatrolDesk$State" (123 : Nat) "PatrolDesk$Patrol" "does" "I" "PatrolDesk") ∈ lw_tbl := lw_at lw_m5 65 rfl
theorem q1105 : (Jvm.Cond.fieldLinkNest "PatrolDesk$State" (286 : Nat) "PatrolDesk$Patrol" "call" "I" "PatrolDesk") ∈ lw_tbl := lw_at lw_m5 68 rfl
theorem q1108 : (Jvm.Cond.fieldLinkNest "PatrolDesk$State" (280 : Nat) "PatrolDesk$Patrol" "left" "I" "PatrolDesk") ∈ lw_tbl := lw_at lw_m5 71 rfl
theorem q1111 : (Jvm.Cond.fieldLinkNest "PatrolDesk$State" (234 : Nat) "PatrolDesk$Patrol" "towTo" "I" "PatrolDesk") ∈ lw_tbl := lw_at lw_m5 74 rfl
theorem q1113 : (Jvm.Cond.fieldLinkNest "PatrolDesk$State" (237 : Nat) "PatrolDesk$Patrol" "garage" "I" "PatrolDesk") ∈ lw_tbl := lw_at lw_m5 76 rfl
theorem q1115 : (Jvm.Cond.fieldLinkNest "PatrolDesk$State" (274 : Nat) "PatrolDesk$Patrol" "repairs" "I" "PatrolDesk") ∈ lw_tbl := lw_at lw_m5 78 rfl
theorem q1118 : (Jvm.Cond.fieldLinkNest "PatrolDesk$State" (243 : Nat) "PatrolDesk$Patrol" "tows" "I" "PatrolDesk") ∈ lw_tbl := lw_at lw_m5 81 rfl
theorem q1121 : (Jvm.Cond.fieldLinkNest "PatrolDesk$State" (325 : Nat) "PatrolDesk$Patrol" "callbacks" "I" "PatrolDesk") ∈ lw_tbl := lw_at lw_m5 84 rfl
theorem q1124 : (Jvm.Cond.fieldLinkNest "PatrolDesk$State" (178 : Nat) "PatrolDesk$Patrol" "waitedFor" "I" "PatrolDesk") ∈ lw_tbl := lw_at lw_m5 87 rfl
theorem q1127 : (Jvm.Cond.fieldLinkNest "PatrolDesk$State" (283 : Nat) "PatrolDesk$Patrol" "worked" "I" "PatrolDesk") ∈ lw_tbl := lw_at lw_m5 90 rfl
theorem q1160 : (Jvm.Cond.classLink "PatrolDesk$State" (57 : Nat) "PatrolDesk$Garage") ∈ lw_all := lw_g (lw_at lw_m5 123 rfl) rfl
theorem q1161 : (Jvm.Cond.methodLink "PatrolDesk$State" (59 : Nat) ({ cls := "PatrolDesk$Garage", name := "copy", desc := "()LPatrolDesk$Garage;" } : Jvm.MethodName)) ∈ lw_all := lw_g (lw_at lw_m5 124 rfl) rfl
theorem q1172 : (Jvm.Cond.fieldLinkNest "PatrolDesk$State" (204 : Nat) "PatrolDesk$Garage" "area" "I" "PatrolDesk") ∈ lw_tbl := lw_at lw_m5 135 rfl
theorem q1177 : (Jvm.Cond.fieldLinkNest "PatrolDesk$State" (246 : Nat) "PatrolDesk$Garage" "cars" "I" "PatrolDesk") ∈ lw_tbl := lw_at lw_m5 140 rfl
theorem q1180 : (Jvm.Cond.fieldLinkNest "PatrolDesk$State" (240 : Nat) "PatrolDesk$Garage" "coming" "I" "PatrolDesk") ∈ lw_tbl := lw_at lw_m5 143 rfl
theorem q1183 : (Jvm.Cond.fieldLinkNest "PatrolDesk$State" (249 : Nat) "PatrolDesk$Garage" "towed" "I" "PatrolDesk") ∈ lw_tbl := lw_at lw_m5 146 rfl
theorem q1196 : (Jvm.Cond.classLink "PatrolDesk$State" (62 : Nat) "PatrolDesk$Call") ∈ lw_all := lw_g (lw_at lw_m5 159 rfl) rfl
theorem q1197 : (Jvm.Cond.methodLink "PatrolDesk$State" (64 : Nat) ({ cls := "PatrolDesk$Call", name := "copy", desc := "()LPatrolDesk$Call;" } : Jvm.MethodName)) ∈ lw_all := lw_g (lw_at lw_m5 160 rfl) rfl
theorem q1208 : (Jvm.Cond.fieldLinkNest "PatrolDesk$State" (110 : Nat) "PatrolDesk$Call" "number" "I" "PatrolDesk") ∈ lw_tbl := lw_at lw_m5 171 rfl
theorem q1211 : (Jvm.Cond.fieldLinkNest "PatrolDesk$State" (96 : Nat) "PatrolDesk$Call" "member" "I" "PatrolDesk") ∈ lw_tbl := lw_at lw_m5 174 rfl
theorem q1214 : (Jvm.Cond.fieldLinkNest "PatrolDesk$State" (190 : Nat) "PatrolDesk$Call" "trouble" "I" "PatrolDesk") ∈ lw_tbl := lw_at lw_m5 177 rfl
theorem q1217 : (Jvm.Cond.fieldLinkNest "PatrolDesk$State" (184 : Nat) "PatrolDesk$Call" "bound" "I" "PatrolDesk") ∈ lw_tbl := lw_at lw_m5 180 rfl
theorem q1222 : (Jvm.Cond.fieldLinkNest "PatrolDesk$State" (260 : Nat) "PatrolDesk$Call" "isCallback" "Z" "PatrolDesk") ∈ lw_tbl := lw_at lw_m5 185 rfl
theorem q1225 : (Jvm.Cond.fieldLinkNest "PatrolDesk$State" (141 : Nat) "PatrolDesk$Call" "area" "I" "PatrolDesk") ∈ lw_tbl := lw_at lw_m5 188 rfl
theorem q1228 : (Jvm.Cond.fieldLinkNest "PatrolDesk$State" (142 : Nat) "PatrolDesk$Call" "state" "I" "PatrolDesk") ∈ lw_tbl := lw_at lw_m5 191 rfl
theorem q1231 : (Jvm.Cond.fieldLinkNest "PatrolDesk$State" (162 : Nat) "PatrolDesk$Call" "patrol" "I" "PatrolDesk") ∈ lw_tbl := lw_at lw_m5 194 rfl
theorem q1234 : (Jvm.Cond.fieldLinkNest "PatrolDesk$State" (172 : Nat) "PatrolDesk$Call" "first" "I" "PatrolDesk") ∈ lw_tbl := lw_at lw_m5 197 rfl
theorem q1237 : (Jvm.Cond.fieldLinkNest "PatrolDesk$State" (175 : Nat) "PatrolDesk$Call" "until" "I" "PatrolDesk") ∈ lw_tbl := lw_at lw_m5 200 rfl
theorem q1242 : (Jvm.Cond.fieldLinkNest "PatrolDesk$State" (252 : Nat) "PatrolDesk$Call" "garage" "I" "PatrolDesk") ∈ lw_tbl := lw_at lw_m5 205 rfl
theorem q1271 : (Jvm.Cond.methodLink "PatrolDesk$State" (67 : Nat) ({ cls := "java/lang/System", name := "arraycopy", desc := "(Ljava/lang/Object;ILjava/lang/Object;II)V" } : Jvm.MethodName)) ∈ lw_all := lw_g (lw_at lw_m5 234 rfl) rfl
theorem q1308 : (Jvm.Cond.privateMethod ({ cls := "PatrolDesk$State", name := "check", desc := "(III)V" } : Jvm.MethodName)) ∈ lw_tbl := lw_at lw_m6 31 rfl
theorem q1309 : (Jvm.Cond.instanceMethod ({ cls := "PatrolDesk$State", name := "check", desc := "(III)V" } : Jvm.MethodName)) ∈ lw_all := lw_g (lw_at lw_m6 32 rfl) rfl
theorem q1310 : (Jvm.Cond.code ({ cls := "PatrolDesk$State", name := "check", desc := "(III)V" } : Jvm.MethodName) prog_13_method_18_code (4 : Nat) (Option.none : Option Jvm.ClassFile.FieldType)) ∈ lw_all := lw_g (lw_at lw_m6 33 rfl) rfl
theorem q1311 : (Jvm.Cond.methodLinkNest "PatrolDesk$State" (308 : Nat) ({ cls := "PatrolDesk", name := "inRange", desc := "(III)Z" } : Jvm.MethodName) "PatrolDesk") ∈ lw_tbl := lw_at lw_m6 34 rfl
theorem q1312 : (Jvm.Cond.methodLinkNest "PatrolDesk$State" (312 : Nat) ({ cls := "PatrolDesk", name := "isArea", desc := "(I)Z" } : Jvm.MethodName) "PatrolDesk") ∈ lw_tbl := lw_at lw_m6 35 rfl
theorem q1313 : (Jvm.Cond.classLink "PatrolDesk$State" (315 : Nat) "PatrolDesk$Refused") ∈ lw_all := lw_g (lw_at lw_m6 36 rfl) rfl
theorem q1351 : (Jvm.Cond.methodLink "PatrolDesk$State" (317 : Nat) ({ cls := "PatrolDesk$Refused", name := "<init>", desc := "(I)V" } : Jvm.MethodName)) ∈ lw_all := lw_g (lw_at lw_m6 74 rfl) rfl
theorem q1374 : (Jvm.Cond.methodLink "PatrolDesk$State" (319 : Nat) ({ cls := "PatrolDesk$State", name := "openCall", desc := "(I)LPatrolDesk$Call;" } : Jvm.MethodName)) ∈ lw_all := lw_g (lw_at lw_m6 97 rfl) rfl
theorem q1375 : (Jvm.Cond.instanceMethod ({ cls := "PatrolDesk$State", name := "openCall", desc := "(I)LPatrolDesk$Call;" } : Jvm.MethodName)) ∈ lw_all := lw_g (lw_at lw_m6 98 rfl) rfl
theorem q1376 : (Jvm.Cond.selects "PatrolDesk$State" ({ cls := "PatrolDesk$State", name := "openCall", desc := "(I)LPatrolDesk$Call;" } : Jvm.MethodName) ({ cls := "PatrolDesk$State", name := "openCall", desc := "(I)LPatrolDesk$Call;" } : Jvm.MethodName)) ∈ lw_all := lw_g (lw_at lw_m6 99 rfl) rfl
theorem q1377 : (Jvm.Cond.code ({ cls := "PatrolDesk$State", name := "openCall", desc := "(I)LPatrolDesk$Call;" } : Jvm.MethodName) prog_13_method_5_code (3 : Nat) (Option.some (Jvm.ClassFile.FieldType.object "PatrolDesk$Call"))) ∈ lw_all := lw_g (lw_at lw_m6 100 rfl) rfl
theorem q1378 : (Jvm.Cond.methodLink "PatrolDesk$State" (99 : Nat) ({ cls := "PatrolDesk$Call", name := "isUnderWay", desc := "()Z" } : Jvm.MethodName)) ∈ lw_all := lw_g (lw_at lw_m6 101 rfl) rfl
theorem q1383 : (Jvm.Cond.privateMethod ({ cls := "PatrolDesk$State", name := "come", desc := "(III)V" } : Jvm.MethodName)) ∈ lw_tbl := lw_at lw_m6 106 rfl
theorem q1384 : (Jvm.Cond.instanceMethod ({ cls := "PatrolDesk$State", name := "come", desc := "(III)V" } : Jvm.MethodName)) ∈ lw_all := lw_g (lw_at lw_m6 107 rfl) rfl
theorem q1385 : (Jvm.Cond.code ({ cls := "PatrolDesk$State", name := "come", desc := "(III)V" } : Jvm.MethodName) prog_13_method_19_code (6 : Nat) (Option.none : Option Jvm.ClassFile.FieldType)) ∈ lw_all := lw_g (lw_at lw_m6 108 rfl) rfl
theorem q1386 : (Jvm.Cond.methodLink "PatrolDesk$State" (323 : Nat) ({ cls := "PatrolDesk$Member", name := "isCallback", desc := "(I)Z" } : Jvm.MethodName)) ∈ lw_all := lw_g (lw_at lw_m6 109 rfl) rfl
theorem q1390 : (Jvm.Cond.methodLink "PatrolDesk$State" (328 : Nat) ({ cls := "PatrolDesk$Call", name := "<init>", desc := "(IIIIIIZ)V" } : Jvm.MethodName)) ∈ lw_all := lw_g (lw_at lw_m6 113 rfl) rfl
theorem q1436 : (Jvm.Cond.instanceMethod ({ cls := "PatrolDesk$State", name := "far", desc := "(II)I" } : Jvm.MethodName)) ∈ lw_all := lw_g (lw_at lw_m6 159 rfl) rfl
theorem q1437 : (Jvm.Cond.selects "PatrolDesk$State" ({ cls := "PatrolDesk$State", name := "far", desc := "(II)I" } : Jvm.MethodName) ({ cls := "PatrolDesk$State", name := "far", desc := "(II)I" } : Jvm.MethodName)) ∈ lw_all := lw_g (lw_at lw_m6 160 rfl) rfl
theorem q1438 : (Jvm.Cond.code ({ cls := "PatrolDesk$State", name := "far", desc := "(II)I" } : Jvm.MethodName) prog_13_method_3_code (3 : Nat) (Option.some Jvm.ClassFile.FieldType.int)) ∈ lw_all := lw_g (lw_at lw_m6 161 rfl) rfl
theorem q1452 : (Jvm.Cond.instanceMethod ({ cls := "PatrolDesk$State", name := "passMinute", desc := "()I" } : Jvm.MethodName)) ∈ lw_all := lw_g (lw_at lw_m6 175 rfl) rfl
theorem q1453 : (Jvm.Cond.selects "PatrolDesk$State" ({ cls := "PatrolDesk$State", name := "passMinute", desc := "()I" } : Jvm.MethodName) ({ cls := "PatrolDesk$State", name := "passMinute", desc := "()I" } : Jvm.MethodName)) ∈ lw_all := lw_g (lw_at lw_m6 176 rfl) rfl
theorem q1454 : (Jvm.Cond.code ({ cls := "PatrolDesk$State", name := "passMinute", desc := "()I" } : Jvm.MethodName) prog_13_method_17_code (4 : Nat) (Option.some Jvm.ClassFile.FieldType.int)) ∈ lw_all := lw_g (lw_at lw_m6 177 rfl) rfl
theorem q1455 : (Jvm.Cond.methodLink "PatrolDesk$State" (296 : Nat) ({ cls := "PatrolDesk$State", name := "goOn", desc := "(LPatrolDesk$Patrol;)I" } : Jvm.MethodName)) ∈ lw_all := lw_g (lw_at lw_m6 178 rfl) rfl
theorem q1456 : (Jvm.Cond.privateMethod ({ cls := "PatrolDesk$State", name := "goOn", desc := "(LPatrolDesk$Patrol;)I" } : Jvm.MethodName)) ∈ lw_tbl := lw_at lw_m6 179 rfl
theorem q1457 : (Jvm.Cond.instanceMethod ({ cls := "PatrolDesk$State", name := "goOn", desc := "(LPatrolDesk$Patrol;)I" } : Jvm.MethodName)) ∈ lw_all := lw_g (lw_at lw_m6 180 rfl) rfl
theorem q1458 : (Jvm.Cond.code ({ cls := "PatrolDesk$State", name := "goOn", desc := "(LPatrolDesk$Patrol;)I" } : Jvm.MethodName) prog_13_method_16_code (3 : Nat) (Option.some Jvm.ClassFile.FieldType.int)) ∈ lw_all := lw_g (lw_at lw_m6 181 rfl) rfl
theorem q1459 : (Jvm.Cond.methodLink "PatrolDesk$State" (277 : Nat) ({ cls := "PatrolDesk$Patrol", name := "isBusy", desc := "()Z" } : Jvm.MethodName)) ∈ lw_all := lw_g (lw_at lw_m6 182 rfl) rfl
theorem q1460 : (Jvm.Cond.methodLink "PatrolDesk$State" (165 : Nat) ({ cls := "PatrolDesk$State", name := "getThere", desc := "(LPatrolDesk$Patrol;LPatrolDesk$Call;)V" } : Jvm.MethodName)) ∈ lw_all := lw_g (lw_at lw_m6 183 rfl) rfl
theorem q1461 : (Jvm.Cond.privateMethod ({ cls := "PatrolDesk$State", name := "getThere", desc := "(LPatrolDesk$Patrol;LPatrolDesk$Call;)V" } : Jvm.MethodName)) ∈ lw_tbl := lw_at lw_m6 184 rfl
theorem q1462 : (Jvm.Cond.instanceMethod ({ cls := "PatrolDesk$State", name := "getThere", desc := "(LPatrolDesk$Patrol;LPatrolDesk$Call;)V" } : Jvm.MethodName)) ∈ lw_all := lw_g (lw_at lw_m6 185 rfl) rfl
theorem q1463 : (Jvm.Cond.code ({ cls := "PatrolDesk$State", name := "getThere", desc := "(LPatrolDesk$Patrol;LPatrolDesk$Call;)V" } : Jvm.MethodName) prog_13_method_11_code (3 : Nat) (Option.none : Option Jvm.ClassFile.FieldType)) ∈ lw_all := lw_g (lw_at lw_m6 186 rfl) rfl
theorem q1464 : (Jvm.Cond.methodLink "PatrolDesk$State" (169 : Nat) ({ cls := "PatrolDesk$State", name := "tow", desc := "(LPatrolDesk$Patrol;LPatrolDesk$Call;)V" } : Jvm.MethodName)) ∈ lw_all := lw_g (lw_at lw_m6 187 rfl) rfl
theorem q1465 : (Jvm.Cond.privateMethod ({ cls := "PatrolDesk$State", name := "tow", desc := "(LPatrolDesk$Patrol;LPatrolDesk$Call;)V" } : Jvm.MethodName)) ∈ lw_tbl := lw_at lw_m6 188 rfl
theorem q1466 : (Jvm.Cond.instanceMethod ({ cls := "PatrolDesk$State", name := "tow", desc := "(LPatrolDesk$Patrol;LPatrolDesk$Call;)V" } : Jvm.MethodName)) ∈ lw_all := lw_g (lw_at lw_m6 189 rfl) rfl
theorem q1467 : (Jvm.Cond.code ({ cls := "PatrolDesk$State", name := "tow", desc := "(LPatrolDesk$Patrol;LPatrolDesk$Call;)V" } : Jvm.MethodName) prog_13_method_13_code (8 : Nat) (Option.none : Option Jvm.ClassFile.FieldType)) ∈ lw_all := lw_g (lw_at lw_m6 190 rfl) rfl
theorem q1468 : (Jvm.Cond.methodLink "PatrolDesk$State" (208 : Nat) ({ cls := "PatrolDesk$State", name := "garageFor", desc := "(I)I" } : Jvm.MethodName)) ∈ lw_all := lw_g (lw_at lw_m6 191 rfl) rfl
theorem q1469 : (Jvm.Cond.privateMethod ({ cls := "PatrolDesk$State", name := "garageFor", desc := "(I)I" } : Jvm.MethodName)) ∈ lw_tbl := lw_at lw_m6 192 rfl
theorem q1470 : (Jvm.Cond.instanceMethod ({ cls := "PatrolDesk$State", name := "garageFor", desc := "(I)I" } : Jvm.MethodName)) ∈ lw_all := lw_g (lw_at lw_m6 193 rfl) rfl
theorem q1471 : (Jvm.Cond.code ({ cls := "PatrolDesk$State", name := "garageFor", desc := "(I)I" } : Jvm.MethodName) prog_13_method_12_code (5 : Nat) (Option.some Jvm.ClassFile.FieldType.int)) ∈ lw_all := lw_g (lw_at lw_m6 194 rfl) rfl
theorem q1472 : (Jvm.Cond.methodLink "PatrolDesk$State" (129 : Nat) ({ cls := "PatrolDesk$State", name := "far", desc := "(II)I" } : Jvm.MethodName)) ∈ lw_all := lw_g (lw_at lw_m6 195 rfl) rfl
theorem q1473 : (Jvm.Cond.methodLink "PatrolDesk$State" (205 : Nat) ({ cls := "PatrolDesk$Garage", name := "hasPlace", desc := "()Z" } : Jvm.MethodName)) ∈ lw_all := lw_g (lw_at lw_m6 196 rfl) rfl
theorem q1477 : (Jvm.Cond.methodLink "PatrolDesk$State" (197 : Nat) ({ cls := "PatrolDesk$Call", name := "waitForTow", desc := "(I)V" } : Jvm.MethodName)) ∈ lw_all := lw_g (lw_at lw_m6 200 rfl) rfl
theorem q1481 : (Jvm.Cond.methodLink "PatrolDesk$State" (201 : Nat) ({ cls := "PatrolDesk$Patrol", name := "becomeFree", desc := "()V" } : Jvm.MethodName)) ∈ lw_all := lw_g (lw_at lw_m6 204 rfl) rfl
theorem q1482 : (Jvm.Cond.methodLink "PatrolDesk$State" (211 : Nat) ({ cls := "PatrolDesk$Roads", name := "way", desc := "(II)Ljava/util/List;" } : Jvm.MethodName)) ∈ lw_all := lw_g (lw_at lw_m6 205 rfl) rfl
theorem q1555 : (Jvm.Cond.classLink "PatrolDesk$State" (215 : Nat) "java/lang/Integer") ∈ lw_all := lw_g (lw_at lw_m7 38 rfl) rfl
theorem q1556 : (Jvm.Cond.methodLink "PatrolDesk$State" (217 : Nat) ({ cls := "java/lang/Integer", name := "intValue", desc := "()I" } : Jvm.MethodName)) ∈ lw_all := lw_g (lw_at lw_m7 39 rfl) rfl
theorem q1557 : (Jvm.Cond.methodLinkNest "PatrolDesk$State" (220 : Nat) ({ cls := "PatrolDesk", name := "regionOf", desc := "(I)I" } : Jvm.MethodName) "PatrolDesk") ∈ lw_tbl := lw_at lw_m7 40 rfl
theorem q1560 : (Jvm.Cond.methodLink "PatrolDesk$State" (223 : Nat) ({ cls := "PatrolDesk$Patrol", name := "region", desc := "()I" } : Jvm.MethodName)) ∈ lw_all := lw_g (lw_at lw_m7 43 rfl) rfl
theorem q1565 : (Jvm.Cond.methodLink "PatrolDesk$State" (226 : Nat) ({ cls := "PatrolDesk$Roads", name := "lengthOf", desc := "(II)I" } : Jvm.MethodName)) ∈ lw_all := lw_g (lw_at lw_m7 48 rfl) rfl
theorem q1566 : (Jvm.Cond.methodLink "PatrolDesk$State" (229 : Nat) ({ cls := "java/lang/Math", name := "max", desc := "(II)I" } : Jvm.MethodName)) ∈ lw_all := lw_g (lw_at lw_m7 49 rfl) rfl
theorem q1567 : (Jvm.Cond.methodLink "PatrolDesk$State" (157 : Nat) ({ cls := "PatrolDesk$Patrol", name := "begin", desc := "(III)V" } : Jvm.MethodName)) ∈ lw_all := lw_g (lw_at lw_m7 50 rfl) rfl
theorem q1571 : (Jvm.Cond.methodLink "PatrolDesk$State" (181 : Nat) ({ cls := "PatrolDesk$Call", name := "waited", desc := "(I)I" } : Jvm.MethodName)) ∈ lw_all := lw_g (lw_at lw_m7 54 rfl) rfl
theorem q1572 : (Jvm.Cond.methodLink "PatrolDesk$State" (193 : Nat) ({ cls := "PatrolDesk$Patrol", name := "mayTowFrom", desc := "(I)Z" } : Jvm.MethodName)) ∈ lw_all := lw_g (lw_at lw_m7 55 rfl) rfl
theorem q1577 : (Jvm.Cond.methodLink "PatrolDesk$State" (289 : Nat) ({ cls := "PatrolDesk$State", name := "endRepair", desc := "(LPatrolDesk$Patrol;LPatrolDesk$Call;)I" } : Jvm.MethodName)) ∈ lw_all := lw_g (lw_at lw_m7 60 rfl) rfl
theorem q1578 : (Jvm.Cond.privateMethod ({ cls := "PatrolDesk$State", name := "endRepair", desc := "(LPatrolDesk$Patrol;LPatrolDesk$Call;)I" } : Jvm.MethodName)) ∈ lw_tbl := lw_at lw_m7 61 rfl
theorem q1579 : (Jvm.Cond.instanceMethod ({ cls := "PatrolDesk$State", name := "endRepair", desc := "(LPatrolDesk$Patrol;LPatrolDesk$Call;)I" } : Jvm.MethodName)) ∈ lw_all := lw_g (lw_at lw_m7 62 rfl) rfl
theorem q1580 : (Jvm.Cond.code ({ cls := "PatrolDesk$State", name := "endRepair", desc := "(LPatrolDesk$Patrol;LPatrolDesk$Call;)I" } : Jvm.MethodName) prog_13_method_15_code (4 : Nat) (Option.some Jvm.ClassFile.FieldType.int)) ∈ lw_all := lw_g (lw_at lw_m7 63 rfl) rfl
theorem q1581 : (Jvm.Cond.methodLink "PatrolDesk$State" (264 : Nat) ({ cls := "PatrolDesk$Member", name := "fee", desc := "(Z)I" } : Jvm.MethodName)) ∈ lw_all := lw_g (lw_at lw_m7 64 rfl) rfl
theorem q1586 : (Jvm.Cond.methodLink "PatrolDesk$State" (253 : Nat) ({ cls := "PatrolDesk$Call", name := "end", desc := "(II)V" } : Jvm.MethodName)) ∈ lw_all := lw_g (lw_at lw_m7 69 rfl) rfl
theorem q1587 : (Jvm.Cond.methodLink "PatrolDesk$State" (293 : Nat) ({ cls := "PatrolDesk$State", name := "endTow", desc := "(LPatrolDesk$Patrol;LPatrolDesk$Call;)I" } : Jvm.MethodName)) ∈ lw_all := lw_g (lw_at lw_m7 70 rfl) rfl
theorem q1588 : (Jvm.Cond.privateMethod ({ cls := "PatrolDesk$State", name := "endTow", desc := "(LPatrolDesk$Patrol;LPatrolDesk$Call;)I" } : Jvm.MethodName)) ∈ lw_tbl := lw_at lw_m7 71 rfl
theorem q1589 : (Jvm.Cond.instanceMethod ({ cls := "PatrolDesk$State", name := "endTow", desc := "(LPatrolDesk$Patrol;LPatrolDesk$Call;)I" } : Jvm.MethodName)) ∈ lw_all := lw_g (lw_at lw_m7 72 rfl) rfl
theorem q1590 : (Jvm.Cond.code ({ cls := "PatrolDesk$State", name := "endTow", desc := "(LPatrolDesk$Patrol;LPatrolDesk$Call;)I" } : Jvm.MethodName) prog_13_method_14_code (5 : Nat) (Option.some Jvm.ClassFile.FieldType.int)) ∈ lw_all := lw_g (lw_at lw_m7 73 rfl) rfl
theorem q1591 : (Jvm.Cond.methodLink "PatrolDesk$State" (300 : Nat) ({ cls := "PatrolDesk$State", name := "waiting", desc := "()Ljava/util/List;" } : Jvm.MethodName)) ∈ lw_all := lw_g (lw_at lw_m7 74 rfl) rfl
theorem q1592 : (Jvm.Cond.instanceMethod ({ cls := "PatrolDesk$State", name := "waiting", desc := "()Ljava/util/List;" } : Jvm.MethodName)) ∈ lw_all := lw_g (lw_at lw_m7 75 rfl) rfl
theorem q1593 : (Jvm.Cond.selects "PatrolDesk$State" ({ cls := "PatrolDesk$State", name := "waiting", desc := "()Ljava/util/List;" } : Jvm.MethodName) ({ cls := "PatrolDesk$State", name := "waiting", desc := "()Ljava/util/List;" } : Jvm.MethodName)) ∈ lw_all := lw_g (lw_at lw_m7 76 rfl) rfl
theorem q1594 : (Jvm.Cond.code ({ cls := "PatrolDesk$State", name := "waiting", desc := "()Ljava/util/List;" } : Jvm.MethodName) prog_13_method_7_code (5 : Nat) (Option.some (Jvm.ClassFile.FieldType.object "java/util/List"))) ∈ lw_all := lw_g (lw_at lw_m7 77 rfl) rfl
theorem q1595 : (Jvm.Cond.methodLink "PatrolDesk$State" (113 : Nat) ({ cls := "PatrolDesk$Call", name := "isWaiting", desc := "()Z" } : Jvm.MethodName)) ∈ lw_all := lw_g (lw_at lw_m7 78 rfl) rfl
theorem q1599 : (Jvm.Cond.methodLink "PatrolDesk$State" (116 : Nat) ({ cls := "PatrolDesk$State", name := "isAhead", desc := "(LPatrolDesk$Call;LPatrolDesk$Call;)Z" } : Jvm.MethodName)) ∈ lw_all := lw_g (lw_at lw_m7 82 rfl) rfl
theorem q1600 : (Jvm.Cond.privateMethod ({ cls := "PatrolDesk$State", name := "isAhead", desc := "(LPatrolDesk$Call;LPatrolDesk$Call;)Z" } : Jvm.MethodName)) ∈ lw_tbl := lw_at lw_m7 83 rfl
theorem q1601 : (Jvm.Cond.instanceMethod ({ cls := "PatrolDesk$State", name := "isAhead", desc := "(LPatrolDesk$Call;LPatrolDesk$Call;)Z" } : Jvm.MethodName)) ∈ lw_all := lw_g (lw_at lw_m7 84 rfl) rfl
theorem q1602 : (Jvm.Cond.code ({ cls := "PatrolDesk$State", name := "isAhead", desc := "(LPatrolDesk$Call;LPatrolDesk$Call;)Z" } : Jvm.MethodName) prog_13_method_6_code (5 : Nat) (Option.some Jvm.ClassFile.FieldType.boolean)) ∈ lw_all := lw_g (lw_at lw_m7 85 rfl) rfl
theorem q1603 : (Jvm.Cond.methodLink "PatrolDesk$State" (103 : Nat) ({ cls := "PatrolDesk$Call", name := "rest", desc := "(I)I" } : Jvm.MethodName)) ∈ lw_all := lw_g (lw_at lw_m7 86 rfl) rfl
theorem q1607 : (Jvm.Cond.interfaceEntry "PatrolDesk$State" (120 : Nat)) ∈ lw_tbl := lw_at lw_m7 90 rfl
theorem q1608 : (Jvm.Cond.methodLink "PatrolDesk$State" (120 : Nat) ({ cls := "java/util/List", name := "add", desc := "(ILjava/lang/Object;)V" } : Jvm.MethodName)) ∈ lw_all := lw_g (lw_at lw_m7 91 rfl) rfl
theorem q1620 : (Jvm.Cond.methodLink "PatrolDesk$State" (304 : Nat) ({ cls := "PatrolDesk$State", name := "send", desc := "(LPatrolDesk$Call;)V" } : Jvm.MethodName)) ∈ lw_all := lw_g (lw_at lw_m7 103 rfl) rfl
theorem q1621 : (Jvm.Cond.privateMethod ({ cls := "PatrolDesk$State", name := "send", desc := "(LPatrolDesk$Call;)V" } : Jvm.MethodName)) ∈ lw_tbl := lw_at lw_m7 104 rfl
theorem q1622 : (Jvm.Cond.instanceMethod ({ cls := "PatrolDesk$State", name := "send", desc := "(LPatrolDesk$Call;)V" } : Jvm.MethodName)) ∈ lw_all := lw_g (lw_at lw_m7 105 rfl) rfl
theorem q1623 : (Jvm.Cond.code ({ cls := "PatrolDesk$State", name := "send", desc := "(LPatrolDesk$Call;)V" } : Jvm.MethodName) prog_13_method_10_code (5 : Nat) (Option.none : Option Jvm.ClassFile.FieldType)) ∈ lw_all := lw_g (lw_at lw_m7 106 rfl) rfl
theorem q1624 : (Jvm.Cond.methodLink "PatrolDesk$State" (153 : Nat) ({ cls := "PatrolDesk$State", name := "nearest", desc := "(LPatrolDesk$Call;)LPatrolDesk$Patrol;" } : Jvm.MethodName)) ∈ lw_all := lw_g (lw_at lw_m7 107 rfl) rfl
theorem q1625 : (Jvm.Cond.instanceMethod ({ cls := "PatrolDesk$State", name := "nearest", desc := "(LPatrolDesk$Call;)LPatrolDesk$Patrol;" } : Jvm.MethodName)) ∈ lw_all := lw_g (lw_at lw_m7 108 rfl) rfl
theorem q1626 : (Jvm.Cond.selects "PatrolDesk$State" ({ cls := "PatrolDesk$State", name := "nearest", desc := "(LPatrolDesk$Call;)LPatrolDesk$Patrol;" } : Jvm.MethodName) ({ cls := "PatrolDesk$State", name := "nearest", desc := "(LPatrolDesk$Call;)LPatrolDesk$Patrol;" } : Jvm.MethodName)) ∈ lw_all := lw_g (lw_at lw_m7 109 rfl) rfl
theorem q1627 : (Jvm.Cond.code ({ cls := "PatrolDesk$State", name := "nearest", desc := "(LPatrolDesk$Call;)LPatrolDesk$Patrol;" } : Jvm.MethodName) prog_13_method_9_code (3 : Nat) (Option.some (Jvm.ClassFile.FieldType.object "PatrolDesk$Patrol"))) ∈ lw_all := lw_g (lw_at lw_m7 110 rfl) rfl
theorem q1628 : (Jvm.Cond.static ({ cls := "PatrolDesk$State", name := "lambda$nearest$0", desc := "(LPatrolDesk$Patrol;I)Z" } : Jvm.MethodName)) ∈ lw_all := lw_g (lw_at lw_m7 111 rfl) rfl
theorem q1629 : (Jvm.Cond.code ({ cls := "PatrolDesk$State", name := "lambda$nearest$0", desc := "(LPatrolDesk$Patrol;I)Z" } : Jvm.MethodName) prog_13_method_21_code (2 : Nat) (Option.some Jvm.ClassFile.FieldType.boolean)) ∈ lw_all := lw_g (lw_at lw_m7 112 rfl) rfl
theorem q1630 : (Jvm.Cond.methodLink "PatrolDesk$State" (331 : Nat) ({ cls := "PatrolDesk$Patrol", name := "mayRepairIn", desc := "(I)Z" } : Jvm.MethodName)) ∈ lw_all := lw_g (lw_at lw_m7 113 rfl) rfl
theorem q1637 : (Jvm.Cond.methodLink "PatrolDesk$State" (148 : Nat) ({ cls := "PatrolDesk$State", name := "nearestOf", desc := "(ILPatrolDesk$Fits;)LPatrolDesk$Patrol;" } : Jvm.MethodName)) ∈ lw_all := lw_g (lw_at lw_m7 120 rfl) rfl
theorem q1638 : (Jvm.Cond.privateMethod ({ cls := "PatrolDesk$State", name := "nearestOf", desc := "(ILPatrolDesk$Fits;)LPatrolDesk$Patrol;" } : Jvm.MethodName)) ∈ lw_tbl := lw_at lw_m7 121 rfl
theorem q1639 : (Jvm.Cond.instanceMethod ({ cls := "PatrolDesk$State", name := "nearestOf", desc := "(ILPatrolDesk$Fits;)LPatrolDesk$Patrol;" } : Jvm.MethodName)) ∈ lw_all := lw_g (lw_at lw_m7 122 rfl) rfl
theorem q1640 : (Jvm.Cond.code ({ cls := "PatrolDesk$State", name := "nearestOf", desc := "(ILPatrolDesk$Fits;)LPatrolDesk$Patrol;" } : Jvm.MethodName) prog_13_method_8_code (7 : Nat) (Option.some (Jvm.ClassFile.FieldType.object "PatrolDesk$Patrol"))) ∈ lw_all := lw_g (lw_at lw_m7 123 rfl) rfl
theorem q1641 : (Jvm.Cond.interfaceEntry "PatrolDesk$State" (132 : Nat)) ∈ lw_tbl := lw_at lw_m7 124 rfl
theorem q1642 : (Jvm.Cond.methodLink "PatrolDesk$State" (132 : Nat) ({ cls := "PatrolDesk$Fits", name := "test", desc := "(LPatrolDesk$Patrol;I)Z" } : Jvm.MethodName)) ∈ lw_all := lw_g (lw_at lw_m7 125 rfl) rfl
theorem q1645 : (Jvm.Cond.static ({ cls := "PatrolDesk$State", name := "lambda$nearest$1", desc := "(LPatrolDesk$Patrol;I)Z" } : Jvm.MethodName)) ∈ lw_all := lw_g (lw_at lw_m7 128 rfl) rfl
theorem q1646 : (Jvm.Cond.code ({ cls := "PatrolDesk$State", name := "lambda$nearest$1", desc := "(LPatrolDesk$Patrol;I)Z" } : Jvm.MethodName) prog_13_method_20_code (2 : Nat) (Option.some Jvm.ClassFile.FieldType.boolean)) ∈ lw_all := lw_g (lw_at lw_m7 129 rfl) rfl
theorem q1877 : (Jvm.Cond.instanceMethod ({ cls := "PatrolDesk$State", name := "sum", desc := "(LPatrolDesk$Amount;)I" } : Jvm.MethodName)) ∈ lw_all := lw_g (lw_at lw_m8 120 rfl) rfl
theorem q1878 : (Jvm.Cond.selects "PatrolDesk$State" ({ cls := "PatrolDesk$State", name := "sum", desc := "(LPatrolDesk$Amount;)I" } : Jvm.MethodName) ({ cls := "PatrolDesk$State", name := "sum", desc := "(LPatrolDesk$Amount;)I" } : Jvm.MethodName)) ∈ lw_all := lw_g (lw_at lw_m8 121 rfl) rfl
theorem q1879 : (Jvm.Cond.code ({ cls := "PatrolDesk$State", name := "sum", desc := "(LPatrolDesk$Amount;)I" } : Jvm.MethodName) prog_13_method_4_code (4 : Nat) (Option.some Jvm.ClassFile.FieldType.int)) ∈ lw_all := lw_g (lw_at lw_m8 122 rfl) rfl
theorem q1880 : (Jvm.Cond.interfaceEntry "PatrolDesk$State" (90 : Nat)) ∈ lw_tbl := lw_at lw_m8 123 rfl
theorem q1881 : (Jvm.Cond.methodLink "PatrolDesk$State" (90 : Nat) ({ cls := "PatrolDesk$Amount", name := "of", desc := "(LPatrolDesk$Call;)I" } : Jvm.MethodName)) ∈ lw_all := lw_g (lw_at lw_m8 124 rfl) rfl
theorem q2288 : (Jvm.Cond.castable "PatrolDesk$State" "java/lang/Object") ∈ lw_tbl := lw_at lw_m10 51 rfl
theorem in_X1 : ∀ w ∈ wsX10, w ∈ lw_all := lw_in wsX10 [177, 179, 181, 183, 185, 187, 189, 191] (by decide +kernel) (by decide +kernel)
/-! PatrolDesk$Roads -/
set_option maxRecDepth 100000
def RX2 : String := "PatrolDesk$Roads"
def TX2 : u_T := fun k => match k with
  | 0 => ("PatrolDesk$Roads", "minutes", "Ljava/util/Map;", true)
  | 1 => ("PatrolDesk$Roads", "direct", "[[I", true)
  | 2 => ("PatrolDesk$Roads", "far", "[[I", true)
  | _ => ("PatrolDesk$Roads", "ways", "Ljava/util/List;", true)
def tyX2 : Nat → FieldType := fun k => match k with
  | 0 => .object "java/util/Map"
  | 1 => .array (.array .int)
  | 2 => .array (.array .int)
  | _ => .object "java/util/List"
abbrev wsX20 : List Cond := u_ws RX2 TX2 4
theorem nmX2 : ∀ a, a < 4 → ∀ b, b < 4 → a ≠ b → (TX2 a).2.1 ≠ (TX2 b).2.1 := by decide +kernel
theorem tyX2_ok : ∀ k, k < 4 → parseFieldDescriptor (TX2 k).2.2.1 = some (tyX2 k) := by decide +kernel
abbrev cX2_init : ByteArray := prog_11_method_1_code
def yX2_init : MethodName := ⟨RX2, "<init>", "(LPatrolDesk$Roads;LPatrolDesk$Between;I)V"⟩
def dkwX2_init_9 : List UInt8 := [167, 255, 236, 132, 5, 1, 167, 255, 220, 132, 4, 1, 167, 255, 204, 177]
abbrev dktX2_init_9 : List UInt8 := dkwX2_init_9 ++ []
def dkwX2_init_8 : List UInt8 := [54, 6, 21, 6, 16, 12, 162, 0, 19, 42, 21, 5, 21, 6, 21, 4, 182, 0, 57, 132, 6, 1]
abbrev dktX2_init_8 : List UInt8 := dkwX2_init_8 ++ dktX2_init_9
def dkwX2_init_7 : List UInt8 := [167, 255, 222, 3, 54, 4, 21, 4, 16, 12, 162, 0, 51, 3, 54, 5, 21, 5, 16, 12, 162, 0, 35, 3]
abbrev dktX2_init_7 : List UInt8 := dkwX2_init_7 ++ dktX2_init_8
def dkwX2_init_6 : List UInt8 := [16, 12, 162, 0, 17, 42, 21, 4, 21, 5, 182, 0, 54, 132, 5, 1, 167, 255, 238, 132, 4, 1]
abbrev dktX2_init_6 : List UInt8 := dkwX2_init_6 ++ dktX2_init_7
def dkwX2_init_5 : List UInt8 := [184, 0, 42, 185, 0, 48, 3, 0, 87, 3, 54, 4, 21, 4, 16, 12, 162, 0, 33, 3, 54, 5, 21, 5]
abbrev dktX2_init_5 : List UInt8 := dkwX2_init_5 ++ dktX2_init_6
def dkwX2_init_4 : List UInt8 := [132, 5, 1, 167, 255, 230, 132, 4, 1, 167, 255, 211, 44, 198, 0, 18, 42, 180, 0, 12, 44, 29]
abbrev dktX2_init_4 : List UInt8 := dkwX2_init_4 ++ dktX2_init_5
def dkwX2_init_3 : List UInt8 := [21, 5, 16, 12, 162, 0, 25, 42, 43, 187, 0, 33, 89, 21, 4, 21, 5, 183, 0, 35, 182, 0, 38]
abbrev dktX2_init_3 : List UInt8 := dkwX2_init_3 ++ dktX2_init_4
def dkwX2_init_2 : List UInt8 := [181, 0, 29, 43, 198, 0, 54, 3, 54, 4, 21, 4, 16, 12, 162, 0, 44, 21, 4, 4, 96, 54, 5]
abbrev dktX2_init_2 : List UInt8 := dkwX2_init_2 ++ dktX2_init_3
def dkwX2_init_1 : List UInt8 := [181, 0, 20, 42, 16, 12, 16, 12, 197, 0, 18, 2, 181, 0, 23, 42, 187, 0, 26, 89, 183, 0, 28]
abbrev dktX2_init_1 : List UInt8 := dkwX2_init_1 ++ dktX2_init_2
def dkwX2_init_0 : List UInt8 := [42, 183, 0, 3, 42, 187, 0, 9, 89, 183, 0, 11, 181, 0, 12, 42, 16, 12, 16, 12, 197, 0, 18, 2]
abbrev dktX2_init_0 : List UInt8 := dkwX2_init_0 ++ dktX2_init_1
theorem dksX2_init_0 : cX2_init.data.toList.drop 0 = dktX2_init_0 := by decide +kernel
theorem dksX2_init_1 : cX2_init.data.toList.drop 24 = dktX2_init_1 := dk_seg dksX2_init_0 24 rfl rfl
theorem dksX2_init_2 : cX2_init.data.toList.drop 47 = dktX2_init_2 := dk_seg dksX2_init_1 23 rfl rfl
theorem dksX2_init_3 : cX2_init.data.toList.drop 70 = dktX2_init_3 := dk_seg dksX2_init_2 23 rfl rfl
theorem dksX2_init_4 : cX2_init.data.toList.drop 93 = dktX2_init_4 := dk_seg dksX2_init_3 23 rfl rfl
theorem dksX2_init_5 : cX2_init.data.toList.drop 115 = dktX2_init_5 := dk_seg dksX2_init_4 22 rfl rfl
theorem dksX2_init_6 : cX2_init.data.toList.drop 139 = dktX2_init_6 := dk_seg dksX2_init_5 24 rfl rfl
theorem dksX2_init_7 : cX2_init.data.toList.drop 161 = dktX2_init_7 := dk_seg dksX2_init_6 22 rfl rfl
theorem dksX2_init_8 : cX2_init.data.toList.drop 185 = dktX2_init_8 := dk_seg dksX2_init_7 24 rfl rfl
theorem dksX2_init_9 : cX2_init.data.toList.drop 207 = dktX2_init_9 := dk_seg dksX2_init_8 22 rfl rfl
theorem dX2_init_0 : decode cX2_init 0 = .ok (.aload_n 0, 1) := dk_42 (dk_at dksX2_init_0 0 rfl rfl)
theorem dX2_init_1 : decode cX2_init 1 = .ok (.invokespecial 3, 3) := dk_183 0 3 (dk_at dksX2_init_0 1 rfl rfl)
theorem dX2_init_4 : decode cX2_init 4 = .ok (.aload_n 0, 1) := dk_42 (dk_at dksX2_init_0 4 rfl rfl)
theorem dX2_init_5 : decode cX2_init 5 = .ok (.new 9, 3) := dk_187 0 9 (dk_at dksX2_init_0 5 rfl rfl)
theorem dX2_init_8 : decode cX2_init 8 = .ok (.dup, 1) := dk_89 (dk_at dksX2_init_0 8 rfl rfl)
theorem dX2_init_9 : decode cX2_init 9 = .ok (.invokespecial 11, 3) := dk_183 0 11 (dk_at dksX2_init_0 9 rfl rfl)
theorem dX2_init_12 : decode cX2_init 12 = .ok (.putfield 12, 3) := dk_181 0 12 (dk_at dksX2_init_0 12 rfl rfl)
theorem dX2_init_15 : decode cX2_init 15 = .ok (.aload_n 0, 1) := dk_42 (dk_at dksX2_init_0 15 rfl rfl)
theorem dX2_init_16 : decode cX2_init 16 = .ok (.bipush 12, 2) := dk_16 12 (dk_at dksX2_init_0 16 rfl rfl)
theorem dX2_init_18 : decode cX2_init 18 = .ok (.bipush 12, 2) := dk_16 12 (dk_at dksX2_init_0 18 rfl rfl)
theorem dX2_init_20 : decode cX2_init 20 = .ok (.multianewarray 18 2, 4) := by decide +kernel
theorem dX2_init_24 : decode cX2_init 24 = .ok (.putfield 20, 3) := dk_181 0 20 (dk_at dksX2_init_1 0 rfl rfl)
theorem dX2_init_27 : decode cX2_init 27 = .ok (.aload_n 0, 1) := dk_42 (dk_at dksX2_init_1 3 rfl rfl)
theorem dX2_init_28 : decode cX2_init 28 = .ok (.bipush 12, 2) := dk_16 12 (dk_at dksX2_init_1 4 rfl rfl)
theorem dX2_init_30 : decode cX2_init 30 = .ok (.bipush 12, 2) := dk_16 12 (dk_at dksX2_init_1 6 rfl rfl)
theorem dX2_init_32 : decode cX2_init 32 = .ok (.multianewarray 18 2, 4) := by decide +kernel
theorem dX2_init_36 : decode cX2_init 36 = .ok (.putfield 23, 3) := dk_181 0 23 (dk_at dksX2_init_1 12 rfl rfl)
theorem dX2_init_39 : decode cX2_init 39 = .ok (.aload_n 0, 1) := dk_42 (dk_at dksX2_init_1 15 rfl rfl)
theorem dX2_init_40 : decode cX2_init 40 = .ok (.new 26, 3) := dk_187 0 26 (dk_at dksX2_init_1 16 rfl rfl)
theorem dX2_init_43 : decode cX2_init 43 = .ok (.dup, 1) := dk_89 (dk_at dksX2_init_1 19 rfl rfl)
theorem dX2_init_44 : decode cX2_init 44 = .ok (.invokespecial 28, 3) := dk_183 0 28 (dk_at dksX2_init_1 20 rfl rfl)
theorem dX2_init_47 : decode cX2_init 47 = .ok (.putfield 29, 3) := dk_181 0 29 (dk_at dksX2_init_2 0 rfl rfl)
theorem dX2_init_50 : decode cX2_init 50 = .ok (.aload_n 1, 1) := dk_43 (dk_at dksX2_init_2 3 rfl rfl)
theorem dX2_init_51 : decode cX2_init 51 = .ok (.ifnull 54, 3) := dk_198 0 54 (dk_at dksX2_init_2 4 rfl rfl)
theorem dX2_init_54 : decode cX2_init 54 = .ok (.iconst 0, 1) := dk_3 (dk_at dksX2_init_2 7 rfl rfl)
theorem dX2_init_55 : decode cX2_init 55 = .ok (.istore 4, 2) := dk_54 4 (dk_at dksX2_init_2 8 rfl rfl)
theorem dX2_init_57 : decode cX2_init 57 = .ok (.iload 4, 2) := dk_21 4 (dk_at dksX2_init_2 10 rfl rfl)
theorem dX2_init_59 : decode cX2_init 59 = .ok (.bipush 12, 2) := dk_16 12 (dk_at dksX2_init_2 12 rfl rfl)
theorem dX2_init_61 : decode cX2_init 61 = .ok (.if_icmp .ge 44, 3) := dk_162 0 44 (dk_at dksX2_init_2 14 rfl rfl)
theorem dX2_init_64 : decode cX2_init 64 = .ok (.iload 4, 2) := dk_21 4 (dk_at dksX2_init_2 17 rfl rfl)
theorem dX2_init_66 : decode cX2_init 66 = .ok (.iconst 1, 1) := dk_4 (dk_at dksX2_init_2 19 rfl rfl)
theorem dX2_init_67 : decode cX2_init 67 = .ok (.iadd, 1) := dk_96 (dk_at dksX2_init_2 20 rfl rfl)
theorem dX2_init_68 : decode cX2_init 68 = .ok (.istore 5, 2) := dk_54 5 (dk_at dksX2_init_2 21 rfl rfl)
theorem dX2_init_70 : decode cX2_init 70 = .ok (.iload 5, 2) := dk_21 5 (dk_at dksX2_init_3 0 rfl rfl)
theorem dX2_init_72 : decode cX2_init 72 = .ok (.bipush 12, 2) := dk_16 12 (dk_at dksX2_init_3 2 rfl rfl)
theorem dX2_init_74 : decode cX2_init 74 = .ok (.if_icmp .ge 25, 3) := dk_162 0 25 (dk_at dksX2_init_3 4 rfl rfl)
theorem dX2_init_77 : decode cX2_init 77 = .ok (.aload_n 0, 1) := dk_42 (dk_at dksX2_init_3 7 rfl rfl)
theorem dX2_init_78 : decode cX2_init 78 = .ok (.aload_n 1, 1) := dk_43 (dk_at dksX2_init_3 8 rfl rfl)
theorem dX2_init_79 : decode cX2_init 79 = .ok (.new 33, 3) := dk_187 0 33 (dk_at dksX2_init_3 9 rfl rfl)
theorem dX2_init_82 : decode cX2_init 82 = .ok (.dup, 1) := dk_89 (dk_at dksX2_init_3 12 rfl rfl)
theorem dX2_init_83 : decode cX2_init 83 = .ok (.iload 4, 2) := dk_21 4 (dk_at dksX2_init_3 13 rfl rfl)
theorem dX2_init_85 : decode cX2_init 85 = .ok (.iload 5, 2) := dk_21 5 (dk_at dksX2_init_3 15 rfl rfl)
theorem dX2_init_87 : decode cX2_init 87 = .ok (.invokespecial 35, 3) := dk_183 0 35 (dk_at dksX2_init_3 17 rfl rfl)
theorem dX2_init_90 : decode cX2_init 90 = .ok (.invokevirtual 38, 3) := dk_182 0 38 (dk_at dksX2_init_3 20 rfl rfl)
theorem dX2_init_93 : decode cX2_init 93 = .ok (.iinc 5 1, 3) := dk_132 5 1 (dk_at dksX2_init_4 0 rfl rfl)
theorem dX2_init_96 : decode cX2_init 96 = .ok (.goto (-26), 3) := dk_167 255 230 (dk_at dksX2_init_4 3 rfl rfl)
theorem dX2_init_99 : decode cX2_init 99 = .ok (.iinc 4 1, 3) := dk_132 4 1 (dk_at dksX2_init_4 6 rfl rfl)
theorem dX2_init_102 : decode cX2_init 102 = .ok (.goto (-45), 3) := dk_167 255 211 (dk_at dksX2_init_4 9 rfl rfl)
theorem dX2_init_105 : decode cX2_init 105 = .ok (.aload_n 2, 1) := dk_44 (dk_at dksX2_init_4 12 rfl rfl)
theorem dX2_init_106 : decode cX2_init 106 = .ok (.ifnull 18, 3) := dk_198 0 18 (dk_at dksX2_init_4 13 rfl rfl)
theorem dX2_init_109 : decode cX2_init 109 = .ok (.aload_n 0, 1) := dk_42 (dk_at dksX2_init_4 16 rfl rfl)
theorem dX2_init_110 : decode cX2_init 110 = .ok (.getfield 12, 3) := dk_180 0 12 (dk_at dksX2_init_4 17 rfl rfl)
theorem dX2_init_113 : decode cX2_init 113 = .ok (.aload_n 2, 1) := dk_44 (dk_at dksX2_init_4 20 rfl rfl)
theorem dX2_init_114 : decode cX2_init 114 = .ok (.iload_n 3, 1) := dk_29 (dk_at dksX2_init_4 21 rfl rfl)
theorem dX2_init_115 : decode cX2_init 115 = .ok (.invokestatic 42, 3) := dk_184 0 42 (dk_at dksX2_init_5 0 rfl rfl)
theorem dX2_init_118 : decode cX2_init 118 = .ok (.invokeinterface 48 3, 5) := by decide +kernel
theorem dX2_init_123 : decode cX2_init 123 = .ok (.pop, 1) := dk_87 (dk_at dksX2_init_5 8 rfl rfl)
theorem dX2_init_124 : decode cX2_init 124 = .ok (.iconst 0, 1) := dk_3 (dk_at dksX2_init_5 9 rfl rfl)
theorem dX2_init_125 : decode cX2_init 125 = .ok (.istore 4, 2) := dk_54 4 (dk_at dksX2_init_5 10 rfl rfl)
theorem dX2_init_127 : decode cX2_init 127 = .ok (.iload 4, 2) := dk_21 4 (dk_at dksX2_init_5 12 rfl rfl)
theorem dX2_init_129 : decode cX2_init 129 = .ok (.bipush 12, 2) := dk_16 12 (dk_at dksX2_init_5 14 rfl rfl)
theorem dX2_init_131 : decode cX2_init 131 = .ok (.if_icmp .ge 33, 3) := dk_162 0 33 (dk_at dksX2_init_5 16 rfl rfl)
theorem dX2_init_134 : decode cX2_init 134 = .ok (.iconst 0, 1) := dk_3 (dk_at dksX2_init_5 19 rfl rfl)
theorem dX2_init_135 : decode cX2_init 135 = .ok (.istore 5, 2) := dk_54 5 (dk_at dksX2_init_5 20 rfl rfl)
theorem dX2_init_137 : decode cX2_init 137 = .ok (.iload 5, 2) := dk_21 5 (dk_at dksX2_init_5 22 rfl rfl)
theorem dX2_init_139 : decode cX2_init 139 = .ok (.bipush 12, 2) := dk_16 12 (dk_at dksX2_init_6 0 rfl rfl)
theorem dX2_init_141 : decode cX2_init 141 = .ok (.if_icmp .ge 17, 3) := dk_162 0 17 (dk_at dksX2_init_6 2 rfl rfl)
theorem dX2_init_144 : decode cX2_init 144 = .ok (.aload_n 0, 1) := dk_42 (dk_at dksX2_init_6 5 rfl rfl)
theorem dX2_init_145 : decode cX2_init 145 = .ok (.iload 4, 2) := dk_21 4 (dk_at dksX2_init_6 6 rfl rfl)
theorem dX2_init_147 : decode cX2_init 147 = .ok (.iload 5, 2) := dk_21 5 (dk_at dksX2_init_6 8 rfl rfl)
theorem dX2_init_149 : decode cX2_init 149 = .ok (.invokevirtual 54, 3) := dk_182 0 54 (dk_at dksX2_init_6 10 rfl rfl)
theorem dX2_init_152 : decode cX2_init 152 = .ok (.iinc 5 1, 3) := dk_132 5 1 (dk_at dksX2_init_6 13 rfl rfl)
theorem dX2_init_155 : decode cX2_init 155 = .ok (.goto (-18), 3) := dk_167 255 238 (dk_at dksX2_init_6 16 rfl rfl)
theorem dX2_init_158 : decode cX2_init 158 = .ok (.iinc 4 1, 3) := dk_132 4 1 (dk_at dksX2_init_6 19 rfl rfl)
theorem dX2_init_161 : decode cX2_init 161 = .ok (.goto (-34), 3) := dk_167 255 222 (dk_at dksX2_init_7 0 rfl rfl)
theorem dX2_init_164 : decode cX2_init 164 = .ok (.iconst 0, 1) := dk_3 (dk_at dksX2_init_7 3 rfl rfl)
theorem dX2_init_165 : decode cX2_init 165 = .ok (.istore 4, 2) := dk_54 4 (dk_at dksX2_init_7 4 rfl rfl)
theorem dX2_init_167 : decode cX2_init 167 = .ok (.iload 4, 2) := dk_21 4 (dk_at dksX2_init_7 6 rfl rfl)
theorem dX2_init_169 : decode cX2_init 169 = .ok (.bipush 12, 2) := dk_16 12 (dk_at dksX2_init_7 8 rfl rfl)
theorem dX2_init_171 : decode cX2_init 171 = .ok (.if_icmp .ge 51, 3) := dk_162 0 51 (dk_at dksX2_init_7 10 rfl rfl)
theorem dX2_init_174 : decode cX2_init 174 = .ok (.iconst 0, 1) := dk_3 (dk_at dksX2_init_7 13 rfl rfl)
theorem dX2_init_175 : decode cX2_init 175 = .ok (.istore 5, 2) := dk_54 5 (dk_at dksX2_init_7 14 rfl rfl)
theorem dX2_init_177 : decode cX2_init 177 = .ok (.iload 5, 2) := dk_21 5 (dk_at dksX2_init_7 16 rfl rfl)
theorem dX2_init_179 : decode cX2_init 179 = .ok (.bipush 12, 2) := dk_16 12 (dk_at dksX2_init_7 18 rfl rfl)
theorem dX2_init_181 : decode cX2_init 181 = .ok (.if_icmp .ge 35, 3) := dk_162 0 35 (dk_at dksX2_init_7 20 rfl rfl)
theorem dX2_init_184 : decode cX2_init 184 = .ok (.iconst 0, 1) := dk_3 (dk_at dksX2_init_7 23 rfl rfl)
theorem dX2_init_185 : decode cX2_init 185 = .ok (.istore 6, 2) := dk_54 6 (dk_at dksX2_init_8 0 rfl rfl)
theorem dX2_init_187 : decode cX2_init 187 = .ok (.iload 6, 2) := dk_21 6 (dk_at dksX2_init_8 2 rfl rfl)
theorem dX2_init_189 : decode cX2_init 189 = .ok (.bipush 12, 2) := dk_16 12 (dk_at dksX2_init_8 4 rfl rfl)
theorem dX2_init_191 : decode cX2_init 191 = .ok (.if_icmp .ge 19, 3) := dk_162 0 19 (dk_at dksX2_init_8 6 rfl rfl)
theorem dX2_init_194 : decode cX2_init 194 = .ok (.aload_n 0, 1) := dk_42 (dk_at dksX2_init_8 9 rfl rfl)
theorem dX2_init_195 : decode cX2_init 195 = .ok (.iload 5, 2) := dk_21 5 (dk_at dksX2_init_8 10 rfl rfl)
theorem dX2_init_197 : decode cX2_init 197 = .ok (.iload 6, 2) := dk_21 6 (dk_at dksX2_init_8 12 rfl rfl)
theorem dX2_init_199 : decode cX2_init 199 = .ok (.iload 4, 2) := dk_21 4 (dk_at dksX2_init_8 14 rfl rfl)
theorem dX2_init_201 : decode cX2_init 201 = .ok (.invokevirtual 57, 3) := dk_182 0 57 (dk_at dksX2_init_8 16 rfl rfl)
theorem dX2_init_204 : decode cX2_init 204 = .ok (.iinc 6 1, 3) := dk_132 6 1 (dk_at dksX2_init_8 19 rfl rfl)
theorem dX2_init_207 : decode cX2_init 207 = .ok (.goto (-20), 3) := dk_167 255 236 (dk_at dksX2_init_9 0 rfl rfl)
theorem dX2_init_210 : decode cX2_init 210 = .ok (.iinc 5 1, 3) := dk_132 5 1 (dk_at dksX2_init_9 3 rfl rfl)
theorem dX2_init_213 : decode cX2_init 213 = .ok (.goto (-36), 3) := dk_167 255 220 (dk_at dksX2_init_9 6 rfl rfl)
theorem dX2_init_216 : decode cX2_init 216 = .ok (.iinc 4 1, 3) := dk_132 4 1 (dk_at dksX2_init_9 9 rfl rfl)
theorem dX2_init_219 : decode cX2_init 219 = .ok (.goto (-52), 3) := dk_167 255 204 (dk_at dksX2_init_9 12 rfl rfl)
theorem dX2_init_222 : decode cX2_init 222 = .ok (.return_, 1) := dk_177 (dk_at dksX2_init_9 15 rfl rfl)
abbrev cX2_keep : ByteArray := prog_11_method_2_code
def yX2_keep : MethodName := ⟨RX2, "keep", "(LPatrolDesk$Roads;LPatrolDesk$Between;)V"⟩
def dkwX2_keep_1 : List UInt8 := [185, 0, 48, 3, 0, 87, 177]
abbrev dktX2_keep_1 : List UInt8 := dkwX2_keep_1 ++ []
def dkwX2_keep_0 : List UInt8 := [43, 180, 0, 12, 44, 185, 0, 61, 2, 0, 192, 0, 43, 78, 45, 198, 0, 15, 42, 180, 0, 12, 44, 45]
abbrev dktX2_keep_0 : List UInt8 := dkwX2_keep_0 ++ dktX2_keep_1
theorem dksX2_keep_0 : cX2_keep.data.toList.drop 0 = dktX2_keep_0 := by decide +kernel
theorem dksX2_keep_1 : cX2_keep.data.toList.drop 24 = dktX2_keep_1 := dk_seg dksX2_keep_0 24 rfl rfl
theorem dX2_keep_0 : decode cX2_keep 0 = .ok (.aload_n 1, 1) := dk_43 (dk_at dksX2_keep_0 0 rfl rfl)
theorem dX2_keep_1 : decode cX2_keep 1 = .ok (.getfield 12, 3) := dk_180 0 12 (dk_at dksX2_keep_0 1 rfl rfl)
theorem dX2_keep_4 : decode cX2_keep 4 = .ok (.aload_n 2, 1) := dk_44 (dk_at dksX2_keep_0 4 rfl rfl)
theorem dX2_keep_5 : decode cX2_keep 5 = .ok (.invokeinterface 61 2, 5) := by decide +kernel
theorem dX2_keep_10 : decode cX2_keep 10 = .ok (.checkcast 43, 3) := dk_192 0 43 (dk_at dksX2_keep_0 10 rfl rfl)
theorem dX2_keep_13 : decode cX2_keep 13 = .ok (.astore_n 3, 1) := dk_78 (dk_at dksX2_keep_0 13 rfl rfl)
theorem dX2_keep_14 : decode cX2_keep 14 = .ok (.aload_n 3, 1) := dk_45 (dk_at dksX2_keep_0 14 rfl rfl)
theorem dX2_keep_15 : decode cX2_keep 15 = .ok (.ifnull 15, 3) := dk_198 0 15 (dk_at dksX2_keep_0 15 rfl rfl)
theorem dX2_keep_18 : decode cX2_keep 18 = .ok (.aload_n 0, 1) := dk_42 (dk_at dksX2_keep_0 18 rfl rfl)
theorem dX2_keep_19 : decode cX2_keep 19 = .ok (.getfield 12, 3) := dk_180 0 12 (dk_at dksX2_keep_0 19 rfl rfl)
theorem dX2_keep_22 : decode cX2_keep 22 = .ok (.aload_n 2, 1) := dk_44 (dk_at dksX2_keep_0 22 rfl rfl)
theorem dX2_keep_23 : decode cX2_keep 23 = .ok (.aload_n 3, 1) := dk_45 (dk_at dksX2_keep_0 23 rfl rfl)
theorem dX2_keep_24 : decode cX2_keep 24 = .ok (.invokeinterface 48 3, 5) := by decide +kernel
theorem dX2_keep_29 : decode cX2_keep 29 = .ok (.pop, 1) := dk_87 (dk_at dksX2_keep_1 5 rfl rfl)
theorem dX2_keep_30 : decode cX2_keep 30 = .ok (.return_, 1) := dk_177 (dk_at dksX2_keep_1 6 rfl rfl)
abbrev cX2_begin : ByteArray := prog_11_method_3_code
def yX2_begin : MethodName := ⟨RX2, "begin", "(II)V"⟩
def dkwX2_begin_3 : List UInt8 := [180, 0, 29, 1, 185, 0, 69, 2, 0, 87, 177]
abbrev dktX2_begin_3 : List UInt8 := dkwX2_begin_3 ++ []
def dkwX2_begin_2 : List UInt8 := [27, 50, 28, 27, 28, 160, 0, 7, 3, 167, 0, 11, 42, 180, 0, 20, 27, 50, 28, 46, 79, 42]
abbrev dktX2_begin_2 : List UInt8 := dkwX2_begin_2 ++ dktX2_begin_3
def dkwX2_begin_1 : List UInt8 := [180, 0, 20, 27, 50, 28, 45, 199, 0, 8, 16, 251, 167, 0, 7, 45, 182, 0, 65, 79, 42, 180, 0, 23]
abbrev dktX2_begin_1 : List UInt8 := dkwX2_begin_1 ++ dktX2_begin_2
def dkwX2_begin_0 : List UInt8 := [42, 180, 0, 12, 187, 0, 33, 89, 27, 28, 183, 0, 35, 185, 0, 61, 2, 0, 192, 0, 43, 78, 42]
abbrev dktX2_begin_0 : List UInt8 := dkwX2_begin_0 ++ dktX2_begin_1
theorem dksX2_begin_0 : cX2_begin.data.toList.drop 0 = dktX2_begin_0 := by decide +kernel
theorem dksX2_begin_1 : cX2_begin.data.toList.drop 23 = dktX2_begin_1 := dk_seg dksX2_begin_0 23 rfl rfl
theorem dksX2_begin_2 : cX2_begin.data.toList.drop 47 = dktX2_begin_2 := dk_seg dksX2_begin_1 24 rfl rfl
theorem dksX2_begin_3 : cX2_begin.data.toList.drop 69 = dktX2_begin_3 := dk_seg dksX2_begin_2 22 rfl rfl
theorem dX2_begin_0 : decode cX2_begin 0 = .ok (.aload_n 0, 1) := dk_42 (dk_at dksX2_begin_0 0 rfl rfl)
theorem dX2_begin_1 : decode cX2_begin 1 = .ok (.getfield 12, 3) := dk_180 0 12 (dk_at dksX2_begin_0 1 rfl rfl)
theorem dX2_begin_4 : decode cX2_begin 4 = .ok (.new 33, 3) := dk_187 0 33 (dk_at dksX2_begin_0 4 rfl rfl)
theorem dX2_begin_7 : decode cX2_begin 7 = .ok (.dup, 1) := dk_89 (dk_at dksX2_begin_0 7 rfl rfl)
theorem dX2_begin_8 : decode cX2_begin 8 = .ok (.iload_n 1, 1) := dk_27 (dk_at dksX2_begin_0 8 rfl rfl)
theorem dX2_begin_9 : decode cX2_begin 9 = .ok (.iload_n 2, 1) := dk_28 (dk_at dksX2_begin_0 9 rfl rfl)
theorem dX2_begin_10 : decode cX2_begin 10 = .ok (.invokespecial 35, 3) := dk_183 0 35 (dk_at dksX2_begin_0 10 rfl rfl)
theorem dX2_begin_13 : decode cX2_begin 13 = .ok (.invokeinterface 61 2, 5) := by decide +kernel
theorem dX2_begin_18 : decode cX2_begin 18 = .ok (.checkcast 43, 3) := dk_192 0 43 (dk_at dksX2_begin_0 18 rfl rfl)
theorem dX2_begin_21 : decode cX2_begin 21 = .ok (.astore_n 3, 1) := dk_78 (dk_at dksX2_begin_0 21 rfl rfl)
theorem dX2_begin_22 : decode cX2_begin 22 = .ok (.aload_n 0, 1) := dk_42 (dk_at dksX2_begin_0 22 rfl rfl)
theorem dX2_begin_23 : decode cX2_begin 23 = .ok (.getfield 20, 3) := dk_180 0 20 (dk_at dksX2_begin_1 0 rfl rfl)
theorem dX2_begin_26 : decode cX2_begin 26 = .ok (.iload_n 1, 1) := dk_27 (dk_at dksX2_begin_1 3 rfl rfl)
theorem dX2_begin_27 : decode cX2_begin 27 = .ok (.aaload, 1) := dk_50 (dk_at dksX2_begin_1 4 rfl rfl)
theorem dX2_begin_28 : decode cX2_begin 28 = .ok (.iload_n 2, 1) := dk_28 (dk_at dksX2_begin_1 5 rfl rfl)
theorem dX2_begin_29 : decode cX2_begin 29 = .ok (.aload_n 3, 1) := dk_45 (dk_at dksX2_begin_1 6 rfl rfl)
theorem dX2_begin_30 : decode cX2_begin 30 = .ok (.ifnonnull 8, 3) := dk_199 0 8 (dk_at dksX2_begin_1 7 rfl rfl)
theorem dX2_begin_33 : decode cX2_begin 33 = .ok (.bipush (-5), 2) := dk_16 251 (dk_at dksX2_begin_1 10 rfl rfl)
theorem dX2_begin_35 : decode cX2_begin 35 = .ok (.goto 7, 3) := dk_167 0 7 (dk_at dksX2_begin_1 12 rfl rfl)
theorem dX2_begin_38 : decode cX2_begin 38 = .ok (.aload_n 3, 1) := dk_45 (dk_at dksX2_begin_1 15 rfl rfl)
theorem dX2_begin_39 : decode cX2_begin 39 = .ok (.invokevirtual 65, 3) := dk_182 0 65 (dk_at dksX2_begin_1 16 rfl rfl)
theorem dX2_begin_42 : decode cX2_begin 42 = .ok (.iastore, 1) := dk_79 (dk_at dksX2_begin_1 19 rfl rfl)
theorem dX2_begin_43 : decode cX2_begin 43 = .ok (.aload_n 0, 1) := dk_42 (dk_at dksX2_begin_1 20 rfl rfl)
theorem dX2_begin_44 : decode cX2_begin 44 = .ok (.getfield 23, 3) := dk_180 0 23 (dk_at dksX2_begin_1 21 rfl rfl)
theorem dX2_begin_47 : decode cX2_begin 47 = .ok (.iload_n 1, 1) := dk_27 (dk_at dksX2_begin_2 0 rfl rfl)
theorem dX2_begin_48 : decode cX2_begin 48 = .ok (.aaload, 1) := dk_50 (dk_at dksX2_begin_2 1 rfl rfl)
theorem dX2_begin_49 : decode cX2_begin 49 = .ok (.iload_n 2, 1) := dk_28 (dk_at dksX2_begin_2 2 rfl rfl)
theorem dX2_begin_50 : decode cX2_begin 50 = .ok (.iload_n 1, 1) := dk_27 (dk_at dksX2_begin_2 3 rfl rfl)
theorem dX2_begin_51 : decode cX2_begin 51 = .ok (.iload_n 2, 1) := dk_28 (dk_at dksX2_begin_2 4 rfl rfl)
theorem dX2_begin_52 : decode cX2_begin 52 = .ok (.if_icmp .ne 7, 3) := dk_160 0 7 (dk_at dksX2_begin_2 5 rfl rfl)
theorem dX2_begin_55 : decode cX2_begin 55 = .ok (.iconst 0, 1) := dk_3 (dk_at dksX2_begin_2 8 rfl rfl)
theorem dX2_begin_56 : decode cX2_begin 56 = .ok (.goto 11, 3) := dk_167 0 11 (dk_at dksX2_begin_2 9 rfl rfl)
theorem dX2_begin_59 : decode cX2_begin 59 = .ok (.aload_n 0, 1) := dk_42 (dk_at dksX2_begin_2 12 rfl rfl)
theorem dX2_begin_60 : decode cX2_begin 60 = .ok (.getfield 20, 3) := dk_180 0 20 (dk_at dksX2_begin_2 13 rfl rfl)
theorem dX2_begin_63 : decode cX2_begin 63 = .ok (.iload_n 1, 1) := dk_27 (dk_at dksX2_begin_2 16 rfl rfl)
theorem dX2_begin_64 : decode cX2_begin 64 = .ok (.aaload, 1) := dk_50 (dk_at dksX2_begin_2 17 rfl rfl)
theorem dX2_begin_65 : decode cX2_begin 65 = .ok (.iload_n 2, 1) := dk_28 (dk_at dksX2_begin_2 18 rfl rfl)
theorem dX2_begin_66 : decode cX2_begin 66 = .ok (.iaload, 1) := dk_46 (dk_at dksX2_begin_2 19 rfl rfl)
theorem dX2_begin_67 : decode cX2_begin 67 = .ok (.iastore, 1) := dk_79 (dk_at dksX2_begin_2 20 rfl rfl)
theorem dX2_begin_68 : decode cX2_begin 68 = .ok (.aload_n 0, 1) := dk_42 (dk_at dksX2_begin_2 21 rfl rfl)
theorem dX2_begin_69 : decode cX2_begin 69 = .ok (.getfield 29, 3) := dk_180 0 29 (dk_at dksX2_begin_3 0 rfl rfl)
theorem dX2_begin_72 : decode cX2_begin 72 = .ok (.aconst_null, 1) := dk_1 (dk_at dksX2_begin_3 3 rfl rfl)
theorem dX2_begin_73 : decode cX2_begin 73 = .ok (.invokeinterface 69 2, 5) := by decide +kernel
theorem dX2_begin_78 : decode cX2_begin 78 = .ok (.pop, 1) := dk_87 (dk_at dksX2_begin_3 9 rfl rfl)
theorem dX2_begin_79 : decode cX2_begin 79 = .ok (.return_, 1) := dk_177 (dk_at dksX2_begin_3 10 rfl rfl)
abbrev cX2_comeNearer : ByteArray := prog_11_method_5_code
def yX2_comeNearer : MethodName := ⟨RX2, "comeNearer", "(III)V"⟩
def dkwX2_comeNearer_3 : List UInt8 := [162, 0, 13, 42, 180, 0, 23, 27, 50, 28, 21, 4, 79, 177]
abbrev dktX2_comeNearer_3 : List UInt8 := dkwX2_comeNearer_3 ++ []
def dkwX2_comeNearer_2 : List UInt8 := [180, 0, 23, 27, 50, 28, 46, 16, 251, 159, 0, 16, 21, 4, 42, 180, 0, 23, 27, 50, 28, 46]
abbrev dktX2_comeNearer_2 : List UInt8 := dkwX2_comeNearer_2 ++ dktX2_comeNearer_3
def dkwX2_comeNearer_1 : List UInt8 := [160, 0, 4, 177, 42, 180, 0, 23, 27, 50, 29, 46, 42, 180, 0, 23, 29, 50, 28, 46, 96, 54, 4, 42]
abbrev dktX2_comeNearer_1 : List UInt8 := dkwX2_comeNearer_1 ++ dktX2_comeNearer_2
def dkwX2_comeNearer_0 : List UInt8 := [42, 180, 0, 23, 27, 50, 29, 46, 16, 251, 159, 0, 16, 42, 180, 0, 23, 29, 50, 28, 46, 16, 251]
abbrev dktX2_comeNearer_0 : List UInt8 := dkwX2_comeNearer_0 ++ dktX2_comeNearer_1
theorem dksX2_comeNearer_0 : cX2_comeNearer.data.toList.drop 0 = dktX2_comeNearer_0 := by decide +kernel
theorem dksX2_comeNearer_1 : cX2_comeNearer.data.toList.drop 23 = dktX2_comeNearer_1 := dk_seg dksX2_comeNearer_0 23 rfl rfl
theorem dksX2_comeNearer_2 : cX2_comeNearer.data.toList.drop 47 = dktX2_comeNearer_2 := dk_seg dksX2_comeNearer_1 24 rfl rfl
theorem dksX2_comeNearer_3 : cX2_comeNearer.data.toList.drop 69 = dktX2_comeNearer_3 := dk_seg dksX2_comeNearer_2 22 rfl rfl
theorem dX2_comeNearer_0 : decode cX2_comeNearer 0 = .ok (.aload_n 0, 1) := dk_42 (dk_at dksX2_comeNearer_0 0 rfl rfl)
theorem dX2_comeNearer_1 : decode cX2_comeNearer 1 = .ok (.getfield 23, 3) := dk_180 0 23 (dk_at dksX2_comeNearer_0 1 rfl rfl)
theorem dX2_comeNearer_4 : decode cX2_comeNearer 4 = .ok (.iload_n 1, 1) := dk_27 (dk_at dksX2_comeNearer_0 4 rfl rfl)
theorem dX2_comeNearer_5 : decode cX2_comeNearer 5 = .ok (.aaload, 1) := dk_50 (dk_at dksX2_comeNearer_0 5 rfl rfl)
theorem dX2_comeNearer_6 : decode cX2_comeNearer 6 = .ok (.iload_n 3, 1) := dk_29 (dk_at dksX2_comeNearer_0 6 rfl rfl)
theorem dX2_comeNearer_7 : decode cX2_comeNearer 7 = .ok (.iaload, 1) := dk_46 (dk_at dksX2_comeNearer_0 7 rfl rfl)
theorem dX2_comeNearer_8 : decode cX2_comeNearer 8 = .ok (.bipush (-5), 2) := dk_16 251 (dk_at dksX2_comeNearer_0 8 rfl rfl)
theorem dX2_comeNearer_10 : decode cX2_comeNearer 10 = .ok (.if_icmp .eq 16, 3) := dk_159 0 16 (dk_at dksX2_comeNearer_0 10 rfl rfl)
theorem dX2_comeNearer_13 : decode cX2_comeNearer 13 = .ok (.aload_n 0, 1) := dk_42 (dk_at dksX2_comeNearer_0 13 rfl rfl)
theorem dX2_comeNearer_14 : decode cX2_comeNearer 14 = .ok (.getfield 23, 3) := dk_180 0 23 (dk_at dksX2_comeNearer_0 14 rfl rfl)
theorem dX2_comeNearer_17 : decode cX2_comeNearer 17 = .ok (.iload_n 3, 1) := dk_29 (dk_at dksX2_comeNearer_0 17 rfl rfl)
theorem dX2_comeNearer_18 : decode cX2_comeNearer 18 = .ok (.aaload, 1) := dk_50 (dk_at dksX2_comeNearer_0 18 rfl rfl)
theorem dX2_comeNearer_19 : decode cX2_comeNearer 19 = .ok (.iload_n 2, 1) := dk_28 (dk_at dksX2_comeNearer_0 19 rfl rfl)
theorem dX2_comeNearer_20 : decode cX2_comeNearer 20 = .ok (.iaload, 1) := dk_46 (dk_at dksX2_comeNearer_0 20 rfl rfl)
theorem dX2_comeNearer_21 : decode cX2_comeNearer 21 = .ok (.bipush (-5), 2) := dk_16 251 (dk_at dksX2_comeNearer_0 21 rfl rfl)
theorem dX2_comeNearer_23 : decode cX2_comeNearer 23 = .ok (.if_icmp .ne 4, 3) := dk_160 0 4 (dk_at dksX2_comeNearer_1 0 rfl rfl)
theorem dX2_comeNearer_26 : decode cX2_comeNearer 26 = .ok (.return_, 1) := dk_177 (dk_at dksX2_comeNearer_1 3 rfl rfl)
theorem dX2_comeNearer_27 : decode cX2_comeNearer 27 = .ok (.aload_n 0, 1) := dk_42 (dk_at dksX2_comeNearer_1 4 rfl rfl)
theorem dX2_comeNearer_28 : decode cX2_comeNearer 28 = .ok (.getfield 23, 3) := dk_180 0 23 (dk_at dksX2_comeNearer_1 5 rfl rfl)
theorem dX2_comeNearer_31 : decode cX2_comeNearer 31 = .ok (.iload_n 1, 1) := dk_27 (dk_at dksX2_comeNearer_1 8 rfl rfl)
theorem dX2_comeNearer_32 : decode cX2_comeNearer 32 = .ok (.aaload, 1) := dk_50 (dk_at dksX2_comeNearer_1 9 rfl rfl)
theorem dX2_comeNearer_33 : decode cX2_comeNearer 33 = .ok (.iload_n 3, 1) := dk_29 (dk_at dksX2_comeNearer_1 10 rfl rfl)
theorem dX2_comeNearer_34 : decode cX2_comeNearer 34 = .ok (.iaload, 1) := dk_46 (dk_at dksX2_comeNearer_1 11 rfl rfl)
theorem dX2_comeNearer_35 : decode cX2_comeNearer 35 = .ok (.aload_n 0, 1) := dk_42 (dk_at dksX2_comeNearer_1 12 rfl rfl)
theorem dX2_comeNearer_36 : decode cX2_comeNearer 36 = .ok (.getfield 23, 3) := dk_180 0 23 (dk_at dksX2_comeNearer_1 13 rfl rfl)
theorem dX2_comeNearer_39 : decode cX2_comeNearer 39 = .ok (.iload_n 3, 1) := dk_29 (dk_at dksX2_comeNearer_1 16 rfl rfl)
theorem dX2_comeNearer_40 : decode cX2_comeNearer 40 = .ok (.aaload, 1) := dk_50 (dk_at dksX2_comeNearer_1 17 rfl rfl)
theorem dX2_comeNearer_41 : decode cX2_comeNearer 41 = .ok (.iload_n 2, 1) := dk_28 (dk_at dksX2_comeNearer_1 18 rfl rfl)
theorem dX2_comeNearer_42 : decode cX2_comeNearer 42 = .ok (.iaload, 1) := dk_46 (dk_at dksX2_comeNearer_1 19 rfl rfl)
theorem dX2_comeNearer_43 : decode cX2_comeNearer 43 = .ok (.iadd, 1) := dk_96 (dk_at dksX2_comeNearer_1 20 rfl rfl)
theorem dX2_comeNearer_44 : decode cX2_comeNearer 44 = .ok (.istore 4, 2) := dk_54 4 (dk_at dksX2_comeNearer_1 21 rfl rfl)
theorem dX2_comeNearer_46 : decode cX2_comeNearer 46 = .ok (.aload_n 0, 1) := dk_42 (dk_at dksX2_comeNearer_1 23 rfl rfl)
theorem dX2_comeNearer_47 : decode cX2_comeNearer 47 = .ok (.getfield 23, 3) := dk_180 0 23 (dk_at dksX2_comeNearer_2 0 rfl rfl)
theorem dX2_comeNearer_50 : decode cX2_comeNearer 50 = .ok (.iload_n 1, 1) := dk_27 (dk_at dksX2_comeNearer_2 3 rfl rfl)
theorem dX2_comeNearer_51 : decode cX2_comeNearer 51 = .ok (.aaload, 1) := dk_50 (dk_at dksX2_comeNearer_2 4 rfl rfl)
theorem dX2_comeNearer_52 : decode cX2_comeNearer 52 = .ok (.iload_n 2, 1) := dk_28 (dk_at dksX2_comeNearer_2 5 rfl rfl)
theorem dX2_comeNearer_53 : decode cX2_comeNearer 53 = .ok (.iaload, 1) := dk_46 (dk_at dksX2_comeNearer_2 6 rfl rfl)
theorem dX2_comeNearer_54 : decode cX2_comeNearer 54 = .ok (.bipush (-5), 2) := dk_16 251 (dk_at dksX2_comeNearer_2 7 rfl rfl)
theorem dX2_comeNearer_56 : decode cX2_comeNearer 56 = .ok (.if_icmp .eq 16, 3) := dk_159 0 16 (dk_at dksX2_comeNearer_2 9 rfl rfl)
theorem dX2_comeNearer_59 : decode cX2_comeNearer 59 = .ok (.iload 4, 2) := dk_21 4 (dk_at dksX2_comeNearer_2 12 rfl rfl)
theorem dX2_comeNearer_61 : decode cX2_comeNearer 61 = .ok (.aload_n 0, 1) := dk_42 (dk_at dksX2_comeNearer_2 14 rfl rfl)
theorem dX2_comeNearer_62 : decode cX2_comeNearer 62 = .ok (.getfield 23, 3) := dk_180 0 23 (dk_at dksX2_comeNearer_2 15 rfl rfl)
theorem dX2_comeNearer_65 : decode cX2_comeNearer 65 = .ok (.iload_n 1, 1) := dk_27 (dk_at dksX2_comeNearer_2 18 rfl rfl)
theorem dX2_comeNearer_66 : decode cX2_comeNearer 66 = .ok (.aaload, 1) := dk_50 (dk_at dksX2_comeNearer_2 19 rfl rfl)
theorem dX2_comeNearer_67 : decode cX2_comeNearer 67 = .ok (.iload_n 2, 1) := dk_28 (dk_at dksX2_comeNearer_2 20 rfl rfl)
theorem dX2_comeNearer_68 : decode cX2_comeNearer 68 = .ok (.iaload, 1) := dk_46 (dk_at dksX2_comeNearer_2 21 rfl rfl)
theorem dX2_comeNearer_69 : decode cX2_comeNearer 69 = .ok (.if_icmp .ge 13, 3) := dk_162 0 13 (dk_at dksX2_comeNearer_3 0 rfl rfl)
theorem dX2_comeNearer_72 : decode cX2_comeNearer 72 = .ok (.aload_n 0, 1) := dk_42 (dk_at dksX2_comeNearer_3 3 rfl rfl)
theorem dX2_comeNearer_73 : decode cX2_comeNearer 73 = .ok (.getfield 23, 3) := dk_180 0 23 (dk_at dksX2_comeNearer_3 4 rfl rfl)
theorem dX2_comeNearer_76 : decode cX2_comeNearer 76 = .ok (.iload_n 1, 1) := dk_27 (dk_at dksX2_comeNearer_3 7 rfl rfl)
theorem dX2_comeNearer_77 : decode cX2_comeNearer 77 = .ok (.aaload, 1) := dk_50 (dk_at dksX2_comeNearer_3 8 rfl rfl)
theorem dX2_comeNearer_78 : decode cX2_comeNearer 78 = .ok (.iload_n 2, 1) := dk_28 (dk_at dksX2_comeNearer_3 9 rfl rfl)
theorem dX2_comeNearer_79 : decode cX2_comeNearer 79 = .ok (.iload 4, 2) := dk_21 4 (dk_at dksX2_comeNearer_3 10 rfl rfl)
theorem dX2_comeNearer_81 : decode cX2_comeNearer 81 = .ok (.iastore, 1) := dk_79 (dk_at dksX2_comeNearer_3 12 rfl rfl)
theorem dX2_comeNearer_82 : decode cX2_comeNearer 82 = .ok (.return_, 1) := dk_177 (dk_at dksX2_comeNearer_3 13 rfl rfl)
abbrev cX2_lengthOf : ByteArray := prog_11_method_4_code
def yX2_lengthOf : MethodName := ⟨RX2, "lengthOf", "(II)I"⟩
def dkwX2_lengthOf_0 : List UInt8 := [42, 180, 0, 20, 27, 50, 28, 46, 172]
abbrev dktX2_lengthOf_0 : List UInt8 := dkwX2_lengthOf_0 ++ []
theorem dksX2_lengthOf_0 : cX2_lengthOf.data.toList.drop 0 = dktX2_lengthOf_0 := by decide +kernel
theorem dX2_lengthOf_0 : decode cX2_lengthOf 0 = .ok (.aload_n 0, 1) := dk_42 (dk_at dksX2_lengthOf_0 0 rfl rfl)
theorem dX2_lengthOf_1 : decode cX2_lengthOf 1 = .ok (.getfield 20, 3) := dk_180 0 20 (dk_at dksX2_lengthOf_0 1 rfl rfl)
theorem dX2_lengthOf_4 : decode cX2_lengthOf 4 = .ok (.iload_n 1, 1) := dk_27 (dk_at dksX2_lengthOf_0 4 rfl rfl)
theorem dX2_lengthOf_5 : decode cX2_lengthOf 5 = .ok (.aaload, 1) := dk_50 (dk_at dksX2_lengthOf_0 5 rfl rfl)
theorem dX2_lengthOf_6 : decode cX2_lengthOf 6 = .ok (.iload_n 2, 1) := dk_28 (dk_at dksX2_lengthOf_0 6 rfl rfl)
theorem dX2_lengthOf_7 : decode cX2_lengthOf 7 = .ok (.iaload, 1) := dk_46 (dk_at dksX2_lengthOf_0 7 rfl rfl)
theorem dX2_lengthOf_8 : decode cX2_lengthOf 8 = .ok (.ireturn, 1) := dk_172 (dk_at dksX2_lengthOf_0 8 rfl rfl)
abbrev cX2_way : ByteArray := prog_11_method_7_code
def yX2_way : MethodName := ⟨RX2, "way", "(II)Ljava/util/List;"⟩
def dkwX2_way_2 : List UInt8 := [28, 96, 185, 0, 79, 2, 0, 192, 0, 70, 176]
abbrev dktX2_way_2 : List UInt8 := dkwX2_way_2 ++ []
def dkwX2_way_1 : List UInt8 := [27, 104, 28, 96, 42, 27, 28, 182, 0, 82, 185, 0, 86, 3, 0, 87, 42, 180, 0, 29, 16, 12, 27, 104]
abbrev dktX2_way_1 : List UInt8 := dkwX2_way_1 ++ dktX2_way_2
def dkwX2_way_0 : List UInt8 := [42, 180, 0, 29, 16, 12, 27, 104, 28, 96, 185, 0, 79, 2, 0, 199, 0, 25, 42, 180, 0, 29, 16, 12]
abbrev dktX2_way_0 : List UInt8 := dkwX2_way_0 ++ dktX2_way_1
theorem dksX2_way_0 : cX2_way.data.toList.drop 0 = dktX2_way_0 := by decide +kernel
theorem dksX2_way_1 : cX2_way.data.toList.drop 24 = dktX2_way_1 := dk_seg dksX2_way_0 24 rfl rfl
theorem dksX2_way_2 : cX2_way.data.toList.drop 48 = dktX2_way_2 := dk_seg dksX2_way_1 24 rfl rfl
theorem dX2_way_0 : decode cX2_way 0 = .ok (.aload_n 0, 1) := dk_42 (dk_at dksX2_way_0 0 rfl rfl)
theorem dX2_way_1 : decode cX2_way 1 = .ok (.getfield 29, 3) := dk_180 0 29 (dk_at dksX2_way_0 1 rfl rfl)
theorem dX2_way_4 : decode cX2_way 4 = .ok (.bipush 12, 2) := dk_16 12 (dk_at dksX2_way_0 4 rfl rfl)
theorem dX2_way_6 : decode cX2_way 6 = .ok (.iload_n 1, 1) := dk_27 (dk_at dksX2_way_0 6 rfl rfl)
theorem dX2_way_7 : decode cX2_way 7 = .ok (.imul, 1) := dk_104 (dk_at dksX2_way_0 7 rfl rfl)
theorem dX2_way_8 : decode cX2_way 8 = .ok (.iload_n 2, 1) := dk_28 (dk_at dksX2_way_0 8 rfl rfl)
theorem dX2_way_9 : decode cX2_way 9 = .ok (.iadd, 1) := dk_96 (dk_at dksX2_way_0 9 rfl rfl)
theorem dX2_way_10 : decode cX2_way 10 = .ok (.invokeinterface 79 2, 5) := by decide +kernel
theorem dX2_way_15 : decode cX2_way 15 = .ok (.ifnonnull 25, 3) := dk_199 0 25 (dk_at dksX2_way_0 15 rfl rfl)
theorem dX2_way_18 : decode cX2_way 18 = .ok (.aload_n 0, 1) := dk_42 (dk_at dksX2_way_0 18 rfl rfl)
theorem dX2_way_19 : decode cX2_way 19 = .ok (.getfield 29, 3) := dk_180 0 29 (dk_at dksX2_way_0 19 rfl rfl)
theorem dX2_way_22 : decode cX2_way 22 = .ok (.bipush 12, 2) := dk_16 12 (dk_at dksX2_way_0 22 rfl rfl)
theorem dX2_way_24 : decode cX2_way 24 = .ok (.iload_n 1, 1) := dk_27 (dk_at dksX2_way_1 0 rfl rfl)
theorem dX2_way_25 : decode cX2_way 25 = .ok (.imul, 1) := dk_104 (dk_at dksX2_way_1 1 rfl rfl)
theorem dX2_way_26 : decode cX2_way 26 = .ok (.iload_n 2, 1) := dk_28 (dk_at dksX2_way_1 2 rfl rfl)
theorem dX2_way_27 : decode cX2_way 27 = .ok (.iadd, 1) := dk_96 (dk_at dksX2_way_1 3 rfl rfl)
theorem dX2_way_28 : decode cX2_way 28 = .ok (.aload_n 0, 1) := dk_42 (dk_at dksX2_way_1 4 rfl rfl)
theorem dX2_way_29 : decode cX2_way 29 = .ok (.iload_n 1, 1) := dk_27 (dk_at dksX2_way_1 5 rfl rfl)
theorem dX2_way_30 : decode cX2_way 30 = .ok (.iload_n 2, 1) := dk_28 (dk_at dksX2_way_1 6 rfl rfl)
theorem dX2_way_31 : decode cX2_way 31 = .ok (.invokevirtual 82, 3) := dk_182 0 82 (dk_at dksX2_way_1 7 rfl rfl)
theorem dX2_way_34 : decode cX2_way 34 = .ok (.invokeinterface 86 3, 5) := by decide +kernel
theorem dX2_way_39 : decode cX2_way 39 = .ok (.pop, 1) := dk_87 (dk_at dksX2_way_1 15 rfl rfl)
theorem dX2_way_40 : decode cX2_way 40 = .ok (.aload_n 0, 1) := dk_42 (dk_at dksX2_way_1 16 rfl rfl)
theorem dX2_way_41 : decode cX2_way 41 = .ok (.getfield 29, 3) := dk_180 0 29 (dk_at dksX2_way_1 17 rfl rfl)
theorem dX2_way_44 : decode cX2_way 44 = .ok (.bipush 12, 2) := dk_16 12 (dk_at dksX2_way_1 20 rfl rfl)
theorem dX2_way_46 : decode cX2_way 46 = .ok (.iload_n 1, 1) := dk_27 (dk_at dksX2_way_1 22 rfl rfl)
theorem dX2_way_47 : decode cX2_way 47 = .ok (.imul, 1) := dk_104 (dk_at dksX2_way_1 23 rfl rfl)
theorem dX2_way_48 : decode cX2_way 48 = .ok (.iload_n 2, 1) := dk_28 (dk_at dksX2_way_2 0 rfl rfl)
theorem dX2_way_49 : decode cX2_way 49 = .ok (.iadd, 1) := dk_96 (dk_at dksX2_way_2 1 rfl rfl)
theorem dX2_way_50 : decode cX2_way 50 = .ok (.invokeinterface 79 2, 5) := by decide +kernel
theorem dX2_way_55 : decode cX2_way 55 = .ok (.checkcast 70, 3) := dk_192 0 70 (dk_at dksX2_way_2 7 rfl rfl)
theorem dX2_way_58 : decode cX2_way 58 = .ok (.areturn, 1) := dk_176 (dk_at dksX2_way_2 10 rfl rfl)
abbrev cX2_lay : ByteArray := prog_11_method_8_code
def yX2_lay : MethodName := ⟨RX2, "lay", "(II)Ljava/util/List;"⟩
def dkwX2_lay_4 : List UInt8 := [54, 5, 167, 255, 198, 45, 176]
abbrev dktX2_lay_4 : List UInt8 := dkwX2_lay_4 ++ []
def dkwX2_lay_3 : List UInt8 := [185, 0, 69, 2, 0, 87, 21, 5, 28, 160, 0, 8, 16, 251, 167, 0, 10, 42, 21, 5, 28, 182, 0, 101]
abbrev dktX2_lay_3 : List UInt8 := dkwX2_lay_3 ++ dktX2_lay_4
def dkwX2_lay_2 : List UInt8 := [89, 21, 5, 183, 0, 95, 185, 0, 98, 2, 0, 153, 0, 38, 45, 21, 5, 184, 0, 42]
abbrev dktX2_lay_2 : List UInt8 := dkwX2_lay_2 ++ dktX2_lay_3
def dkwX2_lay_1 : List UInt8 := [187, 0, 90, 89, 183, 0, 92, 58, 4, 27, 54, 5, 21, 5, 16, 251, 159, 0, 57, 25, 4, 187, 0, 93]
abbrev dktX2_lay_1 : List UInt8 := dkwX2_lay_1 ++ dktX2_lay_2
def dkwX2_lay_0 : List UInt8 := [187, 0, 26, 89, 183, 0, 28, 78, 42, 180, 0, 23, 27, 50, 28, 46, 16, 251, 160, 0, 5, 45, 176]
abbrev dktX2_lay_0 : List UInt8 := dkwX2_lay_0 ++ dktX2_lay_1
theorem dksX2_lay_0 : cX2_lay.data.toList.drop 0 = dktX2_lay_0 := by decide +kernel
theorem dksX2_lay_1 : cX2_lay.data.toList.drop 23 = dktX2_lay_1 := dk_seg dksX2_lay_0 23 rfl rfl
theorem dksX2_lay_2 : cX2_lay.data.toList.drop 47 = dktX2_lay_2 := dk_seg dksX2_lay_1 24 rfl rfl
theorem dksX2_lay_3 : cX2_lay.data.toList.drop 67 = dktX2_lay_3 := dk_seg dksX2_lay_2 20 rfl rfl
theorem dksX2_lay_4 : cX2_lay.data.toList.drop 91 = dktX2_lay_4 := dk_seg dksX2_lay_3 24 rfl rfl
theorem dX2_lay_0 : decode cX2_lay 0 = .ok (.new 26, 3) := dk_187 0 26 (dk_at dksX2_lay_0 0 rfl rfl)
theorem dX2_lay_3 : decode cX2_lay 3 = .ok (.dup, 1) := dk_89 (dk_at dksX2_lay_0 3 rfl rfl)
theorem dX2_lay_4 : decode cX2_lay 4 = .ok (.invokespecial 28, 3) := dk_183 0 28 (dk_at dksX2_lay_0 4 rfl rfl)
theorem dX2_lay_7 : decode cX2_lay 7 = .ok (.astore_n 3, 1) := dk_78 (dk_at dksX2_lay_0 7 rfl rfl)
theorem dX2_lay_8 : decode cX2_lay 8 = .ok (.aload_n 0, 1) := dk_42 (dk_at dksX2_lay_0 8 rfl rfl)
theorem dX2_lay_9 : decode cX2_lay 9 = .ok (.getfield 23, 3) := dk_180 0 23 (dk_at dksX2_lay_0 9 rfl rfl)
theorem dX2_lay_12 : decode cX2_lay 12 = .ok (.iload_n 1, 1) := dk_27 (dk_at dksX2_lay_0 12 rfl rfl)
theorem dX2_lay_13 : decode cX2_lay 13 = .ok (.aaload, 1) := dk_50 (dk_at dksX2_lay_0 13 rfl rfl)
theorem dX2_lay_14 : decode cX2_lay 14 = .ok (.iload_n 2, 1) := dk_28 (dk_at dksX2_lay_0 14 rfl rfl)
theorem dX2_lay_15 : decode cX2_lay 15 = .ok (.iaload, 1) := dk_46 (dk_at dksX2_lay_0 15 rfl rfl)
theorem dX2_lay_16 : decode cX2_lay 16 = .ok (.bipush (-5), 2) := dk_16 251 (dk_at dksX2_lay_0 16 rfl rfl)
theorem dX2_lay_18 : decode cX2_lay 18 = .ok (.if_icmp .ne 5, 3) := dk_160 0 5 (dk_at dksX2_lay_0 18 rfl rfl)
theorem dX2_lay_21 : decode cX2_lay 21 = .ok (.aload_n 3, 1) := dk_45 (dk_at dksX2_lay_0 21 rfl rfl)
theorem dX2_lay_22 : decode cX2_lay 22 = .ok (.areturn, 1) := dk_176 (dk_at dksX2_lay_0 22 rfl rfl)
theorem dX2_lay_23 : decode cX2_lay 23 = .ok (.new 90, 3) := dk_187 0 90 (dk_at dksX2_lay_1 0 rfl rfl)
theorem dX2_lay_26 : decode cX2_lay 26 = .ok (.dup, 1) := dk_89 (dk_at dksX2_lay_1 3 rfl rfl)
theorem dX2_lay_27 : decode cX2_lay 27 = .ok (.invokespecial 92, 3) := dk_183 0 92 (dk_at dksX2_lay_1 4 rfl rfl)
theorem dX2_lay_30 : decode cX2_lay 30 = .ok (.astore 4, 2) := dk_58 4 (dk_at dksX2_lay_1 7 rfl rfl)
theorem dX2_lay_32 : decode cX2_lay 32 = .ok (.iload_n 1, 1) := dk_27 (dk_at dksX2_lay_1 9 rfl rfl)
theorem dX2_lay_33 : decode cX2_lay 33 = .ok (.istore 5, 2) := dk_54 5 (dk_at dksX2_lay_1 10 rfl rfl)
theorem dX2_lay_35 : decode cX2_lay 35 = .ok (.iload 5, 2) := dk_21 5 (dk_at dksX2_lay_1 12 rfl rfl)
theorem dX2_lay_37 : decode cX2_lay 37 = .ok (.bipush (-5), 2) := dk_16 251 (dk_at dksX2_lay_1 14 rfl rfl)
theorem dX2_lay_39 : decode cX2_lay 39 = .ok (.if_icmp .eq 57, 3) := dk_159 0 57 (dk_at dksX2_lay_1 16 rfl rfl)
theorem dX2_lay_42 : decode cX2_lay 42 = .ok (.aload 4, 2) := dk_25 4 (dk_at dksX2_lay_1 19 rfl rfl)
theorem dX2_lay_44 : decode cX2_lay 44 = .ok (.new 93, 3) := dk_187 0 93 (dk_at dksX2_lay_1 21 rfl rfl)
theorem dX2_lay_47 : decode cX2_lay 47 = .ok (.dup, 1) := dk_89 (dk_at dksX2_lay_2 0 rfl rfl)
theorem dX2_lay_48 : decode cX2_lay 48 = .ok (.iload 5, 2) := dk_21 5 (dk_at dksX2_lay_2 1 rfl rfl)
theorem dX2_lay_50 : decode cX2_lay 50 = .ok (.invokespecial 95, 3) := dk_183 0 95 (dk_at dksX2_lay_2 3 rfl rfl)
theorem dX2_lay_53 : decode cX2_lay 53 = .ok (.invokeinterface 98 2, 5) := by decide +kernel
theorem dX2_lay_58 : decode cX2_lay 58 = .ok (.ifCond .eq 38, 3) := dk_153 0 38 (dk_at dksX2_lay_2 11 rfl rfl)
theorem dX2_lay_61 : decode cX2_lay 61 = .ok (.aload_n 3, 1) := dk_45 (dk_at dksX2_lay_2 14 rfl rfl)
theorem dX2_lay_62 : decode cX2_lay 62 = .ok (.iload 5, 2) := dk_21 5 (dk_at dksX2_lay_2 15 rfl rfl)
theorem dX2_lay_64 : decode cX2_lay 64 = .ok (.invokestatic 42, 3) := dk_184 0 42 (dk_at dksX2_lay_2 17 rfl rfl)
theorem dX2_lay_67 : decode cX2_lay 67 = .ok (.invokeinterface 69 2, 5) := by decide +kernel
theorem dX2_lay_72 : decode cX2_lay 72 = .ok (.pop, 1) := dk_87 (dk_at dksX2_lay_3 5 rfl rfl)
theorem dX2_lay_73 : decode cX2_lay 73 = .ok (.iload 5, 2) := dk_21 5 (dk_at dksX2_lay_3 6 rfl rfl)
theorem dX2_lay_75 : decode cX2_lay 75 = .ok (.iload_n 2, 1) := dk_28 (dk_at dksX2_lay_3 8 rfl rfl)
theorem dX2_lay_76 : decode cX2_lay 76 = .ok (.if_icmp .ne 8, 3) := dk_160 0 8 (dk_at dksX2_lay_3 9 rfl rfl)
theorem dX2_lay_79 : decode cX2_lay 79 = .ok (.bipush (-5), 2) := dk_16 251 (dk_at dksX2_lay_3 12 rfl rfl)
theorem dX2_lay_81 : decode cX2_lay 81 = .ok (.goto 10, 3) := dk_167 0 10 (dk_at dksX2_lay_3 14 rfl rfl)
theorem dX2_lay_84 : decode cX2_lay 84 = .ok (.aload_n 0, 1) := dk_42 (dk_at dksX2_lay_3 17 rfl rfl)
theorem dX2_lay_85 : decode cX2_lay 85 = .ok (.iload 5, 2) := dk_21 5 (dk_at dksX2_lay_3 18 rfl rfl)
theorem dX2_lay_87 : decode cX2_lay 87 = .ok (.iload_n 2, 1) := dk_28 (dk_at dksX2_lay_3 20 rfl rfl)
theorem dX2_lay_88 : decode cX2_lay 88 = .ok (.invokevirtual 101, 3) := dk_182 0 101 (dk_at dksX2_lay_3 21 rfl rfl)
theorem dX2_lay_91 : decode cX2_lay 91 = .ok (.istore 5, 2) := dk_54 5 (dk_at dksX2_lay_4 0 rfl rfl)
theorem dX2_lay_93 : decode cX2_lay 93 = .ok (.goto (-58), 3) := dk_167 255 198 (dk_at dksX2_lay_4 2 rfl rfl)
theorem dX2_lay_96 : decode cX2_lay 96 = .ok (.aload_n 3, 1) := dk_45 (dk_at dksX2_lay_4 5 rfl rfl)
theorem dX2_lay_97 : decode cX2_lay 97 = .ok (.areturn, 1) := dk_176 (dk_at dksX2_lay_4 6 rfl rfl)
abbrev cX2_next : ByteArray := prog_11_method_6_code
def yX2_next : MethodName := ⟨RX2, "next", "(II)I"⟩
def dkwX2_next_3 : List UInt8 := [132, 3, 1, 167, 255, 185, 16, 251, 172]
abbrev dktX2_next_3 : List UInt8 := dkwX2_next_3 ++ []
def dkwX2_next_2 : List UInt8 := [42, 180, 0, 23, 29, 50, 28, 46, 96, 42, 180, 0, 23, 27, 50, 28, 46, 160, 0, 5, 29, 172]
abbrev dktX2_next_2 : List UInt8 := dkwX2_next_2 ++ dktX2_next_3
def dkwX2_next_1 : List UInt8 := [54, 4, 21, 4, 16, 251, 159, 0, 40, 42, 180, 0, 23, 29, 50, 28, 46, 16, 251, 159, 0, 27, 21, 4]
abbrev dktX2_next_1 : List UInt8 := dkwX2_next_1 ++ dktX2_next_2
def dkwX2_next_0 : List UInt8 := [3, 62, 29, 16, 12, 162, 0, 71, 29, 27, 160, 0, 8, 16, 251, 167, 0, 9, 42, 27, 29, 182, 0, 75]
abbrev dktX2_next_0 : List UInt8 := dkwX2_next_0 ++ dktX2_next_1
theorem dksX2_next_0 : cX2_next.data.toList.drop 0 = dktX2_next_0 := by decide +kernel
theorem dksX2_next_1 : cX2_next.data.toList.drop 24 = dktX2_next_1 := dk_seg dksX2_next_0 24 rfl rfl
theorem dksX2_next_2 : cX2_next.data.toList.drop 48 = dktX2_next_2 := dk_seg dksX2_next_1 24 rfl rfl
theorem dksX2_next_3 : cX2_next.data.toList.drop 70 = dktX2_next_3 := dk_seg dksX2_next_2 22 rfl rfl
theorem dX2_next_0 : decode cX2_next 0 = .ok (.iconst 0, 1) := dk_3 (dk_at dksX2_next_0 0 rfl rfl)
theorem dX2_next_1 : decode cX2_next 1 = .ok (.istore_n 3, 1) := dk_62 (dk_at dksX2_next_0 1 rfl rfl)
theorem dX2_next_2 : decode cX2_next 2 = .ok (.iload_n 3, 1) := dk_29 (dk_at dksX2_next_0 2 rfl rfl)
theorem dX2_next_3 : decode cX2_next 3 = .ok (.bipush 12, 2) := dk_16 12 (dk_at dksX2_next_0 3 rfl rfl)
theorem dX2_next_5 : decode cX2_next 5 = .ok (.if_icmp .ge 71, 3) := dk_162 0 71 (dk_at dksX2_next_0 5 rfl rfl)
theorem dX2_next_8 : decode cX2_next 8 = .ok (.iload_n 3, 1) := dk_29 (dk_at dksX2_next_0 8 rfl rfl)
theorem dX2_next_9 : decode cX2_next 9 = .ok (.iload_n 1, 1) := dk_27 (dk_at dksX2_next_0 9 rfl rfl)
theorem dX2_next_10 : decode cX2_next 10 = .ok (.if_icmp .ne 8, 3) := dk_160 0 8 (dk_at dksX2_next_0 10 rfl rfl)
theorem dX2_next_13 : decode cX2_next 13 = .ok (.bipush (-5), 2) := dk_16 251 (dk_at dksX2_next_0 13 rfl rfl)
theorem dX2_next_15 : decode cX2_next 15 = .ok (.goto 9, 3) := dk_167 0 9 (dk_at dksX2_next_0 15 rfl rfl)
theorem dX2_next_18 : decode cX2_next 18 = .ok (.aload_n 0, 1) := dk_42 (dk_at dksX2_next_0 18 rfl rfl)
theorem dX2_next_19 : decode cX2_next 19 = .ok (.iload_n 1, 1) := dk_27 (dk_at dksX2_next_0 19 rfl rfl)
theorem dX2_next_20 : decode cX2_next 20 = .ok (.iload_n 3, 1) := dk_29 (dk_at dksX2_next_0 20 rfl rfl)
theorem dX2_next_21 : decode cX2_next 21 = .ok (.invokevirtual 75, 3) := dk_182 0 75 (dk_at dksX2_next_0 21 rfl rfl)
theorem dX2_next_24 : decode cX2_next 24 = .ok (.istore 4, 2) := dk_54 4 (dk_at dksX2_next_1 0 rfl rfl)
theorem dX2_next_26 : decode cX2_next 26 = .ok (.iload 4, 2) := dk_21 4 (dk_at dksX2_next_1 2 rfl rfl)
theorem dX2_next_28 : decode cX2_next 28 = .ok (.bipush (-5), 2) := dk_16 251 (dk_at dksX2_next_1 4 rfl rfl)
theorem dX2_next_30 : decode cX2_next 30 = .ok (.if_icmp .eq 40, 3) := dk_159 0 40 (dk_at dksX2_next_1 6 rfl rfl)
theorem dX2_next_33 : decode cX2_next 33 = .ok (.aload_n 0, 1) := dk_42 (dk_at dksX2_next_1 9 rfl rfl)
theorem dX2_next_34 : decode cX2_next 34 = .ok (.getfield 23, 3) := dk_180 0 23 (dk_at dksX2_next_1 10 rfl rfl)
theorem dX2_next_37 : decode cX2_next 37 = .ok (.iload_n 3, 1) := dk_29 (dk_at dksX2_next_1 13 rfl rfl)
theorem dX2_next_38 : decode cX2_next 38 = .ok (.aaload, 1) := dk_50 (dk_at dksX2_next_1 14 rfl rfl)
theorem dX2_next_39 : decode cX2_next 39 = .ok (.iload_n 2, 1) := dk_28 (dk_at dksX2_next_1 15 rfl rfl)
theorem dX2_next_40 : decode cX2_next 40 = .ok (.iaload, 1) := dk_46 (dk_at dksX2_next_1 16 rfl rfl)
theorem dX2_next_41 : decode cX2_next 41 = .ok (.bipush (-5), 2) := dk_16 251 (dk_at dksX2_next_1 17 rfl rfl)
theorem dX2_next_43 : decode cX2_next 43 = .ok (.if_icmp .eq 27, 3) := dk_159 0 27 (dk_at dksX2_next_1 19 rfl rfl)
theorem dX2_next_46 : decode cX2_next 46 = .ok (.iload 4, 2) := dk_21 4 (dk_at dksX2_next_1 22 rfl rfl)
theorem dX2_next_48 : decode cX2_next 48 = .ok (.aload_n 0, 1) := dk_42 (dk_at dksX2_next_2 0 rfl rfl)
theorem dX2_next_49 : decode cX2_next 49 = .ok (.getfield 23, 3) := dk_180 0 23 (dk_at dksX2_next_2 1 rfl rfl)
theorem dX2_next_52 : decode cX2_next 52 = .ok (.iload_n 3, 1) := dk_29 (dk_at dksX2_next_2 4 rfl rfl)
theorem dX2_next_53 : decode cX2_next 53 = .ok (.aaload, 1) := dk_50 (dk_at dksX2_next_2 5 rfl rfl)
theorem dX2_next_54 : decode cX2_next 54 = .ok (.iload_n 2, 1) := dk_28 (dk_at dksX2_next_2 6 rfl rfl)
theorem dX2_next_55 : decode cX2_next 55 = .ok (.iaload, 1) := dk_46 (dk_at dksX2_next_2 7 rfl rfl)
theorem dX2_next_56 : decode cX2_next 56 = .ok (.iadd, 1) := dk_96 (dk_at dksX2_next_2 8 rfl rfl)
theorem dX2_next_57 : decode cX2_next 57 = .ok (.aload_n 0, 1) := dk_42 (dk_at dksX2_next_2 9 rfl rfl)
theorem dX2_next_58 : decode cX2_next 58 = .ok (.getfield 23, 3) := dk_180 0 23 (dk_at dksX2_next_2 10 rfl rfl)
theorem dX2_next_61 : decode cX2_next 61 = .ok (.iload_n 1, 1) := dk_27 (dk_at dksX2_next_2 13 rfl rfl)
theorem dX2_next_62 : decode cX2_next 62 = .ok (.aaload, 1) := dk_50 (dk_at dksX2_next_2 14 rfl rfl)
theorem dX2_next_63 : decode cX2_next 63 = .ok (.iload_n 2, 1) := dk_28 (dk_at dksX2_next_2 15 rfl rfl)
theorem dX2_next_64 : decode cX2_next 64 = .ok (.iaload, 1) := dk_46 (dk_at dksX2_next_2 16 rfl rfl)
theorem dX2_next_65 : decode cX2_next 65 = .ok (.if_icmp .ne 5, 3) := dk_160 0 5 (dk_at dksX2_next_2 17 rfl rfl)
theorem dX2_next_68 : decode cX2_next 68 = .ok (.iload_n 3, 1) := dk_29 (dk_at dksX2_next_2 20 rfl rfl)
theorem dX2_next_69 : decode cX2_next 69 = .ok (.ireturn, 1) := dk_172 (dk_at dksX2_next_2 21 rfl rfl)
theorem dX2_next_70 : decode cX2_next 70 = .ok (.iinc 3 1, 3) := dk_132 3 1 (dk_at dksX2_next_3 0 rfl rfl)
theorem dX2_next_73 : decode cX2_next 73 = .ok (.goto (-71), 3) := dk_167 255 185 (dk_at dksX2_next_3 3 rfl rfl)
theorem dX2_next_76 : decode cX2_next 76 = .ok (.bipush (-5), 2) := dk_16 251 (dk_at dksX2_next_3 6 rfl rfl)
theorem dX2_next_78 : decode cX2_next 78 = .ok (.ireturn, 1) := dk_172 (dk_at dksX2_next_3 8 rfl rfl)
theorem q87 : (Jvm.Cond.initialized "PatrolDesk$Roads") ∈ lw_all := lw_g (lw_at lw_m1 10 rfl) rfl
theorem q230 : (Jvm.Cond.instantiable "PatrolDesk$Roads" (4 : Nat)) ∈ lw_all := lw_g (lw_at lw_m1 153 rfl) rfl
theorem q232 : (Jvm.Cond.instanceMethod ({ cls := "PatrolDesk$Roads", name := "<init>", desc := "(LPatrolDesk$Roads;LPatrolDesk$Between;I)V" } : Jvm.MethodName)) ∈ lw_all := lw_g (lw_at lw_m1 155 rfl) rfl
theorem q233 : (Jvm.Cond.code ({ cls := "PatrolDesk$Roads", name := "<init>", desc := "(LPatrolDesk$Roads;LPatrolDesk$Between;I)V" } : Jvm.MethodName) prog_11_method_1_code (7 : Nat) (Option.none : Option Jvm.ClassFile.FieldType)) ∈ lw_all := lw_g (lw_at lw_m1 156 rfl) rfl
theorem q234 : (Jvm.Cond.methodLink "PatrolDesk$Roads" (3 : Nat) ({ cls := "java/lang/Object", name := "<init>", desc := "()V" } : Jvm.MethodName)) ∈ lw_all := lw_g (lw_at lw_m1 157 rfl) rfl
theorem q235 : (Jvm.Cond.classLink "PatrolDesk$Roads" (9 : Nat) "java/util/LinkedHashMap") ∈ lw_all := lw_g (lw_at lw_m1 158 rfl) rfl
theorem q237 : (Jvm.Cond.methodLink "PatrolDesk$Roads" (11 : Nat) ({ cls := "java/util/LinkedHashMap", name := "<init>", desc := "()V" } : Jvm.MethodName)) ∈ lw_all := lw_g (lw_at lw_m1 160 rfl) rfl
theorem q284 : (Jvm.Cond.classLink "PatrolDesk$Roads" (18 : Nat) "[[I") ∈ lw_all := lw_g (lw_at lw_m1 207 rfl) rfl
theorem q286 : (Jvm.Cond.classLink "PatrolDesk$Roads" (26 : Nat) "java/util/ArrayList") ∈ lw_all := lw_g (lw_at lw_m1 209 rfl) rfl
theorem q287 : (Jvm.Cond.methodLink "PatrolDesk$Roads" (28 : Nat) ({ cls := "java/util/ArrayList", name := "<init>", desc := "()V" } : Jvm.MethodName)) ∈ lw_all := lw_g (lw_at lw_m1 210 rfl) rfl
theorem q288 : (Jvm.Cond.classLink "PatrolDesk$Roads" (33 : Nat) "PatrolDesk$Between") ∈ lw_all := lw_g (lw_at lw_m1 211 rfl) rfl
theorem q290 : (Jvm.Cond.methodLink "PatrolDesk$Roads" (35 : Nat) ({ cls := "PatrolDesk$Between", name := "<init>", desc := "(II)V" } : Jvm.MethodName)) ∈ lw_all := lw_g (lw_at lw_m1 213 rfl) rfl
theorem q307 : (Jvm.Cond.methodLink "PatrolDesk$Roads" (38 : Nat) ({ cls := "PatrolDesk$Roads", name := "keep", desc := "(LPatrolDesk$Roads;LPatrolDesk$Between;)V" } : Jvm.MethodName)) ∈ lw_all := lw_g (lw_at lw_m1 230 rfl) rfl
theorem q308 : (Jvm.Cond.privateMethod ({ cls := "PatrolDesk$Roads", name := "keep", desc := "(LPatrolDesk$Roads;LPatrolDesk$Between;)V" } : Jvm.MethodName)) ∈ lw_tbl := lw_at lw_m1 231 rfl
theorem q309 : (Jvm.Cond.instanceMethod ({ cls := "PatrolDesk$Roads", name := "keep", desc := "(LPatrolDesk$Roads;LPatrolDesk$Between;)V" } : Jvm.MethodName)) ∈ lw_all := lw_g (lw_at lw_m1 232 rfl) rfl
theorem q310 : (Jvm.Cond.code ({ cls := "PatrolDesk$Roads", name := "keep", desc := "(LPatrolDesk$Roads;LPatrolDesk$Between;)V" } : Jvm.MethodName) prog_11_method_2_code (4 : Nat) (Option.none : Option Jvm.ClassFile.FieldType)) ∈ lw_all := lw_g (lw_at lw_m1 233 rfl) rfl
theorem q311 : (Jvm.Cond.interfaceEntry "PatrolDesk$Roads" (61 : Nat)) ∈ lw_tbl := lw_at lw_m1 234 rfl
theorem q312 : (Jvm.Cond.methodLink "PatrolDesk$Roads" (61 : Nat) ({ cls := "java/util/Map", name := "get", desc := "(Ljava/lang/Object;)Ljava/lang/Object;" } : Jvm.MethodName)) ∈ lw_all := lw_g (lw_at lw_m1 235 rfl) rfl
theorem q344 : (Jvm.Cond.selects "PatrolDesk$Roads" ({ cls := "java/lang/Object", name := "hashCode", desc := "()I" } : Jvm.MethodName) ({ cls := "java/lang/Object", name := "hashCode", desc := "()I" } : Jvm.MethodName)) ∈ lw_all := lw_g (lw_at lw_m2 27 rfl) rfl
theorem q375 : (Jvm.Cond.selects "PatrolDesk$Roads" ({ cls := "java/lang/Object", name := "equals", desc := "(Ljava/lang/Object;)Z" } : Jvm.MethodName) ({ cls := "java/lang/Object", name := "equals", desc := "(Ljava/lang/Object;)Z" } : Jvm.MethodName)) ∈ lw_all := lw_g (lw_at lw_m2 58 rfl) rfl
theorem q423 : (Jvm.Cond.selects "PatrolDesk$Roads" ({ cls := "java/lang/Object", name := "getClass", desc := "()Ljava/lang/Class;" } : Jvm.MethodName) ({ cls := "java/lang/Object", name := "getClass", desc := "()Ljava/lang/Class;" } : Jvm.MethodName)) ∈ lw_all := lw_g (lw_at lw_m2 106 rfl) rfl
theorem q651 : (Jvm.Cond.classLink "PatrolDesk$Roads" (43 : Nat) "java/lang/Integer") ∈ lw_all := lw_g (lw_at lw_m3 94 rfl) rfl
theorem q652 : (Jvm.Cond.interfaceEntry "PatrolDesk$Roads" (48 : Nat)) ∈ lw_tbl := lw_at lw_m3 95 rfl
theorem q653 : (Jvm.Cond.methodLink "PatrolDesk$Roads" (48 : Nat) ({ cls := "java/util/Map", name := "put", desc := "(Ljava/lang/Object;Ljava/lang/Object;)Ljava/lang/Object;" } : Jvm.MethodName)) ∈ lw_all := lw_g (lw_at lw_m3 96 rfl) rfl
theorem q859 : (Jvm.Cond.methodLink "PatrolDesk$Roads" (42 : Nat) ({ cls := "java/lang/Integer", name := "valueOf", desc := "(I)Ljava/lang/Integer;" } : Jvm.MethodName)) ∈ lw_all := lw_g (lw_at lw_m4 62 rfl) rfl
theorem q878 : (Jvm.Cond.methodLink "PatrolDesk$Roads" (54 : Nat) ({ cls := "PatrolDesk$Roads", name := "begin", desc := "(II)V" } : Jvm.MethodName)) ∈ lw_all := lw_g (lw_at lw_m4 81 rfl) rfl
theorem q879 : (Jvm.Cond.privateMethod ({ cls := "PatrolDesk$Roads", name := "begin", desc := "(II)V" } : Jvm.MethodName)) ∈ lw_tbl := lw_at lw_m4 82 rfl
theorem q880 : (Jvm.Cond.instanceMethod ({ cls := "PatrolDesk$Roads", name := "begin", desc := "(II)V" } : Jvm.MethodName)) ∈ lw_all := lw_g (lw_at lw_m4 83 rfl) rfl
theorem q881 : (Jvm.Cond.code ({ cls := "PatrolDesk$Roads", name := "begin", desc := "(II)V" } : Jvm.MethodName) prog_11_method_3_code (4 : Nat) (Option.none : Option Jvm.ClassFile.FieldType)) ∈ lw_all := lw_g (lw_at lw_m4 84 rfl) rfl
theorem q882 : (Jvm.Cond.methodLink "PatrolDesk$Roads" (65 : Nat) ({ cls := "java/lang/Integer", name := "intValue", desc := "()I" } : Jvm.MethodName)) ∈ lw_all := lw_g (lw_at lw_m4 85 rfl) rfl
theorem q883 : (Jvm.Cond.interfaceEntry "PatrolDesk$Roads" (69 : Nat)) ∈ lw_tbl := lw_at lw_m4 86 rfl
theorem q884 : (Jvm.Cond.methodLink "PatrolDesk$Roads" (69 : Nat) ({ cls := "java/util/List", name := "add", desc := "(Ljava/lang/Object;)Z" } : Jvm.MethodName)) ∈ lw_all := lw_g (lw_at lw_m4 87 rfl) rfl
theorem q929 : (Jvm.Cond.methodLink "PatrolDesk$Roads" (57 : Nat) ({ cls := "PatrolDesk$Roads", name := "comeNearer", desc := "(III)V" } : Jvm.MethodName)) ∈ lw_all := lw_g (lw_at lw_m4 132 rfl) rfl
theorem q930 : (Jvm.Cond.privateMethod ({ cls := "PatrolDesk$Roads", name := "comeNearer", desc := "(III)V" } : Jvm.MethodName)) ∈ lw_tbl := lw_at lw_m4 133 rfl
theorem q931 : (Jvm.Cond.instanceMethod ({ cls := "PatrolDesk$Roads", name := "comeNearer", desc := "(III)V" } : Jvm.MethodName)) ∈ lw_all := lw_g (lw_at lw_m4 134 rfl) rfl
theorem q932 : (Jvm.Cond.code ({ cls := "PatrolDesk$Roads", name := "comeNearer", desc := "(III)V" } : Jvm.MethodName) prog_11_method_5_code (5 : Nat) (Option.none : Option Jvm.ClassFile.FieldType)) ∈ lw_all := lw_g (lw_at lw_m4 135 rfl) rfl
theorem q933 : (Jvm.Cond.fieldLink "PatrolDesk$Roads" (12 : Nat) "PatrolDesk$Roads" "minutes" "Ljava/util/Map;") ∈ lw_all := lw_g (lw_at lw_m4 136 rfl) rfl
theorem q935 : (Jvm.Cond.fieldLink "PatrolDesk$Roads" (20 : Nat) "PatrolDesk$Roads" "direct" "[[I") ∈ lw_all := lw_g (lw_at lw_m4 138 rfl) rfl
theorem q936 : (Jvm.Cond.fieldLink "PatrolDesk$Roads" (23 : Nat) "PatrolDesk$Roads" "far" "[[I") ∈ lw_all := lw_g (lw_at lw_m4 139 rfl) rfl
theorem q938 : (Jvm.Cond.fieldLink "PatrolDesk$Roads" (29 : Nat) "PatrolDesk$Roads" "ways" "Ljava/util/List;") ∈ lw_all := lw_g (lw_at lw_m4 141 rfl) rfl
theorem q939 : (Jvm.Cond.laysFinal "PatrolDesk$Roads" "PatrolDesk$Roads" "minutes" "Ljava/util/Map;") ∈ lw_all := lw_g (lw_at lw_m4 142 rfl) rfl
theorem q940 : (Jvm.Cond.soleField "PatrolDesk$Roads" "minutes") ∈ lw_all := lw_g (lw_at lw_m4 143 rfl) rfl
theorem q941 : (Jvm.Cond.laysFinal "PatrolDesk$Roads" "PatrolDesk$Roads" "direct" "[[I") ∈ lw_all := lw_g (lw_at lw_m4 144 rfl) rfl
theorem q942 : (Jvm.Cond.soleField "PatrolDesk$Roads" "direct") ∈ lw_all := lw_g (lw_at lw_m4 145 rfl) rfl
theorem q943 : (Jvm.Cond.laysFinal "PatrolDesk$Roads" "PatrolDesk$Roads" "far" "[[I") ∈ lw_all := lw_g (lw_at lw_m4 146 rfl) rfl
theorem q944 : (Jvm.Cond.soleField "PatrolDesk$Roads" "far") ∈ lw_all := lw_g (lw_at lw_m4 147 rfl) rfl
theorem q945 : (Jvm.Cond.laysFinal "PatrolDesk$Roads" "PatrolDesk$Roads" "ways" "Ljava/util/List;") ∈ lw_all := lw_g (lw_at lw_m4 148 rfl) rfl
theorem q946 : (Jvm.Cond.soleField "PatrolDesk$Roads" "ways") ∈ lw_all := lw_g (lw_at lw_m4 149 rfl) rfl
theorem q947 : (Jvm.Cond.superclass "PatrolDesk$Roads" "java/lang/Object") ∈ lw_all := lw_g (lw_at lw_m4 150 rfl) rfl
theorem q972 : (Jvm.Cond.instanceMethod ({ cls := "PatrolDesk$Roads", name := "lengthOf", desc := "(II)I" } : Jvm.MethodName)) ∈ lw_all := lw_g (lw_at lw_m4 175 rfl) rfl
theorem q973 : (Jvm.Cond.selects "PatrolDesk$Roads" ({ cls := "PatrolDesk$Roads", name := "lengthOf", desc := "(II)I" } : Jvm.MethodName) ({ cls := "PatrolDesk$Roads", name := "lengthOf", desc := "(II)I" } : Jvm.MethodName)) ∈ lw_all := lw_g (lw_at lw_m4 176 rfl) rfl
theorem q974 : (Jvm.Cond.code ({ cls := "PatrolDesk$Roads", name := "lengthOf", desc := "(II)I" } : Jvm.MethodName) prog_11_method_4_code (3 : Nat) (Option.some Jvm.ClassFile.FieldType.int)) ∈ lw_all := lw_g (lw_at lw_m4 177 rfl) rfl
theorem q1483 : (Jvm.Cond.instanceMethod ({ cls := "PatrolDesk$Roads", name := "way", desc := "(II)Ljava/util/List;" } : Jvm.MethodName)) ∈ lw_all := lw_g (lw_at lw_m6 206 rfl) rfl
theorem q1484 : (Jvm.Cond.selects "PatrolDesk$Roads" ({ cls := "PatrolDesk$Roads", name := "way", desc := "(II)Ljava/util/List;" } : Jvm.MethodName) ({ cls := "PatrolDesk$Roads", name := "way", desc := "(II)Ljava/util/List;" } : Jvm.MethodName)) ∈ lw_all := lw_g (lw_at lw_m6 207 rfl) rfl
theorem q1485 : (Jvm.Cond.code ({ cls := "PatrolDesk$Roads", name := "way", desc := "(II)Ljava/util/List;" } : Jvm.MethodName) prog_11_method_7_code (3 : Nat) (Option.some (Jvm.ClassFile.FieldType.object "java/util/List"))) ∈ lw_all := lw_g (lw_at lw_m6 208 rfl) rfl
theorem q1486 : (Jvm.Cond.interfaceEntry "PatrolDesk$Roads" (79 : Nat)) ∈ lw_tbl := lw_at lw_m6 209 rfl
theorem q1487 : (Jvm.Cond.methodLink "PatrolDesk$Roads" (79 : Nat) ({ cls := "java/util/List", name := "get", desc := "(I)Ljava/lang/Object;" } : Jvm.MethodName)) ∈ lw_all := lw_g (lw_at lw_m6 210 rfl) rfl
theorem q1488 : (Jvm.Cond.methodLink "PatrolDesk$Roads" (82 : Nat) ({ cls := "PatrolDesk$Roads", name := "lay", desc := "(II)Ljava/util/List;" } : Jvm.MethodName)) ∈ lw_all := lw_g (lw_at lw_m6 211 rfl) rfl
theorem q1489 : (Jvm.Cond.privateMethod ({ cls := "PatrolDesk$Roads", name := "lay", desc := "(II)Ljava/util/List;" } : Jvm.MethodName)) ∈ lw_tbl := lw_at lw_m6 212 rfl
theorem q1490 : (Jvm.Cond.instanceMethod ({ cls := "PatrolDesk$Roads", name := "lay", desc := "(II)Ljava/util/List;" } : Jvm.MethodName)) ∈ lw_all := lw_g (lw_at lw_m6 213 rfl) rfl
theorem q1491 : (Jvm.Cond.code ({ cls := "PatrolDesk$Roads", name := "lay", desc := "(II)Ljava/util/List;" } : Jvm.MethodName) prog_11_method_8_code (6 : Nat) (Option.some (Jvm.ClassFile.FieldType.object "java/util/List"))) ∈ lw_all := lw_g (lw_at lw_m6 214 rfl) rfl
theorem q1492 : (Jvm.Cond.classLink "PatrolDesk$Roads" (90 : Nat) "java/util/HashSet") ∈ lw_all := lw_g (lw_at lw_m6 215 rfl) rfl
theorem q1494 : (Jvm.Cond.methodLink "PatrolDesk$Roads" (92 : Nat) ({ cls := "java/util/HashSet", name := "<init>", desc := "()V" } : Jvm.MethodName)) ∈ lw_all := lw_g (lw_at lw_m6 217 rfl) rfl
theorem q1517 : (Jvm.Cond.classLink "PatrolDesk$Roads" (93 : Nat) "PatrolDesk$Spot") ∈ lw_all := lw_g (lw_at lw_m7 0 rfl) rfl
theorem q1519 : (Jvm.Cond.methodLink "PatrolDesk$Roads" (95 : Nat) ({ cls := "PatrolDesk$Spot", name := "<init>", desc := "(I)V" } : Jvm.MethodName)) ∈ lw_all := lw_g (lw_at lw_m7 2 rfl) rfl
theorem q1527 : (Jvm.Cond.interfaceEntry "PatrolDesk$Roads" (98 : Nat)) ∈ lw_tbl := lw_at lw_m7 10 rfl
theorem q1528 : (Jvm.Cond.methodLink "PatrolDesk$Roads" (98 : Nat) ({ cls := "java/util/Set", name := "add", desc := "(Ljava/lang/Object;)Z" } : Jvm.MethodName)) ∈ lw_all := lw_g (lw_at lw_m7 11 rfl) rfl
theorem q1540 : (Jvm.Cond.methodLink "PatrolDesk$Roads" (101 : Nat) ({ cls := "PatrolDesk$Roads", name := "next", desc := "(II)I" } : Jvm.MethodName)) ∈ lw_all := lw_g (lw_at lw_m7 23 rfl) rfl
theorem q1541 : (Jvm.Cond.instanceMethod ({ cls := "PatrolDesk$Roads", name := "next", desc := "(II)I" } : Jvm.MethodName)) ∈ lw_all := lw_g (lw_at lw_m7 24 rfl) rfl
theorem q1542 : (Jvm.Cond.selects "PatrolDesk$Roads" ({ cls := "PatrolDesk$Roads", name := "next", desc := "(II)I" } : Jvm.MethodName) ({ cls := "PatrolDesk$Roads", name := "next", desc := "(II)I" } : Jvm.MethodName)) ∈ lw_all := lw_g (lw_at lw_m7 25 rfl) rfl
theorem q1543 : (Jvm.Cond.code ({ cls := "PatrolDesk$Roads", name := "next", desc := "(II)I" } : Jvm.MethodName) prog_11_method_6_code (5 : Nat) (Option.some Jvm.ClassFile.FieldType.int)) ∈ lw_all := lw_g (lw_at lw_m7 26 rfl) rfl
theorem q1544 : (Jvm.Cond.methodLink "PatrolDesk$Roads" (75 : Nat) ({ cls := "PatrolDesk$Roads", name := "lengthOf", desc := "(II)I" } : Jvm.MethodName)) ∈ lw_all := lw_g (lw_at lw_m7 27 rfl) rfl
theorem q1545 : (Jvm.Cond.interfaceEntry "PatrolDesk$Roads" (86 : Nat)) ∈ lw_tbl := lw_at lw_m7 28 rfl
theorem q1546 : (Jvm.Cond.methodLink "PatrolDesk$Roads" (86 : Nat) ({ cls := "java/util/List", name := "set", desc := "(ILjava/lang/Object;)Ljava/lang/Object;" } : Jvm.MethodName)) ∈ lw_all := lw_g (lw_at lw_m7 29 rfl) rfl
theorem q1554 : (Jvm.Cond.classLink "PatrolDesk$Roads" (70 : Nat) "java/util/List") ∈ lw_all := lw_g (lw_at lw_m7 37 rfl) rfl
theorem q2291 : (Jvm.Cond.castable "PatrolDesk$Roads" "java/lang/Object") ∈ lw_tbl := lw_at lw_m10 54 rfl
theorem in_X2 : ∀ w ∈ wsX20, w ∈ lw_all := lw_in wsX20 [939, 941, 943, 945] (by decide +kernel) (by decide +kernel)
/-! PatrolDesk$Between -/
set_option maxRecDepth 100000
def RX3 : String := "PatrolDesk$Between"
def TX3 : u_T := fun k => match k with
  | 0 => ("PatrolDesk$Between", "low", "I", true)
  | _ => ("PatrolDesk$Between", "high", "I", true)
def tyX3 : Nat → FieldType := fun k => match k with
  | 0 => .int
  | _ => .int
abbrev wsX30 : List Cond := u_ws RX3 TX3 2
theorem nmX3 : ∀ a, a < 2 → ∀ b, b < 2 → a ≠ b → (TX3 a).2.1 ≠ (TX3 b).2.1 := by decide +kernel
theorem tyX3_ok : ∀ k, k < 2 → parseFieldDescriptor (TX3 k).2.2.1 = some (tyX3 k) := by decide +kernel
abbrev cX3_init : ByteArray := prog_3_method_1_code
def yX3_init : MethodName := ⟨RX3, "<init>", "(II)V"⟩
def dkwX3_init_0 : List UInt8 := [42, 183, 0, 3, 42, 27, 28, 184, 0, 9, 181, 0, 15, 42, 27, 28, 184, 0, 21, 181, 0, 24, 177]
abbrev dktX3_init_0 : List UInt8 := dkwX3_init_0 ++ []
theorem dksX3_init_0 : cX3_init.data.toList.drop 0 = dktX3_init_0 := by decide +kernel
theorem dX3_init_0 : decode cX3_init 0 = .ok (.aload_n 0, 1) := dk_42 (dk_at dksX3_init_0 0 rfl rfl)
theorem dX3_init_1 : decode cX3_init 1 = .ok (.invokespecial 3, 3) := dk_183 0 3 (dk_at dksX3_init_0 1 rfl rfl)
theorem dX3_init_4 : decode cX3_init 4 = .ok (.aload_n 0, 1) := dk_42 (dk_at dksX3_init_0 4 rfl rfl)
theorem dX3_init_5 : decode cX3_init 5 = .ok (.iload_n 1, 1) := dk_27 (dk_at dksX3_init_0 5 rfl rfl)
theorem dX3_init_6 : decode cX3_init 6 = .ok (.iload_n 2, 1) := dk_28 (dk_at dksX3_init_0 6 rfl rfl)
theorem dX3_init_7 : decode cX3_init 7 = .ok (.invokestatic 9, 3) := dk_184 0 9 (dk_at dksX3_init_0 7 rfl rfl)
theorem dX3_init_10 : decode cX3_init 10 = .ok (.putfield 15, 3) := dk_181 0 15 (dk_at dksX3_init_0 10 rfl rfl)
theorem dX3_init_13 : decode cX3_init 13 = .ok (.aload_n 0, 1) := dk_42 (dk_at dksX3_init_0 13 rfl rfl)
theorem dX3_init_14 : decode cX3_init 14 = .ok (.iload_n 1, 1) := dk_27 (dk_at dksX3_init_0 14 rfl rfl)
theorem dX3_init_15 : decode cX3_init 15 = .ok (.iload_n 2, 1) := dk_28 (dk_at dksX3_init_0 15 rfl rfl)
theorem dX3_init_16 : decode cX3_init 16 = .ok (.invokestatic 21, 3) := dk_184 0 21 (dk_at dksX3_init_0 16 rfl rfl)
theorem dX3_init_19 : decode cX3_init 19 = .ok (.putfield 24, 3) := dk_181 0 24 (dk_at dksX3_init_0 19 rfl rfl)
theorem dX3_init_22 : decode cX3_init 22 = .ok (.return_, 1) := dk_177 (dk_at dksX3_init_0 22 rfl rfl)
abbrev cX3_hashCode : ByteArray := prog_3_method_3_code
def yX3_hashCode : MethodName := ⟨RX3, "hashCode", "()I"⟩
def dkwX3_hashCode_0 : List UInt8 := [16, 12, 42, 180, 0, 15, 104, 42, 180, 0, 24, 96, 172]
abbrev dktX3_hashCode_0 : List UInt8 := dkwX3_hashCode_0 ++ []
theorem dksX3_hashCode_0 : cX3_hashCode.data.toList.drop 0 = dktX3_hashCode_0 := by decide +kernel
theorem dX3_hashCode_0 : decode cX3_hashCode 0 = .ok (.bipush 12, 2) := dk_16 12 (dk_at dksX3_hashCode_0 0 rfl rfl)
theorem dX3_hashCode_2 : decode cX3_hashCode 2 = .ok (.aload_n 0, 1) := dk_42 (dk_at dksX3_hashCode_0 2 rfl rfl)
theorem dX3_hashCode_3 : decode cX3_hashCode 3 = .ok (.getfield 15, 3) := dk_180 0 15 (dk_at dksX3_hashCode_0 3 rfl rfl)
theorem dX3_hashCode_6 : decode cX3_hashCode 6 = .ok (.imul, 1) := dk_104 (dk_at dksX3_hashCode_0 6 rfl rfl)
theorem dX3_hashCode_7 : decode cX3_hashCode 7 = .ok (.aload_n 0, 1) := dk_42 (dk_at dksX3_hashCode_0 7 rfl rfl)
theorem dX3_hashCode_8 : decode cX3_hashCode 8 = .ok (.getfield 24, 3) := dk_180 0 24 (dk_at dksX3_hashCode_0 8 rfl rfl)
theorem dX3_hashCode_11 : decode cX3_hashCode 11 = .ok (.iadd, 1) := dk_96 (dk_at dksX3_hashCode_0 11 rfl rfl)
theorem dX3_hashCode_12 : decode cX3_hashCode 12 = .ok (.ireturn, 1) := dk_172 (dk_at dksX3_hashCode_0 12 rfl rfl)
abbrev cX3_equals : ByteArray := prog_3_method_2_code
def yX3_equals : MethodName := ⟨RX3, "equals", "(Ljava/lang/Object;)Z"⟩
def dkwX3_equals_1 : List UInt8 := [180, 0, 24, 44, 180, 0, 24, 160, 0, 7, 4, 167, 0, 4, 3, 172]
abbrev dktX3_equals_1 : List UInt8 := dkwX3_equals_1 ++ []
def dkwX3_equals_0 : List UInt8 := [43, 193, 0, 16, 153, 0, 34, 43, 192, 0, 16, 77, 42, 180, 0, 15, 44, 180, 0, 15, 160, 0, 18, 42]
abbrev dktX3_equals_0 : List UInt8 := dkwX3_equals_0 ++ dktX3_equals_1
theorem dksX3_equals_0 : cX3_equals.data.toList.drop 0 = dktX3_equals_0 := by decide +kernel
theorem dksX3_equals_1 : cX3_equals.data.toList.drop 24 = dktX3_equals_1 := dk_seg dksX3_equals_0 24 rfl rfl
theorem dX3_equals_0 : decode cX3_equals 0 = .ok (.aload_n 1, 1) := dk_43 (dk_at dksX3_equals_0 0 rfl rfl)
theorem dX3_equals_1 : decode cX3_equals 1 = .ok (.instanceof 16, 3) := dk_193 0 16 (dk_at dksX3_equals_0 1 rfl rfl)
theorem dX3_equals_4 : decode cX3_equals 4 = .ok (.ifCond .eq 34, 3) := dk_153 0 34 (dk_at dksX3_equals_0 4 rfl rfl)
theorem dX3_equals_7 : decode cX3_equals 7 = .ok (.aload_n 1, 1) := dk_43 (dk_at dksX3_equals_0 7 rfl rfl)
theorem dX3_equals_8 : decode cX3_equals 8 = .ok (.checkcast 16, 3) := dk_192 0 16 (dk_at dksX3_equals_0 8 rfl rfl)
theorem dX3_equals_11 : decode cX3_equals 11 = .ok (.astore_n 2, 1) := dk_77 (dk_at dksX3_equals_0 11 rfl rfl)
theorem dX3_equals_12 : decode cX3_equals 12 = .ok (.aload_n 0, 1) := dk_42 (dk_at dksX3_equals_0 12 rfl rfl)
theorem dX3_equals_13 : decode cX3_equals 13 = .ok (.getfield 15, 3) := dk_180 0 15 (dk_at dksX3_equals_0 13 rfl rfl)
theorem dX3_equals_16 : decode cX3_equals 16 = .ok (.aload_n 2, 1) := dk_44 (dk_at dksX3_equals_0 16 rfl rfl)
theorem dX3_equals_17 : decode cX3_equals 17 = .ok (.getfield 15, 3) := dk_180 0 15 (dk_at dksX3_equals_0 17 rfl rfl)
theorem dX3_equals_20 : decode cX3_equals 20 = .ok (.if_icmp .ne 18, 3) := dk_160 0 18 (dk_at dksX3_equals_0 20 rfl rfl)
theorem dX3_equals_23 : decode cX3_equals 23 = .ok (.aload_n 0, 1) := dk_42 (dk_at dksX3_equals_0 23 rfl rfl)
theorem dX3_equals_24 : decode cX3_equals 24 = .ok (.getfield 24, 3) := dk_180 0 24 (dk_at dksX3_equals_1 0 rfl rfl)
theorem dX3_equals_27 : decode cX3_equals 27 = .ok (.aload_n 2, 1) := dk_44 (dk_at dksX3_equals_1 3 rfl rfl)
theorem dX3_equals_28 : decode cX3_equals 28 = .ok (.getfield 24, 3) := dk_180 0 24 (dk_at dksX3_equals_1 4 rfl rfl)
theorem dX3_equals_31 : decode cX3_equals 31 = .ok (.if_icmp .ne 7, 3) := dk_160 0 7 (dk_at dksX3_equals_1 7 rfl rfl)
theorem dX3_equals_34 : decode cX3_equals 34 = .ok (.iconst 1, 1) := dk_4 (dk_at dksX3_equals_1 10 rfl rfl)
theorem dX3_equals_35 : decode cX3_equals 35 = .ok (.goto 4, 3) := dk_167 0 4 (dk_at dksX3_equals_1 11 rfl rfl)
theorem dX3_equals_38 : decode cX3_equals 38 = .ok (.iconst 0, 1) := dk_3 (dk_at dksX3_equals_1 14 rfl rfl)
theorem dX3_equals_39 : decode cX3_equals 39 = .ok (.ireturn, 1) := dk_172 (dk_at dksX3_equals_1 15 rfl rfl)
theorem q91 : (Jvm.Cond.initialized "PatrolDesk$Between") ∈ lw_all := lw_g (lw_at lw_m1 14 rfl) rfl
theorem q289 : (Jvm.Cond.instantiable "PatrolDesk$Between" (2 : Nat)) ∈ lw_all := lw_g (lw_at lw_m1 212 rfl) rfl
theorem q291 : (Jvm.Cond.instanceMethod ({ cls := "PatrolDesk$Between", name := "<init>", desc := "(II)V" } : Jvm.MethodName)) ∈ lw_all := lw_g (lw_at lw_m1 214 rfl) rfl
theorem q292 : (Jvm.Cond.code ({ cls := "PatrolDesk$Between", name := "<init>", desc := "(II)V" } : Jvm.MethodName) prog_3_method_1_code (3 : Nat) (Option.none : Option Jvm.ClassFile.FieldType)) ∈ lw_all := lw_g (lw_at lw_m1 215 rfl) rfl
theorem q293 : (Jvm.Cond.methodLink "PatrolDesk$Between" (3 : Nat) ({ cls := "java/lang/Object", name := "<init>", desc := "()V" } : Jvm.MethodName)) ∈ lw_all := lw_g (lw_at lw_m1 216 rfl) rfl
theorem q294 : (Jvm.Cond.methodLink "PatrolDesk$Between" (9 : Nat) ({ cls := "java/lang/Math", name := "min", desc := "(II)I" } : Jvm.MethodName)) ∈ lw_all := lw_g (lw_at lw_m1 217 rfl) rfl
theorem q297 : (Jvm.Cond.methodLink "PatrolDesk$Between" (21 : Nat) ({ cls := "java/lang/Math", name := "max", desc := "(II)I" } : Jvm.MethodName)) ∈ lw_all := lw_g (lw_at lw_m1 220 rfl) rfl
theorem q300 : (Jvm.Cond.fieldLink "PatrolDesk$Between" (15 : Nat) "PatrolDesk$Between" "low" "I") ∈ lw_all := lw_g (lw_at lw_m1 223 rfl) rfl
theorem q301 : (Jvm.Cond.fieldLink "PatrolDesk$Between" (24 : Nat) "PatrolDesk$Between" "high" "I") ∈ lw_all := lw_g (lw_at lw_m1 224 rfl) rfl
theorem q302 : (Jvm.Cond.laysFinal "PatrolDesk$Between" "PatrolDesk$Between" "low" "I") ∈ lw_all := lw_g (lw_at lw_m1 225 rfl) rfl
theorem q303 : (Jvm.Cond.soleField "PatrolDesk$Between" "low") ∈ lw_all := lw_g (lw_at lw_m1 226 rfl) rfl
theorem q304 : (Jvm.Cond.laysFinal "PatrolDesk$Between" "PatrolDesk$Between" "high" "I") ∈ lw_all := lw_g (lw_at lw_m1 227 rfl) rfl
theorem q305 : (Jvm.Cond.soleField "PatrolDesk$Between" "high") ∈ lw_all := lw_g (lw_at lw_m1 228 rfl) rfl
theorem q306 : (Jvm.Cond.superclass "PatrolDesk$Between" "java/lang/Object") ∈ lw_all := lw_g (lw_at lw_m1 229 rfl) rfl
theorem q335 : (Jvm.Cond.selects "PatrolDesk$Between" ({ cls := "java/lang/Object", name := "hashCode", desc := "()I" } : Jvm.MethodName) ({ cls := "PatrolDesk$Between", name := "hashCode", desc := "()I" } : Jvm.MethodName)) ∈ lw_all := lw_g (lw_at lw_m2 18 rfl) rfl
theorem q336 : (Jvm.Cond.instanceMethod ({ cls := "PatrolDesk$Between", name := "hashCode", desc := "()I" } : Jvm.MethodName)) ∈ lw_all := lw_g (lw_at lw_m2 19 rfl) rfl
theorem q337 : (Jvm.Cond.code ({ cls := "PatrolDesk$Between", name := "hashCode", desc := "()I" } : Jvm.MethodName) prog_3_method_3_code (1 : Nat) (Option.some Jvm.ClassFile.FieldType.int)) ∈ lw_all := lw_g (lw_at lw_m2 20 rfl) rfl
theorem q365 : (Jvm.Cond.selects "PatrolDesk$Between" ({ cls := "java/lang/Object", name := "equals", desc := "(Ljava/lang/Object;)Z" } : Jvm.MethodName) ({ cls := "PatrolDesk$Between", name := "equals", desc := "(Ljava/lang/Object;)Z" } : Jvm.MethodName)) ∈ lw_all := lw_g (lw_at lw_m2 48 rfl) rfl
theorem q366 : (Jvm.Cond.instanceMethod ({ cls := "PatrolDesk$Between", name := "equals", desc := "(Ljava/lang/Object;)Z" } : Jvm.MethodName)) ∈ lw_all := lw_g (lw_at lw_m2 49 rfl) rfl
theorem q367 : (Jvm.Cond.code ({ cls := "PatrolDesk$Between", name := "equals", desc := "(Ljava/lang/Object;)Z" } : Jvm.MethodName) prog_3_method_2_code (3 : Nat) (Option.some Jvm.ClassFile.FieldType.boolean)) ∈ lw_all := lw_g (lw_at lw_m2 50 rfl) rfl
theorem q368 : (Jvm.Cond.classLink "PatrolDesk$Between" (16 : Nat) "PatrolDesk$Between") ∈ lw_all := lw_g (lw_at lw_m2 51 rfl) rfl
theorem q416 : (Jvm.Cond.selects "PatrolDesk$Between" ({ cls := "java/lang/Object", name := "getClass", desc := "()Ljava/lang/Class;" } : Jvm.MethodName) ({ cls := "java/lang/Object", name := "getClass", desc := "()Ljava/lang/Class;" } : Jvm.MethodName)) ∈ lw_all := lw_g (lw_at lw_m2 99 rfl) rfl
theorem q2293 : (Jvm.Cond.castable "PatrolDesk$Between" "java/lang/Object") ∈ lw_tbl := lw_at lw_m10 56 rfl
theorem in_X3 : ∀ w ∈ wsX30, w ∈ lw_all := lw_in wsX30 [302, 304] (by decide +kernel) (by decide +kernel)
