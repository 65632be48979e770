/-! PatrolDesk -/
set_option maxRecDepth 100000
def RX0 : String := "PatrolDesk"
def TX0 : u_T := fun k => match k with
  | 0 => ("PatrolDesk", "state", "LPatrolDesk$State;", false)
  | 1 => ("PatrolDesk", "snapshot", "LPatrolDesk$State;", false)
  | 2 => ("PatrolDesk", "history", "Ljava/util/List;", true)
  | _ => ("PatrolDesk", "text", "Ljava/lang/StringBuilder;", true)
def tyX0 : Nat → FieldType := fun k => match k with
  | 0 => .object "PatrolDesk$State"
  | 1 => .object "PatrolDesk$State"
  | 2 => .object "java/util/List"
  | _ => .object "java/lang/StringBuilder"
abbrev wsX00 : List Cond := u_ws RX0 TX0 4
theorem nmX0 : ∀ a, a < 4 → ∀ b, b < 4 → a ≠ b → (TX0 a).2.1 ≠ (TX0 b).2.1 := by decide +kernel
theorem tyX0_ok : ∀ k, k < 4 → parseFieldDescriptor (TX0 k).2.2.1 = some (tyX0 k) := by decide +kernel
abbrev cX0_init : ByteArray := prog_1_method_4_code
def yX0_init : MethodName := ⟨RX0, "<init>", "()V"⟩
def dkwX0_init_3 : List UInt8 := [180, 0, 43, 4, 16, 60, 79, 42, 180, 0, 16, 180, 0, 43, 5, 16, 40, 79, 177]
abbrev dktX0_init_3 : List UInt8 := dkwX0_init_3 ++ []
def dkwX0_init_2 : List UInt8 := [3, 183, 0, 36, 181, 0, 39, 42, 180, 0, 16, 180, 0, 43, 3, 16, 90, 79, 42, 180, 0, 16]
abbrev dktX0_init_2 : List UInt8 := dkwX0_init_2 ++ dktX0_init_3
def dkwX0_init_1 : List UInt8 := [181, 0, 23, 42, 187, 0, 27, 89, 183, 0, 29, 181, 0, 30, 42, 180, 0, 16, 187, 0, 34, 89, 1, 1]
abbrev dktX0_init_1 : List UInt8 := dkwX0_init_1 ++ dktX0_init_2
def dkwX0_init_0 : List UInt8 := [42, 183, 0, 7, 42, 187, 0, 13, 89, 183, 0, 15, 181, 0, 16, 42, 187, 0, 20, 89, 183, 0, 22]
abbrev dktX0_init_0 : List UInt8 := dkwX0_init_0 ++ dktX0_init_1
theorem dksX0_init_0 : cX0_init.data.toList.drop 0 = dktX0_init_0 := by decide +kernel
theorem dksX0_init_1 : cX0_init.data.toList.drop 23 = dktX0_init_1 := dk_seg dksX0_init_0 23 rfl rfl
theorem dksX0_init_2 : cX0_init.data.toList.drop 47 = dktX0_init_2 := dk_seg dksX0_init_1 24 rfl rfl
theorem dksX0_init_3 : cX0_init.data.toList.drop 69 = dktX0_init_3 := dk_seg dksX0_init_2 22 rfl rfl
theorem dX0_init_0 : decode cX0_init 0 = .ok (.aload_n 0, 1) := dk_42 (dk_at dksX0_init_0 0 rfl rfl)
theorem dX0_init_1 : decode cX0_init 1 = .ok (.invokespecial 7, 3) := dk_183 0 7 (dk_at dksX0_init_0 1 rfl rfl)
theorem dX0_init_4 : decode cX0_init 4 = .ok (.aload_n 0, 1) := dk_42 (dk_at dksX0_init_0 4 rfl rfl)
theorem dX0_init_5 : decode cX0_init 5 = .ok (.new 13, 3) := dk_187 0 13 (dk_at dksX0_init_0 5 rfl rfl)
theorem dX0_init_8 : decode cX0_init 8 = .ok (.dup, 1) := dk_89 (dk_at dksX0_init_0 8 rfl rfl)
theorem dX0_init_9 : decode cX0_init 9 = .ok (.invokespecial 15, 3) := dk_183 0 15 (dk_at dksX0_init_0 9 rfl rfl)
theorem dX0_init_12 : decode cX0_init 12 = .ok (.putfield 16, 3) := dk_181 0 16 (dk_at dksX0_init_0 12 rfl rfl)
theorem dX0_init_15 : decode cX0_init 15 = .ok (.aload_n 0, 1) := dk_42 (dk_at dksX0_init_0 15 rfl rfl)
theorem dX0_init_16 : decode cX0_init 16 = .ok (.new 20, 3) := dk_187 0 20 (dk_at dksX0_init_0 16 rfl rfl)
theorem dX0_init_19 : decode cX0_init 19 = .ok (.dup, 1) := dk_89 (dk_at dksX0_init_0 19 rfl rfl)
theorem dX0_init_20 : decode cX0_init 20 = .ok (.invokespecial 22, 3) := dk_183 0 22 (dk_at dksX0_init_0 20 rfl rfl)
theorem dX0_init_23 : decode cX0_init 23 = .ok (.putfield 23, 3) := dk_181 0 23 (dk_at dksX0_init_1 0 rfl rfl)
theorem dX0_init_26 : decode cX0_init 26 = .ok (.aload_n 0, 1) := dk_42 (dk_at dksX0_init_1 3 rfl rfl)
theorem dX0_init_27 : decode cX0_init 27 = .ok (.new 27, 3) := dk_187 0 27 (dk_at dksX0_init_1 4 rfl rfl)
theorem dX0_init_30 : decode cX0_init 30 = .ok (.dup, 1) := dk_89 (dk_at dksX0_init_1 7 rfl rfl)
theorem dX0_init_31 : decode cX0_init 31 = .ok (.invokespecial 29, 3) := dk_183 0 29 (dk_at dksX0_init_1 8 rfl rfl)
theorem dX0_init_34 : decode cX0_init 34 = .ok (.putfield 30, 3) := dk_181 0 30 (dk_at dksX0_init_1 11 rfl rfl)
theorem dX0_init_37 : decode cX0_init 37 = .ok (.aload_n 0, 1) := dk_42 (dk_at dksX0_init_1 14 rfl rfl)
theorem dX0_init_38 : decode cX0_init 38 = .ok (.getfield 16, 3) := dk_180 0 16 (dk_at dksX0_init_1 15 rfl rfl)
theorem dX0_init_41 : decode cX0_init 41 = .ok (.new 34, 3) := dk_187 0 34 (dk_at dksX0_init_1 18 rfl rfl)
theorem dX0_init_44 : decode cX0_init 44 = .ok (.dup, 1) := dk_89 (dk_at dksX0_init_1 21 rfl rfl)
theorem dX0_init_45 : decode cX0_init 45 = .ok (.aconst_null, 1) := dk_1 (dk_at dksX0_init_1 22 rfl rfl)
theorem dX0_init_46 : decode cX0_init 46 = .ok (.aconst_null, 1) := dk_1 (dk_at dksX0_init_1 23 rfl rfl)
theorem dX0_init_47 : decode cX0_init 47 = .ok (.iconst 0, 1) := dk_3 (dk_at dksX0_init_2 0 rfl rfl)
theorem dX0_init_48 : decode cX0_init 48 = .ok (.invokespecial 36, 3) := dk_183 0 36 (dk_at dksX0_init_2 1 rfl rfl)
theorem dX0_init_51 : decode cX0_init 51 = .ok (.putfield 39, 3) := dk_181 0 39 (dk_at dksX0_init_2 4 rfl rfl)
theorem dX0_init_54 : decode cX0_init 54 = .ok (.aload_n 0, 1) := dk_42 (dk_at dksX0_init_2 7 rfl rfl)
theorem dX0_init_55 : decode cX0_init 55 = .ok (.getfield 16, 3) := dk_180 0 16 (dk_at dksX0_init_2 8 rfl rfl)
theorem dX0_init_58 : decode cX0_init 58 = .ok (.getfield 43, 3) := dk_180 0 43 (dk_at dksX0_init_2 11 rfl rfl)
theorem dX0_init_61 : decode cX0_init 61 = .ok (.iconst 0, 1) := dk_3 (dk_at dksX0_init_2 14 rfl rfl)
theorem dX0_init_62 : decode cX0_init 62 = .ok (.bipush 90, 2) := dk_16 90 (dk_at dksX0_init_2 15 rfl rfl)
theorem dX0_init_64 : decode cX0_init 64 = .ok (.iastore, 1) := dk_79 (dk_at dksX0_init_2 17 rfl rfl)
theorem dX0_init_65 : decode cX0_init 65 = .ok (.aload_n 0, 1) := dk_42 (dk_at dksX0_init_2 18 rfl rfl)
theorem dX0_init_66 : decode cX0_init 66 = .ok (.getfield 16, 3) := dk_180 0 16 (dk_at dksX0_init_2 19 rfl rfl)
theorem dX0_init_69 : decode cX0_init 69 = .ok (.getfield 43, 3) := dk_180 0 43 (dk_at dksX0_init_3 0 rfl rfl)
theorem dX0_init_72 : decode cX0_init 72 = .ok (.iconst 1, 1) := dk_4 (dk_at dksX0_init_3 3 rfl rfl)
theorem dX0_init_73 : decode cX0_init 73 = .ok (.bipush 60, 2) := dk_16 60 (dk_at dksX0_init_3 4 rfl rfl)
theorem dX0_init_75 : decode cX0_init 75 = .ok (.iastore, 1) := dk_79 (dk_at dksX0_init_3 6 rfl rfl)
theorem dX0_init_76 : decode cX0_init 76 = .ok (.aload_n 0, 1) := dk_42 (dk_at dksX0_init_3 7 rfl rfl)
theorem dX0_init_77 : decode cX0_init 77 = .ok (.getfield 16, 3) := dk_180 0 16 (dk_at dksX0_init_3 8 rfl rfl)
theorem dX0_init_80 : decode cX0_init 80 = .ok (.getfield 43, 3) := dk_180 0 43 (dk_at dksX0_init_3 11 rfl rfl)
theorem dX0_init_83 : decode cX0_init 83 = .ok (.iconst 2, 1) := dk_5 (dk_at dksX0_init_3 14 rfl rfl)
theorem dX0_init_84 : decode cX0_init 84 = .ok (.bipush 40, 2) := dk_16 40 (dk_at dksX0_init_3 15 rfl rfl)
theorem dX0_init_86 : decode cX0_init 86 = .ok (.iastore, 1) := dk_79 (dk_at dksX0_init_3 17 rfl rfl)
theorem dX0_init_87 : decode cX0_init 87 = .ok (.return_, 1) := dk_177 (dk_at dksX0_init_3 18 rfl rfl)
abbrev cX0_addRoad : ByteArray := prog_1_method_10_code
def yX0_addRoad : MethodName := ⟨RX0, "addRoad", "(III)I"⟩
def dkwX0_addRoad_5 : List UInt8 := [21, 4, 172]
abbrev dktX0_addRoad_5 : List UInt8 := dkwX0_addRoad_5 ++ []
def dkwX0_addRoad_4 : List UInt8 := [42, 180, 0, 16, 180, 0, 39, 187, 0, 95, 89, 27, 28, 183, 0, 97, 29, 183, 0, 36, 181, 0, 39]
abbrev dktX0_addRoad_4 : List UInt8 := dkwX0_addRoad_4 ++ dktX0_addRoad_5
def dkwX0_addRoad_3 : List UInt8 := [54, 4, 21, 4, 16, 30, 160, 0, 6, 16, 253, 172, 42, 182, 0, 92, 42, 180, 0, 16, 187, 0, 34, 89]
abbrev dktX0_addRoad_3 : List UInt8 := dkwX0_addRoad_3 ++ dktX0_addRoad_4
def dkwX0_addRoad_2 : List UInt8 := [16, 251, 159, 0, 6, 16, 252, 172, 42, 180, 0, 16, 180, 0, 39, 180, 0, 85, 185, 0, 89, 1, 0]
abbrev dktX0_addRoad_2 : List UInt8 := dkwX0_addRoad_2 ++ dktX0_addRoad_3
def dkwX0_addRoad_1 : List UInt8 := [153, 0, 8, 27, 28, 160, 0, 6, 16, 254, 172, 42, 180, 0, 16, 180, 0, 39, 27, 28, 182, 0, 81]
abbrev dktX0_addRoad_1 : List UInt8 := dkwX0_addRoad_1 ++ dktX0_addRoad_2
def dkwX0_addRoad_0 : List UInt8 := [27, 184, 0, 77, 153, 0, 10, 28, 184, 0, 77, 154, 0, 5, 2, 172, 29, 4, 16, 60, 184, 0, 3]
abbrev dktX0_addRoad_0 : List UInt8 := dkwX0_addRoad_0 ++ dktX0_addRoad_1
theorem dksX0_addRoad_0 : cX0_addRoad.data.toList.drop 0 = dktX0_addRoad_0 := by decide +kernel
theorem dksX0_addRoad_1 : cX0_addRoad.data.toList.drop 23 = dktX0_addRoad_1 := dk_seg dksX0_addRoad_0 23 rfl rfl
theorem dksX0_addRoad_2 : cX0_addRoad.data.toList.drop 46 = dktX0_addRoad_2 := dk_seg dksX0_addRoad_1 23 rfl rfl
theorem dksX0_addRoad_3 : cX0_addRoad.data.toList.drop 69 = dktX0_addRoad_3 := dk_seg dksX0_addRoad_2 23 rfl rfl
theorem dksX0_addRoad_4 : cX0_addRoad.data.toList.drop 93 = dktX0_addRoad_4 := dk_seg dksX0_addRoad_3 24 rfl rfl
theorem dksX0_addRoad_5 : cX0_addRoad.data.toList.drop 116 = dktX0_addRoad_5 := dk_seg dksX0_addRoad_4 23 rfl rfl
theorem dX0_addRoad_0 : decode cX0_addRoad 0 = .ok (.iload_n 1, 1) := dk_27 (dk_at dksX0_addRoad_0 0 rfl rfl)
theorem dX0_addRoad_1 : decode cX0_addRoad 1 = .ok (.invokestatic 77, 3) := dk_184 0 77 (dk_at dksX0_addRoad_0 1 rfl rfl)
theorem dX0_addRoad_4 : decode cX0_addRoad 4 = .ok (.ifCond .eq 10, 3) := dk_153 0 10 (dk_at dksX0_addRoad_0 4 rfl rfl)
theorem dX0_addRoad_7 : decode cX0_addRoad 7 = .ok (.iload_n 2, 1) := dk_28 (dk_at dksX0_addRoad_0 7 rfl rfl)
theorem dX0_addRoad_8 : decode cX0_addRoad 8 = .ok (.invokestatic 77, 3) := dk_184 0 77 (dk_at dksX0_addRoad_0 8 rfl rfl)
theorem dX0_addRoad_11 : decode cX0_addRoad 11 = .ok (.ifCond .ne 5, 3) := dk_154 0 5 (dk_at dksX0_addRoad_0 11 rfl rfl)
theorem dX0_addRoad_14 : decode cX0_addRoad 14 = .ok (.iconst (-1), 1) := dk_2 (dk_at dksX0_addRoad_0 14 rfl rfl)
theorem dX0_addRoad_15 : decode cX0_addRoad 15 = .ok (.ireturn, 1) := dk_172 (dk_at dksX0_addRoad_0 15 rfl rfl)
theorem dX0_addRoad_16 : decode cX0_addRoad 16 = .ok (.iload_n 3, 1) := dk_29 (dk_at dksX0_addRoad_0 16 rfl rfl)
theorem dX0_addRoad_17 : decode cX0_addRoad 17 = .ok (.iconst 1, 1) := dk_4 (dk_at dksX0_addRoad_0 17 rfl rfl)
theorem dX0_addRoad_18 : decode cX0_addRoad 18 = .ok (.bipush 60, 2) := dk_16 60 (dk_at dksX0_addRoad_0 18 rfl rfl)
theorem dX0_addRoad_20 : decode cX0_addRoad 20 = .ok (.invokestatic 3, 3) := dk_184 0 3 (dk_at dksX0_addRoad_0 20 rfl rfl)
theorem dX0_addRoad_23 : decode cX0_addRoad 23 = .ok (.ifCond .eq 8, 3) := dk_153 0 8 (dk_at dksX0_addRoad_1 0 rfl rfl)
theorem dX0_addRoad_26 : decode cX0_addRoad 26 = .ok (.iload_n 1, 1) := dk_27 (dk_at dksX0_addRoad_1 3 rfl rfl)
theorem dX0_addRoad_27 : decode cX0_addRoad 27 = .ok (.iload_n 2, 1) := dk_28 (dk_at dksX0_addRoad_1 4 rfl rfl)
theorem dX0_addRoad_28 : decode cX0_addRoad 28 = .ok (.if_icmp .ne 6, 3) := dk_160 0 6 (dk_at dksX0_addRoad_1 5 rfl rfl)
theorem dX0_addRoad_31 : decode cX0_addRoad 31 = .ok (.bipush (-2), 2) := dk_16 254 (dk_at dksX0_addRoad_1 8 rfl rfl)
theorem dX0_addRoad_33 : decode cX0_addRoad 33 = .ok (.ireturn, 1) := dk_172 (dk_at dksX0_addRoad_1 10 rfl rfl)
theorem dX0_addRoad_34 : decode cX0_addRoad 34 = .ok (.aload_n 0, 1) := dk_42 (dk_at dksX0_addRoad_1 11 rfl rfl)
theorem dX0_addRoad_35 : decode cX0_addRoad 35 = .ok (.getfield 16, 3) := dk_180 0 16 (dk_at dksX0_addRoad_1 12 rfl rfl)
theorem dX0_addRoad_38 : decode cX0_addRoad 38 = .ok (.getfield 39, 3) := dk_180 0 39 (dk_at dksX0_addRoad_1 15 rfl rfl)
theorem dX0_addRoad_41 : decode cX0_addRoad 41 = .ok (.iload_n 1, 1) := dk_27 (dk_at dksX0_addRoad_1 18 rfl rfl)
theorem dX0_addRoad_42 : decode cX0_addRoad 42 = .ok (.iload_n 2, 1) := dk_28 (dk_at dksX0_addRoad_1 19 rfl rfl)
theorem dX0_addRoad_43 : decode cX0_addRoad 43 = .ok (.invokevirtual 81, 3) := dk_182 0 81 (dk_at dksX0_addRoad_1 20 rfl rfl)
theorem dX0_addRoad_46 : decode cX0_addRoad 46 = .ok (.bipush (-5), 2) := dk_16 251 (dk_at dksX0_addRoad_2 0 rfl rfl)
theorem dX0_addRoad_48 : decode cX0_addRoad 48 = .ok (.if_icmp .eq 6, 3) := dk_159 0 6 (dk_at dksX0_addRoad_2 2 rfl rfl)
theorem dX0_addRoad_51 : decode cX0_addRoad 51 = .ok (.bipush (-4), 2) := dk_16 252 (dk_at dksX0_addRoad_2 5 rfl rfl)
theorem dX0_addRoad_53 : decode cX0_addRoad 53 = .ok (.ireturn, 1) := dk_172 (dk_at dksX0_addRoad_2 7 rfl rfl)
theorem dX0_addRoad_54 : decode cX0_addRoad 54 = .ok (.aload_n 0, 1) := dk_42 (dk_at dksX0_addRoad_2 8 rfl rfl)
theorem dX0_addRoad_55 : decode cX0_addRoad 55 = .ok (.getfield 16, 3) := dk_180 0 16 (dk_at dksX0_addRoad_2 9 rfl rfl)
theorem dX0_addRoad_58 : decode cX0_addRoad 58 = .ok (.getfield 39, 3) := dk_180 0 39 (dk_at dksX0_addRoad_2 12 rfl rfl)
theorem dX0_addRoad_61 : decode cX0_addRoad 61 = .ok (.getfield 85, 3) := dk_180 0 85 (dk_at dksX0_addRoad_2 15 rfl rfl)
theorem dX0_addRoad_64 : decode cX0_addRoad 64 = .ok (.invokeinterface 89 1, 5) := by decide +kernel
theorem dX0_addRoad_69 : decode cX0_addRoad 69 = .ok (.istore 4, 2) := dk_54 4 (dk_at dksX0_addRoad_3 0 rfl rfl)
theorem dX0_addRoad_71 : decode cX0_addRoad 71 = .ok (.iload 4, 2) := dk_21 4 (dk_at dksX0_addRoad_3 2 rfl rfl)
theorem dX0_addRoad_73 : decode cX0_addRoad 73 = .ok (.bipush 30, 2) := dk_16 30 (dk_at dksX0_addRoad_3 4 rfl rfl)
theorem dX0_addRoad_75 : decode cX0_addRoad 75 = .ok (.if_icmp .ne 6, 3) := dk_160 0 6 (dk_at dksX0_addRoad_3 6 rfl rfl)
theorem dX0_addRoad_78 : decode cX0_addRoad 78 = .ok (.bipush (-3), 2) := dk_16 253 (dk_at dksX0_addRoad_3 9 rfl rfl)
theorem dX0_addRoad_80 : decode cX0_addRoad 80 = .ok (.ireturn, 1) := dk_172 (dk_at dksX0_addRoad_3 11 rfl rfl)
theorem dX0_addRoad_81 : decode cX0_addRoad 81 = .ok (.aload_n 0, 1) := dk_42 (dk_at dksX0_addRoad_3 12 rfl rfl)
theorem dX0_addRoad_82 : decode cX0_addRoad 82 = .ok (.invokevirtual 92, 3) := dk_182 0 92 (dk_at dksX0_addRoad_3 13 rfl rfl)
theorem dX0_addRoad_85 : decode cX0_addRoad 85 = .ok (.aload_n 0, 1) := dk_42 (dk_at dksX0_addRoad_3 16 rfl rfl)
theorem dX0_addRoad_86 : decode cX0_addRoad 86 = .ok (.getfield 16, 3) := dk_180 0 16 (dk_at dksX0_addRoad_3 17 rfl rfl)
theorem dX0_addRoad_89 : decode cX0_addRoad 89 = .ok (.new 34, 3) := dk_187 0 34 (dk_at dksX0_addRoad_3 20 rfl rfl)
theorem dX0_addRoad_92 : decode cX0_addRoad 92 = .ok (.dup, 1) := dk_89 (dk_at dksX0_addRoad_3 23 rfl rfl)
theorem dX0_addRoad_93 : decode cX0_addRoad 93 = .ok (.aload_n 0, 1) := dk_42 (dk_at dksX0_addRoad_4 0 rfl rfl)
theorem dX0_addRoad_94 : decode cX0_addRoad 94 = .ok (.getfield 16, 3) := dk_180 0 16 (dk_at dksX0_addRoad_4 1 rfl rfl)
theorem dX0_addRoad_97 : decode cX0_addRoad 97 = .ok (.getfield 39, 3) := dk_180 0 39 (dk_at dksX0_addRoad_4 4 rfl rfl)
theorem dX0_addRoad_100 : decode cX0_addRoad 100 = .ok (.new 95, 3) := dk_187 0 95 (dk_at dksX0_addRoad_4 7 rfl rfl)
theorem dX0_addRoad_103 : decode cX0_addRoad 103 = .ok (.dup, 1) := dk_89 (dk_at dksX0_addRoad_4 10 rfl rfl)
theorem dX0_addRoad_104 : decode cX0_addRoad 104 = .ok (.iload_n 1, 1) := dk_27 (dk_at dksX0_addRoad_4 11 rfl rfl)
theorem dX0_addRoad_105 : decode cX0_addRoad 105 = .ok (.iload_n 2, 1) := dk_28 (dk_at dksX0_addRoad_4 12 rfl rfl)
theorem dX0_addRoad_106 : decode cX0_addRoad 106 = .ok (.invokespecial 97, 3) := dk_183 0 97 (dk_at dksX0_addRoad_4 13 rfl rfl)
theorem dX0_addRoad_109 : decode cX0_addRoad 109 = .ok (.iload_n 3, 1) := dk_29 (dk_at dksX0_addRoad_4 16 rfl rfl)
theorem dX0_addRoad_110 : decode cX0_addRoad 110 = .ok (.invokespecial 36, 3) := dk_183 0 36 (dk_at dksX0_addRoad_4 17 rfl rfl)
theorem dX0_addRoad_113 : decode cX0_addRoad 113 = .ok (.putfield 39, 3) := dk_181 0 39 (dk_at dksX0_addRoad_4 20 rfl rfl)
theorem dX0_addRoad_116 : decode cX0_addRoad 116 = .ok (.iload 4, 2) := dk_21 4 (dk_at dksX0_addRoad_5 0 rfl rfl)
theorem dX0_addRoad_118 : decode cX0_addRoad 118 = .ok (.ireturn, 1) := dk_172 (dk_at dksX0_addRoad_5 2 rfl rfl)
abbrev cX0_isArea : ByteArray := prog_1_method_2_code
def yX0_isArea : MethodName := ⟨RX0, "isArea", "(I)Z"⟩
def dkwX0_isArea_0 : List UInt8 := [26, 3, 16, 11, 184, 0, 3, 172]
abbrev dktX0_isArea_0 : List UInt8 := dkwX0_isArea_0 ++ []
theorem dksX0_isArea_0 : cX0_isArea.data.toList.drop 0 = dktX0_isArea_0 := by decide +kernel
theorem dX0_isArea_0 : decode cX0_isArea 0 = .ok (.iload_n 0, 1) := dk_26 (dk_at dksX0_isArea_0 0 rfl rfl)
theorem dX0_isArea_1 : decode cX0_isArea 1 = .ok (.iconst 0, 1) := dk_3 (dk_at dksX0_isArea_0 1 rfl rfl)
theorem dX0_isArea_2 : decode cX0_isArea 2 = .ok (.bipush 11, 2) := dk_16 11 (dk_at dksX0_isArea_0 2 rfl rfl)
theorem dX0_isArea_4 : decode cX0_isArea 4 = .ok (.invokestatic 3, 3) := dk_184 0 3 (dk_at dksX0_isArea_0 4 rfl rfl)
theorem dX0_isArea_7 : decode cX0_isArea 7 = .ok (.ireturn, 1) := dk_172 (dk_at dksX0_isArea_0 7 rfl rfl)
abbrev cX0_inRange : ByteArray := prog_1_method_1_code
def yX0_inRange : MethodName := ⟨RX0, "inRange", "(III)Z"⟩
def dkwX0_inRange_0 : List UInt8 := [26, 27, 161, 0, 12, 26, 28, 163, 0, 7, 4, 167, 0, 4, 3, 172]
abbrev dktX0_inRange_0 : List UInt8 := dkwX0_inRange_0 ++ []
theorem dksX0_inRange_0 : cX0_inRange.data.toList.drop 0 = dktX0_inRange_0 := by decide +kernel
theorem dX0_inRange_0 : decode cX0_inRange 0 = .ok (.iload_n 0, 1) := dk_26 (dk_at dksX0_inRange_0 0 rfl rfl)
theorem dX0_inRange_1 : decode cX0_inRange 1 = .ok (.iload_n 1, 1) := dk_27 (dk_at dksX0_inRange_0 1 rfl rfl)
theorem dX0_inRange_2 : decode cX0_inRange 2 = .ok (.if_icmp .lt 12, 3) := dk_161 0 12 (dk_at dksX0_inRange_0 2 rfl rfl)
theorem dX0_inRange_5 : decode cX0_inRange 5 = .ok (.iload_n 0, 1) := dk_26 (dk_at dksX0_inRange_0 5 rfl rfl)
theorem dX0_inRange_6 : decode cX0_inRange 6 = .ok (.iload_n 2, 1) := dk_28 (dk_at dksX0_inRange_0 6 rfl rfl)
theorem dX0_inRange_7 : decode cX0_inRange 7 = .ok (.if_icmp .gt 7, 3) := dk_163 0 7 (dk_at dksX0_inRange_0 7 rfl rfl)
theorem dX0_inRange_10 : decode cX0_inRange 10 = .ok (.iconst 1, 1) := dk_4 (dk_at dksX0_inRange_0 10 rfl rfl)
theorem dX0_inRange_11 : decode cX0_inRange 11 = .ok (.goto 4, 3) := dk_167 0 4 (dk_at dksX0_inRange_0 11 rfl rfl)
theorem dX0_inRange_14 : decode cX0_inRange 14 = .ok (.iconst 0, 1) := dk_3 (dk_at dksX0_inRange_0 14 rfl rfl)
theorem dX0_inRange_15 : decode cX0_inRange 15 = .ok (.ireturn, 1) := dk_172 (dk_at dksX0_inRange_0 15 rfl rfl)
abbrev cX0_record : ByteArray := prog_1_method_5_code
def yX0_record : MethodName := ⟨RX0, "record", "()V"⟩
def dkwX0_record_1 : List UInt8 := [42, 180, 0, 23, 42, 180, 0, 16, 182, 0, 57, 185, 0, 61, 2, 0, 87, 177]
abbrev dktX0_record_1 : List UInt8 := dkwX0_record_1 ++ []
def dkwX0_record_0 : List UInt8 := [42, 180, 0, 23, 185, 0, 47, 1, 0, 7, 160, 0, 14, 42, 180, 0, 23, 3, 185, 0, 53, 2, 0, 87]
abbrev dktX0_record_0 : List UInt8 := dkwX0_record_0 ++ dktX0_record_1
theorem dksX0_record_0 : cX0_record.data.toList.drop 0 = dktX0_record_0 := by decide +kernel
theorem dksX0_record_1 : cX0_record.data.toList.drop 24 = dktX0_record_1 := dk_seg dksX0_record_0 24 rfl rfl
theorem dX0_record_0 : decode cX0_record 0 = .ok (.aload_n 0, 1) := dk_42 (dk_at dksX0_record_0 0 rfl rfl)
theorem dX0_record_1 : decode cX0_record 1 = .ok (.getfield 23, 3) := dk_180 0 23 (dk_at dksX0_record_0 1 rfl rfl)
theorem dX0_record_4 : decode cX0_record 4 = .ok (.invokeinterface 47 1, 5) := by decide +kernel
theorem dX0_record_9 : decode cX0_record 9 = .ok (.iconst 4, 1) := dk_7 (dk_at dksX0_record_0 9 rfl rfl)
theorem dX0_record_10 : decode cX0_record 10 = .ok (.if_icmp .ne 14, 3) := dk_160 0 14 (dk_at dksX0_record_0 10 rfl rfl)
theorem dX0_record_13 : decode cX0_record 13 = .ok (.aload_n 0, 1) := dk_42 (dk_at dksX0_record_0 13 rfl rfl)
theorem dX0_record_14 : decode cX0_record 14 = .ok (.getfield 23, 3) := dk_180 0 23 (dk_at dksX0_record_0 14 rfl rfl)
theorem dX0_record_17 : decode cX0_record 17 = .ok (.iconst 0, 1) := dk_3 (dk_at dksX0_record_0 17 rfl rfl)
theorem dX0_record_18 : decode cX0_record 18 = .ok (.invokeinterface 53 2, 5) := by decide +kernel
theorem dX0_record_23 : decode cX0_record 23 = .ok (.pop, 1) := dk_87 (dk_at dksX0_record_0 23 rfl rfl)
theorem dX0_record_24 : decode cX0_record 24 = .ok (.aload_n 0, 1) := dk_42 (dk_at dksX0_record_1 0 rfl rfl)
theorem dX0_record_25 : decode cX0_record 25 = .ok (.getfield 23, 3) := dk_180 0 23 (dk_at dksX0_record_1 1 rfl rfl)
theorem dX0_record_28 : decode cX0_record 28 = .ok (.aload_n 0, 1) := dk_42 (dk_at dksX0_record_1 4 rfl rfl)
theorem dX0_record_29 : decode cX0_record 29 = .ok (.getfield 16, 3) := dk_180 0 16 (dk_at dksX0_record_1 5 rfl rfl)
theorem dX0_record_32 : decode cX0_record 32 = .ok (.invokevirtual 57, 3) := dk_182 0 57 (dk_at dksX0_record_1 8 rfl rfl)
theorem dX0_record_35 : decode cX0_record 35 = .ok (.invokeinterface 61 2, 5) := by decide +kernel
theorem dX0_record_40 : decode cX0_record 40 = .ok (.pop, 1) := dk_87 (dk_at dksX0_record_1 16 rfl rfl)
theorem dX0_record_41 : decode cX0_record 41 = .ok (.return_, 1) := dk_177 (dk_at dksX0_record_1 17 rfl rfl)
abbrev cX0_addMember : ByteArray := prog_1_method_11_code
def yX0_addMember : MethodName := ⟨RX0, "addMember", "(I)I"⟩
def dkwX0_addMember_2 : List UInt8 := [183, 0, 102, 185, 0, 61, 2, 0, 87, 42, 180, 0, 16, 180, 0, 65, 185, 0, 47, 1, 0, 4, 100, 172]
abbrev dktX0_addMember_2 : List UInt8 := dkwX0_addMember_2 ++ []
def dkwX0_addMember_1 : List UInt8 := [16, 20, 160, 0, 6, 16, 253, 172, 42, 182, 0, 92, 42, 180, 0, 16, 180, 0, 65, 187, 0, 100, 89, 27]
abbrev dktX0_addMember_1 : List UInt8 := dkwX0_addMember_1 ++ dktX0_addMember_2
def dkwX0_addMember_0 : List UInt8 := [27, 3, 5, 184, 0, 3, 154, 0, 6, 16, 254, 172, 42, 180, 0, 16, 180, 0, 65, 185, 0, 47, 1, 0]
abbrev dktX0_addMember_0 : List UInt8 := dkwX0_addMember_0 ++ dktX0_addMember_1
theorem dksX0_addMember_0 : cX0_addMember.data.toList.drop 0 = dktX0_addMember_0 := by decide +kernel
theorem dksX0_addMember_1 : cX0_addMember.data.toList.drop 24 = dktX0_addMember_1 := dk_seg dksX0_addMember_0 24 rfl rfl
theorem dksX0_addMember_2 : cX0_addMember.data.toList.drop 48 = dktX0_addMember_2 := dk_seg dksX0_addMember_1 24 rfl rfl
theorem dX0_addMember_0 : decode cX0_addMember 0 = .ok (.iload_n 1, 1) := dk_27 (dk_at dksX0_addMember_0 0 rfl rfl)
theorem dX0_addMember_1 : decode cX0_addMember 1 = .ok (.iconst 0, 1) := dk_3 (dk_at dksX0_addMember_0 1 rfl rfl)
theorem dX0_addMember_2 : decode cX0_addMember 2 = .ok (.iconst 2, 1) := dk_5 (dk_at dksX0_addMember_0 2 rfl rfl)
theorem dX0_addMember_3 : decode cX0_addMember 3 = .ok (.invokestatic 3, 3) := dk_184 0 3 (dk_at dksX0_addMember_0 3 rfl rfl)
theorem dX0_addMember_6 : decode cX0_addMember 6 = .ok (.ifCond .ne 6, 3) := dk_154 0 6 (dk_at dksX0_addMember_0 6 rfl rfl)
theorem dX0_addMember_9 : decode cX0_addMember 9 = .ok (.bipush (-2), 2) := dk_16 254 (dk_at dksX0_addMember_0 9 rfl rfl)
theorem dX0_addMember_11 : decode cX0_addMember 11 = .ok (.ireturn, 1) := dk_172 (dk_at dksX0_addMember_0 11 rfl rfl)
theorem dX0_addMember_12 : decode cX0_addMember 12 = .ok (.aload_n 0, 1) := dk_42 (dk_at dksX0_addMember_0 12 rfl rfl)
theorem dX0_addMember_13 : decode cX0_addMember 13 = .ok (.getfield 16, 3) := dk_180 0 16 (dk_at dksX0_addMember_0 13 rfl rfl)
theorem dX0_addMember_16 : decode cX0_addMember 16 = .ok (.getfield 65, 3) := dk_180 0 65 (dk_at dksX0_addMember_0 16 rfl rfl)
theorem dX0_addMember_19 : decode cX0_addMember 19 = .ok (.invokeinterface 47 1, 5) := by decide +kernel
theorem dX0_addMember_24 : decode cX0_addMember 24 = .ok (.bipush 20, 2) := dk_16 20 (dk_at dksX0_addMember_1 0 rfl rfl)
theorem dX0_addMember_26 : decode cX0_addMember 26 = .ok (.if_icmp .ne 6, 3) := dk_160 0 6 (dk_at dksX0_addMember_1 2 rfl rfl)
theorem dX0_addMember_29 : decode cX0_addMember 29 = .ok (.bipush (-3), 2) := dk_16 253 (dk_at dksX0_addMember_1 5 rfl rfl)
theorem dX0_addMember_31 : decode cX0_addMember 31 = .ok (.ireturn, 1) := dk_172 (dk_at dksX0_addMember_1 7 rfl rfl)
theorem dX0_addMember_32 : decode cX0_addMember 32 = .ok (.aload_n 0, 1) := dk_42 (dk_at dksX0_addMember_1 8 rfl rfl)
theorem dX0_addMember_33 : decode cX0_addMember 33 = .ok (.invokevirtual 92, 3) := dk_182 0 92 (dk_at dksX0_addMember_1 9 rfl rfl)
theorem dX0_addMember_36 : decode cX0_addMember 36 = .ok (.aload_n 0, 1) := dk_42 (dk_at dksX0_addMember_1 12 rfl rfl)
theorem dX0_addMember_37 : decode cX0_addMember 37 = .ok (.getfield 16, 3) := dk_180 0 16 (dk_at dksX0_addMember_1 13 rfl rfl)
theorem dX0_addMember_40 : decode cX0_addMember 40 = .ok (.getfield 65, 3) := dk_180 0 65 (dk_at dksX0_addMember_1 16 rfl rfl)
theorem dX0_addMember_43 : decode cX0_addMember 43 = .ok (.new 100, 3) := dk_187 0 100 (dk_at dksX0_addMember_1 19 rfl rfl)
theorem dX0_addMember_46 : decode cX0_addMember 46 = .ok (.dup, 1) := dk_89 (dk_at dksX0_addMember_1 22 rfl rfl)
theorem dX0_addMember_47 : decode cX0_addMember 47 = .ok (.iload_n 1, 1) := dk_27 (dk_at dksX0_addMember_1 23 rfl rfl)
theorem dX0_addMember_48 : decode cX0_addMember 48 = .ok (.invokespecial 102, 3) := dk_183 0 102 (dk_at dksX0_addMember_2 0 rfl rfl)
theorem dX0_addMember_51 : decode cX0_addMember 51 = .ok (.invokeinterface 61 2, 5) := by decide +kernel
theorem dX0_addMember_56 : decode cX0_addMember 56 = .ok (.pop, 1) := dk_87 (dk_at dksX0_addMember_2 8 rfl rfl)
theorem dX0_addMember_57 : decode cX0_addMember 57 = .ok (.aload_n 0, 1) := dk_42 (dk_at dksX0_addMember_2 9 rfl rfl)
theorem dX0_addMember_58 : decode cX0_addMember 58 = .ok (.getfield 16, 3) := dk_180 0 16 (dk_at dksX0_addMember_2 10 rfl rfl)
theorem dX0_addMember_61 : decode cX0_addMember 61 = .ok (.getfield 65, 3) := dk_180 0 65 (dk_at dksX0_addMember_2 13 rfl rfl)
theorem dX0_addMember_64 : decode cX0_addMember 64 = .ok (.invokeinterface 47 1, 5) := by decide +kernel
theorem dX0_addMember_69 : decode cX0_addMember 69 = .ok (.iconst 1, 1) := dk_4 (dk_at dksX0_addMember_2 21 rfl rfl)
theorem dX0_addMember_70 : decode cX0_addMember 70 = .ok (.isub, 1) := dk_100 (dk_at dksX0_addMember_2 22 rfl rfl)
theorem dX0_addMember_71 : decode cX0_addMember 71 = .ok (.ireturn, 1) := dk_172 (dk_at dksX0_addMember_2 23 rfl rfl)
abbrev cX0_addPatrol : ByteArray := prog_1_method_12_code
def yX0_addPatrol : MethodName := ⟨RX0, "addPatrol", "(IIZ)I"⟩
def dkwX0_addPatrol_3 : List UInt8 := [185, 0, 61, 2, 0, 87, 21, 4, 172]
abbrev dktX0_addPatrol_3 : List UInt8 := dkwX0_addPatrol_3 ++ []
def dkwX0_addPatrol_2 : List UInt8 := [182, 0, 92, 42, 180, 0, 16, 180, 0, 68, 187, 0, 105, 89, 21, 4, 27, 28, 29, 183, 0, 107]
abbrev dktX0_addPatrol_2 : List UInt8 := dkwX0_addPatrol_2 ++ dktX0_addPatrol_3
def dkwX0_addPatrol_1 : List UInt8 := [180, 0, 16, 180, 0, 68, 185, 0, 47, 1, 0, 54, 4, 21, 4, 16, 6, 160, 0, 6, 16, 253, 172, 42]
abbrev dktX0_addPatrol_1 : List UInt8 := dkwX0_addPatrol_1 ++ dktX0_addPatrol_2
def dkwX0_addPatrol_0 : List UInt8 := [27, 184, 0, 77, 154, 0, 5, 2, 172, 28, 4, 16, 9, 184, 0, 3, 154, 0, 6, 16, 254, 172, 42]
abbrev dktX0_addPatrol_0 : List UInt8 := dkwX0_addPatrol_0 ++ dktX0_addPatrol_1
theorem dksX0_addPatrol_0 : cX0_addPatrol.data.toList.drop 0 = dktX0_addPatrol_0 := by decide +kernel
theorem dksX0_addPatrol_1 : cX0_addPatrol.data.toList.drop 23 = dktX0_addPatrol_1 := dk_seg dksX0_addPatrol_0 23 rfl rfl
theorem dksX0_addPatrol_2 : cX0_addPatrol.data.toList.drop 47 = dktX0_addPatrol_2 := dk_seg dksX0_addPatrol_1 24 rfl rfl
theorem dksX0_addPatrol_3 : cX0_addPatrol.data.toList.drop 69 = dktX0_addPatrol_3 := dk_seg dksX0_addPatrol_2 22 rfl rfl
theorem dX0_addPatrol_0 : decode cX0_addPatrol 0 = .ok (.iload_n 1, 1) := dk_27 (dk_at dksX0_addPatrol_0 0 rfl rfl)
theorem dX0_addPatrol_1 : decode cX0_addPatrol 1 = .ok (.invokestatic 77, 3) := dk_184 0 77 (dk_at dksX0_addPatrol_0 1 rfl rfl)
theorem dX0_addPatrol_4 : decode cX0_addPatrol 4 = .ok (.ifCond .ne 5, 3) := dk_154 0 5 (dk_at dksX0_addPatrol_0 4 rfl rfl)
theorem dX0_addPatrol_7 : decode cX0_addPatrol 7 = .ok (.iconst (-1), 1) := dk_2 (dk_at dksX0_addPatrol_0 7 rfl rfl)
theorem dX0_addPatrol_8 : decode cX0_addPatrol 8 = .ok (.ireturn, 1) := dk_172 (dk_at dksX0_addPatrol_0 8 rfl rfl)
theorem dX0_addPatrol_9 : decode cX0_addPatrol 9 = .ok (.iload_n 2, 1) := dk_28 (dk_at dksX0_addPatrol_0 9 rfl rfl)
theorem dX0_addPatrol_10 : decode cX0_addPatrol 10 = .ok (.iconst 1, 1) := dk_4 (dk_at dksX0_addPatrol_0 10 rfl rfl)
theorem dX0_addPatrol_11 : decode cX0_addPatrol 11 = .ok (.bipush 9, 2) := dk_16 9 (dk_at dksX0_addPatrol_0 11 rfl rfl)
theorem dX0_addPatrol_13 : decode cX0_addPatrol 13 = .ok (.invokestatic 3, 3) := dk_184 0 3 (dk_at dksX0_addPatrol_0 13 rfl rfl)
theorem dX0_addPatrol_16 : decode cX0_addPatrol 16 = .ok (.ifCond .ne 6, 3) := dk_154 0 6 (dk_at dksX0_addPatrol_0 16 rfl rfl)
theorem dX0_addPatrol_19 : decode cX0_addPatrol 19 = .ok (.bipush (-2), 2) := dk_16 254 (dk_at dksX0_addPatrol_0 19 rfl rfl)
theorem dX0_addPatrol_21 : decode cX0_addPatrol 21 = .ok (.ireturn, 1) := dk_172 (dk_at dksX0_addPatrol_0 21 rfl rfl)
theorem dX0_addPatrol_22 : decode cX0_addPatrol 22 = .ok (.aload_n 0, 1) := dk_42 (dk_at dksX0_addPatrol_0 22 rfl rfl)
theorem dX0_addPatrol_23 : decode cX0_addPatrol 23 = .ok (.getfield 16, 3) := dk_180 0 16 (dk_at dksX0_addPatrol_1 0 rfl rfl)
theorem dX0_addPatrol_26 : decode cX0_addPatrol 26 = .ok (.getfield 68, 3) := dk_180 0 68 (dk_at dksX0_addPatrol_1 3 rfl rfl)
theorem dX0_addPatrol_29 : decode cX0_addPatrol 29 = .ok (.invokeinterface 47 1, 5) := by decide +kernel
theorem dX0_addPatrol_34 : decode cX0_addPatrol 34 = .ok (.istore 4, 2) := dk_54 4 (dk_at dksX0_addPatrol_1 11 rfl rfl)
theorem dX0_addPatrol_36 : decode cX0_addPatrol 36 = .ok (.iload 4, 2) := dk_21 4 (dk_at dksX0_addPatrol_1 13 rfl rfl)
theorem dX0_addPatrol_38 : decode cX0_addPatrol 38 = .ok (.bipush 6, 2) := dk_16 6 (dk_at dksX0_addPatrol_1 15 rfl rfl)
theorem dX0_addPatrol_40 : decode cX0_addPatrol 40 = .ok (.if_icmp .ne 6, 3) := dk_160 0 6 (dk_at dksX0_addPatrol_1 17 rfl rfl)
theorem dX0_addPatrol_43 : decode cX0_addPatrol 43 = .ok (.bipush (-3), 2) := dk_16 253 (dk_at dksX0_addPatrol_1 20 rfl rfl)
theorem dX0_addPatrol_45 : decode cX0_addPatrol 45 = .ok (.ireturn, 1) := dk_172 (dk_at dksX0_addPatrol_1 22 rfl rfl)
theorem dX0_addPatrol_46 : decode cX0_addPatrol 46 = .ok (.aload_n 0, 1) := dk_42 (dk_at dksX0_addPatrol_1 23 rfl rfl)
theorem dX0_addPatrol_47 : decode cX0_addPatrol 47 = .ok (.invokevirtual 92, 3) := dk_182 0 92 (dk_at dksX0_addPatrol_2 0 rfl rfl)
theorem dX0_addPatrol_50 : decode cX0_addPatrol 50 = .ok (.aload_n 0, 1) := dk_42 (dk_at dksX0_addPatrol_2 3 rfl rfl)
theorem dX0_addPatrol_51 : decode cX0_addPatrol 51 = .ok (.getfield 16, 3) := dk_180 0 16 (dk_at dksX0_addPatrol_2 4 rfl rfl)
theorem dX0_addPatrol_54 : decode cX0_addPatrol 54 = .ok (.getfield 68, 3) := dk_180 0 68 (dk_at dksX0_addPatrol_2 7 rfl rfl)
theorem dX0_addPatrol_57 : decode cX0_addPatrol 57 = .ok (.new 105, 3) := dk_187 0 105 (dk_at dksX0_addPatrol_2 10 rfl rfl)
theorem dX0_addPatrol_60 : decode cX0_addPatrol 60 = .ok (.dup, 1) := dk_89 (dk_at dksX0_addPatrol_2 13 rfl rfl)
theorem dX0_addPatrol_61 : decode cX0_addPatrol 61 = .ok (.iload 4, 2) := dk_21 4 (dk_at dksX0_addPatrol_2 14 rfl rfl)
theorem dX0_addPatrol_63 : decode cX0_addPatrol 63 = .ok (.iload_n 1, 1) := dk_27 (dk_at dksX0_addPatrol_2 16 rfl rfl)
theorem dX0_addPatrol_64 : decode cX0_addPatrol 64 = .ok (.iload_n 2, 1) := dk_28 (dk_at dksX0_addPatrol_2 17 rfl rfl)
theorem dX0_addPatrol_65 : decode cX0_addPatrol 65 = .ok (.iload_n 3, 1) := dk_29 (dk_at dksX0_addPatrol_2 18 rfl rfl)
theorem dX0_addPatrol_66 : decode cX0_addPatrol 66 = .ok (.invokespecial 107, 3) := dk_183 0 107 (dk_at dksX0_addPatrol_2 19 rfl rfl)
theorem dX0_addPatrol_69 : decode cX0_addPatrol 69 = .ok (.invokeinterface 61 2, 5) := by decide +kernel
theorem dX0_addPatrol_74 : decode cX0_addPatrol 74 = .ok (.pop, 1) := dk_87 (dk_at dksX0_addPatrol_3 5 rfl rfl)
theorem dX0_addPatrol_75 : decode cX0_addPatrol 75 = .ok (.iload 4, 2) := dk_21 4 (dk_at dksX0_addPatrol_3 6 rfl rfl)
theorem dX0_addPatrol_77 : decode cX0_addPatrol 77 = .ok (.ireturn, 1) := dk_172 (dk_at dksX0_addPatrol_3 8 rfl rfl)
abbrev cX0_addGarage : ByteArray := prog_1_method_13_code
def yX0_addGarage : MethodName := ⟨RX0, "addGarage", "(II)I"⟩
def dkwX0_addGarage_3 : List UInt8 := [180, 0, 16, 180, 0, 71, 185, 0, 47, 1, 0, 4, 100, 172]
abbrev dktX0_addGarage_3 : List UInt8 := dkwX0_addGarage_3 ++ []
def dkwX0_addGarage_2 : List UInt8 := [180, 0, 16, 180, 0, 71, 187, 0, 110, 89, 27, 28, 183, 0, 112, 185, 0, 61, 2, 0, 87, 42]
abbrev dktX0_addGarage_2 : List UInt8 := dkwX0_addGarage_2 ++ dktX0_addGarage_3
def dkwX0_addGarage_1 : List UInt8 := [180, 0, 16, 180, 0, 71, 185, 0, 47, 1, 0, 8, 160, 0, 6, 16, 253, 172, 42, 182, 0, 92, 42]
abbrev dktX0_addGarage_1 : List UInt8 := dkwX0_addGarage_1 ++ dktX0_addGarage_2
def dkwX0_addGarage_0 : List UInt8 := [27, 184, 0, 77, 154, 0, 5, 2, 172, 28, 4, 16, 9, 184, 0, 3, 154, 0, 6, 16, 254, 172, 42]
abbrev dktX0_addGarage_0 : List UInt8 := dkwX0_addGarage_0 ++ dktX0_addGarage_1
theorem dksX0_addGarage_0 : cX0_addGarage.data.toList.drop 0 = dktX0_addGarage_0 := by decide +kernel
theorem dksX0_addGarage_1 : cX0_addGarage.data.toList.drop 23 = dktX0_addGarage_1 := dk_seg dksX0_addGarage_0 23 rfl rfl
theorem dksX0_addGarage_2 : cX0_addGarage.data.toList.drop 46 = dktX0_addGarage_2 := dk_seg dksX0_addGarage_1 23 rfl rfl
theorem dksX0_addGarage_3 : cX0_addGarage.data.toList.drop 68 = dktX0_addGarage_3 := dk_seg dksX0_addGarage_2 22 rfl rfl
theorem dX0_addGarage_0 : decode cX0_addGarage 0 = .ok (.iload_n 1, 1) := dk_27 (dk_at dksX0_addGarage_0 0 rfl rfl)
theorem dX0_addGarage_1 : decode cX0_addGarage 1 = .ok (.invokestatic 77, 3) := dk_184 0 77 (dk_at dksX0_addGarage_0 1 rfl rfl)
theorem dX0_addGarage_4 : decode cX0_addGarage 4 = .ok (.ifCond .ne 5, 3) := dk_154 0 5 (dk_at dksX0_addGarage_0 4 rfl rfl)
theorem dX0_addGarage_7 : decode cX0_addGarage 7 = .ok (.iconst (-1), 1) := dk_2 (dk_at dksX0_addGarage_0 7 rfl rfl)
theorem dX0_addGarage_8 : decode cX0_addGarage 8 = .ok (.ireturn, 1) := dk_172 (dk_at dksX0_addGarage_0 8 rfl rfl)
theorem dX0_addGarage_9 : decode cX0_addGarage 9 = .ok (.iload_n 2, 1) := dk_28 (dk_at dksX0_addGarage_0 9 rfl rfl)
theorem dX0_addGarage_10 : decode cX0_addGarage 10 = .ok (.iconst 1, 1) := dk_4 (dk_at dksX0_addGarage_0 10 rfl rfl)
theorem dX0_addGarage_11 : decode cX0_addGarage 11 = .ok (.bipush 9, 2) := dk_16 9 (dk_at dksX0_addGarage_0 11 rfl rfl)
theorem dX0_addGarage_13 : decode cX0_addGarage 13 = .ok (.invokestatic 3, 3) := dk_184 0 3 (dk_at dksX0_addGarage_0 13 rfl rfl)
theorem dX0_addGarage_16 : decode cX0_addGarage 16 = .ok (.ifCond .ne 6, 3) := dk_154 0 6 (dk_at dksX0_addGarage_0 16 rfl rfl)
theorem dX0_addGarage_19 : decode cX0_addGarage 19 = .ok (.bipush (-2), 2) := dk_16 254 (dk_at dksX0_addGarage_0 19 rfl rfl)
theorem dX0_addGarage_21 : decode cX0_addGarage 21 = .ok (.ireturn, 1) := dk_172 (dk_at dksX0_addGarage_0 21 rfl rfl)
theorem dX0_addGarage_22 : decode cX0_addGarage 22 = .ok (.aload_n 0, 1) := dk_42 (dk_at dksX0_addGarage_0 22 rfl rfl)
theorem dX0_addGarage_23 : decode cX0_addGarage 23 = .ok (.getfield 16, 3) := dk_180 0 16 (dk_at dksX0_addGarage_1 0 rfl rfl)
theorem dX0_addGarage_26 : decode cX0_addGarage 26 = .ok (.getfield 71, 3) := dk_180 0 71 (dk_at dksX0_addGarage_1 3 rfl rfl)
theorem dX0_addGarage_29 : decode cX0_addGarage 29 = .ok (.invokeinterface 47 1, 5) := by decide +kernel
theorem dX0_addGarage_34 : decode cX0_addGarage 34 = .ok (.iconst 5, 1) := dk_8 (dk_at dksX0_addGarage_1 11 rfl rfl)
theorem dX0_addGarage_35 : decode cX0_addGarage 35 = .ok (.if_icmp .ne 6, 3) := dk_160 0 6 (dk_at dksX0_addGarage_1 12 rfl rfl)
theorem dX0_addGarage_38 : decode cX0_addGarage 38 = .ok (.bipush (-3), 2) := dk_16 253 (dk_at dksX0_addGarage_1 15 rfl rfl)
theorem dX0_addGarage_40 : decode cX0_addGarage 40 = .ok (.ireturn, 1) := dk_172 (dk_at dksX0_addGarage_1 17 rfl rfl)
theorem dX0_addGarage_41 : decode cX0_addGarage 41 = .ok (.aload_n 0, 1) := dk_42 (dk_at dksX0_addGarage_1 18 rfl rfl)
theorem dX0_addGarage_42 : decode cX0_addGarage 42 = .ok (.invokevirtual 92, 3) := dk_182 0 92 (dk_at dksX0_addGarage_1 19 rfl rfl)
theorem dX0_addGarage_45 : decode cX0_addGarage 45 = .ok (.aload_n 0, 1) := dk_42 (dk_at dksX0_addGarage_1 22 rfl rfl)
theorem dX0_addGarage_46 : decode cX0_addGarage 46 = .ok (.getfield 16, 3) := dk_180 0 16 (dk_at dksX0_addGarage_2 0 rfl rfl)
theorem dX0_addGarage_49 : decode cX0_addGarage 49 = .ok (.getfield 71, 3) := dk_180 0 71 (dk_at dksX0_addGarage_2 3 rfl rfl)
theorem dX0_addGarage_52 : decode cX0_addGarage 52 = .ok (.new 110, 3) := dk_187 0 110 (dk_at dksX0_addGarage_2 6 rfl rfl)
theorem dX0_addGarage_55 : decode cX0_addGarage 55 = .ok (.dup, 1) := dk_89 (dk_at dksX0_addGarage_2 9 rfl rfl)
theorem dX0_addGarage_56 : decode cX0_addGarage 56 = .ok (.iload_n 1, 1) := dk_27 (dk_at dksX0_addGarage_2 10 rfl rfl)
theorem dX0_addGarage_57 : decode cX0_addGarage 57 = .ok (.iload_n 2, 1) := dk_28 (dk_at dksX0_addGarage_2 11 rfl rfl)
theorem dX0_addGarage_58 : decode cX0_addGarage 58 = .ok (.invokespecial 112, 3) := dk_183 0 112 (dk_at dksX0_addGarage_2 12 rfl rfl)
theorem dX0_addGarage_61 : decode cX0_addGarage 61 = .ok (.invokeinterface 61 2, 5) := by decide +kernel
theorem dX0_addGarage_66 : decode cX0_addGarage 66 = .ok (.pop, 1) := dk_87 (dk_at dksX0_addGarage_2 20 rfl rfl)
theorem dX0_addGarage_67 : decode cX0_addGarage 67 = .ok (.aload_n 0, 1) := dk_42 (dk_at dksX0_addGarage_2 21 rfl rfl)
theorem dX0_addGarage_68 : decode cX0_addGarage 68 = .ok (.getfield 16, 3) := dk_180 0 16 (dk_at dksX0_addGarage_3 0 rfl rfl)
theorem dX0_addGarage_71 : decode cX0_addGarage 71 = .ok (.getfield 71, 3) := dk_180 0 71 (dk_at dksX0_addGarage_3 3 rfl rfl)
theorem dX0_addGarage_74 : decode cX0_addGarage 74 = .ok (.invokeinterface 47 1, 5) := by decide +kernel
theorem dX0_addGarage_79 : decode cX0_addGarage 79 = .ok (.iconst 1, 1) := dk_4 (dk_at dksX0_addGarage_3 11 rfl rfl)
theorem dX0_addGarage_80 : decode cX0_addGarage 80 = .ok (.isub, 1) := dk_100 (dk_at dksX0_addGarage_3 12 rfl rfl)
theorem dX0_addGarage_81 : decode cX0_addGarage 81 = .ok (.ireturn, 1) := dk_172 (dk_at dksX0_addGarage_3 13 rfl rfl)
abbrev cX0_setPromise : ByteArray := prog_1_method_14_code
def yX0_setPromise : MethodName := ⟨RX0, "setPromise", "(II)I"⟩
def dkwX0_setPromise_2 : List UInt8 := [180, 0, 16, 180, 0, 43, 27, 28, 79, 29, 172]
abbrev dktX0_setPromise_2 : List UInt8 := dkwX0_setPromise_2 ++ []
def dkwX0_setPromise_1 : List UInt8 := [42, 180, 0, 16, 180, 0, 43, 27, 46, 62, 29, 28, 160, 0, 6, 16, 251, 172, 42, 182, 0, 92, 42]
abbrev dktX0_setPromise_1 : List UInt8 := dkwX0_setPromise_1 ++ dktX0_setPromise_2
def dkwX0_setPromise_0 : List UInt8 := [27, 3, 5, 184, 0, 3, 153, 0, 15, 28, 16, 10, 17, 0, 240, 184, 0, 3, 154, 0, 6, 16, 254, 172]
abbrev dktX0_setPromise_0 : List UInt8 := dkwX0_setPromise_0 ++ dktX0_setPromise_1
theorem dksX0_setPromise_0 : cX0_setPromise.data.toList.drop 0 = dktX0_setPromise_0 := by decide +kernel
theorem dksX0_setPromise_1 : cX0_setPromise.data.toList.drop 24 = dktX0_setPromise_1 := dk_seg dksX0_setPromise_0 24 rfl rfl
theorem dksX0_setPromise_2 : cX0_setPromise.data.toList.drop 47 = dktX0_setPromise_2 := dk_seg dksX0_setPromise_1 23 rfl rfl
theorem dX0_setPromise_0 : decode cX0_setPromise 0 = .ok (.iload_n 1, 1) := dk_27 (dk_at dksX0_setPromise_0 0 rfl rfl)
theorem dX0_setPromise_1 : decode cX0_setPromise 1 = .ok (.iconst 0, 1) := dk_3 (dk_at dksX0_setPromise_0 1 rfl rfl)
theorem dX0_setPromise_2 : decode cX0_setPromise 2 = .ok (.iconst 2, 1) := dk_5 (dk_at dksX0_setPromise_0 2 rfl rfl)
theorem dX0_setPromise_3 : decode cX0_setPromise 3 = .ok (.invokestatic 3, 3) := dk_184 0 3 (dk_at dksX0_setPromise_0 3 rfl rfl)
theorem dX0_setPromise_6 : decode cX0_setPromise 6 = .ok (.ifCond .eq 15, 3) := dk_153 0 15 (dk_at dksX0_setPromise_0 6 rfl rfl)
theorem dX0_setPromise_9 : decode cX0_setPromise 9 = .ok (.iload_n 2, 1) := dk_28 (dk_at dksX0_setPromise_0 9 rfl rfl)
theorem dX0_setPromise_10 : decode cX0_setPromise 10 = .ok (.bipush 10, 2) := dk_16 10 (dk_at dksX0_setPromise_0 10 rfl rfl)
theorem dX0_setPromise_12 : decode cX0_setPromise 12 = .ok (.sipush 240, 3) := dk_17 0 240 (dk_at dksX0_setPromise_0 12 rfl rfl)
theorem dX0_setPromise_15 : decode cX0_setPromise 15 = .ok (.invokestatic 3, 3) := dk_184 0 3 (dk_at dksX0_setPromise_0 15 rfl rfl)
theorem dX0_setPromise_18 : decode cX0_setPromise 18 = .ok (.ifCond .ne 6, 3) := dk_154 0 6 (dk_at dksX0_setPromise_0 18 rfl rfl)
theorem dX0_setPromise_21 : decode cX0_setPromise 21 = .ok (.bipush (-2), 2) := dk_16 254 (dk_at dksX0_setPromise_0 21 rfl rfl)
theorem dX0_setPromise_23 : decode cX0_setPromise 23 = .ok (.ireturn, 1) := dk_172 (dk_at dksX0_setPromise_0 23 rfl rfl)
theorem dX0_setPromise_24 : decode cX0_setPromise 24 = .ok (.aload_n 0, 1) := dk_42 (dk_at dksX0_setPromise_1 0 rfl rfl)
theorem dX0_setPromise_25 : decode cX0_setPromise 25 = .ok (.getfield 16, 3) := dk_180 0 16 (dk_at dksX0_setPromise_1 1 rfl rfl)
theorem dX0_setPromise_28 : decode cX0_setPromise 28 = .ok (.getfield 43, 3) := dk_180 0 43 (dk_at dksX0_setPromise_1 4 rfl rfl)
theorem dX0_setPromise_31 : decode cX0_setPromise 31 = .ok (.iload_n 1, 1) := dk_27 (dk_at dksX0_setPromise_1 7 rfl rfl)
theorem dX0_setPromise_32 : decode cX0_setPromise 32 = .ok (.iaload, 1) := dk_46 (dk_at dksX0_setPromise_1 8 rfl rfl)
theorem dX0_setPromise_33 : decode cX0_setPromise 33 = .ok (.istore_n 3, 1) := dk_62 (dk_at dksX0_setPromise_1 9 rfl rfl)
theorem dX0_setPromise_34 : decode cX0_setPromise 34 = .ok (.iload_n 3, 1) := dk_29 (dk_at dksX0_setPromise_1 10 rfl rfl)
theorem dX0_setPromise_35 : decode cX0_setPromise 35 = .ok (.iload_n 2, 1) := dk_28 (dk_at dksX0_setPromise_1 11 rfl rfl)
theorem dX0_setPromise_36 : decode cX0_setPromise 36 = .ok (.if_icmp .ne 6, 3) := dk_160 0 6 (dk_at dksX0_setPromise_1 12 rfl rfl)
theorem dX0_setPromise_39 : decode cX0_setPromise 39 = .ok (.bipush (-5), 2) := dk_16 251 (dk_at dksX0_setPromise_1 15 rfl rfl)
theorem dX0_setPromise_41 : decode cX0_setPromise 41 = .ok (.ireturn, 1) := dk_172 (dk_at dksX0_setPromise_1 17 rfl rfl)
theorem dX0_setPromise_42 : decode cX0_setPromise 42 = .ok (.aload_n 0, 1) := dk_42 (dk_at dksX0_setPromise_1 18 rfl rfl)
theorem dX0_setPromise_43 : decode cX0_setPromise 43 = .ok (.invokevirtual 92, 3) := dk_182 0 92 (dk_at dksX0_setPromise_1 19 rfl rfl)
theorem dX0_setPromise_46 : decode cX0_setPromise 46 = .ok (.aload_n 0, 1) := dk_42 (dk_at dksX0_setPromise_1 22 rfl rfl)
theorem dX0_setPromise_47 : decode cX0_setPromise 47 = .ok (.getfield 16, 3) := dk_180 0 16 (dk_at dksX0_setPromise_2 0 rfl rfl)
theorem dX0_setPromise_50 : decode cX0_setPromise 50 = .ok (.getfield 43, 3) := dk_180 0 43 (dk_at dksX0_setPromise_2 3 rfl rfl)
theorem dX0_setPromise_53 : decode cX0_setPromise 53 = .ok (.iload_n 1, 1) := dk_27 (dk_at dksX0_setPromise_2 6 rfl rfl)
theorem dX0_setPromise_54 : decode cX0_setPromise 54 = .ok (.iload_n 2, 1) := dk_28 (dk_at dksX0_setPromise_2 7 rfl rfl)
theorem dX0_setPromise_55 : decode cX0_setPromise 55 = .ok (.iastore, 1) := dk_79 (dk_at dksX0_setPromise_2 8 rfl rfl)
theorem dX0_setPromise_56 : decode cX0_setPromise 56 = .ok (.iload_n 3, 1) := dk_29 (dk_at dksX0_setPromise_2 9 rfl rfl)
theorem dX0_setPromise_57 : decode cX0_setPromise 57 = .ok (.ireturn, 1) := dk_172 (dk_at dksX0_setPromise_2 10 rfl rfl)
abbrev cX0_setWeather : ByteArray := prog_1_method_15_code
def yX0_setWeather : MethodName := ⟨RX0, "setWeather", "(I)I"⟩
def dkwX0_setWeather_1 : List UInt8 := [160, 0, 6, 16, 251, 172, 42, 182, 0, 92, 42, 180, 0, 16, 27, 181, 0, 113, 28, 172]
abbrev dktX0_setWeather_1 : List UInt8 := dkwX0_setWeather_1 ++ []
def dkwX0_setWeather_0 : List UInt8 := [27, 3, 8, 184, 0, 3, 154, 0, 6, 16, 254, 172, 42, 180, 0, 16, 180, 0, 113, 61, 28, 27]
abbrev dktX0_setWeather_0 : List UInt8 := dkwX0_setWeather_0 ++ dktX0_setWeather_1
theorem dksX0_setWeather_0 : cX0_setWeather.data.toList.drop 0 = dktX0_setWeather_0 := by decide +kernel
theorem dksX0_setWeather_1 : cX0_setWeather.data.toList.drop 22 = dktX0_setWeather_1 := dk_seg dksX0_setWeather_0 22 rfl rfl
theorem dX0_setWeather_0 : decode cX0_setWeather 0 = .ok (.iload_n 1, 1) := dk_27 (dk_at dksX0_setWeather_0 0 rfl rfl)
theorem dX0_setWeather_1 : decode cX0_setWeather 1 = .ok (.iconst 0, 1) := dk_3 (dk_at dksX0_setWeather_0 1 rfl rfl)
theorem dX0_setWeather_2 : decode cX0_setWeather 2 = .ok (.iconst 5, 1) := dk_8 (dk_at dksX0_setWeather_0 2 rfl rfl)
theorem dX0_setWeather_3 : decode cX0_setWeather 3 = .ok (.invokestatic 3, 3) := dk_184 0 3 (dk_at dksX0_setWeather_0 3 rfl rfl)
theorem dX0_setWeather_6 : decode cX0_setWeather 6 = .ok (.ifCond .ne 6, 3) := dk_154 0 6 (dk_at dksX0_setWeather_0 6 rfl rfl)
theorem dX0_setWeather_9 : decode cX0_setWeather 9 = .ok (.bipush (-2), 2) := dk_16 254 (dk_at dksX0_setWeather_0 9 rfl rfl)
theorem dX0_setWeather_11 : decode cX0_setWeather 11 = .ok (.ireturn, 1) := dk_172 (dk_at dksX0_setWeather_0 11 rfl rfl)
theorem dX0_setWeather_12 : decode cX0_setWeather 12 = .ok (.aload_n 0, 1) := dk_42 (dk_at dksX0_setWeather_0 12 rfl rfl)
theorem dX0_setWeather_13 : decode cX0_setWeather 13 = .ok (.getfield 16, 3) := dk_180 0 16 (dk_at dksX0_setWeather_0 13 rfl rfl)
theorem dX0_setWeather_16 : decode cX0_setWeather 16 = .ok (.getfield 113, 3) := dk_180 0 113 (dk_at dksX0_setWeather_0 16 rfl rfl)
theorem dX0_setWeather_19 : decode cX0_setWeather 19 = .ok (.istore_n 2, 1) := dk_61 (dk_at dksX0_setWeather_0 19 rfl rfl)
theorem dX0_setWeather_20 : decode cX0_setWeather 20 = .ok (.iload_n 2, 1) := dk_28 (dk_at dksX0_setWeather_0 20 rfl rfl)
theorem dX0_setWeather_21 : decode cX0_setWeather 21 = .ok (.iload_n 1, 1) := dk_27 (dk_at dksX0_setWeather_0 21 rfl rfl)
theorem dX0_setWeather_22 : decode cX0_setWeather 22 = .ok (.if_icmp .ne 6, 3) := dk_160 0 6 (dk_at dksX0_setWeather_1 0 rfl rfl)
theorem dX0_setWeather_25 : decode cX0_setWeather 25 = .ok (.bipush (-5), 2) := dk_16 251 (dk_at dksX0_setWeather_1 3 rfl rfl)
theorem dX0_setWeather_27 : decode cX0_setWeather 27 = .ok (.ireturn, 1) := dk_172 (dk_at dksX0_setWeather_1 5 rfl rfl)
theorem dX0_setWeather_28 : decode cX0_setWeather 28 = .ok (.aload_n 0, 1) := dk_42 (dk_at dksX0_setWeather_1 6 rfl rfl)
theorem dX0_setWeather_29 : decode cX0_setWeather 29 = .ok (.invokevirtual 92, 3) := dk_182 0 92 (dk_at dksX0_setWeather_1 7 rfl rfl)
theorem dX0_setWeather_32 : decode cX0_setWeather 32 = .ok (.aload_n 0, 1) := dk_42 (dk_at dksX0_setWeather_1 10 rfl rfl)
theorem dX0_setWeather_33 : decode cX0_setWeather 33 = .ok (.getfield 16, 3) := dk_180 0 16 (dk_at dksX0_setWeather_1 11 rfl rfl)
theorem dX0_setWeather_36 : decode cX0_setWeather 36 = .ok (.iload_n 1, 1) := dk_27 (dk_at dksX0_setWeather_1 14 rfl rfl)
theorem dX0_setWeather_37 : decode cX0_setWeather 37 = .ok (.putfield 113, 3) := dk_181 0 113 (dk_at dksX0_setWeather_1 15 rfl rfl)
theorem dX0_setWeather_40 : decode cX0_setWeather 40 = .ok (.iload_n 2, 1) := dk_28 (dk_at dksX0_setWeather_1 18 rfl rfl)
theorem dX0_setWeather_41 : decode cX0_setWeather 41 = .ok (.ireturn, 1) := dk_172 (dk_at dksX0_setWeather_1 19 rfl rfl)
abbrev cX0_call : ByteArray := prog_1_method_16_code
def yX0_call : MethodName := ⟨RX0, "call", "(III)I"⟩
def dkwX0_call_2 : List UInt8 := [185, 0, 47, 1, 0, 4, 100, 172]
abbrev dktX0_call_2 : List UInt8 := dkwX0_call_2 ++ []
def dkwX0_call_1 : List UInt8 := [182, 0, 92, 42, 180, 0, 16, 27, 28, 29, 182, 0, 126, 42, 180, 0, 16, 180, 0, 74]
abbrev dktX0_call_1 : List UInt8 := dkwX0_call_1 ++ dktX0_call_2
def dkwX0_call_0 : List UInt8 := [42, 180, 0, 16, 27, 28, 29, 182, 0, 117, 167, 0, 11, 58, 4, 25, 4, 180, 0, 123, 172, 42]
abbrev dktX0_call_0 : List UInt8 := dkwX0_call_0 ++ dktX0_call_1
theorem dksX0_call_0 : cX0_call.data.toList.drop 0 = dktX0_call_0 := by decide +kernel
theorem dksX0_call_1 : cX0_call.data.toList.drop 22 = dktX0_call_1 := dk_seg dksX0_call_0 22 rfl rfl
theorem dksX0_call_2 : cX0_call.data.toList.drop 42 = dktX0_call_2 := dk_seg dksX0_call_1 20 rfl rfl
theorem dX0_call_0 : decode cX0_call 0 = .ok (.aload_n 0, 1) := dk_42 (dk_at dksX0_call_0 0 rfl rfl)
theorem dX0_call_1 : decode cX0_call 1 = .ok (.getfield 16, 3) := dk_180 0 16 (dk_at dksX0_call_0 1 rfl rfl)
theorem dX0_call_4 : decode cX0_call 4 = .ok (.iload_n 1, 1) := dk_27 (dk_at dksX0_call_0 4 rfl rfl)
theorem dX0_call_5 : decode cX0_call 5 = .ok (.iload_n 2, 1) := dk_28 (dk_at dksX0_call_0 5 rfl rfl)
theorem dX0_call_6 : decode cX0_call 6 = .ok (.iload_n 3, 1) := dk_29 (dk_at dksX0_call_0 6 rfl rfl)
theorem dX0_call_7 : decode cX0_call 7 = .ok (.invokevirtual 117, 3) := dk_182 0 117 (dk_at dksX0_call_0 7 rfl rfl)
theorem dX0_call_10 : decode cX0_call 10 = .ok (.goto 11, 3) := dk_167 0 11 (dk_at dksX0_call_0 10 rfl rfl)
theorem dX0_call_13 : decode cX0_call 13 = .ok (.astore 4, 2) := dk_58 4 (dk_at dksX0_call_0 13 rfl rfl)
theorem dX0_call_15 : decode cX0_call 15 = .ok (.aload 4, 2) := dk_25 4 (dk_at dksX0_call_0 15 rfl rfl)
theorem dX0_call_17 : decode cX0_call 17 = .ok (.getfield 123, 3) := dk_180 0 123 (dk_at dksX0_call_0 17 rfl rfl)
theorem dX0_call_20 : decode cX0_call 20 = .ok (.ireturn, 1) := dk_172 (dk_at dksX0_call_0 20 rfl rfl)
theorem dX0_call_21 : decode cX0_call 21 = .ok (.aload_n 0, 1) := dk_42 (dk_at dksX0_call_0 21 rfl rfl)
theorem dX0_call_22 : decode cX0_call 22 = .ok (.invokevirtual 92, 3) := dk_182 0 92 (dk_at dksX0_call_1 0 rfl rfl)
theorem dX0_call_25 : decode cX0_call 25 = .ok (.aload_n 0, 1) := dk_42 (dk_at dksX0_call_1 3 rfl rfl)
theorem dX0_call_26 : decode cX0_call 26 = .ok (.getfield 16, 3) := dk_180 0 16 (dk_at dksX0_call_1 4 rfl rfl)
theorem dX0_call_29 : decode cX0_call 29 = .ok (.iload_n 1, 1) := dk_27 (dk_at dksX0_call_1 7 rfl rfl)
theorem dX0_call_30 : decode cX0_call 30 = .ok (.iload_n 2, 1) := dk_28 (dk_at dksX0_call_1 8 rfl rfl)
theorem dX0_call_31 : decode cX0_call 31 = .ok (.iload_n 3, 1) := dk_29 (dk_at dksX0_call_1 9 rfl rfl)
theorem dX0_call_32 : decode cX0_call 32 = .ok (.invokevirtual 126, 3) := dk_182 0 126 (dk_at dksX0_call_1 10 rfl rfl)
theorem dX0_call_35 : decode cX0_call 35 = .ok (.aload_n 0, 1) := dk_42 (dk_at dksX0_call_1 13 rfl rfl)
theorem dX0_call_36 : decode cX0_call 36 = .ok (.getfield 16, 3) := dk_180 0 16 (dk_at dksX0_call_1 14 rfl rfl)
theorem dX0_call_39 : decode cX0_call 39 = .ok (.getfield 74, 3) := dk_180 0 74 (dk_at dksX0_call_1 17 rfl rfl)
theorem dX0_call_42 : decode cX0_call 42 = .ok (.invokeinterface 47 1, 5) := by decide +kernel
theorem dX0_call_47 : decode cX0_call 47 = .ok (.iconst 1, 1) := dk_4 (dk_at dksX0_call_2 5 rfl rfl)
theorem dX0_call_48 : decode cX0_call 48 = .ok (.isub, 1) := dk_100 (dk_at dksX0_call_2 6 rfl rfl)
theorem dX0_call_49 : decode cX0_call 49 = .ok (.ireturn, 1) := dk_172 (dk_at dksX0_call_2 7 rfl rfl)
abbrev cX0_cancel : ByteArray := prog_1_method_17_code
def yX0_cancel : MethodName := ⟨RX0, "cancel", "(I)I"⟩
def dkwX0_cancel_5 : List UInt8 := [180, 0, 145, 182, 0, 154, 172]
abbrev dktX0_cancel_5 : List UInt8 := dkwX0_cancel_5 ++ []
def dkwX0_cancel_4 : List UInt8 := [180, 0, 145, 181, 0, 148, 44, 16, 7, 42, 180, 0, 16, 180, 0, 145, 182, 0, 151, 44, 42, 180, 0, 16]
abbrev dktX0_cancel_4 : List UInt8 := dkwX0_cancel_4 ++ dktX0_cancel_5
def dkwX0_cancel_3 : List UInt8 := [180, 0, 68, 44, 180, 0, 139, 185, 0, 132, 2, 0, 192, 0, 105, 182, 0, 142, 44, 42, 180, 0, 16]
abbrev dktX0_cancel_3 : List UInt8 := dkwX0_cancel_3 ++ dktX0_cancel_4
def dkwX0_cancel_2 : List UInt8 := [27, 185, 0, 132, 2, 0, 192, 0, 135, 77, 44, 180, 0, 139, 16, 251, 159, 0, 25, 42, 180, 0, 16]
abbrev dktX0_cancel_2 : List UInt8 := dkwX0_cancel_2 ++ dktX0_cancel_3
def dkwX0_cancel_1 : List UInt8 := [192, 0, 135, 180, 0, 137, 4, 164, 0, 6, 16, 252, 172, 42, 182, 0, 92, 42, 180, 0, 16, 180, 0, 74]
abbrev dktX0_cancel_1 : List UInt8 := dkwX0_cancel_1 ++ dktX0_cancel_2
def dkwX0_cancel_0 : List UInt8 := [42, 27, 182, 0, 129, 154, 0, 5, 2, 172, 42, 180, 0, 16, 180, 0, 74, 27, 185, 0, 132, 2, 0]
abbrev dktX0_cancel_0 : List UInt8 := dkwX0_cancel_0 ++ dktX0_cancel_1
theorem dksX0_cancel_0 : cX0_cancel.data.toList.drop 0 = dktX0_cancel_0 := by decide +kernel
theorem dksX0_cancel_1 : cX0_cancel.data.toList.drop 23 = dktX0_cancel_1 := dk_seg dksX0_cancel_0 23 rfl rfl
theorem dksX0_cancel_2 : cX0_cancel.data.toList.drop 47 = dktX0_cancel_2 := dk_seg dksX0_cancel_1 24 rfl rfl
theorem dksX0_cancel_3 : cX0_cancel.data.toList.drop 70 = dktX0_cancel_3 := dk_seg dksX0_cancel_2 23 rfl rfl
theorem dksX0_cancel_4 : cX0_cancel.data.toList.drop 93 = dktX0_cancel_4 := dk_seg dksX0_cancel_3 23 rfl rfl
theorem dksX0_cancel_5 : cX0_cancel.data.toList.drop 117 = dktX0_cancel_5 := dk_seg dksX0_cancel_4 24 rfl rfl
theorem dX0_cancel_0 : decode cX0_cancel 0 = .ok (.aload_n 0, 1) := dk_42 (dk_at dksX0_cancel_0 0 rfl rfl)
theorem dX0_cancel_1 : decode cX0_cancel 1 = .ok (.iload_n 1, 1) := dk_27 (dk_at dksX0_cancel_0 1 rfl rfl)
theorem dX0_cancel_2 : decode cX0_cancel 2 = .ok (.invokevirtual 129, 3) := dk_182 0 129 (dk_at dksX0_cancel_0 2 rfl rfl)
theorem dX0_cancel_5 : decode cX0_cancel 5 = .ok (.ifCond .ne 5, 3) := dk_154 0 5 (dk_at dksX0_cancel_0 5 rfl rfl)
theorem dX0_cancel_8 : decode cX0_cancel 8 = .ok (.iconst (-1), 1) := dk_2 (dk_at dksX0_cancel_0 8 rfl rfl)
theorem dX0_cancel_9 : decode cX0_cancel 9 = .ok (.ireturn, 1) := dk_172 (dk_at dksX0_cancel_0 9 rfl rfl)
theorem dX0_cancel_10 : decode cX0_cancel 10 = .ok (.aload_n 0, 1) := dk_42 (dk_at dksX0_cancel_0 10 rfl rfl)
theorem dX0_cancel_11 : decode cX0_cancel 11 = .ok (.getfield 16, 3) := dk_180 0 16 (dk_at dksX0_cancel_0 11 rfl rfl)
theorem dX0_cancel_14 : decode cX0_cancel 14 = .ok (.getfield 74, 3) := dk_180 0 74 (dk_at dksX0_cancel_0 14 rfl rfl)
theorem dX0_cancel_17 : decode cX0_cancel 17 = .ok (.iload_n 1, 1) := dk_27 (dk_at dksX0_cancel_0 17 rfl rfl)
theorem dX0_cancel_18 : decode cX0_cancel 18 = .ok (.invokeinterface 132 2, 5) := by decide +kernel
theorem dX0_cancel_23 : decode cX0_cancel 23 = .ok (.checkcast 135, 3) := dk_192 0 135 (dk_at dksX0_cancel_1 0 rfl rfl)
theorem dX0_cancel_26 : decode cX0_cancel 26 = .ok (.getfield 137, 3) := dk_180 0 137 (dk_at dksX0_cancel_1 3 rfl rfl)
theorem dX0_cancel_29 : decode cX0_cancel 29 = .ok (.iconst 1, 1) := dk_4 (dk_at dksX0_cancel_1 6 rfl rfl)
theorem dX0_cancel_30 : decode cX0_cancel 30 = .ok (.if_icmp .le 6, 3) := dk_164 0 6 (dk_at dksX0_cancel_1 7 rfl rfl)
theorem dX0_cancel_33 : decode cX0_cancel 33 = .ok (.bipush (-4), 2) := dk_16 252 (dk_at dksX0_cancel_1 10 rfl rfl)
theorem dX0_cancel_35 : decode cX0_cancel 35 = .ok (.ireturn, 1) := dk_172 (dk_at dksX0_cancel_1 12 rfl rfl)
theorem dX0_cancel_36 : decode cX0_cancel 36 = .ok (.aload_n 0, 1) := dk_42 (dk_at dksX0_cancel_1 13 rfl rfl)
theorem dX0_cancel_37 : decode cX0_cancel 37 = .ok (.invokevirtual 92, 3) := dk_182 0 92 (dk_at dksX0_cancel_1 14 rfl rfl)
theorem dX0_cancel_40 : decode cX0_cancel 40 = .ok (.aload_n 0, 1) := dk_42 (dk_at dksX0_cancel_1 17 rfl rfl)
theorem dX0_cancel_41 : decode cX0_cancel 41 = .ok (.getfield 16, 3) := dk_180 0 16 (dk_at dksX0_cancel_1 18 rfl rfl)
theorem dX0_cancel_44 : decode cX0_cancel 44 = .ok (.getfield 74, 3) := dk_180 0 74 (dk_at dksX0_cancel_1 21 rfl rfl)
theorem dX0_cancel_47 : decode cX0_cancel 47 = .ok (.iload_n 1, 1) := dk_27 (dk_at dksX0_cancel_2 0 rfl rfl)
theorem dX0_cancel_48 : decode cX0_cancel 48 = .ok (.invokeinterface 132 2, 5) := by decide +kernel
theorem dX0_cancel_53 : decode cX0_cancel 53 = .ok (.checkcast 135, 3) := dk_192 0 135 (dk_at dksX0_cancel_2 6 rfl rfl)
theorem dX0_cancel_56 : decode cX0_cancel 56 = .ok (.astore_n 2, 1) := dk_77 (dk_at dksX0_cancel_2 9 rfl rfl)
theorem dX0_cancel_57 : decode cX0_cancel 57 = .ok (.aload_n 2, 1) := dk_44 (dk_at dksX0_cancel_2 10 rfl rfl)
theorem dX0_cancel_58 : decode cX0_cancel 58 = .ok (.getfield 139, 3) := dk_180 0 139 (dk_at dksX0_cancel_2 11 rfl rfl)
theorem dX0_cancel_61 : decode cX0_cancel 61 = .ok (.bipush (-5), 2) := dk_16 251 (dk_at dksX0_cancel_2 14 rfl rfl)
theorem dX0_cancel_63 : decode cX0_cancel 63 = .ok (.if_icmp .eq 25, 3) := dk_159 0 25 (dk_at dksX0_cancel_2 16 rfl rfl)
theorem dX0_cancel_66 : decode cX0_cancel 66 = .ok (.aload_n 0, 1) := dk_42 (dk_at dksX0_cancel_2 19 rfl rfl)
theorem dX0_cancel_67 : decode cX0_cancel 67 = .ok (.getfield 16, 3) := dk_180 0 16 (dk_at dksX0_cancel_2 20 rfl rfl)
theorem dX0_cancel_70 : decode cX0_cancel 70 = .ok (.getfield 68, 3) := dk_180 0 68 (dk_at dksX0_cancel_3 0 rfl rfl)
theorem dX0_cancel_73 : decode cX0_cancel 73 = .ok (.aload_n 2, 1) := dk_44 (dk_at dksX0_cancel_3 3 rfl rfl)
theorem dX0_cancel_74 : decode cX0_cancel 74 = .ok (.getfield 139, 3) := dk_180 0 139 (dk_at dksX0_cancel_3 4 rfl rfl)
theorem dX0_cancel_77 : decode cX0_cancel 77 = .ok (.invokeinterface 132 2, 5) := by decide +kernel
theorem dX0_cancel_82 : decode cX0_cancel 82 = .ok (.checkcast 105, 3) := dk_192 0 105 (dk_at dksX0_cancel_3 12 rfl rfl)
theorem dX0_cancel_85 : decode cX0_cancel 85 = .ok (.invokevirtual 142, 3) := dk_182 0 142 (dk_at dksX0_cancel_3 15 rfl rfl)
theorem dX0_cancel_88 : decode cX0_cancel 88 = .ok (.aload_n 2, 1) := dk_44 (dk_at dksX0_cancel_3 18 rfl rfl)
theorem dX0_cancel_89 : decode cX0_cancel 89 = .ok (.aload_n 0, 1) := dk_42 (dk_at dksX0_cancel_3 19 rfl rfl)
theorem dX0_cancel_90 : decode cX0_cancel 90 = .ok (.getfield 16, 3) := dk_180 0 16 (dk_at dksX0_cancel_3 20 rfl rfl)
theorem dX0_cancel_93 : decode cX0_cancel 93 = .ok (.getfield 145, 3) := dk_180 0 145 (dk_at dksX0_cancel_4 0 rfl rfl)
theorem dX0_cancel_96 : decode cX0_cancel 96 = .ok (.putfield 148, 3) := dk_181 0 148 (dk_at dksX0_cancel_4 3 rfl rfl)
theorem dX0_cancel_99 : decode cX0_cancel 99 = .ok (.aload_n 2, 1) := dk_44 (dk_at dksX0_cancel_4 6 rfl rfl)
theorem dX0_cancel_100 : decode cX0_cancel 100 = .ok (.bipush 7, 2) := dk_16 7 (dk_at dksX0_cancel_4 7 rfl rfl)
theorem dX0_cancel_102 : decode cX0_cancel 102 = .ok (.aload_n 0, 1) := dk_42 (dk_at dksX0_cancel_4 9 rfl rfl)
theorem dX0_cancel_103 : decode cX0_cancel 103 = .ok (.getfield 16, 3) := dk_180 0 16 (dk_at dksX0_cancel_4 10 rfl rfl)
theorem dX0_cancel_106 : decode cX0_cancel 106 = .ok (.getfield 145, 3) := dk_180 0 145 (dk_at dksX0_cancel_4 13 rfl rfl)
theorem dX0_cancel_109 : decode cX0_cancel 109 = .ok (.invokevirtual 151, 3) := dk_182 0 151 (dk_at dksX0_cancel_4 16 rfl rfl)
theorem dX0_cancel_112 : decode cX0_cancel 112 = .ok (.aload_n 2, 1) := dk_44 (dk_at dksX0_cancel_4 19 rfl rfl)
theorem dX0_cancel_113 : decode cX0_cancel 113 = .ok (.aload_n 0, 1) := dk_42 (dk_at dksX0_cancel_4 20 rfl rfl)
theorem dX0_cancel_114 : decode cX0_cancel 114 = .ok (.getfield 16, 3) := dk_180 0 16 (dk_at dksX0_cancel_4 21 rfl rfl)
theorem dX0_cancel_117 : decode cX0_cancel 117 = .ok (.getfield 145, 3) := dk_180 0 145 (dk_at dksX0_cancel_5 0 rfl rfl)
theorem dX0_cancel_120 : decode cX0_cancel 120 = .ok (.invokevirtual 154, 3) := dk_182 0 154 (dk_at dksX0_cancel_5 3 rfl rfl)
theorem dX0_cancel_123 : decode cX0_cancel 123 = .ok (.ireturn, 1) := dk_172 (dk_at dksX0_cancel_5 6 rfl rfl)
abbrev cX0_isCall : ByteArray := prog_1_method_9_code
def yX0_isCall : MethodName := ⟨RX0, "isCall", "(I)Z"⟩
def dkwX0_isCall_0 : List UInt8 := [27, 3, 42, 180, 0, 16, 180, 0, 74, 185, 0, 47, 1, 0, 4, 100, 184, 0, 3, 172]
abbrev dktX0_isCall_0 : List UInt8 := dkwX0_isCall_0 ++ []
theorem dksX0_isCall_0 : cX0_isCall.data.toList.drop 0 = dktX0_isCall_0 := by decide +kernel
theorem dX0_isCall_0 : decode cX0_isCall 0 = .ok (.iload_n 1, 1) := dk_27 (dk_at dksX0_isCall_0 0 rfl rfl)
theorem dX0_isCall_1 : decode cX0_isCall 1 = .ok (.iconst 0, 1) := dk_3 (dk_at dksX0_isCall_0 1 rfl rfl)
theorem dX0_isCall_2 : decode cX0_isCall 2 = .ok (.aload_n 0, 1) := dk_42 (dk_at dksX0_isCall_0 2 rfl rfl)
theorem dX0_isCall_3 : decode cX0_isCall 3 = .ok (.getfield 16, 3) := dk_180 0 16 (dk_at dksX0_isCall_0 3 rfl rfl)
theorem dX0_isCall_6 : decode cX0_isCall 6 = .ok (.getfield 74, 3) := dk_180 0 74 (dk_at dksX0_isCall_0 6 rfl rfl)
theorem dX0_isCall_9 : decode cX0_isCall 9 = .ok (.invokeinterface 47 1, 5) := by decide +kernel
theorem dX0_isCall_14 : decode cX0_isCall 14 = .ok (.iconst 1, 1) := dk_4 (dk_at dksX0_isCall_0 14 rfl rfl)
theorem dX0_isCall_15 : decode cX0_isCall 15 = .ok (.isub, 1) := dk_100 (dk_at dksX0_isCall_0 15 rfl rfl)
theorem dX0_isCall_16 : decode cX0_isCall 16 = .ok (.invokestatic 3, 3) := dk_184 0 3 (dk_at dksX0_isCall_0 16 rfl rfl)
theorem dX0_isCall_19 : decode cX0_isCall 19 = .ok (.ireturn, 1) := dk_172 (dk_at dksX0_isCall_0 19 rfl rfl)
abbrev cX0_duty : ByteArray := prog_1_method_19_code
def yX0_duty : MethodName := ⟨RX0, "duty", "(IZ)I"⟩
def dkwX0_duty_3 : List UInt8 := [167, 0, 4, 7, 181, 0, 158, 42, 182, 0, 168, 172]
abbrev dktX0_duty_3 : List UInt8 := dkwX0_duty_3 ++ []
def dkwX0_duty_2 : List UInt8 := [159, 0, 7, 4, 167, 0, 4, 3, 160, 0, 6, 16, 251, 172, 42, 182, 0, 92, 45, 28, 153, 0, 7, 3]
abbrev dktX0_duty_2 : List UInt8 := dkwX0_duty_2 ++ dktX0_duty_3
def dkwX0_duty_1 : List UInt8 := [192, 0, 105, 78, 28, 154, 0, 13, 45, 182, 0, 164, 153, 0, 6, 16, 252, 172, 28, 45, 180, 0, 158, 7]
abbrev dktX0_duty_1 : List UInt8 := dkwX0_duty_1 ++ dktX0_duty_2
def dkwX0_duty_0 : List UInt8 := [42, 27, 182, 0, 161, 154, 0, 5, 2, 172, 42, 180, 0, 16, 180, 0, 68, 27, 185, 0, 132, 2, 0]
abbrev dktX0_duty_0 : List UInt8 := dkwX0_duty_0 ++ dktX0_duty_1
theorem dksX0_duty_0 : cX0_duty.data.toList.drop 0 = dktX0_duty_0 := by decide +kernel
theorem dksX0_duty_1 : cX0_duty.data.toList.drop 23 = dktX0_duty_1 := dk_seg dksX0_duty_0 23 rfl rfl
theorem dksX0_duty_2 : cX0_duty.data.toList.drop 47 = dktX0_duty_2 := dk_seg dksX0_duty_1 24 rfl rfl
theorem dksX0_duty_3 : cX0_duty.data.toList.drop 71 = dktX0_duty_3 := dk_seg dksX0_duty_2 24 rfl rfl
theorem dX0_duty_0 : decode cX0_duty 0 = .ok (.aload_n 0, 1) := dk_42 (dk_at dksX0_duty_0 0 rfl rfl)
theorem dX0_duty_1 : decode cX0_duty 1 = .ok (.iload_n 1, 1) := dk_27 (dk_at dksX0_duty_0 1 rfl rfl)
theorem dX0_duty_2 : decode cX0_duty 2 = .ok (.invokevirtual 161, 3) := dk_182 0 161 (dk_at dksX0_duty_0 2 rfl rfl)
theorem dX0_duty_5 : decode cX0_duty 5 = .ok (.ifCond .ne 5, 3) := dk_154 0 5 (dk_at dksX0_duty_0 5 rfl rfl)
theorem dX0_duty_8 : decode cX0_duty 8 = .ok (.iconst (-1), 1) := dk_2 (dk_at dksX0_duty_0 8 rfl rfl)
theorem dX0_duty_9 : decode cX0_duty 9 = .ok (.ireturn, 1) := dk_172 (dk_at dksX0_duty_0 9 rfl rfl)
theorem dX0_duty_10 : decode cX0_duty 10 = .ok (.aload_n 0, 1) := dk_42 (dk_at dksX0_duty_0 10 rfl rfl)
theorem dX0_duty_11 : decode cX0_duty 11 = .ok (.getfield 16, 3) := dk_180 0 16 (dk_at dksX0_duty_0 11 rfl rfl)
theorem dX0_duty_14 : decode cX0_duty 14 = .ok (.getfield 68, 3) := dk_180 0 68 (dk_at dksX0_duty_0 14 rfl rfl)
theorem dX0_duty_17 : decode cX0_duty 17 = .ok (.iload_n 1, 1) := dk_27 (dk_at dksX0_duty_0 17 rfl rfl)
theorem dX0_duty_18 : decode cX0_duty 18 = .ok (.invokeinterface 132 2, 5) := by decide +kernel
theorem dX0_duty_23 : decode cX0_duty 23 = .ok (.checkcast 105, 3) := dk_192 0 105 (dk_at dksX0_duty_1 0 rfl rfl)
theorem dX0_duty_26 : decode cX0_duty 26 = .ok (.astore_n 3, 1) := dk_78 (dk_at dksX0_duty_1 3 rfl rfl)
theorem dX0_duty_27 : decode cX0_duty 27 = .ok (.iload_n 2, 1) := dk_28 (dk_at dksX0_duty_1 4 rfl rfl)
theorem dX0_duty_28 : decode cX0_duty 28 = .ok (.ifCond .ne 13, 3) := dk_154 0 13 (dk_at dksX0_duty_1 5 rfl rfl)
theorem dX0_duty_31 : decode cX0_duty 31 = .ok (.aload_n 3, 1) := dk_45 (dk_at dksX0_duty_1 8 rfl rfl)
theorem dX0_duty_32 : decode cX0_duty 32 = .ok (.invokevirtual 164, 3) := dk_182 0 164 (dk_at dksX0_duty_1 9 rfl rfl)
theorem dX0_duty_35 : decode cX0_duty 35 = .ok (.ifCond .eq 6, 3) := dk_153 0 6 (dk_at dksX0_duty_1 12 rfl rfl)
theorem dX0_duty_38 : decode cX0_duty 38 = .ok (.bipush (-4), 2) := dk_16 252 (dk_at dksX0_duty_1 15 rfl rfl)
theorem dX0_duty_40 : decode cX0_duty 40 = .ok (.ireturn, 1) := dk_172 (dk_at dksX0_duty_1 17 rfl rfl)
theorem dX0_duty_41 : decode cX0_duty 41 = .ok (.iload_n 2, 1) := dk_28 (dk_at dksX0_duty_1 18 rfl rfl)
theorem dX0_duty_42 : decode cX0_duty 42 = .ok (.aload_n 3, 1) := dk_45 (dk_at dksX0_duty_1 19 rfl rfl)
theorem dX0_duty_43 : decode cX0_duty 43 = .ok (.getfield 158, 3) := dk_180 0 158 (dk_at dksX0_duty_1 20 rfl rfl)
theorem dX0_duty_46 : decode cX0_duty 46 = .ok (.iconst 4, 1) := dk_7 (dk_at dksX0_duty_1 23 rfl rfl)
theorem dX0_duty_47 : decode cX0_duty 47 = .ok (.if_icmp .eq 7, 3) := dk_159 0 7 (dk_at dksX0_duty_2 0 rfl rfl)
theorem dX0_duty_50 : decode cX0_duty 50 = .ok (.iconst 1, 1) := dk_4 (dk_at dksX0_duty_2 3 rfl rfl)
theorem dX0_duty_51 : decode cX0_duty 51 = .ok (.goto 4, 3) := dk_167 0 4 (dk_at dksX0_duty_2 4 rfl rfl)
theorem dX0_duty_54 : decode cX0_duty 54 = .ok (.iconst 0, 1) := dk_3 (dk_at dksX0_duty_2 7 rfl rfl)
theorem dX0_duty_55 : decode cX0_duty 55 = .ok (.if_icmp .ne 6, 3) := dk_160 0 6 (dk_at dksX0_duty_2 8 rfl rfl)
theorem dX0_duty_58 : decode cX0_duty 58 = .ok (.bipush (-5), 2) := dk_16 251 (dk_at dksX0_duty_2 11 rfl rfl)
theorem dX0_duty_60 : decode cX0_duty 60 = .ok (.ireturn, 1) := dk_172 (dk_at dksX0_duty_2 13 rfl rfl)
theorem dX0_duty_61 : decode cX0_duty 61 = .ok (.aload_n 0, 1) := dk_42 (dk_at dksX0_duty_2 14 rfl rfl)
theorem dX0_duty_62 : decode cX0_duty 62 = .ok (.invokevirtual 92, 3) := dk_182 0 92 (dk_at dksX0_duty_2 15 rfl rfl)
theorem dX0_duty_65 : decode cX0_duty 65 = .ok (.aload_n 3, 1) := dk_45 (dk_at dksX0_duty_2 18 rfl rfl)
theorem dX0_duty_66 : decode cX0_duty 66 = .ok (.iload_n 2, 1) := dk_28 (dk_at dksX0_duty_2 19 rfl rfl)
theorem dX0_duty_67 : decode cX0_duty 67 = .ok (.ifCond .eq 7, 3) := dk_153 0 7 (dk_at dksX0_duty_2 20 rfl rfl)
theorem dX0_duty_70 : decode cX0_duty 70 = .ok (.iconst 0, 1) := dk_3 (dk_at dksX0_duty_2 23 rfl rfl)
theorem dX0_duty_71 : decode cX0_duty 71 = .ok (.goto 4, 3) := dk_167 0 4 (dk_at dksX0_duty_3 0 rfl rfl)
theorem dX0_duty_74 : decode cX0_duty 74 = .ok (.iconst 4, 1) := dk_7 (dk_at dksX0_duty_3 3 rfl rfl)
theorem dX0_duty_75 : decode cX0_duty 75 = .ok (.putfield 158, 3) := dk_181 0 158 (dk_at dksX0_duty_3 4 rfl rfl)
theorem dX0_duty_78 : decode cX0_duty 78 = .ok (.aload_n 0, 1) := dk_42 (dk_at dksX0_duty_3 7 rfl rfl)
theorem dX0_duty_79 : decode cX0_duty 79 = .ok (.invokevirtual 168, 3) := dk_182 0 168 (dk_at dksX0_duty_3 8 rfl rfl)
theorem dX0_duty_82 : decode cX0_duty 82 = .ok (.ireturn, 1) := dk_172 (dk_at dksX0_duty_3 11 rfl rfl)
abbrev cX0_isPatrol : ByteArray := prog_1_method_7_code
def yX0_isPatrol : MethodName := ⟨RX0, "isPatrol", "(I)Z"⟩
def dkwX0_isPatrol_0 : List UInt8 := [27, 3, 42, 180, 0, 16, 180, 0, 68, 185, 0, 47, 1, 0, 4, 100, 184, 0, 3, 172]
abbrev dktX0_isPatrol_0 : List UInt8 := dkwX0_isPatrol_0 ++ []
theorem dksX0_isPatrol_0 : cX0_isPatrol.data.toList.drop 0 = dktX0_isPatrol_0 := by decide +kernel
theorem dX0_isPatrol_0 : decode cX0_isPatrol 0 = .ok (.iload_n 1, 1) := dk_27 (dk_at dksX0_isPatrol_0 0 rfl rfl)
theorem dX0_isPatrol_1 : decode cX0_isPatrol 1 = .ok (.iconst 0, 1) := dk_3 (dk_at dksX0_isPatrol_0 1 rfl rfl)
theorem dX0_isPatrol_2 : decode cX0_isPatrol 2 = .ok (.aload_n 0, 1) := dk_42 (dk_at dksX0_isPatrol_0 2 rfl rfl)
theorem dX0_isPatrol_3 : decode cX0_isPatrol 3 = .ok (.getfield 16, 3) := dk_180 0 16 (dk_at dksX0_isPatrol_0 3 rfl rfl)
theorem dX0_isPatrol_6 : decode cX0_isPatrol 6 = .ok (.getfield 68, 3) := dk_180 0 68 (dk_at dksX0_isPatrol_0 6 rfl rfl)
theorem dX0_isPatrol_9 : decode cX0_isPatrol 9 = .ok (.invokeinterface 47 1, 5) := by decide +kernel
theorem dX0_isPatrol_14 : decode cX0_isPatrol 14 = .ok (.iconst 1, 1) := dk_4 (dk_at dksX0_isPatrol_0 14 rfl rfl)
theorem dX0_isPatrol_15 : decode cX0_isPatrol 15 = .ok (.isub, 1) := dk_100 (dk_at dksX0_isPatrol_0 15 rfl rfl)
theorem dX0_isPatrol_16 : decode cX0_isPatrol 16 = .ok (.invokestatic 3, 3) := dk_184 0 3 (dk_at dksX0_isPatrol_0 16 rfl rfl)
theorem dX0_isPatrol_19 : decode cX0_isPatrol 19 = .ok (.ireturn, 1) := dk_172 (dk_at dksX0_isPatrol_0 19 rfl rfl)
abbrev cX0_onDuty : ByteArray := prog_1_method_18_code
def yX0_onDuty : MethodName := ⟨RX0, "onDuty", "()I"⟩
def dkwX0_onDuty_2 : List UInt8 := [167, 0, 4, 4, 96, 60, 132, 2, 1, 167, 255, 206, 27, 172]
abbrev dktX0_onDuty_2 : List UInt8 := dkwX0_onDuty_2 ++ []
def dkwX0_onDuty_1 : List UInt8 := [180, 0, 16, 180, 0, 68, 28, 185, 0, 132, 2, 0, 192, 0, 105, 180, 0, 158, 7, 160, 0, 7, 3]
abbrev dktX0_onDuty_1 : List UInt8 := dkwX0_onDuty_1 ++ dktX0_onDuty_2
def dkwX0_onDuty_0 : List UInt8 := [3, 60, 3, 61, 28, 42, 180, 0, 16, 180, 0, 68, 185, 0, 47, 1, 0, 162, 0, 40, 27, 42]
abbrev dktX0_onDuty_0 : List UInt8 := dkwX0_onDuty_0 ++ dktX0_onDuty_1
theorem dksX0_onDuty_0 : cX0_onDuty.data.toList.drop 0 = dktX0_onDuty_0 := by decide +kernel
theorem dksX0_onDuty_1 : cX0_onDuty.data.toList.drop 22 = dktX0_onDuty_1 := dk_seg dksX0_onDuty_0 22 rfl rfl
theorem dksX0_onDuty_2 : cX0_onDuty.data.toList.drop 45 = dktX0_onDuty_2 := dk_seg dksX0_onDuty_1 23 rfl rfl
theorem dX0_onDuty_0 : decode cX0_onDuty 0 = .ok (.iconst 0, 1) := dk_3 (dk_at dksX0_onDuty_0 0 rfl rfl)
theorem dX0_onDuty_1 : decode cX0_onDuty 1 = .ok (.istore_n 1, 1) := dk_60 (dk_at dksX0_onDuty_0 1 rfl rfl)
theorem dX0_onDuty_2 : decode cX0_onDuty 2 = .ok (.iconst 0, 1) := dk_3 (dk_at dksX0_onDuty_0 2 rfl rfl)
theorem dX0_onDuty_3 : decode cX0_onDuty 3 = .ok (.istore_n 2, 1) := dk_61 (dk_at dksX0_onDuty_0 3 rfl rfl)
theorem dX0_onDuty_4 : decode cX0_onDuty 4 = .ok (.iload_n 2, 1) := dk_28 (dk_at dksX0_onDuty_0 4 rfl rfl)
theorem dX0_onDuty_5 : decode cX0_onDuty 5 = .ok (.aload_n 0, 1) := dk_42 (dk_at dksX0_onDuty_0 5 rfl rfl)
theorem dX0_onDuty_6 : decode cX0_onDuty 6 = .ok (.getfield 16, 3) := dk_180 0 16 (dk_at dksX0_onDuty_0 6 rfl rfl)
theorem dX0_onDuty_9 : decode cX0_onDuty 9 = .ok (.getfield 68, 3) := dk_180 0 68 (dk_at dksX0_onDuty_0 9 rfl rfl)
theorem dX0_onDuty_12 : decode cX0_onDuty 12 = .ok (.invokeinterface 47 1, 5) := by decide +kernel
theorem dX0_onDuty_17 : decode cX0_onDuty 17 = .ok (.if_icmp .ge 40, 3) := dk_162 0 40 (dk_at dksX0_onDuty_0 17 rfl rfl)
theorem dX0_onDuty_20 : decode cX0_onDuty 20 = .ok (.iload_n 1, 1) := dk_27 (dk_at dksX0_onDuty_0 20 rfl rfl)
theorem dX0_onDuty_21 : decode cX0_onDuty 21 = .ok (.aload_n 0, 1) := dk_42 (dk_at dksX0_onDuty_0 21 rfl rfl)
theorem dX0_onDuty_22 : decode cX0_onDuty 22 = .ok (.getfield 16, 3) := dk_180 0 16 (dk_at dksX0_onDuty_1 0 rfl rfl)
theorem dX0_onDuty_25 : decode cX0_onDuty 25 = .ok (.getfield 68, 3) := dk_180 0 68 (dk_at dksX0_onDuty_1 3 rfl rfl)
theorem dX0_onDuty_28 : decode cX0_onDuty 28 = .ok (.iload_n 2, 1) := dk_28 (dk_at dksX0_onDuty_1 6 rfl rfl)
theorem dX0_onDuty_29 : decode cX0_onDuty 29 = .ok (.invokeinterface 132 2, 5) := by decide +kernel
theorem dX0_onDuty_34 : decode cX0_onDuty 34 = .ok (.checkcast 105, 3) := dk_192 0 105 (dk_at dksX0_onDuty_1 12 rfl rfl)
theorem dX0_onDuty_37 : decode cX0_onDuty 37 = .ok (.getfield 158, 3) := dk_180 0 158 (dk_at dksX0_onDuty_1 15 rfl rfl)
theorem dX0_onDuty_40 : decode cX0_onDuty 40 = .ok (.iconst 4, 1) := dk_7 (dk_at dksX0_onDuty_1 18 rfl rfl)
theorem dX0_onDuty_41 : decode cX0_onDuty 41 = .ok (.if_icmp .ne 7, 3) := dk_160 0 7 (dk_at dksX0_onDuty_1 19 rfl rfl)
theorem dX0_onDuty_44 : decode cX0_onDuty 44 = .ok (.iconst 0, 1) := dk_3 (dk_at dksX0_onDuty_1 22 rfl rfl)
theorem dX0_onDuty_45 : decode cX0_onDuty 45 = .ok (.goto 4, 3) := dk_167 0 4 (dk_at dksX0_onDuty_2 0 rfl rfl)
theorem dX0_onDuty_48 : decode cX0_onDuty 48 = .ok (.iconst 1, 1) := dk_4 (dk_at dksX0_onDuty_2 3 rfl rfl)
theorem dX0_onDuty_49 : decode cX0_onDuty 49 = .ok (.iadd, 1) := dk_96 (dk_at dksX0_onDuty_2 4 rfl rfl)
theorem dX0_onDuty_50 : decode cX0_onDuty 50 = .ok (.istore_n 1, 1) := dk_60 (dk_at dksX0_onDuty_2 5 rfl rfl)
theorem dX0_onDuty_51 : decode cX0_onDuty 51 = .ok (.iinc 2 1, 3) := dk_132 2 1 (dk_at dksX0_onDuty_2 6 rfl rfl)
theorem dX0_onDuty_54 : decode cX0_onDuty 54 = .ok (.goto (-50), 3) := dk_167 255 206 (dk_at dksX0_onDuty_2 9 rfl rfl)
theorem dX0_onDuty_57 : decode cX0_onDuty 57 = .ok (.iload_n 1, 1) := dk_27 (dk_at dksX0_onDuty_2 12 rfl rfl)
theorem dX0_onDuty_58 : decode cX0_onDuty 58 = .ok (.ireturn, 1) := dk_172 (dk_at dksX0_onDuty_2 13 rfl rfl)
abbrev cX0_goHome : ByteArray := prog_1_method_20_code
def yX0_goHome : MethodName := ⟨RX0, "goHome", "(I)I"⟩
def dkwX0_goHome_3 : List UInt8 := [16, 251, 172, 42, 182, 0, 92, 44, 44, 180, 0, 174, 181, 0, 171, 29, 172]
abbrev dktX0_goHome_3 : List UInt8 := dkwX0_goHome_3 ++ []
def dkwX0_goHome_2 : List UInt8 := [154, 0, 9, 29, 16, 251, 160, 0, 6, 16, 252, 172, 44, 180, 0, 171, 44, 180, 0, 174, 160, 0, 6]
abbrev dktX0_goHome_2 : List UInt8 := dkwX0_goHome_2 ++ dktX0_goHome_3
def dkwX0_goHome_1 : List UInt8 := [192, 0, 105, 77, 42, 180, 0, 16, 44, 180, 0, 171, 44, 180, 0, 174, 182, 0, 177, 62, 44, 180, 0, 158]
abbrev dktX0_goHome_1 : List UInt8 := dkwX0_goHome_1 ++ dktX0_goHome_2
def dkwX0_goHome_0 : List UInt8 := [42, 27, 182, 0, 161, 154, 0, 5, 2, 172, 42, 180, 0, 16, 180, 0, 68, 27, 185, 0, 132, 2, 0]
abbrev dktX0_goHome_0 : List UInt8 := dkwX0_goHome_0 ++ dktX0_goHome_1
theorem dksX0_goHome_0 : cX0_goHome.data.toList.drop 0 = dktX0_goHome_0 := by decide +kernel
theorem dksX0_goHome_1 : cX0_goHome.data.toList.drop 23 = dktX0_goHome_1 := dk_seg dksX0_goHome_0 23 rfl rfl
theorem dksX0_goHome_2 : cX0_goHome.data.toList.drop 47 = dktX0_goHome_2 := dk_seg dksX0_goHome_1 24 rfl rfl
theorem dksX0_goHome_3 : cX0_goHome.data.toList.drop 70 = dktX0_goHome_3 := dk_seg dksX0_goHome_2 23 rfl rfl
theorem dX0_goHome_0 : decode cX0_goHome 0 = .ok (.aload_n 0, 1) := dk_42 (dk_at dksX0_goHome_0 0 rfl rfl)
theorem dX0_goHome_1 : decode cX0_goHome 1 = .ok (.iload_n 1, 1) := dk_27 (dk_at dksX0_goHome_0 1 rfl rfl)
theorem dX0_goHome_2 : decode cX0_goHome 2 = .ok (.invokevirtual 161, 3) := dk_182 0 161 (dk_at dksX0_goHome_0 2 rfl rfl)
theorem dX0_goHome_5 : decode cX0_goHome 5 = .ok (.ifCond .ne 5, 3) := dk_154 0 5 (dk_at dksX0_goHome_0 5 rfl rfl)
theorem dX0_goHome_8 : decode cX0_goHome 8 = .ok (.iconst (-1), 1) := dk_2 (dk_at dksX0_goHome_0 8 rfl rfl)
theorem dX0_goHome_9 : decode cX0_goHome 9 = .ok (.ireturn, 1) := dk_172 (dk_at dksX0_goHome_0 9 rfl rfl)
theorem dX0_goHome_10 : decode cX0_goHome 10 = .ok (.aload_n 0, 1) := dk_42 (dk_at dksX0_goHome_0 10 rfl rfl)
theorem dX0_goHome_11 : decode cX0_goHome 11 = .ok (.getfield 16, 3) := dk_180 0 16 (dk_at dksX0_goHome_0 11 rfl rfl)
theorem dX0_goHome_14 : decode cX0_goHome 14 = .ok (.getfield 68, 3) := dk_180 0 68 (dk_at dksX0_goHome_0 14 rfl rfl)
theorem dX0_goHome_17 : decode cX0_goHome 17 = .ok (.iload_n 1, 1) := dk_27 (dk_at dksX0_goHome_0 17 rfl rfl)
theorem dX0_goHome_18 : decode cX0_goHome 18 = .ok (.invokeinterface 132 2, 5) := by decide +kernel
theorem dX0_goHome_23 : decode cX0_goHome 23 = .ok (.checkcast 105, 3) := dk_192 0 105 (dk_at dksX0_goHome_1 0 rfl rfl)
theorem dX0_goHome_26 : decode cX0_goHome 26 = .ok (.astore_n 2, 1) := dk_77 (dk_at dksX0_goHome_1 3 rfl rfl)
theorem dX0_goHome_27 : decode cX0_goHome 27 = .ok (.aload_n 0, 1) := dk_42 (dk_at dksX0_goHome_1 4 rfl rfl)
theorem dX0_goHome_28 : decode cX0_goHome 28 = .ok (.getfield 16, 3) := dk_180 0 16 (dk_at dksX0_goHome_1 5 rfl rfl)
theorem dX0_goHome_31 : decode cX0_goHome 31 = .ok (.aload_n 2, 1) := dk_44 (dk_at dksX0_goHome_1 8 rfl rfl)
theorem dX0_goHome_32 : decode cX0_goHome 32 = .ok (.getfield 171, 3) := dk_180 0 171 (dk_at dksX0_goHome_1 9 rfl rfl)
theorem dX0_goHome_35 : decode cX0_goHome 35 = .ok (.aload_n 2, 1) := dk_44 (dk_at dksX0_goHome_1 12 rfl rfl)
theorem dX0_goHome_36 : decode cX0_goHome 36 = .ok (.getfield 174, 3) := dk_180 0 174 (dk_at dksX0_goHome_1 13 rfl rfl)
theorem dX0_goHome_39 : decode cX0_goHome 39 = .ok (.invokevirtual 177, 3) := dk_182 0 177 (dk_at dksX0_goHome_1 16 rfl rfl)
theorem dX0_goHome_42 : decode cX0_goHome 42 = .ok (.istore_n 3, 1) := dk_62 (dk_at dksX0_goHome_1 19 rfl rfl)
theorem dX0_goHome_43 : decode cX0_goHome 43 = .ok (.aload_n 2, 1) := dk_44 (dk_at dksX0_goHome_1 20 rfl rfl)
theorem dX0_goHome_44 : decode cX0_goHome 44 = .ok (.getfield 158, 3) := dk_180 0 158 (dk_at dksX0_goHome_1 21 rfl rfl)
theorem dX0_goHome_47 : decode cX0_goHome 47 = .ok (.ifCond .ne 9, 3) := dk_154 0 9 (dk_at dksX0_goHome_2 0 rfl rfl)
theorem dX0_goHome_50 : decode cX0_goHome 50 = .ok (.iload_n 3, 1) := dk_29 (dk_at dksX0_goHome_2 3 rfl rfl)
theorem dX0_goHome_51 : decode cX0_goHome 51 = .ok (.bipush (-5), 2) := dk_16 251 (dk_at dksX0_goHome_2 4 rfl rfl)
theorem dX0_goHome_53 : decode cX0_goHome 53 = .ok (.if_icmp .ne 6, 3) := dk_160 0 6 (dk_at dksX0_goHome_2 6 rfl rfl)
theorem dX0_goHome_56 : decode cX0_goHome 56 = .ok (.bipush (-4), 2) := dk_16 252 (dk_at dksX0_goHome_2 9 rfl rfl)
theorem dX0_goHome_58 : decode cX0_goHome 58 = .ok (.ireturn, 1) := dk_172 (dk_at dksX0_goHome_2 11 rfl rfl)
theorem dX0_goHome_59 : decode cX0_goHome 59 = .ok (.aload_n 2, 1) := dk_44 (dk_at dksX0_goHome_2 12 rfl rfl)
theorem dX0_goHome_60 : decode cX0_goHome 60 = .ok (.getfield 171, 3) := dk_180 0 171 (dk_at dksX0_goHome_2 13 rfl rfl)
theorem dX0_goHome_63 : decode cX0_goHome 63 = .ok (.aload_n 2, 1) := dk_44 (dk_at dksX0_goHome_2 16 rfl rfl)
theorem dX0_goHome_64 : decode cX0_goHome 64 = .ok (.getfield 174, 3) := dk_180 0 174 (dk_at dksX0_goHome_2 17 rfl rfl)
theorem dX0_goHome_67 : decode cX0_goHome 67 = .ok (.if_icmp .ne 6, 3) := dk_160 0 6 (dk_at dksX0_goHome_2 20 rfl rfl)
theorem dX0_goHome_70 : decode cX0_goHome 70 = .ok (.bipush (-5), 2) := dk_16 251 (dk_at dksX0_goHome_3 0 rfl rfl)
theorem dX0_goHome_72 : decode cX0_goHome 72 = .ok (.ireturn, 1) := dk_172 (dk_at dksX0_goHome_3 2 rfl rfl)
theorem dX0_goHome_73 : decode cX0_goHome 73 = .ok (.aload_n 0, 1) := dk_42 (dk_at dksX0_goHome_3 3 rfl rfl)
theorem dX0_goHome_74 : decode cX0_goHome 74 = .ok (.invokevirtual 92, 3) := dk_182 0 92 (dk_at dksX0_goHome_3 4 rfl rfl)
theorem dX0_goHome_77 : decode cX0_goHome 77 = .ok (.aload_n 2, 1) := dk_44 (dk_at dksX0_goHome_3 7 rfl rfl)
theorem dX0_goHome_78 : decode cX0_goHome 78 = .ok (.aload_n 2, 1) := dk_44 (dk_at dksX0_goHome_3 8 rfl rfl)
theorem dX0_goHome_79 : decode cX0_goHome 79 = .ok (.getfield 174, 3) := dk_180 0 174 (dk_at dksX0_goHome_3 9 rfl rfl)
theorem dX0_goHome_82 : decode cX0_goHome 82 = .ok (.putfield 171, 3) := dk_181 0 171 (dk_at dksX0_goHome_3 12 rfl rfl)
theorem dX0_goHome_85 : decode cX0_goHome 85 = .ok (.iload_n 3, 1) := dk_29 (dk_at dksX0_goHome_3 15 rfl rfl)
theorem dX0_goHome_86 : decode cX0_goHome 86 = .ok (.ireturn, 1) := dk_172 (dk_at dksX0_goHome_3 16 rfl rfl)
abbrev cX0_fetch : ByteArray := prog_1_method_21_code
def yX0_fetch : MethodName := ⟨RX0, "fetch", "(II)I"⟩
def dkwX0_fetch_4 : List UInt8 := [180, 0, 183, 172]
abbrev dktX0_fetch_4 : List UInt8 := dkwX0_fetch_4 ++ []
def dkwX0_fetch_3 : List UInt8 := [180, 0, 183, 28, 100, 181, 0, 183, 42, 180, 0, 16, 180, 0, 71, 27, 185, 0, 132, 2, 0, 192, 0, 110]
abbrev dktX0_fetch_3 : List UInt8 := dkwX0_fetch_3 ++ dktX0_fetch_4
def dkwX0_fetch_2 : List UInt8 := [172, 42, 182, 0, 92, 42, 180, 0, 16, 180, 0, 71, 27, 185, 0, 132, 2, 0, 192, 0, 110, 89]
abbrev dktX0_fetch_2 : List UInt8 := dkwX0_fetch_2 ++ dktX0_fetch_3
def dkwX0_fetch_1 : List UInt8 := [180, 0, 16, 180, 0, 71, 27, 185, 0, 132, 2, 0, 192, 0, 110, 180, 0, 183, 28, 162, 0, 6, 16, 252]
abbrev dktX0_fetch_1 : List UInt8 := dkwX0_fetch_1 ++ dktX0_fetch_2
def dkwX0_fetch_0 : List UInt8 := [42, 27, 182, 0, 180, 154, 0, 5, 2, 172, 28, 4, 16, 9, 184, 0, 3, 154, 0, 6, 16, 254, 172, 42]
abbrev dktX0_fetch_0 : List UInt8 := dkwX0_fetch_0 ++ dktX0_fetch_1
theorem dksX0_fetch_0 : cX0_fetch.data.toList.drop 0 = dktX0_fetch_0 := by decide +kernel
theorem dksX0_fetch_1 : cX0_fetch.data.toList.drop 24 = dktX0_fetch_1 := dk_seg dksX0_fetch_0 24 rfl rfl
theorem dksX0_fetch_2 : cX0_fetch.data.toList.drop 48 = dktX0_fetch_2 := dk_seg dksX0_fetch_1 24 rfl rfl
theorem dksX0_fetch_3 : cX0_fetch.data.toList.drop 70 = dktX0_fetch_3 := dk_seg dksX0_fetch_2 22 rfl rfl
theorem dksX0_fetch_4 : cX0_fetch.data.toList.drop 94 = dktX0_fetch_4 := dk_seg dksX0_fetch_3 24 rfl rfl
theorem dX0_fetch_0 : decode cX0_fetch 0 = .ok (.aload_n 0, 1) := dk_42 (dk_at dksX0_fetch_0 0 rfl rfl)
theorem dX0_fetch_1 : decode cX0_fetch 1 = .ok (.iload_n 1, 1) := dk_27 (dk_at dksX0_fetch_0 1 rfl rfl)
theorem dX0_fetch_2 : decode cX0_fetch 2 = .ok (.invokevirtual 180, 3) := dk_182 0 180 (dk_at dksX0_fetch_0 2 rfl rfl)
theorem dX0_fetch_5 : decode cX0_fetch 5 = .ok (.ifCond .ne 5, 3) := dk_154 0 5 (dk_at dksX0_fetch_0 5 rfl rfl)
theorem dX0_fetch_8 : decode cX0_fetch 8 = .ok (.iconst (-1), 1) := dk_2 (dk_at dksX0_fetch_0 8 rfl rfl)
theorem dX0_fetch_9 : decode cX0_fetch 9 = .ok (.ireturn, 1) := dk_172 (dk_at dksX0_fetch_0 9 rfl rfl)
theorem dX0_fetch_10 : decode cX0_fetch 10 = .ok (.iload_n 2, 1) := dk_28 (dk_at dksX0_fetch_0 10 rfl rfl)
theorem dX0_fetch_11 : decode cX0_fetch 11 = .ok (.iconst 1, 1) := dk_4 (dk_at dksX0_fetch_0 11 rfl rfl)
theorem dX0_fetch_12 : decode cX0_fetch 12 = .ok (.bipush 9, 2) := dk_16 9 (dk_at dksX0_fetch_0 12 rfl rfl)
theorem dX0_fetch_14 : decode cX0_fetch 14 = .ok (.invokestatic 3, 3) := dk_184 0 3 (dk_at dksX0_fetch_0 14 rfl rfl)
theorem dX0_fetch_17 : decode cX0_fetch 17 = .ok (.ifCond .ne 6, 3) := dk_154 0 6 (dk_at dksX0_fetch_0 17 rfl rfl)
theorem dX0_fetch_20 : decode cX0_fetch 20 = .ok (.bipush (-2), 2) := dk_16 254 (dk_at dksX0_fetch_0 20 rfl rfl)
theorem dX0_fetch_22 : decode cX0_fetch 22 = .ok (.ireturn, 1) := dk_172 (dk_at dksX0_fetch_0 22 rfl rfl)
theorem dX0_fetch_23 : decode cX0_fetch 23 = .ok (.aload_n 0, 1) := dk_42 (dk_at dksX0_fetch_0 23 rfl rfl)
theorem dX0_fetch_24 : decode cX0_fetch 24 = .ok (.getfield 16, 3) := dk_180 0 16 (dk_at dksX0_fetch_1 0 rfl rfl)
theorem dX0_fetch_27 : decode cX0_fetch 27 = .ok (.getfield 71, 3) := dk_180 0 71 (dk_at dksX0_fetch_1 3 rfl rfl)
theorem dX0_fetch_30 : decode cX0_fetch 30 = .ok (.iload_n 1, 1) := dk_27 (dk_at dksX0_fetch_1 6 rfl rfl)
theorem dX0_fetch_31 : decode cX0_fetch 31 = .ok (.invokeinterface 132 2, 5) := by decide +kernel
theorem dX0_fetch_36 : decode cX0_fetch 36 = .ok (.checkcast 110, 3) := dk_192 0 110 (dk_at dksX0_fetch_1 12 rfl rfl)
theorem dX0_fetch_39 : decode cX0_fetch 39 = .ok (.getfield 183, 3) := dk_180 0 183 (dk_at dksX0_fetch_1 15 rfl rfl)
theorem dX0_fetch_42 : decode cX0_fetch 42 = .ok (.iload_n 2, 1) := dk_28 (dk_at dksX0_fetch_1 18 rfl rfl)
theorem dX0_fetch_43 : decode cX0_fetch 43 = .ok (.if_icmp .ge 6, 3) := dk_162 0 6 (dk_at dksX0_fetch_1 19 rfl rfl)
theorem dX0_fetch_46 : decode cX0_fetch 46 = .ok (.bipush (-4), 2) := dk_16 252 (dk_at dksX0_fetch_1 22 rfl rfl)
theorem dX0_fetch_48 : decode cX0_fetch 48 = .ok (.ireturn, 1) := dk_172 (dk_at dksX0_fetch_2 0 rfl rfl)
theorem dX0_fetch_49 : decode cX0_fetch 49 = .ok (.aload_n 0, 1) := dk_42 (dk_at dksX0_fetch_2 1 rfl rfl)
theorem dX0_fetch_50 : decode cX0_fetch 50 = .ok (.invokevirtual 92, 3) := dk_182 0 92 (dk_at dksX0_fetch_2 2 rfl rfl)
theorem dX0_fetch_53 : decode cX0_fetch 53 = .ok (.aload_n 0, 1) := dk_42 (dk_at dksX0_fetch_2 5 rfl rfl)
theorem dX0_fetch_54 : decode cX0_fetch 54 = .ok (.getfield 16, 3) := dk_180 0 16 (dk_at dksX0_fetch_2 6 rfl rfl)
theorem dX0_fetch_57 : decode cX0_fetch 57 = .ok (.getfield 71, 3) := dk_180 0 71 (dk_at dksX0_fetch_2 9 rfl rfl)
theorem dX0_fetch_60 : decode cX0_fetch 60 = .ok (.iload_n 1, 1) := dk_27 (dk_at dksX0_fetch_2 12 rfl rfl)
theorem dX0_fetch_61 : decode cX0_fetch 61 = .ok (.invokeinterface 132 2, 5) := by decide +kernel
theorem dX0_fetch_66 : decode cX0_fetch 66 = .ok (.checkcast 110, 3) := dk_192 0 110 (dk_at dksX0_fetch_2 18 rfl rfl)
theorem dX0_fetch_69 : decode cX0_fetch 69 = .ok (.dup, 1) := dk_89 (dk_at dksX0_fetch_2 21 rfl rfl)
theorem dX0_fetch_70 : decode cX0_fetch 70 = .ok (.getfield 183, 3) := dk_180 0 183 (dk_at dksX0_fetch_3 0 rfl rfl)
theorem dX0_fetch_73 : decode cX0_fetch 73 = .ok (.iload_n 2, 1) := dk_28 (dk_at dksX0_fetch_3 3 rfl rfl)
theorem dX0_fetch_74 : decode cX0_fetch 74 = .ok (.isub, 1) := dk_100 (dk_at dksX0_fetch_3 4 rfl rfl)
theorem dX0_fetch_75 : decode cX0_fetch 75 = .ok (.putfield 183, 3) := dk_181 0 183 (dk_at dksX0_fetch_3 5 rfl rfl)
theorem dX0_fetch_78 : decode cX0_fetch 78 = .ok (.aload_n 0, 1) := dk_42 (dk_at dksX0_fetch_3 8 rfl rfl)
theorem dX0_fetch_79 : decode cX0_fetch 79 = .ok (.getfield 16, 3) := dk_180 0 16 (dk_at dksX0_fetch_3 9 rfl rfl)
theorem dX0_fetch_82 : decode cX0_fetch 82 = .ok (.getfield 71, 3) := dk_180 0 71 (dk_at dksX0_fetch_3 12 rfl rfl)
theorem dX0_fetch_85 : decode cX0_fetch 85 = .ok (.iload_n 1, 1) := dk_27 (dk_at dksX0_fetch_3 15 rfl rfl)
theorem dX0_fetch_86 : decode cX0_fetch 86 = .ok (.invokeinterface 132 2, 5) := by decide +kernel
theorem dX0_fetch_91 : decode cX0_fetch 91 = .ok (.checkcast 110, 3) := dk_192 0 110 (dk_at dksX0_fetch_3 21 rfl rfl)
theorem dX0_fetch_94 : decode cX0_fetch 94 = .ok (.getfield 183, 3) := dk_180 0 183 (dk_at dksX0_fetch_4 0 rfl rfl)
theorem dX0_fetch_97 : decode cX0_fetch 97 = .ok (.ireturn, 1) := dk_172 (dk_at dksX0_fetch_4 3 rfl rfl)
abbrev cX0_isGarage : ByteArray := prog_1_method_8_code
def yX0_isGarage : MethodName := ⟨RX0, "isGarage", "(I)Z"⟩
def dkwX0_isGarage_0 : List UInt8 := [27, 3, 42, 180, 0, 16, 180, 0, 71, 185, 0, 47, 1, 0, 4, 100, 184, 0, 3, 172]
abbrev dktX0_isGarage_0 : List UInt8 := dkwX0_isGarage_0 ++ []
theorem dksX0_isGarage_0 : cX0_isGarage.data.toList.drop 0 = dktX0_isGarage_0 := by decide +kernel
theorem dX0_isGarage_0 : decode cX0_isGarage 0 = .ok (.iload_n 1, 1) := dk_27 (dk_at dksX0_isGarage_0 0 rfl rfl)
theorem dX0_isGarage_1 : decode cX0_isGarage 1 = .ok (.iconst 0, 1) := dk_3 (dk_at dksX0_isGarage_0 1 rfl rfl)
theorem dX0_isGarage_2 : decode cX0_isGarage 2 = .ok (.aload_n 0, 1) := dk_42 (dk_at dksX0_isGarage_0 2 rfl rfl)
theorem dX0_isGarage_3 : decode cX0_isGarage 3 = .ok (.getfield 16, 3) := dk_180 0 16 (dk_at dksX0_isGarage_0 3 rfl rfl)
theorem dX0_isGarage_6 : decode cX0_isGarage 6 = .ok (.getfield 71, 3) := dk_180 0 71 (dk_at dksX0_isGarage_0 6 rfl rfl)
theorem dX0_isGarage_9 : decode cX0_isGarage 9 = .ok (.invokeinterface 47 1, 5) := by decide +kernel
theorem dX0_isGarage_14 : decode cX0_isGarage 14 = .ok (.iconst 1, 1) := dk_4 (dk_at dksX0_isGarage_0 14 rfl rfl)
theorem dX0_isGarage_15 : decode cX0_isGarage 15 = .ok (.isub, 1) := dk_100 (dk_at dksX0_isGarage_0 15 rfl rfl)
theorem dX0_isGarage_16 : decode cX0_isGarage 16 = .ok (.invokestatic 3, 3) := dk_184 0 3 (dk_at dksX0_isGarage_0 16 rfl rfl)
theorem dX0_isGarage_19 : decode cX0_isGarage 19 = .ok (.ireturn, 1) := dk_172 (dk_at dksX0_isGarage_0 19 rfl rfl)
abbrev cX0_pass : ByteArray := prog_1_method_22_code
def yX0_pass : MethodName := ⟨RX0, "pass", "(I)I"⟩
def dkwX0_pass_2 : List UInt8 := [180, 0, 16, 182, 0, 186, 96, 61, 132, 3, 1, 167, 255, 238, 28, 172]
abbrev dktX0_pass_2 : List UInt8 := dkwX0_pass_2 ++ []
def dkwX0_pass_1 : List UInt8 := [17, 11, 64, 164, 0, 6, 16, 252, 172, 42, 182, 0, 92, 3, 61, 3, 62, 29, 27, 162, 0, 19, 28, 42]
abbrev dktX0_pass_1 : List UInt8 := dkwX0_pass_1 ++ dktX0_pass_2
def dkwX0_pass_0 : List UInt8 := [27, 4, 16, 120, 184, 0, 3, 154, 0, 6, 16, 254, 172, 42, 180, 0, 16, 180, 0, 145, 27, 96]
abbrev dktX0_pass_0 : List UInt8 := dkwX0_pass_0 ++ dktX0_pass_1
theorem dksX0_pass_0 : cX0_pass.data.toList.drop 0 = dktX0_pass_0 := by decide +kernel
theorem dksX0_pass_1 : cX0_pass.data.toList.drop 22 = dktX0_pass_1 := dk_seg dksX0_pass_0 22 rfl rfl
theorem dksX0_pass_2 : cX0_pass.data.toList.drop 46 = dktX0_pass_2 := dk_seg dksX0_pass_1 24 rfl rfl
theorem dX0_pass_0 : decode cX0_pass 0 = .ok (.iload_n 1, 1) := dk_27 (dk_at dksX0_pass_0 0 rfl rfl)
theorem dX0_pass_1 : decode cX0_pass 1 = .ok (.iconst 1, 1) := dk_4 (dk_at dksX0_pass_0 1 rfl rfl)
theorem dX0_pass_2 : decode cX0_pass 2 = .ok (.bipush 120, 2) := dk_16 120 (dk_at dksX0_pass_0 2 rfl rfl)
theorem dX0_pass_4 : decode cX0_pass 4 = .ok (.invokestatic 3, 3) := dk_184 0 3 (dk_at dksX0_pass_0 4 rfl rfl)
theorem dX0_pass_7 : decode cX0_pass 7 = .ok (.ifCond .ne 6, 3) := dk_154 0 6 (dk_at dksX0_pass_0 7 rfl rfl)
theorem dX0_pass_10 : decode cX0_pass 10 = .ok (.bipush (-2), 2) := dk_16 254 (dk_at dksX0_pass_0 10 rfl rfl)
theorem dX0_pass_12 : decode cX0_pass 12 = .ok (.ireturn, 1) := dk_172 (dk_at dksX0_pass_0 12 rfl rfl)
theorem dX0_pass_13 : decode cX0_pass 13 = .ok (.aload_n 0, 1) := dk_42 (dk_at dksX0_pass_0 13 rfl rfl)
theorem dX0_pass_14 : decode cX0_pass 14 = .ok (.getfield 16, 3) := dk_180 0 16 (dk_at dksX0_pass_0 14 rfl rfl)
theorem dX0_pass_17 : decode cX0_pass 17 = .ok (.getfield 145, 3) := dk_180 0 145 (dk_at dksX0_pass_0 17 rfl rfl)
theorem dX0_pass_20 : decode cX0_pass 20 = .ok (.iload_n 1, 1) := dk_27 (dk_at dksX0_pass_0 20 rfl rfl)
theorem dX0_pass_21 : decode cX0_pass 21 = .ok (.iadd, 1) := dk_96 (dk_at dksX0_pass_0 21 rfl rfl)
theorem dX0_pass_22 : decode cX0_pass 22 = .ok (.sipush 2880, 3) := dk_17 11 64 (dk_at dksX0_pass_1 0 rfl rfl)
theorem dX0_pass_25 : decode cX0_pass 25 = .ok (.if_icmp .le 6, 3) := dk_164 0 6 (dk_at dksX0_pass_1 3 rfl rfl)
theorem dX0_pass_28 : decode cX0_pass 28 = .ok (.bipush (-4), 2) := dk_16 252 (dk_at dksX0_pass_1 6 rfl rfl)
theorem dX0_pass_30 : decode cX0_pass 30 = .ok (.ireturn, 1) := dk_172 (dk_at dksX0_pass_1 8 rfl rfl)
theorem dX0_pass_31 : decode cX0_pass 31 = .ok (.aload_n 0, 1) := dk_42 (dk_at dksX0_pass_1 9 rfl rfl)
theorem dX0_pass_32 : decode cX0_pass 32 = .ok (.invokevirtual 92, 3) := dk_182 0 92 (dk_at dksX0_pass_1 10 rfl rfl)
theorem dX0_pass_35 : decode cX0_pass 35 = .ok (.iconst 0, 1) := dk_3 (dk_at dksX0_pass_1 13 rfl rfl)
theorem dX0_pass_36 : decode cX0_pass 36 = .ok (.istore_n 2, 1) := dk_61 (dk_at dksX0_pass_1 14 rfl rfl)
theorem dX0_pass_37 : decode cX0_pass 37 = .ok (.iconst 0, 1) := dk_3 (dk_at dksX0_pass_1 15 rfl rfl)
theorem dX0_pass_38 : decode cX0_pass 38 = .ok (.istore_n 3, 1) := dk_62 (dk_at dksX0_pass_1 16 rfl rfl)
theorem dX0_pass_39 : decode cX0_pass 39 = .ok (.iload_n 3, 1) := dk_29 (dk_at dksX0_pass_1 17 rfl rfl)
theorem dX0_pass_40 : decode cX0_pass 40 = .ok (.iload_n 1, 1) := dk_27 (dk_at dksX0_pass_1 18 rfl rfl)
theorem dX0_pass_41 : decode cX0_pass 41 = .ok (.if_icmp .ge 19, 3) := dk_162 0 19 (dk_at dksX0_pass_1 19 rfl rfl)
theorem dX0_pass_44 : decode cX0_pass 44 = .ok (.iload_n 2, 1) := dk_28 (dk_at dksX0_pass_1 22 rfl rfl)
theorem dX0_pass_45 : decode cX0_pass 45 = .ok (.aload_n 0, 1) := dk_42 (dk_at dksX0_pass_1 23 rfl rfl)
theorem dX0_pass_46 : decode cX0_pass 46 = .ok (.getfield 16, 3) := dk_180 0 16 (dk_at dksX0_pass_2 0 rfl rfl)
theorem dX0_pass_49 : decode cX0_pass 49 = .ok (.invokevirtual 186, 3) := dk_182 0 186 (dk_at dksX0_pass_2 3 rfl rfl)
theorem dX0_pass_52 : decode cX0_pass 52 = .ok (.iadd, 1) := dk_96 (dk_at dksX0_pass_2 6 rfl rfl)
theorem dX0_pass_53 : decode cX0_pass 53 = .ok (.istore_n 2, 1) := dk_61 (dk_at dksX0_pass_2 7 rfl rfl)
theorem dX0_pass_54 : decode cX0_pass 54 = .ok (.iinc 3 1, 3) := dk_132 3 1 (dk_at dksX0_pass_2 8 rfl rfl)
theorem dX0_pass_57 : decode cX0_pass 57 = .ok (.goto (-18), 3) := dk_167 255 238 (dk_at dksX0_pass_2 11 rfl rfl)
theorem dX0_pass_60 : decode cX0_pass 60 = .ok (.iload_n 2, 1) := dk_28 (dk_at dksX0_pass_2 14 rfl rfl)
theorem dX0_pass_61 : decode cX0_pass 61 = .ok (.ireturn, 1) := dk_172 (dk_at dksX0_pass_2 15 rfl rfl)
abbrev cX0_regionOf : ByteArray := prog_1_method_3_code
def yX0_regionOf : MethodName := ⟨RX0, "regionOf", "(I)I"⟩
def dkwX0_regionOf_0 : List UInt8 := [26, 7, 108, 172]
abbrev dktX0_regionOf_0 : List UInt8 := dkwX0_regionOf_0 ++ []
theorem dksX0_regionOf_0 : cX0_regionOf.data.toList.drop 0 = dktX0_regionOf_0 := by decide +kernel
theorem dX0_regionOf_0 : decode cX0_regionOf 0 = .ok (.iload_n 0, 1) := dk_26 (dk_at dksX0_regionOf_0 0 rfl rfl)
theorem dX0_regionOf_1 : decode cX0_regionOf 1 = .ok (.iconst 4, 1) := dk_7 (dk_at dksX0_regionOf_0 1 rfl rfl)
theorem dX0_regionOf_2 : decode cX0_regionOf 2 = .ok (.idiv, 1) := dk_108 (dk_at dksX0_regionOf_0 2 rfl rfl)
theorem dX0_regionOf_3 : decode cX0_regionOf 3 = .ok (.ireturn, 1) := dk_172 (dk_at dksX0_regionOf_0 3 rfl rfl)
abbrev cX0_type : ByteArray := prog_1_method_23_code
def yX0_type : MethodName := ⟨RX0, "type", "(C)I"⟩
def dkwX0_type_1 : List UInt8 := [42, 180, 0, 30, 182, 0, 189, 172]
abbrev dktX0_type_1 : List UInt8 := dkwX0_type_1 ++ []
def dkwX0_type_0 : List UInt8 := [42, 180, 0, 30, 182, 0, 189, 16, 60, 160, 0, 6, 16, 253, 172, 42, 180, 0, 30, 27, 182, 0, 192, 87]
abbrev dktX0_type_0 : List UInt8 := dkwX0_type_0 ++ dktX0_type_1
theorem dksX0_type_0 : cX0_type.data.toList.drop 0 = dktX0_type_0 := by decide +kernel
theorem dksX0_type_1 : cX0_type.data.toList.drop 24 = dktX0_type_1 := dk_seg dksX0_type_0 24 rfl rfl
theorem dX0_type_0 : decode cX0_type 0 = .ok (.aload_n 0, 1) := dk_42 (dk_at dksX0_type_0 0 rfl rfl)
theorem dX0_type_1 : decode cX0_type 1 = .ok (.getfield 30, 3) := dk_180 0 30 (dk_at dksX0_type_0 1 rfl rfl)
theorem dX0_type_4 : decode cX0_type 4 = .ok (.invokevirtual 189, 3) := dk_182 0 189 (dk_at dksX0_type_0 4 rfl rfl)
theorem dX0_type_7 : decode cX0_type 7 = .ok (.bipush 60, 2) := dk_16 60 (dk_at dksX0_type_0 7 rfl rfl)
theorem dX0_type_9 : decode cX0_type 9 = .ok (.if_icmp .ne 6, 3) := dk_160 0 6 (dk_at dksX0_type_0 9 rfl rfl)
theorem dX0_type_12 : decode cX0_type 12 = .ok (.bipush (-3), 2) := dk_16 253 (dk_at dksX0_type_0 12 rfl rfl)
theorem dX0_type_14 : decode cX0_type 14 = .ok (.ireturn, 1) := dk_172 (dk_at dksX0_type_0 14 rfl rfl)
theorem dX0_type_15 : decode cX0_type 15 = .ok (.aload_n 0, 1) := dk_42 (dk_at dksX0_type_0 15 rfl rfl)
theorem dX0_type_16 : decode cX0_type 16 = .ok (.getfield 30, 3) := dk_180 0 30 (dk_at dksX0_type_0 16 rfl rfl)
theorem dX0_type_19 : decode cX0_type 19 = .ok (.iload_n 1, 1) := dk_27 (dk_at dksX0_type_0 19 rfl rfl)
theorem dX0_type_20 : decode cX0_type 20 = .ok (.invokevirtual 192, 3) := dk_182 0 192 (dk_at dksX0_type_0 20 rfl rfl)
theorem dX0_type_23 : decode cX0_type 23 = .ok (.pop, 1) := dk_87 (dk_at dksX0_type_0 23 rfl rfl)
theorem dX0_type_24 : decode cX0_type 24 = .ok (.aload_n 0, 1) := dk_42 (dk_at dksX0_type_1 0 rfl rfl)
theorem dX0_type_25 : decode cX0_type 25 = .ok (.getfield 30, 3) := dk_180 0 30 (dk_at dksX0_type_1 1 rfl rfl)
theorem dX0_type_28 : decode cX0_type 28 = .ok (.invokevirtual 189, 3) := dk_182 0 189 (dk_at dksX0_type_1 4 rfl rfl)
theorem dX0_type_31 : decode cX0_type 31 = .ok (.ireturn, 1) := dk_172 (dk_at dksX0_type_1 7 rfl rfl)
abbrev cX0_clearText : ByteArray := prog_1_method_24_code
def yX0_clearText : MethodName := ⟨RX0, "clearText", "()I"⟩
def dkwX0_clearText_0 : List UInt8 := [42, 180, 0, 30, 182, 0, 189, 60, 42, 180, 0, 30, 3, 182, 0, 196, 27, 172]
abbrev dktX0_clearText_0 : List UInt8 := dkwX0_clearText_0 ++ []
theorem dksX0_clearText_0 : cX0_clearText.data.toList.drop 0 = dktX0_clearText_0 := by decide +kernel
theorem dX0_clearText_0 : decode cX0_clearText 0 = .ok (.aload_n 0, 1) := dk_42 (dk_at dksX0_clearText_0 0 rfl rfl)
theorem dX0_clearText_1 : decode cX0_clearText 1 = .ok (.getfield 30, 3) := dk_180 0 30 (dk_at dksX0_clearText_0 1 rfl rfl)
theorem dX0_clearText_4 : decode cX0_clearText 4 = .ok (.invokevirtual 189, 3) := dk_182 0 189 (dk_at dksX0_clearText_0 4 rfl rfl)
theorem dX0_clearText_7 : decode cX0_clearText 7 = .ok (.istore_n 1, 1) := dk_60 (dk_at dksX0_clearText_0 7 rfl rfl)
theorem dX0_clearText_8 : decode cX0_clearText 8 = .ok (.aload_n 0, 1) := dk_42 (dk_at dksX0_clearText_0 8 rfl rfl)
theorem dX0_clearText_9 : decode cX0_clearText 9 = .ok (.getfield 30, 3) := dk_180 0 30 (dk_at dksX0_clearText_0 9 rfl rfl)
theorem dX0_clearText_12 : decode cX0_clearText 12 = .ok (.iconst 0, 1) := dk_3 (dk_at dksX0_clearText_0 12 rfl rfl)
theorem dX0_clearText_13 : decode cX0_clearText 13 = .ok (.invokevirtual 196, 3) := dk_182 0 196 (dk_at dksX0_clearText_0 13 rfl rfl)
theorem dX0_clearText_16 : decode cX0_clearText 16 = .ok (.iload_n 1, 1) := dk_27 (dk_at dksX0_clearText_0 16 rfl rfl)
theorem dX0_clearText_17 : decode cX0_clearText 17 = .ok (.ireturn, 1) := dk_172 (dk_at dksX0_clearText_0 17 rfl rfl)
abbrev cX0_readCalls : ByteArray := prog_1_method_25_code
def yX0_readCalls : MethodName := ⟨RX0, "readCalls", "()I"⟩
def dkwX0_readCalls_7 : List UInt8 := [180, 0, 123, 172, 42, 182, 0, 92, 42, 43, 181, 0, 16, 28, 172]
abbrev dktX0_readCalls_7 : List UInt8 := dkwX0_readCalls_7 ++ []
def dkwX0_readCalls_6 : List UInt8 := [132, 2, 1, 132, 4, 3, 167, 255, 139, 167, 0, 18, 78, 16, 156, 45, 180, 0, 215, 100, 172, 78, 45]
abbrev dktX0_readCalls_6 : List UInt8 := dkwX0_readCalls_6 ++ dktX0_readCalls_7
def dkwX0_readCalls_5 : List UInt8 := [182, 0, 210, 45, 21, 4, 5, 96, 185, 0, 132, 2, 0, 192, 0, 208, 182, 0, 210, 182, 0, 126]
abbrev dktX0_readCalls_5 : List UInt8 := dkwX0_readCalls_5 ++ dktX0_readCalls_6
def dkwX0_readCalls_4 : List UInt8 := [185, 0, 132, 2, 0, 192, 0, 208, 182, 0, 210, 45, 21, 4, 4, 96, 185, 0, 132, 2, 0, 192, 0, 208]
abbrev dktX0_readCalls_4 : List UInt8 := dkwX0_readCalls_4 ++ dktX0_readCalls_5
def dkwX0_readCalls_3 : List UInt8 := [21, 4, 5, 96, 185, 0, 132, 2, 0, 192, 0, 208, 182, 0, 210, 182, 0, 117, 43, 45, 21, 4]
abbrev dktX0_readCalls_3 : List UInt8 := dkwX0_readCalls_3 ++ dktX0_readCalls_4
def dkwX0_readCalls_2 : List UInt8 := [192, 0, 208, 182, 0, 210, 45, 21, 4, 4, 96, 185, 0, 132, 2, 0, 192, 0, 208, 182, 0, 210, 45]
abbrev dktX0_readCalls_2 : List UInt8 := dkwX0_readCalls_2 ++ dktX0_readCalls_3
def dkwX0_readCalls_1 : List UInt8 := [78, 3, 54, 4, 21, 4, 45, 185, 0, 47, 1, 0, 162, 0, 112, 43, 45, 21, 4, 185, 0, 132, 2, 0]
abbrev dktX0_readCalls_1 : List UInt8 := dkwX0_readCalls_1 ++ dktX0_readCalls_2
def dkwX0_readCalls_0 : List UInt8 := [42, 180, 0, 16, 182, 0, 57, 76, 3, 61, 187, 0, 199, 89, 42, 180, 0, 30, 183, 0, 201, 182, 0, 204]
abbrev dktX0_readCalls_0 : List UInt8 := dkwX0_readCalls_0 ++ dktX0_readCalls_1
theorem dksX0_readCalls_0 : cX0_readCalls.data.toList.drop 0 = dktX0_readCalls_0 := by decide +kernel
theorem dksX0_readCalls_1 : cX0_readCalls.data.toList.drop 24 = dktX0_readCalls_1 := dk_seg dksX0_readCalls_0 24 rfl rfl
theorem dksX0_readCalls_2 : cX0_readCalls.data.toList.drop 48 = dktX0_readCalls_2 := dk_seg dksX0_readCalls_1 24 rfl rfl
theorem dksX0_readCalls_3 : cX0_readCalls.data.toList.drop 71 = dktX0_readCalls_3 := dk_seg dksX0_readCalls_2 23 rfl rfl
theorem dksX0_readCalls_4 : cX0_readCalls.data.toList.drop 93 = dktX0_readCalls_4 := dk_seg dksX0_readCalls_3 22 rfl rfl
theorem dksX0_readCalls_5 : cX0_readCalls.data.toList.drop 117 = dktX0_readCalls_5 := dk_seg dksX0_readCalls_4 24 rfl rfl
theorem dksX0_readCalls_6 : cX0_readCalls.data.toList.drop 139 = dktX0_readCalls_6 := dk_seg dksX0_readCalls_5 22 rfl rfl
theorem dksX0_readCalls_7 : cX0_readCalls.data.toList.drop 162 = dktX0_readCalls_7 := dk_seg dksX0_readCalls_6 23 rfl rfl
theorem dX0_readCalls_0 : decode cX0_readCalls 0 = .ok (.aload_n 0, 1) := dk_42 (dk_at dksX0_readCalls_0 0 rfl rfl)
theorem dX0_readCalls_1 : decode cX0_readCalls 1 = .ok (.getfield 16, 3) := dk_180 0 16 (dk_at dksX0_readCalls_0 1 rfl rfl)
theorem dX0_readCalls_4 : decode cX0_readCalls 4 = .ok (.invokevirtual 57, 3) := dk_182 0 57 (dk_at dksX0_readCalls_0 4 rfl rfl)
theorem dX0_readCalls_7 : decode cX0_readCalls 7 = .ok (.astore_n 1, 1) := dk_76 (dk_at dksX0_readCalls_0 7 rfl rfl)
theorem dX0_readCalls_8 : decode cX0_readCalls 8 = .ok (.iconst 0, 1) := dk_3 (dk_at dksX0_readCalls_0 8 rfl rfl)
theorem dX0_readCalls_9 : decode cX0_readCalls 9 = .ok (.istore_n 2, 1) := dk_61 (dk_at dksX0_readCalls_0 9 rfl rfl)
theorem dX0_readCalls_10 : decode cX0_readCalls 10 = .ok (.new 199, 3) := dk_187 0 199 (dk_at dksX0_readCalls_0 10 rfl rfl)
theorem dX0_readCalls_13 : decode cX0_readCalls 13 = .ok (.dup, 1) := dk_89 (dk_at dksX0_readCalls_0 13 rfl rfl)
theorem dX0_readCalls_14 : decode cX0_readCalls 14 = .ok (.aload_n 0, 1) := dk_42 (dk_at dksX0_readCalls_0 14 rfl rfl)
theorem dX0_readCalls_15 : decode cX0_readCalls 15 = .ok (.getfield 30, 3) := dk_180 0 30 (dk_at dksX0_readCalls_0 15 rfl rfl)
theorem dX0_readCalls_18 : decode cX0_readCalls 18 = .ok (.invokespecial 201, 3) := dk_183 0 201 (dk_at dksX0_readCalls_0 18 rfl rfl)
theorem dX0_readCalls_21 : decode cX0_readCalls 21 = .ok (.invokevirtual 204, 3) := dk_182 0 204 (dk_at dksX0_readCalls_0 21 rfl rfl)
theorem dX0_readCalls_24 : decode cX0_readCalls 24 = .ok (.astore_n 3, 1) := dk_78 (dk_at dksX0_readCalls_1 0 rfl rfl)
theorem dX0_readCalls_25 : decode cX0_readCalls 25 = .ok (.iconst 0, 1) := dk_3 (dk_at dksX0_readCalls_1 1 rfl rfl)
theorem dX0_readCalls_26 : decode cX0_readCalls 26 = .ok (.istore 4, 2) := dk_54 4 (dk_at dksX0_readCalls_1 2 rfl rfl)
theorem dX0_readCalls_28 : decode cX0_readCalls 28 = .ok (.iload 4, 2) := dk_21 4 (dk_at dksX0_readCalls_1 4 rfl rfl)
theorem dX0_readCalls_30 : decode cX0_readCalls 30 = .ok (.aload_n 3, 1) := dk_45 (dk_at dksX0_readCalls_1 6 rfl rfl)
theorem dX0_readCalls_31 : decode cX0_readCalls 31 = .ok (.invokeinterface 47 1, 5) := by decide +kernel
theorem dX0_readCalls_36 : decode cX0_readCalls 36 = .ok (.if_icmp .ge 112, 3) := dk_162 0 112 (dk_at dksX0_readCalls_1 12 rfl rfl)
theorem dX0_readCalls_39 : decode cX0_readCalls 39 = .ok (.aload_n 1, 1) := dk_43 (dk_at dksX0_readCalls_1 15 rfl rfl)
theorem dX0_readCalls_40 : decode cX0_readCalls 40 = .ok (.aload_n 3, 1) := dk_45 (dk_at dksX0_readCalls_1 16 rfl rfl)
theorem dX0_readCalls_41 : decode cX0_readCalls 41 = .ok (.iload 4, 2) := dk_21 4 (dk_at dksX0_readCalls_1 17 rfl rfl)
theorem dX0_readCalls_43 : decode cX0_readCalls 43 = .ok (.invokeinterface 132 2, 5) := by decide +kernel
theorem dX0_readCalls_48 : decode cX0_readCalls 48 = .ok (.checkcast 208, 3) := dk_192 0 208 (dk_at dksX0_readCalls_2 0 rfl rfl)
theorem dX0_readCalls_51 : decode cX0_readCalls 51 = .ok (.invokevirtual 210, 3) := dk_182 0 210 (dk_at dksX0_readCalls_2 3 rfl rfl)
theorem dX0_readCalls_54 : decode cX0_readCalls 54 = .ok (.aload_n 3, 1) := dk_45 (dk_at dksX0_readCalls_2 6 rfl rfl)
theorem dX0_readCalls_55 : decode cX0_readCalls 55 = .ok (.iload 4, 2) := dk_21 4 (dk_at dksX0_readCalls_2 7 rfl rfl)
theorem dX0_readCalls_57 : decode cX0_readCalls 57 = .ok (.iconst 1, 1) := dk_4 (dk_at dksX0_readCalls_2 9 rfl rfl)
theorem dX0_readCalls_58 : decode cX0_readCalls 58 = .ok (.iadd, 1) := dk_96 (dk_at dksX0_readCalls_2 10 rfl rfl)
theorem dX0_readCalls_59 : decode cX0_readCalls 59 = .ok (.invokeinterface 132 2, 5) := by decide +kernel
theorem dX0_readCalls_64 : decode cX0_readCalls 64 = .ok (.checkcast 208, 3) := dk_192 0 208 (dk_at dksX0_readCalls_2 16 rfl rfl)
theorem dX0_readCalls_67 : decode cX0_readCalls 67 = .ok (.invokevirtual 210, 3) := dk_182 0 210 (dk_at dksX0_readCalls_2 19 rfl rfl)
theorem dX0_readCalls_70 : decode cX0_readCalls 70 = .ok (.aload_n 3, 1) := dk_45 (dk_at dksX0_readCalls_2 22 rfl rfl)
theorem dX0_readCalls_71 : decode cX0_readCalls 71 = .ok (.iload 4, 2) := dk_21 4 (dk_at dksX0_readCalls_3 0 rfl rfl)
theorem dX0_readCalls_73 : decode cX0_readCalls 73 = .ok (.iconst 2, 1) := dk_5 (dk_at dksX0_readCalls_3 2 rfl rfl)
theorem dX0_readCalls_74 : decode cX0_readCalls 74 = .ok (.iadd, 1) := dk_96 (dk_at dksX0_readCalls_3 3 rfl rfl)
theorem dX0_readCalls_75 : decode cX0_readCalls 75 = .ok (.invokeinterface 132 2, 5) := by decide +kernel
theorem dX0_readCalls_80 : decode cX0_readCalls 80 = .ok (.checkcast 208, 3) := dk_192 0 208 (dk_at dksX0_readCalls_3 9 rfl rfl)
theorem dX0_readCalls_83 : decode cX0_readCalls 83 = .ok (.invokevirtual 210, 3) := dk_182 0 210 (dk_at dksX0_readCalls_3 12 rfl rfl)
theorem dX0_readCalls_86 : decode cX0_readCalls 86 = .ok (.invokevirtual 117, 3) := dk_182 0 117 (dk_at dksX0_readCalls_3 15 rfl rfl)
theorem dX0_readCalls_89 : decode cX0_readCalls 89 = .ok (.aload_n 1, 1) := dk_43 (dk_at dksX0_readCalls_3 18 rfl rfl)
theorem dX0_readCalls_90 : decode cX0_readCalls 90 = .ok (.aload_n 3, 1) := dk_45 (dk_at dksX0_readCalls_3 19 rfl rfl)
theorem dX0_readCalls_91 : decode cX0_readCalls 91 = .ok (.iload 4, 2) := dk_21 4 (dk_at dksX0_readCalls_3 20 rfl rfl)
theorem dX0_readCalls_93 : decode cX0_readCalls 93 = .ok (.invokeinterface 132 2, 5) := by decide +kernel
theorem dX0_readCalls_98 : decode cX0_readCalls 98 = .ok (.checkcast 208, 3) := dk_192 0 208 (dk_at dksX0_readCalls_4 5 rfl rfl)
theorem dX0_readCalls_101 : decode cX0_readCalls 101 = .ok (.invokevirtual 210, 3) := dk_182 0 210 (dk_at dksX0_readCalls_4 8 rfl rfl)
theorem dX0_readCalls_104 : decode cX0_readCalls 104 = .ok (.aload_n 3, 1) := dk_45 (dk_at dksX0_readCalls_4 11 rfl rfl)
theorem dX0_readCalls_105 : decode cX0_readCalls 105 = .ok (.iload 4, 2) := dk_21 4 (dk_at dksX0_readCalls_4 12 rfl rfl)
theorem dX0_readCalls_107 : decode cX0_readCalls 107 = .ok (.iconst 1, 1) := dk_4 (dk_at dksX0_readCalls_4 14 rfl rfl)
theorem dX0_readCalls_108 : decode cX0_readCalls 108 = .ok (.iadd, 1) := dk_96 (dk_at dksX0_readCalls_4 15 rfl rfl)
theorem dX0_readCalls_109 : decode cX0_readCalls 109 = .ok (.invokeinterface 132 2, 5) := by decide +kernel
theorem dX0_readCalls_114 : decode cX0_readCalls 114 = .ok (.checkcast 208, 3) := dk_192 0 208 (dk_at dksX0_readCalls_4 21 rfl rfl)
theorem dX0_readCalls_117 : decode cX0_readCalls 117 = .ok (.invokevirtual 210, 3) := dk_182 0 210 (dk_at dksX0_readCalls_5 0 rfl rfl)
theorem dX0_readCalls_120 : decode cX0_readCalls 120 = .ok (.aload_n 3, 1) := dk_45 (dk_at dksX0_readCalls_5 3 rfl rfl)
theorem dX0_readCalls_121 : decode cX0_readCalls 121 = .ok (.iload 4, 2) := dk_21 4 (dk_at dksX0_readCalls_5 4 rfl rfl)
theorem dX0_readCalls_123 : decode cX0_readCalls 123 = .ok (.iconst 2, 1) := dk_5 (dk_at dksX0_readCalls_5 6 rfl rfl)
theorem dX0_readCalls_124 : decode cX0_readCalls 124 = .ok (.iadd, 1) := dk_96 (dk_at dksX0_readCalls_5 7 rfl rfl)
theorem dX0_readCalls_125 : decode cX0_readCalls 125 = .ok (.invokeinterface 132 2, 5) := by decide +kernel
theorem dX0_readCalls_130 : decode cX0_readCalls 130 = .ok (.checkcast 208, 3) := dk_192 0 208 (dk_at dksX0_readCalls_5 13 rfl rfl)
theorem dX0_readCalls_133 : decode cX0_readCalls 133 = .ok (.invokevirtual 210, 3) := dk_182 0 210 (dk_at dksX0_readCalls_5 16 rfl rfl)
theorem dX0_readCalls_136 : decode cX0_readCalls 136 = .ok (.invokevirtual 126, 3) := dk_182 0 126 (dk_at dksX0_readCalls_5 19 rfl rfl)
theorem dX0_readCalls_139 : decode cX0_readCalls 139 = .ok (.iinc 2 1, 3) := dk_132 2 1 (dk_at dksX0_readCalls_6 0 rfl rfl)
theorem dX0_readCalls_142 : decode cX0_readCalls 142 = .ok (.iinc 4 3, 3) := dk_132 4 3 (dk_at dksX0_readCalls_6 3 rfl rfl)
theorem dX0_readCalls_145 : decode cX0_readCalls 145 = .ok (.goto (-117), 3) := dk_167 255 139 (dk_at dksX0_readCalls_6 6 rfl rfl)
theorem dX0_readCalls_148 : decode cX0_readCalls 148 = .ok (.goto 18, 3) := dk_167 0 18 (dk_at dksX0_readCalls_6 9 rfl rfl)
theorem dX0_readCalls_151 : decode cX0_readCalls 151 = .ok (.astore_n 3, 1) := dk_78 (dk_at dksX0_readCalls_6 12 rfl rfl)
theorem dX0_readCalls_152 : decode cX0_readCalls 152 = .ok (.bipush (-100), 2) := dk_16 156 (dk_at dksX0_readCalls_6 13 rfl rfl)
theorem dX0_readCalls_154 : decode cX0_readCalls 154 = .ok (.aload_n 3, 1) := dk_45 (dk_at dksX0_readCalls_6 15 rfl rfl)
theorem dX0_readCalls_155 : decode cX0_readCalls 155 = .ok (.getfield 215, 3) := dk_180 0 215 (dk_at dksX0_readCalls_6 16 rfl rfl)
theorem dX0_readCalls_158 : decode cX0_readCalls 158 = .ok (.isub, 1) := dk_100 (dk_at dksX0_readCalls_6 19 rfl rfl)
theorem dX0_readCalls_159 : decode cX0_readCalls 159 = .ok (.ireturn, 1) := dk_172 (dk_at dksX0_readCalls_6 20 rfl rfl)
theorem dX0_readCalls_160 : decode cX0_readCalls 160 = .ok (.astore_n 3, 1) := dk_78 (dk_at dksX0_readCalls_6 21 rfl rfl)
theorem dX0_readCalls_161 : decode cX0_readCalls 161 = .ok (.aload_n 3, 1) := dk_45 (dk_at dksX0_readCalls_6 22 rfl rfl)
theorem dX0_readCalls_162 : decode cX0_readCalls 162 = .ok (.getfield 123, 3) := dk_180 0 123 (dk_at dksX0_readCalls_7 0 rfl rfl)
theorem dX0_readCalls_165 : decode cX0_readCalls 165 = .ok (.ireturn, 1) := dk_172 (dk_at dksX0_readCalls_7 3 rfl rfl)
theorem dX0_readCalls_166 : decode cX0_readCalls 166 = .ok (.aload_n 0, 1) := dk_42 (dk_at dksX0_readCalls_7 4 rfl rfl)
theorem dX0_readCalls_167 : decode cX0_readCalls 167 = .ok (.invokevirtual 92, 3) := dk_182 0 92 (dk_at dksX0_readCalls_7 5 rfl rfl)
theorem dX0_readCalls_170 : decode cX0_readCalls 170 = .ok (.aload_n 0, 1) := dk_42 (dk_at dksX0_readCalls_7 8 rfl rfl)
theorem dX0_readCalls_171 : decode cX0_readCalls 171 = .ok (.aload_n 1, 1) := dk_43 (dk_at dksX0_readCalls_7 9 rfl rfl)
theorem dX0_readCalls_172 : decode cX0_readCalls 172 = .ok (.putfield 16, 3) := dk_181 0 16 (dk_at dksX0_readCalls_7 10 rfl rfl)
theorem dX0_readCalls_175 : decode cX0_readCalls 175 = .ok (.iload_n 2, 1) := dk_28 (dk_at dksX0_readCalls_7 13 rfl rfl)
theorem dX0_readCalls_176 : decode cX0_readCalls 176 = .ok (.ireturn, 1) := dk_172 (dk_at dksX0_readCalls_7 14 rfl rfl)
abbrev cX0_undo : ByteArray := prog_1_method_26_code
def yX0_undo : MethodName := ⟨RX0, "undo", "()I"⟩
def dkwX0_undo_2 : List UInt8 := [185, 0, 47, 1, 0, 172]
abbrev dktX0_undo_2 : List UInt8 := dkwX0_undo_2 ++ []
def dkwX0_undo_1 : List UInt8 := [185, 0, 47, 1, 0, 4, 100, 185, 0, 53, 2, 0, 192, 0, 13, 181, 0, 16, 42, 180, 0, 23]
abbrev dktX0_undo_1 : List UInt8 := dkwX0_undo_1 ++ dktX0_undo_2
def dkwX0_undo_0 : List UInt8 := [42, 180, 0, 23, 185, 0, 218, 1, 0, 153, 0, 6, 16, 251, 172, 42, 42, 180, 0, 23, 42, 180, 0, 23]
abbrev dktX0_undo_0 : List UInt8 := dkwX0_undo_0 ++ dktX0_undo_1
theorem dksX0_undo_0 : cX0_undo.data.toList.drop 0 = dktX0_undo_0 := by decide +kernel
theorem dksX0_undo_1 : cX0_undo.data.toList.drop 24 = dktX0_undo_1 := dk_seg dksX0_undo_0 24 rfl rfl
theorem dksX0_undo_2 : cX0_undo.data.toList.drop 46 = dktX0_undo_2 := dk_seg dksX0_undo_1 22 rfl rfl
theorem dX0_undo_0 : decode cX0_undo 0 = .ok (.aload_n 0, 1) := dk_42 (dk_at dksX0_undo_0 0 rfl rfl)
theorem dX0_undo_1 : decode cX0_undo 1 = .ok (.getfield 23, 3) := dk_180 0 23 (dk_at dksX0_undo_0 1 rfl rfl)
theorem dX0_undo_4 : decode cX0_undo 4 = .ok (.invokeinterface 218 1, 5) := by decide +kernel
theorem dX0_undo_9 : decode cX0_undo 9 = .ok (.ifCond .eq 6, 3) := dk_153 0 6 (dk_at dksX0_undo_0 9 rfl rfl)
theorem dX0_undo_12 : decode cX0_undo 12 = .ok (.bipush (-5), 2) := dk_16 251 (dk_at dksX0_undo_0 12 rfl rfl)
theorem dX0_undo_14 : decode cX0_undo 14 = .ok (.ireturn, 1) := dk_172 (dk_at dksX0_undo_0 14 rfl rfl)
theorem dX0_undo_15 : decode cX0_undo 15 = .ok (.aload_n 0, 1) := dk_42 (dk_at dksX0_undo_0 15 rfl rfl)
theorem dX0_undo_16 : decode cX0_undo 16 = .ok (.aload_n 0, 1) := dk_42 (dk_at dksX0_undo_0 16 rfl rfl)
theorem dX0_undo_17 : decode cX0_undo 17 = .ok (.getfield 23, 3) := dk_180 0 23 (dk_at dksX0_undo_0 17 rfl rfl)
theorem dX0_undo_20 : decode cX0_undo 20 = .ok (.aload_n 0, 1) := dk_42 (dk_at dksX0_undo_0 20 rfl rfl)
theorem dX0_undo_21 : decode cX0_undo 21 = .ok (.getfield 23, 3) := dk_180 0 23 (dk_at dksX0_undo_0 21 rfl rfl)
theorem dX0_undo_24 : decode cX0_undo 24 = .ok (.invokeinterface 47 1, 5) := by decide +kernel
theorem dX0_undo_29 : decode cX0_undo 29 = .ok (.iconst 1, 1) := dk_4 (dk_at dksX0_undo_1 5 rfl rfl)
theorem dX0_undo_30 : decode cX0_undo 30 = .ok (.isub, 1) := dk_100 (dk_at dksX0_undo_1 6 rfl rfl)
theorem dX0_undo_31 : decode cX0_undo 31 = .ok (.invokeinterface 53 2, 5) := by decide +kernel
theorem dX0_undo_36 : decode cX0_undo 36 = .ok (.checkcast 13, 3) := dk_192 0 13 (dk_at dksX0_undo_1 12 rfl rfl)
theorem dX0_undo_39 : decode cX0_undo 39 = .ok (.putfield 16, 3) := dk_181 0 16 (dk_at dksX0_undo_1 15 rfl rfl)
theorem dX0_undo_42 : decode cX0_undo 42 = .ok (.aload_n 0, 1) := dk_42 (dk_at dksX0_undo_1 18 rfl rfl)
theorem dX0_undo_43 : decode cX0_undo 43 = .ok (.getfield 23, 3) := dk_180 0 23 (dk_at dksX0_undo_1 19 rfl rfl)
theorem dX0_undo_46 : decode cX0_undo 46 = .ok (.invokeinterface 47 1, 5) := by decide +kernel
theorem dX0_undo_51 : decode cX0_undo 51 = .ok (.ireturn, 1) := dk_172 (dk_at dksX0_undo_2 5 rfl rfl)
abbrev cX0_keep : ByteArray := prog_1_method_27_code
def yX0_keep : MethodName := ⟨RX0, "keep", "()I"⟩
def dkwX0_keep_0 : List UInt8 := [42, 42, 180, 0, 16, 182, 0, 57, 181, 0, 221, 42, 180, 0, 16, 180, 0, 145, 172]
abbrev dktX0_keep_0 : List UInt8 := dkwX0_keep_0 ++ []
theorem dksX0_keep_0 : cX0_keep.data.toList.drop 0 = dktX0_keep_0 := by decide +kernel
theorem dX0_keep_0 : decode cX0_keep 0 = .ok (.aload_n 0, 1) := dk_42 (dk_at dksX0_keep_0 0 rfl rfl)
theorem dX0_keep_1 : decode cX0_keep 1 = .ok (.aload_n 0, 1) := dk_42 (dk_at dksX0_keep_0 1 rfl rfl)
theorem dX0_keep_2 : decode cX0_keep 2 = .ok (.getfield 16, 3) := dk_180 0 16 (dk_at dksX0_keep_0 2 rfl rfl)
theorem dX0_keep_5 : decode cX0_keep 5 = .ok (.invokevirtual 57, 3) := dk_182 0 57 (dk_at dksX0_keep_0 5 rfl rfl)
theorem dX0_keep_8 : decode cX0_keep 8 = .ok (.putfield 221, 3) := dk_181 0 221 (dk_at dksX0_keep_0 8 rfl rfl)
theorem dX0_keep_11 : decode cX0_keep 11 = .ok (.aload_n 0, 1) := dk_42 (dk_at dksX0_keep_0 11 rfl rfl)
theorem dX0_keep_12 : decode cX0_keep 12 = .ok (.getfield 16, 3) := dk_180 0 16 (dk_at dksX0_keep_0 12 rfl rfl)
theorem dX0_keep_15 : decode cX0_keep 15 = .ok (.getfield 145, 3) := dk_180 0 145 (dk_at dksX0_keep_0 15 rfl rfl)
theorem dX0_keep_18 : decode cX0_keep 18 = .ok (.ireturn, 1) := dk_172 (dk_at dksX0_keep_0 18 rfl rfl)
abbrev cX0_restore : ByteArray := prog_1_method_28_code
def yX0_restore : MethodName := ⟨RX0, "restore", "()I"⟩
def dkwX0_restore_1 : List UInt8 := [181, 0, 16, 42, 180, 0, 16, 180, 0, 145, 172]
abbrev dktX0_restore_1 : List UInt8 := dkwX0_restore_1 ++ []
def dkwX0_restore_0 : List UInt8 := [42, 180, 0, 221, 199, 0, 6, 16, 251, 172, 42, 182, 0, 92, 42, 42, 180, 0, 221, 182, 0, 57]
abbrev dktX0_restore_0 : List UInt8 := dkwX0_restore_0 ++ dktX0_restore_1
theorem dksX0_restore_0 : cX0_restore.data.toList.drop 0 = dktX0_restore_0 := by decide +kernel
theorem dksX0_restore_1 : cX0_restore.data.toList.drop 22 = dktX0_restore_1 := dk_seg dksX0_restore_0 22 rfl rfl
theorem dX0_restore_0 : decode cX0_restore 0 = .ok (.aload_n 0, 1) := dk_42 (dk_at dksX0_restore_0 0 rfl rfl)
theorem dX0_restore_1 : decode cX0_restore 1 = .ok (.getfield 221, 3) := dk_180 0 221 (dk_at dksX0_restore_0 1 rfl rfl)
theorem dX0_restore_4 : decode cX0_restore 4 = .ok (.ifnonnull 6, 3) := dk_199 0 6 (dk_at dksX0_restore_0 4 rfl rfl)
theorem dX0_restore_7 : decode cX0_restore 7 = .ok (.bipush (-5), 2) := dk_16 251 (dk_at dksX0_restore_0 7 rfl rfl)
theorem dX0_restore_9 : decode cX0_restore 9 = .ok (.ireturn, 1) := dk_172 (dk_at dksX0_restore_0 9 rfl rfl)
theorem dX0_restore_10 : decode cX0_restore 10 = .ok (.aload_n 0, 1) := dk_42 (dk_at dksX0_restore_0 10 rfl rfl)
theorem dX0_restore_11 : decode cX0_restore 11 = .ok (.invokevirtual 92, 3) := dk_182 0 92 (dk_at dksX0_restore_0 11 rfl rfl)
theorem dX0_restore_14 : decode cX0_restore 14 = .ok (.aload_n 0, 1) := dk_42 (dk_at dksX0_restore_0 14 rfl rfl)
theorem dX0_restore_15 : decode cX0_restore 15 = .ok (.aload_n 0, 1) := dk_42 (dk_at dksX0_restore_0 15 rfl rfl)
theorem dX0_restore_16 : decode cX0_restore 16 = .ok (.getfield 221, 3) := dk_180 0 221 (dk_at dksX0_restore_0 16 rfl rfl)
theorem dX0_restore_19 : decode cX0_restore 19 = .ok (.invokevirtual 57, 3) := dk_182 0 57 (dk_at dksX0_restore_0 19 rfl rfl)
theorem dX0_restore_22 : decode cX0_restore 22 = .ok (.putfield 16, 3) := dk_181 0 16 (dk_at dksX0_restore_1 0 rfl rfl)
theorem dX0_restore_25 : decode cX0_restore 25 = .ok (.aload_n 0, 1) := dk_42 (dk_at dksX0_restore_1 3 rfl rfl)
theorem dX0_restore_26 : decode cX0_restore 26 = .ok (.getfield 16, 3) := dk_180 0 16 (dk_at dksX0_restore_1 4 rfl rfl)
theorem dX0_restore_29 : decode cX0_restore 29 = .ok (.getfield 145, 3) := dk_180 0 145 (dk_at dksX0_restore_1 7 rfl rfl)
theorem dX0_restore_32 : decode cX0_restore 32 = .ok (.ireturn, 1) := dk_172 (dk_at dksX0_restore_1 10 rfl rfl)
abbrev cX0_distance : ByteArray := prog_1_method_29_code
def yX0_distance : MethodName := ⟨RX0, "distance", "(II)I"⟩
def dkwX0_distance_1 : List UInt8 := [167, 0, 4, 2, 172]
abbrev dktX0_distance_1 : List UInt8 := dkwX0_distance_1 ++ []
def dkwX0_distance_0 : List UInt8 := [27, 184, 0, 77, 153, 0, 22, 28, 184, 0, 77, 153, 0, 15, 42, 180, 0, 16, 27, 28, 182, 0, 177]
abbrev dktX0_distance_0 : List UInt8 := dkwX0_distance_0 ++ dktX0_distance_1
theorem dksX0_distance_0 : cX0_distance.data.toList.drop 0 = dktX0_distance_0 := by decide +kernel
theorem dksX0_distance_1 : cX0_distance.data.toList.drop 23 = dktX0_distance_1 := dk_seg dksX0_distance_0 23 rfl rfl
theorem dX0_distance_0 : decode cX0_distance 0 = .ok (.iload_n 1, 1) := dk_27 (dk_at dksX0_distance_0 0 rfl rfl)
theorem dX0_distance_1 : decode cX0_distance 1 = .ok (.invokestatic 77, 3) := dk_184 0 77 (dk_at dksX0_distance_0 1 rfl rfl)
theorem dX0_distance_4 : decode cX0_distance 4 = .ok (.ifCond .eq 22, 3) := dk_153 0 22 (dk_at dksX0_distance_0 4 rfl rfl)
theorem dX0_distance_7 : decode cX0_distance 7 = .ok (.iload_n 2, 1) := dk_28 (dk_at dksX0_distance_0 7 rfl rfl)
theorem dX0_distance_8 : decode cX0_distance 8 = .ok (.invokestatic 77, 3) := dk_184 0 77 (dk_at dksX0_distance_0 8 rfl rfl)
theorem dX0_distance_11 : decode cX0_distance 11 = .ok (.ifCond .eq 15, 3) := dk_153 0 15 (dk_at dksX0_distance_0 11 rfl rfl)
theorem dX0_distance_14 : decode cX0_distance 14 = .ok (.aload_n 0, 1) := dk_42 (dk_at dksX0_distance_0 14 rfl rfl)
theorem dX0_distance_15 : decode cX0_distance 15 = .ok (.getfield 16, 3) := dk_180 0 16 (dk_at dksX0_distance_0 15 rfl rfl)
theorem dX0_distance_18 : decode cX0_distance 18 = .ok (.iload_n 1, 1) := dk_27 (dk_at dksX0_distance_0 18 rfl rfl)
theorem dX0_distance_19 : decode cX0_distance 19 = .ok (.iload_n 2, 1) := dk_28 (dk_at dksX0_distance_0 19 rfl rfl)
theorem dX0_distance_20 : decode cX0_distance 20 = .ok (.invokevirtual 177, 3) := dk_182 0 177 (dk_at dksX0_distance_0 20 rfl rfl)
theorem dX0_distance_23 : decode cX0_distance 23 = .ok (.goto 4, 3) := dk_167 0 4 (dk_at dksX0_distance_1 0 rfl rfl)
theorem dX0_distance_26 : decode cX0_distance 26 = .ok (.iconst (-1), 1) := dk_2 (dk_at dksX0_distance_1 3 rfl rfl)
theorem dX0_distance_27 : decode cX0_distance 27 = .ok (.ireturn, 1) := dk_172 (dk_at dksX0_distance_1 4 rfl rfl)
abbrev cX0_wayAt : ByteArray := prog_1_method_30_code
def yX0_wayAt : MethodName := ⟨RX0, "wayAt", "(III)I"⟩
def dkwX0_wayAt_2 : List UInt8 := [25, 4, 29, 185, 0, 132, 2, 0, 192, 0, 208, 182, 0, 210, 167, 0, 5, 16, 251, 172]
abbrev dktX0_wayAt_2 : List UInt8 := dkwX0_wayAt_2 ++ []
def dkwX0_wayAt_1 : List UInt8 := [180, 0, 16, 180, 0, 39, 27, 28, 182, 0, 224, 58, 4, 29, 25, 4, 185, 0, 47, 1, 0, 162, 0, 20]
abbrev dktX0_wayAt_1 : List UInt8 := dkwX0_wayAt_1 ++ dktX0_wayAt_2
def dkwX0_wayAt_0 : List UInt8 := [27, 184, 0, 77, 153, 0, 10, 28, 184, 0, 77, 154, 0, 5, 2, 172, 29, 156, 0, 6, 16, 254, 172, 42]
abbrev dktX0_wayAt_0 : List UInt8 := dkwX0_wayAt_0 ++ dktX0_wayAt_1
theorem dksX0_wayAt_0 : cX0_wayAt.data.toList.drop 0 = dktX0_wayAt_0 := by decide +kernel
theorem dksX0_wayAt_1 : cX0_wayAt.data.toList.drop 24 = dktX0_wayAt_1 := dk_seg dksX0_wayAt_0 24 rfl rfl
theorem dksX0_wayAt_2 : cX0_wayAt.data.toList.drop 48 = dktX0_wayAt_2 := dk_seg dksX0_wayAt_1 24 rfl rfl
theorem dX0_wayAt_0 : decode cX0_wayAt 0 = .ok (.iload_n 1, 1) := dk_27 (dk_at dksX0_wayAt_0 0 rfl rfl)
theorem dX0_wayAt_1 : decode cX0_wayAt 1 = .ok (.invokestatic 77, 3) := dk_184 0 77 (dk_at dksX0_wayAt_0 1 rfl rfl)
theorem dX0_wayAt_4 : decode cX0_wayAt 4 = .ok (.ifCond .eq 10, 3) := dk_153 0 10 (dk_at dksX0_wayAt_0 4 rfl rfl)
theorem dX0_wayAt_7 : decode cX0_wayAt 7 = .ok (.iload_n 2, 1) := dk_28 (dk_at dksX0_wayAt_0 7 rfl rfl)
theorem dX0_wayAt_8 : decode cX0_wayAt 8 = .ok (.invokestatic 77, 3) := dk_184 0 77 (dk_at dksX0_wayAt_0 8 rfl rfl)
theorem dX0_wayAt_11 : decode cX0_wayAt 11 = .ok (.ifCond .ne 5, 3) := dk_154 0 5 (dk_at dksX0_wayAt_0 11 rfl rfl)
theorem dX0_wayAt_14 : decode cX0_wayAt 14 = .ok (.iconst (-1), 1) := dk_2 (dk_at dksX0_wayAt_0 14 rfl rfl)
theorem dX0_wayAt_15 : decode cX0_wayAt 15 = .ok (.ireturn, 1) := dk_172 (dk_at dksX0_wayAt_0 15 rfl rfl)
theorem dX0_wayAt_16 : decode cX0_wayAt 16 = .ok (.iload_n 3, 1) := dk_29 (dk_at dksX0_wayAt_0 16 rfl rfl)
theorem dX0_wayAt_17 : decode cX0_wayAt 17 = .ok (.ifCond .ge 6, 3) := dk_156 0 6 (dk_at dksX0_wayAt_0 17 rfl rfl)
theorem dX0_wayAt_20 : decode cX0_wayAt 20 = .ok (.bipush (-2), 2) := dk_16 254 (dk_at dksX0_wayAt_0 20 rfl rfl)
theorem dX0_wayAt_22 : decode cX0_wayAt 22 = .ok (.ireturn, 1) := dk_172 (dk_at dksX0_wayAt_0 22 rfl rfl)
theorem dX0_wayAt_23 : decode cX0_wayAt 23 = .ok (.aload_n 0, 1) := dk_42 (dk_at dksX0_wayAt_0 23 rfl rfl)
theorem dX0_wayAt_24 : decode cX0_wayAt 24 = .ok (.getfield 16, 3) := dk_180 0 16 (dk_at dksX0_wayAt_1 0 rfl rfl)
theorem dX0_wayAt_27 : decode cX0_wayAt 27 = .ok (.getfield 39, 3) := dk_180 0 39 (dk_at dksX0_wayAt_1 3 rfl rfl)
theorem dX0_wayAt_30 : decode cX0_wayAt 30 = .ok (.iload_n 1, 1) := dk_27 (dk_at dksX0_wayAt_1 6 rfl rfl)
theorem dX0_wayAt_31 : decode cX0_wayAt 31 = .ok (.iload_n 2, 1) := dk_28 (dk_at dksX0_wayAt_1 7 rfl rfl)
theorem dX0_wayAt_32 : decode cX0_wayAt 32 = .ok (.invokevirtual 224, 3) := dk_182 0 224 (dk_at dksX0_wayAt_1 8 rfl rfl)
theorem dX0_wayAt_35 : decode cX0_wayAt 35 = .ok (.astore 4, 2) := dk_58 4 (dk_at dksX0_wayAt_1 11 rfl rfl)
theorem dX0_wayAt_37 : decode cX0_wayAt 37 = .ok (.iload_n 3, 1) := dk_29 (dk_at dksX0_wayAt_1 13 rfl rfl)
theorem dX0_wayAt_38 : decode cX0_wayAt 38 = .ok (.aload 4, 2) := dk_25 4 (dk_at dksX0_wayAt_1 14 rfl rfl)
theorem dX0_wayAt_40 : decode cX0_wayAt 40 = .ok (.invokeinterface 47 1, 5) := by decide +kernel
theorem dX0_wayAt_45 : decode cX0_wayAt 45 = .ok (.if_icmp .ge 20, 3) := dk_162 0 20 (dk_at dksX0_wayAt_1 21 rfl rfl)
theorem dX0_wayAt_48 : decode cX0_wayAt 48 = .ok (.aload 4, 2) := dk_25 4 (dk_at dksX0_wayAt_2 0 rfl rfl)
theorem dX0_wayAt_50 : decode cX0_wayAt 50 = .ok (.iload_n 3, 1) := dk_29 (dk_at dksX0_wayAt_2 2 rfl rfl)
theorem dX0_wayAt_51 : decode cX0_wayAt 51 = .ok (.invokeinterface 132 2, 5) := by decide +kernel
theorem dX0_wayAt_56 : decode cX0_wayAt 56 = .ok (.checkcast 208, 3) := dk_192 0 208 (dk_at dksX0_wayAt_2 8 rfl rfl)
theorem dX0_wayAt_59 : decode cX0_wayAt 59 = .ok (.invokevirtual 210, 3) := dk_182 0 210 (dk_at dksX0_wayAt_2 11 rfl rfl)
theorem dX0_wayAt_62 : decode cX0_wayAt 62 = .ok (.goto 5, 3) := dk_167 0 5 (dk_at dksX0_wayAt_2 14 rfl rfl)
theorem dX0_wayAt_65 : decode cX0_wayAt 65 = .ok (.bipush (-5), 2) := dk_16 251 (dk_at dksX0_wayAt_2 17 rfl rfl)
theorem dX0_wayAt_67 : decode cX0_wayAt 67 = .ok (.ireturn, 1) := dk_172 (dk_at dksX0_wayAt_2 19 rfl rfl)
abbrev cX0_member : ByteArray := prog_1_method_31_code
def yX0_member : MethodName := ⟨RX0, "member", "(II)I"⟩
def dkwX0_member_7 : List UInt8 := [16, 254, 172]
abbrev dktX0_member_7 : List UInt8 := dkwX0_member_7 ++ []
def dkwX0_member_6 : List UInt8 := [186, 1, 2, 0, 0, 182, 0, 242, 172, 42, 180, 0, 16, 27, 186, 1, 3, 0, 0, 182, 0, 242, 172]
abbrev dktX0_member_6 : List UInt8 := dkwX0_member_6 ++ dktX0_member_7
def dkwX0_member_5 : List UInt8 := [182, 0, 242, 172, 45, 180, 0, 252, 45, 180, 0, 255, 100, 17, 3, 232, 96, 172, 42, 180, 0, 16, 27]
abbrev dktX0_member_5 : List UInt8 := dkwX0_member_5 ++ dktX0_member_6
def dkwX0_member_4 : List UInt8 := [16, 251, 167, 0, 8, 25, 4, 180, 0, 246, 172, 42, 180, 0, 16, 42, 27, 186, 0, 249, 0, 0]
abbrev dktX0_member_4 : List UInt8 := dkwX0_member_4 ++ dktX0_member_5
def dkwX0_member_3 : List UInt8 := [45, 180, 0, 235, 172, 42, 180, 0, 16, 27, 186, 0, 238, 0, 0, 182, 0, 242, 172, 25, 4, 199, 0, 8]
abbrev dktX0_member_3 : List UInt8 := dkwX0_member_3 ++ dktX0_member_4
def dkwX0_member_2 : List UInt8 := [170, 0, 0, 0, 0, 134, 0, 0, 0, 0, 0, 0, 0, 6, 0, 0, 0, 42, 0, 0, 0, 47, 0, 0, 0, 61, 0, 0, 0, 77, 0, 0, 0, 92, 0, 0, 0, 106, 0, 0, 0, 120]
abbrev dktX0_member_2 : List UInt8 := dkwX0_member_2 ++ dktX0_member_3
def dkwX0_member_1 : List UInt8 := [192, 0, 100, 78, 42, 180, 0, 16, 27, 182, 0, 231, 58, 4, 28]
abbrev dktX0_member_1 : List UInt8 := dkwX0_member_1 ++ dktX0_member_2
def dkwX0_member_0 : List UInt8 := [42, 27, 182, 0, 228, 154, 0, 5, 2, 172, 42, 180, 0, 16, 180, 0, 65, 27, 185, 0, 132, 2, 0]
abbrev dktX0_member_0 : List UInt8 := dkwX0_member_0 ++ dktX0_member_1
theorem dksX0_member_0 : cX0_member.data.toList.drop 0 = dktX0_member_0 := by decide +kernel
theorem dksX0_member_1 : cX0_member.data.toList.drop 23 = dktX0_member_1 := dk_seg dksX0_member_0 23 rfl rfl
theorem dksX0_member_2 : cX0_member.data.toList.drop 38 = dktX0_member_2 := dk_seg dksX0_member_1 15 rfl rfl
theorem dksX0_member_3 : cX0_member.data.toList.drop 80 = dktX0_member_3 := dk_seg dksX0_member_2 42 rfl rfl
theorem dksX0_member_4 : cX0_member.data.toList.drop 104 = dktX0_member_4 := dk_seg dksX0_member_3 24 rfl rfl
theorem dksX0_member_5 : cX0_member.data.toList.drop 126 = dktX0_member_5 := dk_seg dksX0_member_4 22 rfl rfl
theorem dksX0_member_6 : cX0_member.data.toList.drop 149 = dktX0_member_6 := dk_seg dksX0_member_5 23 rfl rfl
theorem dksX0_member_7 : cX0_member.data.toList.drop 172 = dktX0_member_7 := dk_seg dksX0_member_6 23 rfl rfl
theorem dX0_member_0 : decode cX0_member 0 = .ok (.aload_n 0, 1) := dk_42 (dk_at dksX0_member_0 0 rfl rfl)
theorem dX0_member_1 : decode cX0_member 1 = .ok (.iload_n 1, 1) := dk_27 (dk_at dksX0_member_0 1 rfl rfl)
theorem dX0_member_2 : decode cX0_member 2 = .ok (.invokevirtual 228, 3) := dk_182 0 228 (dk_at dksX0_member_0 2 rfl rfl)
theorem dX0_member_5 : decode cX0_member 5 = .ok (.ifCond .ne 5, 3) := dk_154 0 5 (dk_at dksX0_member_0 5 rfl rfl)
theorem dX0_member_8 : decode cX0_member 8 = .ok (.iconst (-1), 1) := dk_2 (dk_at dksX0_member_0 8 rfl rfl)
theorem dX0_member_9 : decode cX0_member 9 = .ok (.ireturn, 1) := dk_172 (dk_at dksX0_member_0 9 rfl rfl)
theorem dX0_member_10 : decode cX0_member 10 = .ok (.aload_n 0, 1) := dk_42 (dk_at dksX0_member_0 10 rfl rfl)
theorem dX0_member_11 : decode cX0_member 11 = .ok (.getfield 16, 3) := dk_180 0 16 (dk_at dksX0_member_0 11 rfl rfl)
theorem dX0_member_14 : decode cX0_member 14 = .ok (.getfield 65, 3) := dk_180 0 65 (dk_at dksX0_member_0 14 rfl rfl)
theorem dX0_member_17 : decode cX0_member 17 = .ok (.iload_n 1, 1) := dk_27 (dk_at dksX0_member_0 17 rfl rfl)
theorem dX0_member_18 : decode cX0_member 18 = .ok (.invokeinterface 132 2, 5) := by decide +kernel
theorem dX0_member_23 : decode cX0_member 23 = .ok (.checkcast 100, 3) := dk_192 0 100 (dk_at dksX0_member_1 0 rfl rfl)
theorem dX0_member_26 : decode cX0_member 26 = .ok (.astore_n 3, 1) := dk_78 (dk_at dksX0_member_1 3 rfl rfl)
theorem dX0_member_27 : decode cX0_member 27 = .ok (.aload_n 0, 1) := dk_42 (dk_at dksX0_member_1 4 rfl rfl)
theorem dX0_member_28 : decode cX0_member 28 = .ok (.getfield 16, 3) := dk_180 0 16 (dk_at dksX0_member_1 5 rfl rfl)
theorem dX0_member_31 : decode cX0_member 31 = .ok (.iload_n 1, 1) := dk_27 (dk_at dksX0_member_1 8 rfl rfl)
theorem dX0_member_32 : decode cX0_member 32 = .ok (.invokevirtual 231, 3) := dk_182 0 231 (dk_at dksX0_member_1 9 rfl rfl)
theorem dX0_member_35 : decode cX0_member 35 = .ok (.astore 4, 2) := dk_58 4 (dk_at dksX0_member_1 12 rfl rfl)
theorem dX0_member_37 : decode cX0_member 37 = .ok (.iload_n 2, 1) := dk_28 (dk_at dksX0_member_1 14 rfl rfl)
theorem dX0_member_38 : decode cX0_member 38 = .ok (.tableswitch 134 0 6 #[42, 47, 61, 77, 92, 106, 120], 42) := by decide +kernel
theorem dX0_member_80 : decode cX0_member 80 = .ok (.aload_n 3, 1) := dk_45 (dk_at dksX0_member_3 0 rfl rfl)
theorem dX0_member_81 : decode cX0_member 81 = .ok (.getfield 235, 3) := dk_180 0 235 (dk_at dksX0_member_3 1 rfl rfl)
theorem dX0_member_84 : decode cX0_member 84 = .ok (.ireturn, 1) := dk_172 (dk_at dksX0_member_3 4 rfl rfl)
theorem dX0_member_85 : decode cX0_member 85 = .ok (.aload_n 0, 1) := dk_42 (dk_at dksX0_member_3 5 rfl rfl)
theorem dX0_member_86 : decode cX0_member 86 = .ok (.getfield 16, 3) := dk_180 0 16 (dk_at dksX0_member_3 6 rfl rfl)
theorem dX0_member_89 : decode cX0_member 89 = .ok (.iload_n 1, 1) := dk_27 (dk_at dksX0_member_3 9 rfl rfl)
theorem dX0_member_90 : decode cX0_member 90 = .ok (.invokedynamic 238, 5) := by decide +kernel
theorem dX0_member_95 : decode cX0_member 95 = .ok (.invokevirtual 242, 3) := dk_182 0 242 (dk_at dksX0_member_3 15 rfl rfl)
theorem dX0_member_98 : decode cX0_member 98 = .ok (.ireturn, 1) := dk_172 (dk_at dksX0_member_3 18 rfl rfl)
theorem dX0_member_99 : decode cX0_member 99 = .ok (.aload 4, 2) := dk_25 4 (dk_at dksX0_member_3 19 rfl rfl)
theorem dX0_member_101 : decode cX0_member 101 = .ok (.ifnonnull 8, 3) := dk_199 0 8 (dk_at dksX0_member_3 21 rfl rfl)
theorem dX0_member_104 : decode cX0_member 104 = .ok (.bipush (-5), 2) := dk_16 251 (dk_at dksX0_member_4 0 rfl rfl)
theorem dX0_member_106 : decode cX0_member 106 = .ok (.goto 8, 3) := dk_167 0 8 (dk_at dksX0_member_4 2 rfl rfl)
theorem dX0_member_109 : decode cX0_member 109 = .ok (.aload 4, 2) := dk_25 4 (dk_at dksX0_member_4 5 rfl rfl)
theorem dX0_member_111 : decode cX0_member 111 = .ok (.getfield 246, 3) := dk_180 0 246 (dk_at dksX0_member_4 7 rfl rfl)
theorem dX0_member_114 : decode cX0_member 114 = .ok (.ireturn, 1) := dk_172 (dk_at dksX0_member_4 10 rfl rfl)
theorem dX0_member_115 : decode cX0_member 115 = .ok (.aload_n 0, 1) := dk_42 (dk_at dksX0_member_4 11 rfl rfl)
theorem dX0_member_116 : decode cX0_member 116 = .ok (.getfield 16, 3) := dk_180 0 16 (dk_at dksX0_member_4 12 rfl rfl)
theorem dX0_member_119 : decode cX0_member 119 = .ok (.aload_n 0, 1) := dk_42 (dk_at dksX0_member_4 15 rfl rfl)
theorem dX0_member_120 : decode cX0_member 120 = .ok (.iload_n 1, 1) := dk_27 (dk_at dksX0_member_4 16 rfl rfl)
theorem dX0_member_121 : decode cX0_member 121 = .ok (.invokedynamic 249, 5) := by decide +kernel
theorem dX0_member_126 : decode cX0_member 126 = .ok (.invokevirtual 242, 3) := dk_182 0 242 (dk_at dksX0_member_5 0 rfl rfl)
theorem dX0_member_129 : decode cX0_member 129 = .ok (.ireturn, 1) := dk_172 (dk_at dksX0_member_5 3 rfl rfl)
theorem dX0_member_130 : decode cX0_member 130 = .ok (.aload_n 3, 1) := dk_45 (dk_at dksX0_member_5 4 rfl rfl)
theorem dX0_member_131 : decode cX0_member 131 = .ok (.getfield 252, 3) := dk_180 0 252 (dk_at dksX0_member_5 5 rfl rfl)
theorem dX0_member_134 : decode cX0_member 134 = .ok (.aload_n 3, 1) := dk_45 (dk_at dksX0_member_5 8 rfl rfl)
theorem dX0_member_135 : decode cX0_member 135 = .ok (.getfield 255, 3) := dk_180 0 255 (dk_at dksX0_member_5 9 rfl rfl)
theorem dX0_member_138 : decode cX0_member 138 = .ok (.isub, 1) := dk_100 (dk_at dksX0_member_5 12 rfl rfl)
theorem dX0_member_139 : decode cX0_member 139 = .ok (.sipush 1000, 3) := dk_17 3 232 (dk_at dksX0_member_5 13 rfl rfl)
theorem dX0_member_142 : decode cX0_member 142 = .ok (.iadd, 1) := dk_96 (dk_at dksX0_member_5 16 rfl rfl)
theorem dX0_member_143 : decode cX0_member 143 = .ok (.ireturn, 1) := dk_172 (dk_at dksX0_member_5 17 rfl rfl)
theorem dX0_member_144 : decode cX0_member 144 = .ok (.aload_n 0, 1) := dk_42 (dk_at dksX0_member_5 18 rfl rfl)
theorem dX0_member_145 : decode cX0_member 145 = .ok (.getfield 16, 3) := dk_180 0 16 (dk_at dksX0_member_5 19 rfl rfl)
theorem dX0_member_148 : decode cX0_member 148 = .ok (.iload_n 1, 1) := dk_27 (dk_at dksX0_member_5 22 rfl rfl)
theorem dX0_member_149 : decode cX0_member 149 = .ok (.invokedynamic 258, 5) := by decide +kernel
theorem dX0_member_154 : decode cX0_member 154 = .ok (.invokevirtual 242, 3) := dk_182 0 242 (dk_at dksX0_member_6 5 rfl rfl)
theorem dX0_member_157 : decode cX0_member 157 = .ok (.ireturn, 1) := dk_172 (dk_at dksX0_member_6 8 rfl rfl)
theorem dX0_member_158 : decode cX0_member 158 = .ok (.aload_n 0, 1) := dk_42 (dk_at dksX0_member_6 9 rfl rfl)
theorem dX0_member_159 : decode cX0_member 159 = .ok (.getfield 16, 3) := dk_180 0 16 (dk_at dksX0_member_6 10 rfl rfl)
theorem dX0_member_162 : decode cX0_member 162 = .ok (.iload_n 1, 1) := dk_27 (dk_at dksX0_member_6 13 rfl rfl)
theorem dX0_member_163 : decode cX0_member 163 = .ok (.invokedynamic 259, 5) := by decide +kernel
theorem dX0_member_168 : decode cX0_member 168 = .ok (.invokevirtual 242, 3) := dk_182 0 242 (dk_at dksX0_member_6 19 rfl rfl)
theorem dX0_member_171 : decode cX0_member 171 = .ok (.ireturn, 1) := dk_172 (dk_at dksX0_member_6 22 rfl rfl)
theorem dX0_member_172 : decode cX0_member 172 = .ok (.bipush (-2), 2) := dk_16 254 (dk_at dksX0_member_7 0 rfl rfl)
theorem dX0_member_174 : decode cX0_member 174 = .ok (.ireturn, 1) := dk_172 (dk_at dksX0_member_7 2 rfl rfl)
abbrev cX0_isMember : ByteArray := prog_1_method_6_code
def yX0_isMember : MethodName := ⟨RX0, "isMember", "(I)Z"⟩
def dkwX0_isMember_0 : List UInt8 := [27, 3, 42, 180, 0, 16, 180, 0, 65, 185, 0, 47, 1, 0, 4, 100, 184, 0, 3, 172]
abbrev dktX0_isMember_0 : List UInt8 := dkwX0_isMember_0 ++ []
theorem dksX0_isMember_0 : cX0_isMember.data.toList.drop 0 = dktX0_isMember_0 := by decide +kernel
theorem dX0_isMember_0 : decode cX0_isMember 0 = .ok (.iload_n 1, 1) := dk_27 (dk_at dksX0_isMember_0 0 rfl rfl)
theorem dX0_isMember_1 : decode cX0_isMember 1 = .ok (.iconst 0, 1) := dk_3 (dk_at dksX0_isMember_0 1 rfl rfl)
theorem dX0_isMember_2 : decode cX0_isMember 2 = .ok (.aload_n 0, 1) := dk_42 (dk_at dksX0_isMember_0 2 rfl rfl)
theorem dX0_isMember_3 : decode cX0_isMember 3 = .ok (.getfield 16, 3) := dk_180 0 16 (dk_at dksX0_isMember_0 3 rfl rfl)
theorem dX0_isMember_6 : decode cX0_isMember 6 = .ok (.getfield 65, 3) := dk_180 0 65 (dk_at dksX0_isMember_0 6 rfl rfl)
theorem dX0_isMember_9 : decode cX0_isMember 9 = .ok (.invokeinterface 47 1, 5) := by decide +kernel
theorem dX0_isMember_14 : decode cX0_isMember 14 = .ok (.iconst 1, 1) := dk_4 (dk_at dksX0_isMember_0 14 rfl rfl)
theorem dX0_isMember_15 : decode cX0_isMember 15 = .ok (.isub, 1) := dk_100 (dk_at dksX0_isMember_0 15 rfl rfl)
theorem dX0_isMember_16 : decode cX0_isMember 16 = .ok (.invokestatic 3, 3) := dk_184 0 3 (dk_at dksX0_isMember_0 16 rfl rfl)
theorem dX0_isMember_19 : decode cX0_isMember 19 = .ok (.ireturn, 1) := dk_172 (dk_at dksX0_isMember_0 19 rfl rfl)
abbrev cX0_lambda_member_0 : ByteArray := prog_1_method_46_code
def yX0_lambda_member_0 : MethodName := ⟨RX0, "lambda$member$0", "(ILPatrolDesk$Call;)I"⟩
def dkwX0_lambda_member_0_0 : List UInt8 := [43, 180, 1, 42, 26, 160, 0, 7, 4, 167, 0, 4, 3, 172]
abbrev dktX0_lambda_member_0_0 : List UInt8 := dkwX0_lambda_member_0_0 ++ []
theorem dksX0_lambda_member_0_0 : cX0_lambda_member_0.data.toList.drop 0 = dktX0_lambda_member_0_0 := by decide +kernel
theorem dX0_lambda_member_0_0 : decode cX0_lambda_member_0 0 = .ok (.aload_n 1, 1) := dk_43 (dk_at dksX0_lambda_member_0_0 0 rfl rfl)
theorem dX0_lambda_member_0_1 : decode cX0_lambda_member_0 1 = .ok (.getfield 298, 3) := dk_180 1 42 (dk_at dksX0_lambda_member_0_0 1 rfl rfl)
theorem dX0_lambda_member_0_4 : decode cX0_lambda_member_0 4 = .ok (.iload_n 0, 1) := dk_26 (dk_at dksX0_lambda_member_0_0 4 rfl rfl)
theorem dX0_lambda_member_0_5 : decode cX0_lambda_member_0 5 = .ok (.if_icmp .ne 7, 3) := dk_160 0 7 (dk_at dksX0_lambda_member_0_0 5 rfl rfl)
theorem dX0_lambda_member_0_8 : decode cX0_lambda_member_0 8 = .ok (.iconst 1, 1) := dk_4 (dk_at dksX0_lambda_member_0_0 8 rfl rfl)
theorem dX0_lambda_member_0_9 : decode cX0_lambda_member_0 9 = .ok (.goto 4, 3) := dk_167 0 4 (dk_at dksX0_lambda_member_0_0 9 rfl rfl)
theorem dX0_lambda_member_0_12 : decode cX0_lambda_member_0 12 = .ok (.iconst 0, 1) := dk_3 (dk_at dksX0_lambda_member_0_0 12 rfl rfl)
theorem dX0_lambda_member_0_13 : decode cX0_lambda_member_0 13 = .ok (.ireturn, 1) := dk_172 (dk_at dksX0_lambda_member_0_0 13 rfl rfl)
abbrev cX0_lambda_member_1 : ByteArray := prog_1_method_45_code
def yX0_lambda_member_1 : MethodName := ⟨RX0, "lambda$member$1", "(ILPatrolDesk$Call;)I"⟩
def dkwX0_lambda_member_1_0 : List UInt8 := [44, 180, 1, 42, 27, 160, 0, 17, 44, 42, 180, 0, 16, 180, 0, 145, 182, 0, 154, 167, 0, 4, 3, 172]
abbrev dktX0_lambda_member_1_0 : List UInt8 := dkwX0_lambda_member_1_0 ++ []
theorem dksX0_lambda_member_1_0 : cX0_lambda_member_1.data.toList.drop 0 = dktX0_lambda_member_1_0 := by decide +kernel
theorem dX0_lambda_member_1_0 : decode cX0_lambda_member_1 0 = .ok (.aload_n 2, 1) := dk_44 (dk_at dksX0_lambda_member_1_0 0 rfl rfl)
theorem dX0_lambda_member_1_1 : decode cX0_lambda_member_1 1 = .ok (.getfield 298, 3) := dk_180 1 42 (dk_at dksX0_lambda_member_1_0 1 rfl rfl)
theorem dX0_lambda_member_1_4 : decode cX0_lambda_member_1 4 = .ok (.iload_n 1, 1) := dk_27 (dk_at dksX0_lambda_member_1_0 4 rfl rfl)
theorem dX0_lambda_member_1_5 : decode cX0_lambda_member_1 5 = .ok (.if_icmp .ne 17, 3) := dk_160 0 17 (dk_at dksX0_lambda_member_1_0 5 rfl rfl)
theorem dX0_lambda_member_1_8 : decode cX0_lambda_member_1 8 = .ok (.aload_n 2, 1) := dk_44 (dk_at dksX0_lambda_member_1_0 8 rfl rfl)
theorem dX0_lambda_member_1_9 : decode cX0_lambda_member_1 9 = .ok (.aload_n 0, 1) := dk_42 (dk_at dksX0_lambda_member_1_0 9 rfl rfl)
theorem dX0_lambda_member_1_10 : decode cX0_lambda_member_1 10 = .ok (.getfield 16, 3) := dk_180 0 16 (dk_at dksX0_lambda_member_1_0 10 rfl rfl)
theorem dX0_lambda_member_1_13 : decode cX0_lambda_member_1 13 = .ok (.getfield 145, 3) := dk_180 0 145 (dk_at dksX0_lambda_member_1_0 13 rfl rfl)
theorem dX0_lambda_member_1_16 : decode cX0_lambda_member_1 16 = .ok (.invokevirtual 154, 3) := dk_182 0 154 (dk_at dksX0_lambda_member_1_0 16 rfl rfl)
theorem dX0_lambda_member_1_19 : decode cX0_lambda_member_1 19 = .ok (.goto 4, 3) := dk_167 0 4 (dk_at dksX0_lambda_member_1_0 19 rfl rfl)
theorem dX0_lambda_member_1_22 : decode cX0_lambda_member_1 22 = .ok (.iconst 0, 1) := dk_3 (dk_at dksX0_lambda_member_1_0 22 rfl rfl)
theorem dX0_lambda_member_1_23 : decode cX0_lambda_member_1 23 = .ok (.ireturn, 1) := dk_172 (dk_at dksX0_lambda_member_1_0 23 rfl rfl)
abbrev cX0_lambda_member_2 : ByteArray := prog_1_method_44_code
def yX0_lambda_member_2 : MethodName := ⟨RX0, "lambda$member$2", "(ILPatrolDesk$Call;)I"⟩
def dkwX0_lambda_member_2_0 : List UInt8 := [43, 180, 1, 42, 26, 160, 0, 14, 43, 180, 1, 61, 153, 0, 7, 4, 167, 0, 4, 3, 172]
abbrev dktX0_lambda_member_2_0 : List UInt8 := dkwX0_lambda_member_2_0 ++ []
theorem dksX0_lambda_member_2_0 : cX0_lambda_member_2.data.toList.drop 0 = dktX0_lambda_member_2_0 := by decide +kernel
theorem dX0_lambda_member_2_0 : decode cX0_lambda_member_2 0 = .ok (.aload_n 1, 1) := dk_43 (dk_at dksX0_lambda_member_2_0 0 rfl rfl)
theorem dX0_lambda_member_2_1 : decode cX0_lambda_member_2 1 = .ok (.getfield 298, 3) := dk_180 1 42 (dk_at dksX0_lambda_member_2_0 1 rfl rfl)
theorem dX0_lambda_member_2_4 : decode cX0_lambda_member_2 4 = .ok (.iload_n 0, 1) := dk_26 (dk_at dksX0_lambda_member_2_0 4 rfl rfl)
theorem dX0_lambda_member_2_5 : decode cX0_lambda_member_2 5 = .ok (.if_icmp .ne 14, 3) := dk_160 0 14 (dk_at dksX0_lambda_member_2_0 5 rfl rfl)
theorem dX0_lambda_member_2_8 : decode cX0_lambda_member_2 8 = .ok (.aload_n 1, 1) := dk_43 (dk_at dksX0_lambda_member_2_0 8 rfl rfl)
theorem dX0_lambda_member_2_9 : decode cX0_lambda_member_2 9 = .ok (.getfield 317, 3) := dk_180 1 61 (dk_at dksX0_lambda_member_2_0 9 rfl rfl)
theorem dX0_lambda_member_2_12 : decode cX0_lambda_member_2 12 = .ok (.ifCond .eq 7, 3) := dk_153 0 7 (dk_at dksX0_lambda_member_2_0 12 rfl rfl)
theorem dX0_lambda_member_2_15 : decode cX0_lambda_member_2 15 = .ok (.iconst 1, 1) := dk_4 (dk_at dksX0_lambda_member_2_0 15 rfl rfl)
theorem dX0_lambda_member_2_16 : decode cX0_lambda_member_2 16 = .ok (.goto 4, 3) := dk_167 0 4 (dk_at dksX0_lambda_member_2_0 16 rfl rfl)
theorem dX0_lambda_member_2_19 : decode cX0_lambda_member_2 19 = .ok (.iconst 0, 1) := dk_3 (dk_at dksX0_lambda_member_2_0 19 rfl rfl)
theorem dX0_lambda_member_2_20 : decode cX0_lambda_member_2 20 = .ok (.ireturn, 1) := dk_172 (dk_at dksX0_lambda_member_2_0 20 rfl rfl)
abbrev cX0_lambda_member_3 : ByteArray := prog_1_method_43_code
def yX0_lambda_member_3 : MethodName := ⟨RX0, "lambda$member$3", "(ILPatrolDesk$Call;)I"⟩
def dkwX0_lambda_member_3_1 : List UInt8 := [180, 1, 49, 164, 0, 7, 4, 167, 0, 4, 3, 172]
abbrev dktX0_lambda_member_3_1 : List UInt8 := dkwX0_lambda_member_3_1 ++ []
def dkwX0_lambda_member_3_0 : List UInt8 := [43, 180, 1, 42, 26, 160, 0, 28, 43, 180, 1, 55, 16, 251, 159, 0, 19, 43, 3, 182, 0, 154, 43]
abbrev dktX0_lambda_member_3_0 : List UInt8 := dkwX0_lambda_member_3_0 ++ dktX0_lambda_member_3_1
theorem dksX0_lambda_member_3_0 : cX0_lambda_member_3.data.toList.drop 0 = dktX0_lambda_member_3_0 := by decide +kernel
theorem dksX0_lambda_member_3_1 : cX0_lambda_member_3.data.toList.drop 23 = dktX0_lambda_member_3_1 := dk_seg dksX0_lambda_member_3_0 23 rfl rfl
theorem dX0_lambda_member_3_0 : decode cX0_lambda_member_3 0 = .ok (.aload_n 1, 1) := dk_43 (dk_at dksX0_lambda_member_3_0 0 rfl rfl)
theorem dX0_lambda_member_3_1 : decode cX0_lambda_member_3 1 = .ok (.getfield 298, 3) := dk_180 1 42 (dk_at dksX0_lambda_member_3_0 1 rfl rfl)
theorem dX0_lambda_member_3_4 : decode cX0_lambda_member_3 4 = .ok (.iload_n 0, 1) := dk_26 (dk_at dksX0_lambda_member_3_0 4 rfl rfl)
theorem dX0_lambda_member_3_5 : decode cX0_lambda_member_3 5 = .ok (.if_icmp .ne 28, 3) := dk_160 0 28 (dk_at dksX0_lambda_member_3_0 5 rfl rfl)
theorem dX0_lambda_member_3_8 : decode cX0_lambda_member_3 8 = .ok (.aload_n 1, 1) := dk_43 (dk_at dksX0_lambda_member_3_0 8 rfl rfl)
theorem dX0_lambda_member_3_9 : decode cX0_lambda_member_3 9 = .ok (.getfield 311, 3) := dk_180 1 55 (dk_at dksX0_lambda_member_3_0 9 rfl rfl)
theorem dX0_lambda_member_3_12 : decode cX0_lambda_member_3 12 = .ok (.bipush (-5), 2) := dk_16 251 (dk_at dksX0_lambda_member_3_0 12 rfl rfl)
theorem dX0_lambda_member_3_14 : decode cX0_lambda_member_3 14 = .ok (.if_icmp .eq 19, 3) := dk_159 0 19 (dk_at dksX0_lambda_member_3_0 14 rfl rfl)
theorem dX0_lambda_member_3_17 : decode cX0_lambda_member_3 17 = .ok (.aload_n 1, 1) := dk_43 (dk_at dksX0_lambda_member_3_0 17 rfl rfl)
theorem dX0_lambda_member_3_18 : decode cX0_lambda_member_3 18 = .ok (.iconst 0, 1) := dk_3 (dk_at dksX0_lambda_member_3_0 18 rfl rfl)
theorem dX0_lambda_member_3_19 : decode cX0_lambda_member_3 19 = .ok (.invokevirtual 154, 3) := dk_182 0 154 (dk_at dksX0_lambda_member_3_0 19 rfl rfl)
theorem dX0_lambda_member_3_22 : decode cX0_lambda_member_3 22 = .ok (.aload_n 1, 1) := dk_43 (dk_at dksX0_lambda_member_3_0 22 rfl rfl)
theorem dX0_lambda_member_3_23 : decode cX0_lambda_member_3 23 = .ok (.getfield 305, 3) := dk_180 1 49 (dk_at dksX0_lambda_member_3_1 0 rfl rfl)
theorem dX0_lambda_member_3_26 : decode cX0_lambda_member_3 26 = .ok (.if_icmp .le 7, 3) := dk_164 0 7 (dk_at dksX0_lambda_member_3_1 3 rfl rfl)
theorem dX0_lambda_member_3_29 : decode cX0_lambda_member_3 29 = .ok (.iconst 1, 1) := dk_4 (dk_at dksX0_lambda_member_3_1 6 rfl rfl)
theorem dX0_lambda_member_3_30 : decode cX0_lambda_member_3 30 = .ok (.goto 4, 3) := dk_167 0 4 (dk_at dksX0_lambda_member_3_1 7 rfl rfl)
theorem dX0_lambda_member_3_33 : decode cX0_lambda_member_3 33 = .ok (.iconst 0, 1) := dk_3 (dk_at dksX0_lambda_member_3_1 10 rfl rfl)
theorem dX0_lambda_member_3_34 : decode cX0_lambda_member_3 34 = .ok (.ireturn, 1) := dk_172 (dk_at dksX0_lambda_member_3_1 11 rfl rfl)
abbrev cX0_patrol : ByteArray := prog_1_method_32_code
def yX0_patrol : MethodName := ⟨RX0, "patrol", "(II)I"⟩
def dkwX0_patrol_5 : List UInt8 := [45, 180, 1, 20, 172, 45, 180, 1, 23, 172, 45, 180, 1, 26, 172, 45, 180, 1, 29, 172, 16, 254, 172]
abbrev dktX0_patrol_5 : List UInt8 := dkwX0_patrol_5 ++ []
def dkwX0_patrol_4 : List UInt8 := [180, 0, 158, 172, 45, 180, 0, 171, 172, 45, 180, 1, 11, 172, 45, 180, 1, 14, 172, 45, 180, 1, 17, 172]
abbrev dktX0_patrol_4 : List UInt8 := dkwX0_patrol_4 ++ dktX0_patrol_5
def dkwX0_patrol_3 : List UInt8 := [45, 180, 0, 174, 172, 45, 180, 1, 4, 172, 45, 180, 1, 7, 153, 0, 7, 4, 167, 0, 4, 3, 172, 45]
abbrev dktX0_patrol_3 : List UInt8 := dkwX0_patrol_3 ++ dktX0_patrol_4
def dkwX0_patrol_2 : List UInt8 := [170, 0, 0, 0, 0, 0, 0, 132, 0, 0, 0, 0, 0, 0, 0, 11, 0, 0, 0, 64, 0, 0, 0, 69, 0, 0, 0, 74, 0, 0, 0, 87, 0, 0, 0, 92, 0, 0, 0, 97, 0, 0, 0, 102, 0, 0, 0, 107, 0, 0, 0, 112, 0, 0, 0, 117, 0, 0, 0, 122, 0, 0, 0, 127]
abbrev dktX0_patrol_2 : List UInt8 := dkwX0_patrol_2 ++ dktX0_patrol_3
def dkwX0_patrol_1 : List UInt8 := [192, 0, 105, 78, 28]
abbrev dktX0_patrol_1 : List UInt8 := dkwX0_patrol_1 ++ dktX0_patrol_2
def dkwX0_patrol_0 : List UInt8 := [42, 27, 182, 0, 161, 154, 0, 5, 2, 172, 42, 180, 0, 16, 180, 0, 68, 27, 185, 0, 132, 2, 0]
abbrev dktX0_patrol_0 : List UInt8 := dkwX0_patrol_0 ++ dktX0_patrol_1
theorem dksX0_patrol_0 : cX0_patrol.data.toList.drop 0 = dktX0_patrol_0 := by decide +kernel
theorem dksX0_patrol_1 : cX0_patrol.data.toList.drop 23 = dktX0_patrol_1 := dk_seg dksX0_patrol_0 23 rfl rfl
theorem dksX0_patrol_2 : cX0_patrol.data.toList.drop 28 = dktX0_patrol_2 := dk_seg dksX0_patrol_1 5 rfl rfl
theorem dksX0_patrol_3 : cX0_patrol.data.toList.drop 92 = dktX0_patrol_3 := dk_seg dksX0_patrol_2 64 rfl rfl
theorem dksX0_patrol_4 : cX0_patrol.data.toList.drop 116 = dktX0_patrol_4 := dk_seg dksX0_patrol_3 24 rfl rfl
theorem dksX0_patrol_5 : cX0_patrol.data.toList.drop 140 = dktX0_patrol_5 := dk_seg dksX0_patrol_4 24 rfl rfl
theorem dX0_patrol_0 : decode cX0_patrol 0 = .ok (.aload_n 0, 1) := dk_42 (dk_at dksX0_patrol_0 0 rfl rfl)
theorem dX0_patrol_1 : decode cX0_patrol 1 = .ok (.iload_n 1, 1) := dk_27 (dk_at dksX0_patrol_0 1 rfl rfl)
theorem dX0_patrol_2 : decode cX0_patrol 2 = .ok (.invokevirtual 161, 3) := dk_182 0 161 (dk_at dksX0_patrol_0 2 rfl rfl)
theorem dX0_patrol_5 : decode cX0_patrol 5 = .ok (.ifCond .ne 5, 3) := dk_154 0 5 (dk_at dksX0_patrol_0 5 rfl rfl)
theorem dX0_patrol_8 : decode cX0_patrol 8 = .ok (.iconst (-1), 1) := dk_2 (dk_at dksX0_patrol_0 8 rfl rfl)
theorem dX0_patrol_9 : decode cX0_patrol 9 = .ok (.ireturn, 1) := dk_172 (dk_at dksX0_patrol_0 9 rfl rfl)
theorem dX0_patrol_10 : decode cX0_patrol 10 = .ok (.aload_n 0, 1) := dk_42 (dk_at dksX0_patrol_0 10 rfl rfl)
theorem dX0_patrol_11 : decode cX0_patrol 11 = .ok (.getfield 16, 3) := dk_180 0 16 (dk_at dksX0_patrol_0 11 rfl rfl)
theorem dX0_patrol_14 : decode cX0_patrol 14 = .ok (.getfield 68, 3) := dk_180 0 68 (dk_at dksX0_patrol_0 14 rfl rfl)
theorem dX0_patrol_17 : decode cX0_patrol 17 = .ok (.iload_n 1, 1) := dk_27 (dk_at dksX0_patrol_0 17 rfl rfl)
theorem dX0_patrol_18 : decode cX0_patrol 18 = .ok (.invokeinterface 132 2, 5) := by decide +kernel
theorem dX0_patrol_23 : decode cX0_patrol 23 = .ok (.checkcast 105, 3) := dk_192 0 105 (dk_at dksX0_patrol_1 0 rfl rfl)
theorem dX0_patrol_26 : decode cX0_patrol 26 = .ok (.astore_n 3, 1) := dk_78 (dk_at dksX0_patrol_1 3 rfl rfl)
theorem dX0_patrol_27 : decode cX0_patrol 27 = .ok (.iload_n 2, 1) := dk_28 (dk_at dksX0_patrol_1 4 rfl rfl)
theorem dX0_patrol_28 : decode cX0_patrol 28 = .ok (.tableswitch 132 0 11 #[64, 69, 74, 87, 92, 97, 102, 107, 112, 117, 122, 127], 64) := by decide +kernel
theorem dX0_patrol_92 : decode cX0_patrol 92 = .ok (.aload_n 3, 1) := dk_45 (dk_at dksX0_patrol_3 0 rfl rfl)
theorem dX0_patrol_93 : decode cX0_patrol 93 = .ok (.getfield 174, 3) := dk_180 0 174 (dk_at dksX0_patrol_3 1 rfl rfl)
theorem dX0_patrol_96 : decode cX0_patrol 96 = .ok (.ireturn, 1) := dk_172 (dk_at dksX0_patrol_3 4 rfl rfl)
theorem dX0_patrol_97 : decode cX0_patrol 97 = .ok (.aload_n 3, 1) := dk_45 (dk_at dksX0_patrol_3 5 rfl rfl)
theorem dX0_patrol_98 : decode cX0_patrol 98 = .ok (.getfield 260, 3) := dk_180 1 4 (dk_at dksX0_patrol_3 6 rfl rfl)
theorem dX0_patrol_101 : decode cX0_patrol 101 = .ok (.ireturn, 1) := dk_172 (dk_at dksX0_patrol_3 9 rfl rfl)
theorem dX0_patrol_102 : decode cX0_patrol 102 = .ok (.aload_n 3, 1) := dk_45 (dk_at dksX0_patrol_3 10 rfl rfl)
theorem dX0_patrol_103 : decode cX0_patrol 103 = .ok (.getfield 263, 3) := dk_180 1 7 (dk_at dksX0_patrol_3 11 rfl rfl)
theorem dX0_patrol_106 : decode cX0_patrol 106 = .ok (.ifCond .eq 7, 3) := dk_153 0 7 (dk_at dksX0_patrol_3 14 rfl rfl)
theorem dX0_patrol_109 : decode cX0_patrol 109 = .ok (.iconst 1, 1) := dk_4 (dk_at dksX0_patrol_3 17 rfl rfl)
theorem dX0_patrol_110 : decode cX0_patrol 110 = .ok (.goto 4, 3) := dk_167 0 4 (dk_at dksX0_patrol_3 18 rfl rfl)
theorem dX0_patrol_113 : decode cX0_patrol 113 = .ok (.iconst 0, 1) := dk_3 (dk_at dksX0_patrol_3 21 rfl rfl)
theorem dX0_patrol_114 : decode cX0_patrol 114 = .ok (.ireturn, 1) := dk_172 (dk_at dksX0_patrol_3 22 rfl rfl)
theorem dX0_patrol_115 : decode cX0_patrol 115 = .ok (.aload_n 3, 1) := dk_45 (dk_at dksX0_patrol_3 23 rfl rfl)
theorem dX0_patrol_116 : decode cX0_patrol 116 = .ok (.getfield 158, 3) := dk_180 0 158 (dk_at dksX0_patrol_4 0 rfl rfl)
theorem dX0_patrol_119 : decode cX0_patrol 119 = .ok (.ireturn, 1) := dk_172 (dk_at dksX0_patrol_4 3 rfl rfl)
theorem dX0_patrol_120 : decode cX0_patrol 120 = .ok (.aload_n 3, 1) := dk_45 (dk_at dksX0_patrol_4 4 rfl rfl)
theorem dX0_patrol_121 : decode cX0_patrol 121 = .ok (.getfield 171, 3) := dk_180 0 171 (dk_at dksX0_patrol_4 5 rfl rfl)
theorem dX0_patrol_124 : decode cX0_patrol 124 = .ok (.ireturn, 1) := dk_172 (dk_at dksX0_patrol_4 8 rfl rfl)
theorem dX0_patrol_125 : decode cX0_patrol 125 = .ok (.aload_n 3, 1) := dk_45 (dk_at dksX0_patrol_4 9 rfl rfl)
theorem dX0_patrol_126 : decode cX0_patrol 126 = .ok (.getfield 267, 3) := dk_180 1 11 (dk_at dksX0_patrol_4 10 rfl rfl)
theorem dX0_patrol_129 : decode cX0_patrol 129 = .ok (.ireturn, 1) := dk_172 (dk_at dksX0_patrol_4 13 rfl rfl)
theorem dX0_patrol_130 : decode cX0_patrol 130 = .ok (.aload_n 3, 1) := dk_45 (dk_at dksX0_patrol_4 14 rfl rfl)
theorem dX0_patrol_131 : decode cX0_patrol 131 = .ok (.getfield 270, 3) := dk_180 1 14 (dk_at dksX0_patrol_4 15 rfl rfl)
theorem dX0_patrol_134 : decode cX0_patrol 134 = .ok (.ireturn, 1) := dk_172 (dk_at dksX0_patrol_4 18 rfl rfl)
theorem dX0_patrol_135 : decode cX0_patrol 135 = .ok (.aload_n 3, 1) := dk_45 (dk_at dksX0_patrol_4 19 rfl rfl)
theorem dX0_patrol_136 : decode cX0_patrol 136 = .ok (.getfield 273, 3) := dk_180 1 17 (dk_at dksX0_patrol_4 20 rfl rfl)
theorem dX0_patrol_139 : decode cX0_patrol 139 = .ok (.ireturn, 1) := dk_172 (dk_at dksX0_patrol_4 23 rfl rfl)
theorem dX0_patrol_140 : decode cX0_patrol 140 = .ok (.aload_n 3, 1) := dk_45 (dk_at dksX0_patrol_5 0 rfl rfl)
theorem dX0_patrol_141 : decode cX0_patrol 141 = .ok (.getfield 276, 3) := dk_180 1 20 (dk_at dksX0_patrol_5 1 rfl rfl)
theorem dX0_patrol_144 : decode cX0_patrol 144 = .ok (.ireturn, 1) := dk_172 (dk_at dksX0_patrol_5 4 rfl rfl)
theorem dX0_patrol_145 : decode cX0_patrol 145 = .ok (.aload_n 3, 1) := dk_45 (dk_at dksX0_patrol_5 5 rfl rfl)
theorem dX0_patrol_146 : decode cX0_patrol 146 = .ok (.getfield 279, 3) := dk_180 1 23 (dk_at dksX0_patrol_5 6 rfl rfl)
theorem dX0_patrol_149 : decode cX0_patrol 149 = .ok (.ireturn, 1) := dk_172 (dk_at dksX0_patrol_5 9 rfl rfl)
theorem dX0_patrol_150 : decode cX0_patrol 150 = .ok (.aload_n 3, 1) := dk_45 (dk_at dksX0_patrol_5 10 rfl rfl)
theorem dX0_patrol_151 : decode cX0_patrol 151 = .ok (.getfield 282, 3) := dk_180 1 26 (dk_at dksX0_patrol_5 11 rfl rfl)
theorem dX0_patrol_154 : decode cX0_patrol 154 = .ok (.ireturn, 1) := dk_172 (dk_at dksX0_patrol_5 14 rfl rfl)
theorem dX0_patrol_155 : decode cX0_patrol 155 = .ok (.aload_n 3, 1) := dk_45 (dk_at dksX0_patrol_5 15 rfl rfl)
theorem dX0_patrol_156 : decode cX0_patrol 156 = .ok (.getfield 285, 3) := dk_180 1 29 (dk_at dksX0_patrol_5 16 rfl rfl)
theorem dX0_patrol_159 : decode cX0_patrol 159 = .ok (.ireturn, 1) := dk_172 (dk_at dksX0_patrol_5 19 rfl rfl)
theorem dX0_patrol_160 : decode cX0_patrol 160 = .ok (.bipush (-2), 2) := dk_16 254 (dk_at dksX0_patrol_5 20 rfl rfl)
theorem dX0_patrol_162 : decode cX0_patrol 162 = .ok (.ireturn, 1) := dk_172 (dk_at dksX0_patrol_5 22 rfl rfl)
abbrev cX0_garage : ByteArray := prog_1_method_33_code
def yX0_garage : MethodName := ⟨RX0, "garage", "(II)I"⟩
def dkwX0_garage_4 : List UInt8 := [172, 16, 254, 172]
abbrev dktX0_garage_4 : List UInt8 := dkwX0_garage_4 ++ []
def dkwX0_garage_3 : List UInt8 := [45, 180, 1, 32, 172, 45, 180, 1, 33, 172, 45, 180, 0, 183, 172, 45, 180, 1, 36, 172, 45, 180, 1, 39]
abbrev dktX0_garage_3 : List UInt8 := dkwX0_garage_3 ++ dktX0_garage_4
def dkwX0_garage_2 : List UInt8 := [170, 0, 0, 0, 0, 0, 0, 61, 0, 0, 0, 0, 0, 0, 0, 4, 0, 0, 0, 36, 0, 0, 0, 41, 0, 0, 0, 46, 0, 0, 0, 51, 0, 0, 0, 56]
abbrev dktX0_garage_2 : List UInt8 := dkwX0_garage_2 ++ dktX0_garage_3
def dkwX0_garage_1 : List UInt8 := [192, 0, 110, 78, 28]
abbrev dktX0_garage_1 : List UInt8 := dkwX0_garage_1 ++ dktX0_garage_2
def dkwX0_garage_0 : List UInt8 := [42, 27, 182, 0, 180, 154, 0, 5, 2, 172, 42, 180, 0, 16, 180, 0, 71, 27, 185, 0, 132, 2, 0]
abbrev dktX0_garage_0 : List UInt8 := dkwX0_garage_0 ++ dktX0_garage_1
theorem dksX0_garage_0 : cX0_garage.data.toList.drop 0 = dktX0_garage_0 := by decide +kernel
theorem dksX0_garage_1 : cX0_garage.data.toList.drop 23 = dktX0_garage_1 := dk_seg dksX0_garage_0 23 rfl rfl
theorem dksX0_garage_2 : cX0_garage.data.toList.drop 28 = dktX0_garage_2 := dk_seg dksX0_garage_1 5 rfl rfl
theorem dksX0_garage_3 : cX0_garage.data.toList.drop 64 = dktX0_garage_3 := dk_seg dksX0_garage_2 36 rfl rfl
theorem dksX0_garage_4 : cX0_garage.data.toList.drop 88 = dktX0_garage_4 := dk_seg dksX0_garage_3 24 rfl rfl
theorem dX0_garage_0 : decode cX0_garage 0 = .ok (.aload_n 0, 1) := dk_42 (dk_at dksX0_garage_0 0 rfl rfl)
theorem dX0_garage_1 : decode cX0_garage 1 = .ok (.iload_n 1, 1) := dk_27 (dk_at dksX0_garage_0 1 rfl rfl)
theorem dX0_garage_2 : decode cX0_garage 2 = .ok (.invokevirtual 180, 3) := dk_182 0 180 (dk_at dksX0_garage_0 2 rfl rfl)
theorem dX0_garage_5 : decode cX0_garage 5 = .ok (.ifCond .ne 5, 3) := dk_154 0 5 (dk_at dksX0_garage_0 5 rfl rfl)
theorem dX0_garage_8 : decode cX0_garage 8 = .ok (.iconst (-1), 1) := dk_2 (dk_at dksX0_garage_0 8 rfl rfl)
theorem dX0_garage_9 : decode cX0_garage 9 = .ok (.ireturn, 1) := dk_172 (dk_at dksX0_garage_0 9 rfl rfl)
theorem dX0_garage_10 : decode cX0_garage 10 = .ok (.aload_n 0, 1) := dk_42 (dk_at dksX0_garage_0 10 rfl rfl)
theorem dX0_garage_11 : decode cX0_garage 11 = .ok (.getfield 16, 3) := dk_180 0 16 (dk_at dksX0_garage_0 11 rfl rfl)
theorem dX0_garage_14 : decode cX0_garage 14 = .ok (.getfield 71, 3) := dk_180 0 71 (dk_at dksX0_garage_0 14 rfl rfl)
theorem dX0_garage_17 : decode cX0_garage 17 = .ok (.iload_n 1, 1) := dk_27 (dk_at dksX0_garage_0 17 rfl rfl)
theorem dX0_garage_18 : decode cX0_garage 18 = .ok (.invokeinterface 132 2, 5) := by decide +kernel
theorem dX0_garage_23 : decode cX0_garage 23 = .ok (.checkcast 110, 3) := dk_192 0 110 (dk_at dksX0_garage_1 0 rfl rfl)
theorem dX0_garage_26 : decode cX0_garage 26 = .ok (.astore_n 3, 1) := dk_78 (dk_at dksX0_garage_1 3 rfl rfl)
theorem dX0_garage_27 : decode cX0_garage 27 = .ok (.iload_n 2, 1) := dk_28 (dk_at dksX0_garage_1 4 rfl rfl)
theorem dX0_garage_28 : decode cX0_garage 28 = .ok (.tableswitch 61 0 4 #[36, 41, 46, 51, 56], 36) := by decide +kernel
theorem dX0_garage_64 : decode cX0_garage 64 = .ok (.aload_n 3, 1) := dk_45 (dk_at dksX0_garage_3 0 rfl rfl)
theorem dX0_garage_65 : decode cX0_garage 65 = .ok (.getfield 288, 3) := dk_180 1 32 (dk_at dksX0_garage_3 1 rfl rfl)
theorem dX0_garage_68 : decode cX0_garage 68 = .ok (.ireturn, 1) := dk_172 (dk_at dksX0_garage_3 4 rfl rfl)
theorem dX0_garage_69 : decode cX0_garage 69 = .ok (.aload_n 3, 1) := dk_45 (dk_at dksX0_garage_3 5 rfl rfl)
theorem dX0_garage_70 : decode cX0_garage 70 = .ok (.getfield 289, 3) := dk_180 1 33 (dk_at dksX0_garage_3 6 rfl rfl)
theorem dX0_garage_73 : decode cX0_garage 73 = .ok (.ireturn, 1) := dk_172 (dk_at dksX0_garage_3 9 rfl rfl)
theorem dX0_garage_74 : decode cX0_garage 74 = .ok (.aload_n 3, 1) := dk_45 (dk_at dksX0_garage_3 10 rfl rfl)
theorem dX0_garage_75 : decode cX0_garage 75 = .ok (.getfield 183, 3) := dk_180 0 183 (dk_at dksX0_garage_3 11 rfl rfl)
theorem dX0_garage_78 : decode cX0_garage 78 = .ok (.ireturn, 1) := dk_172 (dk_at dksX0_garage_3 14 rfl rfl)
theorem dX0_garage_79 : decode cX0_garage 79 = .ok (.aload_n 3, 1) := dk_45 (dk_at dksX0_garage_3 15 rfl rfl)
theorem dX0_garage_80 : decode cX0_garage 80 = .ok (.getfield 292, 3) := dk_180 1 36 (dk_at dksX0_garage_3 16 rfl rfl)
theorem dX0_garage_83 : decode cX0_garage 83 = .ok (.ireturn, 1) := dk_172 (dk_at dksX0_garage_3 19 rfl rfl)
theorem dX0_garage_84 : decode cX0_garage 84 = .ok (.aload_n 3, 1) := dk_45 (dk_at dksX0_garage_3 20 rfl rfl)
theorem dX0_garage_85 : decode cX0_garage 85 = .ok (.getfield 295, 3) := dk_180 1 39 (dk_at dksX0_garage_3 21 rfl rfl)
theorem dX0_garage_88 : decode cX0_garage 88 = .ok (.ireturn, 1) := dk_172 (dk_at dksX0_garage_4 0 rfl rfl)
theorem dX0_garage_89 : decode cX0_garage 89 = .ok (.bipush (-2), 2) := dk_16 254 (dk_at dksX0_garage_4 1 rfl rfl)
theorem dX0_garage_91 : decode cX0_garage 91 = .ok (.ireturn, 1) := dk_172 (dk_at dksX0_garage_4 3 rfl rfl)
abbrev cX0_callOf : ByteArray := prog_1_method_34_code
def yX0_callOf : MethodName := ⟨RX0, "callOf", "(II)I"⟩
def dkwX0_callOf_7 : List UInt8 := [167, 0, 5, 16, 251, 172, 45, 180, 1, 67, 172, 16, 254, 172]
abbrev dktX0_callOf_7 : List UInt8 := dkwX0_callOf_7 ++ []
def dkwX0_callOf_6 : List UInt8 := [180, 0, 137, 4, 163, 0, 21, 45, 42, 180, 0, 16, 180, 0, 145, 182, 1, 64, 17, 39, 16, 96]
abbrev dktX0_callOf_6 : List UInt8 := dkwX0_callOf_6 ++ dktX0_callOf_7
def dkwX0_callOf_5 : List UInt8 := [180, 1, 55, 172, 45, 180, 1, 58, 172, 45, 180, 1, 61, 153, 0, 7, 4, 167, 0, 4, 3, 172, 45]
abbrev dktX0_callOf_5 : List UInt8 := dkwX0_callOf_5 ++ dktX0_callOf_6
def dkwX0_callOf_4 : List UInt8 := [172, 45, 180, 0, 137, 172, 45, 180, 0, 139, 172, 45, 42, 180, 0, 16, 180, 0, 145, 182, 0, 154, 172, 45]
abbrev dktX0_callOf_4 : List UInt8 := dkwX0_callOf_4 ++ dktX0_callOf_5
def dkwX0_callOf_3 : List UInt8 := [45, 180, 1, 42, 172, 45, 180, 1, 45, 172, 45, 180, 1, 46, 172, 45, 180, 1, 49, 172, 45, 180, 1, 52]
abbrev dktX0_callOf_3 : List UInt8 := dkwX0_callOf_3 ++ dktX0_callOf_4
def dkwX0_callOf_2 : List UInt8 := [170, 0, 0, 0, 0, 0, 0, 172, 0, 0, 0, 0, 0, 0, 0, 12, 0, 0, 0, 68, 0, 0, 0, 73, 0, 0, 0, 78, 0, 0, 0, 83, 0, 0, 0, 88, 0, 0, 0, 93, 0, 0, 0, 98, 0, 0, 0, 103, 0, 0, 0, 115, 0, 0, 0, 120, 0, 0, 0, 125, 0, 0, 0, 138, 0, 0, 0, 167]
abbrev dktX0_callOf_2 : List UInt8 := dkwX0_callOf_2 ++ dktX0_callOf_3
def dkwX0_callOf_1 : List UInt8 := [192, 0, 135, 78, 28]
abbrev dktX0_callOf_1 : List UInt8 := dkwX0_callOf_1 ++ dktX0_callOf_2
def dkwX0_callOf_0 : List UInt8 := [42, 27, 182, 0, 129, 154, 0, 5, 2, 172, 42, 180, 0, 16, 180, 0, 74, 27, 185, 0, 132, 2, 0]
abbrev dktX0_callOf_0 : List UInt8 := dkwX0_callOf_0 ++ dktX0_callOf_1
theorem dksX0_callOf_0 : cX0_callOf.data.toList.drop 0 = dktX0_callOf_0 := by decide +kernel
theorem dksX0_callOf_1 : cX0_callOf.data.toList.drop 23 = dktX0_callOf_1 := dk_seg dksX0_callOf_0 23 rfl rfl
theorem dksX0_callOf_2 : cX0_callOf.data.toList.drop 28 = dktX0_callOf_2 := dk_seg dksX0_callOf_1 5 rfl rfl
theorem dksX0_callOf_3 : cX0_callOf.data.toList.drop 96 = dktX0_callOf_3 := dk_seg dksX0_callOf_2 68 rfl rfl
theorem dksX0_callOf_4 : cX0_callOf.data.toList.drop 120 = dktX0_callOf_4 := dk_seg dksX0_callOf_3 24 rfl rfl
theorem dksX0_callOf_5 : cX0_callOf.data.toList.drop 144 = dktX0_callOf_5 := dk_seg dksX0_callOf_4 24 rfl rfl
theorem dksX0_callOf_6 : cX0_callOf.data.toList.drop 167 = dktX0_callOf_6 := dk_seg dksX0_callOf_5 23 rfl rfl
theorem dksX0_callOf_7 : cX0_callOf.data.toList.drop 189 = dktX0_callOf_7 := dk_seg dksX0_callOf_6 22 rfl rfl
theorem dX0_callOf_0 : decode cX0_callOf 0 = .ok (.aload_n 0, 1) := dk_42 (dk_at dksX0_callOf_0 0 rfl rfl)
theorem dX0_callOf_1 : decode cX0_callOf 1 = .ok (.iload_n 1, 1) := dk_27 (dk_at dksX0_callOf_0 1 rfl rfl)
theorem dX0_callOf_2 : decode cX0_callOf 2 = .ok (.invokevirtual 129, 3) := dk_182 0 129 (dk_at dksX0_callOf_0 2 rfl rfl)
theorem dX0_callOf_5 : decode cX0_callOf 5 = .ok (.ifCond .ne 5, 3) := dk_154 0 5 (dk_at dksX0_callOf_0 5 rfl rfl)
theorem dX0_callOf_8 : decode cX0_callOf 8 = .ok (.iconst (-1), 1) := dk_2 (dk_at dksX0_callOf_0 8 rfl rfl)
theorem dX0_callOf_9 : decode cX0_callOf 9 = .ok (.ireturn, 1) := dk_172 (dk_at dksX0_callOf_0 9 rfl rfl)
theorem dX0_callOf_10 : decode cX0_callOf 10 = .ok (.aload_n 0, 1) := dk_42 (dk_at dksX0_callOf_0 10 rfl rfl)
theorem dX0_callOf_11 : decode cX0_callOf 11 = .ok (.getfield 16, 3) := dk_180 0 16 (dk_at dksX0_callOf_0 11 rfl rfl)
theorem dX0_callOf_14 : decode cX0_callOf 14 = .ok (.getfield 74, 3) := dk_180 0 74 (dk_at dksX0_callOf_0 14 rfl rfl)
theorem dX0_callOf_17 : decode cX0_callOf 17 = .ok (.iload_n 1, 1) := dk_27 (dk_at dksX0_callOf_0 17 rfl rfl)
theorem dX0_callOf_18 : decode cX0_callOf 18 = .ok (.invokeinterface 132 2, 5) := by decide +kernel
theorem dX0_callOf_23 : decode cX0_callOf 23 = .ok (.checkcast 135, 3) := dk_192 0 135 (dk_at dksX0_callOf_1 0 rfl rfl)
theorem dX0_callOf_26 : decode cX0_callOf 26 = .ok (.astore_n 3, 1) := dk_78 (dk_at dksX0_callOf_1 3 rfl rfl)
theorem dX0_callOf_27 : decode cX0_callOf 27 = .ok (.iload_n 2, 1) := dk_28 (dk_at dksX0_callOf_1 4 rfl rfl)
theorem dX0_callOf_28 : decode cX0_callOf 28 = .ok (.tableswitch 172 0 12 #[68, 73, 78, 83, 88, 93, 98, 103, 115, 120, 125, 138, 167], 68) := by decide +kernel
theorem dX0_callOf_96 : decode cX0_callOf 96 = .ok (.aload_n 3, 1) := dk_45 (dk_at dksX0_callOf_3 0 rfl rfl)
theorem dX0_callOf_97 : decode cX0_callOf 97 = .ok (.getfield 298, 3) := dk_180 1 42 (dk_at dksX0_callOf_3 1 rfl rfl)
theorem dX0_callOf_100 : decode cX0_callOf 100 = .ok (.ireturn, 1) := dk_172 (dk_at dksX0_callOf_3 4 rfl rfl)
theorem dX0_callOf_101 : decode cX0_callOf 101 = .ok (.aload_n 3, 1) := dk_45 (dk_at dksX0_callOf_3 5 rfl rfl)
theorem dX0_callOf_102 : decode cX0_callOf 102 = .ok (.getfield 301, 3) := dk_180 1 45 (dk_at dksX0_callOf_3 6 rfl rfl)
theorem dX0_callOf_105 : decode cX0_callOf 105 = .ok (.ireturn, 1) := dk_172 (dk_at dksX0_callOf_3 9 rfl rfl)
theorem dX0_callOf_106 : decode cX0_callOf 106 = .ok (.aload_n 3, 1) := dk_45 (dk_at dksX0_callOf_3 10 rfl rfl)
theorem dX0_callOf_107 : decode cX0_callOf 107 = .ok (.getfield 302, 3) := dk_180 1 46 (dk_at dksX0_callOf_3 11 rfl rfl)
theorem dX0_callOf_110 : decode cX0_callOf 110 = .ok (.ireturn, 1) := dk_172 (dk_at dksX0_callOf_3 14 rfl rfl)
theorem dX0_callOf_111 : decode cX0_callOf 111 = .ok (.aload_n 3, 1) := dk_45 (dk_at dksX0_callOf_3 15 rfl rfl)
theorem dX0_callOf_112 : decode cX0_callOf 112 = .ok (.getfield 305, 3) := dk_180 1 49 (dk_at dksX0_callOf_3 16 rfl rfl)
theorem dX0_callOf_115 : decode cX0_callOf 115 = .ok (.ireturn, 1) := dk_172 (dk_at dksX0_callOf_3 19 rfl rfl)
theorem dX0_callOf_116 : decode cX0_callOf 116 = .ok (.aload_n 3, 1) := dk_45 (dk_at dksX0_callOf_3 20 rfl rfl)
theorem dX0_callOf_117 : decode cX0_callOf 117 = .ok (.getfield 308, 3) := dk_180 1 52 (dk_at dksX0_callOf_3 21 rfl rfl)
theorem dX0_callOf_120 : decode cX0_callOf 120 = .ok (.ireturn, 1) := dk_172 (dk_at dksX0_callOf_4 0 rfl rfl)
theorem dX0_callOf_121 : decode cX0_callOf 121 = .ok (.aload_n 3, 1) := dk_45 (dk_at dksX0_callOf_4 1 rfl rfl)
theorem dX0_callOf_122 : decode cX0_callOf 122 = .ok (.getfield 137, 3) := dk_180 0 137 (dk_at dksX0_callOf_4 2 rfl rfl)
theorem dX0_callOf_125 : decode cX0_callOf 125 = .ok (.ireturn, 1) := dk_172 (dk_at dksX0_callOf_4 5 rfl rfl)
theorem dX0_callOf_126 : decode cX0_callOf 126 = .ok (.aload_n 3, 1) := dk_45 (dk_at dksX0_callOf_4 6 rfl rfl)
theorem dX0_callOf_127 : decode cX0_callOf 127 = .ok (.getfield 139, 3) := dk_180 0 139 (dk_at dksX0_callOf_4 7 rfl rfl)
theorem dX0_callOf_130 : decode cX0_callOf 130 = .ok (.ireturn, 1) := dk_172 (dk_at dksX0_callOf_4 10 rfl rfl)
theorem dX0_callOf_131 : decode cX0_callOf 131 = .ok (.aload_n 3, 1) := dk_45 (dk_at dksX0_callOf_4 11 rfl rfl)
theorem dX0_callOf_132 : decode cX0_callOf 132 = .ok (.aload_n 0, 1) := dk_42 (dk_at dksX0_callOf_4 12 rfl rfl)
theorem dX0_callOf_133 : decode cX0_callOf 133 = .ok (.getfield 16, 3) := dk_180 0 16 (dk_at dksX0_callOf_4 13 rfl rfl)
theorem dX0_callOf_136 : decode cX0_callOf 136 = .ok (.getfield 145, 3) := dk_180 0 145 (dk_at dksX0_callOf_4 16 rfl rfl)
theorem dX0_callOf_139 : decode cX0_callOf 139 = .ok (.invokevirtual 154, 3) := dk_182 0 154 (dk_at dksX0_callOf_4 19 rfl rfl)
theorem dX0_callOf_142 : decode cX0_callOf 142 = .ok (.ireturn, 1) := dk_172 (dk_at dksX0_callOf_4 22 rfl rfl)
theorem dX0_callOf_143 : decode cX0_callOf 143 = .ok (.aload_n 3, 1) := dk_45 (dk_at dksX0_callOf_4 23 rfl rfl)
theorem dX0_callOf_144 : decode cX0_callOf 144 = .ok (.getfield 311, 3) := dk_180 1 55 (dk_at dksX0_callOf_5 0 rfl rfl)
theorem dX0_callOf_147 : decode cX0_callOf 147 = .ok (.ireturn, 1) := dk_172 (dk_at dksX0_callOf_5 3 rfl rfl)
theorem dX0_callOf_148 : decode cX0_callOf 148 = .ok (.aload_n 3, 1) := dk_45 (dk_at dksX0_callOf_5 4 rfl rfl)
theorem dX0_callOf_149 : decode cX0_callOf 149 = .ok (.getfield 314, 3) := dk_180 1 58 (dk_at dksX0_callOf_5 5 rfl rfl)
theorem dX0_callOf_152 : decode cX0_callOf 152 = .ok (.ireturn, 1) := dk_172 (dk_at dksX0_callOf_5 8 rfl rfl)
theorem dX0_callOf_153 : decode cX0_callOf 153 = .ok (.aload_n 3, 1) := dk_45 (dk_at dksX0_callOf_5 9 rfl rfl)
theorem dX0_callOf_154 : decode cX0_callOf 154 = .ok (.getfield 317, 3) := dk_180 1 61 (dk_at dksX0_callOf_5 10 rfl rfl)
theorem dX0_callOf_157 : decode cX0_callOf 157 = .ok (.ifCond .eq 7, 3) := dk_153 0 7 (dk_at dksX0_callOf_5 13 rfl rfl)
theorem dX0_callOf_160 : decode cX0_callOf 160 = .ok (.iconst 1, 1) := dk_4 (dk_at dksX0_callOf_5 16 rfl rfl)
theorem dX0_callOf_161 : decode cX0_callOf 161 = .ok (.goto 4, 3) := dk_167 0 4 (dk_at dksX0_callOf_5 17 rfl rfl)
theorem dX0_callOf_164 : decode cX0_callOf 164 = .ok (.iconst 0, 1) := dk_3 (dk_at dksX0_callOf_5 20 rfl rfl)
theorem dX0_callOf_165 : decode cX0_callOf 165 = .ok (.ireturn, 1) := dk_172 (dk_at dksX0_callOf_5 21 rfl rfl)
theorem dX0_callOf_166 : decode cX0_callOf 166 = .ok (.aload_n 3, 1) := dk_45 (dk_at dksX0_callOf_5 22 rfl rfl)
theorem dX0_callOf_167 : decode cX0_callOf 167 = .ok (.getfield 137, 3) := dk_180 0 137 (dk_at dksX0_callOf_6 0 rfl rfl)
theorem dX0_callOf_170 : decode cX0_callOf 170 = .ok (.iconst 1, 1) := dk_4 (dk_at dksX0_callOf_6 3 rfl rfl)
theorem dX0_callOf_171 : decode cX0_callOf 171 = .ok (.if_icmp .gt 21, 3) := dk_163 0 21 (dk_at dksX0_callOf_6 4 rfl rfl)
theorem dX0_callOf_174 : decode cX0_callOf 174 = .ok (.aload_n 3, 1) := dk_45 (dk_at dksX0_callOf_6 7 rfl rfl)
theorem dX0_callOf_175 : decode cX0_callOf 175 = .ok (.aload_n 0, 1) := dk_42 (dk_at dksX0_callOf_6 8 rfl rfl)
theorem dX0_callOf_176 : decode cX0_callOf 176 = .ok (.getfield 16, 3) := dk_180 0 16 (dk_at dksX0_callOf_6 9 rfl rfl)
theorem dX0_callOf_179 : decode cX0_callOf 179 = .ok (.getfield 145, 3) := dk_180 0 145 (dk_at dksX0_callOf_6 12 rfl rfl)
theorem dX0_callOf_182 : decode cX0_callOf 182 = .ok (.invokevirtual 320, 3) := dk_182 1 64 (dk_at dksX0_callOf_6 15 rfl rfl)
theorem dX0_callOf_185 : decode cX0_callOf 185 = .ok (.sipush 10000, 3) := dk_17 39 16 (dk_at dksX0_callOf_6 18 rfl rfl)
theorem dX0_callOf_188 : decode cX0_callOf 188 = .ok (.iadd, 1) := dk_96 (dk_at dksX0_callOf_6 21 rfl rfl)
theorem dX0_callOf_189 : decode cX0_callOf 189 = .ok (.goto 5, 3) := dk_167 0 5 (dk_at dksX0_callOf_7 0 rfl rfl)
theorem dX0_callOf_192 : decode cX0_callOf 192 = .ok (.bipush (-5), 2) := dk_16 251 (dk_at dksX0_callOf_7 3 rfl rfl)
theorem dX0_callOf_194 : decode cX0_callOf 194 = .ok (.ireturn, 1) := dk_172 (dk_at dksX0_callOf_7 5 rfl rfl)
theorem dX0_callOf_195 : decode cX0_callOf 195 = .ok (.aload_n 3, 1) := dk_45 (dk_at dksX0_callOf_7 6 rfl rfl)
theorem dX0_callOf_196 : decode cX0_callOf 196 = .ok (.getfield 323, 3) := dk_180 1 67 (dk_at dksX0_callOf_7 7 rfl rfl)
theorem dX0_callOf_199 : decode cX0_callOf 199 = .ok (.ireturn, 1) := dk_172 (dk_at dksX0_callOf_7 10 rfl rfl)
theorem dX0_callOf_200 : decode cX0_callOf 200 = .ok (.bipush (-2), 2) := dk_16 254 (dk_at dksX0_callOf_7 11 rfl rfl)
theorem dX0_callOf_202 : decode cX0_callOf 202 = .ok (.ireturn, 1) := dk_172 (dk_at dksX0_callOf_7 13 rfl rfl)
abbrev cX0_waiting : ByteArray := prog_1_method_35_code
def yX0_waiting : MethodName := ⟨RX0, "waiting", "(I)I"⟩
def dkwX0_waiting_1 : List UInt8 := [162, 0, 19, 44, 27, 185, 0, 132, 2, 0, 192, 0, 135, 180, 0, 246, 167, 0, 5, 16, 251, 172]
abbrev dktX0_waiting_1 : List UInt8 := dkwX0_waiting_1 ++ []
def dkwX0_waiting_0 : List UInt8 := [27, 156, 0, 6, 16, 254, 172, 42, 180, 0, 16, 182, 1, 70, 77, 27, 44, 185, 0, 47, 1, 0]
abbrev dktX0_waiting_0 : List UInt8 := dkwX0_waiting_0 ++ dktX0_waiting_1
theorem dksX0_waiting_0 : cX0_waiting.data.toList.drop 0 = dktX0_waiting_0 := by decide +kernel
theorem dksX0_waiting_1 : cX0_waiting.data.toList.drop 22 = dktX0_waiting_1 := dk_seg dksX0_waiting_0 22 rfl rfl
theorem dX0_waiting_0 : decode cX0_waiting 0 = .ok (.iload_n 1, 1) := dk_27 (dk_at dksX0_waiting_0 0 rfl rfl)
theorem dX0_waiting_1 : decode cX0_waiting 1 = .ok (.ifCond .ge 6, 3) := dk_156 0 6 (dk_at dksX0_waiting_0 1 rfl rfl)
theorem dX0_waiting_4 : decode cX0_waiting 4 = .ok (.bipush (-2), 2) := dk_16 254 (dk_at dksX0_waiting_0 4 rfl rfl)
theorem dX0_waiting_6 : decode cX0_waiting 6 = .ok (.ireturn, 1) := dk_172 (dk_at dksX0_waiting_0 6 rfl rfl)
theorem dX0_waiting_7 : decode cX0_waiting 7 = .ok (.aload_n 0, 1) := dk_42 (dk_at dksX0_waiting_0 7 rfl rfl)
theorem dX0_waiting_8 : decode cX0_waiting 8 = .ok (.getfield 16, 3) := dk_180 0 16 (dk_at dksX0_waiting_0 8 rfl rfl)
theorem dX0_waiting_11 : decode cX0_waiting 11 = .ok (.invokevirtual 326, 3) := dk_182 1 70 (dk_at dksX0_waiting_0 11 rfl rfl)
theorem dX0_waiting_14 : decode cX0_waiting 14 = .ok (.astore_n 2, 1) := dk_77 (dk_at dksX0_waiting_0 14 rfl rfl)
theorem dX0_waiting_15 : decode cX0_waiting 15 = .ok (.iload_n 1, 1) := dk_27 (dk_at dksX0_waiting_0 15 rfl rfl)
theorem dX0_waiting_16 : decode cX0_waiting 16 = .ok (.aload_n 2, 1) := dk_44 (dk_at dksX0_waiting_0 16 rfl rfl)
theorem dX0_waiting_17 : decode cX0_waiting 17 = .ok (.invokeinterface 47 1, 5) := by decide +kernel
theorem dX0_waiting_22 : decode cX0_waiting 22 = .ok (.if_icmp .ge 19, 3) := dk_162 0 19 (dk_at dksX0_waiting_1 0 rfl rfl)
theorem dX0_waiting_25 : decode cX0_waiting 25 = .ok (.aload_n 2, 1) := dk_44 (dk_at dksX0_waiting_1 3 rfl rfl)
theorem dX0_waiting_26 : decode cX0_waiting 26 = .ok (.iload_n 1, 1) := dk_27 (dk_at dksX0_waiting_1 4 rfl rfl)
theorem dX0_waiting_27 : decode cX0_waiting 27 = .ok (.invokeinterface 132 2, 5) := by decide +kernel
theorem dX0_waiting_32 : decode cX0_waiting 32 = .ok (.checkcast 135, 3) := dk_192 0 135 (dk_at dksX0_waiting_1 10 rfl rfl)
theorem dX0_waiting_35 : decode cX0_waiting 35 = .ok (.getfield 246, 3) := dk_180 0 246 (dk_at dksX0_waiting_1 13 rfl rfl)
theorem dX0_waiting_38 : decode cX0_waiting 38 = .ok (.goto 5, 3) := dk_167 0 5 (dk_at dksX0_waiting_1 16 rfl rfl)
theorem dX0_waiting_41 : decode cX0_waiting 41 = .ok (.bipush (-5), 2) := dk_16 251 (dk_at dksX0_waiting_1 19 rfl rfl)
theorem dX0_waiting_43 : decode cX0_waiting 43 = .ok (.ireturn, 1) := dk_172 (dk_at dksX0_waiting_1 21 rfl rfl)
abbrev cX0_nearest : ByteArray := prog_1_method_36_code
def yX0_nearest : MethodName := ⟨RX0, "nearest", "(I)I"⟩
def dkwX0_nearest_3 : List UInt8 := [180, 1, 80, 172]
abbrev dktX0_nearest_3 : List UInt8 := dkwX0_nearest_3 ++ []
def dkwX0_nearest_2 : List UInt8 := [185, 0, 132, 2, 0, 192, 0, 135, 182, 1, 76, 77, 44, 199, 0, 8, 16, 251, 167, 0, 7, 44]
abbrev dktX0_nearest_2 : List UInt8 := dkwX0_nearest_2 ++ dktX0_nearest_3
def dkwX0_nearest_1 : List UInt8 := [192, 0, 135, 182, 1, 73, 154, 0, 6, 16, 252, 172, 42, 180, 0, 16, 42, 180, 0, 16, 180, 0, 74, 27]
abbrev dktX0_nearest_1 : List UInt8 := dkwX0_nearest_1 ++ dktX0_nearest_2
def dkwX0_nearest_0 : List UInt8 := [42, 27, 182, 0, 129, 154, 0, 5, 2, 172, 42, 180, 0, 16, 180, 0, 74, 27, 185, 0, 132, 2, 0]
abbrev dktX0_nearest_0 : List UInt8 := dkwX0_nearest_0 ++ dktX0_nearest_1
theorem dksX0_nearest_0 : cX0_nearest.data.toList.drop 0 = dktX0_nearest_0 := by decide +kernel
theorem dksX0_nearest_1 : cX0_nearest.data.toList.drop 23 = dktX0_nearest_1 := dk_seg dksX0_nearest_0 23 rfl rfl
theorem dksX0_nearest_2 : cX0_nearest.data.toList.drop 47 = dktX0_nearest_2 := dk_seg dksX0_nearest_1 24 rfl rfl
theorem dksX0_nearest_3 : cX0_nearest.data.toList.drop 69 = dktX0_nearest_3 := dk_seg dksX0_nearest_2 22 rfl rfl
theorem dX0_nearest_0 : decode cX0_nearest 0 = .ok (.aload_n 0, 1) := dk_42 (dk_at dksX0_nearest_0 0 rfl rfl)
theorem dX0_nearest_1 : decode cX0_nearest 1 = .ok (.iload_n 1, 1) := dk_27 (dk_at dksX0_nearest_0 1 rfl rfl)
theorem dX0_nearest_2 : decode cX0_nearest 2 = .ok (.invokevirtual 129, 3) := dk_182 0 129 (dk_at dksX0_nearest_0 2 rfl rfl)
theorem dX0_nearest_5 : decode cX0_nearest 5 = .ok (.ifCond .ne 5, 3) := dk_154 0 5 (dk_at dksX0_nearest_0 5 rfl rfl)
theorem dX0_nearest_8 : decode cX0_nearest 8 = .ok (.iconst (-1), 1) := dk_2 (dk_at dksX0_nearest_0 8 rfl rfl)
theorem dX0_nearest_9 : decode cX0_nearest 9 = .ok (.ireturn, 1) := dk_172 (dk_at dksX0_nearest_0 9 rfl rfl)
theorem dX0_nearest_10 : decode cX0_nearest 10 = .ok (.aload_n 0, 1) := dk_42 (dk_at dksX0_nearest_0 10 rfl rfl)
theorem dX0_nearest_11 : decode cX0_nearest 11 = .ok (.getfield 16, 3) := dk_180 0 16 (dk_at dksX0_nearest_0 11 rfl rfl)
theorem dX0_nearest_14 : decode cX0_nearest 14 = .ok (.getfield 74, 3) := dk_180 0 74 (dk_at dksX0_nearest_0 14 rfl rfl)
theorem dX0_nearest_17 : decode cX0_nearest 17 = .ok (.iload_n 1, 1) := dk_27 (dk_at dksX0_nearest_0 17 rfl rfl)
theorem dX0_nearest_18 : decode cX0_nearest 18 = .ok (.invokeinterface 132 2, 5) := by decide +kernel
theorem dX0_nearest_23 : decode cX0_nearest 23 = .ok (.checkcast 135, 3) := dk_192 0 135 (dk_at dksX0_nearest_1 0 rfl rfl)
theorem dX0_nearest_26 : decode cX0_nearest 26 = .ok (.invokevirtual 329, 3) := dk_182 1 73 (dk_at dksX0_nearest_1 3 rfl rfl)
theorem dX0_nearest_29 : decode cX0_nearest 29 = .ok (.ifCond .ne 6, 3) := dk_154 0 6 (dk_at dksX0_nearest_1 6 rfl rfl)
theorem dX0_nearest_32 : decode cX0_nearest 32 = .ok (.bipush (-4), 2) := dk_16 252 (dk_at dksX0_nearest_1 9 rfl rfl)
theorem dX0_nearest_34 : decode cX0_nearest 34 = .ok (.ireturn, 1) := dk_172 (dk_at dksX0_nearest_1 11 rfl rfl)
theorem dX0_nearest_35 : decode cX0_nearest 35 = .ok (.aload_n 0, 1) := dk_42 (dk_at dksX0_nearest_1 12 rfl rfl)
theorem dX0_nearest_36 : decode cX0_nearest 36 = .ok (.getfield 16, 3) := dk_180 0 16 (dk_at dksX0_nearest_1 13 rfl rfl)
theorem dX0_nearest_39 : decode cX0_nearest 39 = .ok (.aload_n 0, 1) := dk_42 (dk_at dksX0_nearest_1 16 rfl rfl)
theorem dX0_nearest_40 : decode cX0_nearest 40 = .ok (.getfield 16, 3) := dk_180 0 16 (dk_at dksX0_nearest_1 17 rfl rfl)
theorem dX0_nearest_43 : decode cX0_nearest 43 = .ok (.getfield 74, 3) := dk_180 0 74 (dk_at dksX0_nearest_1 20 rfl rfl)
theorem dX0_nearest_46 : decode cX0_nearest 46 = .ok (.iload_n 1, 1) := dk_27 (dk_at dksX0_nearest_1 23 rfl rfl)
theorem dX0_nearest_47 : decode cX0_nearest 47 = .ok (.invokeinterface 132 2, 5) := by decide +kernel
theorem dX0_nearest_52 : decode cX0_nearest 52 = .ok (.checkcast 135, 3) := dk_192 0 135 (dk_at dksX0_nearest_2 5 rfl rfl)
theorem dX0_nearest_55 : decode cX0_nearest 55 = .ok (.invokevirtual 332, 3) := dk_182 1 76 (dk_at dksX0_nearest_2 8 rfl rfl)
theorem dX0_nearest_58 : decode cX0_nearest 58 = .ok (.astore_n 2, 1) := dk_77 (dk_at dksX0_nearest_2 11 rfl rfl)
theorem dX0_nearest_59 : decode cX0_nearest 59 = .ok (.aload_n 2, 1) := dk_44 (dk_at dksX0_nearest_2 12 rfl rfl)
theorem dX0_nearest_60 : decode cX0_nearest 60 = .ok (.ifnonnull 8, 3) := dk_199 0 8 (dk_at dksX0_nearest_2 13 rfl rfl)
theorem dX0_nearest_63 : decode cX0_nearest 63 = .ok (.bipush (-5), 2) := dk_16 251 (dk_at dksX0_nearest_2 16 rfl rfl)
theorem dX0_nearest_65 : decode cX0_nearest 65 = .ok (.goto 7, 3) := dk_167 0 7 (dk_at dksX0_nearest_2 18 rfl rfl)
theorem dX0_nearest_68 : decode cX0_nearest 68 = .ok (.aload_n 2, 1) := dk_44 (dk_at dksX0_nearest_2 21 rfl rfl)
theorem dX0_nearest_69 : decode cX0_nearest 69 = .ok (.getfield 336, 3) := dk_180 1 80 (dk_at dksX0_nearest_3 0 rfl rfl)
theorem dX0_nearest_72 : decode cX0_nearest 72 = .ok (.ireturn, 1) := dk_172 (dk_at dksX0_nearest_3 3 rfl rfl)
abbrev cX0_waitFor : ByteArray := prog_1_method_37_code
def yX0_waitFor : MethodName := ⟨RX0, "waitFor", "(I)I"⟩
def dkwX0_waitFor_6 : List UInt8 := [185, 0, 132, 2, 0, 192, 0, 135, 44, 180, 0, 145, 182, 0, 154, 172]
abbrev dktX0_waitFor_6 : List UInt8 := dkwX0_waitFor_6 ++ []
def dkwX0_waitFor_5 : List UInt8 := [192, 0, 135, 180, 1, 55, 16, 251, 160, 0, 8, 16, 251, 167, 0, 23, 44, 180, 0, 74, 27]
abbrev dktX0_waitFor_5 : List UInt8 := dkwX0_waitFor_5 ++ dktX0_waitFor_6
def dkwX0_waitFor_4 : List UInt8 := [21, 4, 44, 182, 0, 186, 96, 54, 4, 167, 255, 218, 44, 180, 0, 74, 27, 185, 0, 132, 2, 0]
abbrev dktX0_waitFor_4 : List UInt8 := dkwX0_waitFor_4 ++ dktX0_waitFor_5
def dkwX0_waitFor_3 : List UInt8 := [162, 0, 36, 44, 180, 0, 74, 27, 185, 0, 132, 2, 0, 192, 0, 135, 180, 1, 55, 16, 251, 160, 0, 15]
abbrev dktX0_waitFor_3 : List UInt8 := dkwX0_waitFor_3 ++ dktX0_waitFor_4
def dkwX0_waitFor_2 : List UInt8 := [42, 180, 0, 16, 180, 0, 145, 17, 0, 240, 96, 184, 1, 81, 62, 3, 54, 4, 44, 180, 0, 145, 29]
abbrev dktX0_waitFor_2 : List UInt8 := dkwX0_waitFor_2 ++ dktX0_waitFor_3
def dkwX0_waitFor_1 : List UInt8 := [192, 0, 135, 180, 0, 137, 4, 164, 0, 6, 16, 252, 172, 42, 180, 0, 16, 182, 0, 57, 77, 17, 11, 64]
abbrev dktX0_waitFor_1 : List UInt8 := dkwX0_waitFor_1 ++ dktX0_waitFor_2
def dkwX0_waitFor_0 : List UInt8 := [42, 27, 182, 0, 129, 154, 0, 5, 2, 172, 42, 180, 0, 16, 180, 0, 74, 27, 185, 0, 132, 2, 0]
abbrev dktX0_waitFor_0 : List UInt8 := dkwX0_waitFor_0 ++ dktX0_waitFor_1
theorem dksX0_waitFor_0 : cX0_waitFor.data.toList.drop 0 = dktX0_waitFor_0 := by decide +kernel
theorem dksX0_waitFor_1 : cX0_waitFor.data.toList.drop 23 = dktX0_waitFor_1 := dk_seg dksX0_waitFor_0 23 rfl rfl
theorem dksX0_waitFor_2 : cX0_waitFor.data.toList.drop 47 = dktX0_waitFor_2 := dk_seg dksX0_waitFor_1 24 rfl rfl
theorem dksX0_waitFor_3 : cX0_waitFor.data.toList.drop 70 = dktX0_waitFor_3 := dk_seg dksX0_waitFor_2 23 rfl rfl
theorem dksX0_waitFor_4 : cX0_waitFor.data.toList.drop 94 = dktX0_waitFor_4 := dk_seg dksX0_waitFor_3 24 rfl rfl
theorem dksX0_waitFor_5 : cX0_waitFor.data.toList.drop 116 = dktX0_waitFor_5 := dk_seg dksX0_waitFor_4 22 rfl rfl
theorem dksX0_waitFor_6 : cX0_waitFor.data.toList.drop 137 = dktX0_waitFor_6 := dk_seg dksX0_waitFor_5 21 rfl rfl
theorem dX0_waitFor_0 : decode cX0_waitFor 0 = .ok (.aload_n 0, 1) := dk_42 (dk_at dksX0_waitFor_0 0 rfl rfl)
theorem dX0_waitFor_1 : decode cX0_waitFor 1 = .ok (.iload_n 1, 1) := dk_27 (dk_at dksX0_waitFor_0 1 rfl rfl)
theorem dX0_waitFor_2 : decode cX0_waitFor 2 = .ok (.invokevirtual 129, 3) := dk_182 0 129 (dk_at dksX0_waitFor_0 2 rfl rfl)
theorem dX0_waitFor_5 : decode cX0_waitFor 5 = .ok (.ifCond .ne 5, 3) := dk_154 0 5 (dk_at dksX0_waitFor_0 5 rfl rfl)
theorem dX0_waitFor_8 : decode cX0_waitFor 8 = .ok (.iconst (-1), 1) := dk_2 (dk_at dksX0_waitFor_0 8 rfl rfl)
theorem dX0_waitFor_9 : decode cX0_waitFor 9 = .ok (.ireturn, 1) := dk_172 (dk_at dksX0_waitFor_0 9 rfl rfl)
theorem dX0_waitFor_10 : decode cX0_waitFor 10 = .ok (.aload_n 0, 1) := dk_42 (dk_at dksX0_waitFor_0 10 rfl rfl)
theorem dX0_waitFor_11 : decode cX0_waitFor 11 = .ok (.getfield 16, 3) := dk_180 0 16 (dk_at dksX0_waitFor_0 11 rfl rfl)
theorem dX0_waitFor_14 : decode cX0_waitFor 14 = .ok (.getfield 74, 3) := dk_180 0 74 (dk_at dksX0_waitFor_0 14 rfl rfl)
theorem dX0_waitFor_17 : decode cX0_waitFor 17 = .ok (.iload_n 1, 1) := dk_27 (dk_at dksX0_waitFor_0 17 rfl rfl)
theorem dX0_waitFor_18 : decode cX0_waitFor 18 = .ok (.invokeinterface 132 2, 5) := by decide +kernel
theorem dX0_waitFor_23 : decode cX0_waitFor 23 = .ok (.checkcast 135, 3) := dk_192 0 135 (dk_at dksX0_waitFor_1 0 rfl rfl)
theorem dX0_waitFor_26 : decode cX0_waitFor 26 = .ok (.getfield 137, 3) := dk_180 0 137 (dk_at dksX0_waitFor_1 3 rfl rfl)
theorem dX0_waitFor_29 : decode cX0_waitFor 29 = .ok (.iconst 1, 1) := dk_4 (dk_at dksX0_waitFor_1 6 rfl rfl)
theorem dX0_waitFor_30 : decode cX0_waitFor 30 = .ok (.if_icmp .le 6, 3) := dk_164 0 6 (dk_at dksX0_waitFor_1 7 rfl rfl)
theorem dX0_waitFor_33 : decode cX0_waitFor 33 = .ok (.bipush (-4), 2) := dk_16 252 (dk_at dksX0_waitFor_1 10 rfl rfl)
theorem dX0_waitFor_35 : decode cX0_waitFor 35 = .ok (.ireturn, 1) := dk_172 (dk_at dksX0_waitFor_1 12 rfl rfl)
theorem dX0_waitFor_36 : decode cX0_waitFor 36 = .ok (.aload_n 0, 1) := dk_42 (dk_at dksX0_waitFor_1 13 rfl rfl)
theorem dX0_waitFor_37 : decode cX0_waitFor 37 = .ok (.getfield 16, 3) := dk_180 0 16 (dk_at dksX0_waitFor_1 14 rfl rfl)
theorem dX0_waitFor_40 : decode cX0_waitFor 40 = .ok (.invokevirtual 57, 3) := dk_182 0 57 (dk_at dksX0_waitFor_1 17 rfl rfl)
theorem dX0_waitFor_43 : decode cX0_waitFor 43 = .ok (.astore_n 2, 1) := dk_77 (dk_at dksX0_waitFor_1 20 rfl rfl)
theorem dX0_waitFor_44 : decode cX0_waitFor 44 = .ok (.sipush 2880, 3) := dk_17 11 64 (dk_at dksX0_waitFor_1 21 rfl rfl)
theorem dX0_waitFor_47 : decode cX0_waitFor 47 = .ok (.aload_n 0, 1) := dk_42 (dk_at dksX0_waitFor_2 0 rfl rfl)
theorem dX0_waitFor_48 : decode cX0_waitFor 48 = .ok (.getfield 16, 3) := dk_180 0 16 (dk_at dksX0_waitFor_2 1 rfl rfl)
theorem dX0_waitFor_51 : decode cX0_waitFor 51 = .ok (.getfield 145, 3) := dk_180 0 145 (dk_at dksX0_waitFor_2 4 rfl rfl)
theorem dX0_waitFor_54 : decode cX0_waitFor 54 = .ok (.sipush 240, 3) := dk_17 0 240 (dk_at dksX0_waitFor_2 7 rfl rfl)
theorem dX0_waitFor_57 : decode cX0_waitFor 57 = .ok (.iadd, 1) := dk_96 (dk_at dksX0_waitFor_2 10 rfl rfl)
theorem dX0_waitFor_58 : decode cX0_waitFor 58 = .ok (.invokestatic 337, 3) := dk_184 1 81 (dk_at dksX0_waitFor_2 11 rfl rfl)
theorem dX0_waitFor_61 : decode cX0_waitFor 61 = .ok (.istore_n 3, 1) := dk_62 (dk_at dksX0_waitFor_2 14 rfl rfl)
theorem dX0_waitFor_62 : decode cX0_waitFor 62 = .ok (.iconst 0, 1) := dk_3 (dk_at dksX0_waitFor_2 15 rfl rfl)
theorem dX0_waitFor_63 : decode cX0_waitFor 63 = .ok (.istore 4, 2) := dk_54 4 (dk_at dksX0_waitFor_2 16 rfl rfl)
theorem dX0_waitFor_65 : decode cX0_waitFor 65 = .ok (.aload_n 2, 1) := dk_44 (dk_at dksX0_waitFor_2 18 rfl rfl)
theorem dX0_waitFor_66 : decode cX0_waitFor 66 = .ok (.getfield 145, 3) := dk_180 0 145 (dk_at dksX0_waitFor_2 19 rfl rfl)
theorem dX0_waitFor_69 : decode cX0_waitFor 69 = .ok (.iload_n 3, 1) := dk_29 (dk_at dksX0_waitFor_2 22 rfl rfl)
theorem dX0_waitFor_70 : decode cX0_waitFor 70 = .ok (.if_icmp .ge 36, 3) := dk_162 0 36 (dk_at dksX0_waitFor_3 0 rfl rfl)
theorem dX0_waitFor_73 : decode cX0_waitFor 73 = .ok (.aload_n 2, 1) := dk_44 (dk_at dksX0_waitFor_3 3 rfl rfl)
theorem dX0_waitFor_74 : decode cX0_waitFor 74 = .ok (.getfield 74, 3) := dk_180 0 74 (dk_at dksX0_waitFor_3 4 rfl rfl)
theorem dX0_waitFor_77 : decode cX0_waitFor 77 = .ok (.iload_n 1, 1) := dk_27 (dk_at dksX0_waitFor_3 7 rfl rfl)
theorem dX0_waitFor_78 : decode cX0_waitFor 78 = .ok (.invokeinterface 132 2, 5) := by decide +kernel
theorem dX0_waitFor_83 : decode cX0_waitFor 83 = .ok (.checkcast 135, 3) := dk_192 0 135 (dk_at dksX0_waitFor_3 13 rfl rfl)
theorem dX0_waitFor_86 : decode cX0_waitFor 86 = .ok (.getfield 311, 3) := dk_180 1 55 (dk_at dksX0_waitFor_3 16 rfl rfl)
theorem dX0_waitFor_89 : decode cX0_waitFor 89 = .ok (.bipush (-5), 2) := dk_16 251 (dk_at dksX0_waitFor_3 19 rfl rfl)
theorem dX0_waitFor_91 : decode cX0_waitFor 91 = .ok (.if_icmp .ne 15, 3) := dk_160 0 15 (dk_at dksX0_waitFor_3 21 rfl rfl)
theorem dX0_waitFor_94 : decode cX0_waitFor 94 = .ok (.iload 4, 2) := dk_21 4 (dk_at dksX0_waitFor_4 0 rfl rfl)
theorem dX0_waitFor_96 : decode cX0_waitFor 96 = .ok (.aload_n 2, 1) := dk_44 (dk_at dksX0_waitFor_4 2 rfl rfl)
theorem dX0_waitFor_97 : decode cX0_waitFor 97 = .ok (.invokevirtual 186, 3) := dk_182 0 186 (dk_at dksX0_waitFor_4 3 rfl rfl)
theorem dX0_waitFor_100 : decode cX0_waitFor 100 = .ok (.iadd, 1) := dk_96 (dk_at dksX0_waitFor_4 6 rfl rfl)
theorem dX0_waitFor_101 : decode cX0_waitFor 101 = .ok (.istore 4, 2) := dk_54 4 (dk_at dksX0_waitFor_4 7 rfl rfl)
theorem dX0_waitFor_103 : decode cX0_waitFor 103 = .ok (.goto (-38), 3) := dk_167 255 218 (dk_at dksX0_waitFor_4 9 rfl rfl)
theorem dX0_waitFor_106 : decode cX0_waitFor 106 = .ok (.aload_n 2, 1) := dk_44 (dk_at dksX0_waitFor_4 12 rfl rfl)
theorem dX0_waitFor_107 : decode cX0_waitFor 107 = .ok (.getfield 74, 3) := dk_180 0 74 (dk_at dksX0_waitFor_4 13 rfl rfl)
theorem dX0_waitFor_110 : decode cX0_waitFor 110 = .ok (.iload_n 1, 1) := dk_27 (dk_at dksX0_waitFor_4 16 rfl rfl)
theorem dX0_waitFor_111 : decode cX0_waitFor 111 = .ok (.invokeinterface 132 2, 5) := by decide +kernel
theorem dX0_waitFor_116 : decode cX0_waitFor 116 = .ok (.checkcast 135, 3) := dk_192 0 135 (dk_at dksX0_waitFor_5 0 rfl rfl)
theorem dX0_waitFor_119 : decode cX0_waitFor 119 = .ok (.getfield 311, 3) := dk_180 1 55 (dk_at dksX0_waitFor_5 3 rfl rfl)
theorem dX0_waitFor_122 : decode cX0_waitFor 122 = .ok (.bipush (-5), 2) := dk_16 251 (dk_at dksX0_waitFor_5 6 rfl rfl)
theorem dX0_waitFor_124 : decode cX0_waitFor 124 = .ok (.if_icmp .ne 8, 3) := dk_160 0 8 (dk_at dksX0_waitFor_5 8 rfl rfl)
theorem dX0_waitFor_127 : decode cX0_waitFor 127 = .ok (.bipush (-5), 2) := dk_16 251 (dk_at dksX0_waitFor_5 11 rfl rfl)
theorem dX0_waitFor_129 : decode cX0_waitFor 129 = .ok (.goto 23, 3) := dk_167 0 23 (dk_at dksX0_waitFor_5 13 rfl rfl)
theorem dX0_waitFor_132 : decode cX0_waitFor 132 = .ok (.aload_n 2, 1) := dk_44 (dk_at dksX0_waitFor_5 16 rfl rfl)
theorem dX0_waitFor_133 : decode cX0_waitFor 133 = .ok (.getfield 74, 3) := dk_180 0 74 (dk_at dksX0_waitFor_5 17 rfl rfl)
theorem dX0_waitFor_136 : decode cX0_waitFor 136 = .ok (.iload_n 1, 1) := dk_27 (dk_at dksX0_waitFor_5 20 rfl rfl)
theorem dX0_waitFor_137 : decode cX0_waitFor 137 = .ok (.invokeinterface 132 2, 5) := by decide +kernel
theorem dX0_waitFor_142 : decode cX0_waitFor 142 = .ok (.checkcast 135, 3) := dk_192 0 135 (dk_at dksX0_waitFor_6 5 rfl rfl)
theorem dX0_waitFor_145 : decode cX0_waitFor 145 = .ok (.aload_n 2, 1) := dk_44 (dk_at dksX0_waitFor_6 8 rfl rfl)
theorem dX0_waitFor_146 : decode cX0_waitFor 146 = .ok (.getfield 145, 3) := dk_180 0 145 (dk_at dksX0_waitFor_6 9 rfl rfl)
theorem dX0_waitFor_149 : decode cX0_waitFor 149 = .ok (.invokevirtual 154, 3) := dk_182 0 154 (dk_at dksX0_waitFor_6 12 rfl rfl)
theorem dX0_waitFor_152 : decode cX0_waitFor 152 = .ok (.ireturn, 1) := dk_172 (dk_at dksX0_waitFor_6 15 rfl rfl)
abbrev cX0_count : ByteArray := prog_1_method_39_code
def yX0_count : MethodName := ⟨RX0, "count", "(I)I"⟩
def dkwX0_count_9 : List UInt8 := [42, 180, 0, 30, 182, 0, 189, 172, 16, 254, 172]
abbrev dktX0_count_9 : List UInt8 := dkwX0_count_9 ++ []
def dkwX0_count_8 : List UInt8 := [180, 0, 43, 27, 16, 19, 100, 46, 172, 42, 182, 0, 168, 172, 42, 180, 0, 23, 185, 0, 47, 1, 0, 172]
abbrev dktX0_count_8 : List UInt8 := dkwX0_count_8 ++ dktX0_count_9
def dkwX0_count_7 : List UInt8 := [42, 3, 182, 1, 90, 172, 42, 180, 0, 16, 186, 1, 94, 0, 0, 182, 0, 242, 172, 42, 180, 0, 16]
abbrev dktX0_count_7 : List UInt8 := dkwX0_count_7 ++ dktX0_count_8
def dkwX0_count_6 : List UInt8 := [182, 0, 242, 172, 42, 180, 0, 16, 42, 186, 1, 87, 0, 0, 182, 0, 242, 172, 42, 4, 182, 1, 90, 172]
abbrev dktX0_count_6 : List UInt8 := dkwX0_count_6 ++ dktX0_count_7
def dkwX0_count_5 : List UInt8 := [172, 42, 180, 0, 16, 180, 0, 74, 185, 0, 47, 1, 0, 172, 42, 180, 0, 16, 27, 186, 1, 86, 0, 0]
abbrev dktX0_count_5 : List UInt8 := dkwX0_count_5 ++ dktX0_count_6
def dkwX0_count_4 : List UInt8 := [180, 0, 16, 180, 0, 68, 185, 0, 47, 1, 0, 172, 42, 180, 0, 16, 180, 0, 71, 185, 0, 47, 1, 0]
abbrev dktX0_count_4 : List UInt8 := dkwX0_count_4 ++ dktX0_count_5
def dkwX0_count_3 : List UInt8 := [180, 0, 85, 185, 0, 89, 1, 0, 172, 42, 180, 0, 16, 180, 0, 65, 185, 0, 47, 1, 0, 172, 42]
abbrev dktX0_count_3 : List UInt8 := dkwX0_count_3 ++ dktX0_count_4
def dkwX0_count_2 : List UInt8 := [42, 180, 0, 16, 180, 0, 145, 172, 42, 180, 0, 16, 180, 0, 113, 172, 42, 180, 0, 16, 180, 0, 39]
abbrev dktX0_count_2 : List UInt8 := dkwX0_count_2 ++ dktX0_count_3
def dkwX0_count_1 : List UInt8 := [170, 0, 0, 0, 0, 1, 32, 0, 0, 0, 0, 0, 0, 0, 24, 0, 0, 0, 115, 0, 0, 0, 123, 0, 0, 0, 131, 0, 0, 0, 147, 0, 0, 0, 160, 0, 0, 0, 173, 0, 0, 0, 186, 0, 0, 0, 199, 0, 0, 0, 199, 0, 0, 0, 199, 0, 0, 0, 199, 0, 0, 0, 199, 0, 0, 0, 199, 0, 0, 0, 199, 0, 0, 0, 199, 0, 0, 0, 213, 0, 0, 0, 227, 0, 0, 0, 233, 0, 0, 0, 239, 0, 0, 0, 252, 0, 0, 0, 252, 0, 0, 0, 252, 0, 0, 1, 9, 0, 0, 1, 14, 0, 0, 1, 24]
abbrev dktX0_count_1 : List UInt8 := dkwX0_count_1 ++ dktX0_count_2
def dkwX0_count_0 : List UInt8 := [27]
abbrev dktX0_count_0 : List UInt8 := dkwX0_count_0 ++ dktX0_count_1
theorem dksX0_count_0 : cX0_count.data.toList.drop 0 = dktX0_count_0 := by decide +kernel
theorem dksX0_count_1 : cX0_count.data.toList.drop 1 = dktX0_count_1 := dk_seg dksX0_count_0 1 rfl rfl
theorem dksX0_count_2 : cX0_count.data.toList.drop 116 = dktX0_count_2 := dk_seg dksX0_count_1 115 rfl rfl
theorem dksX0_count_3 : cX0_count.data.toList.drop 139 = dktX0_count_3 := dk_seg dksX0_count_2 23 rfl rfl
theorem dksX0_count_4 : cX0_count.data.toList.drop 162 = dktX0_count_4 := dk_seg dksX0_count_3 23 rfl rfl
theorem dksX0_count_5 : cX0_count.data.toList.drop 186 = dktX0_count_5 := dk_seg dksX0_count_4 24 rfl rfl
theorem dksX0_count_6 : cX0_count.data.toList.drop 210 = dktX0_count_6 := dk_seg dksX0_count_5 24 rfl rfl
theorem dksX0_count_7 : cX0_count.data.toList.drop 234 = dktX0_count_7 := dk_seg dksX0_count_6 24 rfl rfl
theorem dksX0_count_8 : cX0_count.data.toList.drop 257 = dktX0_count_8 := dk_seg dksX0_count_7 23 rfl rfl
theorem dksX0_count_9 : cX0_count.data.toList.drop 281 = dktX0_count_9 := dk_seg dksX0_count_8 24 rfl rfl
theorem dX0_count_0 : decode cX0_count 0 = .ok (.iload_n 1, 1) := dk_27 (dk_at dksX0_count_0 0 rfl rfl)
theorem dX0_count_1 : decode cX0_count 1 = .ok (.tableswitch 288 0 24 #[115, 123, 131, 147, 160, 173, 186, 199, 199, 199, 199, 199, 199, 199, 199, 213, 227, 233, 239, 252, 252, 252, 265, 270, 280], 115) := by decide +kernel
theorem dX0_count_116 : decode cX0_count 116 = .ok (.aload_n 0, 1) := dk_42 (dk_at dksX0_count_2 0 rfl rfl)
theorem dX0_count_117 : decode cX0_count 117 = .ok (.getfield 16, 3) := dk_180 0 16 (dk_at dksX0_count_2 1 rfl rfl)
theorem dX0_count_120 : decode cX0_count 120 = .ok (.getfield 145, 3) := dk_180 0 145 (dk_at dksX0_count_2 4 rfl rfl)
theorem dX0_count_123 : decode cX0_count 123 = .ok (.ireturn, 1) := dk_172 (dk_at dksX0_count_2 7 rfl rfl)
theorem dX0_count_124 : decode cX0_count 124 = .ok (.aload_n 0, 1) := dk_42 (dk_at dksX0_count_2 8 rfl rfl)
theorem dX0_count_125 : decode cX0_count 125 = .ok (.getfield 16, 3) := dk_180 0 16 (dk_at dksX0_count_2 9 rfl rfl)
theorem dX0_count_128 : decode cX0_count 128 = .ok (.getfield 113, 3) := dk_180 0 113 (dk_at dksX0_count_2 12 rfl rfl)
theorem dX0_count_131 : decode cX0_count 131 = .ok (.ireturn, 1) := dk_172 (dk_at dksX0_count_2 15 rfl rfl)
theorem dX0_count_132 : decode cX0_count 132 = .ok (.aload_n 0, 1) := dk_42 (dk_at dksX0_count_2 16 rfl rfl)
theorem dX0_count_133 : decode cX0_count 133 = .ok (.getfield 16, 3) := dk_180 0 16 (dk_at dksX0_count_2 17 rfl rfl)
theorem dX0_count_136 : decode cX0_count 136 = .ok (.getfield 39, 3) := dk_180 0 39 (dk_at dksX0_count_2 20 rfl rfl)
theorem dX0_count_139 : decode cX0_count 139 = .ok (.getfield 85, 3) := dk_180 0 85 (dk_at dksX0_count_3 0 rfl rfl)
theorem dX0_count_142 : decode cX0_count 142 = .ok (.invokeinterface 89 1, 5) := by decide +kernel
theorem dX0_count_147 : decode cX0_count 147 = .ok (.ireturn, 1) := dk_172 (dk_at dksX0_count_3 8 rfl rfl)
theorem dX0_count_148 : decode cX0_count 148 = .ok (.aload_n 0, 1) := dk_42 (dk_at dksX0_count_3 9 rfl rfl)
theorem dX0_count_149 : decode cX0_count 149 = .ok (.getfield 16, 3) := dk_180 0 16 (dk_at dksX0_count_3 10 rfl rfl)
theorem dX0_count_152 : decode cX0_count 152 = .ok (.getfield 65, 3) := dk_180 0 65 (dk_at dksX0_count_3 13 rfl rfl)
theorem dX0_count_155 : decode cX0_count 155 = .ok (.invokeinterface 47 1, 5) := by decide +kernel
theorem dX0_count_160 : decode cX0_count 160 = .ok (.ireturn, 1) := dk_172 (dk_at dksX0_count_3 21 rfl rfl)
theorem dX0_count_161 : decode cX0_count 161 = .ok (.aload_n 0, 1) := dk_42 (dk_at dksX0_count_3 22 rfl rfl)
theorem dX0_count_162 : decode cX0_count 162 = .ok (.getfield 16, 3) := dk_180 0 16 (dk_at dksX0_count_4 0 rfl rfl)
theorem dX0_count_165 : decode cX0_count 165 = .ok (.getfield 68, 3) := dk_180 0 68 (dk_at dksX0_count_4 3 rfl rfl)
theorem dX0_count_168 : decode cX0_count 168 = .ok (.invokeinterface 47 1, 5) := by decide +kernel
theorem dX0_count_173 : decode cX0_count 173 = .ok (.ireturn, 1) := dk_172 (dk_at dksX0_count_4 11 rfl rfl)
theorem dX0_count_174 : decode cX0_count 174 = .ok (.aload_n 0, 1) := dk_42 (dk_at dksX0_count_4 12 rfl rfl)
theorem dX0_count_175 : decode cX0_count 175 = .ok (.getfield 16, 3) := dk_180 0 16 (dk_at dksX0_count_4 13 rfl rfl)
theorem dX0_count_178 : decode cX0_count 178 = .ok (.getfield 71, 3) := dk_180 0 71 (dk_at dksX0_count_4 16 rfl rfl)
theorem dX0_count_181 : decode cX0_count 181 = .ok (.invokeinterface 47 1, 5) := by decide +kernel
theorem dX0_count_186 : decode cX0_count 186 = .ok (.ireturn, 1) := dk_172 (dk_at dksX0_count_5 0 rfl rfl)
theorem dX0_count_187 : decode cX0_count 187 = .ok (.aload_n 0, 1) := dk_42 (dk_at dksX0_count_5 1 rfl rfl)
theorem dX0_count_188 : decode cX0_count 188 = .ok (.getfield 16, 3) := dk_180 0 16 (dk_at dksX0_count_5 2 rfl rfl)
theorem dX0_count_191 : decode cX0_count 191 = .ok (.getfield 74, 3) := dk_180 0 74 (dk_at dksX0_count_5 5 rfl rfl)
theorem dX0_count_194 : decode cX0_count 194 = .ok (.invokeinterface 47 1, 5) := by decide +kernel
theorem dX0_count_199 : decode cX0_count 199 = .ok (.ireturn, 1) := dk_172 (dk_at dksX0_count_5 13 rfl rfl)
theorem dX0_count_200 : decode cX0_count 200 = .ok (.aload_n 0, 1) := dk_42 (dk_at dksX0_count_5 14 rfl rfl)
theorem dX0_count_201 : decode cX0_count 201 = .ok (.getfield 16, 3) := dk_180 0 16 (dk_at dksX0_count_5 15 rfl rfl)
theorem dX0_count_204 : decode cX0_count 204 = .ok (.iload_n 1, 1) := dk_27 (dk_at dksX0_count_5 18 rfl rfl)
theorem dX0_count_205 : decode cX0_count 205 = .ok (.invokedynamic 342, 5) := by decide +kernel
theorem dX0_count_210 : decode cX0_count 210 = .ok (.invokevirtual 242, 3) := dk_182 0 242 (dk_at dksX0_count_6 0 rfl rfl)
theorem dX0_count_213 : decode cX0_count 213 = .ok (.ireturn, 1) := dk_172 (dk_at dksX0_count_6 3 rfl rfl)
theorem dX0_count_214 : decode cX0_count 214 = .ok (.aload_n 0, 1) := dk_42 (dk_at dksX0_count_6 4 rfl rfl)
theorem dX0_count_215 : decode cX0_count 215 = .ok (.getfield 16, 3) := dk_180 0 16 (dk_at dksX0_count_6 5 rfl rfl)
theorem dX0_count_218 : decode cX0_count 218 = .ok (.aload_n 0, 1) := dk_42 (dk_at dksX0_count_6 8 rfl rfl)
theorem dX0_count_219 : decode cX0_count 219 = .ok (.invokedynamic 343, 5) := by decide +kernel
theorem dX0_count_224 : decode cX0_count 224 = .ok (.invokevirtual 242, 3) := dk_182 0 242 (dk_at dksX0_count_6 14 rfl rfl)
theorem dX0_count_227 : decode cX0_count 227 = .ok (.ireturn, 1) := dk_172 (dk_at dksX0_count_6 17 rfl rfl)
theorem dX0_count_228 : decode cX0_count 228 = .ok (.aload_n 0, 1) := dk_42 (dk_at dksX0_count_6 18 rfl rfl)
theorem dX0_count_229 : decode cX0_count 229 = .ok (.iconst 1, 1) := dk_4 (dk_at dksX0_count_6 19 rfl rfl)
theorem dX0_count_230 : decode cX0_count 230 = .ok (.invokevirtual 346, 3) := dk_182 1 90 (dk_at dksX0_count_6 20 rfl rfl)
theorem dX0_count_233 : decode cX0_count 233 = .ok (.ireturn, 1) := dk_172 (dk_at dksX0_count_6 23 rfl rfl)
theorem dX0_count_234 : decode cX0_count 234 = .ok (.aload_n 0, 1) := dk_42 (dk_at dksX0_count_7 0 rfl rfl)
theorem dX0_count_235 : decode cX0_count 235 = .ok (.iconst 0, 1) := dk_3 (dk_at dksX0_count_7 1 rfl rfl)
theorem dX0_count_236 : decode cX0_count 236 = .ok (.invokevirtual 346, 3) := dk_182 1 90 (dk_at dksX0_count_7 2 rfl rfl)
theorem dX0_count_239 : decode cX0_count 239 = .ok (.ireturn, 1) := dk_172 (dk_at dksX0_count_7 5 rfl rfl)
theorem dX0_count_240 : decode cX0_count 240 = .ok (.aload_n 0, 1) := dk_42 (dk_at dksX0_count_7 6 rfl rfl)
theorem dX0_count_241 : decode cX0_count 241 = .ok (.getfield 16, 3) := dk_180 0 16 (dk_at dksX0_count_7 7 rfl rfl)
theorem dX0_count_244 : decode cX0_count 244 = .ok (.invokedynamic 350, 5) := by decide +kernel
theorem dX0_count_249 : decode cX0_count 249 = .ok (.invokevirtual 242, 3) := dk_182 0 242 (dk_at dksX0_count_7 15 rfl rfl)
theorem dX0_count_252 : decode cX0_count 252 = .ok (.ireturn, 1) := dk_172 (dk_at dksX0_count_7 18 rfl rfl)
theorem dX0_count_253 : decode cX0_count 253 = .ok (.aload_n 0, 1) := dk_42 (dk_at dksX0_count_7 19 rfl rfl)
theorem dX0_count_254 : decode cX0_count 254 = .ok (.getfield 16, 3) := dk_180 0 16 (dk_at dksX0_count_7 20 rfl rfl)
theorem dX0_count_257 : decode cX0_count 257 = .ok (.getfield 43, 3) := dk_180 0 43 (dk_at dksX0_count_8 0 rfl rfl)
theorem dX0_count_260 : decode cX0_count 260 = .ok (.iload_n 1, 1) := dk_27 (dk_at dksX0_count_8 3 rfl rfl)
theorem dX0_count_261 : decode cX0_count 261 = .ok (.bipush 19, 2) := dk_16 19 (dk_at dksX0_count_8 4 rfl rfl)
theorem dX0_count_263 : decode cX0_count 263 = .ok (.isub, 1) := dk_100 (dk_at dksX0_count_8 6 rfl rfl)
theorem dX0_count_264 : decode cX0_count 264 = .ok (.iaload, 1) := dk_46 (dk_at dksX0_count_8 7 rfl rfl)
theorem dX0_count_265 : decode cX0_count 265 = .ok (.ireturn, 1) := dk_172 (dk_at dksX0_count_8 8 rfl rfl)
theorem dX0_count_266 : decode cX0_count 266 = .ok (.aload_n 0, 1) := dk_42 (dk_at dksX0_count_8 9 rfl rfl)
theorem dX0_count_267 : decode cX0_count 267 = .ok (.invokevirtual 168, 3) := dk_182 0 168 (dk_at dksX0_count_8 10 rfl rfl)
theorem dX0_count_270 : decode cX0_count 270 = .ok (.ireturn, 1) := dk_172 (dk_at dksX0_count_8 13 rfl rfl)
theorem dX0_count_271 : decode cX0_count 271 = .ok (.aload_n 0, 1) := dk_42 (dk_at dksX0_count_8 14 rfl rfl)
theorem dX0_count_272 : decode cX0_count 272 = .ok (.getfield 23, 3) := dk_180 0 23 (dk_at dksX0_count_8 15 rfl rfl)
theorem dX0_count_275 : decode cX0_count 275 = .ok (.invokeinterface 47 1, 5) := by decide +kernel
theorem dX0_count_280 : decode cX0_count 280 = .ok (.ireturn, 1) := dk_172 (dk_at dksX0_count_8 23 rfl rfl)
theorem dX0_count_281 : decode cX0_count 281 = .ok (.aload_n 0, 1) := dk_42 (dk_at dksX0_count_9 0 rfl rfl)
theorem dX0_count_282 : decode cX0_count 282 = .ok (.getfield 30, 3) := dk_180 0 30 (dk_at dksX0_count_9 1 rfl rfl)
theorem dX0_count_285 : decode cX0_count 285 = .ok (.invokevirtual 189, 3) := dk_182 0 189 (dk_at dksX0_count_9 4 rfl rfl)
theorem dX0_count_288 : decode cX0_count 288 = .ok (.ireturn, 1) := dk_172 (dk_at dksX0_count_9 7 rfl rfl)
theorem dX0_count_289 : decode cX0_count 289 = .ok (.bipush (-2), 2) := dk_16 254 (dk_at dksX0_count_9 8 rfl rfl)
theorem dX0_count_291 : decode cX0_count 291 = .ok (.ireturn, 1) := dk_172 (dk_at dksX0_count_9 10 rfl rfl)
abbrev cX0_lambda_count_4 : ByteArray := prog_1_method_42_code
def yX0_lambda_count_4 : MethodName := ⟨RX0, "lambda$count$4", "(ILPatrolDesk$Call;)I"⟩
def dkwX0_lambda_count_4_0 : List UInt8 := [43, 180, 0, 137, 26, 16, 7, 100, 160, 0, 7, 4, 167, 0, 4, 3, 172]
abbrev dktX0_lambda_count_4_0 : List UInt8 := dkwX0_lambda_count_4_0 ++ []
theorem dksX0_lambda_count_4_0 : cX0_lambda_count_4.data.toList.drop 0 = dktX0_lambda_count_4_0 := by decide +kernel
theorem dX0_lambda_count_4_0 : decode cX0_lambda_count_4 0 = .ok (.aload_n 1, 1) := dk_43 (dk_at dksX0_lambda_count_4_0 0 rfl rfl)
theorem dX0_lambda_count_4_1 : decode cX0_lambda_count_4 1 = .ok (.getfield 137, 3) := dk_180 0 137 (dk_at dksX0_lambda_count_4_0 1 rfl rfl)
theorem dX0_lambda_count_4_4 : decode cX0_lambda_count_4 4 = .ok (.iload_n 0, 1) := dk_26 (dk_at dksX0_lambda_count_4_0 4 rfl rfl)
theorem dX0_lambda_count_4_5 : decode cX0_lambda_count_4 5 = .ok (.bipush 7, 2) := dk_16 7 (dk_at dksX0_lambda_count_4_0 5 rfl rfl)
theorem dX0_lambda_count_4_7 : decode cX0_lambda_count_4 7 = .ok (.isub, 1) := dk_100 (dk_at dksX0_lambda_count_4_0 7 rfl rfl)
theorem dX0_lambda_count_4_8 : decode cX0_lambda_count_4 8 = .ok (.if_icmp .ne 7, 3) := dk_160 0 7 (dk_at dksX0_lambda_count_4_0 8 rfl rfl)
theorem dX0_lambda_count_4_11 : decode cX0_lambda_count_4 11 = .ok (.iconst 1, 1) := dk_4 (dk_at dksX0_lambda_count_4_0 11 rfl rfl)
theorem dX0_lambda_count_4_12 : decode cX0_lambda_count_4 12 = .ok (.goto 4, 3) := dk_167 0 4 (dk_at dksX0_lambda_count_4_0 12 rfl rfl)
theorem dX0_lambda_count_4_15 : decode cX0_lambda_count_4 15 = .ok (.iconst 0, 1) := dk_3 (dk_at dksX0_lambda_count_4_0 15 rfl rfl)
theorem dX0_lambda_count_4_16 : decode cX0_lambda_count_4 16 = .ok (.ireturn, 1) := dk_172 (dk_at dksX0_lambda_count_4_0 16 rfl rfl)
abbrev cX0_lambda_count_5 : ByteArray := prog_1_method_41_code
def yX0_lambda_count_5 : MethodName := ⟨RX0, "lambda$count$5", "(LPatrolDesk$Call;)I"⟩
def dkwX0_lambda_count_5_0 : List UInt8 := [43, 42, 180, 0, 16, 180, 0, 145, 182, 0, 154, 172]
abbrev dktX0_lambda_count_5_0 : List UInt8 := dkwX0_lambda_count_5_0 ++ []
theorem dksX0_lambda_count_5_0 : cX0_lambda_count_5.data.toList.drop 0 = dktX0_lambda_count_5_0 := by decide +kernel
theorem dX0_lambda_count_5_0 : decode cX0_lambda_count_5 0 = .ok (.aload_n 1, 1) := dk_43 (dk_at dksX0_lambda_count_5_0 0 rfl rfl)
theorem dX0_lambda_count_5_1 : decode cX0_lambda_count_5 1 = .ok (.aload_n 0, 1) := dk_42 (dk_at dksX0_lambda_count_5_0 1 rfl rfl)
theorem dX0_lambda_count_5_2 : decode cX0_lambda_count_5 2 = .ok (.getfield 16, 3) := dk_180 0 16 (dk_at dksX0_lambda_count_5_0 2 rfl rfl)
theorem dX0_lambda_count_5_5 : decode cX0_lambda_count_5 5 = .ok (.getfield 145, 3) := dk_180 0 145 (dk_at dksX0_lambda_count_5_0 5 rfl rfl)
theorem dX0_lambda_count_5_8 : decode cX0_lambda_count_5 8 = .ok (.invokevirtual 154, 3) := dk_182 0 154 (dk_at dksX0_lambda_count_5_0 8 rfl rfl)
theorem dX0_lambda_count_5_11 : decode cX0_lambda_count_5 11 = .ok (.ireturn, 1) := dk_172 (dk_at dksX0_lambda_count_5_0 11 rfl rfl)
abbrev cX0_moneyOf : ByteArray := prog_1_method_38_code
def yX0_moneyOf : MethodName := ⟨RX0, "moneyOf", "(Z)I"⟩
def dkwX0_moneyOf_3 : List UInt8 := [132, 3, 1, 167, 255, 189, 28, 172]
abbrev dktX0_moneyOf_3 : List UInt8 := dkwX0_moneyOf_3 ++ []
def dkwX0_moneyOf_2 : List UInt8 := [167, 0, 22, 42, 180, 0, 16, 180, 0, 65, 29, 185, 0, 132, 2, 0, 192, 0, 100, 180, 0, 255, 96, 61]
abbrev dktX0_moneyOf_2 : List UInt8 := dkwX0_moneyOf_2 ++ dktX0_moneyOf_3
def dkwX0_moneyOf_1 : List UInt8 := [153, 0, 25, 42, 180, 0, 16, 180, 0, 65, 29, 185, 0, 132, 2, 0, 192, 0, 100, 180, 0, 252]
abbrev dktX0_moneyOf_1 : List UInt8 := dkwX0_moneyOf_1 ++ dktX0_moneyOf_2
def dkwX0_moneyOf_0 : List UInt8 := [3, 61, 3, 62, 29, 42, 180, 0, 16, 180, 0, 65, 185, 0, 47, 1, 0, 162, 0, 57, 28, 27]
abbrev dktX0_moneyOf_0 : List UInt8 := dkwX0_moneyOf_0 ++ dktX0_moneyOf_1
theorem dksX0_moneyOf_0 : cX0_moneyOf.data.toList.drop 0 = dktX0_moneyOf_0 := by decide +kernel
theorem dksX0_moneyOf_1 : cX0_moneyOf.data.toList.drop 22 = dktX0_moneyOf_1 := dk_seg dksX0_moneyOf_0 22 rfl rfl
theorem dksX0_moneyOf_2 : cX0_moneyOf.data.toList.drop 44 = dktX0_moneyOf_2 := dk_seg dksX0_moneyOf_1 22 rfl rfl
theorem dksX0_moneyOf_3 : cX0_moneyOf.data.toList.drop 68 = dktX0_moneyOf_3 := dk_seg dksX0_moneyOf_2 24 rfl rfl
theorem dX0_moneyOf_0 : decode cX0_moneyOf 0 = .ok (.iconst 0, 1) := dk_3 (dk_at dksX0_moneyOf_0 0 rfl rfl)
theorem dX0_moneyOf_1 : decode cX0_moneyOf 1 = .ok (.istore_n 2, 1) := dk_61 (dk_at dksX0_moneyOf_0 1 rfl rfl)
theorem dX0_moneyOf_2 : decode cX0_moneyOf 2 = .ok (.iconst 0, 1) := dk_3 (dk_at dksX0_moneyOf_0 2 rfl rfl)
theorem dX0_moneyOf_3 : decode cX0_moneyOf 3 = .ok (.istore_n 3, 1) := dk_62 (dk_at dksX0_moneyOf_0 3 rfl rfl)
theorem dX0_moneyOf_4 : decode cX0_moneyOf 4 = .ok (.iload_n 3, 1) := dk_29 (dk_at dksX0_moneyOf_0 4 rfl rfl)
theorem dX0_moneyOf_5 : decode cX0_moneyOf 5 = .ok (.aload_n 0, 1) := dk_42 (dk_at dksX0_moneyOf_0 5 rfl rfl)
theorem dX0_moneyOf_6 : decode cX0_moneyOf 6 = .ok (.getfield 16, 3) := dk_180 0 16 (dk_at dksX0_moneyOf_0 6 rfl rfl)
theorem dX0_moneyOf_9 : decode cX0_moneyOf 9 = .ok (.getfield 65, 3) := dk_180 0 65 (dk_at dksX0_moneyOf_0 9 rfl rfl)
theorem dX0_moneyOf_12 : decode cX0_moneyOf 12 = .ok (.invokeinterface 47 1, 5) := by decide +kernel
theorem dX0_moneyOf_17 : decode cX0_moneyOf 17 = .ok (.if_icmp .ge 57, 3) := dk_162 0 57 (dk_at dksX0_moneyOf_0 17 rfl rfl)
theorem dX0_moneyOf_20 : decode cX0_moneyOf 20 = .ok (.iload_n 2, 1) := dk_28 (dk_at dksX0_moneyOf_0 20 rfl rfl)
theorem dX0_moneyOf_21 : decode cX0_moneyOf 21 = .ok (.iload_n 1, 1) := dk_27 (dk_at dksX0_moneyOf_0 21 rfl rfl)
theorem dX0_moneyOf_22 : decode cX0_moneyOf 22 = .ok (.ifCond .eq 25, 3) := dk_153 0 25 (dk_at dksX0_moneyOf_1 0 rfl rfl)
theorem dX0_moneyOf_25 : decode cX0_moneyOf 25 = .ok (.aload_n 0, 1) := dk_42 (dk_at dksX0_moneyOf_1 3 rfl rfl)
theorem dX0_moneyOf_26 : decode cX0_moneyOf 26 = .ok (.getfield 16, 3) := dk_180 0 16 (dk_at dksX0_moneyOf_1 4 rfl rfl)
theorem dX0_moneyOf_29 : decode cX0_moneyOf 29 = .ok (.getfield 65, 3) := dk_180 0 65 (dk_at dksX0_moneyOf_1 7 rfl rfl)
theorem dX0_moneyOf_32 : decode cX0_moneyOf 32 = .ok (.iload_n 3, 1) := dk_29 (dk_at dksX0_moneyOf_1 10 rfl rfl)
theorem dX0_moneyOf_33 : decode cX0_moneyOf 33 = .ok (.invokeinterface 132 2, 5) := by decide +kernel
theorem dX0_moneyOf_38 : decode cX0_moneyOf 38 = .ok (.checkcast 100, 3) := dk_192 0 100 (dk_at dksX0_moneyOf_1 16 rfl rfl)
theorem dX0_moneyOf_41 : decode cX0_moneyOf 41 = .ok (.getfield 252, 3) := dk_180 0 252 (dk_at dksX0_moneyOf_1 19 rfl rfl)
theorem dX0_moneyOf_44 : decode cX0_moneyOf 44 = .ok (.goto 22, 3) := dk_167 0 22 (dk_at dksX0_moneyOf_2 0 rfl rfl)
theorem dX0_moneyOf_47 : decode cX0_moneyOf 47 = .ok (.aload_n 0, 1) := dk_42 (dk_at dksX0_moneyOf_2 3 rfl rfl)
theorem dX0_moneyOf_48 : decode cX0_moneyOf 48 = .ok (.getfield 16, 3) := dk_180 0 16 (dk_at dksX0_moneyOf_2 4 rfl rfl)
theorem dX0_moneyOf_51 : decode cX0_moneyOf 51 = .ok (.getfield 65, 3) := dk_180 0 65 (dk_at dksX0_moneyOf_2 7 rfl rfl)
theorem dX0_moneyOf_54 : decode cX0_moneyOf 54 = .ok (.iload_n 3, 1) := dk_29 (dk_at dksX0_moneyOf_2 10 rfl rfl)
theorem dX0_moneyOf_55 : decode cX0_moneyOf 55 = .ok (.invokeinterface 132 2, 5) := by decide +kernel
theorem dX0_moneyOf_60 : decode cX0_moneyOf 60 = .ok (.checkcast 100, 3) := dk_192 0 100 (dk_at dksX0_moneyOf_2 16 rfl rfl)
theorem dX0_moneyOf_63 : decode cX0_moneyOf 63 = .ok (.getfield 255, 3) := dk_180 0 255 (dk_at dksX0_moneyOf_2 19 rfl rfl)
theorem dX0_moneyOf_66 : decode cX0_moneyOf 66 = .ok (.iadd, 1) := dk_96 (dk_at dksX0_moneyOf_2 22 rfl rfl)
theorem dX0_moneyOf_67 : decode cX0_moneyOf 67 = .ok (.istore_n 2, 1) := dk_61 (dk_at dksX0_moneyOf_2 23 rfl rfl)
theorem dX0_moneyOf_68 : decode cX0_moneyOf 68 = .ok (.iinc 3 1, 3) := dk_132 3 1 (dk_at dksX0_moneyOf_3 0 rfl rfl)
theorem dX0_moneyOf_71 : decode cX0_moneyOf 71 = .ok (.goto (-67), 3) := dk_167 255 189 (dk_at dksX0_moneyOf_3 3 rfl rfl)
theorem dX0_moneyOf_74 : decode cX0_moneyOf 74 = .ok (.iload_n 2, 1) := dk_28 (dk_at dksX0_moneyOf_3 6 rfl rfl)
theorem dX0_moneyOf_75 : decode cX0_moneyOf 75 = .ok (.ireturn, 1) := dk_172 (dk_at dksX0_moneyOf_3 7 rfl rfl)
abbrev cX0_lambda_count_6 : ByteArray := prog_1_method_40_code
def yX0_lambda_count_6 : MethodName := ⟨RX0, "lambda$count$6", "(LPatrolDesk$Call;)I"⟩
def dkwX0_lambda_count_6_0 : List UInt8 := [42, 180, 1, 61, 153, 0, 7, 4, 167, 0, 4, 3, 172]
abbrev dktX0_lambda_count_6_0 : List UInt8 := dkwX0_lambda_count_6_0 ++ []
theorem dksX0_lambda_count_6_0 : cX0_lambda_count_6.data.toList.drop 0 = dktX0_lambda_count_6_0 := by decide +kernel
theorem dX0_lambda_count_6_0 : decode cX0_lambda_count_6 0 = .ok (.aload_n 0, 1) := dk_42 (dk_at dksX0_lambda_count_6_0 0 rfl rfl)
theorem dX0_lambda_count_6_1 : decode cX0_lambda_count_6 1 = .ok (.getfield 317, 3) := dk_180 1 61 (dk_at dksX0_lambda_count_6_0 1 rfl rfl)
theorem dX0_lambda_count_6_4 : decode cX0_lambda_count_6 4 = .ok (.ifCond .eq 7, 3) := dk_153 0 7 (dk_at dksX0_lambda_count_6_0 4 rfl rfl)
theorem dX0_lambda_count_6_7 : decode cX0_lambda_count_6 7 = .ok (.iconst 1, 1) := dk_4 (dk_at dksX0_lambda_count_6_0 7 rfl rfl)
theorem dX0_lambda_count_6_8 : decode cX0_lambda_count_6 8 = .ok (.goto 4, 3) := dk_167 0 4 (dk_at dksX0_lambda_count_6_0 8 rfl rfl)
theorem dX0_lambda_count_6_11 : decode cX0_lambda_count_6 11 = .ok (.iconst 0, 1) := dk_3 (dk_at dksX0_lambda_count_6_0 11 rfl rfl)
theorem dX0_lambda_count_6_12 : decode cX0_lambda_count_6 12 = .ok (.ireturn, 1) := dk_172 (dk_at dksX0_lambda_count_6_0 12 rfl rfl)
theorem q78 : (Jvm.Cond.initialized "PatrolDesk") ∈ lw_all := lw_g (lw_at lw_m1 1 rfl) rfl
theorem q122 : (Jvm.Cond.instantiable "PatrolDesk" (4 : Nat)) ∈ lw_all := lw_g (lw_at lw_m1 45 rfl) rfl
theorem q124 : (Jvm.Cond.instanceMethod ({ cls := "PatrolDesk", name := "<init>", desc := "()V" } : Jvm.MethodName)) ∈ lw_all := lw_g (lw_at lw_m1 47 rfl) rfl
theorem q125 : (Jvm.Cond.code ({ cls := "PatrolDesk", name := "<init>", desc := "()V" } : Jvm.MethodName) prog_1_method_4_code (1 : Nat) (Option.none : Option Jvm.ClassFile.FieldType)) ∈ lw_all := lw_g (lw_at lw_m1 48 rfl) rfl
theorem q126 : (Jvm.Cond.methodLink "PatrolDesk" (7 : Nat) ({ cls := "java/lang/Object", name := "<init>", desc := "()V" } : Jvm.MethodName)) ∈ lw_all := lw_g (lw_at lw_m1 49 rfl) rfl
theorem q129 : (Jvm.Cond.classLink "PatrolDesk" (13 : Nat) "PatrolDesk$State") ∈ lw_all := lw_g (lw_at lw_m1 52 rfl) rfl
theorem q131 : (Jvm.Cond.methodLinkNest "PatrolDesk" (15 : Nat) ({ cls := "PatrolDesk$State", name := "<init>", desc := "()V" } : Jvm.MethodName) "PatrolDesk") ∈ lw_tbl := lw_at lw_m1 54 rfl
theorem q162 : (Jvm.Cond.fieldLinkNest "PatrolDesk" (65 : Nat) "PatrolDesk$State" "members" "Ljava/util/List;" "PatrolDesk") ∈ lw_tbl := lw_at lw_m1 85 rfl
theorem q164 : (Jvm.Cond.fieldLinkNest "PatrolDesk" (68 : Nat) "PatrolDesk$State" "patrols" "Ljava/util/List;" "PatrolDesk") ∈ lw_tbl := lw_at lw_m1 87 rfl
theorem q166 : (Jvm.Cond.fieldLinkNest "PatrolDesk" (71 : Nat) "PatrolDesk$State" "garages" "Ljava/util/List;" "PatrolDesk") ∈ lw_tbl := lw_at lw_m1 89 rfl
theorem q168 : (Jvm.Cond.fieldLinkNest "PatrolDesk" (74 : Nat) "PatrolDesk$State" "calls" "Ljava/util/List;" "PatrolDesk") ∈ lw_tbl := lw_at lw_m1 91 rfl
theorem q170 : (Jvm.Cond.fieldLinkNest "PatrolDesk" (43 : Nat) "PatrolDesk$State" "promises" "[I" "PatrolDesk") ∈ lw_tbl := lw_at lw_m1 93 rfl
theorem q172 : (Jvm.Cond.fieldLinkNest "PatrolDesk" (39 : Nat) "PatrolDesk$State" "roads" "LPatrolDesk$Roads;" "PatrolDesk") ∈ lw_tbl := lw_at lw_m1 95 rfl
theorem q174 : (Jvm.Cond.fieldLinkNest "PatrolDesk" (113 : Nat) "PatrolDesk$State" "weather" "I" "PatrolDesk") ∈ lw_tbl := lw_at lw_m1 97 rfl
theorem q176 : (Jvm.Cond.fieldLinkNest "PatrolDesk" (145 : Nat) "PatrolDesk$State" "minute" "I" "PatrolDesk") ∈ lw_tbl := lw_at lw_m1 99 rfl
theorem q195 : (Jvm.Cond.classLink "PatrolDesk" (20 : Nat) "java/util/ArrayList") ∈ lw_all := lw_g (lw_at lw_m1 118 rfl) rfl
theorem q196 : (Jvm.Cond.methodLink "PatrolDesk" (22 : Nat) ({ cls := "java/util/ArrayList", name := "<init>", desc := "()V" } : Jvm.MethodName)) ∈ lw_all := lw_g (lw_at lw_m1 119 rfl) rfl
theorem q197 : (Jvm.Cond.classLink "PatrolDesk" (27 : Nat) "java/lang/StringBuilder") ∈ lw_all := lw_g (lw_at lw_m1 120 rfl) rfl
theorem q199 : (Jvm.Cond.methodLink "PatrolDesk" (29 : Nat) ({ cls := "java/lang/StringBuilder", name := "<init>", desc := "()V" } : Jvm.MethodName)) ∈ lw_all := lw_g (lw_at lw_m1 122 rfl) rfl
theorem q229 : (Jvm.Cond.classLink "PatrolDesk" (34 : Nat) "PatrolDesk$Roads") ∈ lw_all := lw_g (lw_at lw_m1 152 rfl) rfl
theorem q231 : (Jvm.Cond.methodLink "PatrolDesk" (36 : Nat) ({ cls := "PatrolDesk$Roads", name := "<init>", desc := "(LPatrolDesk$Roads;LPatrolDesk$Between;I)V" } : Jvm.MethodName)) ∈ lw_all := lw_g (lw_at lw_m1 154 rfl) rfl
theorem q334 : (Jvm.Cond.selects "PatrolDesk" ({ cls := "java/lang/Object", name := "hashCode", desc := "()I" } : Jvm.MethodName) ({ cls := "java/lang/Object", name := "hashCode", desc := "()I" } : Jvm.MethodName)) ∈ lw_all := lw_g (lw_at lw_m2 17 rfl) rfl
theorem q364 : (Jvm.Cond.selects "PatrolDesk" ({ cls := "java/lang/Object", name := "equals", desc := "(Ljava/lang/Object;)Z" } : Jvm.MethodName) ({ cls := "java/lang/Object", name := "equals", desc := "(Ljava/lang/Object;)Z" } : Jvm.MethodName)) ∈ lw_all := lw_g (lw_at lw_m2 47 rfl) rfl
theorem q415 : (Jvm.Cond.selects "PatrolDesk" ({ cls := "java/lang/Object", name := "getClass", desc := "()Ljava/lang/Class;" } : Jvm.MethodName) ({ cls := "java/lang/Object", name := "getClass", desc := "()Ljava/lang/Class;" } : Jvm.MethodName)) ∈ lw_all := lw_g (lw_at lw_m2 98 rfl) rfl
theorem q934 : (Jvm.Cond.fieldLinkNest "PatrolDesk" (85 : Nat) "PatrolDesk$Roads" "minutes" "Ljava/util/Map;" "PatrolDesk") ∈ lw_tbl := lw_at lw_m4 137 rfl
theorem q948 : (Jvm.Cond.fieldLink "PatrolDesk" (16 : Nat) "PatrolDesk" "state" "LPatrolDesk$State;") ∈ lw_all := lw_g (lw_at lw_m4 151 rfl) rfl
theorem q949 : (Jvm.Cond.fieldLink "PatrolDesk" (221 : Nat) "PatrolDesk" "snapshot" "LPatrolDesk$State;") ∈ lw_all := lw_g (lw_at lw_m4 152 rfl) rfl
theorem q950 : (Jvm.Cond.fieldLink "PatrolDesk" (23 : Nat) "PatrolDesk" "history" "Ljava/util/List;") ∈ lw_all := lw_g (lw_at lw_m4 153 rfl) rfl
theorem q951 : (Jvm.Cond.fieldLink "PatrolDesk" (30 : Nat) "PatrolDesk" "text" "Ljava/lang/StringBuilder;") ∈ lw_all := lw_g (lw_at lw_m4 154 rfl) rfl
theorem q952 : (Jvm.Cond.lays "PatrolDesk" "PatrolDesk" "state" "LPatrolDesk$State;") ∈ lw_all := lw_g (lw_at lw_m4 155 rfl) rfl
theorem q953 : (Jvm.Cond.soleField "PatrolDesk" "state") ∈ lw_all := lw_g (lw_at lw_m4 156 rfl) rfl
theorem q954 : (Jvm.Cond.lays "PatrolDesk" "PatrolDesk" "snapshot" "LPatrolDesk$State;") ∈ lw_all := lw_g (lw_at lw_m4 157 rfl) rfl
theorem q955 : (Jvm.Cond.soleField "PatrolDesk" "snapshot") ∈ lw_all := lw_g (lw_at lw_m4 158 rfl) rfl
theorem q956 : (Jvm.Cond.laysFinal "PatrolDesk" "PatrolDesk" "history" "Ljava/util/List;") ∈ lw_all := lw_g (lw_at lw_m4 159 rfl) rfl
theorem q957 : (Jvm.Cond.soleField "PatrolDesk" "history") ∈ lw_all := lw_g (lw_at lw_m4 160 rfl) rfl
theorem q958 : (Jvm.Cond.laysFinal "PatrolDesk" "PatrolDesk" "text" "Ljava/lang/StringBuilder;") ∈ lw_all := lw_g (lw_at lw_m4 161 rfl) rfl
theorem q959 : (Jvm.Cond.soleField "PatrolDesk" "text") ∈ lw_all := lw_g (lw_at lw_m4 162 rfl) rfl
theorem q960 : (Jvm.Cond.superclass "PatrolDesk" "java/lang/Object") ∈ lw_all := lw_g (lw_at lw_m4 163 rfl) rfl
theorem q962 : (Jvm.Cond.instanceMethod ({ cls := "PatrolDesk", name := "addRoad", desc := "(III)I" } : Jvm.MethodName)) ∈ lw_all := lw_g (lw_at lw_m4 165 rfl) rfl
theorem q963 : (Jvm.Cond.selects "PatrolDesk" ({ cls := "PatrolDesk", name := "addRoad", desc := "(III)I" } : Jvm.MethodName) ({ cls := "PatrolDesk", name := "addRoad", desc := "(III)I" } : Jvm.MethodName)) ∈ lw_all := lw_g (lw_at lw_m4 166 rfl) rfl
theorem q964 : (Jvm.Cond.code ({ cls := "PatrolDesk", name := "addRoad", desc := "(III)I" } : Jvm.MethodName) prog_1_method_10_code (5 : Nat) (Option.some Jvm.ClassFile.FieldType.int)) ∈ lw_all := lw_g (lw_at lw_m4 167 rfl) rfl
theorem q965 : (Jvm.Cond.methodLink "PatrolDesk" (77 : Nat) ({ cls := "PatrolDesk", name := "isArea", desc := "(I)Z" } : Jvm.MethodName)) ∈ lw_all := lw_g (lw_at lw_m4 168 rfl) rfl
theorem q966 : (Jvm.Cond.static ({ cls := "PatrolDesk", name := "isArea", desc := "(I)Z" } : Jvm.MethodName)) ∈ lw_all := lw_g (lw_at lw_m4 169 rfl) rfl
theorem q967 : (Jvm.Cond.code ({ cls := "PatrolDesk", name := "isArea", desc := "(I)Z" } : Jvm.MethodName) prog_1_method_2_code (1 : Nat) (Option.some Jvm.ClassFile.FieldType.boolean)) ∈ lw_all := lw_g (lw_at lw_m4 170 rfl) rfl
theorem q968 : (Jvm.Cond.methodLink "PatrolDesk" (3 : Nat) ({ cls := "PatrolDesk", name := "inRange", desc := "(III)Z" } : Jvm.MethodName)) ∈ lw_all := lw_g (lw_at lw_m4 171 rfl) rfl
theorem q969 : (Jvm.Cond.static ({ cls := "PatrolDesk", name := "inRange", desc := "(III)Z" } : Jvm.MethodName)) ∈ lw_all := lw_g (lw_at lw_m4 172 rfl) rfl
theorem q970 : (Jvm.Cond.code ({ cls := "PatrolDesk", name := "inRange", desc := "(III)Z" } : Jvm.MethodName) prog_1_method_1_code (3 : Nat) (Option.some Jvm.ClassFile.FieldType.boolean)) ∈ lw_all := lw_g (lw_at lw_m4 173 rfl) rfl
theorem q971 : (Jvm.Cond.methodLink "PatrolDesk" (81 : Nat) ({ cls := "PatrolDesk$Roads", name := "lengthOf", desc := "(II)I" } : Jvm.MethodName)) ∈ lw_all := lw_g (lw_at lw_m4 174 rfl) rfl
theorem q975 : (Jvm.Cond.interfaceEntry "PatrolDesk" (89 : Nat)) ∈ lw_tbl := lw_at lw_m4 178 rfl
theorem q976 : (Jvm.Cond.methodLink "PatrolDesk" (89 : Nat) ({ cls := "java/util/Map", name := "size", desc := "()I" } : Jvm.MethodName)) ∈ lw_all := lw_g (lw_at lw_m4 179 rfl) rfl
theorem q986 : (Jvm.Cond.methodLink "PatrolDesk" (92 : Nat) ({ cls := "PatrolDesk", name := "record", desc := "()V" } : Jvm.MethodName)) ∈ lw_all := lw_g (lw_at lw_m4 189 rfl) rfl
theorem q987 : (Jvm.Cond.privateMethod ({ cls := "PatrolDesk", name := "record", desc := "()V" } : Jvm.MethodName)) ∈ lw_tbl := lw_at lw_m4 190 rfl
theorem q988 : (Jvm.Cond.instanceMethod ({ cls := "PatrolDesk", name := "record", desc := "()V" } : Jvm.MethodName)) ∈ lw_all := lw_g (lw_at lw_m4 191 rfl) rfl
theorem q989 : (Jvm.Cond.code ({ cls := "PatrolDesk", name := "record", desc := "()V" } : Jvm.MethodName) prog_1_method_5_code (1 : Nat) (Option.none : Option Jvm.ClassFile.FieldType)) ∈ lw_all := lw_g (lw_at lw_m4 192 rfl) rfl
theorem q990 : (Jvm.Cond.interfaceEntry "PatrolDesk" (47 : Nat)) ∈ lw_tbl := lw_at lw_m4 193 rfl
theorem q991 : (Jvm.Cond.methodLink "PatrolDesk" (47 : Nat) ({ cls := "java/util/List", name := "size", desc := "()I" } : Jvm.MethodName)) ∈ lw_all := lw_g (lw_at lw_m4 194 rfl) rfl
theorem q999 : (Jvm.Cond.interfaceEntry "PatrolDesk" (53 : Nat)) ∈ lw_tbl := lw_at lw_m4 202 rfl
theorem q1000 : (Jvm.Cond.methodLink "PatrolDesk" (53 : Nat) ({ cls := "java/util/List", name := "remove", desc := "(I)Ljava/lang/Object;" } : Jvm.MethodName)) ∈ lw_all := lw_g (lw_at lw_m4 203 rfl) rfl
theorem q1019 : (Jvm.Cond.methodLink "PatrolDesk" (57 : Nat) ({ cls := "PatrolDesk$State", name := "copy", desc := "()LPatrolDesk$State;" } : Jvm.MethodName)) ∈ lw_all := lw_g (lw_at lw_m4 222 rfl) rfl
theorem q1053 : (Jvm.Cond.fieldLinkNest "PatrolDesk" (235 : Nat) "PatrolDesk$Member" "tier" "I" "PatrolDesk") ∈ lw_tbl := lw_at lw_m5 16 rfl
theorem q1056 : (Jvm.Cond.fieldLinkNest "PatrolDesk" (252 : Nat) "PatrolDesk$Member" "paid" "I" "PatrolDesk") ∈ lw_tbl := lw_at lw_m5 19 rfl
theorem q1059 : (Jvm.Cond.fieldLinkNest "PatrolDesk" (255 : Nat) "PatrolDesk$Member" "givenBack" "I" "PatrolDesk") ∈ lw_tbl := lw_at lw_m5 22 rfl
theorem q1090 : (Jvm.Cond.fieldLinkNest "PatrolDesk" (336 : Nat) "PatrolDesk$Patrol" "number" "I" "PatrolDesk") ∈ lw_tbl := lw_at lw_m5 53 rfl
theorem q1092 : (Jvm.Cond.fieldLinkNest "PatrolDesk" (174 : Nat) "PatrolDesk$Patrol" "home" "I" "PatrolDesk") ∈ lw_tbl := lw_at lw_m5 55 rfl
theorem q1095 : (Jvm.Cond.fieldLinkNest "PatrolDesk" (260 : Nat) "PatrolDesk$Patrol" "skill" "I" "PatrolDesk") ∈ lw_tbl := lw_at lw_m5 58 rfl
theorem q1097 : (Jvm.Cond.fieldLinkNest "PatrolDesk" (263 : Nat) "PatrolDesk$Patrol" "canTow" "Z" "PatrolDesk") ∈ lw_tbl := lw_at lw_m5 60 rfl
theorem q1100 : (Jvm.Cond.fieldLinkNest "PatrolDesk" (171 : Nat) "PatrolDesk$Patrol" "area" "I" "PatrolDesk") ∈ lw_tbl := lw_at lw_m5 63 rfl
theorem q1103 : (Jvm.Cond.fieldLinkNest "PatrolDesk" (158 : Nat) "PatrolDesk$Patrol" "does" "I" "PatrolDesk") ∈ lw_tbl := lw_at lw_m5 66 rfl
theorem q1106 : (Jvm.Cond.fieldLinkNest "PatrolDesk" (267 : Nat) "PatrolDesk$Patrol" "call" "I" "PatrolDesk") ∈ lw_tbl := lw_at lw_m5 69 rfl
theorem q1109 : (Jvm.Cond.fieldLinkNest "PatrolDesk" (270 : Nat) "PatrolDesk$Patrol" "left" "I" "PatrolDesk") ∈ lw_tbl := lw_at lw_m5 72 rfl
theorem q1116 : (Jvm.Cond.fieldLinkNest "PatrolDesk" (273 : Nat) "PatrolDesk$Patrol" "repairs" "I" "PatrolDesk") ∈ lw_tbl := lw_at lw_m5 79 rfl
theorem q1119 : (Jvm.Cond.fieldLinkNest "PatrolDesk" (276 : Nat) "PatrolDesk$Patrol" "tows" "I" "PatrolDesk") ∈ lw_tbl := lw_at lw_m5 82 rfl
theorem q1122 : (Jvm.Cond.fieldLinkNest "PatrolDesk" (279 : Nat) "PatrolDesk$Patrol" "callbacks" "I" "PatrolDesk") ∈ lw_tbl := lw_at lw_m5 85 rfl
theorem q1125 : (Jvm.Cond.fieldLinkNest "PatrolDesk" (282 : Nat) "PatrolDesk$Patrol" "waitedFor" "I" "PatrolDesk") ∈ lw_tbl := lw_at lw_m5 88 rfl
theorem q1128 : (Jvm.Cond.fieldLinkNest "PatrolDesk" (285 : Nat) "PatrolDesk$Patrol" "worked" "I" "PatrolDesk") ∈ lw_tbl := lw_at lw_m5 91 rfl
theorem q1173 : (Jvm.Cond.fieldLinkNest "PatrolDesk" (288 : Nat) "PatrolDesk$Garage" "area" "I" "PatrolDesk") ∈ lw_tbl := lw_at lw_m5 136 rfl
theorem q1175 : (Jvm.Cond.fieldLinkNest "PatrolDesk" (289 : Nat) "PatrolDesk$Garage" "places" "I" "PatrolDesk") ∈ lw_tbl := lw_at lw_m5 138 rfl
theorem q1178 : (Jvm.Cond.fieldLinkNest "PatrolDesk" (183 : Nat) "PatrolDesk$Garage" "cars" "I" "PatrolDesk") ∈ lw_tbl := lw_at lw_m5 141 rfl
theorem q1181 : (Jvm.Cond.fieldLinkNest "PatrolDesk" (292 : Nat) "PatrolDesk$Garage" "coming" "I" "PatrolDesk") ∈ lw_tbl := lw_at lw_m5 144 rfl
theorem q1184 : (Jvm.Cond.fieldLinkNest "PatrolDesk" (295 : Nat) "PatrolDesk$Garage" "towed" "I" "PatrolDesk") ∈ lw_tbl := lw_at lw_m5 147 rfl
theorem q1209 : (Jvm.Cond.fieldLinkNest "PatrolDesk" (246 : Nat) "PatrolDesk$Call" "number" "I" "PatrolDesk") ∈ lw_tbl := lw_at lw_m5 172 rfl
theorem q1212 : (Jvm.Cond.fieldLinkNest "PatrolDesk" (298 : Nat) "PatrolDesk$Call" "member" "I" "PatrolDesk") ∈ lw_tbl := lw_at lw_m5 175 rfl
theorem q1215 : (Jvm.Cond.fieldLinkNest "PatrolDesk" (302 : Nat) "PatrolDesk$Call" "trouble" "I" "PatrolDesk") ∈ lw_tbl := lw_at lw_m5 178 rfl
theorem q1218 : (Jvm.Cond.fieldLinkNest "PatrolDesk" (305 : Nat) "PatrolDesk$Call" "bound" "I" "PatrolDesk") ∈ lw_tbl := lw_at lw_m5 181 rfl
theorem q1220 : (Jvm.Cond.fieldLinkNest "PatrolDesk" (308 : Nat) "PatrolDesk$Call" "came" "I" "PatrolDesk") ∈ lw_tbl := lw_at lw_m5 183 rfl
theorem q1223 : (Jvm.Cond.fieldLinkNest "PatrolDesk" (317 : Nat) "PatrolDesk$Call" "isCallback" "Z" "PatrolDesk") ∈ lw_tbl := lw_at lw_m5 186 rfl
theorem q1226 : (Jvm.Cond.fieldLinkNest "PatrolDesk" (301 : Nat) "PatrolDesk$Call" "area" "I" "PatrolDesk") ∈ lw_tbl := lw_at lw_m5 189 rfl
theorem q1229 : (Jvm.Cond.fieldLinkNest "PatrolDesk" (137 : Nat) "PatrolDesk$Call" "state" "I" "PatrolDesk") ∈ lw_tbl := lw_at lw_m5 192 rfl
theorem q1232 : (Jvm.Cond.fieldLinkNest "PatrolDesk" (139 : Nat) "PatrolDesk$Call" "patrol" "I" "PatrolDesk") ∈ lw_tbl := lw_at lw_m5 195 rfl
theorem q1235 : (Jvm.Cond.fieldLinkNest "PatrolDesk" (311 : Nat) "PatrolDesk$Call" "first" "I" "PatrolDesk") ∈ lw_tbl := lw_at lw_m5 198 rfl
theorem q1238 : (Jvm.Cond.fieldLinkNest "PatrolDesk" (148 : Nat) "PatrolDesk$Call" "until" "I" "PatrolDesk") ∈ lw_tbl := lw_at lw_m5 201 rfl
theorem q1240 : (Jvm.Cond.fieldLinkNest "PatrolDesk" (314 : Nat) "PatrolDesk$Call" "ended" "I" "PatrolDesk") ∈ lw_tbl := lw_at lw_m5 203 rfl
theorem q1243 : (Jvm.Cond.fieldLinkNest "PatrolDesk" (323 : Nat) "PatrolDesk$Call" "garage" "I" "PatrolDesk") ∈ lw_tbl := lw_at lw_m5 206 rfl
theorem q1272 : (Jvm.Cond.interfaceEntry "PatrolDesk" (61 : Nat)) ∈ lw_tbl := lw_at lw_m5 235 rfl
theorem q1273 : (Jvm.Cond.methodLink "PatrolDesk" (61 : Nat) ({ cls := "java/util/List", name := "add", desc := "(Ljava/lang/Object;)Z" } : Jvm.MethodName)) ∈ lw_all := lw_g (lw_at lw_m5 236 rfl) rfl
theorem q1274 : (Jvm.Cond.classLink "PatrolDesk" (95 : Nat) "PatrolDesk$Between") ∈ lw_all := lw_g (lw_at lw_m5 237 rfl) rfl
theorem q1275 : (Jvm.Cond.methodLink "PatrolDesk" (97 : Nat) ({ cls := "PatrolDesk$Between", name := "<init>", desc := "(II)V" } : Jvm.MethodName)) ∈ lw_all := lw_g (lw_at lw_m5 238 rfl) rfl
theorem q1277 : (Jvm.Cond.instanceMethod ({ cls := "PatrolDesk", name := "addMember", desc := "(I)I" } : Jvm.MethodName)) ∈ lw_all := lw_g (lw_at lw_m6 0 rfl) rfl
theorem q1278 : (Jvm.Cond.selects "PatrolDesk" ({ cls := "PatrolDesk", name := "addMember", desc := "(I)I" } : Jvm.MethodName) ({ cls := "PatrolDesk", name := "addMember", desc := "(I)I" } : Jvm.MethodName)) ∈ lw_all := lw_g (lw_at lw_m6 1 rfl) rfl
theorem q1279 : (Jvm.Cond.code ({ cls := "PatrolDesk", name := "addMember", desc := "(I)I" } : Jvm.MethodName) prog_1_method_11_code (2 : Nat) (Option.some Jvm.ClassFile.FieldType.int)) ∈ lw_all := lw_g (lw_at lw_m6 2 rfl) rfl
theorem q1280 : (Jvm.Cond.classLink "PatrolDesk" (100 : Nat) "PatrolDesk$Member") ∈ lw_all := lw_g (lw_at lw_m6 3 rfl) rfl
theorem q1281 : (Jvm.Cond.methodLink "PatrolDesk" (102 : Nat) ({ cls := "PatrolDesk$Member", name := "<init>", desc := "(I)V" } : Jvm.MethodName)) ∈ lw_all := lw_g (lw_at lw_m6 4 rfl) rfl
theorem q1283 : (Jvm.Cond.instanceMethod ({ cls := "PatrolDesk", name := "addPatrol", desc := "(IIZ)I" } : Jvm.MethodName)) ∈ lw_all := lw_g (lw_at lw_m6 6 rfl) rfl
theorem q1284 : (Jvm.Cond.selects "PatrolDesk" ({ cls := "PatrolDesk", name := "addPatrol", desc := "(IIZ)I" } : Jvm.MethodName) ({ cls := "PatrolDesk", name := "addPatrol", desc := "(IIZ)I" } : Jvm.MethodName)) ∈ lw_all := lw_g (lw_at lw_m6 7 rfl) rfl
theorem q1285 : (Jvm.Cond.code ({ cls := "PatrolDesk", name := "addPatrol", desc := "(IIZ)I" } : Jvm.MethodName) prog_1_method_12_code (5 : Nat) (Option.some Jvm.ClassFile.FieldType.int)) ∈ lw_all := lw_g (lw_at lw_m6 8 rfl) rfl
theorem q1286 : (Jvm.Cond.classLink "PatrolDesk" (105 : Nat) "PatrolDesk$Patrol") ∈ lw_all := lw_g (lw_at lw_m6 9 rfl) rfl
theorem q1287 : (Jvm.Cond.methodLink "PatrolDesk" (107 : Nat) ({ cls := "PatrolDesk$Patrol", name := "<init>", desc := "(IIIZ)V" } : Jvm.MethodName)) ∈ lw_all := lw_g (lw_at lw_m6 10 rfl) rfl
theorem q1289 : (Jvm.Cond.instanceMethod ({ cls := "PatrolDesk", name := "addGarage", desc := "(II)I" } : Jvm.MethodName)) ∈ lw_all := lw_g (lw_at lw_m6 12 rfl) rfl
theorem q1290 : (Jvm.Cond.selects "PatrolDesk" ({ cls := "PatrolDesk", name := "addGarage", desc := "(II)I" } : Jvm.MethodName) ({ cls := "PatrolDesk", name := "addGarage", desc := "(II)I" } : Jvm.MethodName)) ∈ lw_all := lw_g (lw_at lw_m6 13 rfl) rfl
theorem q1291 : (Jvm.Cond.code ({ cls := "PatrolDesk", name := "addGarage", desc := "(II)I" } : Jvm.MethodName) prog_1_method_13_code (3 : Nat) (Option.some Jvm.ClassFile.FieldType.int)) ∈ lw_all := lw_g (lw_at lw_m6 14 rfl) rfl
theorem q1292 : (Jvm.Cond.classLink "PatrolDesk" (110 : Nat) "PatrolDesk$Garage") ∈ lw_all := lw_g (lw_at lw_m6 15 rfl) rfl
theorem q1293 : (Jvm.Cond.methodLink "PatrolDesk" (112 : Nat) ({ cls := "PatrolDesk$Garage", name := "<init>", desc := "(II)V" } : Jvm.MethodName)) ∈ lw_all := lw_g (lw_at lw_m6 16 rfl) rfl
theorem q1295 : (Jvm.Cond.instanceMethod ({ cls := "PatrolDesk", name := "setPromise", desc := "(II)I" } : Jvm.MethodName)) ∈ lw_all := lw_g (lw_at lw_m6 18 rfl) rfl
theorem q1296 : (Jvm.Cond.selects "PatrolDesk" ({ cls := "PatrolDesk", name := "setPromise", desc := "(II)I" } : Jvm.MethodName) ({ cls := "PatrolDesk", name := "setPromise", desc := "(II)I" } : Jvm.MethodName)) ∈ lw_all := lw_g (lw_at lw_m6 19 rfl) rfl
theorem q1297 : (Jvm.Cond.code ({ cls := "PatrolDesk", name := "setPromise", desc := "(II)I" } : Jvm.MethodName) prog_1_method_14_code (4 : Nat) (Option.some Jvm.ClassFile.FieldType.int)) ∈ lw_all := lw_g (lw_at lw_m6 20 rfl) rfl
theorem q1299 : (Jvm.Cond.instanceMethod ({ cls := "PatrolDesk", name := "setWeather", desc := "(I)I" } : Jvm.MethodName)) ∈ lw_all := lw_g (lw_at lw_m6 22 rfl) rfl
theorem q1300 : (Jvm.Cond.selects "PatrolDesk" ({ cls := "PatrolDesk", name := "setWeather", desc := "(I)I" } : Jvm.MethodName) ({ cls := "PatrolDesk", name := "setWeather", desc := "(I)I" } : Jvm.MethodName)) ∈ lw_all := lw_g (lw_at lw_m6 23 rfl) rfl
theorem q1301 : (Jvm.Cond.code ({ cls := "PatrolDesk", name := "setWeather", desc := "(I)I" } : Jvm.MethodName) prog_1_method_15_code (3 : Nat) (Option.some Jvm.ClassFile.FieldType.int)) ∈ lw_all := lw_g (lw_at lw_m6 24 rfl) rfl
theorem q1303 : (Jvm.Cond.instanceMethod ({ cls := "PatrolDesk", name := "call", desc := "(III)I" } : Jvm.MethodName)) ∈ lw_all := lw_g (lw_at lw_m6 26 rfl) rfl
theorem q1304 : (Jvm.Cond.selects "PatrolDesk" ({ cls := "PatrolDesk", name := "call", desc := "(III)I" } : Jvm.MethodName) ({ cls := "PatrolDesk", name := "call", desc := "(III)I" } : Jvm.MethodName)) ∈ lw_all := lw_g (lw_at lw_m6 27 rfl) rfl
theorem q1305 : (Jvm.Cond.codeWith ({ cls := "PatrolDesk", name := "call", desc := "(III)I" } : Jvm.MethodName) prog_1_method_16_code (5 : Nat) (Option.some Jvm.ClassFile.FieldType.int) [((0 : Nat), (10 : Nat), (13 : Nat), (121 : Nat))]) ∈ lw_all := lw_g (lw_at lw_m6 28 rfl) rfl
theorem q1306 : (Jvm.Cond.classLink "PatrolDesk" (121 : Nat) "PatrolDesk$Refused") ∈ lw_all := lw_g (lw_at lw_m6 29 rfl) rfl
theorem q1307 : (Jvm.Cond.methodLinkNest "PatrolDesk" (117 : Nat) ({ cls := "PatrolDesk$State", name := "check", desc := "(III)V" } : Jvm.MethodName) "PatrolDesk") ∈ lw_tbl := lw_at lw_m6 30 rfl
theorem q1359 : (Jvm.Cond.fieldLinkNest "PatrolDesk" (123 : Nat) "PatrolDesk$Refused" "code" "I" "PatrolDesk") ∈ lw_tbl := lw_at lw_m6 82 rfl
theorem q1382 : (Jvm.Cond.methodLinkNest "PatrolDesk" (126 : Nat) ({ cls := "PatrolDesk$State", name := "come", desc := "(III)V" } : Jvm.MethodName) "PatrolDesk") ∈ lw_tbl := lw_at lw_m6 105 rfl
theorem q1392 : (Jvm.Cond.instanceMethod ({ cls := "PatrolDesk", name := "cancel", desc := "(I)I" } : Jvm.MethodName)) ∈ lw_all := lw_g (lw_at lw_m6 115 rfl) rfl
theorem q1393 : (Jvm.Cond.selects "PatrolDesk" ({ cls := "PatrolDesk", name := "cancel", desc := "(I)I" } : Jvm.MethodName) ({ cls := "PatrolDesk", name := "cancel", desc := "(I)I" } : Jvm.MethodName)) ∈ lw_all := lw_g (lw_at lw_m6 116 rfl) rfl
theorem q1394 : (Jvm.Cond.code ({ cls := "PatrolDesk", name := "cancel", desc := "(I)I" } : Jvm.MethodName) prog_1_method_17_code (3 : Nat) (Option.some Jvm.ClassFile.FieldType.int)) ∈ lw_all := lw_g (lw_at lw_m6 117 rfl) rfl
theorem q1395 : (Jvm.Cond.methodLink "PatrolDesk" (129 : Nat) ({ cls := "PatrolDesk", name := "isCall", desc := "(I)Z" } : Jvm.MethodName)) ∈ lw_all := lw_g (lw_at lw_m6 118 rfl) rfl
theorem q1396 : (Jvm.Cond.privateMethod ({ cls := "PatrolDesk", name := "isCall", desc := "(I)Z" } : Jvm.MethodName)) ∈ lw_tbl := lw_at lw_m6 119 rfl
theorem q1397 : (Jvm.Cond.instanceMethod ({ cls := "PatrolDesk", name := "isCall", desc := "(I)Z" } : Jvm.MethodName)) ∈ lw_all := lw_g (lw_at lw_m6 120 rfl) rfl
theorem q1398 : (Jvm.Cond.code ({ cls := "PatrolDesk", name := "isCall", desc := "(I)Z" } : Jvm.MethodName) prog_1_method_9_code (2 : Nat) (Option.some Jvm.ClassFile.FieldType.boolean)) ∈ lw_all := lw_g (lw_at lw_m6 121 rfl) rfl
theorem q1399 : (Jvm.Cond.interfaceEntry "PatrolDesk" (132 : Nat)) ∈ lw_tbl := lw_at lw_m6 122 rfl
theorem q1400 : (Jvm.Cond.methodLink "PatrolDesk" (132 : Nat) ({ cls := "java/util/List", name := "get", desc := "(I)Ljava/lang/Object;" } : Jvm.MethodName)) ∈ lw_all := lw_g (lw_at lw_m6 123 rfl) rfl
theorem q1401 : (Jvm.Cond.classLink "PatrolDesk" (135 : Nat) "PatrolDesk$Call") ∈ lw_all := lw_g (lw_at lw_m6 124 rfl) rfl
theorem q1402 : (Jvm.Cond.methodLink "PatrolDesk" (142 : Nat) ({ cls := "PatrolDesk$Patrol", name := "becomeFree", desc := "()V" } : Jvm.MethodName)) ∈ lw_all := lw_g (lw_at lw_m6 125 rfl) rfl
theorem q1406 : (Jvm.Cond.methodLink "PatrolDesk" (151 : Nat) ({ cls := "PatrolDesk$Call", name := "end", desc := "(II)V" } : Jvm.MethodName)) ∈ lw_all := lw_g (lw_at lw_m6 129 rfl) rfl
theorem q1410 : (Jvm.Cond.methodLink "PatrolDesk" (154 : Nat) ({ cls := "PatrolDesk$Call", name := "waited", desc := "(I)I" } : Jvm.MethodName)) ∈ lw_all := lw_g (lw_at lw_m6 133 rfl) rfl
theorem q1415 : (Jvm.Cond.instanceMethod ({ cls := "PatrolDesk", name := "duty", desc := "(IZ)I" } : Jvm.MethodName)) ∈ lw_all := lw_g (lw_at lw_m6 138 rfl) rfl
theorem q1416 : (Jvm.Cond.selects "PatrolDesk" ({ cls := "PatrolDesk", name := "duty", desc := "(IZ)I" } : Jvm.MethodName) ({ cls := "PatrolDesk", name := "duty", desc := "(IZ)I" } : Jvm.MethodName)) ∈ lw_all := lw_g (lw_at lw_m6 139 rfl) rfl
theorem q1417 : (Jvm.Cond.code ({ cls := "PatrolDesk", name := "duty", desc := "(IZ)I" } : Jvm.MethodName) prog_1_method_19_code (4 : Nat) (Option.some Jvm.ClassFile.FieldType.int)) ∈ lw_all := lw_g (lw_at lw_m6 140 rfl) rfl
theorem q1418 : (Jvm.Cond.methodLink "PatrolDesk" (161 : Nat) ({ cls := "PatrolDesk", name := "isPatrol", desc := "(I)Z" } : Jvm.MethodName)) ∈ lw_all := lw_g (lw_at lw_m6 141 rfl) rfl
theorem q1419 : (Jvm.Cond.privateMethod ({ cls := "PatrolDesk", name := "isPatrol", desc := "(I)Z" } : Jvm.MethodName)) ∈ lw_tbl := lw_at lw_m6 142 rfl
theorem q1420 : (Jvm.Cond.instanceMethod ({ cls := "PatrolDesk", name := "isPatrol", desc := "(I)Z" } : Jvm.MethodName)) ∈ lw_all := lw_g (lw_at lw_m6 143 rfl) rfl
theorem q1421 : (Jvm.Cond.code ({ cls := "PatrolDesk", name := "isPatrol", desc := "(I)Z" } : Jvm.MethodName) prog_1_method_7_code (2 : Nat) (Option.some Jvm.ClassFile.FieldType.boolean)) ∈ lw_all := lw_g (lw_at lw_m6 144 rfl) rfl
theorem q1422 : (Jvm.Cond.methodLink "PatrolDesk" (164 : Nat) ({ cls := "PatrolDesk$Patrol", name := "isBusy", desc := "()Z" } : Jvm.MethodName)) ∈ lw_all := lw_g (lw_at lw_m6 145 rfl) rfl
theorem q1427 : (Jvm.Cond.methodLink "PatrolDesk" (168 : Nat) ({ cls := "PatrolDesk", name := "onDuty", desc := "()I" } : Jvm.MethodName)) ∈ lw_all := lw_g (lw_at lw_m6 150 rfl) rfl
theorem q1428 : (Jvm.Cond.privateMethod ({ cls := "PatrolDesk", name := "onDuty", desc := "()I" } : Jvm.MethodName)) ∈ lw_tbl := lw_at lw_m6 151 rfl
theorem q1429 : (Jvm.Cond.instanceMethod ({ cls := "PatrolDesk", name := "onDuty", desc := "()I" } : Jvm.MethodName)) ∈ lw_all := lw_g (lw_at lw_m6 152 rfl) rfl
theorem q1430 : (Jvm.Cond.code ({ cls := "PatrolDesk", name := "onDuty", desc := "()I" } : Jvm.MethodName) prog_1_method_18_code (3 : Nat) (Option.some Jvm.ClassFile.FieldType.int)) ∈ lw_all := lw_g (lw_at lw_m6 153 rfl) rfl
theorem q1432 : (Jvm.Cond.instanceMethod ({ cls := "PatrolDesk", name := "goHome", desc := "(I)I" } : Jvm.MethodName)) ∈ lw_all := lw_g (lw_at lw_m6 155 rfl) rfl
theorem q1433 : (Jvm.Cond.selects "PatrolDesk" ({ cls := "PatrolDesk", name := "goHome", desc := "(I)I" } : Jvm.MethodName) ({ cls := "PatrolDesk", name := "goHome", desc := "(I)I" } : Jvm.MethodName)) ∈ lw_all := lw_g (lw_at lw_m6 156 rfl) rfl
theorem q1434 : (Jvm.Cond.code ({ cls := "PatrolDesk", name := "goHome", desc := "(I)I" } : Jvm.MethodName) prog_1_method_20_code (4 : Nat) (Option.some Jvm.ClassFile.FieldType.int)) ∈ lw_all := lw_g (lw_at lw_m6 157 rfl) rfl
theorem q1435 : (Jvm.Cond.methodLink "PatrolDesk" (177 : Nat) ({ cls := "PatrolDesk$State", name := "far", desc := "(II)I" } : Jvm.MethodName)) ∈ lw_all := lw_g (lw_at lw_m6 158 rfl) rfl
theorem q1440 : (Jvm.Cond.instanceMethod ({ cls := "PatrolDesk", name := "fetch", desc := "(II)I" } : Jvm.MethodName)) ∈ lw_all := lw_g (lw_at lw_m6 163 rfl) rfl
theorem q1441 : (Jvm.Cond.selects "PatrolDesk" ({ cls := "PatrolDesk", name := "fetch", desc := "(II)I" } : Jvm.MethodName) ({ cls := "PatrolDesk", name := "fetch", desc := "(II)I" } : Jvm.MethodName)) ∈ lw_all := lw_g (lw_at lw_m6 164 rfl) rfl
theorem q1442 : (Jvm.Cond.code ({ cls := "PatrolDesk", name := "fetch", desc := "(II)I" } : Jvm.MethodName) prog_1_method_21_code (3 : Nat) (Option.some Jvm.ClassFile.FieldType.int)) ∈ lw_all := lw_g (lw_at lw_m6 165 rfl) rfl
theorem q1443 : (Jvm.Cond.methodLink "PatrolDesk" (180 : Nat) ({ cls := "PatrolDesk", name := "isGarage", desc := "(I)Z" } : Jvm.MethodName)) ∈ lw_all := lw_g (lw_at lw_m6 166 rfl) rfl
theorem q1444 : (Jvm.Cond.privateMethod ({ cls := "PatrolDesk", name := "isGarage", desc := "(I)Z" } : Jvm.MethodName)) ∈ lw_tbl := lw_at lw_m6 167 rfl
theorem q1445 : (Jvm.Cond.instanceMethod ({ cls := "PatrolDesk", name := "isGarage", desc := "(I)Z" } : Jvm.MethodName)) ∈ lw_all := lw_g (lw_at lw_m6 168 rfl) rfl
theorem q1446 : (Jvm.Cond.code ({ cls := "PatrolDesk", name := "isGarage", desc := "(I)Z" } : Jvm.MethodName) prog_1_method_8_code (2 : Nat) (Option.some Jvm.ClassFile.FieldType.boolean)) ∈ lw_all := lw_g (lw_at lw_m6 169 rfl) rfl
theorem q1448 : (Jvm.Cond.instanceMethod ({ cls := "PatrolDesk", name := "pass", desc := "(I)I" } : Jvm.MethodName)) ∈ lw_all := lw_g (lw_at lw_m6 171 rfl) rfl
theorem q1449 : (Jvm.Cond.selects "PatrolDesk" ({ cls := "PatrolDesk", name := "pass", desc := "(I)I" } : Jvm.MethodName) ({ cls := "PatrolDesk", name := "pass", desc := "(I)I" } : Jvm.MethodName)) ∈ lw_all := lw_g (lw_at lw_m6 172 rfl) rfl
theorem q1450 : (Jvm.Cond.code ({ cls := "PatrolDesk", name := "pass", desc := "(I)I" } : Jvm.MethodName) prog_1_method_22_code (4 : Nat) (Option.some Jvm.ClassFile.FieldType.int)) ∈ lw_all := lw_g (lw_at lw_m6 173 rfl) rfl
theorem q1451 : (Jvm.Cond.methodLink "PatrolDesk" (186 : Nat) ({ cls := "PatrolDesk$State", name := "passMinute", desc := "()I" } : Jvm.MethodName)) ∈ lw_all := lw_g (lw_at lw_m6 174 rfl) rfl
theorem q1558 : (Jvm.Cond.static ({ cls := "PatrolDesk", name := "regionOf", desc := "(I)I" } : Jvm.MethodName)) ∈ lw_all := lw_g (lw_at lw_m7 41 rfl) rfl
theorem q1559 : (Jvm.Cond.code ({ cls := "PatrolDesk", name := "regionOf", desc := "(I)I" } : Jvm.MethodName) prog_1_method_3_code (1 : Nat) (Option.some Jvm.ClassFile.FieldType.int)) ∈ lw_all := lw_g (lw_at lw_m7 42 rfl) rfl
theorem q1648 : (Jvm.Cond.instanceMethod ({ cls := "PatrolDesk", name := "type", desc := "(C)I" } : Jvm.MethodName)) ∈ lw_all := lw_g (lw_at lw_m7 131 rfl) rfl
theorem q1649 : (Jvm.Cond.selects "PatrolDesk" ({ cls := "PatrolDesk", name := "type", desc := "(C)I" } : Jvm.MethodName) ({ cls := "PatrolDesk", name := "type", desc := "(C)I" } : Jvm.MethodName)) ∈ lw_all := lw_g (lw_at lw_m7 132 rfl) rfl
theorem q1650 : (Jvm.Cond.code ({ cls := "PatrolDesk", name := "type", desc := "(C)I" } : Jvm.MethodName) prog_1_method_23_code (2 : Nat) (Option.some Jvm.ClassFile.FieldType.int)) ∈ lw_all := lw_g (lw_at lw_m7 133 rfl) rfl
theorem q1651 : (Jvm.Cond.methodLink "PatrolDesk" (189 : Nat) ({ cls := "java/lang/StringBuilder", name := "length", desc := "()I" } : Jvm.MethodName)) ∈ lw_all := lw_g (lw_at lw_m7 134 rfl) rfl
theorem q1658 : (Jvm.Cond.methodLink "PatrolDesk" (192 : Nat) ({ cls := "java/lang/StringBuilder", name := "append", desc := "(C)Ljava/lang/StringBuilder;" } : Jvm.MethodName)) ∈ lw_all := lw_g (lw_at lw_m7 141 rfl) rfl
theorem q1721 : (Jvm.Cond.instanceMethod ({ cls := "PatrolDesk", name := "clearText", desc := "()I" } : Jvm.MethodName)) ∈ lw_all := lw_g (lw_at lw_m7 204 rfl) rfl
theorem q1722 : (Jvm.Cond.selects "PatrolDesk" ({ cls := "PatrolDesk", name := "clearText", desc := "()I" } : Jvm.MethodName) ({ cls := "PatrolDesk", name := "clearText", desc := "()I" } : Jvm.MethodName)) ∈ lw_all := lw_g (lw_at lw_m7 205 rfl) rfl
theorem q1723 : (Jvm.Cond.code ({ cls := "PatrolDesk", name := "clearText", desc := "()I" } : Jvm.MethodName) prog_1_method_24_code (2 : Nat) (Option.some Jvm.ClassFile.FieldType.int)) ∈ lw_all := lw_g (lw_at lw_m7 206 rfl) rfl
theorem q1724 : (Jvm.Cond.methodLink "PatrolDesk" (196 : Nat) ({ cls := "java/lang/StringBuilder", name := "setLength", desc := "(I)V" } : Jvm.MethodName)) ∈ lw_all := lw_g (lw_at lw_m7 207 rfl) rfl
theorem q1745 : (Jvm.Cond.instanceMethod ({ cls := "PatrolDesk", name := "readCalls", desc := "()I" } : Jvm.MethodName)) ∈ lw_all := lw_g (lw_at lw_m7 228 rfl) rfl
theorem q1746 : (Jvm.Cond.selects "PatrolDesk" ({ cls := "PatrolDesk", name := "readCalls", desc := "()I" } : Jvm.MethodName) ({ cls := "PatrolDesk", name := "readCalls", desc := "()I" } : Jvm.MethodName)) ∈ lw_all := lw_g (lw_at lw_m7 229 rfl) rfl
theorem q1747 : (Jvm.Cond.codeWith ({ cls := "PatrolDesk", name := "readCalls", desc := "()I" } : Jvm.MethodName) prog_1_method_25_code (5 : Nat) (Option.some Jvm.ClassFile.FieldType.int) [((10 : Nat), (148 : Nat), (151 : Nat), (213 : Nat)), ((10 : Nat), (148 : Nat), (160 : Nat), (121 : Nat))]) ∈ lw_all := lw_g (lw_at lw_m7 230 rfl) rfl
theorem q1748 : (Jvm.Cond.classLink "PatrolDesk" (213 : Nat) "PatrolDesk$TextFault") ∈ lw_all := lw_g (lw_at lw_m7 231 rfl) rfl
theorem q1749 : (Jvm.Cond.classLink "PatrolDesk" (199 : Nat) "PatrolDesk$Reader") ∈ lw_all := lw_g (lw_at lw_m7 232 rfl) rfl
theorem q1751 : (Jvm.Cond.methodLink "PatrolDesk" (201 : Nat) ({ cls := "PatrolDesk$Reader", name := "<init>", desc := "(Ljava/lang/CharSequence;)V" } : Jvm.MethodName)) ∈ lw_all := lw_g (lw_at lw_m7 234 rfl) rfl
theorem q1762 : (Jvm.Cond.methodLink "PatrolDesk" (204 : Nat) ({ cls := "PatrolDesk$Reader", name := "read", desc := "()Ljava/util/List;" } : Jvm.MethodName)) ∈ lw_all := lw_g (lw_at lw_m8 5 rfl) rfl
theorem q1817 : (Jvm.Cond.fieldLinkNest "PatrolDesk" (215 : Nat) "PatrolDesk$TextFault" "place" "I" "PatrolDesk") ∈ lw_tbl := lw_at lw_m8 60 rfl
theorem q1833 : (Jvm.Cond.classLink "PatrolDesk" (208 : Nat) "java/lang/Integer") ∈ lw_all := lw_g (lw_at lw_m8 76 rfl) rfl
theorem q1834 : (Jvm.Cond.methodLink "PatrolDesk" (210 : Nat) ({ cls := "java/lang/Integer", name := "intValue", desc := "()I" } : Jvm.MethodName)) ∈ lw_all := lw_g (lw_at lw_m8 77 rfl) rfl
theorem q1836 : (Jvm.Cond.instanceMethod ({ cls := "PatrolDesk", name := "undo", desc := "()I" } : Jvm.MethodName)) ∈ lw_all := lw_g (lw_at lw_m8 79 rfl) rfl
theorem q1837 : (Jvm.Cond.selects "PatrolDesk" ({ cls := "PatrolDesk", name := "undo", desc := "()I" } : Jvm.MethodName) ({ cls := "PatrolDesk", name := "undo", desc := "()I" } : Jvm.MethodName)) ∈ lw_all := lw_g (lw_at lw_m8 80 rfl) rfl
theorem q1838 : (Jvm.Cond.code ({ cls := "PatrolDesk", name := "undo", desc := "()I" } : Jvm.MethodName) prog_1_method_26_code (1 : Nat) (Option.some Jvm.ClassFile.FieldType.int)) ∈ lw_all := lw_g (lw_at lw_m8 81 rfl) rfl
theorem q1839 : (Jvm.Cond.interfaceEntry "PatrolDesk" (218 : Nat)) ∈ lw_tbl := lw_at lw_m8 82 rfl
theorem q1840 : (Jvm.Cond.methodLink "PatrolDesk" (218 : Nat) ({ cls := "java/util/List", name := "isEmpty", desc := "()Z" } : Jvm.MethodName)) ∈ lw_all := lw_g (lw_at lw_m8 83 rfl) rfl
theorem q1849 : (Jvm.Cond.instanceMethod ({ cls := "PatrolDesk", name := "keep", desc := "()I" } : Jvm.MethodName)) ∈ lw_all := lw_g (lw_at lw_m8 92 rfl) rfl
theorem q1850 : (Jvm.Cond.selects "PatrolDesk" ({ cls := "PatrolDesk", name := "keep", desc := "()I" } : Jvm.MethodName) ({ cls := "PatrolDesk", name := "keep", desc := "()I" } : Jvm.MethodName)) ∈ lw_all := lw_g (lw_at lw_m8 93 rfl) rfl
theorem q1851 : (Jvm.Cond.code ({ cls := "PatrolDesk", name := "keep", desc := "()I" } : Jvm.MethodName) prog_1_method_27_code (1 : Nat) (Option.some Jvm.ClassFile.FieldType.int)) ∈ lw_all := lw_g (lw_at lw_m8 94 rfl) rfl
theorem q1853 : (Jvm.Cond.instanceMethod ({ cls := "PatrolDesk", name := "restore", desc := "()I" } : Jvm.MethodName)) ∈ lw_all := lw_g (lw_at lw_m8 96 rfl) rfl
theorem q1854 : (Jvm.Cond.selects "PatrolDesk" ({ cls := "PatrolDesk", name := "restore", desc := "()I" } : Jvm.MethodName) ({ cls := "PatrolDesk", name := "restore", desc := "()I" } : Jvm.MethodName)) ∈ lw_all := lw_g (lw_at lw_m8 97 rfl) rfl
theorem q1855 : (Jvm.Cond.code ({ cls := "PatrolDesk", name := "restore", desc := "()I" } : Jvm.MethodName) prog_1_method_28_code (1 : Nat) (Option.some Jvm.ClassFile.FieldType.int)) ∈ lw_all := lw_g (lw_at lw_m8 98 rfl) rfl
theorem q1857 : (Jvm.Cond.instanceMethod ({ cls := "PatrolDesk", name := "distance", desc := "(II)I" } : Jvm.MethodName)) ∈ lw_all := lw_g (lw_at lw_m8 100 rfl) rfl
theorem q1858 : (Jvm.Cond.selects "PatrolDesk" ({ cls := "PatrolDesk", name := "distance", desc := "(II)I" } : Jvm.MethodName) ({ cls := "PatrolDesk", name := "distance", desc := "(II)I" } : Jvm.MethodName)) ∈ lw_all := lw_g (lw_at lw_m8 101 rfl) rfl
theorem q1859 : (Jvm.Cond.code ({ cls := "PatrolDesk", name := "distance", desc := "(II)I" } : Jvm.MethodName) prog_1_method_29_code (3 : Nat) (Option.some Jvm.ClassFile.FieldType.int)) ∈ lw_all := lw_g (lw_at lw_m8 102 rfl) rfl
theorem q1861 : (Jvm.Cond.instanceMethod ({ cls := "PatrolDesk", name := "wayAt", desc := "(III)I" } : Jvm.MethodName)) ∈ lw_all := lw_g (lw_at lw_m8 104 rfl) rfl
theorem q1862 : (Jvm.Cond.selects "PatrolDesk" ({ cls := "PatrolDesk", name := "wayAt", desc := "(III)I" } : Jvm.MethodName) ({ cls := "PatrolDesk", name := "wayAt", desc := "(III)I" } : Jvm.MethodName)) ∈ lw_all := lw_g (lw_at lw_m8 105 rfl) rfl
theorem q1863 : (Jvm.Cond.code ({ cls := "PatrolDesk", name := "wayAt", desc := "(III)I" } : Jvm.MethodName) prog_1_method_30_code (5 : Nat) (Option.some Jvm.ClassFile.FieldType.int)) ∈ lw_all := lw_g (lw_at lw_m8 106 rfl) rfl
theorem q1864 : (Jvm.Cond.methodLink "PatrolDesk" (224 : Nat) ({ cls := "PatrolDesk$Roads", name := "way", desc := "(II)Ljava/util/List;" } : Jvm.MethodName)) ∈ lw_all := lw_g (lw_at lw_m8 107 rfl) rfl
theorem q1866 : (Jvm.Cond.instanceMethod ({ cls := "PatrolDesk", name := "member", desc := "(II)I" } : Jvm.MethodName)) ∈ lw_all := lw_g (lw_at lw_m8 109 rfl) rfl
theorem q1867 : (Jvm.Cond.selects "PatrolDesk" ({ cls := "PatrolDesk", name := "member", desc := "(II)I" } : Jvm.MethodName) ({ cls := "PatrolDesk", name := "member", desc := "(II)I" } : Jvm.MethodName)) ∈ lw_all := lw_g (lw_at lw_m8 110 rfl) rfl
theorem q1868 : (Jvm.Cond.code ({ cls := "PatrolDesk", name := "member", desc := "(II)I" } : Jvm.MethodName) prog_1_method_31_code (5 : Nat) (Option.some Jvm.ClassFile.FieldType.int)) ∈ lw_all := lw_g (lw_at lw_m8 111 rfl) rfl
theorem q1869 : (Jvm.Cond.methodLink "PatrolDesk" (228 : Nat) ({ cls := "PatrolDesk", name := "isMember", desc := "(I)Z" } : Jvm.MethodName)) ∈ lw_all := lw_g (lw_at lw_m8 112 rfl) rfl
theorem q1870 : (Jvm.Cond.privateMethod ({ cls := "PatrolDesk", name := "isMember", desc := "(I)Z" } : Jvm.MethodName)) ∈ lw_tbl := lw_at lw_m8 113 rfl
theorem q1871 : (Jvm.Cond.instanceMethod ({ cls := "PatrolDesk", name := "isMember", desc := "(I)Z" } : Jvm.MethodName)) ∈ lw_all := lw_g (lw_at lw_m8 114 rfl) rfl
theorem q1872 : (Jvm.Cond.code ({ cls := "PatrolDesk", name := "isMember", desc := "(I)Z" } : Jvm.MethodName) prog_1_method_6_code (2 : Nat) (Option.some Jvm.ClassFile.FieldType.boolean)) ∈ lw_all := lw_g (lw_at lw_m8 115 rfl) rfl
theorem q1873 : (Jvm.Cond.methodLink "PatrolDesk" (231 : Nat) ({ cls := "PatrolDesk$State", name := "openCall", desc := "(I)LPatrolDesk$Call;" } : Jvm.MethodName)) ∈ lw_all := lw_g (lw_at lw_m8 116 rfl) rfl
theorem q1874 : (Jvm.Cond.static ({ cls := "PatrolDesk", name := "lambda$member$0", desc := "(ILPatrolDesk$Call;)I" } : Jvm.MethodName)) ∈ lw_all := lw_g (lw_at lw_m8 117 rfl) rfl
theorem q1875 : (Jvm.Cond.code ({ cls := "PatrolDesk", name := "lambda$member$0", desc := "(ILPatrolDesk$Call;)I" } : Jvm.MethodName) prog_1_method_46_code (2 : Nat) (Option.some Jvm.ClassFile.FieldType.int)) ∈ lw_all := lw_g (lw_at lw_m8 118 rfl) rfl
theorem q1876 : (Jvm.Cond.methodLink "PatrolDesk" (242 : Nat) ({ cls := "PatrolDesk$State", name := "sum", desc := "(LPatrolDesk$Amount;)I" } : Jvm.MethodName)) ∈ lw_all := lw_g (lw_at lw_m8 119 rfl) rfl
theorem q1884 : (Jvm.Cond.privateMethod ({ cls := "PatrolDesk", name := "lambda$member$1", desc := "(ILPatrolDesk$Call;)I" } : Jvm.MethodName)) ∈ lw_tbl := lw_at lw_m8 127 rfl
theorem q1885 : (Jvm.Cond.instanceMethod ({ cls := "PatrolDesk", name := "lambda$member$1", desc := "(ILPatrolDesk$Call;)I" } : Jvm.MethodName)) ∈ lw_all := lw_g (lw_at lw_m8 128 rfl) rfl
theorem q1886 : (Jvm.Cond.code ({ cls := "PatrolDesk", name := "lambda$member$1", desc := "(ILPatrolDesk$Call;)I" } : Jvm.MethodName) prog_1_method_45_code (3 : Nat) (Option.some Jvm.ClassFile.FieldType.int)) ∈ lw_all := lw_g (lw_at lw_m8 129 rfl) rfl
theorem q1887 : (Jvm.Cond.static ({ cls := "PatrolDesk", name := "lambda$member$2", desc := "(ILPatrolDesk$Call;)I" } : Jvm.MethodName)) ∈ lw_all := lw_g (lw_at lw_m8 130 rfl) rfl
theorem q1888 : (Jvm.Cond.code ({ cls := "PatrolDesk", name := "lambda$member$2", desc := "(ILPatrolDesk$Call;)I" } : Jvm.MethodName) prog_1_method_44_code (2 : Nat) (Option.some Jvm.ClassFile.FieldType.int)) ∈ lw_all := lw_g (lw_at lw_m8 131 rfl) rfl
theorem q1889 : (Jvm.Cond.static ({ cls := "PatrolDesk", name := "lambda$member$3", desc := "(ILPatrolDesk$Call;)I" } : Jvm.MethodName)) ∈ lw_all := lw_g (lw_at lw_m8 132 rfl) rfl
theorem q1890 : (Jvm.Cond.code ({ cls := "PatrolDesk", name := "lambda$member$3", desc := "(ILPatrolDesk$Call;)I" } : Jvm.MethodName) prog_1_method_43_code (2 : Nat) (Option.some Jvm.ClassFile.FieldType.int)) ∈ lw_all := lw_g (lw_at lw_m8 133 rfl) rfl
theorem q1892 : (Jvm.Cond.instanceMethod ({ cls := "PatrolDesk", name := "patrol", desc := "(II)I" } : Jvm.MethodName)) ∈ lw_all := lw_g (lw_at lw_m8 135 rfl) rfl
theorem q1893 : (Jvm.Cond.selects "PatrolDesk" ({ cls := "PatrolDesk", name := "patrol", desc := "(II)I" } : Jvm.MethodName) ({ cls := "PatrolDesk", name := "patrol", desc := "(II)I" } : Jvm.MethodName)) ∈ lw_all := lw_g (lw_at lw_m8 136 rfl) rfl
theorem q1894 : (Jvm.Cond.code ({ cls := "PatrolDesk", name := "patrol", desc := "(II)I" } : Jvm.MethodName) prog_1_method_32_code (4 : Nat) (Option.some Jvm.ClassFile.FieldType.int)) ∈ lw_all := lw_g (lw_at lw_m8 137 rfl) rfl
theorem q1896 : (Jvm.Cond.instanceMethod ({ cls := "PatrolDesk", name := "garage", desc := "(II)I" } : Jvm.MethodName)) ∈ lw_all := lw_g (lw_at lw_m8 139 rfl) rfl
theorem q1897 : (Jvm.Cond.selects "PatrolDesk" ({ cls := "PatrolDesk", name := "garage", desc := "(II)I" } : Jvm.MethodName) ({ cls := "PatrolDesk", name := "garage", desc := "(II)I" } : Jvm.MethodName)) ∈ lw_all := lw_g (lw_at lw_m8 140 rfl) rfl
theorem q1898 : (Jvm.Cond.code ({ cls := "PatrolDesk", name := "garage", desc := "(II)I" } : Jvm.MethodName) prog_1_method_33_code (4 : Nat) (Option.some Jvm.ClassFile.FieldType.int)) ∈ lw_all := lw_g (lw_at lw_m8 141 rfl) rfl
theorem q1900 : (Jvm.Cond.instanceMethod ({ cls := "PatrolDesk", name := "callOf", desc := "(II)I" } : Jvm.MethodName)) ∈ lw_all := lw_g (lw_at lw_m8 143 rfl) rfl
theorem q1901 : (Jvm.Cond.selects "PatrolDesk" ({ cls := "PatrolDesk", name := "callOf", desc := "(II)I" } : Jvm.MethodName) ({ cls := "PatrolDesk", name := "callOf", desc := "(II)I" } : Jvm.MethodName)) ∈ lw_all := lw_g (lw_at lw_m8 144 rfl) rfl
theorem q1902 : (Jvm.Cond.code ({ cls := "PatrolDesk", name := "callOf", desc := "(II)I" } : Jvm.MethodName) prog_1_method_34_code (4 : Nat) (Option.some Jvm.ClassFile.FieldType.int)) ∈ lw_all := lw_g (lw_at lw_m8 145 rfl) rfl
theorem q1903 : (Jvm.Cond.methodLink "PatrolDesk" (320 : Nat) ({ cls := "PatrolDesk$Call", name := "rest", desc := "(I)I" } : Jvm.MethodName)) ∈ lw_all := lw_g (lw_at lw_m8 146 rfl) rfl
theorem q1905 : (Jvm.Cond.instanceMethod ({ cls := "PatrolDesk", name := "waiting", desc := "(I)I" } : Jvm.MethodName)) ∈ lw_all := lw_g (lw_at lw_m8 148 rfl) rfl
theorem q1906 : (Jvm.Cond.selects "PatrolDesk" ({ cls := "PatrolDesk", name := "waiting", desc := "(I)I" } : Jvm.MethodName) ({ cls := "PatrolDesk", name := "waiting", desc := "(I)I" } : Jvm.MethodName)) ∈ lw_all := lw_g (lw_at lw_m8 149 rfl) rfl
theorem q1907 : (Jvm.Cond.code ({ cls := "PatrolDesk", name := "waiting", desc := "(I)I" } : Jvm.MethodName) prog_1_method_35_code (3 : Nat) (Option.some Jvm.ClassFile.FieldType.int)) ∈ lw_all := lw_g (lw_at lw_m8 150 rfl) rfl
theorem q1908 : (Jvm.Cond.methodLink "PatrolDesk" (326 : Nat) ({ cls := "PatrolDesk$State", name := "waiting", desc := "()Ljava/util/List;" } : Jvm.MethodName)) ∈ lw_all := lw_g (lw_at lw_m8 151 rfl) rfl
theorem q1910 : (Jvm.Cond.instanceMethod ({ cls := "PatrolDesk", name := "nearest", desc := "(I)I" } : Jvm.MethodName)) ∈ lw_all := lw_g (lw_at lw_m8 153 rfl) rfl
theorem q1911 : (Jvm.Cond.selects "PatrolDesk" ({ cls := "PatrolDesk", name := "nearest", desc := "(I)I" } : Jvm.MethodName) ({ cls := "PatrolDesk", name := "nearest", desc := "(I)I" } : Jvm.MethodName)) ∈ lw_all := lw_g (lw_at lw_m8 154 rfl) rfl
theorem q1912 : (Jvm.Cond.code ({ cls := "PatrolDesk", name := "nearest", desc := "(I)I" } : Jvm.MethodName) prog_1_method_36_code (3 : Nat) (Option.some Jvm.ClassFile.FieldType.int)) ∈ lw_all := lw_g (lw_at lw_m8 155 rfl) rfl
theorem q1913 : (Jvm.Cond.methodLink "PatrolDesk" (329 : Nat) ({ cls := "PatrolDesk$Call", name := "isWaiting", desc := "()Z" } : Jvm.MethodName)) ∈ lw_all := lw_g (lw_at lw_m8 156 rfl) rfl
theorem q1914 : (Jvm.Cond.methodLink "PatrolDesk" (332 : Nat) ({ cls := "PatrolDesk$State", name := "nearest", desc := "(LPatrolDesk$Call;)LPatrolDesk$Patrol;" } : Jvm.MethodName)) ∈ lw_all := lw_g (lw_at lw_m8 157 rfl) rfl
theorem q1916 : (Jvm.Cond.instanceMethod ({ cls := "PatrolDesk", name := "waitFor", desc := "(I)I" } : Jvm.MethodName)) ∈ lw_all := lw_g (lw_at lw_m8 159 rfl) rfl
theorem q1917 : (Jvm.Cond.selects "PatrolDesk" ({ cls := "PatrolDesk", name := "waitFor", desc := "(I)I" } : Jvm.MethodName) ({ cls := "PatrolDesk", name := "waitFor", desc := "(I)I" } : Jvm.MethodName)) ∈ lw_all := lw_g (lw_at lw_m8 160 rfl) rfl
theorem q1918 : (Jvm.Cond.code ({ cls := "PatrolDesk", name := "waitFor", desc := "(I)I" } : Jvm.MethodName) prog_1_method_37_code (5 : Nat) (Option.some Jvm.ClassFile.FieldType.int)) ∈ lw_all := lw_g (lw_at lw_m8 161 rfl) rfl
theorem q1919 : (Jvm.Cond.methodLink "PatrolDesk" (337 : Nat) ({ cls := "java/lang/Math", name := "min", desc := "(II)I" } : Jvm.MethodName)) ∈ lw_all := lw_g (lw_at lw_m8 162 rfl) rfl
theorem q1921 : (Jvm.Cond.instanceMethod ({ cls := "PatrolDesk", name := "count", desc := "(I)I" } : Jvm.MethodName)) ∈ lw_all := lw_g (lw_at lw_m8 164 rfl) rfl
theorem q1922 : (Jvm.Cond.selects "PatrolDesk" ({ cls := "PatrolDesk", name := "count", desc := "(I)I" } : Jvm.MethodName) ({ cls := "PatrolDesk", name := "count", desc := "(I)I" } : Jvm.MethodName)) ∈ lw_all := lw_g (lw_at lw_m8 165 rfl) rfl
theorem q1923 : (Jvm.Cond.code ({ cls := "PatrolDesk", name := "count", desc := "(I)I" } : Jvm.MethodName) prog_1_method_39_code (2 : Nat) (Option.some Jvm.ClassFile.FieldType.int)) ∈ lw_all := lw_g (lw_at lw_m8 166 rfl) rfl
theorem q1924 : (Jvm.Cond.static ({ cls := "PatrolDesk", name := "lambda$count$4", desc := "(ILPatrolDesk$Call;)I" } : Jvm.MethodName)) ∈ lw_all := lw_g (lw_at lw_m8 167 rfl) rfl
theorem q1925 : (Jvm.Cond.code ({ cls := "PatrolDesk", name := "lambda$count$4", desc := "(ILPatrolDesk$Call;)I" } : Jvm.MethodName) prog_1_method_42_code (2 : Nat) (Option.some Jvm.ClassFile.FieldType.int)) ∈ lw_all := lw_g (lw_at lw_m8 168 rfl) rfl
theorem q1926 : (Jvm.Cond.privateMethod ({ cls := "PatrolDesk", name := "lambda$count$5", desc := "(LPatrolDesk$Call;)I" } : Jvm.MethodName)) ∈ lw_tbl := lw_at lw_m8 169 rfl
theorem q1927 : (Jvm.Cond.instanceMethod ({ cls := "PatrolDesk", name := "lambda$count$5", desc := "(LPatrolDesk$Call;)I" } : Jvm.MethodName)) ∈ lw_all := lw_g (lw_at lw_m8 170 rfl) rfl
theorem q1928 : (Jvm.Cond.code ({ cls := "PatrolDesk", name := "lambda$count$5", desc := "(LPatrolDesk$Call;)I" } : Jvm.MethodName) prog_1_method_41_code (2 : Nat) (Option.some Jvm.ClassFile.FieldType.int)) ∈ lw_all := lw_g (lw_at lw_m8 171 rfl) rfl
theorem q1929 : (Jvm.Cond.methodLink "PatrolDesk" (346 : Nat) ({ cls := "PatrolDesk", name := "moneyOf", desc := "(Z)I" } : Jvm.MethodName)) ∈ lw_all := lw_g (lw_at lw_m8 172 rfl) rfl
theorem q1930 : (Jvm.Cond.privateMethod ({ cls := "PatrolDesk", name := "moneyOf", desc := "(Z)I" } : Jvm.MethodName)) ∈ lw_tbl := lw_at lw_m8 173 rfl
theorem q1931 : (Jvm.Cond.instanceMethod ({ cls := "PatrolDesk", name := "moneyOf", desc := "(Z)I" } : Jvm.MethodName)) ∈ lw_all := lw_g (lw_at lw_m8 174 rfl) rfl
theorem q1932 : (Jvm.Cond.code ({ cls := "PatrolDesk", name := "moneyOf", desc := "(Z)I" } : Jvm.MethodName) prog_1_method_38_code (4 : Nat) (Option.some Jvm.ClassFile.FieldType.int)) ∈ lw_all := lw_g (lw_at lw_m8 175 rfl) rfl
theorem q1933 : (Jvm.Cond.static ({ cls := "PatrolDesk", name := "lambda$count$6", desc := "(LPatrolDesk$Call;)I" } : Jvm.MethodName)) ∈ lw_all := lw_g (lw_at lw_m8 176 rfl) rfl
theorem q1934 : (Jvm.Cond.code ({ cls := "PatrolDesk", name := "lambda$count$6", desc := "(LPatrolDesk$Call;)I" } : Jvm.MethodName) prog_1_method_40_code (1 : Nat) (Option.some Jvm.ClassFile.FieldType.int)) ∈ lw_all := lw_g (lw_at lw_m8 177 rfl) rfl
theorem q2287 : (Jvm.Cond.castable "PatrolDesk" "java/lang/Object") ∈ lw_tbl := lw_at lw_m10 50 rfl
theorem in_X0 : ∀ w ∈ wsX00, w ∈ lw_all := lw_in wsX00 [952, 954, 956, 958] (by decide +kernel) (by decide +kernel)
