/-! PatrolDesk$Member -/
set_option maxRecDepth 100000
def RX5 : String := "PatrolDesk$Member"
def TX5 : u_T := fun k => match k with
  | 0 => ("PatrolDesk$Member", "tier", "I", true)
  | 1 => ("PatrolDesk$Member", "paid", "I", false)
  | 2 => ("PatrolDesk$Member", "givenBack", "I", false)
  | 3 => ("PatrolDesk$Member", "repairer", "I", false)
  | _ => ("PatrolDesk$Member", "repairedAt", "I", false)
def tyX5 : Nat → FieldType := fun k => match k with
  | 0 => .int
  | 1 => .int
  | 2 => .int
  | 3 => .int
  | _ => .int
abbrev wsX50 : List Cond := u_ws RX5 TX5 5
theorem nmX5 : ∀ a, a < 5 → ∀ b, b < 5 → a ≠ b → (TX5 a).2.1 ≠ (TX5 b).2.1 := by decide +kernel
theorem tyX5_ok : ∀ k, k < 5 → parseFieldDescriptor (TX5 k).2.2.1 = some (tyX5 k) := by decide +kernel
abbrev cX5_copy : ByteArray := prog_7_method_2_code
def yX5_copy : MethodName := ⟨RX5, "copy", "()LPatrolDesk$Member;"⟩
def dkwX5_copy_1 : List UInt8 := [180, 0, 24, 181, 0, 24, 43, 42, 180, 0, 9, 181, 0, 9, 43, 42, 180, 0, 27, 181, 0, 27, 43, 176]
abbrev dktX5_copy_1 : List UInt8 := dkwX5_copy_1 ++ []
def dkwX5_copy_0 : List UInt8 := [187, 0, 10, 89, 42, 180, 0, 15, 183, 0, 18, 76, 43, 42, 180, 0, 21, 181, 0, 21, 43, 42]
abbrev dktX5_copy_0 : List UInt8 := dkwX5_copy_0 ++ dktX5_copy_1
theorem dksX5_copy_0 : cX5_copy.data.toList.drop 0 = dktX5_copy_0 := by decide +kernel
theorem dksX5_copy_1 : cX5_copy.data.toList.drop 22 = dktX5_copy_1 := dk_seg dksX5_copy_0 22 rfl rfl
theorem dX5_copy_0 : decode cX5_copy 0 = .ok (.new 10, 3) := dk_187 0 10 (dk_at dksX5_copy_0 0 rfl rfl)
theorem dX5_copy_3 : decode cX5_copy 3 = .ok (.dup, 1) := dk_89 (dk_at dksX5_copy_0 3 rfl rfl)
theorem dX5_copy_4 : decode cX5_copy 4 = .ok (.aload_n 0, 1) := dk_42 (dk_at dksX5_copy_0 4 rfl rfl)
theorem dX5_copy_5 : decode cX5_copy 5 = .ok (.getfield 15, 3) := dk_180 0 15 (dk_at dksX5_copy_0 5 rfl rfl)
theorem dX5_copy_8 : decode cX5_copy 8 = .ok (.invokespecial 18, 3) := dk_183 0 18 (dk_at dksX5_copy_0 8 rfl rfl)
theorem dX5_copy_11 : decode cX5_copy 11 = .ok (.astore_n 1, 1) := dk_76 (dk_at dksX5_copy_0 11 rfl rfl)
theorem dX5_copy_12 : decode cX5_copy 12 = .ok (.aload_n 1, 1) := dk_43 (dk_at dksX5_copy_0 12 rfl rfl)
theorem dX5_copy_13 : decode cX5_copy 13 = .ok (.aload_n 0, 1) := dk_42 (dk_at dksX5_copy_0 13 rfl rfl)
theorem dX5_copy_14 : decode cX5_copy 14 = .ok (.getfield 21, 3) := dk_180 0 21 (dk_at dksX5_copy_0 14 rfl rfl)
theorem dX5_copy_17 : decode cX5_copy 17 = .ok (.putfield 21, 3) := dk_181 0 21 (dk_at dksX5_copy_0 17 rfl rfl)
theorem dX5_copy_20 : decode cX5_copy 20 = .ok (.aload_n 1, 1) := dk_43 (dk_at dksX5_copy_0 20 rfl rfl)
theorem dX5_copy_21 : decode cX5_copy 21 = .ok (.aload_n 0, 1) := dk_42 (dk_at dksX5_copy_0 21 rfl rfl)
theorem dX5_copy_22 : decode cX5_copy 22 = .ok (.getfield 24, 3) := dk_180 0 24 (dk_at dksX5_copy_1 0 rfl rfl)
theorem dX5_copy_25 : decode cX5_copy 25 = .ok (.putfield 24, 3) := dk_181 0 24 (dk_at dksX5_copy_1 3 rfl rfl)
theorem dX5_copy_28 : decode cX5_copy 28 = .ok (.aload_n 1, 1) := dk_43 (dk_at dksX5_copy_1 6 rfl rfl)
theorem dX5_copy_29 : decode cX5_copy 29 = .ok (.aload_n 0, 1) := dk_42 (dk_at dksX5_copy_1 7 rfl rfl)
theorem dX5_copy_30 : decode cX5_copy 30 = .ok (.getfield 9, 3) := dk_180 0 9 (dk_at dksX5_copy_1 8 rfl rfl)
theorem dX5_copy_33 : decode cX5_copy 33 = .ok (.putfield 9, 3) := dk_181 0 9 (dk_at dksX5_copy_1 11 rfl rfl)
theorem dX5_copy_36 : decode cX5_copy 36 = .ok (.aload_n 1, 1) := dk_43 (dk_at dksX5_copy_1 14 rfl rfl)
theorem dX5_copy_37 : decode cX5_copy 37 = .ok (.aload_n 0, 1) := dk_42 (dk_at dksX5_copy_1 15 rfl rfl)
theorem dX5_copy_38 : decode cX5_copy 38 = .ok (.getfield 27, 3) := dk_180 0 27 (dk_at dksX5_copy_1 16 rfl rfl)
theorem dX5_copy_41 : decode cX5_copy 41 = .ok (.putfield 27, 3) := dk_181 0 27 (dk_at dksX5_copy_1 19 rfl rfl)
theorem dX5_copy_44 : decode cX5_copy 44 = .ok (.aload_n 1, 1) := dk_43 (dk_at dksX5_copy_1 22 rfl rfl)
theorem dX5_copy_45 : decode cX5_copy 45 = .ok (.areturn, 1) := dk_176 (dk_at dksX5_copy_1 23 rfl rfl)
abbrev cX5_init : ByteArray := prog_7_method_1_code
def yX5_init : MethodName := ⟨RX5, "<init>", "(I)V"⟩
def dkwX5_init_0 : List UInt8 := [42, 183, 0, 3, 42, 16, 251, 181, 0, 9, 42, 27, 181, 0, 15, 177]
abbrev dktX5_init_0 : List UInt8 := dkwX5_init_0 ++ []
theorem dksX5_init_0 : cX5_init.data.toList.drop 0 = dktX5_init_0 := by decide +kernel
theorem dX5_init_0 : decode cX5_init 0 = .ok (.aload_n 0, 1) := dk_42 (dk_at dksX5_init_0 0 rfl rfl)
theorem dX5_init_1 : decode cX5_init 1 = .ok (.invokespecial 3, 3) := dk_183 0 3 (dk_at dksX5_init_0 1 rfl rfl)
theorem dX5_init_4 : decode cX5_init 4 = .ok (.aload_n 0, 1) := dk_42 (dk_at dksX5_init_0 4 rfl rfl)
theorem dX5_init_5 : decode cX5_init 5 = .ok (.bipush (-5), 2) := dk_16 251 (dk_at dksX5_init_0 5 rfl rfl)
theorem dX5_init_7 : decode cX5_init 7 = .ok (.putfield 9, 3) := dk_181 0 9 (dk_at dksX5_init_0 7 rfl rfl)
theorem dX5_init_10 : decode cX5_init 10 = .ok (.aload_n 0, 1) := dk_42 (dk_at dksX5_init_0 10 rfl rfl)
theorem dX5_init_11 : decode cX5_init 11 = .ok (.iload_n 1, 1) := dk_27 (dk_at dksX5_init_0 11 rfl rfl)
theorem dX5_init_12 : decode cX5_init 12 = .ok (.putfield 15, 3) := dk_181 0 15 (dk_at dksX5_init_0 12 rfl rfl)
theorem dX5_init_15 : decode cX5_init 15 = .ok (.return_, 1) := dk_177 (dk_at dksX5_init_0 15 rfl rfl)
abbrev cX5_isCallback : ByteArray := prog_7_method_3_code
def yX5_isCallback : MethodName := ⟨RX5, "isCallback", "(I)Z"⟩
def dkwX5_isCallback_1 : List UInt8 := [3, 172]
abbrev dktX5_isCallback_1 : List UInt8 := dkwX5_isCallback_1 ++ []
def dkwX5_isCallback_0 : List UInt8 := [42, 180, 0, 9, 16, 251, 159, 0, 18, 27, 42, 180, 0, 27, 100, 16, 120, 163, 0, 7, 4, 167, 0, 4]
abbrev dktX5_isCallback_0 : List UInt8 := dkwX5_isCallback_0 ++ dktX5_isCallback_1
theorem dksX5_isCallback_0 : cX5_isCallback.data.toList.drop 0 = dktX5_isCallback_0 := by decide +kernel
theorem dksX5_isCallback_1 : cX5_isCallback.data.toList.drop 24 = dktX5_isCallback_1 := dk_seg dksX5_isCallback_0 24 rfl rfl
theorem dX5_isCallback_0 : decode cX5_isCallback 0 = .ok (.aload_n 0, 1) := dk_42 (dk_at dksX5_isCallback_0 0 rfl rfl)
theorem dX5_isCallback_1 : decode cX5_isCallback 1 = .ok (.getfield 9, 3) := dk_180 0 9 (dk_at dksX5_isCallback_0 1 rfl rfl)
theorem dX5_isCallback_4 : decode cX5_isCallback 4 = .ok (.bipush (-5), 2) := dk_16 251 (dk_at dksX5_isCallback_0 4 rfl rfl)
theorem dX5_isCallback_6 : decode cX5_isCallback 6 = .ok (.if_icmp .eq 18, 3) := dk_159 0 18 (dk_at dksX5_isCallback_0 6 rfl rfl)
theorem dX5_isCallback_9 : decode cX5_isCallback 9 = .ok (.iload_n 1, 1) := dk_27 (dk_at dksX5_isCallback_0 9 rfl rfl)
theorem dX5_isCallback_10 : decode cX5_isCallback 10 = .ok (.aload_n 0, 1) := dk_42 (dk_at dksX5_isCallback_0 10 rfl rfl)
theorem dX5_isCallback_11 : decode cX5_isCallback 11 = .ok (.getfield 27, 3) := dk_180 0 27 (dk_at dksX5_isCallback_0 11 rfl rfl)
theorem dX5_isCallback_14 : decode cX5_isCallback 14 = .ok (.isub, 1) := dk_100 (dk_at dksX5_isCallback_0 14 rfl rfl)
theorem dX5_isCallback_15 : decode cX5_isCallback 15 = .ok (.bipush 120, 2) := dk_16 120 (dk_at dksX5_isCallback_0 15 rfl rfl)
theorem dX5_isCallback_17 : decode cX5_isCallback 17 = .ok (.if_icmp .gt 7, 3) := dk_163 0 7 (dk_at dksX5_isCallback_0 17 rfl rfl)
theorem dX5_isCallback_20 : decode cX5_isCallback 20 = .ok (.iconst 1, 1) := dk_4 (dk_at dksX5_isCallback_0 20 rfl rfl)
theorem dX5_isCallback_21 : decode cX5_isCallback 21 = .ok (.goto 4, 3) := dk_167 0 4 (dk_at dksX5_isCallback_0 21 rfl rfl)
theorem dX5_isCallback_24 : decode cX5_isCallback 24 = .ok (.iconst 0, 1) := dk_3 (dk_at dksX5_isCallback_1 0 rfl rfl)
theorem dX5_isCallback_25 : decode cX5_isCallback 25 = .ok (.ireturn, 1) := dk_172 (dk_at dksX5_isCallback_1 1 rfl rfl)
abbrev cX5_fee : ByteArray := prog_7_method_4_code
def yX5_fee : MethodName := ⟨RX5, "fee", "(Z)I"⟩
def dkwX5_fee_1 : List UInt8 := [167, 0, 4, 3, 27, 153, 0, 7, 8, 167, 0, 4, 3, 100, 184, 0, 30, 172]
abbrev dktX5_fee_1 : List UInt8 := dkwX5_fee_1 ++ []
def dkwX5_fee_0 : List UInt8 := [3, 42, 180, 0, 15, 154, 0, 8, 16, 20, 167, 0, 17, 42, 180, 0, 15, 4, 160, 0, 8, 16, 10]
abbrev dktX5_fee_0 : List UInt8 := dkwX5_fee_0 ++ dktX5_fee_1
theorem dksX5_fee_0 : cX5_fee.data.toList.drop 0 = dktX5_fee_0 := by decide +kernel
theorem dksX5_fee_1 : cX5_fee.data.toList.drop 23 = dktX5_fee_1 := dk_seg dksX5_fee_0 23 rfl rfl
theorem dX5_fee_0 : decode cX5_fee 0 = .ok (.iconst 0, 1) := dk_3 (dk_at dksX5_fee_0 0 rfl rfl)
theorem dX5_fee_1 : decode cX5_fee 1 = .ok (.aload_n 0, 1) := dk_42 (dk_at dksX5_fee_0 1 rfl rfl)
theorem dX5_fee_2 : decode cX5_fee 2 = .ok (.getfield 15, 3) := dk_180 0 15 (dk_at dksX5_fee_0 2 rfl rfl)
theorem dX5_fee_5 : decode cX5_fee 5 = .ok (.ifCond .ne 8, 3) := dk_154 0 8 (dk_at dksX5_fee_0 5 rfl rfl)
theorem dX5_fee_8 : decode cX5_fee 8 = .ok (.bipush 20, 2) := dk_16 20 (dk_at dksX5_fee_0 8 rfl rfl)
theorem dX5_fee_10 : decode cX5_fee 10 = .ok (.goto 17, 3) := dk_167 0 17 (dk_at dksX5_fee_0 10 rfl rfl)
theorem dX5_fee_13 : decode cX5_fee 13 = .ok (.aload_n 0, 1) := dk_42 (dk_at dksX5_fee_0 13 rfl rfl)
theorem dX5_fee_14 : decode cX5_fee 14 = .ok (.getfield 15, 3) := dk_180 0 15 (dk_at dksX5_fee_0 14 rfl rfl)
theorem dX5_fee_17 : decode cX5_fee 17 = .ok (.iconst 1, 1) := dk_4 (dk_at dksX5_fee_0 17 rfl rfl)
theorem dX5_fee_18 : decode cX5_fee 18 = .ok (.if_icmp .ne 8, 3) := dk_160 0 8 (dk_at dksX5_fee_0 18 rfl rfl)
theorem dX5_fee_21 : decode cX5_fee 21 = .ok (.bipush 10, 2) := dk_16 10 (dk_at dksX5_fee_0 21 rfl rfl)
theorem dX5_fee_23 : decode cX5_fee 23 = .ok (.goto 4, 3) := dk_167 0 4 (dk_at dksX5_fee_1 0 rfl rfl)
theorem dX5_fee_26 : decode cX5_fee 26 = .ok (.iconst 0, 1) := dk_3 (dk_at dksX5_fee_1 3 rfl rfl)
theorem dX5_fee_27 : decode cX5_fee 27 = .ok (.iload_n 1, 1) := dk_27 (dk_at dksX5_fee_1 4 rfl rfl)
theorem dX5_fee_28 : decode cX5_fee 28 = .ok (.ifCond .eq 7, 3) := dk_153 0 7 (dk_at dksX5_fee_1 5 rfl rfl)
theorem dX5_fee_31 : decode cX5_fee 31 = .ok (.iconst 5, 1) := dk_8 (dk_at dksX5_fee_1 8 rfl rfl)
theorem dX5_fee_32 : decode cX5_fee 32 = .ok (.goto 4, 3) := dk_167 0 4 (dk_at dksX5_fee_1 9 rfl rfl)
theorem dX5_fee_35 : decode cX5_fee 35 = .ok (.iconst 0, 1) := dk_3 (dk_at dksX5_fee_1 12 rfl rfl)
theorem dX5_fee_36 : decode cX5_fee 36 = .ok (.isub, 1) := dk_100 (dk_at dksX5_fee_1 13 rfl rfl)
theorem dX5_fee_37 : decode cX5_fee 37 = .ok (.invokestatic 30, 3) := dk_184 0 30 (dk_at dksX5_fee_1 14 rfl rfl)
theorem dX5_fee_40 : decode cX5_fee 40 = .ok (.ireturn, 1) := dk_172 (dk_at dksX5_fee_1 17 rfl rfl)
theorem q109 : (Jvm.Cond.initialized "PatrolDesk$Member") ∈ lw_all := lw_g (lw_at lw_m1 32 rfl) rfl
theorem q340 : (Jvm.Cond.selects "PatrolDesk$Member" ({ cls := "java/lang/Object", name := "hashCode", desc := "()I" } : Jvm.MethodName) ({ cls := "java/lang/Object", name := "hashCode", desc := "()I" } : Jvm.MethodName)) ∈ lw_all := lw_g (lw_at lw_m2 23 rfl) rfl
theorem q371 : (Jvm.Cond.selects "PatrolDesk$Member" ({ cls := "java/lang/Object", name := "equals", desc := "(Ljava/lang/Object;)Z" } : Jvm.MethodName) ({ cls := "java/lang/Object", name := "equals", desc := "(Ljava/lang/Object;)Z" } : Jvm.MethodName)) ∈ lw_all := lw_g (lw_at lw_m2 54 rfl) rfl
theorem q419 : (Jvm.Cond.selects "PatrolDesk$Member" ({ cls := "java/lang/Object", name := "getClass", desc := "()Ljava/lang/Class;" } : Jvm.MethodName) ({ cls := "java/lang/Object", name := "getClass", desc := "()Ljava/lang/Class;" } : Jvm.MethodName)) ∈ lw_all := lw_g (lw_at lw_m2 102 rfl) rfl
theorem q1042 : (Jvm.Cond.instanceMethod ({ cls := "PatrolDesk$Member", name := "copy", desc := "()LPatrolDesk$Member;" } : Jvm.MethodName)) ∈ lw_all := lw_g (lw_at lw_m5 5 rfl) rfl
theorem q1043 : (Jvm.Cond.selects "PatrolDesk$Member" ({ cls := "PatrolDesk$Member", name := "copy", desc := "()LPatrolDesk$Member;" } : Jvm.MethodName) ({ cls := "PatrolDesk$Member", name := "copy", desc := "()LPatrolDesk$Member;" } : Jvm.MethodName)) ∈ lw_all := lw_g (lw_at lw_m5 6 rfl) rfl
theorem q1044 : (Jvm.Cond.code ({ cls := "PatrolDesk$Member", name := "copy", desc := "()LPatrolDesk$Member;" } : Jvm.MethodName) prog_7_method_2_code (2 : Nat) (Option.some (Jvm.ClassFile.FieldType.object "PatrolDesk$Member"))) ∈ lw_all := lw_g (lw_at lw_m5 7 rfl) rfl
theorem q1045 : (Jvm.Cond.classLink "PatrolDesk$Member" (10 : Nat) "PatrolDesk$Member") ∈ lw_all := lw_g (lw_at lw_m5 8 rfl) rfl
theorem q1046 : (Jvm.Cond.instantiable "PatrolDesk$Member" (5 : Nat)) ∈ lw_all := lw_g (lw_at lw_m5 9 rfl) rfl
theorem q1047 : (Jvm.Cond.methodLink "PatrolDesk$Member" (18 : Nat) ({ cls := "PatrolDesk$Member", name := "<init>", desc := "(I)V" } : Jvm.MethodName)) ∈ lw_all := lw_g (lw_at lw_m5 10 rfl) rfl
theorem q1048 : (Jvm.Cond.instanceMethod ({ cls := "PatrolDesk$Member", name := "<init>", desc := "(I)V" } : Jvm.MethodName)) ∈ lw_all := lw_g (lw_at lw_m5 11 rfl) rfl
theorem q1049 : (Jvm.Cond.code ({ cls := "PatrolDesk$Member", name := "<init>", desc := "(I)V" } : Jvm.MethodName) prog_7_method_1_code (2 : Nat) (Option.none : Option Jvm.ClassFile.FieldType)) ∈ lw_all := lw_g (lw_at lw_m5 12 rfl) rfl
theorem q1050 : (Jvm.Cond.methodLink "PatrolDesk$Member" (3 : Nat) ({ cls := "java/lang/Object", name := "<init>", desc := "()V" } : Jvm.MethodName)) ∈ lw_all := lw_g (lw_at lw_m5 13 rfl) rfl
theorem q1051 : (Jvm.Cond.fieldLink "PatrolDesk$Member" (15 : Nat) "PatrolDesk$Member" "tier" "I") ∈ lw_all := lw_g (lw_at lw_m5 14 rfl) rfl
theorem q1054 : (Jvm.Cond.fieldLink "PatrolDesk$Member" (21 : Nat) "PatrolDesk$Member" "paid" "I") ∈ lw_all := lw_g (lw_at lw_m5 17 rfl) rfl
theorem q1057 : (Jvm.Cond.fieldLink "PatrolDesk$Member" (24 : Nat) "PatrolDesk$Member" "givenBack" "I") ∈ lw_all := lw_g (lw_at lw_m5 20 rfl) rfl
theorem q1060 : (Jvm.Cond.fieldLink "PatrolDesk$Member" (9 : Nat) "PatrolDesk$Member" "repairer" "I") ∈ lw_all := lw_g (lw_at lw_m5 23 rfl) rfl
theorem q1062 : (Jvm.Cond.fieldLink "PatrolDesk$Member" (27 : Nat) "PatrolDesk$Member" "repairedAt" "I") ∈ lw_all := lw_g (lw_at lw_m5 25 rfl) rfl
theorem q1064 : (Jvm.Cond.laysFinal "PatrolDesk$Member" "PatrolDesk$Member" "tier" "I") ∈ lw_all := lw_g (lw_at lw_m5 27 rfl) rfl
theorem q1065 : (Jvm.Cond.soleField "PatrolDesk$Member" "tier") ∈ lw_all := lw_g (lw_at lw_m5 28 rfl) rfl
theorem q1066 : (Jvm.Cond.lays "PatrolDesk$Member" "PatrolDesk$Member" "paid" "I") ∈ lw_all := lw_g (lw_at lw_m5 29 rfl) rfl
theorem q1067 : (Jvm.Cond.soleField "PatrolDesk$Member" "paid") ∈ lw_all := lw_g (lw_at lw_m5 30 rfl) rfl
theorem q1068 : (Jvm.Cond.lays "PatrolDesk$Member" "PatrolDesk$Member" "givenBack" "I") ∈ lw_all := lw_g (lw_at lw_m5 31 rfl) rfl
theorem q1069 : (Jvm.Cond.soleField "PatrolDesk$Member" "givenBack") ∈ lw_all := lw_g (lw_at lw_m5 32 rfl) rfl
theorem q1070 : (Jvm.Cond.lays "PatrolDesk$Member" "PatrolDesk$Member" "repairer" "I") ∈ lw_all := lw_g (lw_at lw_m5 33 rfl) rfl
theorem q1071 : (Jvm.Cond.soleField "PatrolDesk$Member" "repairer") ∈ lw_all := lw_g (lw_at lw_m5 34 rfl) rfl
theorem q1072 : (Jvm.Cond.lays "PatrolDesk$Member" "PatrolDesk$Member" "repairedAt" "I") ∈ lw_all := lw_g (lw_at lw_m5 35 rfl) rfl
theorem q1073 : (Jvm.Cond.soleField "PatrolDesk$Member" "repairedAt") ∈ lw_all := lw_g (lw_at lw_m5 36 rfl) rfl
theorem q1074 : (Jvm.Cond.superclass "PatrolDesk$Member" "java/lang/Object") ∈ lw_all := lw_g (lw_at lw_m5 37 rfl) rfl
theorem q1387 : (Jvm.Cond.instanceMethod ({ cls := "PatrolDesk$Member", name := "isCallback", desc := "(I)Z" } : Jvm.MethodName)) ∈ lw_all := lw_g (lw_at lw_m6 110 rfl) rfl
theorem q1388 : (Jvm.Cond.selects "PatrolDesk$Member" ({ cls := "PatrolDesk$Member", name := "isCallback", desc := "(I)Z" } : Jvm.MethodName) ({ cls := "PatrolDesk$Member", name := "isCallback", desc := "(I)Z" } : Jvm.MethodName)) ∈ lw_all := lw_g (lw_at lw_m6 111 rfl) rfl
theorem q1389 : (Jvm.Cond.code ({ cls := "PatrolDesk$Member", name := "isCallback", desc := "(I)Z" } : Jvm.MethodName) prog_7_method_3_code (2 : Nat) (Option.some Jvm.ClassFile.FieldType.boolean)) ∈ lw_all := lw_g (lw_at lw_m6 112 rfl) rfl
theorem q1582 : (Jvm.Cond.instanceMethod ({ cls := "PatrolDesk$Member", name := "fee", desc := "(Z)I" } : Jvm.MethodName)) ∈ lw_all := lw_g (lw_at lw_m7 65 rfl) rfl
theorem q1583 : (Jvm.Cond.selects "PatrolDesk$Member" ({ cls := "PatrolDesk$Member", name := "fee", desc := "(Z)I" } : Jvm.MethodName) ({ cls := "PatrolDesk$Member", name := "fee", desc := "(Z)I" } : Jvm.MethodName)) ∈ lw_all := lw_g (lw_at lw_m7 66 rfl) rfl
theorem q1584 : (Jvm.Cond.code ({ cls := "PatrolDesk$Member", name := "fee", desc := "(Z)I" } : Jvm.MethodName) prog_7_method_4_code (2 : Nat) (Option.some Jvm.ClassFile.FieldType.int)) ∈ lw_all := lw_g (lw_at lw_m7 67 rfl) rfl
theorem q1585 : (Jvm.Cond.methodLink "PatrolDesk$Member" (30 : Nat) ({ cls := "java/lang/Math", name := "max", desc := "(II)I" } : Jvm.MethodName)) ∈ lw_all := lw_g (lw_at lw_m7 68 rfl) rfl
theorem q2299 : (Jvm.Cond.castable "PatrolDesk$Member" "java/lang/Object") ∈ lw_tbl := lw_at lw_m10 62 rfl
theorem in_X5 : ∀ w ∈ wsX50, w ∈ lw_all := lw_in wsX50 [1064, 1066, 1068, 1070, 1072] (by decide +kernel) (by decide +kernel)
/-! PatrolDesk$Patrol -/
set_option maxRecDepth 100000
def RX6 : String := "PatrolDesk$Patrol"
def TX6 : u_T := fun k => match k with
  | 0 => ("PatrolDesk$Patrol", "number", "I", true)
  | 1 => ("PatrolDesk$Patrol", "home", "I", true)
  | 2 => ("PatrolDesk$Patrol", "skill", "I", true)
  | 3 => ("PatrolDesk$Patrol", "canTow", "Z", true)
  | 4 => ("PatrolDesk$Patrol", "area", "I", false)
  | 5 => ("PatrolDesk$Patrol", "does", "I", false)
  | 6 => ("PatrolDesk$Patrol", "call", "I", false)
  | 7 => ("PatrolDesk$Patrol", "left", "I", false)
  | 8 => ("PatrolDesk$Patrol", "towTo", "I", false)
  | 9 => ("PatrolDesk$Patrol", "garage", "I", false)
  | 10 => ("PatrolDesk$Patrol", "repairs", "I", false)
  | 11 => ("PatrolDesk$Patrol", "tows", "I", false)
  | 12 => ("PatrolDesk$Patrol", "callbacks", "I", false)
  | 13 => ("PatrolDesk$Patrol", "waitedFor", "I", false)
  | _ => ("PatrolDesk$Patrol", "worked", "I", false)
def tyX6 : Nat → FieldType := fun k => match k with
  | 0 => .int
  | 1 => .int
  | 2 => .int
  | 3 => .boolean
  | 4 => .int
  | 5 => .int
  | 6 => .int
  | 7 => .int
  | 8 => .int
  | 9 => .int
  | 10 => .int
  | 11 => .int
  | 12 => .int
  | 13 => .int
  | _ => .int
abbrev wsX60 : List Cond := u_ws RX6 TX6 15
set_option maxRecDepth 100000 in
theorem nmX6 : ∀ a, a < 15 → ∀ b, b < 15 → a ≠ b → (TX6 a).2.1 ≠ (TX6 b).2.1 := by decide +kernel
set_option maxRecDepth 100000 in
theorem tyX6_ok : ∀ k, k < 15 → parseFieldDescriptor (TX6 k).2.2.1 = some (tyX6 k) := by decide +kernel
abbrev cX6_copy : ByteArray := prog_8_method_2_code
def yX6_copy : MethodName := ⟨RX6, "copy", "()LPatrolDesk$Patrol;"⟩
def dkwX6_copy_4 : List UInt8 := [43, 42, 180, 0, 55, 181, 0, 55, 43, 42, 180, 0, 58, 181, 0, 58, 43, 176]
abbrev dktX6_copy_4 : List UInt8 := dkwX6_copy_4 ++ []
def dkwX6_copy_3 : List UInt8 := [43, 42, 180, 0, 46, 181, 0, 46, 43, 42, 180, 0, 49, 181, 0, 49, 43, 42, 180, 0, 52, 181, 0, 52]
abbrev dktX6_copy_3 : List UInt8 := dkwX6_copy_3 ++ dktX6_copy_4
def dkwX6_copy_2 : List UInt8 := [43, 42, 180, 0, 15, 181, 0, 15, 43, 42, 180, 0, 18, 181, 0, 18, 43, 42, 180, 0, 21, 181, 0, 21]
abbrev dktX6_copy_2 : List UInt8 := dkwX6_copy_2 ++ dktX6_copy_3
def dkwX6_copy_1 : List UInt8 := [43, 42, 180, 0, 37, 181, 0, 37, 43, 42, 180, 0, 43, 181, 0, 43, 43, 42, 180, 0, 9, 181, 0, 9]
abbrev dktX6_copy_1 : List UInt8 := dkwX6_copy_1 ++ dktX6_copy_2
def dkwX6_copy_0 : List UInt8 := [187, 0, 10, 89, 42, 180, 0, 24, 42, 180, 0, 27, 42, 180, 0, 30, 42, 180, 0, 33, 183, 0, 40, 76]
abbrev dktX6_copy_0 : List UInt8 := dkwX6_copy_0 ++ dktX6_copy_1
theorem dksX6_copy_0 : cX6_copy.data.toList.drop 0 = dktX6_copy_0 := by decide +kernel
theorem dksX6_copy_1 : cX6_copy.data.toList.drop 24 = dktX6_copy_1 := dk_seg dksX6_copy_0 24 rfl rfl
theorem dksX6_copy_2 : cX6_copy.data.toList.drop 48 = dktX6_copy_2 := dk_seg dksX6_copy_1 24 rfl rfl
theorem dksX6_copy_3 : cX6_copy.data.toList.drop 72 = dktX6_copy_3 := dk_seg dksX6_copy_2 24 rfl rfl
theorem dksX6_copy_4 : cX6_copy.data.toList.drop 96 = dktX6_copy_4 := dk_seg dksX6_copy_3 24 rfl rfl
theorem dX6_copy_0 : decode cX6_copy 0 = .ok (.new 10, 3) := dk_187 0 10 (dk_at dksX6_copy_0 0 rfl rfl)
theorem dX6_copy_3 : decode cX6_copy 3 = .ok (.dup, 1) := dk_89 (dk_at dksX6_copy_0 3 rfl rfl)
theorem dX6_copy_4 : decode cX6_copy 4 = .ok (.aload_n 0, 1) := dk_42 (dk_at dksX6_copy_0 4 rfl rfl)
theorem dX6_copy_5 : decode cX6_copy 5 = .ok (.getfield 24, 3) := dk_180 0 24 (dk_at dksX6_copy_0 5 rfl rfl)
theorem dX6_copy_8 : decode cX6_copy 8 = .ok (.aload_n 0, 1) := dk_42 (dk_at dksX6_copy_0 8 rfl rfl)
theorem dX6_copy_9 : decode cX6_copy 9 = .ok (.getfield 27, 3) := dk_180 0 27 (dk_at dksX6_copy_0 9 rfl rfl)
theorem dX6_copy_12 : decode cX6_copy 12 = .ok (.aload_n 0, 1) := dk_42 (dk_at dksX6_copy_0 12 rfl rfl)
theorem dX6_copy_13 : decode cX6_copy 13 = .ok (.getfield 30, 3) := dk_180 0 30 (dk_at dksX6_copy_0 13 rfl rfl)
theorem dX6_copy_16 : decode cX6_copy 16 = .ok (.aload_n 0, 1) := dk_42 (dk_at dksX6_copy_0 16 rfl rfl)
theorem dX6_copy_17 : decode cX6_copy 17 = .ok (.getfield 33, 3) := dk_180 0 33 (dk_at dksX6_copy_0 17 rfl rfl)
theorem dX6_copy_20 : decode cX6_copy 20 = .ok (.invokespecial 40, 3) := dk_183 0 40 (dk_at dksX6_copy_0 20 rfl rfl)
theorem dX6_copy_23 : decode cX6_copy 23 = .ok (.astore_n 1, 1) := dk_76 (dk_at dksX6_copy_0 23 rfl rfl)
theorem dX6_copy_24 : decode cX6_copy 24 = .ok (.aload_n 1, 1) := dk_43 (dk_at dksX6_copy_1 0 rfl rfl)
theorem dX6_copy_25 : decode cX6_copy 25 = .ok (.aload_n 0, 1) := dk_42 (dk_at dksX6_copy_1 1 rfl rfl)
theorem dX6_copy_26 : decode cX6_copy 26 = .ok (.getfield 37, 3) := dk_180 0 37 (dk_at dksX6_copy_1 2 rfl rfl)
theorem dX6_copy_29 : decode cX6_copy 29 = .ok (.putfield 37, 3) := dk_181 0 37 (dk_at dksX6_copy_1 5 rfl rfl)
theorem dX6_copy_32 : decode cX6_copy 32 = .ok (.aload_n 1, 1) := dk_43 (dk_at dksX6_copy_1 8 rfl rfl)
theorem dX6_copy_33 : decode cX6_copy 33 = .ok (.aload_n 0, 1) := dk_42 (dk_at dksX6_copy_1 9 rfl rfl)
theorem dX6_copy_34 : decode cX6_copy 34 = .ok (.getfield 43, 3) := dk_180 0 43 (dk_at dksX6_copy_1 10 rfl rfl)
theorem dX6_copy_37 : decode cX6_copy 37 = .ok (.putfield 43, 3) := dk_181 0 43 (dk_at dksX6_copy_1 13 rfl rfl)
theorem dX6_copy_40 : decode cX6_copy 40 = .ok (.aload_n 1, 1) := dk_43 (dk_at dksX6_copy_1 16 rfl rfl)
theorem dX6_copy_41 : decode cX6_copy 41 = .ok (.aload_n 0, 1) := dk_42 (dk_at dksX6_copy_1 17 rfl rfl)
theorem dX6_copy_42 : decode cX6_copy 42 = .ok (.getfield 9, 3) := dk_180 0 9 (dk_at dksX6_copy_1 18 rfl rfl)
theorem dX6_copy_45 : decode cX6_copy 45 = .ok (.putfield 9, 3) := dk_181 0 9 (dk_at dksX6_copy_1 21 rfl rfl)
theorem dX6_copy_48 : decode cX6_copy 48 = .ok (.aload_n 1, 1) := dk_43 (dk_at dksX6_copy_2 0 rfl rfl)
theorem dX6_copy_49 : decode cX6_copy 49 = .ok (.aload_n 0, 1) := dk_42 (dk_at dksX6_copy_2 1 rfl rfl)
theorem dX6_copy_50 : decode cX6_copy 50 = .ok (.getfield 15, 3) := dk_180 0 15 (dk_at dksX6_copy_2 2 rfl rfl)
theorem dX6_copy_53 : decode cX6_copy 53 = .ok (.putfield 15, 3) := dk_181 0 15 (dk_at dksX6_copy_2 5 rfl rfl)
theorem dX6_copy_56 : decode cX6_copy 56 = .ok (.aload_n 1, 1) := dk_43 (dk_at dksX6_copy_2 8 rfl rfl)
theorem dX6_copy_57 : decode cX6_copy 57 = .ok (.aload_n 0, 1) := dk_42 (dk_at dksX6_copy_2 9 rfl rfl)
theorem dX6_copy_58 : decode cX6_copy 58 = .ok (.getfield 18, 3) := dk_180 0 18 (dk_at dksX6_copy_2 10 rfl rfl)
theorem dX6_copy_61 : decode cX6_copy 61 = .ok (.putfield 18, 3) := dk_181 0 18 (dk_at dksX6_copy_2 13 rfl rfl)
theorem dX6_copy_64 : decode cX6_copy 64 = .ok (.aload_n 1, 1) := dk_43 (dk_at dksX6_copy_2 16 rfl rfl)
theorem dX6_copy_65 : decode cX6_copy 65 = .ok (.aload_n 0, 1) := dk_42 (dk_at dksX6_copy_2 17 rfl rfl)
theorem dX6_copy_66 : decode cX6_copy 66 = .ok (.getfield 21, 3) := dk_180 0 21 (dk_at dksX6_copy_2 18 rfl rfl)
theorem dX6_copy_69 : decode cX6_copy 69 = .ok (.putfield 21, 3) := dk_181 0 21 (dk_at dksX6_copy_2 21 rfl rfl)
theorem dX6_copy_72 : decode cX6_copy 72 = .ok (.aload_n 1, 1) := dk_43 (dk_at dksX6_copy_3 0 rfl rfl)
theorem dX6_copy_73 : decode cX6_copy 73 = .ok (.aload_n 0, 1) := dk_42 (dk_at dksX6_copy_3 1 rfl rfl)
theorem dX6_copy_74 : decode cX6_copy 74 = .ok (.getfield 46, 3) := dk_180 0 46 (dk_at dksX6_copy_3 2 rfl rfl)
theorem dX6_copy_77 : decode cX6_copy 77 = .ok (.putfield 46, 3) := dk_181 0 46 (dk_at dksX6_copy_3 5 rfl rfl)
theorem dX6_copy_80 : decode cX6_copy 80 = .ok (.aload_n 1, 1) := dk_43 (dk_at dksX6_copy_3 8 rfl rfl)
theorem dX6_copy_81 : decode cX6_copy 81 = .ok (.aload_n 0, 1) := dk_42 (dk_at dksX6_copy_3 9 rfl rfl)
theorem dX6_copy_82 : decode cX6_copy 82 = .ok (.getfield 49, 3) := dk_180 0 49 (dk_at dksX6_copy_3 10 rfl rfl)
theorem dX6_copy_85 : decode cX6_copy 85 = .ok (.putfield 49, 3) := dk_181 0 49 (dk_at dksX6_copy_3 13 rfl rfl)
theorem dX6_copy_88 : decode cX6_copy 88 = .ok (.aload_n 1, 1) := dk_43 (dk_at dksX6_copy_3 16 rfl rfl)
theorem dX6_copy_89 : decode cX6_copy 89 = .ok (.aload_n 0, 1) := dk_42 (dk_at dksX6_copy_3 17 rfl rfl)
theorem dX6_copy_90 : decode cX6_copy 90 = .ok (.getfield 52, 3) := dk_180 0 52 (dk_at dksX6_copy_3 18 rfl rfl)
theorem dX6_copy_93 : decode cX6_copy 93 = .ok (.putfield 52, 3) := dk_181 0 52 (dk_at dksX6_copy_3 21 rfl rfl)
theorem dX6_copy_96 : decode cX6_copy 96 = .ok (.aload_n 1, 1) := dk_43 (dk_at dksX6_copy_4 0 rfl rfl)
theorem dX6_copy_97 : decode cX6_copy 97 = .ok (.aload_n 0, 1) := dk_42 (dk_at dksX6_copy_4 1 rfl rfl)
theorem dX6_copy_98 : decode cX6_copy 98 = .ok (.getfield 55, 3) := dk_180 0 55 (dk_at dksX6_copy_4 2 rfl rfl)
theorem dX6_copy_101 : decode cX6_copy 101 = .ok (.putfield 55, 3) := dk_181 0 55 (dk_at dksX6_copy_4 5 rfl rfl)
theorem dX6_copy_104 : decode cX6_copy 104 = .ok (.aload_n 1, 1) := dk_43 (dk_at dksX6_copy_4 8 rfl rfl)
theorem dX6_copy_105 : decode cX6_copy 105 = .ok (.aload_n 0, 1) := dk_42 (dk_at dksX6_copy_4 9 rfl rfl)
theorem dX6_copy_106 : decode cX6_copy 106 = .ok (.getfield 58, 3) := dk_180 0 58 (dk_at dksX6_copy_4 10 rfl rfl)
theorem dX6_copy_109 : decode cX6_copy 109 = .ok (.putfield 58, 3) := dk_181 0 58 (dk_at dksX6_copy_4 13 rfl rfl)
theorem dX6_copy_112 : decode cX6_copy 112 = .ok (.aload_n 1, 1) := dk_43 (dk_at dksX6_copy_4 16 rfl rfl)
theorem dX6_copy_113 : decode cX6_copy 113 = .ok (.areturn, 1) := dk_176 (dk_at dksX6_copy_4 17 rfl rfl)
abbrev cX6_init : ByteArray := prog_8_method_1_code
def yX6_init : MethodName := ⟨RX6, "<init>", "(IIIZ)V"⟩
def dkwX6_init_2 : List UInt8 := [181, 0, 33, 42, 28, 181, 0, 37, 177]
abbrev dktX6_init_2 : List UInt8 := dkwX6_init_2 ++ []
def dkwX6_init_1 : List UInt8 := [16, 251, 181, 0, 21, 42, 27, 181, 0, 24, 42, 28, 181, 0, 27, 42, 29, 181, 0, 30, 42, 21, 4]
abbrev dktX6_init_1 : List UInt8 := dkwX6_init_1 ++ dktX6_init_2
def dkwX6_init_0 : List UInt8 := [42, 183, 0, 3, 42, 16, 251, 181, 0, 9, 42, 16, 251, 181, 0, 15, 42, 16, 251, 181, 0, 18, 42]
abbrev dktX6_init_0 : List UInt8 := dkwX6_init_0 ++ dktX6_init_1
theorem dksX6_init_0 : cX6_init.data.toList.drop 0 = dktX6_init_0 := by decide +kernel
theorem dksX6_init_1 : cX6_init.data.toList.drop 23 = dktX6_init_1 := dk_seg dksX6_init_0 23 rfl rfl
theorem dksX6_init_2 : cX6_init.data.toList.drop 46 = dktX6_init_2 := dk_seg dksX6_init_1 23 rfl rfl
theorem dX6_init_0 : decode cX6_init 0 = .ok (.aload_n 0, 1) := dk_42 (dk_at dksX6_init_0 0 rfl rfl)
theorem dX6_init_1 : decode cX6_init 1 = .ok (.invokespecial 3, 3) := dk_183 0 3 (dk_at dksX6_init_0 1 rfl rfl)
theorem dX6_init_4 : decode cX6_init 4 = .ok (.aload_n 0, 1) := dk_42 (dk_at dksX6_init_0 4 rfl rfl)
theorem dX6_init_5 : decode cX6_init 5 = .ok (.bipush (-5), 2) := dk_16 251 (dk_at dksX6_init_0 5 rfl rfl)
theorem dX6_init_7 : decode cX6_init 7 = .ok (.putfield 9, 3) := dk_181 0 9 (dk_at dksX6_init_0 7 rfl rfl)
theorem dX6_init_10 : decode cX6_init 10 = .ok (.aload_n 0, 1) := dk_42 (dk_at dksX6_init_0 10 rfl rfl)
theorem dX6_init_11 : decode cX6_init 11 = .ok (.bipush (-5), 2) := dk_16 251 (dk_at dksX6_init_0 11 rfl rfl)
theorem dX6_init_13 : decode cX6_init 13 = .ok (.putfield 15, 3) := dk_181 0 15 (dk_at dksX6_init_0 13 rfl rfl)
theorem dX6_init_16 : decode cX6_init 16 = .ok (.aload_n 0, 1) := dk_42 (dk_at dksX6_init_0 16 rfl rfl)
theorem dX6_init_17 : decode cX6_init 17 = .ok (.bipush (-5), 2) := dk_16 251 (dk_at dksX6_init_0 17 rfl rfl)
theorem dX6_init_19 : decode cX6_init 19 = .ok (.putfield 18, 3) := dk_181 0 18 (dk_at dksX6_init_0 19 rfl rfl)
theorem dX6_init_22 : decode cX6_init 22 = .ok (.aload_n 0, 1) := dk_42 (dk_at dksX6_init_0 22 rfl rfl)
theorem dX6_init_23 : decode cX6_init 23 = .ok (.bipush (-5), 2) := dk_16 251 (dk_at dksX6_init_1 0 rfl rfl)
theorem dX6_init_25 : decode cX6_init 25 = .ok (.putfield 21, 3) := dk_181 0 21 (dk_at dksX6_init_1 2 rfl rfl)
theorem dX6_init_28 : decode cX6_init 28 = .ok (.aload_n 0, 1) := dk_42 (dk_at dksX6_init_1 5 rfl rfl)
theorem dX6_init_29 : decode cX6_init 29 = .ok (.iload_n 1, 1) := dk_27 (dk_at dksX6_init_1 6 rfl rfl)
theorem dX6_init_30 : decode cX6_init 30 = .ok (.putfield 24, 3) := dk_181 0 24 (dk_at dksX6_init_1 7 rfl rfl)
theorem dX6_init_33 : decode cX6_init 33 = .ok (.aload_n 0, 1) := dk_42 (dk_at dksX6_init_1 10 rfl rfl)
theorem dX6_init_34 : decode cX6_init 34 = .ok (.iload_n 2, 1) := dk_28 (dk_at dksX6_init_1 11 rfl rfl)
theorem dX6_init_35 : decode cX6_init 35 = .ok (.putfield 27, 3) := dk_181 0 27 (dk_at dksX6_init_1 12 rfl rfl)
theorem dX6_init_38 : decode cX6_init 38 = .ok (.aload_n 0, 1) := dk_42 (dk_at dksX6_init_1 15 rfl rfl)
theorem dX6_init_39 : decode cX6_init 39 = .ok (.iload_n 3, 1) := dk_29 (dk_at dksX6_init_1 16 rfl rfl)
theorem dX6_init_40 : decode cX6_init 40 = .ok (.putfield 30, 3) := dk_181 0 30 (dk_at dksX6_init_1 17 rfl rfl)
theorem dX6_init_43 : decode cX6_init 43 = .ok (.aload_n 0, 1) := dk_42 (dk_at dksX6_init_1 20 rfl rfl)
theorem dX6_init_44 : decode cX6_init 44 = .ok (.iload 4, 2) := dk_21 4 (dk_at dksX6_init_1 21 rfl rfl)
theorem dX6_init_46 : decode cX6_init 46 = .ok (.putfield 33, 3) := dk_181 0 33 (dk_at dksX6_init_2 0 rfl rfl)
theorem dX6_init_49 : decode cX6_init 49 = .ok (.aload_n 0, 1) := dk_42 (dk_at dksX6_init_2 3 rfl rfl)
theorem dX6_init_50 : decode cX6_init 50 = .ok (.iload_n 2, 1) := dk_28 (dk_at dksX6_init_2 4 rfl rfl)
theorem dX6_init_51 : decode cX6_init 51 = .ok (.putfield 37, 3) := dk_181 0 37 (dk_at dksX6_init_2 5 rfl rfl)
theorem dX6_init_54 : decode cX6_init 54 = .ok (.return_, 1) := dk_177 (dk_at dksX6_init_2 8 rfl rfl)
abbrev cX6_becomeFree : ByteArray := prog_8_method_8_code
def yX6_becomeFree : MethodName := ⟨RX6, "becomeFree", "()V"⟩
def dkwX6_becomeFree_1 : List UInt8 := [16, 251, 181, 0, 21, 177]
abbrev dktX6_becomeFree_1 : List UInt8 := dkwX6_becomeFree_1 ++ []
def dkwX6_becomeFree_0 : List UInt8 := [42, 3, 181, 0, 43, 42, 16, 251, 181, 0, 9, 42, 16, 251, 181, 0, 15, 42, 16, 251, 181, 0, 18, 42]
abbrev dktX6_becomeFree_0 : List UInt8 := dkwX6_becomeFree_0 ++ dktX6_becomeFree_1
theorem dksX6_becomeFree_0 : cX6_becomeFree.data.toList.drop 0 = dktX6_becomeFree_0 := by decide +kernel
theorem dksX6_becomeFree_1 : cX6_becomeFree.data.toList.drop 24 = dktX6_becomeFree_1 := dk_seg dksX6_becomeFree_0 24 rfl rfl
theorem dX6_becomeFree_0 : decode cX6_becomeFree 0 = .ok (.aload_n 0, 1) := dk_42 (dk_at dksX6_becomeFree_0 0 rfl rfl)
theorem dX6_becomeFree_1 : decode cX6_becomeFree 1 = .ok (.iconst 0, 1) := dk_3 (dk_at dksX6_becomeFree_0 1 rfl rfl)
theorem dX6_becomeFree_2 : decode cX6_becomeFree 2 = .ok (.putfield 43, 3) := dk_181 0 43 (dk_at dksX6_becomeFree_0 2 rfl rfl)
theorem dX6_becomeFree_5 : decode cX6_becomeFree 5 = .ok (.aload_n 0, 1) := dk_42 (dk_at dksX6_becomeFree_0 5 rfl rfl)
theorem dX6_becomeFree_6 : decode cX6_becomeFree 6 = .ok (.bipush (-5), 2) := dk_16 251 (dk_at dksX6_becomeFree_0 6 rfl rfl)
theorem dX6_becomeFree_8 : decode cX6_becomeFree 8 = .ok (.putfield 9, 3) := dk_181 0 9 (dk_at dksX6_becomeFree_0 8 rfl rfl)
theorem dX6_becomeFree_11 : decode cX6_becomeFree 11 = .ok (.aload_n 0, 1) := dk_42 (dk_at dksX6_becomeFree_0 11 rfl rfl)
theorem dX6_becomeFree_12 : decode cX6_becomeFree 12 = .ok (.bipush (-5), 2) := dk_16 251 (dk_at dksX6_becomeFree_0 12 rfl rfl)
theorem dX6_becomeFree_14 : decode cX6_becomeFree 14 = .ok (.putfield 15, 3) := dk_181 0 15 (dk_at dksX6_becomeFree_0 14 rfl rfl)
theorem dX6_becomeFree_17 : decode cX6_becomeFree 17 = .ok (.aload_n 0, 1) := dk_42 (dk_at dksX6_becomeFree_0 17 rfl rfl)
theorem dX6_becomeFree_18 : decode cX6_becomeFree 18 = .ok (.bipush (-5), 2) := dk_16 251 (dk_at dksX6_becomeFree_0 18 rfl rfl)
theorem dX6_becomeFree_20 : decode cX6_becomeFree 20 = .ok (.putfield 18, 3) := dk_181 0 18 (dk_at dksX6_becomeFree_0 20 rfl rfl)
theorem dX6_becomeFree_23 : decode cX6_becomeFree 23 = .ok (.aload_n 0, 1) := dk_42 (dk_at dksX6_becomeFree_0 23 rfl rfl)
theorem dX6_becomeFree_24 : decode cX6_becomeFree 24 = .ok (.bipush (-5), 2) := dk_16 251 (dk_at dksX6_becomeFree_1 0 rfl rfl)
theorem dX6_becomeFree_26 : decode cX6_becomeFree 26 = .ok (.putfield 21, 3) := dk_181 0 21 (dk_at dksX6_becomeFree_1 2 rfl rfl)
theorem dX6_becomeFree_29 : decode cX6_becomeFree 29 = .ok (.return_, 1) := dk_177 (dk_at dksX6_becomeFree_1 5 rfl rfl)
abbrev cX6_isBusy : ByteArray := prog_8_method_4_code
def yX6_isBusy : MethodName := ⟨RX6, "isBusy", "()Z"⟩
def dkwX6_isBusy_0 : List UInt8 := [42, 180, 0, 43, 4, 6, 184, 0, 65, 172]
abbrev dktX6_isBusy_0 : List UInt8 := dkwX6_isBusy_0 ++ []
theorem dksX6_isBusy_0 : cX6_isBusy.data.toList.drop 0 = dktX6_isBusy_0 := by decide +kernel
theorem dX6_isBusy_0 : decode cX6_isBusy 0 = .ok (.aload_n 0, 1) := dk_42 (dk_at dksX6_isBusy_0 0 rfl rfl)
theorem dX6_isBusy_1 : decode cX6_isBusy 1 = .ok (.getfield 43, 3) := dk_180 0 43 (dk_at dksX6_isBusy_0 1 rfl rfl)
theorem dX6_isBusy_4 : decode cX6_isBusy 4 = .ok (.iconst 1, 1) := dk_4 (dk_at dksX6_isBusy_0 4 rfl rfl)
theorem dX6_isBusy_5 : decode cX6_isBusy 5 = .ok (.iconst 3, 1) := dk_6 (dk_at dksX6_isBusy_0 5 rfl rfl)
theorem dX6_isBusy_6 : decode cX6_isBusy 6 = .ok (.invokestatic 65, 3) := dk_184 0 65 (dk_at dksX6_isBusy_0 6 rfl rfl)
theorem dX6_isBusy_9 : decode cX6_isBusy 9 = .ok (.ireturn, 1) := dk_172 (dk_at dksX6_isBusy_0 9 rfl rfl)
abbrev cX6_region : ByteArray := prog_8_method_3_code
def yX6_region : MethodName := ⟨RX6, "region", "()I"⟩
def dkwX6_region_0 : List UInt8 := [42, 180, 0, 27, 184, 0, 61, 172]
abbrev dktX6_region_0 : List UInt8 := dkwX6_region_0 ++ []
theorem dksX6_region_0 : cX6_region.data.toList.drop 0 = dktX6_region_0 := by decide +kernel
theorem dX6_region_0 : decode cX6_region 0 = .ok (.aload_n 0, 1) := dk_42 (dk_at dksX6_region_0 0 rfl rfl)
theorem dX6_region_1 : decode cX6_region 1 = .ok (.getfield 27, 3) := dk_180 0 27 (dk_at dksX6_region_0 1 rfl rfl)
theorem dX6_region_4 : decode cX6_region 4 = .ok (.invokestatic 61, 3) := dk_184 0 61 (dk_at dksX6_region_0 4 rfl rfl)
theorem dX6_region_7 : decode cX6_region 7 = .ok (.ireturn, 1) := dk_172 (dk_at dksX6_region_0 7 rfl rfl)
abbrev cX6_begin : ByteArray := prog_8_method_7_code
def yX6_begin : MethodName := ⟨RX6, "begin", "(III)V"⟩
def dkwX6_begin_0 : List UInt8 := [42, 27, 181, 0, 43, 42, 28, 181, 0, 9, 42, 29, 181, 0, 15, 177]
abbrev dktX6_begin_0 : List UInt8 := dkwX6_begin_0 ++ []
theorem dksX6_begin_0 : cX6_begin.data.toList.drop 0 = dktX6_begin_0 := by decide +kernel
theorem dX6_begin_0 : decode cX6_begin 0 = .ok (.aload_n 0, 1) := dk_42 (dk_at dksX6_begin_0 0 rfl rfl)
theorem dX6_begin_1 : decode cX6_begin 1 = .ok (.iload_n 1, 1) := dk_27 (dk_at dksX6_begin_0 1 rfl rfl)
theorem dX6_begin_2 : decode cX6_begin 2 = .ok (.putfield 43, 3) := dk_181 0 43 (dk_at dksX6_begin_0 2 rfl rfl)
theorem dX6_begin_5 : decode cX6_begin 5 = .ok (.aload_n 0, 1) := dk_42 (dk_at dksX6_begin_0 5 rfl rfl)
theorem dX6_begin_6 : decode cX6_begin 6 = .ok (.iload_n 2, 1) := dk_28 (dk_at dksX6_begin_0 6 rfl rfl)
theorem dX6_begin_7 : decode cX6_begin 7 = .ok (.putfield 9, 3) := dk_181 0 9 (dk_at dksX6_begin_0 7 rfl rfl)
theorem dX6_begin_10 : decode cX6_begin 10 = .ok (.aload_n 0, 1) := dk_42 (dk_at dksX6_begin_0 10 rfl rfl)
theorem dX6_begin_11 : decode cX6_begin 11 = .ok (.iload_n 3, 1) := dk_29 (dk_at dksX6_begin_0 11 rfl rfl)
theorem dX6_begin_12 : decode cX6_begin 12 = .ok (.putfield 15, 3) := dk_181 0 15 (dk_at dksX6_begin_0 12 rfl rfl)
theorem dX6_begin_15 : decode cX6_begin 15 = .ok (.return_, 1) := dk_177 (dk_at dksX6_begin_0 15 rfl rfl)
abbrev cX6_mayTowFrom : ByteArray := prog_8_method_6_code
def yX6_mayTowFrom : MethodName := ⟨RX6, "mayTowFrom", "(I)Z"⟩
def dkwX6_mayTowFrom_0 : List UInt8 := [42, 180, 0, 33, 153, 0, 18, 42, 182, 0, 69, 27, 184, 0, 61, 160, 0, 7, 4, 167, 0, 4, 3, 172]
abbrev dktX6_mayTowFrom_0 : List UInt8 := dkwX6_mayTowFrom_0 ++ []
theorem dksX6_mayTowFrom_0 : cX6_mayTowFrom.data.toList.drop 0 = dktX6_mayTowFrom_0 := by decide +kernel
theorem dX6_mayTowFrom_0 : decode cX6_mayTowFrom 0 = .ok (.aload_n 0, 1) := dk_42 (dk_at dksX6_mayTowFrom_0 0 rfl rfl)
theorem dX6_mayTowFrom_1 : decode cX6_mayTowFrom 1 = .ok (.getfield 33, 3) := dk_180 0 33 (dk_at dksX6_mayTowFrom_0 1 rfl rfl)
theorem dX6_mayTowFrom_4 : decode cX6_mayTowFrom 4 = .ok (.ifCond .eq 18, 3) := dk_153 0 18 (dk_at dksX6_mayTowFrom_0 4 rfl rfl)
theorem dX6_mayTowFrom_7 : decode cX6_mayTowFrom 7 = .ok (.aload_n 0, 1) := dk_42 (dk_at dksX6_mayTowFrom_0 7 rfl rfl)
theorem dX6_mayTowFrom_8 : decode cX6_mayTowFrom 8 = .ok (.invokevirtual 69, 3) := dk_182 0 69 (dk_at dksX6_mayTowFrom_0 8 rfl rfl)
theorem dX6_mayTowFrom_11 : decode cX6_mayTowFrom 11 = .ok (.iload_n 1, 1) := dk_27 (dk_at dksX6_mayTowFrom_0 11 rfl rfl)
theorem dX6_mayTowFrom_12 : decode cX6_mayTowFrom 12 = .ok (.invokestatic 61, 3) := dk_184 0 61 (dk_at dksX6_mayTowFrom_0 12 rfl rfl)
theorem dX6_mayTowFrom_15 : decode cX6_mayTowFrom 15 = .ok (.if_icmp .ne 7, 3) := dk_160 0 7 (dk_at dksX6_mayTowFrom_0 15 rfl rfl)
theorem dX6_mayTowFrom_18 : decode cX6_mayTowFrom 18 = .ok (.iconst 1, 1) := dk_4 (dk_at dksX6_mayTowFrom_0 18 rfl rfl)
theorem dX6_mayTowFrom_19 : decode cX6_mayTowFrom 19 = .ok (.goto 4, 3) := dk_167 0 4 (dk_at dksX6_mayTowFrom_0 19 rfl rfl)
theorem dX6_mayTowFrom_22 : decode cX6_mayTowFrom 22 = .ok (.iconst 0, 1) := dk_3 (dk_at dksX6_mayTowFrom_0 22 rfl rfl)
theorem dX6_mayTowFrom_23 : decode cX6_mayTowFrom 23 = .ok (.ireturn, 1) := dk_172 (dk_at dksX6_mayTowFrom_0 23 rfl rfl)
abbrev cX6_mayRepairIn : ByteArray := prog_8_method_5_code
def yX6_mayRepairIn : MethodName := ⟨RX6, "mayRepairIn", "(I)Z"⟩
def dkwX6_mayRepairIn_0 : List UInt8 := [42, 182, 0, 69, 27, 184, 0, 61, 100, 184, 0, 73, 4, 163, 0, 7, 4, 167, 0, 4, 3, 172]
abbrev dktX6_mayRepairIn_0 : List UInt8 := dkwX6_mayRepairIn_0 ++ []
theorem dksX6_mayRepairIn_0 : cX6_mayRepairIn.data.toList.drop 0 = dktX6_mayRepairIn_0 := by decide +kernel
theorem dX6_mayRepairIn_0 : decode cX6_mayRepairIn 0 = .ok (.aload_n 0, 1) := dk_42 (dk_at dksX6_mayRepairIn_0 0 rfl rfl)
theorem dX6_mayRepairIn_1 : decode cX6_mayRepairIn 1 = .ok (.invokevirtual 69, 3) := dk_182 0 69 (dk_at dksX6_mayRepairIn_0 1 rfl rfl)
theorem dX6_mayRepairIn_4 : decode cX6_mayRepairIn 4 = .ok (.iload_n 1, 1) := dk_27 (dk_at dksX6_mayRepairIn_0 4 rfl rfl)
theorem dX6_mayRepairIn_5 : decode cX6_mayRepairIn 5 = .ok (.invokestatic 61, 3) := dk_184 0 61 (dk_at dksX6_mayRepairIn_0 5 rfl rfl)
theorem dX6_mayRepairIn_8 : decode cX6_mayRepairIn 8 = .ok (.isub, 1) := dk_100 (dk_at dksX6_mayRepairIn_0 8 rfl rfl)
theorem dX6_mayRepairIn_9 : decode cX6_mayRepairIn 9 = .ok (.invokestatic 73, 3) := dk_184 0 73 (dk_at dksX6_mayRepairIn_0 9 rfl rfl)
theorem dX6_mayRepairIn_12 : decode cX6_mayRepairIn 12 = .ok (.iconst 1, 1) := dk_4 (dk_at dksX6_mayRepairIn_0 12 rfl rfl)
theorem dX6_mayRepairIn_13 : decode cX6_mayRepairIn 13 = .ok (.if_icmp .gt 7, 3) := dk_163 0 7 (dk_at dksX6_mayRepairIn_0 13 rfl rfl)
theorem dX6_mayRepairIn_16 : decode cX6_mayRepairIn 16 = .ok (.iconst 1, 1) := dk_4 (dk_at dksX6_mayRepairIn_0 16 rfl rfl)
theorem dX6_mayRepairIn_17 : decode cX6_mayRepairIn 17 = .ok (.goto 4, 3) := dk_167 0 4 (dk_at dksX6_mayRepairIn_0 17 rfl rfl)
theorem dX6_mayRepairIn_20 : decode cX6_mayRepairIn 20 = .ok (.iconst 0, 1) := dk_3 (dk_at dksX6_mayRepairIn_0 20 rfl rfl)
theorem dX6_mayRepairIn_21 : decode cX6_mayRepairIn 21 = .ok (.ireturn, 1) := dk_172 (dk_at dksX6_mayRepairIn_0 21 rfl rfl)
theorem q110 : (Jvm.Cond.initialized "PatrolDesk$Patrol") ∈ lw_all := lw_g (lw_at lw_m1 33 rfl) rfl
theorem q341 : (Jvm.Cond.selects "PatrolDesk$Patrol" ({ cls := "java/lang/Object", name := "hashCode", desc := "()I" } : Jvm.MethodName) ({ cls := "java/lang/Object", name := "hashCode", desc := "()I" } : Jvm.MethodName)) ∈ lw_all := lw_g (lw_at lw_m2 24 rfl) rfl
theorem q372 : (Jvm.Cond.selects "PatrolDesk$Patrol" ({ cls := "java/lang/Object", name := "equals", desc := "(Ljava/lang/Object;)Z" } : Jvm.MethodName) ({ cls := "java/lang/Object", name := "equals", desc := "(Ljava/lang/Object;)Z" } : Jvm.MethodName)) ∈ lw_all := lw_g (lw_at lw_m2 55 rfl) rfl
theorem q420 : (Jvm.Cond.selects "PatrolDesk$Patrol" ({ cls := "java/lang/Object", name := "getClass", desc := "()Ljava/lang/Class;" } : Jvm.MethodName) ({ cls := "java/lang/Object", name := "getClass", desc := "()Ljava/lang/Class;" } : Jvm.MethodName)) ∈ lw_all := lw_g (lw_at lw_m2 103 rfl) rfl
theorem q1079 : (Jvm.Cond.instanceMethod ({ cls := "PatrolDesk$Patrol", name := "copy", desc := "()LPatrolDesk$Patrol;" } : Jvm.MethodName)) ∈ lw_all := lw_g (lw_at lw_m5 42 rfl) rfl
theorem q1080 : (Jvm.Cond.selects "PatrolDesk$Patrol" ({ cls := "PatrolDesk$Patrol", name := "copy", desc := "()LPatrolDesk$Patrol;" } : Jvm.MethodName) ({ cls := "PatrolDesk$Patrol", name := "copy", desc := "()LPatrolDesk$Patrol;" } : Jvm.MethodName)) ∈ lw_all := lw_g (lw_at lw_m5 43 rfl) rfl
theorem q1081 : (Jvm.Cond.code ({ cls := "PatrolDesk$Patrol", name := "copy", desc := "()LPatrolDesk$Patrol;" } : Jvm.MethodName) prog_8_method_2_code (2 : Nat) (Option.some (Jvm.ClassFile.FieldType.object "PatrolDesk$Patrol"))) ∈ lw_all := lw_g (lw_at lw_m5 44 rfl) rfl
theorem q1082 : (Jvm.Cond.classLink "PatrolDesk$Patrol" (10 : Nat) "PatrolDesk$Patrol") ∈ lw_all := lw_g (lw_at lw_m5 45 rfl) rfl
theorem q1083 : (Jvm.Cond.instantiable "PatrolDesk$Patrol" (15 : Nat)) ∈ lw_all := lw_g (lw_at lw_m5 46 rfl) rfl
theorem q1084 : (Jvm.Cond.methodLink "PatrolDesk$Patrol" (40 : Nat) ({ cls := "PatrolDesk$Patrol", name := "<init>", desc := "(IIIZ)V" } : Jvm.MethodName)) ∈ lw_all := lw_g (lw_at lw_m5 47 rfl) rfl
theorem q1085 : (Jvm.Cond.instanceMethod ({ cls := "PatrolDesk$Patrol", name := "<init>", desc := "(IIIZ)V" } : Jvm.MethodName)) ∈ lw_all := lw_g (lw_at lw_m5 48 rfl) rfl
theorem q1086 : (Jvm.Cond.code ({ cls := "PatrolDesk$Patrol", name := "<init>", desc := "(IIIZ)V" } : Jvm.MethodName) prog_8_method_1_code (5 : Nat) (Option.none : Option Jvm.ClassFile.FieldType)) ∈ lw_all := lw_g (lw_at lw_m5 49 rfl) rfl
theorem q1087 : (Jvm.Cond.methodLink "PatrolDesk$Patrol" (3 : Nat) ({ cls := "java/lang/Object", name := "<init>", desc := "()V" } : Jvm.MethodName)) ∈ lw_all := lw_g (lw_at lw_m5 50 rfl) rfl
theorem q1088 : (Jvm.Cond.fieldLink "PatrolDesk$Patrol" (24 : Nat) "PatrolDesk$Patrol" "number" "I") ∈ lw_all := lw_g (lw_at lw_m5 51 rfl) rfl
theorem q1091 : (Jvm.Cond.fieldLink "PatrolDesk$Patrol" (27 : Nat) "PatrolDesk$Patrol" "home" "I") ∈ lw_all := lw_g (lw_at lw_m5 54 rfl) rfl
theorem q1093 : (Jvm.Cond.fieldLink "PatrolDesk$Patrol" (30 : Nat) "PatrolDesk$Patrol" "skill" "I") ∈ lw_all := lw_g (lw_at lw_m5 56 rfl) rfl
theorem q1096 : (Jvm.Cond.fieldLink "PatrolDesk$Patrol" (33 : Nat) "PatrolDesk$Patrol" "canTow" "Z") ∈ lw_all := lw_g (lw_at lw_m5 59 rfl) rfl
theorem q1098 : (Jvm.Cond.fieldLink "PatrolDesk$Patrol" (37 : Nat) "PatrolDesk$Patrol" "area" "I") ∈ lw_all := lw_g (lw_at lw_m5 61 rfl) rfl
theorem q1101 : (Jvm.Cond.fieldLink "PatrolDesk$Patrol" (43 : Nat) "PatrolDesk$Patrol" "does" "I") ∈ lw_all := lw_g (lw_at lw_m5 64 rfl) rfl
theorem q1104 : (Jvm.Cond.fieldLink "PatrolDesk$Patrol" (9 : Nat) "PatrolDesk$Patrol" "call" "I") ∈ lw_all := lw_g (lw_at lw_m5 67 rfl) rfl
theorem q1107 : (Jvm.Cond.fieldLink "PatrolDesk$Patrol" (15 : Nat) "PatrolDesk$Patrol" "left" "I") ∈ lw_all := lw_g (lw_at lw_m5 70 rfl) rfl
theorem q1110 : (Jvm.Cond.fieldLink "PatrolDesk$Patrol" (18 : Nat) "PatrolDesk$Patrol" "towTo" "I") ∈ lw_all := lw_g (lw_at lw_m5 73 rfl) rfl
theorem q1112 : (Jvm.Cond.fieldLink "PatrolDesk$Patrol" (21 : Nat) "PatrolDesk$Patrol" "garage" "I") ∈ lw_all := lw_g (lw_at lw_m5 75 rfl) rfl
theorem q1114 : (Jvm.Cond.fieldLink "PatrolDesk$Patrol" (46 : Nat) "PatrolDesk$Patrol" "repairs" "I") ∈ lw_all := lw_g (lw_at lw_m5 77 rfl) rfl
theorem q1117 : (Jvm.Cond.fieldLink "PatrolDesk$Patrol" (49 : Nat) "PatrolDesk$Patrol" "tows" "I") ∈ lw_all := lw_g (lw_at lw_m5 80 rfl) rfl
theorem q1120 : (Jvm.Cond.fieldLink "PatrolDesk$Patrol" (52 : Nat) "PatrolDesk$Patrol" "callbacks" "I") ∈ lw_all := lw_g (lw_at lw_m5 83 rfl) rfl
theorem q1123 : (Jvm.Cond.fieldLink "PatrolDesk$Patrol" (55 : Nat) "PatrolDesk$Patrol" "waitedFor" "I") ∈ lw_all := lw_g (lw_at lw_m5 86 rfl) rfl
theorem q1126 : (Jvm.Cond.fieldLink "PatrolDesk$Patrol" (58 : Nat) "PatrolDesk$Patrol" "worked" "I") ∈ lw_all := lw_g (lw_at lw_m5 89 rfl) rfl
theorem q1129 : (Jvm.Cond.laysFinal "PatrolDesk$Patrol" "PatrolDesk$Patrol" "number" "I") ∈ lw_all := lw_g (lw_at lw_m5 92 rfl) rfl
theorem q1130 : (Jvm.Cond.soleField "PatrolDesk$Patrol" "number") ∈ lw_all := lw_g (lw_at lw_m5 93 rfl) rfl
theorem q1131 : (Jvm.Cond.laysFinal "PatrolDesk$Patrol" "PatrolDesk$Patrol" "home" "I") ∈ lw_all := lw_g (lw_at lw_m5 94 rfl) rfl
theorem q1132 : (Jvm.Cond.soleField "PatrolDesk$Patrol" "home") ∈ lw_all := lw_g (lw_at lw_m5 95 rfl) rfl
theorem q1133 : (Jvm.Cond.laysFinal "PatrolDesk$Patrol" "PatrolDesk$Patrol" "skill" "I") ∈ lw_all := lw_g (lw_at lw_m5 96 rfl) rfl
theorem q1134 : (Jvm.Cond.soleField "PatrolDesk$Patrol" "skill") ∈ lw_all := lw_g (lw_at lw_m5 97 rfl) rfl
theorem q1135 : (Jvm.Cond.laysFinal "PatrolDesk$Patrol" "PatrolDesk$Patrol" "canTow" "Z") ∈ lw_all := lw_g (lw_at lw_m5 98 rfl) rfl
theorem q1136 : (Jvm.Cond.soleField "PatrolDesk$Patrol" "canTow") ∈ lw_all := lw_g (lw_at lw_m5 99 rfl) rfl
theorem q1137 : (Jvm.Cond.lays "PatrolDesk$Patrol" "PatrolDesk$Patrol" "area" "I") ∈ lw_all := lw_g (lw_at lw_m5 100 rfl) rfl
theorem q1138 : (Jvm.Cond.soleField "PatrolDesk$Patrol" "area") ∈ lw_all := lw_g (lw_at lw_m5 101 rfl) rfl
theorem q1139 : (Jvm.Cond.lays "PatrolDesk$Patrol" "PatrolDesk$Patrol" "does" "I") ∈ lw_all := lw_g (lw_at lw_m5 102 rfl) rfl
theorem q1140 : (Jvm.Cond.soleField "PatrolDesk$Patrol" "does") ∈ lw_all := lw_g (lw_at lw_m5 103 rfl) rfl
theorem q1141 : (Jvm.Cond.lays "PatrolDesk$Patrol" "PatrolDesk$Patrol" "call" "I") ∈ lw_all := lw_g (lw_at lw_m5 104 rfl) rfl
theorem q1142 : (Jvm.Cond.soleField "PatrolDesk$Patrol" "call") ∈ lw_all := lw_g (lw_at lw_m5 105 rfl) rfl
theorem q1143 : (Jvm.Cond.lays "PatrolDesk$Patrol" "PatrolDesk$Patrol" "left" "I") ∈ lw_all := lw_g (lw_at lw_m5 106 rfl) rfl
theorem q1144 : (Jvm.Cond.soleField "PatrolDesk$Patrol" "left") ∈ lw_all := lw_g (lw_at lw_m5 107 rfl) rfl
theorem q1145 : (Jvm.Cond.lays "PatrolDesk$Patrol" "PatrolDesk$Patrol" "towTo" "I") ∈ lw_all := lw_g (lw_at lw_m5 108 rfl) rfl
theorem q1146 : (Jvm.Cond.soleField "PatrolDesk$Patrol" "towTo") ∈ lw_all := lw_g (lw_at lw_m5 109 rfl) rfl
theorem q1147 : (Jvm.Cond.lays "PatrolDesk$Patrol" "PatrolDesk$Patrol" "garage" "I") ∈ lw_all := lw_g (lw_at lw_m5 110 rfl) rfl
theorem q1148 : (Jvm.Cond.soleField "PatrolDesk$Patrol" "garage") ∈ lw_all := lw_g (lw_at lw_m5 111 rfl) rfl
theorem q1149 : (Jvm.Cond.lays "PatrolDesk$Patrol" "PatrolDesk$Patrol" "repairs" "I") ∈ lw_all := lw_g (lw_at lw_m5 112 rfl) rfl
theorem q1150 : (Jvm.Cond.soleField "PatrolDesk$Patrol" "repairs") ∈ lw_all := lw_g (lw_at lw_m5 113 rfl) rfl
theorem q1151 : (Jvm.Cond.lays "PatrolDesk$Patrol" "PatrolDesk$Patrol" "tows" "I") ∈ lw_all := lw_g (lw_at lw_m5 114 rfl) rfl
theorem q1152 : (Jvm.Cond.soleField "PatrolDesk$Patrol" "tows") ∈ lw_all := lw_g (lw_at lw_m5 115 rfl) rfl
theorem q1153 : (Jvm.Cond.lays "PatrolDesk$Patrol" "PatrolDesk$Patrol" "callbacks" "I") ∈ lw_all := lw_g (lw_at lw_m5 116 rfl) rfl
theorem q1154 : (Jvm.Cond.soleField "PatrolDesk$Patrol" "callbacks") ∈ lw_all := lw_g (lw_at lw_m5 117 rfl) rfl
theorem q1155 : (Jvm.Cond.lays "PatrolDesk$Patrol" "PatrolDesk$Patrol" "waitedFor" "I") ∈ lw_all := lw_g (lw_at lw_m5 118 rfl) rfl
theorem q1156 : (Jvm.Cond.soleField "PatrolDesk$Patrol" "waitedFor") ∈ lw_all := lw_g (lw_at lw_m5 119 rfl) rfl
theorem q1157 : (Jvm.Cond.lays "PatrolDesk$Patrol" "PatrolDesk$Patrol" "worked" "I") ∈ lw_all := lw_g (lw_at lw_m5 120 rfl) rfl
theorem q1158 : (Jvm.Cond.soleField "PatrolDesk$Patrol" "worked") ∈ lw_all := lw_g (lw_at lw_m5 121 rfl) rfl
theorem q1159 : (Jvm.Cond.superclass "PatrolDesk$Patrol" "java/lang/Object") ∈ lw_all := lw_g (lw_at lw_m5 122 rfl) rfl
theorem q1403 : (Jvm.Cond.instanceMethod ({ cls := "PatrolDesk$Patrol", name := "becomeFree", desc := "()V" } : Jvm.MethodName)) ∈ lw_all := lw_g (lw_at lw_m6 126 rfl) rfl
theorem q1404 : (Jvm.Cond.selects "PatrolDesk$Patrol" ({ cls := "PatrolDesk$Patrol", name := "becomeFree", desc := "()V" } : Jvm.MethodName) ({ cls := "PatrolDesk$Patrol", name := "becomeFree", desc := "()V" } : Jvm.MethodName)) ∈ lw_all := lw_g (lw_at lw_m6 127 rfl) rfl
theorem q1405 : (Jvm.Cond.code ({ cls := "PatrolDesk$Patrol", name := "becomeFree", desc := "()V" } : Jvm.MethodName) prog_8_method_8_code (1 : Nat) (Option.none : Option Jvm.ClassFile.FieldType)) ∈ lw_all := lw_g (lw_at lw_m6 128 rfl) rfl
theorem q1423 : (Jvm.Cond.instanceMethod ({ cls := "PatrolDesk$Patrol", name := "isBusy", desc := "()Z" } : Jvm.MethodName)) ∈ lw_all := lw_g (lw_at lw_m6 146 rfl) rfl
theorem q1424 : (Jvm.Cond.selects "PatrolDesk$Patrol" ({ cls := "PatrolDesk$Patrol", name := "isBusy", desc := "()Z" } : Jvm.MethodName) ({ cls := "PatrolDesk$Patrol", name := "isBusy", desc := "()Z" } : Jvm.MethodName)) ∈ lw_all := lw_g (lw_at lw_m6 147 rfl) rfl
theorem q1425 : (Jvm.Cond.code ({ cls := "PatrolDesk$Patrol", name := "isBusy", desc := "()Z" } : Jvm.MethodName) prog_8_method_4_code (1 : Nat) (Option.some Jvm.ClassFile.FieldType.boolean)) ∈ lw_all := lw_g (lw_at lw_m6 148 rfl) rfl
theorem q1426 : (Jvm.Cond.methodLinkNest "PatrolDesk$Patrol" (65 : Nat) ({ cls := "PatrolDesk", name := "inRange", desc := "(III)Z" } : Jvm.MethodName) "PatrolDesk") ∈ lw_tbl := lw_at lw_m6 149 rfl
theorem q1561 : (Jvm.Cond.instanceMethod ({ cls := "PatrolDesk$Patrol", name := "region", desc := "()I" } : Jvm.MethodName)) ∈ lw_all := lw_g (lw_at lw_m7 44 rfl) rfl
theorem q1562 : (Jvm.Cond.selects "PatrolDesk$Patrol" ({ cls := "PatrolDesk$Patrol", name := "region", desc := "()I" } : Jvm.MethodName) ({ cls := "PatrolDesk$Patrol", name := "region", desc := "()I" } : Jvm.MethodName)) ∈ lw_all := lw_g (lw_at lw_m7 45 rfl) rfl
theorem q1563 : (Jvm.Cond.code ({ cls := "PatrolDesk$Patrol", name := "region", desc := "()I" } : Jvm.MethodName) prog_8_method_3_code (1 : Nat) (Option.some Jvm.ClassFile.FieldType.int)) ∈ lw_all := lw_g (lw_at lw_m7 46 rfl) rfl
theorem q1564 : (Jvm.Cond.methodLinkNest "PatrolDesk$Patrol" (61 : Nat) ({ cls := "PatrolDesk", name := "regionOf", desc := "(I)I" } : Jvm.MethodName) "PatrolDesk") ∈ lw_tbl := lw_at lw_m7 47 rfl
theorem q1568 : (Jvm.Cond.instanceMethod ({ cls := "PatrolDesk$Patrol", name := "begin", desc := "(III)V" } : Jvm.MethodName)) ∈ lw_all := lw_g (lw_at lw_m7 51 rfl) rfl
theorem q1569 : (Jvm.Cond.selects "PatrolDesk$Patrol" ({ cls := "PatrolDesk$Patrol", name := "begin", desc := "(III)V" } : Jvm.MethodName) ({ cls := "PatrolDesk$Patrol", name := "begin", desc := "(III)V" } : Jvm.MethodName)) ∈ lw_all := lw_g (lw_at lw_m7 52 rfl) rfl
theorem q1570 : (Jvm.Cond.code ({ cls := "PatrolDesk$Patrol", name := "begin", desc := "(III)V" } : Jvm.MethodName) prog_8_method_7_code (4 : Nat) (Option.none : Option Jvm.ClassFile.FieldType)) ∈ lw_all := lw_g (lw_at lw_m7 53 rfl) rfl
theorem q1573 : (Jvm.Cond.instanceMethod ({ cls := "PatrolDesk$Patrol", name := "mayTowFrom", desc := "(I)Z" } : Jvm.MethodName)) ∈ lw_all := lw_g (lw_at lw_m7 56 rfl) rfl
theorem q1574 : (Jvm.Cond.selects "PatrolDesk$Patrol" ({ cls := "PatrolDesk$Patrol", name := "mayTowFrom", desc := "(I)Z" } : Jvm.MethodName) ({ cls := "PatrolDesk$Patrol", name := "mayTowFrom", desc := "(I)Z" } : Jvm.MethodName)) ∈ lw_all := lw_g (lw_at lw_m7 57 rfl) rfl
theorem q1575 : (Jvm.Cond.code ({ cls := "PatrolDesk$Patrol", name := "mayTowFrom", desc := "(I)Z" } : Jvm.MethodName) prog_8_method_6_code (2 : Nat) (Option.some Jvm.ClassFile.FieldType.boolean)) ∈ lw_all := lw_g (lw_at lw_m7 58 rfl) rfl
theorem q1576 : (Jvm.Cond.methodLink "PatrolDesk$Patrol" (69 : Nat) ({ cls := "PatrolDesk$Patrol", name := "region", desc := "()I" } : Jvm.MethodName)) ∈ lw_all := lw_g (lw_at lw_m7 59 rfl) rfl
theorem q1631 : (Jvm.Cond.instanceMethod ({ cls := "PatrolDesk$Patrol", name := "mayRepairIn", desc := "(I)Z" } : Jvm.MethodName)) ∈ lw_all := lw_g (lw_at lw_m7 114 rfl) rfl
theorem q1632 : (Jvm.Cond.selects "PatrolDesk$Patrol" ({ cls := "PatrolDesk$Patrol", name := "mayRepairIn", desc := "(I)Z" } : Jvm.MethodName) ({ cls := "PatrolDesk$Patrol", name := "mayRepairIn", desc := "(I)Z" } : Jvm.MethodName)) ∈ lw_all := lw_g (lw_at lw_m7 115 rfl) rfl
theorem q1633 : (Jvm.Cond.code ({ cls := "PatrolDesk$Patrol", name := "mayRepairIn", desc := "(I)Z" } : Jvm.MethodName) prog_8_method_5_code (2 : Nat) (Option.some Jvm.ClassFile.FieldType.boolean)) ∈ lw_all := lw_g (lw_at lw_m7 116 rfl) rfl
theorem q1634 : (Jvm.Cond.methodLink "PatrolDesk$Patrol" (73 : Nat) ({ cls := "java/lang/Math", name := "abs", desc := "(I)I" } : Jvm.MethodName)) ∈ lw_all := lw_g (lw_at lw_m7 117 rfl) rfl
theorem q2300 : (Jvm.Cond.castable "PatrolDesk$Patrol" "java/lang/Object") ∈ lw_tbl := lw_at lw_m10 63 rfl
theorem in_X6 : ∀ w ∈ wsX60, w ∈ lw_all := lw_in wsX60 [1129, 1131, 1133, 1135, 1137, 1139, 1141, 1143, 1145, 1147, 1149, 1151, 1153, 1155, 1157] (by decide +kernel) (by decide +kernel)
/-! PatrolDesk$Garage -/
set_option maxRecDepth 100000
def RX7 : String := "PatrolDesk$Garage"
def TX7 : u_T := fun k => match k with
  | 0 => ("PatrolDesk$Garage", "area", "I", true)
  | 1 => ("PatrolDesk$Garage", "places", "I", true)
  | 2 => ("PatrolDesk$Garage", "cars", "I", false)
  | 3 => ("PatrolDesk$Garage", "coming", "I", false)
  | _ => ("PatrolDesk$Garage", "towed", "I", false)
def tyX7 : Nat → FieldType := fun k => match k with
  | 0 => .int
  | 1 => .int
  | 2 => .int
  | 3 => .int
  | _ => .int
abbrev wsX70 : List Cond := u_ws RX7 TX7 5
theorem nmX7 : ∀ a, a < 5 → ∀ b, b < 5 → a ≠ b → (TX7 a).2.1 ≠ (TX7 b).2.1 := by decide +kernel
theorem tyX7_ok : ∀ k, k < 5 → parseFieldDescriptor (TX7 k).2.2.1 = some (tyX7 k) := by decide +kernel
abbrev cX7_copy : ByteArray := prog_6_method_2_code
def yX7_copy : MethodName := ⟨RX7, "copy", "()LPatrolDesk$Garage;"⟩
def dkwX7_copy_1 : List UInt8 := [43, 42, 180, 0, 22, 181, 0, 22, 43, 42, 180, 0, 25, 181, 0, 25, 43, 176]
abbrev dktX7_copy_1 : List UInt8 := dkwX7_copy_1 ++ []
def dkwX7_copy_0 : List UInt8 := [187, 0, 8, 89, 42, 180, 0, 7, 42, 180, 0, 13, 183, 0, 16, 76, 43, 42, 180, 0, 19, 181, 0, 19]
abbrev dktX7_copy_0 : List UInt8 := dkwX7_copy_0 ++ dktX7_copy_1
theorem dksX7_copy_0 : cX7_copy.data.toList.drop 0 = dktX7_copy_0 := by decide +kernel
theorem dksX7_copy_1 : cX7_copy.data.toList.drop 24 = dktX7_copy_1 := dk_seg dksX7_copy_0 24 rfl rfl
theorem dX7_copy_0 : decode cX7_copy 0 = .ok (.new 8, 3) := dk_187 0 8 (dk_at dksX7_copy_0 0 rfl rfl)
theorem dX7_copy_3 : decode cX7_copy 3 = .ok (.dup, 1) := dk_89 (dk_at dksX7_copy_0 3 rfl rfl)
theorem dX7_copy_4 : decode cX7_copy 4 = .ok (.aload_n 0, 1) := dk_42 (dk_at dksX7_copy_0 4 rfl rfl)
theorem dX7_copy_5 : decode cX7_copy 5 = .ok (.getfield 7, 3) := dk_180 0 7 (dk_at dksX7_copy_0 5 rfl rfl)
theorem dX7_copy_8 : decode cX7_copy 8 = .ok (.aload_n 0, 1) := dk_42 (dk_at dksX7_copy_0 8 rfl rfl)
theorem dX7_copy_9 : decode cX7_copy 9 = .ok (.getfield 13, 3) := dk_180 0 13 (dk_at dksX7_copy_0 9 rfl rfl)
theorem dX7_copy_12 : decode cX7_copy 12 = .ok (.invokespecial 16, 3) := dk_183 0 16 (dk_at dksX7_copy_0 12 rfl rfl)
theorem dX7_copy_15 : decode cX7_copy 15 = .ok (.astore_n 1, 1) := dk_76 (dk_at dksX7_copy_0 15 rfl rfl)
theorem dX7_copy_16 : decode cX7_copy 16 = .ok (.aload_n 1, 1) := dk_43 (dk_at dksX7_copy_0 16 rfl rfl)
theorem dX7_copy_17 : decode cX7_copy 17 = .ok (.aload_n 0, 1) := dk_42 (dk_at dksX7_copy_0 17 rfl rfl)
theorem dX7_copy_18 : decode cX7_copy 18 = .ok (.getfield 19, 3) := dk_180 0 19 (dk_at dksX7_copy_0 18 rfl rfl)
theorem dX7_copy_21 : decode cX7_copy 21 = .ok (.putfield 19, 3) := dk_181 0 19 (dk_at dksX7_copy_0 21 rfl rfl)
theorem dX7_copy_24 : decode cX7_copy 24 = .ok (.aload_n 1, 1) := dk_43 (dk_at dksX7_copy_1 0 rfl rfl)
theorem dX7_copy_25 : decode cX7_copy 25 = .ok (.aload_n 0, 1) := dk_42 (dk_at dksX7_copy_1 1 rfl rfl)
theorem dX7_copy_26 : decode cX7_copy 26 = .ok (.getfield 22, 3) := dk_180 0 22 (dk_at dksX7_copy_1 2 rfl rfl)
theorem dX7_copy_29 : decode cX7_copy 29 = .ok (.putfield 22, 3) := dk_181 0 22 (dk_at dksX7_copy_1 5 rfl rfl)
theorem dX7_copy_32 : decode cX7_copy 32 = .ok (.aload_n 1, 1) := dk_43 (dk_at dksX7_copy_1 8 rfl rfl)
theorem dX7_copy_33 : decode cX7_copy 33 = .ok (.aload_n 0, 1) := dk_42 (dk_at dksX7_copy_1 9 rfl rfl)
theorem dX7_copy_34 : decode cX7_copy 34 = .ok (.getfield 25, 3) := dk_180 0 25 (dk_at dksX7_copy_1 10 rfl rfl)
theorem dX7_copy_37 : decode cX7_copy 37 = .ok (.putfield 25, 3) := dk_181 0 25 (dk_at dksX7_copy_1 13 rfl rfl)
theorem dX7_copy_40 : decode cX7_copy 40 = .ok (.aload_n 1, 1) := dk_43 (dk_at dksX7_copy_1 16 rfl rfl)
theorem dX7_copy_41 : decode cX7_copy 41 = .ok (.areturn, 1) := dk_176 (dk_at dksX7_copy_1 17 rfl rfl)
abbrev cX7_init : ByteArray := prog_6_method_1_code
def yX7_init : MethodName := ⟨RX7, "<init>", "(II)V"⟩
def dkwX7_init_0 : List UInt8 := [42, 183, 0, 1, 42, 27, 181, 0, 7, 42, 28, 181, 0, 13, 177]
abbrev dktX7_init_0 : List UInt8 := dkwX7_init_0 ++ []
theorem dksX7_init_0 : cX7_init.data.toList.drop 0 = dktX7_init_0 := by decide +kernel
theorem dX7_init_0 : decode cX7_init 0 = .ok (.aload_n 0, 1) := dk_42 (dk_at dksX7_init_0 0 rfl rfl)
theorem dX7_init_1 : decode cX7_init 1 = .ok (.invokespecial 1, 3) := dk_183 0 1 (dk_at dksX7_init_0 1 rfl rfl)
theorem dX7_init_4 : decode cX7_init 4 = .ok (.aload_n 0, 1) := dk_42 (dk_at dksX7_init_0 4 rfl rfl)
theorem dX7_init_5 : decode cX7_init 5 = .ok (.iload_n 1, 1) := dk_27 (dk_at dksX7_init_0 5 rfl rfl)
theorem dX7_init_6 : decode cX7_init 6 = .ok (.putfield 7, 3) := dk_181 0 7 (dk_at dksX7_init_0 6 rfl rfl)
theorem dX7_init_9 : decode cX7_init 9 = .ok (.aload_n 0, 1) := dk_42 (dk_at dksX7_init_0 9 rfl rfl)
theorem dX7_init_10 : decode cX7_init 10 = .ok (.iload_n 2, 1) := dk_28 (dk_at dksX7_init_0 10 rfl rfl)
theorem dX7_init_11 : decode cX7_init 11 = .ok (.putfield 13, 3) := dk_181 0 13 (dk_at dksX7_init_0 11 rfl rfl)
theorem dX7_init_14 : decode cX7_init 14 = .ok (.return_, 1) := dk_177 (dk_at dksX7_init_0 14 rfl rfl)
abbrev cX7_hasPlace : ByteArray := prog_6_method_3_code
def yX7_hasPlace : MethodName := ⟨RX7, "hasPlace", "()Z"⟩
def dkwX7_hasPlace_0 : List UInt8 := [42, 180, 0, 19, 42, 180, 0, 22, 96, 42, 180, 0, 13, 162, 0, 7, 4, 167, 0, 4, 3, 172]
abbrev dktX7_hasPlace_0 : List UInt8 := dkwX7_hasPlace_0 ++ []
theorem dksX7_hasPlace_0 : cX7_hasPlace.data.toList.drop 0 = dktX7_hasPlace_0 := by decide +kernel
theorem dX7_hasPlace_0 : decode cX7_hasPlace 0 = .ok (.aload_n 0, 1) := dk_42 (dk_at dksX7_hasPlace_0 0 rfl rfl)
theorem dX7_hasPlace_1 : decode cX7_hasPlace 1 = .ok (.getfield 19, 3) := dk_180 0 19 (dk_at dksX7_hasPlace_0 1 rfl rfl)
theorem dX7_hasPlace_4 : decode cX7_hasPlace 4 = .ok (.aload_n 0, 1) := dk_42 (dk_at dksX7_hasPlace_0 4 rfl rfl)
theorem dX7_hasPlace_5 : decode cX7_hasPlace 5 = .ok (.getfield 22, 3) := dk_180 0 22 (dk_at dksX7_hasPlace_0 5 rfl rfl)
theorem dX7_hasPlace_8 : decode cX7_hasPlace 8 = .ok (.iadd, 1) := dk_96 (dk_at dksX7_hasPlace_0 8 rfl rfl)
theorem dX7_hasPlace_9 : decode cX7_hasPlace 9 = .ok (.aload_n 0, 1) := dk_42 (dk_at dksX7_hasPlace_0 9 rfl rfl)
theorem dX7_hasPlace_10 : decode cX7_hasPlace 10 = .ok (.getfield 13, 3) := dk_180 0 13 (dk_at dksX7_hasPlace_0 10 rfl rfl)
theorem dX7_hasPlace_13 : decode cX7_hasPlace 13 = .ok (.if_icmp .ge 7, 3) := dk_162 0 7 (dk_at dksX7_hasPlace_0 13 rfl rfl)
theorem dX7_hasPlace_16 : decode cX7_hasPlace 16 = .ok (.iconst 1, 1) := dk_4 (dk_at dksX7_hasPlace_0 16 rfl rfl)
theorem dX7_hasPlace_17 : decode cX7_hasPlace 17 = .ok (.goto 4, 3) := dk_167 0 4 (dk_at dksX7_hasPlace_0 17 rfl rfl)
theorem dX7_hasPlace_20 : decode cX7_hasPlace 20 = .ok (.iconst 0, 1) := dk_3 (dk_at dksX7_hasPlace_0 20 rfl rfl)
theorem dX7_hasPlace_21 : decode cX7_hasPlace 21 = .ok (.ireturn, 1) := dk_172 (dk_at dksX7_hasPlace_0 21 rfl rfl)
theorem q111 : (Jvm.Cond.initialized "PatrolDesk$Garage") ∈ lw_all := lw_g (lw_at lw_m1 34 rfl) rfl
theorem q339 : (Jvm.Cond.selects "PatrolDesk$Garage" ({ cls := "java/lang/Object", name := "hashCode", desc := "()I" } : Jvm.MethodName) ({ cls := "java/lang/Object", name := "hashCode", desc := "()I" } : Jvm.MethodName)) ∈ lw_all := lw_g (lw_at lw_m2 22 rfl) rfl
theorem q370 : (Jvm.Cond.selects "PatrolDesk$Garage" ({ cls := "java/lang/Object", name := "equals", desc := "(Ljava/lang/Object;)Z" } : Jvm.MethodName) ({ cls := "java/lang/Object", name := "equals", desc := "(Ljava/lang/Object;)Z" } : Jvm.MethodName)) ∈ lw_all := lw_g (lw_at lw_m2 53 rfl) rfl
theorem q418 : (Jvm.Cond.selects "PatrolDesk$Garage" ({ cls := "java/lang/Object", name := "getClass", desc := "()Ljava/lang/Class;" } : Jvm.MethodName) ({ cls := "java/lang/Object", name := "getClass", desc := "()Ljava/lang/Class;" } : Jvm.MethodName)) ∈ lw_all := lw_g (lw_at lw_m2 101 rfl) rfl
theorem q1162 : (Jvm.Cond.instanceMethod ({ cls := "PatrolDesk$Garage", name := "copy", desc := "()LPatrolDesk$Garage;" } : Jvm.MethodName)) ∈ lw_all := lw_g (lw_at lw_m5 125 rfl) rfl
theorem q1163 : (Jvm.Cond.selects "PatrolDesk$Garage" ({ cls := "PatrolDesk$Garage", name := "copy", desc := "()LPatrolDesk$Garage;" } : Jvm.MethodName) ({ cls := "PatrolDesk$Garage", name := "copy", desc := "()LPatrolDesk$Garage;" } : Jvm.MethodName)) ∈ lw_all := lw_g (lw_at lw_m5 126 rfl) rfl
theorem q1164 : (Jvm.Cond.code ({ cls := "PatrolDesk$Garage", name := "copy", desc := "()LPatrolDesk$Garage;" } : Jvm.MethodName) prog_6_method_2_code (2 : Nat) (Option.some (Jvm.ClassFile.FieldType.object "PatrolDesk$Garage"))) ∈ lw_all := lw_g (lw_at lw_m5 127 rfl) rfl
theorem q1165 : (Jvm.Cond.classLink "PatrolDesk$Garage" (8 : Nat) "PatrolDesk$Garage") ∈ lw_all := lw_g (lw_at lw_m5 128 rfl) rfl
theorem q1166 : (Jvm.Cond.instantiable "PatrolDesk$Garage" (5 : Nat)) ∈ lw_all := lw_g (lw_at lw_m5 129 rfl) rfl
theorem q1167 : (Jvm.Cond.methodLink "PatrolDesk$Garage" (16 : Nat) ({ cls := "PatrolDesk$Garage", name := "<init>", desc := "(II)V" } : Jvm.MethodName)) ∈ lw_all := lw_g (lw_at lw_m5 130 rfl) rfl
theorem q1168 : (Jvm.Cond.instanceMethod ({ cls := "PatrolDesk$Garage", name := "<init>", desc := "(II)V" } : Jvm.MethodName)) ∈ lw_all := lw_g (lw_at lw_m5 131 rfl) rfl
theorem q1169 : (Jvm.Cond.code ({ cls := "PatrolDesk$Garage", name := "<init>", desc := "(II)V" } : Jvm.MethodName) prog_6_method_1_code (3 : Nat) (Option.none : Option Jvm.ClassFile.FieldType)) ∈ lw_all := lw_g (lw_at lw_m5 132 rfl) rfl
theorem q1170 : (Jvm.Cond.methodLink "PatrolDesk$Garage" (1 : Nat) ({ cls := "java/lang/Object", name := "<init>", desc := "()V" } : Jvm.MethodName)) ∈ lw_all := lw_g (lw_at lw_m5 133 rfl) rfl
theorem q1171 : (Jvm.Cond.fieldLink "PatrolDesk$Garage" (7 : Nat) "PatrolDesk$Garage" "area" "I") ∈ lw_all := lw_g (lw_at lw_m5 134 rfl) rfl
theorem q1174 : (Jvm.Cond.fieldLink "PatrolDesk$Garage" (13 : Nat) "PatrolDesk$Garage" "places" "I") ∈ lw_all := lw_g (lw_at lw_m5 137 rfl) rfl
theorem q1176 : (Jvm.Cond.fieldLink "PatrolDesk$Garage" (19 : Nat) "PatrolDesk$Garage" "cars" "I") ∈ lw_all := lw_g (lw_at lw_m5 139 rfl) rfl
theorem q1179 : (Jvm.Cond.fieldLink "PatrolDesk$Garage" (22 : Nat) "PatrolDesk$Garage" "coming" "I") ∈ lw_all := lw_g (lw_at lw_m5 142 rfl) rfl
theorem q1182 : (Jvm.Cond.fieldLink "PatrolDesk$Garage" (25 : Nat) "PatrolDesk$Garage" "towed" "I") ∈ lw_all := lw_g (lw_at lw_m5 145 rfl) rfl
theorem q1185 : (Jvm.Cond.laysFinal "PatrolDesk$Garage" "PatrolDesk$Garage" "area" "I") ∈ lw_all := lw_g (lw_at lw_m5 148 rfl) rfl
theorem q1186 : (Jvm.Cond.soleField "PatrolDesk$Garage" "area") ∈ lw_all := lw_g (lw_at lw_m5 149 rfl) rfl
theorem q1187 : (Jvm.Cond.laysFinal "PatrolDesk$Garage" "PatrolDesk$Garage" "places" "I") ∈ lw_all := lw_g (lw_at lw_m5 150 rfl) rfl
theorem q1188 : (Jvm.Cond.soleField "PatrolDesk$Garage" "places") ∈ lw_all := lw_g (lw_at lw_m5 151 rfl) rfl
theorem q1189 : (Jvm.Cond.lays "PatrolDesk$Garage" "PatrolDesk$Garage" "cars" "I") ∈ lw_all := lw_g (lw_at lw_m5 152 rfl) rfl
theorem q1190 : (Jvm.Cond.soleField "PatrolDesk$Garage" "cars") ∈ lw_all := lw_g (lw_at lw_m5 153 rfl) rfl
theorem q1191 : (Jvm.Cond.lays "PatrolDesk$Garage" "PatrolDesk$Garage" "coming" "I") ∈ lw_all := lw_g (lw_at lw_m5 154 rfl) rfl
theorem q1192 : (Jvm.Cond.soleField "PatrolDesk$Garage" "coming") ∈ lw_all := lw_g (lw_at lw_m5 155 rfl) rfl
theorem q1193 : (Jvm.Cond.lays "PatrolDesk$Garage" "PatrolDesk$Garage" "towed" "I") ∈ lw_all := lw_g (lw_at lw_m5 156 rfl) rfl
theorem q1194 : (Jvm.Cond.soleField "PatrolDesk$Garage" "towed") ∈ lw_all := lw_g (lw_at lw_m5 157 rfl) rfl
theorem q1195 : (Jvm.Cond.superclass "PatrolDesk$Garage" "java/lang/Object") ∈ lw_all := lw_g (lw_at lw_m5 158 rfl) rfl
theorem q1474 : (Jvm.Cond.instanceMethod ({ cls := "PatrolDesk$Garage", name := "hasPlace", desc := "()Z" } : Jvm.MethodName)) ∈ lw_all := lw_g (lw_at lw_m6 197 rfl) rfl
theorem q1475 : (Jvm.Cond.selects "PatrolDesk$Garage" ({ cls := "PatrolDesk$Garage", name := "hasPlace", desc := "()Z" } : Jvm.MethodName) ({ cls := "PatrolDesk$Garage", name := "hasPlace", desc := "()Z" } : Jvm.MethodName)) ∈ lw_all := lw_g (lw_at lw_m6 198 rfl) rfl
theorem q1476 : (Jvm.Cond.code ({ cls := "PatrolDesk$Garage", name := "hasPlace", desc := "()Z" } : Jvm.MethodName) prog_6_method_3_code (1 : Nat) (Option.some Jvm.ClassFile.FieldType.boolean)) ∈ lw_all := lw_g (lw_at lw_m6 199 rfl) rfl
theorem q2301 : (Jvm.Cond.castable "PatrolDesk$Garage" "java/lang/Object") ∈ lw_tbl := lw_at lw_m10 64 rfl
theorem in_X7 : ∀ w ∈ wsX70, w ∈ lw_all := lw_in wsX70 [1185, 1187, 1189, 1191, 1193] (by decide +kernel) (by decide +kernel)
/-! PatrolDesk$Call -/
set_option maxRecDepth 100000
def RX8 : String := "PatrolDesk$Call"
def TX8 : u_T := fun k => match k with
  | 0 => ("PatrolDesk$Call", "number", "I", true)
  | 1 => ("PatrolDesk$Call", "member", "I", true)
  | 2 => ("PatrolDesk$Call", "trouble", "I", true)
  | 3 => ("PatrolDesk$Call", "bound", "I", true)
  | 4 => ("PatrolDesk$Call", "came", "I", true)
  | 5 => ("PatrolDesk$Call", "isCallback", "Z", true)
  | 6 => ("PatrolDesk$Call", "area", "I", false)
  | 7 => ("PatrolDesk$Call", "state", "I", false)
  | 8 => ("PatrolDesk$Call", "patrol", "I", false)
  | 9 => ("PatrolDesk$Call", "first", "I", false)
  | 10 => ("PatrolDesk$Call", "until", "I", false)
  | 11 => ("PatrolDesk$Call", "ended", "I", false)
  | _ => ("PatrolDesk$Call", "garage", "I", false)
def tyX8 : Nat → FieldType := fun k => match k with
  | 0 => .int
  | 1 => .int
  | 2 => .int
  | 3 => .int
  | 4 => .int
  | 5 => .boolean
  | 6 => .int
  | 7 => .int
  | 8 => .int
  | 9 => .int
  | 10 => .int
  | 11 => .int
  | _ => .int
abbrev wsX80 : List Cond := u_ws RX8 TX8 13
set_option maxRecDepth 100000 in
theorem nmX8 : ∀ a, a < 13 → ∀ b, b < 13 → a ≠ b → (TX8 a).2.1 ≠ (TX8 b).2.1 := by decide +kernel
set_option maxRecDepth 100000 in
theorem tyX8_ok : ∀ k, k < 13 → parseFieldDescriptor (TX8 k).2.2.1 = some (tyX8 k) := by decide +kernel
abbrev cX8_copy : ByteArray := prog_4_method_2_code
def yX8_copy : MethodName := ⟨RX8, "copy", "()LPatrolDesk$Call;"⟩
def dkwX8_copy_3 : List UInt8 := [180, 0, 21, 181, 0, 21, 43, 42, 180, 0, 24, 181, 0, 24, 43, 176]
abbrev dktX8_copy_3 : List UInt8 := dkwX8_copy_3 ++ []
def dkwX8_copy_2 : List UInt8 := [180, 0, 9, 181, 0, 9, 43, 42, 180, 0, 15, 181, 0, 15, 43, 42, 180, 0, 18, 181, 0, 18, 43, 42]
abbrev dktX8_copy_2 : List UInt8 := dkwX8_copy_2 ++ dktX8_copy_3
def dkwX8_copy_1 : List UInt8 := [42, 180, 0, 42, 42, 180, 0, 45, 183, 0, 49, 76, 43, 42, 180, 0, 52, 181, 0, 52, 43, 42]
abbrev dktX8_copy_1 : List UInt8 := dkwX8_copy_1 ++ dktX8_copy_2
def dkwX8_copy_0 : List UInt8 := [187, 0, 10, 89, 42, 180, 0, 27, 42, 180, 0, 30, 42, 180, 0, 33, 42, 180, 0, 36, 42, 180, 0, 39]
abbrev dktX8_copy_0 : List UInt8 := dkwX8_copy_0 ++ dktX8_copy_1
theorem dksX8_copy_0 : cX8_copy.data.toList.drop 0 = dktX8_copy_0 := by decide +kernel
theorem dksX8_copy_1 : cX8_copy.data.toList.drop 24 = dktX8_copy_1 := dk_seg dksX8_copy_0 24 rfl rfl
theorem dksX8_copy_2 : cX8_copy.data.toList.drop 46 = dktX8_copy_2 := dk_seg dksX8_copy_1 22 rfl rfl
theorem dksX8_copy_3 : cX8_copy.data.toList.drop 70 = dktX8_copy_3 := dk_seg dksX8_copy_2 24 rfl rfl
theorem dX8_copy_0 : decode cX8_copy 0 = .ok (.new 10, 3) := dk_187 0 10 (dk_at dksX8_copy_0 0 rfl rfl)
theorem dX8_copy_3 : decode cX8_copy 3 = .ok (.dup, 1) := dk_89 (dk_at dksX8_copy_0 3 rfl rfl)
theorem dX8_copy_4 : decode cX8_copy 4 = .ok (.aload_n 0, 1) := dk_42 (dk_at dksX8_copy_0 4 rfl rfl)
theorem dX8_copy_5 : decode cX8_copy 5 = .ok (.getfield 27, 3) := dk_180 0 27 (dk_at dksX8_copy_0 5 rfl rfl)
theorem dX8_copy_8 : decode cX8_copy 8 = .ok (.aload_n 0, 1) := dk_42 (dk_at dksX8_copy_0 8 rfl rfl)
theorem dX8_copy_9 : decode cX8_copy 9 = .ok (.getfield 30, 3) := dk_180 0 30 (dk_at dksX8_copy_0 9 rfl rfl)
theorem dX8_copy_12 : decode cX8_copy 12 = .ok (.aload_n 0, 1) := dk_42 (dk_at dksX8_copy_0 12 rfl rfl)
theorem dX8_copy_13 : decode cX8_copy 13 = .ok (.getfield 33, 3) := dk_180 0 33 (dk_at dksX8_copy_0 13 rfl rfl)
theorem dX8_copy_16 : decode cX8_copy 16 = .ok (.aload_n 0, 1) := dk_42 (dk_at dksX8_copy_0 16 rfl rfl)
theorem dX8_copy_17 : decode cX8_copy 17 = .ok (.getfield 36, 3) := dk_180 0 36 (dk_at dksX8_copy_0 17 rfl rfl)
theorem dX8_copy_20 : decode cX8_copy 20 = .ok (.aload_n 0, 1) := dk_42 (dk_at dksX8_copy_0 20 rfl rfl)
theorem dX8_copy_21 : decode cX8_copy 21 = .ok (.getfield 39, 3) := dk_180 0 39 (dk_at dksX8_copy_0 21 rfl rfl)
theorem dX8_copy_24 : decode cX8_copy 24 = .ok (.aload_n 0, 1) := dk_42 (dk_at dksX8_copy_1 0 rfl rfl)
theorem dX8_copy_25 : decode cX8_copy 25 = .ok (.getfield 42, 3) := dk_180 0 42 (dk_at dksX8_copy_1 1 rfl rfl)
theorem dX8_copy_28 : decode cX8_copy 28 = .ok (.aload_n 0, 1) := dk_42 (dk_at dksX8_copy_1 4 rfl rfl)
theorem dX8_copy_29 : decode cX8_copy 29 = .ok (.getfield 45, 3) := dk_180 0 45 (dk_at dksX8_copy_1 5 rfl rfl)
theorem dX8_copy_32 : decode cX8_copy 32 = .ok (.invokespecial 49, 3) := dk_183 0 49 (dk_at dksX8_copy_1 8 rfl rfl)
theorem dX8_copy_35 : decode cX8_copy 35 = .ok (.astore_n 1, 1) := dk_76 (dk_at dksX8_copy_1 11 rfl rfl)
theorem dX8_copy_36 : decode cX8_copy 36 = .ok (.aload_n 1, 1) := dk_43 (dk_at dksX8_copy_1 12 rfl rfl)
theorem dX8_copy_37 : decode cX8_copy 37 = .ok (.aload_n 0, 1) := dk_42 (dk_at dksX8_copy_1 13 rfl rfl)
theorem dX8_copy_38 : decode cX8_copy 38 = .ok (.getfield 52, 3) := dk_180 0 52 (dk_at dksX8_copy_1 14 rfl rfl)
theorem dX8_copy_41 : decode cX8_copy 41 = .ok (.putfield 52, 3) := dk_181 0 52 (dk_at dksX8_copy_1 17 rfl rfl)
theorem dX8_copy_44 : decode cX8_copy 44 = .ok (.aload_n 1, 1) := dk_43 (dk_at dksX8_copy_1 20 rfl rfl)
theorem dX8_copy_45 : decode cX8_copy 45 = .ok (.aload_n 0, 1) := dk_42 (dk_at dksX8_copy_1 21 rfl rfl)
theorem dX8_copy_46 : decode cX8_copy 46 = .ok (.getfield 9, 3) := dk_180 0 9 (dk_at dksX8_copy_2 0 rfl rfl)
theorem dX8_copy_49 : decode cX8_copy 49 = .ok (.putfield 9, 3) := dk_181 0 9 (dk_at dksX8_copy_2 3 rfl rfl)
theorem dX8_copy_52 : decode cX8_copy 52 = .ok (.aload_n 1, 1) := dk_43 (dk_at dksX8_copy_2 6 rfl rfl)
theorem dX8_copy_53 : decode cX8_copy 53 = .ok (.aload_n 0, 1) := dk_42 (dk_at dksX8_copy_2 7 rfl rfl)
theorem dX8_copy_54 : decode cX8_copy 54 = .ok (.getfield 15, 3) := dk_180 0 15 (dk_at dksX8_copy_2 8 rfl rfl)
theorem dX8_copy_57 : decode cX8_copy 57 = .ok (.putfield 15, 3) := dk_181 0 15 (dk_at dksX8_copy_2 11 rfl rfl)
theorem dX8_copy_60 : decode cX8_copy 60 = .ok (.aload_n 1, 1) := dk_43 (dk_at dksX8_copy_2 14 rfl rfl)
theorem dX8_copy_61 : decode cX8_copy 61 = .ok (.aload_n 0, 1) := dk_42 (dk_at dksX8_copy_2 15 rfl rfl)
theorem dX8_copy_62 : decode cX8_copy 62 = .ok (.getfield 18, 3) := dk_180 0 18 (dk_at dksX8_copy_2 16 rfl rfl)
theorem dX8_copy_65 : decode cX8_copy 65 = .ok (.putfield 18, 3) := dk_181 0 18 (dk_at dksX8_copy_2 19 rfl rfl)
theorem dX8_copy_68 : decode cX8_copy 68 = .ok (.aload_n 1, 1) := dk_43 (dk_at dksX8_copy_2 22 rfl rfl)
theorem dX8_copy_69 : decode cX8_copy 69 = .ok (.aload_n 0, 1) := dk_42 (dk_at dksX8_copy_2 23 rfl rfl)
theorem dX8_copy_70 : decode cX8_copy 70 = .ok (.getfield 21, 3) := dk_180 0 21 (dk_at dksX8_copy_3 0 rfl rfl)
theorem dX8_copy_73 : decode cX8_copy 73 = .ok (.putfield 21, 3) := dk_181 0 21 (dk_at dksX8_copy_3 3 rfl rfl)
theorem dX8_copy_76 : decode cX8_copy 76 = .ok (.aload_n 1, 1) := dk_43 (dk_at dksX8_copy_3 6 rfl rfl)
theorem dX8_copy_77 : decode cX8_copy 77 = .ok (.aload_n 0, 1) := dk_42 (dk_at dksX8_copy_3 7 rfl rfl)
theorem dX8_copy_78 : decode cX8_copy 78 = .ok (.getfield 24, 3) := dk_180 0 24 (dk_at dksX8_copy_3 8 rfl rfl)
theorem dX8_copy_81 : decode cX8_copy 81 = .ok (.putfield 24, 3) := dk_181 0 24 (dk_at dksX8_copy_3 11 rfl rfl)
theorem dX8_copy_84 : decode cX8_copy 84 = .ok (.aload_n 1, 1) := dk_43 (dk_at dksX8_copy_3 14 rfl rfl)
theorem dX8_copy_85 : decode cX8_copy 85 = .ok (.areturn, 1) := dk_176 (dk_at dksX8_copy_3 15 rfl rfl)
abbrev cX8_init : ByteArray := prog_4_method_1_code
def yX8_init : MethodName := ⟨RX8, "<init>", "(IIIIIIZ)V"⟩
def dkwX8_init_3 : List UInt8 := [181, 0, 45, 177]
abbrev dktX8_init_3 : List UInt8 := dkwX8_init_3 ++ []
def dkwX8_init_2 : List UInt8 := [181, 0, 33, 42, 21, 4, 181, 0, 36, 42, 21, 5, 181, 0, 39, 42, 21, 6, 181, 0, 42, 42, 21, 7]
abbrev dktX8_init_2 : List UInt8 := dkwX8_init_2 ++ dktX8_init_3
def dkwX8_init_1 : List UInt8 := [16, 251, 181, 0, 21, 42, 16, 251, 181, 0, 24, 42, 27, 181, 0, 27, 42, 28, 181, 0, 30, 42, 29]
abbrev dktX8_init_1 : List UInt8 := dkwX8_init_1 ++ dktX8_init_2
def dkwX8_init_0 : List UInt8 := [42, 183, 0, 3, 42, 16, 251, 181, 0, 9, 42, 16, 251, 181, 0, 15, 42, 16, 251, 181, 0, 18, 42]
abbrev dktX8_init_0 : List UInt8 := dkwX8_init_0 ++ dktX8_init_1
theorem dksX8_init_0 : cX8_init.data.toList.drop 0 = dktX8_init_0 := by decide +kernel
theorem dksX8_init_1 : cX8_init.data.toList.drop 23 = dktX8_init_1 := dk_seg dksX8_init_0 23 rfl rfl
theorem dksX8_init_2 : cX8_init.data.toList.drop 46 = dktX8_init_2 := dk_seg dksX8_init_1 23 rfl rfl
theorem dksX8_init_3 : cX8_init.data.toList.drop 70 = dktX8_init_3 := dk_seg dksX8_init_2 24 rfl rfl
theorem dX8_init_0 : decode cX8_init 0 = .ok (.aload_n 0, 1) := dk_42 (dk_at dksX8_init_0 0 rfl rfl)
theorem dX8_init_1 : decode cX8_init 1 = .ok (.invokespecial 3, 3) := dk_183 0 3 (dk_at dksX8_init_0 1 rfl rfl)
theorem dX8_init_4 : decode cX8_init 4 = .ok (.aload_n 0, 1) := dk_42 (dk_at dksX8_init_0 4 rfl rfl)
theorem dX8_init_5 : decode cX8_init 5 = .ok (.bipush (-5), 2) := dk_16 251 (dk_at dksX8_init_0 5 rfl rfl)
theorem dX8_init_7 : decode cX8_init 7 = .ok (.putfield 9, 3) := dk_181 0 9 (dk_at dksX8_init_0 7 rfl rfl)
theorem dX8_init_10 : decode cX8_init 10 = .ok (.aload_n 0, 1) := dk_42 (dk_at dksX8_init_0 10 rfl rfl)
theorem dX8_init_11 : decode cX8_init 11 = .ok (.bipush (-5), 2) := dk_16 251 (dk_at dksX8_init_0 11 rfl rfl)
theorem dX8_init_13 : decode cX8_init 13 = .ok (.putfield 15, 3) := dk_181 0 15 (dk_at dksX8_init_0 13 rfl rfl)
theorem dX8_init_16 : decode cX8_init 16 = .ok (.aload_n 0, 1) := dk_42 (dk_at dksX8_init_0 16 rfl rfl)
theorem dX8_init_17 : decode cX8_init 17 = .ok (.bipush (-5), 2) := dk_16 251 (dk_at dksX8_init_0 17 rfl rfl)
theorem dX8_init_19 : decode cX8_init 19 = .ok (.putfield 18, 3) := dk_181 0 18 (dk_at dksX8_init_0 19 rfl rfl)
theorem dX8_init_22 : decode cX8_init 22 = .ok (.aload_n 0, 1) := dk_42 (dk_at dksX8_init_0 22 rfl rfl)
theorem dX8_init_23 : decode cX8_init 23 = .ok (.bipush (-5), 2) := dk_16 251 (dk_at dksX8_init_1 0 rfl rfl)
theorem dX8_init_25 : decode cX8_init 25 = .ok (.putfield 21, 3) := dk_181 0 21 (dk_at dksX8_init_1 2 rfl rfl)
theorem dX8_init_28 : decode cX8_init 28 = .ok (.aload_n 0, 1) := dk_42 (dk_at dksX8_init_1 5 rfl rfl)
theorem dX8_init_29 : decode cX8_init 29 = .ok (.bipush (-5), 2) := dk_16 251 (dk_at dksX8_init_1 6 rfl rfl)
theorem dX8_init_31 : decode cX8_init 31 = .ok (.putfield 24, 3) := dk_181 0 24 (dk_at dksX8_init_1 8 rfl rfl)
theorem dX8_init_34 : decode cX8_init 34 = .ok (.aload_n 0, 1) := dk_42 (dk_at dksX8_init_1 11 rfl rfl)
theorem dX8_init_35 : decode cX8_init 35 = .ok (.iload_n 1, 1) := dk_27 (dk_at dksX8_init_1 12 rfl rfl)
theorem dX8_init_36 : decode cX8_init 36 = .ok (.putfield 27, 3) := dk_181 0 27 (dk_at dksX8_init_1 13 rfl rfl)
theorem dX8_init_39 : decode cX8_init 39 = .ok (.aload_n 0, 1) := dk_42 (dk_at dksX8_init_1 16 rfl rfl)
theorem dX8_init_40 : decode cX8_init 40 = .ok (.iload_n 2, 1) := dk_28 (dk_at dksX8_init_1 17 rfl rfl)
theorem dX8_init_41 : decode cX8_init 41 = .ok (.putfield 30, 3) := dk_181 0 30 (dk_at dksX8_init_1 18 rfl rfl)
theorem dX8_init_44 : decode cX8_init 44 = .ok (.aload_n 0, 1) := dk_42 (dk_at dksX8_init_1 21 rfl rfl)
theorem dX8_init_45 : decode cX8_init 45 = .ok (.iload_n 3, 1) := dk_29 (dk_at dksX8_init_1 22 rfl rfl)
theorem dX8_init_46 : decode cX8_init 46 = .ok (.putfield 33, 3) := dk_181 0 33 (dk_at dksX8_init_2 0 rfl rfl)
theorem dX8_init_49 : decode cX8_init 49 = .ok (.aload_n 0, 1) := dk_42 (dk_at dksX8_init_2 3 rfl rfl)
theorem dX8_init_50 : decode cX8_init 50 = .ok (.iload 4, 2) := dk_21 4 (dk_at dksX8_init_2 4 rfl rfl)
theorem dX8_init_52 : decode cX8_init 52 = .ok (.putfield 36, 3) := dk_181 0 36 (dk_at dksX8_init_2 6 rfl rfl)
theorem dX8_init_55 : decode cX8_init 55 = .ok (.aload_n 0, 1) := dk_42 (dk_at dksX8_init_2 9 rfl rfl)
theorem dX8_init_56 : decode cX8_init 56 = .ok (.iload 5, 2) := dk_21 5 (dk_at dksX8_init_2 10 rfl rfl)
theorem dX8_init_58 : decode cX8_init 58 = .ok (.putfield 39, 3) := dk_181 0 39 (dk_at dksX8_init_2 12 rfl rfl)
theorem dX8_init_61 : decode cX8_init 61 = .ok (.aload_n 0, 1) := dk_42 (dk_at dksX8_init_2 15 rfl rfl)
theorem dX8_init_62 : decode cX8_init 62 = .ok (.iload 6, 2) := dk_21 6 (dk_at dksX8_init_2 16 rfl rfl)
theorem dX8_init_64 : decode cX8_init 64 = .ok (.putfield 42, 3) := dk_181 0 42 (dk_at dksX8_init_2 18 rfl rfl)
theorem dX8_init_67 : decode cX8_init 67 = .ok (.aload_n 0, 1) := dk_42 (dk_at dksX8_init_2 21 rfl rfl)
theorem dX8_init_68 : decode cX8_init 68 = .ok (.iload 7, 2) := dk_21 7 (dk_at dksX8_init_2 22 rfl rfl)
theorem dX8_init_70 : decode cX8_init 70 = .ok (.putfield 45, 3) := dk_181 0 45 (dk_at dksX8_init_3 0 rfl rfl)
theorem dX8_init_73 : decode cX8_init 73 = .ok (.return_, 1) := dk_177 (dk_at dksX8_init_3 3 rfl rfl)
abbrev cX8_isUnderWay : ByteArray := prog_4_method_3_code
def yX8_isUnderWay : MethodName := ⟨RX8, "isUnderWay", "()Z"⟩
def dkwX8_isUnderWay_0 : List UInt8 := [42, 180, 0, 52, 7, 163, 0, 7, 4, 167, 0, 4, 3, 172]
abbrev dktX8_isUnderWay_0 : List UInt8 := dkwX8_isUnderWay_0 ++ []
theorem dksX8_isUnderWay_0 : cX8_isUnderWay.data.toList.drop 0 = dktX8_isUnderWay_0 := by decide +kernel
theorem dX8_isUnderWay_0 : decode cX8_isUnderWay 0 = .ok (.aload_n 0, 1) := dk_42 (dk_at dksX8_isUnderWay_0 0 rfl rfl)
theorem dX8_isUnderWay_1 : decode cX8_isUnderWay 1 = .ok (.getfield 52, 3) := dk_180 0 52 (dk_at dksX8_isUnderWay_0 1 rfl rfl)
theorem dX8_isUnderWay_4 : decode cX8_isUnderWay 4 = .ok (.iconst 4, 1) := dk_7 (dk_at dksX8_isUnderWay_0 4 rfl rfl)
theorem dX8_isUnderWay_5 : decode cX8_isUnderWay 5 = .ok (.if_icmp .gt 7, 3) := dk_163 0 7 (dk_at dksX8_isUnderWay_0 5 rfl rfl)
theorem dX8_isUnderWay_8 : decode cX8_isUnderWay 8 = .ok (.iconst 1, 1) := dk_4 (dk_at dksX8_isUnderWay_0 8 rfl rfl)
theorem dX8_isUnderWay_9 : decode cX8_isUnderWay 9 = .ok (.goto 4, 3) := dk_167 0 4 (dk_at dksX8_isUnderWay_0 9 rfl rfl)
theorem dX8_isUnderWay_12 : decode cX8_isUnderWay 12 = .ok (.iconst 0, 1) := dk_3 (dk_at dksX8_isUnderWay_0 12 rfl rfl)
theorem dX8_isUnderWay_13 : decode cX8_isUnderWay 13 = .ok (.ireturn, 1) := dk_172 (dk_at dksX8_isUnderWay_0 13 rfl rfl)
abbrev cX8_end : ByteArray := prog_4_method_7_code
def yX8_end : MethodName := ⟨RX8, "end", "(II)V"⟩
def dkwX8_end_0 : List UInt8 := [42, 27, 181, 0, 52, 42, 16, 251, 181, 0, 9, 42, 28, 181, 0, 21, 177]
abbrev dktX8_end_0 : List UInt8 := dkwX8_end_0 ++ []
theorem dksX8_end_0 : cX8_end.data.toList.drop 0 = dktX8_end_0 := by decide +kernel
theorem dX8_end_0 : decode cX8_end 0 = .ok (.aload_n 0, 1) := dk_42 (dk_at dksX8_end_0 0 rfl rfl)
theorem dX8_end_1 : decode cX8_end 1 = .ok (.iload_n 1, 1) := dk_27 (dk_at dksX8_end_0 1 rfl rfl)
theorem dX8_end_2 : decode cX8_end 2 = .ok (.putfield 52, 3) := dk_181 0 52 (dk_at dksX8_end_0 2 rfl rfl)
theorem dX8_end_5 : decode cX8_end 5 = .ok (.aload_n 0, 1) := dk_42 (dk_at dksX8_end_0 5 rfl rfl)
theorem dX8_end_6 : decode cX8_end 6 = .ok (.bipush (-5), 2) := dk_16 251 (dk_at dksX8_end_0 6 rfl rfl)
theorem dX8_end_8 : decode cX8_end 8 = .ok (.putfield 9, 3) := dk_181 0 9 (dk_at dksX8_end_0 8 rfl rfl)
theorem dX8_end_11 : decode cX8_end 11 = .ok (.aload_n 0, 1) := dk_42 (dk_at dksX8_end_0 11 rfl rfl)
theorem dX8_end_12 : decode cX8_end 12 = .ok (.iload_n 2, 1) := dk_28 (dk_at dksX8_end_0 12 rfl rfl)
theorem dX8_end_13 : decode cX8_end 13 = .ok (.putfield 21, 3) := dk_181 0 21 (dk_at dksX8_end_0 13 rfl rfl)
theorem dX8_end_16 : decode cX8_end 16 = .ok (.return_, 1) := dk_177 (dk_at dksX8_end_0 16 rfl rfl)
abbrev cX8_waited : ByteArray := prog_4_method_5_code
def yX8_waited : MethodName := ⟨RX8, "waited", "(I)I"⟩
def dkwX8_waited_0 : List UInt8 := [42, 180, 0, 18, 16, 251, 160, 0, 7, 27, 167, 0, 7, 42, 180, 0, 18, 42, 180, 0, 42, 100, 172]
abbrev dktX8_waited_0 : List UInt8 := dkwX8_waited_0 ++ []
theorem dksX8_waited_0 : cX8_waited.data.toList.drop 0 = dktX8_waited_0 := by decide +kernel
theorem dX8_waited_0 : decode cX8_waited 0 = .ok (.aload_n 0, 1) := dk_42 (dk_at dksX8_waited_0 0 rfl rfl)
theorem dX8_waited_1 : decode cX8_waited 1 = .ok (.getfield 18, 3) := dk_180 0 18 (dk_at dksX8_waited_0 1 rfl rfl)
theorem dX8_waited_4 : decode cX8_waited 4 = .ok (.bipush (-5), 2) := dk_16 251 (dk_at dksX8_waited_0 4 rfl rfl)
theorem dX8_waited_6 : decode cX8_waited 6 = .ok (.if_icmp .ne 7, 3) := dk_160 0 7 (dk_at dksX8_waited_0 6 rfl rfl)
theorem dX8_waited_9 : decode cX8_waited 9 = .ok (.iload_n 1, 1) := dk_27 (dk_at dksX8_waited_0 9 rfl rfl)
theorem dX8_waited_10 : decode cX8_waited 10 = .ok (.goto 7, 3) := dk_167 0 7 (dk_at dksX8_waited_0 10 rfl rfl)
theorem dX8_waited_13 : decode cX8_waited 13 = .ok (.aload_n 0, 1) := dk_42 (dk_at dksX8_waited_0 13 rfl rfl)
theorem dX8_waited_14 : decode cX8_waited 14 = .ok (.getfield 18, 3) := dk_180 0 18 (dk_at dksX8_waited_0 14 rfl rfl)
theorem dX8_waited_17 : decode cX8_waited 17 = .ok (.aload_n 0, 1) := dk_42 (dk_at dksX8_waited_0 17 rfl rfl)
theorem dX8_waited_18 : decode cX8_waited 18 = .ok (.getfield 42, 3) := dk_180 0 42 (dk_at dksX8_waited_0 18 rfl rfl)
theorem dX8_waited_21 : decode cX8_waited 21 = .ok (.isub, 1) := dk_100 (dk_at dksX8_waited_0 21 rfl rfl)
theorem dX8_waited_22 : decode cX8_waited 22 = .ok (.ireturn, 1) := dk_172 (dk_at dksX8_waited_0 22 rfl rfl)
abbrev cX8_waitForTow : ByteArray := prog_4_method_8_code
def yX8_waitForTow : MethodName := ⟨RX8, "waitForTow", "(I)V"⟩
def dkwX8_waitForTow_0 : List UInt8 := [42, 27, 181, 0, 33, 42, 6, 181, 0, 52, 42, 16, 251, 181, 0, 9, 177]
abbrev dktX8_waitForTow_0 : List UInt8 := dkwX8_waitForTow_0 ++ []
theorem dksX8_waitForTow_0 : cX8_waitForTow.data.toList.drop 0 = dktX8_waitForTow_0 := by decide +kernel
theorem dX8_waitForTow_0 : decode cX8_waitForTow 0 = .ok (.aload_n 0, 1) := dk_42 (dk_at dksX8_waitForTow_0 0 rfl rfl)
theorem dX8_waitForTow_1 : decode cX8_waitForTow 1 = .ok (.iload_n 1, 1) := dk_27 (dk_at dksX8_waitForTow_0 1 rfl rfl)
theorem dX8_waitForTow_2 : decode cX8_waitForTow 2 = .ok (.putfield 33, 3) := dk_181 0 33 (dk_at dksX8_waitForTow_0 2 rfl rfl)
theorem dX8_waitForTow_5 : decode cX8_waitForTow 5 = .ok (.aload_n 0, 1) := dk_42 (dk_at dksX8_waitForTow_0 5 rfl rfl)
theorem dX8_waitForTow_6 : decode cX8_waitForTow 6 = .ok (.iconst 3, 1) := dk_6 (dk_at dksX8_waitForTow_0 6 rfl rfl)
theorem dX8_waitForTow_7 : decode cX8_waitForTow 7 = .ok (.putfield 52, 3) := dk_181 0 52 (dk_at dksX8_waitForTow_0 7 rfl rfl)
theorem dX8_waitForTow_10 : decode cX8_waitForTow 10 = .ok (.aload_n 0, 1) := dk_42 (dk_at dksX8_waitForTow_0 10 rfl rfl)
theorem dX8_waitForTow_11 : decode cX8_waitForTow 11 = .ok (.bipush (-5), 2) := dk_16 251 (dk_at dksX8_waitForTow_0 11 rfl rfl)
theorem dX8_waitForTow_13 : decode cX8_waitForTow 13 = .ok (.putfield 9, 3) := dk_181 0 9 (dk_at dksX8_waitForTow_0 13 rfl rfl)
theorem dX8_waitForTow_16 : decode cX8_waitForTow 16 = .ok (.return_, 1) := dk_177 (dk_at dksX8_waitForTow_0 16 rfl rfl)
abbrev cX8_isWaiting : ByteArray := prog_4_method_4_code
def yX8_isWaiting : MethodName := ⟨RX8, "isWaiting", "()Z"⟩
def dkwX8_isWaiting_1 : List UInt8 := [4, 167, 0, 4, 3, 172]
abbrev dktX8_isWaiting_1 : List UInt8 := dkwX8_isWaiting_1 ++ []
def dkwX8_isWaiting_0 : List UInt8 := [42, 180, 0, 52, 153, 0, 20, 42, 180, 0, 52, 6, 160, 0, 16, 42, 180, 0, 9, 16, 251, 160, 0, 7]
abbrev dktX8_isWaiting_0 : List UInt8 := dkwX8_isWaiting_0 ++ dktX8_isWaiting_1
theorem dksX8_isWaiting_0 : cX8_isWaiting.data.toList.drop 0 = dktX8_isWaiting_0 := by decide +kernel
theorem dksX8_isWaiting_1 : cX8_isWaiting.data.toList.drop 24 = dktX8_isWaiting_1 := dk_seg dksX8_isWaiting_0 24 rfl rfl
theorem dX8_isWaiting_0 : decode cX8_isWaiting 0 = .ok (.aload_n 0, 1) := dk_42 (dk_at dksX8_isWaiting_0 0 rfl rfl)
theorem dX8_isWaiting_1 : decode cX8_isWaiting 1 = .ok (.getfield 52, 3) := dk_180 0 52 (dk_at dksX8_isWaiting_0 1 rfl rfl)
theorem dX8_isWaiting_4 : decode cX8_isWaiting 4 = .ok (.ifCond .eq 20, 3) := dk_153 0 20 (dk_at dksX8_isWaiting_0 4 rfl rfl)
theorem dX8_isWaiting_7 : decode cX8_isWaiting 7 = .ok (.aload_n 0, 1) := dk_42 (dk_at dksX8_isWaiting_0 7 rfl rfl)
theorem dX8_isWaiting_8 : decode cX8_isWaiting 8 = .ok (.getfield 52, 3) := dk_180 0 52 (dk_at dksX8_isWaiting_0 8 rfl rfl)
theorem dX8_isWaiting_11 : decode cX8_isWaiting 11 = .ok (.iconst 3, 1) := dk_6 (dk_at dksX8_isWaiting_0 11 rfl rfl)
theorem dX8_isWaiting_12 : decode cX8_isWaiting 12 = .ok (.if_icmp .ne 16, 3) := dk_160 0 16 (dk_at dksX8_isWaiting_0 12 rfl rfl)
theorem dX8_isWaiting_15 : decode cX8_isWaiting 15 = .ok (.aload_n 0, 1) := dk_42 (dk_at dksX8_isWaiting_0 15 rfl rfl)
theorem dX8_isWaiting_16 : decode cX8_isWaiting 16 = .ok (.getfield 9, 3) := dk_180 0 9 (dk_at dksX8_isWaiting_0 16 rfl rfl)
theorem dX8_isWaiting_19 : decode cX8_isWaiting 19 = .ok (.bipush (-5), 2) := dk_16 251 (dk_at dksX8_isWaiting_0 19 rfl rfl)
theorem dX8_isWaiting_21 : decode cX8_isWaiting 21 = .ok (.if_icmp .ne 7, 3) := dk_160 0 7 (dk_at dksX8_isWaiting_0 21 rfl rfl)
theorem dX8_isWaiting_24 : decode cX8_isWaiting 24 = .ok (.iconst 1, 1) := dk_4 (dk_at dksX8_isWaiting_1 0 rfl rfl)
theorem dX8_isWaiting_25 : decode cX8_isWaiting 25 = .ok (.goto 4, 3) := dk_167 0 4 (dk_at dksX8_isWaiting_1 1 rfl rfl)
theorem dX8_isWaiting_28 : decode cX8_isWaiting 28 = .ok (.iconst 0, 1) := dk_3 (dk_at dksX8_isWaiting_1 4 rfl rfl)
theorem dX8_isWaiting_29 : decode cX8_isWaiting 29 = .ok (.ireturn, 1) := dk_172 (dk_at dksX8_isWaiting_1 5 rfl rfl)
abbrev cX8_rest : ByteArray := prog_4_method_6_code
def yX8_rest : MethodName := ⟨RX8, "rest", "(I)I"⟩
def dkwX8_rest_0 : List UInt8 := [42, 180, 0, 39, 27, 42, 180, 0, 42, 100, 100, 172]
abbrev dktX8_rest_0 : List UInt8 := dkwX8_rest_0 ++ []
theorem dksX8_rest_0 : cX8_rest.data.toList.drop 0 = dktX8_rest_0 := by decide +kernel
theorem dX8_rest_0 : decode cX8_rest 0 = .ok (.aload_n 0, 1) := dk_42 (dk_at dksX8_rest_0 0 rfl rfl)
theorem dX8_rest_1 : decode cX8_rest 1 = .ok (.getfield 39, 3) := dk_180 0 39 (dk_at dksX8_rest_0 1 rfl rfl)
theorem dX8_rest_4 : decode cX8_rest 4 = .ok (.iload_n 1, 1) := dk_27 (dk_at dksX8_rest_0 4 rfl rfl)
theorem dX8_rest_5 : decode cX8_rest 5 = .ok (.aload_n 0, 1) := dk_42 (dk_at dksX8_rest_0 5 rfl rfl)
theorem dX8_rest_6 : decode cX8_rest 6 = .ok (.getfield 42, 3) := dk_180 0 42 (dk_at dksX8_rest_0 6 rfl rfl)
theorem dX8_rest_9 : decode cX8_rest 9 = .ok (.isub, 1) := dk_100 (dk_at dksX8_rest_0 9 rfl rfl)
theorem dX8_rest_10 : decode cX8_rest 10 = .ok (.isub, 1) := dk_100 (dk_at dksX8_rest_0 10 rfl rfl)
theorem dX8_rest_11 : decode cX8_rest 11 = .ok (.ireturn, 1) := dk_172 (dk_at dksX8_rest_0 11 rfl rfl)
theorem q112 : (Jvm.Cond.initialized "PatrolDesk$Call") ∈ lw_all := lw_g (lw_at lw_m1 35 rfl) rfl
theorem q338 : (Jvm.Cond.selects "PatrolDesk$Call" ({ cls := "java/lang/Object", name := "hashCode", desc := "()I" } : Jvm.MethodName) ({ cls := "java/lang/Object", name := "hashCode", desc := "()I" } : Jvm.MethodName)) ∈ lw_all := lw_g (lw_at lw_m2 21 rfl) rfl
theorem q369 : (Jvm.Cond.selects "PatrolDesk$Call" ({ cls := "java/lang/Object", name := "equals", desc := "(Ljava/lang/Object;)Z" } : Jvm.MethodName) ({ cls := "java/lang/Object", name := "equals", desc := "(Ljava/lang/Object;)Z" } : Jvm.MethodName)) ∈ lw_all := lw_g (lw_at lw_m2 52 rfl) rfl
theorem q417 : (Jvm.Cond.selects "PatrolDesk$Call" ({ cls := "java/lang/Object", name := "getClass", desc := "()Ljava/lang/Class;" } : Jvm.MethodName) ({ cls := "java/lang/Object", name := "getClass", desc := "()Ljava/lang/Class;" } : Jvm.MethodName)) ∈ lw_all := lw_g (lw_at lw_m2 100 rfl) rfl
theorem q1198 : (Jvm.Cond.instanceMethod ({ cls := "PatrolDesk$Call", name := "copy", desc := "()LPatrolDesk$Call;" } : Jvm.MethodName)) ∈ lw_all := lw_g (lw_at lw_m5 161 rfl) rfl
theorem q1199 : (Jvm.Cond.selects "PatrolDesk$Call" ({ cls := "PatrolDesk$Call", name := "copy", desc := "()LPatrolDesk$Call;" } : Jvm.MethodName) ({ cls := "PatrolDesk$Call", name := "copy", desc := "()LPatrolDesk$Call;" } : Jvm.MethodName)) ∈ lw_all := lw_g (lw_at lw_m5 162 rfl) rfl
theorem q1200 : (Jvm.Cond.code ({ cls := "PatrolDesk$Call", name := "copy", desc := "()LPatrolDesk$Call;" } : Jvm.MethodName) prog_4_method_2_code (2 : Nat) (Option.some (Jvm.ClassFile.FieldType.object "PatrolDesk$Call"))) ∈ lw_all := lw_g (lw_at lw_m5 163 rfl) rfl
theorem q1201 : (Jvm.Cond.classLink "PatrolDesk$Call" (10 : Nat) "PatrolDesk$Call") ∈ lw_all := lw_g (lw_at lw_m5 164 rfl) rfl
theorem q1202 : (Jvm.Cond.instantiable "PatrolDesk$Call" (13 : Nat)) ∈ lw_all := lw_g (lw_at lw_m5 165 rfl) rfl
theorem q1203 : (Jvm.Cond.methodLink "PatrolDesk$Call" (49 : Nat) ({ cls := "PatrolDesk$Call", name := "<init>", desc := "(IIIIIIZ)V" } : Jvm.MethodName)) ∈ lw_all := lw_g (lw_at lw_m5 166 rfl) rfl
theorem q1204 : (Jvm.Cond.instanceMethod ({ cls := "PatrolDesk$Call", name := "<init>", desc := "(IIIIIIZ)V" } : Jvm.MethodName)) ∈ lw_all := lw_g (lw_at lw_m5 167 rfl) rfl
theorem q1205 : (Jvm.Cond.code ({ cls := "PatrolDesk$Call", name := "<init>", desc := "(IIIIIIZ)V" } : Jvm.MethodName) prog_4_method_1_code (8 : Nat) (Option.none : Option Jvm.ClassFile.FieldType)) ∈ lw_all := lw_g (lw_at lw_m5 168 rfl) rfl
theorem q1206 : (Jvm.Cond.methodLink "PatrolDesk$Call" (3 : Nat) ({ cls := "java/lang/Object", name := "<init>", desc := "()V" } : Jvm.MethodName)) ∈ lw_all := lw_g (lw_at lw_m5 169 rfl) rfl
theorem q1207 : (Jvm.Cond.fieldLink "PatrolDesk$Call" (27 : Nat) "PatrolDesk$Call" "number" "I") ∈ lw_all := lw_g (lw_at lw_m5 170 rfl) rfl
theorem q1210 : (Jvm.Cond.fieldLink "PatrolDesk$Call" (30 : Nat) "PatrolDesk$Call" "member" "I") ∈ lw_all := lw_g (lw_at lw_m5 173 rfl) rfl
theorem q1213 : (Jvm.Cond.fieldLink "PatrolDesk$Call" (36 : Nat) "PatrolDesk$Call" "trouble" "I") ∈ lw_all := lw_g (lw_at lw_m5 176 rfl) rfl
theorem q1216 : (Jvm.Cond.fieldLink "PatrolDesk$Call" (39 : Nat) "PatrolDesk$Call" "bound" "I") ∈ lw_all := lw_g (lw_at lw_m5 179 rfl) rfl
theorem q1219 : (Jvm.Cond.fieldLink "PatrolDesk$Call" (42 : Nat) "PatrolDesk$Call" "came" "I") ∈ lw_all := lw_g (lw_at lw_m5 182 rfl) rfl
theorem q1221 : (Jvm.Cond.fieldLink "PatrolDesk$Call" (45 : Nat) "PatrolDesk$Call" "isCallback" "Z") ∈ lw_all := lw_g (lw_at lw_m5 184 rfl) rfl
theorem q1224 : (Jvm.Cond.fieldLink "PatrolDesk$Call" (33 : Nat) "PatrolDesk$Call" "area" "I") ∈ lw_all := lw_g (lw_at lw_m5 187 rfl) rfl
theorem q1227 : (Jvm.Cond.fieldLink "PatrolDesk$Call" (52 : Nat) "PatrolDesk$Call" "state" "I") ∈ lw_all := lw_g (lw_at lw_m5 190 rfl) rfl
theorem q1230 : (Jvm.Cond.fieldLink "PatrolDesk$Call" (9 : Nat) "PatrolDesk$Call" "patrol" "I") ∈ lw_all := lw_g (lw_at lw_m5 193 rfl) rfl
theorem q1233 : (Jvm.Cond.fieldLink "PatrolDesk$Call" (15 : Nat) "PatrolDesk$Call" "first" "I") ∈ lw_all := lw_g (lw_at lw_m5 196 rfl) rfl
theorem q1236 : (Jvm.Cond.fieldLink "PatrolDesk$Call" (18 : Nat) "PatrolDesk$Call" "until" "I") ∈ lw_all := lw_g (lw_at lw_m5 199 rfl) rfl
theorem q1239 : (Jvm.Cond.fieldLink "PatrolDesk$Call" (21 : Nat) "PatrolDesk$Call" "ended" "I") ∈ lw_all := lw_g (lw_at lw_m5 202 rfl) rfl
theorem q1241 : (Jvm.Cond.fieldLink "PatrolDesk$Call" (24 : Nat) "PatrolDesk$Call" "garage" "I") ∈ lw_all := lw_g (lw_at lw_m5 204 rfl) rfl
theorem q1244 : (Jvm.Cond.laysFinal "PatrolDesk$Call" "PatrolDesk$Call" "number" "I") ∈ lw_all := lw_g (lw_at lw_m5 207 rfl) rfl
theorem q1245 : (Jvm.Cond.soleField "PatrolDesk$Call" "number") ∈ lw_all := lw_g (lw_at lw_m5 208 rfl) rfl
theorem q1246 : (Jvm.Cond.laysFinal "PatrolDesk$Call" "PatrolDesk$Call" "member" "I") ∈ lw_all := lw_g (lw_at lw_m5 209 rfl) rfl
theorem q1247 : (Jvm.Cond.soleField "PatrolDesk$Call" "member") ∈ lw_all := lw_g (lw_at lw_m5 210 rfl) rfl
theorem q1248 : (Jvm.Cond.laysFinal "PatrolDesk$Call" "PatrolDesk$Call" "trouble" "I") ∈ lw_all := lw_g (lw_at lw_m5 211 rfl) rfl
theorem q1249 : (Jvm.Cond.soleField "PatrolDesk$Call" "trouble") ∈ lw_all := lw_g (lw_at lw_m5 212 rfl) rfl
theorem q1250 : (Jvm.Cond.laysFinal "PatrolDesk$Call" "PatrolDesk$Call" "bound" "I") ∈ lw_all := lw_g (lw_at lw_m5 213 rfl) rfl
theorem q1251 : (Jvm.Cond.soleField "PatrolDesk$Call" "bound") ∈ lw_all := lw_g (lw_at lw_m5 214 rfl) rfl
theorem q1252 : (Jvm.Cond.laysFinal "PatrolDesk$Call" "PatrolDesk$Call" "came" "I") ∈ lw_all := lw_g (lw_at lw_m5 215 rfl) rfl
theorem q1253 : (Jvm.Cond.soleField "PatrolDesk$Call" "came") ∈ lw_all := lw_g (lw_at lw_m5 216 rfl) rfl
theorem q1254 : (Jvm.Cond.laysFinal "PatrolDesk$Call" "PatrolDesk$Call" "isCallback" "Z") ∈ lw_all := lw_g (lw_at lw_m5 217 rfl) rfl
theorem q1255 : (Jvm.Cond.soleField "PatrolDesk$Call" "isCallback") ∈ lw_all := lw_g (lw_at lw_m5 218 rfl) rfl
theorem q1256 : (Jvm.Cond.lays "PatrolDesk$Call" "PatrolDesk$Call" "area" "I") ∈ lw_all := lw_g (lw_at lw_m5 219 rfl) rfl
theorem q1257 : (Jvm.Cond.soleField "PatrolDesk$Call" "area") ∈ lw_all := lw_g (lw_at lw_m5 220 rfl) rfl
theorem q1258 : (Jvm.Cond.lays "PatrolDesk$Call" "PatrolDesk$Call" "state" "I") ∈ lw_all := lw_g (lw_at lw_m5 221 rfl) rfl
theorem q1259 : (Jvm.Cond.soleField "PatrolDesk$Call" "state") ∈ lw_all := lw_g (lw_at lw_m5 222 rfl) rfl
theorem q1260 : (Jvm.Cond.lays "PatrolDesk$Call" "PatrolDesk$Call" "patrol" "I") ∈ lw_all := lw_g (lw_at lw_m5 223 rfl) rfl
theorem q1261 : (Jvm.Cond.soleField "PatrolDesk$Call" "patrol") ∈ lw_all := lw_g (lw_at lw_m5 224 rfl) rfl
theorem q1262 : (Jvm.Cond.lays "PatrolDesk$Call" "PatrolDesk$Call" "first" "I") ∈ lw_all := lw_g (lw_at lw_m5 225 rfl) rfl
theorem q1263 : (Jvm.Cond.soleField "PatrolDesk$Call" "first") ∈ lw_all := lw_g (lw_at lw_m5 226 rfl) rfl
theorem q1264 : (Jvm.Cond.lays "PatrolDesk$Call" "PatrolDesk$Call" "until" "I") ∈ lw_all := lw_g (lw_at lw_m5 227 rfl) rfl
theorem q1265 : (Jvm.Cond.soleField "PatrolDesk$Call" "until") ∈ lw_all := lw_g (lw_at lw_m5 228 rfl) rfl
theorem q1266 : (Jvm.Cond.lays "PatrolDesk$Call" "PatrolDesk$Call" "ended" "I") ∈ lw_all := lw_g (lw_at lw_m5 229 rfl) rfl
theorem q1267 : (Jvm.Cond.soleField "PatrolDesk$Call" "ended") ∈ lw_all := lw_g (lw_at lw_m5 230 rfl) rfl
theorem q1268 : (Jvm.Cond.lays "PatrolDesk$Call" "PatrolDesk$Call" "garage" "I") ∈ lw_all := lw_g (lw_at lw_m5 231 rfl) rfl
theorem q1269 : (Jvm.Cond.soleField "PatrolDesk$Call" "garage") ∈ lw_all := lw_g (lw_at lw_m5 232 rfl) rfl
theorem q1270 : (Jvm.Cond.superclass "PatrolDesk$Call" "java/lang/Object") ∈ lw_all := lw_g (lw_at lw_m5 233 rfl) rfl
theorem q1379 : (Jvm.Cond.instanceMethod ({ cls := "PatrolDesk$Call", name := "isUnderWay", desc := "()Z" } : Jvm.MethodName)) ∈ lw_all := lw_g (lw_at lw_m6 102 rfl) rfl
theorem q1380 : (Jvm.Cond.selects "PatrolDesk$Call" ({ cls := "PatrolDesk$Call", name := "isUnderWay", desc := "()Z" } : Jvm.MethodName) ({ cls := "PatrolDesk$Call", name := "isUnderWay", desc := "()Z" } : Jvm.MethodName)) ∈ lw_all := lw_g (lw_at lw_m6 103 rfl) rfl
theorem q1381 : (Jvm.Cond.code ({ cls := "PatrolDesk$Call", name := "isUnderWay", desc := "()Z" } : Jvm.MethodName) prog_4_method_3_code (1 : Nat) (Option.some Jvm.ClassFile.FieldType.boolean)) ∈ lw_all := lw_g (lw_at lw_m6 104 rfl) rfl
theorem q1407 : (Jvm.Cond.instanceMethod ({ cls := "PatrolDesk$Call", name := "end", desc := "(II)V" } : Jvm.MethodName)) ∈ lw_all := lw_g (lw_at lw_m6 130 rfl) rfl
theorem q1408 : (Jvm.Cond.selects "PatrolDesk$Call" ({ cls := "PatrolDesk$Call", name := "end", desc := "(II)V" } : Jvm.MethodName) ({ cls := "PatrolDesk$Call", name := "end", desc := "(II)V" } : Jvm.MethodName)) ∈ lw_all := lw_g (lw_at lw_m6 131 rfl) rfl
theorem q1409 : (Jvm.Cond.code ({ cls := "PatrolDesk$Call", name := "end", desc := "(II)V" } : Jvm.MethodName) prog_4_method_7_code (3 : Nat) (Option.none : Option Jvm.ClassFile.FieldType)) ∈ lw_all := lw_g (lw_at lw_m6 132 rfl) rfl
theorem q1411 : (Jvm.Cond.instanceMethod ({ cls := "PatrolDesk$Call", name := "waited", desc := "(I)I" } : Jvm.MethodName)) ∈ lw_all := lw_g (lw_at lw_m6 134 rfl) rfl
theorem q1412 : (Jvm.Cond.selects "PatrolDesk$Call" ({ cls := "PatrolDesk$Call", name := "waited", desc := "(I)I" } : Jvm.MethodName) ({ cls := "PatrolDesk$Call", name := "waited", desc := "(I)I" } : Jvm.MethodName)) ∈ lw_all := lw_g (lw_at lw_m6 135 rfl) rfl
theorem q1413 : (Jvm.Cond.code ({ cls := "PatrolDesk$Call", name := "waited", desc := "(I)I" } : Jvm.MethodName) prog_4_method_5_code (2 : Nat) (Option.some Jvm.ClassFile.FieldType.int)) ∈ lw_all := lw_g (lw_at lw_m6 136 rfl) rfl
theorem q1478 : (Jvm.Cond.instanceMethod ({ cls := "PatrolDesk$Call", name := "waitForTow", desc := "(I)V" } : Jvm.MethodName)) ∈ lw_all := lw_g (lw_at lw_m6 201 rfl) rfl
theorem q1479 : (Jvm.Cond.selects "PatrolDesk$Call" ({ cls := "PatrolDesk$Call", name := "waitForTow", desc := "(I)V" } : Jvm.MethodName) ({ cls := "PatrolDesk$Call", name := "waitForTow", desc := "(I)V" } : Jvm.MethodName)) ∈ lw_all := lw_g (lw_at lw_m6 202 rfl) rfl
theorem q1480 : (Jvm.Cond.code ({ cls := "PatrolDesk$Call", name := "waitForTow", desc := "(I)V" } : Jvm.MethodName) prog_4_method_8_code (2 : Nat) (Option.none : Option Jvm.ClassFile.FieldType)) ∈ lw_all := lw_g (lw_at lw_m6 203 rfl) rfl
theorem q1596 : (Jvm.Cond.instanceMethod ({ cls := "PatrolDesk$Call", name := "isWaiting", desc := "()Z" } : Jvm.MethodName)) ∈ lw_all := lw_g (lw_at lw_m7 79 rfl) rfl
theorem q1597 : (Jvm.Cond.selects "PatrolDesk$Call" ({ cls := "PatrolDesk$Call", name := "isWaiting", desc := "()Z" } : Jvm.MethodName) ({ cls := "PatrolDesk$Call", name := "isWaiting", desc := "()Z" } : Jvm.MethodName)) ∈ lw_all := lw_g (lw_at lw_m7 80 rfl) rfl
theorem q1598 : (Jvm.Cond.code ({ cls := "PatrolDesk$Call", name := "isWaiting", desc := "()Z" } : Jvm.MethodName) prog_4_method_4_code (1 : Nat) (Option.some Jvm.ClassFile.FieldType.boolean)) ∈ lw_all := lw_g (lw_at lw_m7 81 rfl) rfl
theorem q1604 : (Jvm.Cond.instanceMethod ({ cls := "PatrolDesk$Call", name := "rest", desc := "(I)I" } : Jvm.MethodName)) ∈ lw_all := lw_g (lw_at lw_m7 87 rfl) rfl
theorem q1605 : (Jvm.Cond.selects "PatrolDesk$Call" ({ cls := "PatrolDesk$Call", name := "rest", desc := "(I)I" } : Jvm.MethodName) ({ cls := "PatrolDesk$Call", name := "rest", desc := "(I)I" } : Jvm.MethodName)) ∈ lw_all := lw_g (lw_at lw_m7 88 rfl) rfl
theorem q1606 : (Jvm.Cond.code ({ cls := "PatrolDesk$Call", name := "rest", desc := "(I)I" } : Jvm.MethodName) prog_4_method_6_code (2 : Nat) (Option.some Jvm.ClassFile.FieldType.int)) ∈ lw_all := lw_g (lw_at lw_m7 89 rfl) rfl
theorem q2302 : (Jvm.Cond.castable "PatrolDesk$Call" "java/lang/Object") ∈ lw_tbl := lw_at lw_m10 65 rfl
theorem in_X8 : ∀ w ∈ wsX80, w ∈ lw_all := lw_in wsX80 [1244, 1246, 1248, 1250, 1252, 1254, 1256, 1258, 1260, 1262, 1264, 1266, 1268] (by decide +kernel) (by decide +kernel)
/-! PatrolDesk$Refused -/
set_option maxRecDepth 100000
def RX9 : String := "PatrolDesk$Refused"
def TX9 : u_T := fun k => match k with
  | 0 => ("java/lang/Throwable", "cause", "Ljava/lang/Throwable;", false)
  | 1 => ("java/lang/Throwable", "stackTrace", "[Ljava/lang/StackTraceElement;", false)
  | 2 => ("java/lang/Throwable", "suppressedExceptions", "Ljava/util/List;", false)
  | 3 => ("java/lang/Throwable", "detailMessage", "Ljava/lang/String;", false)
  | 4 => ("java/lang/Throwable", "backtrace", "Ljava/lang/Object;", false)
  | 5 => ("java/lang/Throwable", "depth", "I", false)
  | _ => ("PatrolDesk$Refused", "code", "I", true)
def tyX9 : Nat → FieldType := fun k => match k with
  | 0 => .object "java/lang/Throwable"
  | 1 => .array (.object "java/lang/StackTraceElement")
  | 2 => .object "java/util/List"
  | 3 => .object "java/lang/String"
  | 4 => .object "java/lang/Object"
  | 5 => .int
  | _ => .int
abbrev wsX90 : List Cond := u_ws RX9 TX9 7
theorem nmX9 : ∀ a, a < 7 → ∀ b, b < 7 → a ≠ b → (TX9 a).2.1 ≠ (TX9 b).2.1 := by decide +kernel
theorem tyX9_ok : ∀ k, k < 7 → parseFieldDescriptor (TX9 k).2.2.1 = some (tyX9 k) := by decide +kernel
abbrev cX9_init : ByteArray := prog_10_method_1_code
def yX9_init : MethodName := ⟨RX9, "<init>", "(I)V"⟩
def dkwX9_init_0 : List UInt8 := [42, 183, 0, 1, 42, 27, 181, 0, 7, 177]
abbrev dktX9_init_0 : List UInt8 := dkwX9_init_0 ++ []
theorem dksX9_init_0 : cX9_init.data.toList.drop 0 = dktX9_init_0 := by decide +kernel
theorem dX9_init_0 : decode cX9_init 0 = .ok (.aload_n 0, 1) := dk_42 (dk_at dksX9_init_0 0 rfl rfl)
theorem dX9_init_1 : decode cX9_init 1 = .ok (.invokespecial 1, 3) := dk_183 0 1 (dk_at dksX9_init_0 1 rfl rfl)
theorem dX9_init_4 : decode cX9_init 4 = .ok (.aload_n 0, 1) := dk_42 (dk_at dksX9_init_0 4 rfl rfl)
theorem dX9_init_5 : decode cX9_init 5 = .ok (.iload_n 1, 1) := dk_27 (dk_at dksX9_init_0 5 rfl rfl)
theorem dX9_init_6 : decode cX9_init 6 = .ok (.putfield 7, 3) := dk_181 0 7 (dk_at dksX9_init_0 6 rfl rfl)
theorem dX9_init_9 : decode cX9_init 9 = .ok (.return_, 1) := dk_177 (dk_at dksX9_init_0 9 rfl rfl)
theorem q115 : (Jvm.Cond.initialized "PatrolDesk$Refused") ∈ lw_all := lw_g (lw_at lw_m1 38 rfl) rfl
theorem q343 : (Jvm.Cond.selects "PatrolDesk$Refused" ({ cls := "java/lang/Object", name := "hashCode", desc := "()I" } : Jvm.MethodName) ({ cls := "java/lang/Object", name := "hashCode", desc := "()I" } : Jvm.MethodName)) ∈ lw_all := lw_g (lw_at lw_m2 26 rfl) rfl
theorem q374 : (Jvm.Cond.selects "PatrolDesk$Refused" ({ cls := "java/lang/Object", name := "equals", desc := "(Ljava/lang/Object;)Z" } : Jvm.MethodName) ({ cls := "java/lang/Object", name := "equals", desc := "(Ljava/lang/Object;)Z" } : Jvm.MethodName)) ∈ lw_all := lw_g (lw_at lw_m2 57 rfl) rfl
theorem q422 : (Jvm.Cond.selects "PatrolDesk$Refused" ({ cls := "java/lang/Object", name := "getClass", desc := "()Ljava/lang/Class;" } : Jvm.MethodName) ({ cls := "java/lang/Object", name := "getClass", desc := "()Ljava/lang/Class;" } : Jvm.MethodName)) ∈ lw_all := lw_g (lw_at lw_m2 105 rfl) rfl
theorem q1314 : (Jvm.Cond.instantiable "PatrolDesk$Refused" (7 : Nat)) ∈ lw_all := lw_g (lw_at lw_m6 37 rfl) rfl
theorem q1315 : (Jvm.Cond.castable "PatrolDesk$Refused" "PatrolDesk$Refused") ∈ lw_tbl := lw_at lw_m6 38 rfl
theorem q1320 : (Jvm.Cond.selects "PatrolDesk$Refused" ({ cls := "java/lang/Throwable", name := "fillInStackTrace", desc := "(I)Ljava/lang/Throwable;" } : Jvm.MethodName) ({ cls := "java/lang/Throwable", name := "fillInStackTrace", desc := "(I)Ljava/lang/Throwable;" } : Jvm.MethodName)) ∈ lw_all := lw_g (lw_at lw_m6 43 rfl) rfl
theorem q1321 : (Jvm.Cond.selects "PatrolDesk$Refused" ({ cls := "java/lang/Throwable", name := "fillInStackTrace", desc := "()Ljava/lang/Throwable;" } : Jvm.MethodName) ({ cls := "java/lang/Throwable", name := "fillInStackTrace", desc := "()Ljava/lang/Throwable;" } : Jvm.MethodName)) ∈ lw_all := lw_g (lw_at lw_m6 44 rfl) rfl
theorem q1322 : (Jvm.Cond.lays "PatrolDesk$Refused" "java/lang/Throwable" "cause" "Ljava/lang/Throwable;") ∈ lw_all := lw_g (lw_at lw_m6 45 rfl) rfl
theorem q1324 : (Jvm.Cond.lays "PatrolDesk$Refused" "java/lang/Throwable" "stackTrace" "[Ljava/lang/StackTraceElement;") ∈ lw_all := lw_g (lw_at lw_m6 47 rfl) rfl
theorem q1326 : (Jvm.Cond.lays "PatrolDesk$Refused" "java/lang/Throwable" "suppressedExceptions" "Ljava/util/List;") ∈ lw_all := lw_g (lw_at lw_m6 49 rfl) rfl
theorem q1328 : (Jvm.Cond.lays "PatrolDesk$Refused" "java/lang/Throwable" "detailMessage" "Ljava/lang/String;") ∈ lw_all := lw_g (lw_at lw_m6 51 rfl) rfl
theorem q1330 : (Jvm.Cond.lays "PatrolDesk$Refused" "java/lang/Throwable" "backtrace" "Ljava/lang/Object;") ∈ lw_all := lw_g (lw_at lw_m6 53 rfl) rfl
theorem q1352 : (Jvm.Cond.instanceMethod ({ cls := "PatrolDesk$Refused", name := "<init>", desc := "(I)V" } : Jvm.MethodName)) ∈ lw_all := lw_g (lw_at lw_m6 75 rfl) rfl
theorem q1353 : (Jvm.Cond.code ({ cls := "PatrolDesk$Refused", name := "<init>", desc := "(I)V" } : Jvm.MethodName) prog_10_method_1_code (2 : Nat) (Option.none : Option Jvm.ClassFile.FieldType)) ∈ lw_all := lw_g (lw_at lw_m6 76 rfl) rfl
theorem q1354 : (Jvm.Cond.methodLink "PatrolDesk$Refused" (1 : Nat) ({ cls := "java/lang/Exception", name := "<init>", desc := "()V" } : Jvm.MethodName)) ∈ lw_all := lw_g (lw_at lw_m6 77 rfl) rfl
theorem q1358 : (Jvm.Cond.fieldLink "PatrolDesk$Refused" (7 : Nat) "PatrolDesk$Refused" "code" "I") ∈ lw_all := lw_g (lw_at lw_m6 81 rfl) rfl
theorem q1364 : (Jvm.Cond.laysFinal "PatrolDesk$Refused" "PatrolDesk$Refused" "code" "I") ∈ lw_all := lw_g (lw_at lw_m6 87 rfl) rfl
theorem q1365 : (Jvm.Cond.soleField "PatrolDesk$Refused" "code") ∈ lw_all := lw_g (lw_at lw_m6 88 rfl) rfl
theorem q1370 : (Jvm.Cond.lays "PatrolDesk$Refused" "java/lang/Throwable" "depth" "I") ∈ lw_all := lw_g (lw_at lw_m6 93 rfl) rfl
theorem q1373 : (Jvm.Cond.superclass "PatrolDesk$Refused" "java/lang/Exception") ∈ lw_all := lw_g (lw_at lw_m6 96 rfl) rfl
theorem q2303 : (Jvm.Cond.castable "PatrolDesk$Refused" "java/lang/Object") ∈ lw_tbl := lw_at lw_m10 66 rfl
theorem in_X9 : ∀ w ∈ wsX90, w ∈ lw_all := lw_in wsX90 [1322, 1324, 1326, 1328, 1330, 1370, 1364] (by decide +kernel) (by decide +kernel)
/-! PatrolDesk$Spot -/
set_option maxRecDepth 100000
def RX10 : String := "PatrolDesk$Spot"
def TX10 : u_T := fun k => match k with
  | _ => ("PatrolDesk$Spot", "area", "I", true)
def tyX10 : Nat → FieldType := fun k => match k with
  | _ => .int
abbrev wsX100 : List Cond := u_ws RX10 TX10 1
theorem nmX10 : ∀ a, a < 1 → ∀ b, b < 1 → a ≠ b → (TX10 a).2.1 ≠ (TX10 b).2.1 := by decide +kernel
theorem tyX10_ok : ∀ k, k < 1 → parseFieldDescriptor (TX10 k).2.2.1 = some (tyX10 k) := by decide +kernel
abbrev cX10_hashCode : ByteArray := prog_12_method_3_code
def yX10_hashCode : MethodName := ⟨RX10, "hashCode", "()I"⟩
theorem dX10_hashCode_0 : decode cX10_hashCode 0 = .ok (.aload_n 0, 1) := by decide +kernel
theorem dX10_hashCode_1 : decode cX10_hashCode 1 = .ok (.getfield 7, 3) := by decide +kernel
theorem dX10_hashCode_4 : decode cX10_hashCode 4 = .ok (.ireturn, 1) := by decide +kernel
abbrev cX10_equals : ByteArray := prog_12_method_2_code
def yX10_equals : MethodName := ⟨RX10, "equals", "(Ljava/lang/Object;)Z"⟩
def dkwX10_equals_1 : List UInt8 := [167, 0, 4, 3, 172]
abbrev dktX10_equals_1 : List UInt8 := dkwX10_equals_1 ++ []
def dkwX10_equals_0 : List UInt8 := [43, 193, 0, 8, 153, 0, 23, 43, 192, 0, 8, 77, 42, 180, 0, 7, 44, 180, 0, 7, 160, 0, 7, 4]
abbrev dktX10_equals_0 : List UInt8 := dkwX10_equals_0 ++ dktX10_equals_1
theorem dksX10_equals_0 : cX10_equals.data.toList.drop 0 = dktX10_equals_0 := by decide +kernel
theorem dksX10_equals_1 : cX10_equals.data.toList.drop 24 = dktX10_equals_1 := dk_seg dksX10_equals_0 24 rfl rfl
theorem dX10_equals_0 : decode cX10_equals 0 = .ok (.aload_n 1, 1) := dk_43 (dk_at dksX10_equals_0 0 rfl rfl)
theorem dX10_equals_1 : decode cX10_equals 1 = .ok (.instanceof 8, 3) := dk_193 0 8 (dk_at dksX10_equals_0 1 rfl rfl)
theorem dX10_equals_4 : decode cX10_equals 4 = .ok (.ifCond .eq 23, 3) := dk_153 0 23 (dk_at dksX10_equals_0 4 rfl rfl)
theorem dX10_equals_7 : decode cX10_equals 7 = .ok (.aload_n 1, 1) := dk_43 (dk_at dksX10_equals_0 7 rfl rfl)
theorem dX10_equals_8 : decode cX10_equals 8 = .ok (.checkcast 8, 3) := dk_192 0 8 (dk_at dksX10_equals_0 8 rfl rfl)
theorem dX10_equals_11 : decode cX10_equals 11 = .ok (.astore_n 2, 1) := dk_77 (dk_at dksX10_equals_0 11 rfl rfl)
theorem dX10_equals_12 : decode cX10_equals 12 = .ok (.aload_n 0, 1) := dk_42 (dk_at dksX10_equals_0 12 rfl rfl)
theorem dX10_equals_13 : decode cX10_equals 13 = .ok (.getfield 7, 3) := dk_180 0 7 (dk_at dksX10_equals_0 13 rfl rfl)
theorem dX10_equals_16 : decode cX10_equals 16 = .ok (.aload_n 2, 1) := dk_44 (dk_at dksX10_equals_0 16 rfl rfl)
theorem dX10_equals_17 : decode cX10_equals 17 = .ok (.getfield 7, 3) := dk_180 0 7 (dk_at dksX10_equals_0 17 rfl rfl)
theorem dX10_equals_20 : decode cX10_equals 20 = .ok (.if_icmp .ne 7, 3) := dk_160 0 7 (dk_at dksX10_equals_0 20 rfl rfl)
theorem dX10_equals_23 : decode cX10_equals 23 = .ok (.iconst 1, 1) := dk_4 (dk_at dksX10_equals_0 23 rfl rfl)
theorem dX10_equals_24 : decode cX10_equals 24 = .ok (.goto 4, 3) := dk_167 0 4 (dk_at dksX10_equals_1 0 rfl rfl)
theorem dX10_equals_27 : decode cX10_equals 27 = .ok (.iconst 0, 1) := dk_3 (dk_at dksX10_equals_1 3 rfl rfl)
theorem dX10_equals_28 : decode cX10_equals 28 = .ok (.ireturn, 1) := dk_172 (dk_at dksX10_equals_1 4 rfl rfl)
abbrev cX10_init : ByteArray := prog_12_method_1_code
def yX10_init : MethodName := ⟨RX10, "<init>", "(I)V"⟩
def dkwX10_init_0 : List UInt8 := [42, 183, 0, 1, 42, 27, 181, 0, 7, 177]
abbrev dktX10_init_0 : List UInt8 := dkwX10_init_0 ++ []
theorem dksX10_init_0 : cX10_init.data.toList.drop 0 = dktX10_init_0 := by decide +kernel
theorem dX10_init_0 : decode cX10_init 0 = .ok (.aload_n 0, 1) := dk_42 (dk_at dksX10_init_0 0 rfl rfl)
theorem dX10_init_1 : decode cX10_init 1 = .ok (.invokespecial 1, 3) := dk_183 0 1 (dk_at dksX10_init_0 1 rfl rfl)
theorem dX10_init_4 : decode cX10_init 4 = .ok (.aload_n 0, 1) := dk_42 (dk_at dksX10_init_0 4 rfl rfl)
theorem dX10_init_5 : decode cX10_init 5 = .ok (.iload_n 1, 1) := dk_27 (dk_at dksX10_init_0 5 rfl rfl)
theorem dX10_init_6 : decode cX10_init 6 = .ok (.putfield 7, 3) := dk_181 0 7 (dk_at dksX10_init_0 6 rfl rfl)
theorem dX10_init_9 : decode cX10_init 9 = .ok (.return_, 1) := dk_177 (dk_at dksX10_init_0 9 rfl rfl)
theorem q118 : (Jvm.Cond.initialized "PatrolDesk$Spot") ∈ lw_all := lw_g (lw_at lw_m1 41 rfl) rfl
theorem q345 : (Jvm.Cond.selects "PatrolDesk$Spot" ({ cls := "java/lang/Object", name := "hashCode", desc := "()I" } : Jvm.MethodName) ({ cls := "PatrolDesk$Spot", name := "hashCode", desc := "()I" } : Jvm.MethodName)) ∈ lw_all := lw_g (lw_at lw_m2 28 rfl) rfl
theorem q346 : (Jvm.Cond.instanceMethod ({ cls := "PatrolDesk$Spot", name := "hashCode", desc := "()I" } : Jvm.MethodName)) ∈ lw_all := lw_g (lw_at lw_m2 29 rfl) rfl
theorem q347 : (Jvm.Cond.code ({ cls := "PatrolDesk$Spot", name := "hashCode", desc := "()I" } : Jvm.MethodName) prog_12_method_3_code (1 : Nat) (Option.some Jvm.ClassFile.FieldType.int)) ∈ lw_all := lw_g (lw_at lw_m2 30 rfl) rfl
theorem q376 : (Jvm.Cond.selects "PatrolDesk$Spot" ({ cls := "java/lang/Object", name := "equals", desc := "(Ljava/lang/Object;)Z" } : Jvm.MethodName) ({ cls := "PatrolDesk$Spot", name := "equals", desc := "(Ljava/lang/Object;)Z" } : Jvm.MethodName)) ∈ lw_all := lw_g (lw_at lw_m2 59 rfl) rfl
theorem q377 : (Jvm.Cond.instanceMethod ({ cls := "PatrolDesk$Spot", name := "equals", desc := "(Ljava/lang/Object;)Z" } : Jvm.MethodName)) ∈ lw_all := lw_g (lw_at lw_m2 60 rfl) rfl
theorem q378 : (Jvm.Cond.code ({ cls := "PatrolDesk$Spot", name := "equals", desc := "(Ljava/lang/Object;)Z" } : Jvm.MethodName) prog_12_method_2_code (3 : Nat) (Option.some Jvm.ClassFile.FieldType.boolean)) ∈ lw_all := lw_g (lw_at lw_m2 61 rfl) rfl
theorem q379 : (Jvm.Cond.classLink "PatrolDesk$Spot" (8 : Nat) "PatrolDesk$Spot") ∈ lw_all := lw_g (lw_at lw_m2 62 rfl) rfl
theorem q424 : (Jvm.Cond.selects "PatrolDesk$Spot" ({ cls := "java/lang/Object", name := "getClass", desc := "()Ljava/lang/Class;" } : Jvm.MethodName) ({ cls := "java/lang/Object", name := "getClass", desc := "()Ljava/lang/Class;" } : Jvm.MethodName)) ∈ lw_all := lw_g (lw_at lw_m2 107 rfl) rfl
theorem q1518 : (Jvm.Cond.instantiable "PatrolDesk$Spot" (1 : Nat)) ∈ lw_all := lw_g (lw_at lw_m7 1 rfl) rfl
theorem q1520 : (Jvm.Cond.instanceMethod ({ cls := "PatrolDesk$Spot", name := "<init>", desc := "(I)V" } : Jvm.MethodName)) ∈ lw_all := lw_g (lw_at lw_m7 3 rfl) rfl
theorem q1521 : (Jvm.Cond.code ({ cls := "PatrolDesk$Spot", name := "<init>", desc := "(I)V" } : Jvm.MethodName) prog_12_method_1_code (2 : Nat) (Option.none : Option Jvm.ClassFile.FieldType)) ∈ lw_all := lw_g (lw_at lw_m7 4 rfl) rfl
theorem q1522 : (Jvm.Cond.methodLink "PatrolDesk$Spot" (1 : Nat) ({ cls := "java/lang/Object", name := "<init>", desc := "()V" } : Jvm.MethodName)) ∈ lw_all := lw_g (lw_at lw_m7 5 rfl) rfl
theorem q1523 : (Jvm.Cond.fieldLink "PatrolDesk$Spot" (7 : Nat) "PatrolDesk$Spot" "area" "I") ∈ lw_all := lw_g (lw_at lw_m7 6 rfl) rfl
theorem q1524 : (Jvm.Cond.laysFinal "PatrolDesk$Spot" "PatrolDesk$Spot" "area" "I") ∈ lw_all := lw_g (lw_at lw_m7 7 rfl) rfl
theorem q1525 : (Jvm.Cond.soleField "PatrolDesk$Spot" "area") ∈ lw_all := lw_g (lw_at lw_m7 8 rfl) rfl
theorem q1526 : (Jvm.Cond.superclass "PatrolDesk$Spot" "java/lang/Object") ∈ lw_all := lw_g (lw_at lw_m7 9 rfl) rfl
theorem q2306 : (Jvm.Cond.castable "PatrolDesk$Spot" "java/lang/Object") ∈ lw_tbl := lw_at lw_m10 69 rfl
theorem in_X10 : ∀ w ∈ wsX100, w ∈ lw_all := lw_in wsX100 [1524] (by decide +kernel) (by decide +kernel)
/-! PatrolDesk$Reader -/
set_option maxRecDepth 100000
def RX11 : String := "PatrolDesk$Reader"
def TX11 : u_T := fun k => match k with
  | 0 => ("PatrolDesk$Reader", "signs", "Ljava/lang/CharSequence;", true)
  | _ => ("PatrolDesk$Reader", "place", "I", false)
def tyX11 : Nat → FieldType := fun k => match k with
  | 0 => .object "java/lang/CharSequence"
  | _ => .int
abbrev wsX110 : List Cond := u_ws RX11 TX11 2
theorem nmX11 : ∀ a, a < 2 → ∀ b, b < 2 → a ≠ b → (TX11 a).2.1 ≠ (TX11 b).2.1 := by decide +kernel
theorem tyX11_ok : ∀ k, k < 2 → parseFieldDescriptor (TX11 k).2.2.1 = some (tyX11 k) := by decide +kernel
abbrev cX11_init : ByteArray := prog_9_method_1_code
def yX11_init : MethodName := ⟨RX11, "<init>", "(Ljava/lang/CharSequence;)V"⟩
def dkwX11_init_0 : List UInt8 := [42, 183, 0, 1, 42, 43, 181, 0, 7, 177]
abbrev dktX11_init_0 : List UInt8 := dkwX11_init_0 ++ []
theorem dksX11_init_0 : cX11_init.data.toList.drop 0 = dktX11_init_0 := by decide +kernel
theorem dX11_init_0 : decode cX11_init 0 = .ok (.aload_n 0, 1) := dk_42 (dk_at dksX11_init_0 0 rfl rfl)
theorem dX11_init_1 : decode cX11_init 1 = .ok (.invokespecial 1, 3) := dk_183 0 1 (dk_at dksX11_init_0 1 rfl rfl)
theorem dX11_init_4 : decode cX11_init 4 = .ok (.aload_n 0, 1) := dk_42 (dk_at dksX11_init_0 4 rfl rfl)
theorem dX11_init_5 : decode cX11_init 5 = .ok (.aload_n 1, 1) := dk_43 (dk_at dksX11_init_0 5 rfl rfl)
theorem dX11_init_6 : decode cX11_init 6 = .ok (.putfield 7, 3) := dk_181 0 7 (dk_at dksX11_init_0 6 rfl rfl)
theorem dX11_init_9 : decode cX11_init 9 = .ok (.return_, 1) := dk_177 (dk_at dksX11_init_0 9 rfl rfl)
abbrev cX11_read : ByteArray := prog_9_method_7_code
def yX11_read : MethodName := ⟨RX11, "read", "()Ljava/util/List;"⟩
def dkwX11_read_1 : List UInt8 := [182, 0, 39, 42, 43, 182, 0, 61, 167, 255, 238, 43, 176]
abbrev dktX11_read_1 : List UInt8 := dkwX11_read_1 ++ []
def dkwX11_read_0 : List UInt8 := [187, 0, 58, 89, 183, 0, 60, 76, 42, 43, 182, 0, 61, 42, 182, 0, 23, 154, 0, 17, 42, 16, 59]
abbrev dktX11_read_0 : List UInt8 := dkwX11_read_0 ++ dktX11_read_1
theorem dksX11_read_0 : cX11_read.data.toList.drop 0 = dktX11_read_0 := by decide +kernel
theorem dksX11_read_1 : cX11_read.data.toList.drop 23 = dktX11_read_1 := dk_seg dksX11_read_0 23 rfl rfl
theorem dX11_read_0 : decode cX11_read 0 = .ok (.new 58, 3) := dk_187 0 58 (dk_at dksX11_read_0 0 rfl rfl)
theorem dX11_read_3 : decode cX11_read 3 = .ok (.dup, 1) := dk_89 (dk_at dksX11_read_0 3 rfl rfl)
theorem dX11_read_4 : decode cX11_read 4 = .ok (.invokespecial 60, 3) := dk_183 0 60 (dk_at dksX11_read_0 4 rfl rfl)
theorem dX11_read_7 : decode cX11_read 7 = .ok (.astore_n 1, 1) := dk_76 (dk_at dksX11_read_0 7 rfl rfl)
theorem dX11_read_8 : decode cX11_read 8 = .ok (.aload_n 0, 1) := dk_42 (dk_at dksX11_read_0 8 rfl rfl)
theorem dX11_read_9 : decode cX11_read 9 = .ok (.aload_n 1, 1) := dk_43 (dk_at dksX11_read_0 9 rfl rfl)
theorem dX11_read_10 : decode cX11_read 10 = .ok (.invokevirtual 61, 3) := dk_182 0 61 (dk_at dksX11_read_0 10 rfl rfl)
theorem dX11_read_13 : decode cX11_read 13 = .ok (.aload_n 0, 1) := dk_42 (dk_at dksX11_read_0 13 rfl rfl)
theorem dX11_read_14 : decode cX11_read 14 = .ok (.invokevirtual 23, 3) := dk_182 0 23 (dk_at dksX11_read_0 14 rfl rfl)
theorem dX11_read_17 : decode cX11_read 17 = .ok (.ifCond .ne 17, 3) := dk_154 0 17 (dk_at dksX11_read_0 17 rfl rfl)
theorem dX11_read_20 : decode cX11_read 20 = .ok (.aload_n 0, 1) := dk_42 (dk_at dksX11_read_0 20 rfl rfl)
theorem dX11_read_21 : decode cX11_read 21 = .ok (.bipush 59, 2) := dk_16 59 (dk_at dksX11_read_0 21 rfl rfl)
theorem dX11_read_23 : decode cX11_read 23 = .ok (.invokevirtual 39, 3) := dk_182 0 39 (dk_at dksX11_read_1 0 rfl rfl)
theorem dX11_read_26 : decode cX11_read 26 = .ok (.aload_n 0, 1) := dk_42 (dk_at dksX11_read_1 3 rfl rfl)
theorem dX11_read_27 : decode cX11_read 27 = .ok (.aload_n 1, 1) := dk_43 (dk_at dksX11_read_1 4 rfl rfl)
theorem dX11_read_28 : decode cX11_read 28 = .ok (.invokevirtual 61, 3) := dk_182 0 61 (dk_at dksX11_read_1 5 rfl rfl)
theorem dX11_read_31 : decode cX11_read 31 = .ok (.goto (-18), 3) := dk_167 255 238 (dk_at dksX11_read_1 8 rfl rfl)
theorem dX11_read_34 : decode cX11_read 34 = .ok (.aload_n 1, 1) := dk_43 (dk_at dksX11_read_1 11 rfl rfl)
theorem dX11_read_35 : decode cX11_read 35 = .ok (.areturn, 1) := dk_176 (dk_at dksX11_read_1 12 rfl rfl)
abbrev cX11_readCall : ByteArray := prog_9_method_6_code
def yX11_readCall : MethodName := ⟨RX11, "readCall", "(Ljava/util/List;)V"⟩
def dkwX11_readCall_2 : List UInt8 := [42, 182, 0, 43, 184, 0, 46, 185, 0, 52, 2, 0, 87, 177]
abbrev dktX11_readCall_2 : List UInt8 := dkwX11_readCall_2 ++ []
def dkwX11_readCall_1 : List UInt8 := [182, 0, 39, 43, 42, 182, 0, 43, 184, 0, 46, 185, 0, 52, 2, 0, 87, 42, 16, 33, 182, 0, 39, 43]
abbrev dktX11_readCall_1 : List UInt8 := dkwX11_readCall_1 ++ dktX11_readCall_2
def dkwX11_readCall_0 : List UInt8 := [42, 16, 109, 182, 0, 39, 43, 42, 182, 0, 43, 184, 0, 46, 185, 0, 52, 2, 0, 87, 42, 16, 64]
abbrev dktX11_readCall_0 : List UInt8 := dkwX11_readCall_0 ++ dktX11_readCall_1
theorem dksX11_readCall_0 : cX11_readCall.data.toList.drop 0 = dktX11_readCall_0 := by decide +kernel
theorem dksX11_readCall_1 : cX11_readCall.data.toList.drop 23 = dktX11_readCall_1 := dk_seg dksX11_readCall_0 23 rfl rfl
theorem dksX11_readCall_2 : cX11_readCall.data.toList.drop 47 = dktX11_readCall_2 := dk_seg dksX11_readCall_1 24 rfl rfl
theorem dX11_readCall_0 : decode cX11_readCall 0 = .ok (.aload_n 0, 1) := dk_42 (dk_at dksX11_readCall_0 0 rfl rfl)
theorem dX11_readCall_1 : decode cX11_readCall 1 = .ok (.bipush 109, 2) := dk_16 109 (dk_at dksX11_readCall_0 1 rfl rfl)
theorem dX11_readCall_3 : decode cX11_readCall 3 = .ok (.invokevirtual 39, 3) := dk_182 0 39 (dk_at dksX11_readCall_0 3 rfl rfl)
theorem dX11_readCall_6 : decode cX11_readCall 6 = .ok (.aload_n 1, 1) := dk_43 (dk_at dksX11_readCall_0 6 rfl rfl)
theorem dX11_readCall_7 : decode cX11_readCall 7 = .ok (.aload_n 0, 1) := dk_42 (dk_at dksX11_readCall_0 7 rfl rfl)
theorem dX11_readCall_8 : decode cX11_readCall 8 = .ok (.invokevirtual 43, 3) := dk_182 0 43 (dk_at dksX11_readCall_0 8 rfl rfl)
theorem dX11_readCall_11 : decode cX11_readCall 11 = .ok (.invokestatic 46, 3) := dk_184 0 46 (dk_at dksX11_readCall_0 11 rfl rfl)
theorem dX11_readCall_14 : decode cX11_readCall 14 = .ok (.invokeinterface 52 2, 5) := by decide +kernel
theorem dX11_readCall_19 : decode cX11_readCall 19 = .ok (.pop, 1) := dk_87 (dk_at dksX11_readCall_0 19 rfl rfl)
theorem dX11_readCall_20 : decode cX11_readCall 20 = .ok (.aload_n 0, 1) := dk_42 (dk_at dksX11_readCall_0 20 rfl rfl)
theorem dX11_readCall_21 : decode cX11_readCall 21 = .ok (.bipush 64, 2) := dk_16 64 (dk_at dksX11_readCall_0 21 rfl rfl)
theorem dX11_readCall_23 : decode cX11_readCall 23 = .ok (.invokevirtual 39, 3) := dk_182 0 39 (dk_at dksX11_readCall_1 0 rfl rfl)
theorem dX11_readCall_26 : decode cX11_readCall 26 = .ok (.aload_n 1, 1) := dk_43 (dk_at dksX11_readCall_1 3 rfl rfl)
theorem dX11_readCall_27 : decode cX11_readCall 27 = .ok (.aload_n 0, 1) := dk_42 (dk_at dksX11_readCall_1 4 rfl rfl)
theorem dX11_readCall_28 : decode cX11_readCall 28 = .ok (.invokevirtual 43, 3) := dk_182 0 43 (dk_at dksX11_readCall_1 5 rfl rfl)
theorem dX11_readCall_31 : decode cX11_readCall 31 = .ok (.invokestatic 46, 3) := dk_184 0 46 (dk_at dksX11_readCall_1 8 rfl rfl)
theorem dX11_readCall_34 : decode cX11_readCall 34 = .ok (.invokeinterface 52 2, 5) := by decide +kernel
theorem dX11_readCall_39 : decode cX11_readCall 39 = .ok (.pop, 1) := dk_87 (dk_at dksX11_readCall_1 16 rfl rfl)
theorem dX11_readCall_40 : decode cX11_readCall 40 = .ok (.aload_n 0, 1) := dk_42 (dk_at dksX11_readCall_1 17 rfl rfl)
theorem dX11_readCall_41 : decode cX11_readCall 41 = .ok (.bipush 33, 2) := dk_16 33 (dk_at dksX11_readCall_1 18 rfl rfl)
theorem dX11_readCall_43 : decode cX11_readCall 43 = .ok (.invokevirtual 39, 3) := dk_182 0 39 (dk_at dksX11_readCall_1 20 rfl rfl)
theorem dX11_readCall_46 : decode cX11_readCall 46 = .ok (.aload_n 1, 1) := dk_43 (dk_at dksX11_readCall_1 23 rfl rfl)
theorem dX11_readCall_47 : decode cX11_readCall 47 = .ok (.aload_n 0, 1) := dk_42 (dk_at dksX11_readCall_2 0 rfl rfl)
theorem dX11_readCall_48 : decode cX11_readCall 48 = .ok (.invokevirtual 43, 3) := dk_182 0 43 (dk_at dksX11_readCall_2 1 rfl rfl)
theorem dX11_readCall_51 : decode cX11_readCall 51 = .ok (.invokestatic 46, 3) := dk_184 0 46 (dk_at dksX11_readCall_2 4 rfl rfl)
theorem dX11_readCall_54 : decode cX11_readCall 54 = .ok (.invokeinterface 52 2, 5) := by decide +kernel
theorem dX11_readCall_59 : decode cX11_readCall 59 = .ok (.pop, 1) := dk_87 (dk_at dksX11_readCall_2 12 rfl rfl)
theorem dX11_readCall_60 : decode cX11_readCall 60 = .ok (.return_, 1) := dk_177 (dk_at dksX11_readCall_2 13 rfl rfl)
abbrev cX11_want : ByteArray := prog_9_method_4_code
def yX11_want : MethodName := ⟨RX11, "want", "(C)V"⟩
def dkwX11_want_1 : List UInt8 := [187, 0, 31, 89, 42, 180, 0, 13, 183, 0, 33, 191, 42, 89, 180, 0, 13, 4, 96, 181, 0, 13, 177]
abbrev dktX11_want_1 : List UInt8 := dkwX11_want_1 ++ []
def dkwX11_want_0 : List UInt8 := [42, 182, 0, 23, 154, 0, 20, 42, 180, 0, 7, 42, 180, 0, 13, 185, 0, 27, 2, 0, 27, 159, 0, 15]
abbrev dktX11_want_0 : List UInt8 := dkwX11_want_0 ++ dktX11_want_1
theorem dksX11_want_0 : cX11_want.data.toList.drop 0 = dktX11_want_0 := by decide +kernel
theorem dksX11_want_1 : cX11_want.data.toList.drop 24 = dktX11_want_1 := dk_seg dksX11_want_0 24 rfl rfl
theorem dX11_want_0 : decode cX11_want 0 = .ok (.aload_n 0, 1) := dk_42 (dk_at dksX11_want_0 0 rfl rfl)
theorem dX11_want_1 : decode cX11_want 1 = .ok (.invokevirtual 23, 3) := dk_182 0 23 (dk_at dksX11_want_0 1 rfl rfl)
theorem dX11_want_4 : decode cX11_want 4 = .ok (.ifCond .ne 20, 3) := dk_154 0 20 (dk_at dksX11_want_0 4 rfl rfl)
theorem dX11_want_7 : decode cX11_want 7 = .ok (.aload_n 0, 1) := dk_42 (dk_at dksX11_want_0 7 rfl rfl)
theorem dX11_want_8 : decode cX11_want 8 = .ok (.getfield 7, 3) := dk_180 0 7 (dk_at dksX11_want_0 8 rfl rfl)
theorem dX11_want_11 : decode cX11_want 11 = .ok (.aload_n 0, 1) := dk_42 (dk_at dksX11_want_0 11 rfl rfl)
theorem dX11_want_12 : decode cX11_want 12 = .ok (.getfield 13, 3) := dk_180 0 13 (dk_at dksX11_want_0 12 rfl rfl)
theorem dX11_want_15 : decode cX11_want 15 = .ok (.invokeinterface 27 2, 5) := by decide +kernel
theorem dX11_want_20 : decode cX11_want 20 = .ok (.iload_n 1, 1) := dk_27 (dk_at dksX11_want_0 20 rfl rfl)
theorem dX11_want_21 : decode cX11_want 21 = .ok (.if_icmp .eq 15, 3) := dk_159 0 15 (dk_at dksX11_want_0 21 rfl rfl)
theorem dX11_want_24 : decode cX11_want 24 = .ok (.new 31, 3) := dk_187 0 31 (dk_at dksX11_want_1 0 rfl rfl)
theorem dX11_want_27 : decode cX11_want 27 = .ok (.dup, 1) := dk_89 (dk_at dksX11_want_1 3 rfl rfl)
theorem dX11_want_28 : decode cX11_want 28 = .ok (.aload_n 0, 1) := dk_42 (dk_at dksX11_want_1 4 rfl rfl)
theorem dX11_want_29 : decode cX11_want 29 = .ok (.getfield 13, 3) := dk_180 0 13 (dk_at dksX11_want_1 5 rfl rfl)
theorem dX11_want_32 : decode cX11_want 32 = .ok (.invokespecial 33, 3) := dk_183 0 33 (dk_at dksX11_want_1 8 rfl rfl)
theorem dX11_want_35 : decode cX11_want 35 = .ok (.athrow, 1) := dk_191 (dk_at dksX11_want_1 11 rfl rfl)
theorem dX11_want_36 : decode cX11_want 36 = .ok (.aload_n 0, 1) := dk_42 (dk_at dksX11_want_1 12 rfl rfl)
theorem dX11_want_37 : decode cX11_want 37 = .ok (.dup, 1) := dk_89 (dk_at dksX11_want_1 13 rfl rfl)
theorem dX11_want_38 : decode cX11_want 38 = .ok (.getfield 13, 3) := dk_180 0 13 (dk_at dksX11_want_1 14 rfl rfl)
theorem dX11_want_41 : decode cX11_want 41 = .ok (.iconst 1, 1) := dk_4 (dk_at dksX11_want_1 17 rfl rfl)
theorem dX11_want_42 : decode cX11_want 42 = .ok (.iadd, 1) := dk_96 (dk_at dksX11_want_1 18 rfl rfl)
theorem dX11_want_43 : decode cX11_want 43 = .ok (.putfield 13, 3) := dk_181 0 13 (dk_at dksX11_want_1 19 rfl rfl)
theorem dX11_want_46 : decode cX11_want 46 = .ok (.return_, 1) := dk_177 (dk_at dksX11_want_1 22 rfl rfl)
abbrev cX11_isAtEnd : ByteArray := prog_9_method_2_code
def yX11_isAtEnd : MethodName := ⟨RX11, "isAtEnd", "()Z"⟩
def dkwX11_isAtEnd_0 : List UInt8 := [42, 180, 0, 13, 42, 180, 0, 7, 185, 0, 17, 1, 0, 160, 0, 7, 4, 167, 0, 4, 3, 172]
abbrev dktX11_isAtEnd_0 : List UInt8 := dkwX11_isAtEnd_0 ++ []
theorem dksX11_isAtEnd_0 : cX11_isAtEnd.data.toList.drop 0 = dktX11_isAtEnd_0 := by decide +kernel
theorem dX11_isAtEnd_0 : decode cX11_isAtEnd 0 = .ok (.aload_n 0, 1) := dk_42 (dk_at dksX11_isAtEnd_0 0 rfl rfl)
theorem dX11_isAtEnd_1 : decode cX11_isAtEnd 1 = .ok (.getfield 13, 3) := dk_180 0 13 (dk_at dksX11_isAtEnd_0 1 rfl rfl)
theorem dX11_isAtEnd_4 : decode cX11_isAtEnd 4 = .ok (.aload_n 0, 1) := dk_42 (dk_at dksX11_isAtEnd_0 4 rfl rfl)
theorem dX11_isAtEnd_5 : decode cX11_isAtEnd 5 = .ok (.getfield 7, 3) := dk_180 0 7 (dk_at dksX11_isAtEnd_0 5 rfl rfl)
theorem dX11_isAtEnd_8 : decode cX11_isAtEnd 8 = .ok (.invokeinterface 17 1, 5) := by decide +kernel
theorem dX11_isAtEnd_13 : decode cX11_isAtEnd 13 = .ok (.if_icmp .ne 7, 3) := dk_160 0 7 (dk_at dksX11_isAtEnd_0 13 rfl rfl)
theorem dX11_isAtEnd_16 : decode cX11_isAtEnd 16 = .ok (.iconst 1, 1) := dk_4 (dk_at dksX11_isAtEnd_0 16 rfl rfl)
theorem dX11_isAtEnd_17 : decode cX11_isAtEnd 17 = .ok (.goto 4, 3) := dk_167 0 4 (dk_at dksX11_isAtEnd_0 17 rfl rfl)
theorem dX11_isAtEnd_20 : decode cX11_isAtEnd 20 = .ok (.iconst 0, 1) := dk_3 (dk_at dksX11_isAtEnd_0 20 rfl rfl)
theorem dX11_isAtEnd_21 : decode cX11_isAtEnd 21 = .ok (.ireturn, 1) := dk_172 (dk_at dksX11_isAtEnd_0 21 rfl rfl)
abbrev cX11_number : ByteArray := prog_9_method_5_code
def yX11_number : MethodName := ⟨RX11, "number", "()I"⟩
def dkwX11_number_3 : List UInt8 := [181, 0, 13, 185, 0, 27, 2, 0, 96, 16, 48, 100, 167, 0, 4, 27, 172]
abbrev dktX11_number_3 : List UInt8 := dkwX11_number_3 ++ []
def dkwX11_number_2 : List UInt8 := [182, 0, 36, 153, 0, 34, 16, 10, 27, 104, 42, 180, 0, 7, 42, 89, 180, 0, 13, 90, 4, 96]
abbrev dktX11_number_2 : List UInt8 := dkwX11_number_2 ++ dktX11_number_3
def dkwX11_number_1 : List UInt8 := [89, 180, 0, 13, 90, 4, 96, 181, 0, 13, 185, 0, 27, 2, 0, 16, 48, 100, 60, 27, 158, 0, 41, 42]
abbrev dktX11_number_1 : List UInt8 := dkwX11_number_1 ++ dktX11_number_2
def dkwX11_number_0 : List UInt8 := [42, 182, 0, 36, 154, 0, 15, 187, 0, 31, 89, 42, 180, 0, 13, 183, 0, 33, 191, 42, 180, 0, 7, 42]
abbrev dktX11_number_0 : List UInt8 := dkwX11_number_0 ++ dktX11_number_1
theorem dksX11_number_0 : cX11_number.data.toList.drop 0 = dktX11_number_0 := by decide +kernel
theorem dksX11_number_1 : cX11_number.data.toList.drop 24 = dktX11_number_1 := dk_seg dksX11_number_0 24 rfl rfl
theorem dksX11_number_2 : cX11_number.data.toList.drop 48 = dktX11_number_2 := dk_seg dksX11_number_1 24 rfl rfl
theorem dksX11_number_3 : cX11_number.data.toList.drop 70 = dktX11_number_3 := dk_seg dksX11_number_2 22 rfl rfl
theorem dX11_number_0 : decode cX11_number 0 = .ok (.aload_n 0, 1) := dk_42 (dk_at dksX11_number_0 0 rfl rfl)
theorem dX11_number_1 : decode cX11_number 1 = .ok (.invokevirtual 36, 3) := dk_182 0 36 (dk_at dksX11_number_0 1 rfl rfl)
theorem dX11_number_4 : decode cX11_number 4 = .ok (.ifCond .ne 15, 3) := dk_154 0 15 (dk_at dksX11_number_0 4 rfl rfl)
theorem dX11_number_7 : decode cX11_number 7 = .ok (.new 31, 3) := dk_187 0 31 (dk_at dksX11_number_0 7 rfl rfl)
theorem dX11_number_10 : decode cX11_number 10 = .ok (.dup, 1) := dk_89 (dk_at dksX11_number_0 10 rfl rfl)
theorem dX11_number_11 : decode cX11_number 11 = .ok (.aload_n 0, 1) := dk_42 (dk_at dksX11_number_0 11 rfl rfl)
theorem dX11_number_12 : decode cX11_number 12 = .ok (.getfield 13, 3) := dk_180 0 13 (dk_at dksX11_number_0 12 rfl rfl)
theorem dX11_number_15 : decode cX11_number 15 = .ok (.invokespecial 33, 3) := dk_183 0 33 (dk_at dksX11_number_0 15 rfl rfl)
theorem dX11_number_18 : decode cX11_number 18 = .ok (.athrow, 1) := dk_191 (dk_at dksX11_number_0 18 rfl rfl)
theorem dX11_number_19 : decode cX11_number 19 = .ok (.aload_n 0, 1) := dk_42 (dk_at dksX11_number_0 19 rfl rfl)
theorem dX11_number_20 : decode cX11_number 20 = .ok (.getfield 7, 3) := dk_180 0 7 (dk_at dksX11_number_0 20 rfl rfl)
theorem dX11_number_23 : decode cX11_number 23 = .ok (.aload_n 0, 1) := dk_42 (dk_at dksX11_number_0 23 rfl rfl)
theorem dX11_number_24 : decode cX11_number 24 = .ok (.dup, 1) := dk_89 (dk_at dksX11_number_1 0 rfl rfl)
theorem dX11_number_25 : decode cX11_number 25 = .ok (.getfield 13, 3) := dk_180 0 13 (dk_at dksX11_number_1 1 rfl rfl)
theorem dX11_number_28 : decode cX11_number 28 = .ok (.dup_x1, 1) := dk_90 (dk_at dksX11_number_1 4 rfl rfl)
theorem dX11_number_29 : decode cX11_number 29 = .ok (.iconst 1, 1) := dk_4 (dk_at dksX11_number_1 5 rfl rfl)
theorem dX11_number_30 : decode cX11_number 30 = .ok (.iadd, 1) := dk_96 (dk_at dksX11_number_1 6 rfl rfl)
theorem dX11_number_31 : decode cX11_number 31 = .ok (.putfield 13, 3) := dk_181 0 13 (dk_at dksX11_number_1 7 rfl rfl)
theorem dX11_number_34 : decode cX11_number 34 = .ok (.invokeinterface 27 2, 5) := by decide +kernel
theorem dX11_number_39 : decode cX11_number 39 = .ok (.bipush 48, 2) := dk_16 48 (dk_at dksX11_number_1 15 rfl rfl)
theorem dX11_number_41 : decode cX11_number 41 = .ok (.isub, 1) := dk_100 (dk_at dksX11_number_1 17 rfl rfl)
theorem dX11_number_42 : decode cX11_number 42 = .ok (.istore_n 1, 1) := dk_60 (dk_at dksX11_number_1 18 rfl rfl)
theorem dX11_number_43 : decode cX11_number 43 = .ok (.iload_n 1, 1) := dk_27 (dk_at dksX11_number_1 19 rfl rfl)
theorem dX11_number_44 : decode cX11_number 44 = .ok (.ifCond .le 41, 3) := dk_158 0 41 (dk_at dksX11_number_1 20 rfl rfl)
theorem dX11_number_47 : decode cX11_number 47 = .ok (.aload_n 0, 1) := dk_42 (dk_at dksX11_number_1 23 rfl rfl)
theorem dX11_number_48 : decode cX11_number 48 = .ok (.invokevirtual 36, 3) := dk_182 0 36 (dk_at dksX11_number_2 0 rfl rfl)
theorem dX11_number_51 : decode cX11_number 51 = .ok (.ifCond .eq 34, 3) := dk_153 0 34 (dk_at dksX11_number_2 3 rfl rfl)
theorem dX11_number_54 : decode cX11_number 54 = .ok (.bipush 10, 2) := dk_16 10 (dk_at dksX11_number_2 6 rfl rfl)
theorem dX11_number_56 : decode cX11_number 56 = .ok (.iload_n 1, 1) := dk_27 (dk_at dksX11_number_2 8 rfl rfl)
theorem dX11_number_57 : decode cX11_number 57 = .ok (.imul, 1) := dk_104 (dk_at dksX11_number_2 9 rfl rfl)
theorem dX11_number_58 : decode cX11_number 58 = .ok (.aload_n 0, 1) := dk_42 (dk_at dksX11_number_2 10 rfl rfl)
theorem dX11_number_59 : decode cX11_number 59 = .ok (.getfield 7, 3) := dk_180 0 7 (dk_at dksX11_number_2 11 rfl rfl)
theorem dX11_number_62 : decode cX11_number 62 = .ok (.aload_n 0, 1) := dk_42 (dk_at dksX11_number_2 14 rfl rfl)
theorem dX11_number_63 : decode cX11_number 63 = .ok (.dup, 1) := dk_89 (dk_at dksX11_number_2 15 rfl rfl)
theorem dX11_number_64 : decode cX11_number 64 = .ok (.getfield 13, 3) := dk_180 0 13 (dk_at dksX11_number_2 16 rfl rfl)
theorem dX11_number_67 : decode cX11_number 67 = .ok (.dup_x1, 1) := dk_90 (dk_at dksX11_number_2 19 rfl rfl)
theorem dX11_number_68 : decode cX11_number 68 = .ok (.iconst 1, 1) := dk_4 (dk_at dksX11_number_2 20 rfl rfl)
theorem dX11_number_69 : decode cX11_number 69 = .ok (.iadd, 1) := dk_96 (dk_at dksX11_number_2 21 rfl rfl)
theorem dX11_number_70 : decode cX11_number 70 = .ok (.putfield 13, 3) := dk_181 0 13 (dk_at dksX11_number_3 0 rfl rfl)
theorem dX11_number_73 : decode cX11_number 73 = .ok (.invokeinterface 27 2, 5) := by decide +kernel
theorem dX11_number_78 : decode cX11_number 78 = .ok (.iadd, 1) := dk_96 (dk_at dksX11_number_3 8 rfl rfl)
theorem dX11_number_79 : decode cX11_number 79 = .ok (.bipush 48, 2) := dk_16 48 (dk_at dksX11_number_3 9 rfl rfl)
theorem dX11_number_81 : decode cX11_number 81 = .ok (.isub, 1) := dk_100 (dk_at dksX11_number_3 11 rfl rfl)
theorem dX11_number_82 : decode cX11_number 82 = .ok (.goto 4, 3) := dk_167 0 4 (dk_at dksX11_number_3 12 rfl rfl)
theorem dX11_number_85 : decode cX11_number 85 = .ok (.iload_n 1, 1) := dk_27 (dk_at dksX11_number_3 15 rfl rfl)
theorem dX11_number_86 : decode cX11_number 86 = .ok (.ireturn, 1) := dk_172 (dk_at dksX11_number_3 16 rfl rfl)
abbrev cX11_isDigit : ByteArray := prog_9_method_3_code
def yX11_isDigit : MethodName := ⟨RX11, "isDigit", "()Z"⟩
def dkwX11_isDigit_2 : List UInt8 := [167, 0, 4, 3, 172]
abbrev dktX11_isDigit_2 : List UInt8 := dkwX11_isDigit_2 ++ []
def dkwX11_isDigit_1 : List UInt8 := [161, 0, 25, 42, 180, 0, 7, 42, 180, 0, 13, 185, 0, 27, 2, 0, 16, 57, 163, 0, 7, 4]
abbrev dktX11_isDigit_1 : List UInt8 := dkwX11_isDigit_1 ++ dktX11_isDigit_2
def dkwX11_isDigit_0 : List UInt8 := [42, 182, 0, 23, 154, 0, 43, 42, 180, 0, 7, 42, 180, 0, 13, 185, 0, 27, 2, 0, 16, 48]
abbrev dktX11_isDigit_0 : List UInt8 := dkwX11_isDigit_0 ++ dktX11_isDigit_1
theorem dksX11_isDigit_0 : cX11_isDigit.data.toList.drop 0 = dktX11_isDigit_0 := by decide +kernel
theorem dksX11_isDigit_1 : cX11_isDigit.data.toList.drop 22 = dktX11_isDigit_1 := dk_seg dksX11_isDigit_0 22 rfl rfl
theorem dksX11_isDigit_2 : cX11_isDigit.data.toList.drop 44 = dktX11_isDigit_2 := dk_seg dksX11_isDigit_1 22 rfl rfl
theorem dX11_isDigit_0 : decode cX11_isDigit 0 = .ok (.aload_n 0, 1) := dk_42 (dk_at dksX11_isDigit_0 0 rfl rfl)
theorem dX11_isDigit_1 : decode cX11_isDigit 1 = .ok (.invokevirtual 23, 3) := dk_182 0 23 (dk_at dksX11_isDigit_0 1 rfl rfl)
theorem dX11_isDigit_4 : decode cX11_isDigit 4 = .ok (.ifCond .ne 43, 3) := dk_154 0 43 (dk_at dksX11_isDigit_0 4 rfl rfl)
theorem dX11_isDigit_7 : decode cX11_isDigit 7 = .ok (.aload_n 0, 1) := dk_42 (dk_at dksX11_isDigit_0 7 rfl rfl)
theorem dX11_isDigit_8 : decode cX11_isDigit 8 = .ok (.getfield 7, 3) := dk_180 0 7 (dk_at dksX11_isDigit_0 8 rfl rfl)
theorem dX11_isDigit_11 : decode cX11_isDigit 11 = .ok (.aload_n 0, 1) := dk_42 (dk_at dksX11_isDigit_0 11 rfl rfl)
theorem dX11_isDigit_12 : decode cX11_isDigit 12 = .ok (.getfield 13, 3) := dk_180 0 13 (dk_at dksX11_isDigit_0 12 rfl rfl)
theorem dX11_isDigit_15 : decode cX11_isDigit 15 = .ok (.invokeinterface 27 2, 5) := by decide +kernel
theorem dX11_isDigit_20 : decode cX11_isDigit 20 = .ok (.bipush 48, 2) := dk_16 48 (dk_at dksX11_isDigit_0 20 rfl rfl)
theorem dX11_isDigit_22 : decode cX11_isDigit 22 = .ok (.if_icmp .lt 25, 3) := dk_161 0 25 (dk_at dksX11_isDigit_1 0 rfl rfl)
theorem dX11_isDigit_25 : decode cX11_isDigit 25 = .ok (.aload_n 0, 1) := dk_42 (dk_at dksX11_isDigit_1 3 rfl rfl)
theorem dX11_isDigit_26 : decode cX11_isDigit 26 = .ok (.getfield 7, 3) := dk_180 0 7 (dk_at dksX11_isDigit_1 4 rfl rfl)
theorem dX11_isDigit_29 : decode cX11_isDigit 29 = .ok (.aload_n 0, 1) := dk_42 (dk_at dksX11_isDigit_1 7 rfl rfl)
theorem dX11_isDigit_30 : decode cX11_isDigit 30 = .ok (.getfield 13, 3) := dk_180 0 13 (dk_at dksX11_isDigit_1 8 rfl rfl)
theorem dX11_isDigit_33 : decode cX11_isDigit 33 = .ok (.invokeinterface 27 2, 5) := by decide +kernel
theorem dX11_isDigit_38 : decode cX11_isDigit 38 = .ok (.bipush 57, 2) := dk_16 57 (dk_at dksX11_isDigit_1 16 rfl rfl)
theorem dX11_isDigit_40 : decode cX11_isDigit 40 = .ok (.if_icmp .gt 7, 3) := dk_163 0 7 (dk_at dksX11_isDigit_1 18 rfl rfl)
theorem dX11_isDigit_43 : decode cX11_isDigit 43 = .ok (.iconst 1, 1) := dk_4 (dk_at dksX11_isDigit_1 21 rfl rfl)
theorem dX11_isDigit_44 : decode cX11_isDigit 44 = .ok (.goto 4, 3) := dk_167 0 4 (dk_at dksX11_isDigit_2 0 rfl rfl)
theorem dX11_isDigit_47 : decode cX11_isDigit 47 = .ok (.iconst 0, 1) := dk_3 (dk_at dksX11_isDigit_2 3 rfl rfl)
theorem dX11_isDigit_48 : decode cX11_isDigit 48 = .ok (.ireturn, 1) := dk_172 (dk_at dksX11_isDigit_2 4 rfl rfl)
theorem q119 : (Jvm.Cond.initialized "PatrolDesk$Reader") ∈ lw_all := lw_g (lw_at lw_m1 42 rfl) rfl
theorem q342 : (Jvm.Cond.selects "PatrolDesk$Reader" ({ cls := "java/lang/Object", name := "hashCode", desc := "()I" } : Jvm.MethodName) ({ cls := "java/lang/Object", name := "hashCode", desc := "()I" } : Jvm.MethodName)) ∈ lw_all := lw_g (lw_at lw_m2 25 rfl) rfl
theorem q373 : (Jvm.Cond.selects "PatrolDesk$Reader" ({ cls := "java/lang/Object", name := "equals", desc := "(Ljava/lang/Object;)Z" } : Jvm.MethodName) ({ cls := "java/lang/Object", name := "equals", desc := "(Ljava/lang/Object;)Z" } : Jvm.MethodName)) ∈ lw_all := lw_g (lw_at lw_m2 56 rfl) rfl
theorem q421 : (Jvm.Cond.selects "PatrolDesk$Reader" ({ cls := "java/lang/Object", name := "getClass", desc := "()Ljava/lang/Class;" } : Jvm.MethodName) ({ cls := "java/lang/Object", name := "getClass", desc := "()Ljava/lang/Class;" } : Jvm.MethodName)) ∈ lw_all := lw_g (lw_at lw_m2 104 rfl) rfl
theorem q1750 : (Jvm.Cond.instantiable "PatrolDesk$Reader" (2 : Nat)) ∈ lw_all := lw_g (lw_at lw_m7 233 rfl) rfl
theorem q1752 : (Jvm.Cond.instanceMethod ({ cls := "PatrolDesk$Reader", name := "<init>", desc := "(Ljava/lang/CharSequence;)V" } : Jvm.MethodName)) ∈ lw_all := lw_g (lw_at lw_m7 235 rfl) rfl
theorem q1753 : (Jvm.Cond.code ({ cls := "PatrolDesk$Reader", name := "<init>", desc := "(Ljava/lang/CharSequence;)V" } : Jvm.MethodName) prog_9_method_1_code (2 : Nat) (Option.none : Option Jvm.ClassFile.FieldType)) ∈ lw_all := lw_g (lw_at lw_m7 236 rfl) rfl
theorem q1754 : (Jvm.Cond.methodLink "PatrolDesk$Reader" (1 : Nat) ({ cls := "java/lang/Object", name := "<init>", desc := "()V" } : Jvm.MethodName)) ∈ lw_all := lw_g (lw_at lw_m7 237 rfl) rfl
theorem q1755 : (Jvm.Cond.fieldLink "PatrolDesk$Reader" (7 : Nat) "PatrolDesk$Reader" "signs" "Ljava/lang/CharSequence;") ∈ lw_all := lw_g (lw_at lw_m7 238 rfl) rfl
theorem q1756 : (Jvm.Cond.fieldLink "PatrolDesk$Reader" (13 : Nat) "PatrolDesk$Reader" "place" "I") ∈ lw_all := lw_g (lw_at lw_m7 239 rfl) rfl
theorem q1757 : (Jvm.Cond.laysFinal "PatrolDesk$Reader" "PatrolDesk$Reader" "signs" "Ljava/lang/CharSequence;") ∈ lw_all := lw_g (lw_at lw_m8 0 rfl) rfl
theorem q1758 : (Jvm.Cond.soleField "PatrolDesk$Reader" "signs") ∈ lw_all := lw_g (lw_at lw_m8 1 rfl) rfl
theorem q1759 : (Jvm.Cond.lays "PatrolDesk$Reader" "PatrolDesk$Reader" "place" "I") ∈ lw_all := lw_g (lw_at lw_m8 2 rfl) rfl
theorem q1760 : (Jvm.Cond.soleField "PatrolDesk$Reader" "place") ∈ lw_all := lw_g (lw_at lw_m8 3 rfl) rfl
theorem q1761 : (Jvm.Cond.superclass "PatrolDesk$Reader" "java/lang/Object") ∈ lw_all := lw_g (lw_at lw_m8 4 rfl) rfl
theorem q1763 : (Jvm.Cond.instanceMethod ({ cls := "PatrolDesk$Reader", name := "read", desc := "()Ljava/util/List;" } : Jvm.MethodName)) ∈ lw_all := lw_g (lw_at lw_m8 6 rfl) rfl
theorem q1764 : (Jvm.Cond.selects "PatrolDesk$Reader" ({ cls := "PatrolDesk$Reader", name := "read", desc := "()Ljava/util/List;" } : Jvm.MethodName) ({ cls := "PatrolDesk$Reader", name := "read", desc := "()Ljava/util/List;" } : Jvm.MethodName)) ∈ lw_all := lw_g (lw_at lw_m8 7 rfl) rfl
theorem q1765 : (Jvm.Cond.code ({ cls := "PatrolDesk$Reader", name := "read", desc := "()Ljava/util/List;" } : Jvm.MethodName) prog_9_method_7_code (2 : Nat) (Option.some (Jvm.ClassFile.FieldType.object "java/util/List"))) ∈ lw_all := lw_g (lw_at lw_m8 8 rfl) rfl
theorem q1766 : (Jvm.Cond.classLink "PatrolDesk$Reader" (58 : Nat) "java/util/ArrayList") ∈ lw_all := lw_g (lw_at lw_m8 9 rfl) rfl
theorem q1767 : (Jvm.Cond.methodLink "PatrolDesk$Reader" (60 : Nat) ({ cls := "java/util/ArrayList", name := "<init>", desc := "()V" } : Jvm.MethodName)) ∈ lw_all := lw_g (lw_at lw_m8 10 rfl) rfl
theorem q1768 : (Jvm.Cond.methodLink "PatrolDesk$Reader" (61 : Nat) ({ cls := "PatrolDesk$Reader", name := "readCall", desc := "(Ljava/util/List;)V" } : Jvm.MethodName)) ∈ lw_all := lw_g (lw_at lw_m8 11 rfl) rfl
theorem q1769 : (Jvm.Cond.privateMethod ({ cls := "PatrolDesk$Reader", name := "readCall", desc := "(Ljava/util/List;)V" } : Jvm.MethodName)) ∈ lw_tbl := lw_at lw_m8 12 rfl
theorem q1770 : (Jvm.Cond.instanceMethod ({ cls := "PatrolDesk$Reader", name := "readCall", desc := "(Ljava/util/List;)V" } : Jvm.MethodName)) ∈ lw_all := lw_g (lw_at lw_m8 13 rfl) rfl
theorem q1771 : (Jvm.Cond.code ({ cls := "PatrolDesk$Reader", name := "readCall", desc := "(Ljava/util/List;)V" } : Jvm.MethodName) prog_9_method_6_code (2 : Nat) (Option.none : Option Jvm.ClassFile.FieldType)) ∈ lw_all := lw_g (lw_at lw_m8 14 rfl) rfl
theorem q1772 : (Jvm.Cond.methodLink "PatrolDesk$Reader" (39 : Nat) ({ cls := "PatrolDesk$Reader", name := "want", desc := "(C)V" } : Jvm.MethodName)) ∈ lw_all := lw_g (lw_at lw_m8 15 rfl) rfl
theorem q1773 : (Jvm.Cond.privateMethod ({ cls := "PatrolDesk$Reader", name := "want", desc := "(C)V" } : Jvm.MethodName)) ∈ lw_tbl := lw_at lw_m8 16 rfl
theorem q1774 : (Jvm.Cond.instanceMethod ({ cls := "PatrolDesk$Reader", name := "want", desc := "(C)V" } : Jvm.MethodName)) ∈ lw_all := lw_g (lw_at lw_m8 17 rfl) rfl
theorem q1775 : (Jvm.Cond.code ({ cls := "PatrolDesk$Reader", name := "want", desc := "(C)V" } : Jvm.MethodName) prog_9_method_4_code (2 : Nat) (Option.none : Option Jvm.ClassFile.FieldType)) ∈ lw_all := lw_g (lw_at lw_m8 18 rfl) rfl
theorem q1776 : (Jvm.Cond.methodLink "PatrolDesk$Reader" (23 : Nat) ({ cls := "PatrolDesk$Reader", name := "isAtEnd", desc := "()Z" } : Jvm.MethodName)) ∈ lw_all := lw_g (lw_at lw_m8 19 rfl) rfl
theorem q1777 : (Jvm.Cond.privateMethod ({ cls := "PatrolDesk$Reader", name := "isAtEnd", desc := "()Z" } : Jvm.MethodName)) ∈ lw_tbl := lw_at lw_m8 20 rfl
theorem q1778 : (Jvm.Cond.instanceMethod ({ cls := "PatrolDesk$Reader", name := "isAtEnd", desc := "()Z" } : Jvm.MethodName)) ∈ lw_all := lw_g (lw_at lw_m8 21 rfl) rfl
theorem q1779 : (Jvm.Cond.code ({ cls := "PatrolDesk$Reader", name := "isAtEnd", desc := "()Z" } : Jvm.MethodName) prog_9_method_2_code (1 : Nat) (Option.some Jvm.ClassFile.FieldType.boolean)) ∈ lw_all := lw_g (lw_at lw_m8 22 rfl) rfl
theorem q1780 : (Jvm.Cond.interfaceEntry "PatrolDesk$Reader" (17 : Nat)) ∈ lw_tbl := lw_at lw_m8 23 rfl
theorem q1781 : (Jvm.Cond.methodLink "PatrolDesk$Reader" (17 : Nat) ({ cls := "java/lang/CharSequence", name := "length", desc := "()I" } : Jvm.MethodName)) ∈ lw_all := lw_g (lw_at lw_m8 24 rfl) rfl
theorem q1788 : (Jvm.Cond.interfaceEntry "PatrolDesk$Reader" (27 : Nat)) ∈ lw_tbl := lw_at lw_m8 31 rfl
theorem q1789 : (Jvm.Cond.methodLink "PatrolDesk$Reader" (27 : Nat) ({ cls := "java/lang/CharSequence", name := "charAt", desc := "(I)C" } : Jvm.MethodName)) ∈ lw_all := lw_g (lw_at lw_m8 32 rfl) rfl
theorem q1803 : (Jvm.Cond.classLink "PatrolDesk$Reader" (31 : Nat) "PatrolDesk$TextFault") ∈ lw_all := lw_g (lw_at lw_m8 46 rfl) rfl
theorem q1812 : (Jvm.Cond.methodLink "PatrolDesk$Reader" (33 : Nat) ({ cls := "PatrolDesk$TextFault", name := "<init>", desc := "(I)V" } : Jvm.MethodName)) ∈ lw_all := lw_g (lw_at lw_m8 55 rfl) rfl
theorem q1822 : (Jvm.Cond.methodLink "PatrolDesk$Reader" (43 : Nat) ({ cls := "PatrolDesk$Reader", name := "number", desc := "()I" } : Jvm.MethodName)) ∈ lw_all := lw_g (lw_at lw_m8 65 rfl) rfl
theorem q1823 : (Jvm.Cond.privateMethod ({ cls := "PatrolDesk$Reader", name := "number", desc := "()I" } : Jvm.MethodName)) ∈ lw_tbl := lw_at lw_m8 66 rfl
theorem q1824 : (Jvm.Cond.instanceMethod ({ cls := "PatrolDesk$Reader", name := "number", desc := "()I" } : Jvm.MethodName)) ∈ lw_all := lw_g (lw_at lw_m8 67 rfl) rfl
theorem q1825 : (Jvm.Cond.code ({ cls := "PatrolDesk$Reader", name := "number", desc := "()I" } : Jvm.MethodName) prog_9_method_5_code (2 : Nat) (Option.some Jvm.ClassFile.FieldType.int)) ∈ lw_all := lw_g (lw_at lw_m8 68 rfl) rfl
theorem q1826 : (Jvm.Cond.methodLink "PatrolDesk$Reader" (36 : Nat) ({ cls := "PatrolDesk$Reader", name := "isDigit", desc := "()Z" } : Jvm.MethodName)) ∈ lw_all := lw_g (lw_at lw_m8 69 rfl) rfl
theorem q1827 : (Jvm.Cond.privateMethod ({ cls := "PatrolDesk$Reader", name := "isDigit", desc := "()Z" } : Jvm.MethodName)) ∈ lw_tbl := lw_at lw_m8 70 rfl
theorem q1828 : (Jvm.Cond.instanceMethod ({ cls := "PatrolDesk$Reader", name := "isDigit", desc := "()Z" } : Jvm.MethodName)) ∈ lw_all := lw_g (lw_at lw_m8 71 rfl) rfl
theorem q1829 : (Jvm.Cond.code ({ cls := "PatrolDesk$Reader", name := "isDigit", desc := "()Z" } : Jvm.MethodName) prog_9_method_3_code (1 : Nat) (Option.some Jvm.ClassFile.FieldType.boolean)) ∈ lw_all := lw_g (lw_at lw_m8 72 rfl) rfl
theorem q1830 : (Jvm.Cond.methodLink "PatrolDesk$Reader" (46 : Nat) ({ cls := "java/lang/Integer", name := "valueOf", desc := "(I)Ljava/lang/Integer;" } : Jvm.MethodName)) ∈ lw_all := lw_g (lw_at lw_m8 73 rfl) rfl
theorem q1831 : (Jvm.Cond.interfaceEntry "PatrolDesk$Reader" (52 : Nat)) ∈ lw_tbl := lw_at lw_m8 74 rfl
theorem q1832 : (Jvm.Cond.methodLink "PatrolDesk$Reader" (52 : Nat) ({ cls := "java/util/List", name := "add", desc := "(Ljava/lang/Object;)Z" } : Jvm.MethodName)) ∈ lw_all := lw_g (lw_at lw_m8 75 rfl) rfl
theorem q2307 : (Jvm.Cond.castable "PatrolDesk$Reader" "java/lang/Object") ∈ lw_tbl := lw_at lw_m10 70 rfl
theorem in_X11 : ∀ w ∈ wsX110, w ∈ lw_all := lw_in wsX110 [1757, 1759] (by decide +kernel) (by decide +kernel)
/-! PatrolDesk$TextFault -/
set_option maxRecDepth 100000
def RX12 : String := "PatrolDesk$TextFault"
def TX12 : u_T := fun k => match k with
  | 0 => ("java/lang/Throwable", "cause", "Ljava/lang/Throwable;", false)
  | 1 => ("java/lang/Throwable", "stackTrace", "[Ljava/lang/StackTraceElement;", false)
  | 2 => ("java/lang/Throwable", "suppressedExceptions", "Ljava/util/List;", false)
  | 3 => ("java/lang/Throwable", "detailMessage", "Ljava/lang/String;", false)
  | 4 => ("java/lang/Throwable", "backtrace", "Ljava/lang/Object;", false)
  | 5 => ("java/lang/Throwable", "depth", "I", false)
  | _ => ("PatrolDesk$TextFault", "place", "I", true)
def tyX12 : Nat → FieldType := fun k => match k with
  | 0 => .object "java/lang/Throwable"
  | 1 => .array (.object "java/lang/StackTraceElement")
  | 2 => .object "java/util/List"
  | 3 => .object "java/lang/String"
  | 4 => .object "java/lang/Object"
  | 5 => .int
  | _ => .int
abbrev wsX120 : List Cond := u_ws RX12 TX12 7
theorem nmX12 : ∀ a, a < 7 → ∀ b, b < 7 → a ≠ b → (TX12 a).2.1 ≠ (TX12 b).2.1 := by decide +kernel
theorem tyX12_ok : ∀ k, k < 7 → parseFieldDescriptor (TX12 k).2.2.1 = some (tyX12 k) := by decide +kernel
abbrev cX12_init : ByteArray := prog_14_method_1_code
def yX12_init : MethodName := ⟨RX12, "<init>", "(I)V"⟩
def dkwX12_init_0 : List UInt8 := [42, 183, 0, 1, 42, 27, 181, 0, 7, 177]
abbrev dktX12_init_0 : List UInt8 := dkwX12_init_0 ++ []
theorem dksX12_init_0 : cX12_init.data.toList.drop 0 = dktX12_init_0 := by decide +kernel
theorem dX12_init_0 : decode cX12_init 0 = .ok (.aload_n 0, 1) := dk_42 (dk_at dksX12_init_0 0 rfl rfl)
theorem dX12_init_1 : decode cX12_init 1 = .ok (.invokespecial 1, 3) := dk_183 0 1 (dk_at dksX12_init_0 1 rfl rfl)
theorem dX12_init_4 : decode cX12_init 4 = .ok (.aload_n 0, 1) := dk_42 (dk_at dksX12_init_0 4 rfl rfl)
theorem dX12_init_5 : decode cX12_init 5 = .ok (.iload_n 1, 1) := dk_27 (dk_at dksX12_init_0 5 rfl rfl)
theorem dX12_init_6 : decode cX12_init 6 = .ok (.putfield 7, 3) := dk_181 0 7 (dk_at dksX12_init_0 6 rfl rfl)
theorem dX12_init_9 : decode cX12_init 9 = .ok (.return_, 1) := dk_177 (dk_at dksX12_init_0 9 rfl rfl)
theorem q120 : (Jvm.Cond.initialized "PatrolDesk$TextFault") ∈ lw_all := lw_g (lw_at lw_m1 43 rfl) rfl
theorem q349 : (Jvm.Cond.selects "PatrolDesk$TextFault" ({ cls := "java/lang/Object", name := "hashCode", desc := "()I" } : Jvm.MethodName) ({ cls := "java/lang/Object", name := "hashCode", desc := "()I" } : Jvm.MethodName)) ∈ lw_all := lw_g (lw_at lw_m2 32 rfl) rfl
theorem q381 : (Jvm.Cond.selects "PatrolDesk$TextFault" ({ cls := "java/lang/Object", name := "equals", desc := "(Ljava/lang/Object;)Z" } : Jvm.MethodName) ({ cls := "java/lang/Object", name := "equals", desc := "(Ljava/lang/Object;)Z" } : Jvm.MethodName)) ∈ lw_all := lw_g (lw_at lw_m2 64 rfl) rfl
theorem q426 : (Jvm.Cond.selects "PatrolDesk$TextFault" ({ cls := "java/lang/Object", name := "getClass", desc := "()Ljava/lang/Class;" } : Jvm.MethodName) ({ cls := "java/lang/Object", name := "getClass", desc := "()Ljava/lang/Class;" } : Jvm.MethodName)) ∈ lw_all := lw_g (lw_at lw_m2 109 rfl) rfl
theorem q1344 : (Jvm.Cond.selects "PatrolDesk$TextFault" ({ cls := "java/lang/Throwable", name := "fillInStackTrace", desc := "()Ljava/lang/Throwable;" } : Jvm.MethodName) ({ cls := "java/lang/Throwable", name := "fillInStackTrace", desc := "()Ljava/lang/Throwable;" } : Jvm.MethodName)) ∈ lw_all := lw_g (lw_at lw_m6 67 rfl) rfl
theorem q1804 : (Jvm.Cond.instantiable "PatrolDesk$TextFault" (7 : Nat)) ∈ lw_all := lw_g (lw_at lw_m8 47 rfl) rfl
theorem q1805 : (Jvm.Cond.castable "PatrolDesk$TextFault" "PatrolDesk$TextFault") ∈ lw_tbl := lw_at lw_m8 48 rfl
theorem q1806 : (Jvm.Cond.selects "PatrolDesk$TextFault" ({ cls := "java/lang/Throwable", name := "fillInStackTrace", desc := "(I)Ljava/lang/Throwable;" } : Jvm.MethodName) ({ cls := "java/lang/Throwable", name := "fillInStackTrace", desc := "(I)Ljava/lang/Throwable;" } : Jvm.MethodName)) ∈ lw_all := lw_g (lw_at lw_m8 49 rfl) rfl
theorem q1807 : (Jvm.Cond.lays "PatrolDesk$TextFault" "java/lang/Throwable" "cause" "Ljava/lang/Throwable;") ∈ lw_all := lw_g (lw_at lw_m8 50 rfl) rfl
theorem q1808 : (Jvm.Cond.lays "PatrolDesk$TextFault" "java/lang/Throwable" "stackTrace" "[Ljava/lang/StackTraceElement;") ∈ lw_all := lw_g (lw_at lw_m8 51 rfl) rfl
theorem q1809 : (Jvm.Cond.lays "PatrolDesk$TextFault" "java/lang/Throwable" "suppressedExceptions" "Ljava/util/List;") ∈ lw_all := lw_g (lw_at lw_m8 52 rfl) rfl
theorem q1810 : (Jvm.Cond.lays "PatrolDesk$TextFault" "java/lang/Throwable" "detailMessage" "Ljava/lang/String;") ∈ lw_all := lw_g (lw_at lw_m8 53 rfl) rfl
theorem q1811 : (Jvm.Cond.lays "PatrolDesk$TextFault" "java/lang/Throwable" "backtrace" "Ljava/lang/Object;") ∈ lw_all := lw_g (lw_at lw_m8 54 rfl) rfl
theorem q1813 : (Jvm.Cond.instanceMethod ({ cls := "PatrolDesk$TextFault", name := "<init>", desc := "(I)V" } : Jvm.MethodName)) ∈ lw_all := lw_g (lw_at lw_m8 56 rfl) rfl
theorem q1814 : (Jvm.Cond.code ({ cls := "PatrolDesk$TextFault", name := "<init>", desc := "(I)V" } : Jvm.MethodName) prog_14_method_1_code (2 : Nat) (Option.none : Option Jvm.ClassFile.FieldType)) ∈ lw_all := lw_g (lw_at lw_m8 57 rfl) rfl
theorem q1815 : (Jvm.Cond.methodLink "PatrolDesk$TextFault" (1 : Nat) ({ cls := "java/lang/Exception", name := "<init>", desc := "()V" } : Jvm.MethodName)) ∈ lw_all := lw_g (lw_at lw_m8 58 rfl) rfl
theorem q1816 : (Jvm.Cond.fieldLink "PatrolDesk$TextFault" (7 : Nat) "PatrolDesk$TextFault" "place" "I") ∈ lw_all := lw_g (lw_at lw_m8 59 rfl) rfl
theorem q1818 : (Jvm.Cond.laysFinal "PatrolDesk$TextFault" "PatrolDesk$TextFault" "place" "I") ∈ lw_all := lw_g (lw_at lw_m8 61 rfl) rfl
theorem q1819 : (Jvm.Cond.soleField "PatrolDesk$TextFault" "place") ∈ lw_all := lw_g (lw_at lw_m8 62 rfl) rfl
theorem q1820 : (Jvm.Cond.lays "PatrolDesk$TextFault" "java/lang/Throwable" "depth" "I") ∈ lw_all := lw_g (lw_at lw_m8 63 rfl) rfl
theorem q1821 : (Jvm.Cond.superclass "PatrolDesk$TextFault" "java/lang/Exception") ∈ lw_all := lw_g (lw_at lw_m8 64 rfl) rfl
theorem q2308 : (Jvm.Cond.castable "PatrolDesk$TextFault" "java/lang/Object") ∈ lw_tbl := lw_at lw_m10 71 rfl
theorem in_X12 : ∀ w ∈ wsX120, w ∈ lw_all := lw_in wsX120 [1807, 1808, 1809, 1810, 1811, 1820, 1818] (by decide +kernel) (by decide +kernel)
