/-! java/util/AbstractCollection -/
set_option maxRecDepth 100000
def RJ0 : String := "java/util/AbstractCollection"
abbrev cJ0_init : ByteArray := prog_38_method_1_code
def yJ0_init : MethodName := ⟨RJ0, "<init>", "()V"⟩
theorem dJ0_init_0 : decode cJ0_init 0 = .ok (.aload_n 0, 1) := by decide +kernel
theorem dJ0_init_1 : decode cJ0_init 1 = .ok (.invokespecial 1, 3) := by decide +kernel
theorem dJ0_init_4 : decode cJ0_init 4 = .ok (.return_, 1) := by decide +kernel
theorem q80 : (Jvm.Cond.initialized "java/util/AbstractCollection") ∈ lw_all := lw_g (lw_at lw_m1 3 rfl) rfl
theorem q144 : (Jvm.Cond.instanceMethod ({ cls := "java/util/AbstractCollection", name := "<init>", desc := "()V" } : Jvm.MethodName)) ∈ lw_all := lw_g (lw_at lw_m1 67 rfl) rfl
theorem q145 : (Jvm.Cond.code ({ cls := "java/util/AbstractCollection", name := "<init>", desc := "()V" } : Jvm.MethodName) prog_38_method_1_code (1 : Nat) (Option.none : Option Jvm.ClassFile.FieldType)) ∈ lw_all := lw_g (lw_at lw_m1 68 rfl) rfl
theorem q146 : (Jvm.Cond.methodLink "java/util/AbstractCollection" (1 : Nat) ({ cls := "java/lang/Object", name := "<init>", desc := "()V" } : Jvm.MethodName)) ∈ lw_all := lw_g (lw_at lw_m1 69 rfl) rfl
/-! java/util/AbstractList -/
set_option maxRecDepth 100000
def RJ1 : String := "java/util/AbstractList"
abbrev cJ1_init : ByteArray := prog_39_method_1_code
def yJ1_init : MethodName := ⟨RJ1, "<init>", "()V"⟩
def dkwJ1_init_0 : List UInt8 := [42, 183, 0, 1, 42, 3, 181, 0, 7, 177]
abbrev dktJ1_init_0 : List UInt8 := dkwJ1_init_0 ++ []
theorem dksJ1_init_0 : cJ1_init.data.toList.drop 0 = dktJ1_init_0 := by decide +kernel
theorem dJ1_init_0 : decode cJ1_init 0 = .ok (.aload_n 0, 1) := dk_42 (dk_at dksJ1_init_0 0 rfl rfl)
theorem dJ1_init_1 : decode cJ1_init 1 = .ok (.invokespecial 1, 3) := dk_183 0 1 (dk_at dksJ1_init_0 1 rfl rfl)
theorem dJ1_init_4 : decode cJ1_init 4 = .ok (.aload_n 0, 1) := dk_42 (dk_at dksJ1_init_0 4 rfl rfl)
theorem dJ1_init_5 : decode cJ1_init 5 = .ok (.iconst 0, 1) := dk_3 (dk_at dksJ1_init_0 5 rfl rfl)
theorem dJ1_init_6 : decode cJ1_init 6 = .ok (.putfield 7, 3) := dk_181 0 7 (dk_at dksJ1_init_0 6 rfl rfl)
theorem dJ1_init_9 : decode cJ1_init 9 = .ok (.return_, 1) := dk_177 (dk_at dksJ1_init_0 9 rfl rfl)
theorem q81 : (Jvm.Cond.initialized "java/util/AbstractList") ∈ lw_all := lw_g (lw_at lw_m1 4 rfl) rfl
theorem q141 : (Jvm.Cond.instanceMethod ({ cls := "java/util/AbstractList", name := "<init>", desc := "()V" } : Jvm.MethodName)) ∈ lw_all := lw_g (lw_at lw_m1 64 rfl) rfl
theorem q142 : (Jvm.Cond.code ({ cls := "java/util/AbstractList", name := "<init>", desc := "()V" } : Jvm.MethodName) prog_39_method_1_code (1 : Nat) (Option.none : Option Jvm.ClassFile.FieldType)) ∈ lw_all := lw_g (lw_at lw_m1 65 rfl) rfl
theorem q143 : (Jvm.Cond.methodLink "java/util/AbstractList" (1 : Nat) ({ cls := "java/util/AbstractCollection", name := "<init>", desc := "()V" } : Jvm.MethodName)) ∈ lw_all := lw_g (lw_at lw_m1 66 rfl) rfl
theorem q151 : (Jvm.Cond.fieldLink "java/util/AbstractList" (7 : Nat) "java/util/AbstractList" "modCount" "I") ∈ lw_all := lw_g (lw_at lw_m1 74 rfl) rfl
theorem q159 : (Jvm.Cond.soleField "java/util/AbstractList" "modCount") ∈ lw_all := lw_g (lw_at lw_m1 82 rfl) rfl
/-! java/util/ArrayList -/
set_option maxRecDepth 100000
def RJ2 : String := "java/util/ArrayList"
def TJ2 : u_T := fun k => match k with
  | 0 => ("java/util/AbstractList", "modCount", "I", false)
  | 1 => ("java/util/ArrayList", "elementData", "[Ljava/lang/Object;", false)
  | _ => ("java/util/ArrayList", "size", "I", false)
def tyJ2 : Nat → FieldType := fun k => match k with
  | 0 => .int
  | 1 => .array (.object "java/lang/Object")
  | _ => .int
abbrev wsJ20 : List Cond := u_ws RJ2 TJ2 3
theorem nmJ2 : ∀ a, a < 3 → ∀ b, b < 3 → a ≠ b → (TJ2 a).2.1 ≠ (TJ2 b).2.1 := by decide +kernel
theorem tyJ2_ok : ∀ k, k < 3 → parseFieldDescriptor (TJ2 k).2.2.1 = some (tyJ2 k) := by decide +kernel
abbrev cJ2_init : ByteArray := prog_42_method_2_code
def yJ2_init : MethodName := ⟨RJ2, "<init>", "()V"⟩
def dkwJ2_init_0 : List UInt8 := [42, 183, 0, 1, 42, 178, 0, 39, 181, 0, 9, 177]
abbrev dktJ2_init_0 : List UInt8 := dkwJ2_init_0 ++ []
theorem dksJ2_init_0 : cJ2_init.data.toList.drop 0 = dktJ2_init_0 := by decide +kernel
theorem dJ2_init_0 : decode cJ2_init 0 = .ok (.aload_n 0, 1) := dk_42 (dk_at dksJ2_init_0 0 rfl rfl)
theorem dJ2_init_1 : decode cJ2_init 1 = .ok (.invokespecial 1, 3) := dk_183 0 1 (dk_at dksJ2_init_0 1 rfl rfl)
theorem dJ2_init_4 : decode cJ2_init 4 = .ok (.aload_n 0, 1) := dk_42 (dk_at dksJ2_init_0 4 rfl rfl)
theorem dJ2_init_5 : decode cJ2_init 5 = .ok (.getstatic 39, 3) := dk_178 0 39 (dk_at dksJ2_init_0 5 rfl rfl)
theorem dJ2_init_8 : decode cJ2_init 8 = .ok (.putfield 9, 3) := dk_181 0 9 (dk_at dksJ2_init_0 8 rfl rfl)
theorem dJ2_init_11 : decode cJ2_init 11 = .ok (.return_, 1) := dk_177 (dk_at dksJ2_init_0 11 rfl rfl)
abbrev cJ2_add : ByteArray := prog_42_method_25_code
def yJ2_add : MethodName := ⟨RJ2, "add", "(Ljava/lang/Object;)Z"⟩
def dkwJ2_add_1 : List UInt8 := [172]
abbrev dktJ2_add_1 : List UInt8 := dkwJ2_add_1 ++ []
def dkwJ2_add_0 : List UInt8 := [42, 89, 180, 0, 63, 4, 96, 181, 0, 63, 42, 43, 42, 180, 0, 9, 42, 180, 0, 48, 182, 0, 131, 4]
abbrev dktJ2_add_0 : List UInt8 := dkwJ2_add_0 ++ dktJ2_add_1
theorem dksJ2_add_0 : cJ2_add.data.toList.drop 0 = dktJ2_add_0 := by decide +kernel
theorem dksJ2_add_1 : cJ2_add.data.toList.drop 24 = dktJ2_add_1 := dk_seg dksJ2_add_0 24 rfl rfl
theorem dJ2_add_0 : decode cJ2_add 0 = .ok (.aload_n 0, 1) := dk_42 (dk_at dksJ2_add_0 0 rfl rfl)
theorem dJ2_add_1 : decode cJ2_add 1 = .ok (.dup, 1) := dk_89 (dk_at dksJ2_add_0 1 rfl rfl)
theorem dJ2_add_2 : decode cJ2_add 2 = .ok (.getfield 63, 3) := dk_180 0 63 (dk_at dksJ2_add_0 2 rfl rfl)
theorem dJ2_add_5 : decode cJ2_add 5 = .ok (.iconst 1, 1) := dk_4 (dk_at dksJ2_add_0 5 rfl rfl)
theorem dJ2_add_6 : decode cJ2_add 6 = .ok (.iadd, 1) := dk_96 (dk_at dksJ2_add_0 6 rfl rfl)
theorem dJ2_add_7 : decode cJ2_add 7 = .ok (.putfield 63, 3) := dk_181 0 63 (dk_at dksJ2_add_0 7 rfl rfl)
theorem dJ2_add_10 : decode cJ2_add 10 = .ok (.aload_n 0, 1) := dk_42 (dk_at dksJ2_add_0 10 rfl rfl)
theorem dJ2_add_11 : decode cJ2_add 11 = .ok (.aload_n 1, 1) := dk_43 (dk_at dksJ2_add_0 11 rfl rfl)
theorem dJ2_add_12 : decode cJ2_add 12 = .ok (.aload_n 0, 1) := dk_42 (dk_at dksJ2_add_0 12 rfl rfl)
theorem dJ2_add_13 : decode cJ2_add 13 = .ok (.getfield 9, 3) := dk_180 0 9 (dk_at dksJ2_add_0 13 rfl rfl)
theorem dJ2_add_16 : decode cJ2_add 16 = .ok (.aload_n 0, 1) := dk_42 (dk_at dksJ2_add_0 16 rfl rfl)
theorem dJ2_add_17 : decode cJ2_add 17 = .ok (.getfield 48, 3) := dk_180 0 48 (dk_at dksJ2_add_0 17 rfl rfl)
theorem dJ2_add_20 : decode cJ2_add 20 = .ok (.invokevirtual 131, 3) := dk_182 0 131 (dk_at dksJ2_add_0 20 rfl rfl)
theorem dJ2_add_23 : decode cJ2_add 23 = .ok (.iconst 1, 1) := dk_4 (dk_at dksJ2_add_0 23 rfl rfl)
theorem dJ2_add_24 : decode cJ2_add 24 = .ok (.ireturn, 1) := dk_172 (dk_at dksJ2_add_1 0 rfl rfl)
abbrev cJ2_add_2 : ByteArray := prog_42_method_24_code
def yJ2_add_2 : MethodName := ⟨RJ2, "add", "(Ljava/lang/Object;[Ljava/lang/Object;I)V"⟩
def dkwJ2_add_2_0 : List UInt8 := [29, 44, 190, 160, 0, 8, 42, 182, 0, 129, 77, 44, 29, 43, 83, 42, 29, 4, 96, 181, 0, 48, 177]
abbrev dktJ2_add_2_0 : List UInt8 := dkwJ2_add_2_0 ++ []
theorem dksJ2_add_2_0 : cJ2_add_2.data.toList.drop 0 = dktJ2_add_2_0 := by decide +kernel
theorem dJ2_add_2_0 : decode cJ2_add_2 0 = .ok (.iload_n 3, 1) := dk_29 (dk_at dksJ2_add_2_0 0 rfl rfl)
theorem dJ2_add_2_1 : decode cJ2_add_2 1 = .ok (.aload_n 2, 1) := dk_44 (dk_at dksJ2_add_2_0 1 rfl rfl)
theorem dJ2_add_2_2 : decode cJ2_add_2 2 = .ok (.arraylength, 1) := dk_190 (dk_at dksJ2_add_2_0 2 rfl rfl)
theorem dJ2_add_2_3 : decode cJ2_add_2 3 = .ok (.if_icmp .ne 8, 3) := dk_160 0 8 (dk_at dksJ2_add_2_0 3 rfl rfl)
theorem dJ2_add_2_6 : decode cJ2_add_2 6 = .ok (.aload_n 0, 1) := dk_42 (dk_at dksJ2_add_2_0 6 rfl rfl)
theorem dJ2_add_2_7 : decode cJ2_add_2 7 = .ok (.invokevirtual 129, 3) := dk_182 0 129 (dk_at dksJ2_add_2_0 7 rfl rfl)
theorem dJ2_add_2_10 : decode cJ2_add_2 10 = .ok (.astore_n 2, 1) := dk_77 (dk_at dksJ2_add_2_0 10 rfl rfl)
theorem dJ2_add_2_11 : decode cJ2_add_2 11 = .ok (.aload_n 2, 1) := dk_44 (dk_at dksJ2_add_2_0 11 rfl rfl)
theorem dJ2_add_2_12 : decode cJ2_add_2 12 = .ok (.iload_n 3, 1) := dk_29 (dk_at dksJ2_add_2_0 12 rfl rfl)
theorem dJ2_add_2_13 : decode cJ2_add_2 13 = .ok (.aload_n 1, 1) := dk_43 (dk_at dksJ2_add_2_0 13 rfl rfl)
theorem dJ2_add_2_14 : decode cJ2_add_2 14 = .ok (.aastore, 1) := dk_83 (dk_at dksJ2_add_2_0 14 rfl rfl)
theorem dJ2_add_2_15 : decode cJ2_add_2 15 = .ok (.aload_n 0, 1) := dk_42 (dk_at dksJ2_add_2_0 15 rfl rfl)
theorem dJ2_add_2_16 : decode cJ2_add_2 16 = .ok (.iload_n 3, 1) := dk_29 (dk_at dksJ2_add_2_0 16 rfl rfl)
theorem dJ2_add_2_17 : decode cJ2_add_2 17 = .ok (.iconst 1, 1) := dk_4 (dk_at dksJ2_add_2_0 17 rfl rfl)
theorem dJ2_add_2_18 : decode cJ2_add_2 18 = .ok (.iadd, 1) := dk_96 (dk_at dksJ2_add_2_0 18 rfl rfl)
theorem dJ2_add_2_19 : decode cJ2_add_2 19 = .ok (.putfield 48, 3) := dk_181 0 48 (dk_at dksJ2_add_2_0 19 rfl rfl)
theorem dJ2_add_2_22 : decode cJ2_add_2 22 = .ok (.return_, 1) := dk_177 (dk_at dksJ2_add_2_0 22 rfl rfl)
abbrev cJ2_grow : ByteArray := prog_42_method_7_code
def yJ2_grow : MethodName := ⟨RJ2, "grow", "()[Ljava/lang/Object;"⟩
def dkwJ2_grow_0 : List UInt8 := [42, 42, 180, 0, 48, 4, 96, 182, 0, 69, 176]
abbrev dktJ2_grow_0 : List UInt8 := dkwJ2_grow_0 ++ []
theorem dksJ2_grow_0 : cJ2_grow.data.toList.drop 0 = dktJ2_grow_0 := by decide +kernel
theorem dJ2_grow_0 : decode cJ2_grow 0 = .ok (.aload_n 0, 1) := dk_42 (dk_at dksJ2_grow_0 0 rfl rfl)
theorem dJ2_grow_1 : decode cJ2_grow 1 = .ok (.aload_n 0, 1) := dk_42 (dk_at dksJ2_grow_0 1 rfl rfl)
theorem dJ2_grow_2 : decode cJ2_grow 2 = .ok (.getfield 48, 3) := dk_180 0 48 (dk_at dksJ2_grow_0 2 rfl rfl)
theorem dJ2_grow_5 : decode cJ2_grow 5 = .ok (.iconst 1, 1) := dk_4 (dk_at dksJ2_grow_0 5 rfl rfl)
theorem dJ2_grow_6 : decode cJ2_grow 6 = .ok (.iadd, 1) := dk_96 (dk_at dksJ2_grow_0 6 rfl rfl)
theorem dJ2_grow_7 : decode cJ2_grow 7 = .ok (.invokevirtual 69, 3) := dk_182 0 69 (dk_at dksJ2_grow_0 7 rfl rfl)
theorem dJ2_grow_10 : decode cJ2_grow 10 = .ok (.areturn, 1) := dk_176 (dk_at dksJ2_grow_0 10 rfl rfl)
abbrev cJ2_grow_2 : ByteArray := prog_42_method_6_code
def yJ2_grow_2 : MethodName := ⟨RJ2, "grow", "(I)[Ljava/lang/Object;"⟩
def dkwJ2_grow_2_2 : List UInt8 := [27, 184, 0, 79, 189, 0, 7, 90, 181, 0, 9, 176]
abbrev dktJ2_grow_2_2 : List UInt8 := dkwJ2_grow_2_2 ++ []
def dkwJ2_grow_2_1 : List UInt8 := [28, 4, 122, 184, 0, 73, 62, 42, 42, 180, 0, 9, 29, 184, 0, 66, 90, 181, 0, 9, 176, 42, 16, 10]
abbrev dktJ2_grow_2_1 : List UInt8 := dkwJ2_grow_2_1 ++ dktJ2_grow_2_2
def dkwJ2_grow_2_0 : List UInt8 := [42, 180, 0, 9, 190, 61, 28, 157, 0, 13, 42, 180, 0, 9, 178, 0, 39, 165, 0, 28, 28, 27, 28, 100]
abbrev dktJ2_grow_2_0 : List UInt8 := dkwJ2_grow_2_0 ++ dktJ2_grow_2_1
theorem dksJ2_grow_2_0 : cJ2_grow_2.data.toList.drop 0 = dktJ2_grow_2_0 := by decide +kernel
theorem dksJ2_grow_2_1 : cJ2_grow_2.data.toList.drop 24 = dktJ2_grow_2_1 := dk_seg dksJ2_grow_2_0 24 rfl rfl
theorem dksJ2_grow_2_2 : cJ2_grow_2.data.toList.drop 48 = dktJ2_grow_2_2 := dk_seg dksJ2_grow_2_1 24 rfl rfl
theorem dJ2_grow_2_0 : decode cJ2_grow_2 0 = .ok (.aload_n 0, 1) := dk_42 (dk_at dksJ2_grow_2_0 0 rfl rfl)
theorem dJ2_grow_2_1 : decode cJ2_grow_2 1 = .ok (.getfield 9, 3) := dk_180 0 9 (dk_at dksJ2_grow_2_0 1 rfl rfl)
theorem dJ2_grow_2_4 : decode cJ2_grow_2 4 = .ok (.arraylength, 1) := dk_190 (dk_at dksJ2_grow_2_0 4 rfl rfl)
theorem dJ2_grow_2_5 : decode cJ2_grow_2 5 = .ok (.istore_n 2, 1) := dk_61 (dk_at dksJ2_grow_2_0 5 rfl rfl)
theorem dJ2_grow_2_6 : decode cJ2_grow_2 6 = .ok (.iload_n 2, 1) := dk_28 (dk_at dksJ2_grow_2_0 6 rfl rfl)
theorem dJ2_grow_2_7 : decode cJ2_grow_2 7 = .ok (.ifCond .gt 13, 3) := dk_157 0 13 (dk_at dksJ2_grow_2_0 7 rfl rfl)
theorem dJ2_grow_2_10 : decode cJ2_grow_2 10 = .ok (.aload_n 0, 1) := dk_42 (dk_at dksJ2_grow_2_0 10 rfl rfl)
theorem dJ2_grow_2_11 : decode cJ2_grow_2 11 = .ok (.getfield 9, 3) := dk_180 0 9 (dk_at dksJ2_grow_2_0 11 rfl rfl)
theorem dJ2_grow_2_14 : decode cJ2_grow_2 14 = .ok (.getstatic 39, 3) := dk_178 0 39 (dk_at dksJ2_grow_2_0 14 rfl rfl)
theorem dJ2_grow_2_17 : decode cJ2_grow_2 17 = .ok (.if_acmp .eq 28, 3) := dk_165 0 28 (dk_at dksJ2_grow_2_0 17 rfl rfl)
theorem dJ2_grow_2_20 : decode cJ2_grow_2 20 = .ok (.iload_n 2, 1) := dk_28 (dk_at dksJ2_grow_2_0 20 rfl rfl)
theorem dJ2_grow_2_21 : decode cJ2_grow_2 21 = .ok (.iload_n 1, 1) := dk_27 (dk_at dksJ2_grow_2_0 21 rfl rfl)
theorem dJ2_grow_2_22 : decode cJ2_grow_2 22 = .ok (.iload_n 2, 1) := dk_28 (dk_at dksJ2_grow_2_0 22 rfl rfl)
theorem dJ2_grow_2_23 : decode cJ2_grow_2 23 = .ok (.isub, 1) := dk_100 (dk_at dksJ2_grow_2_0 23 rfl rfl)
theorem dJ2_grow_2_24 : decode cJ2_grow_2 24 = .ok (.iload_n 2, 1) := dk_28 (dk_at dksJ2_grow_2_1 0 rfl rfl)
theorem dJ2_grow_2_25 : decode cJ2_grow_2 25 = .ok (.iconst 1, 1) := dk_4 (dk_at dksJ2_grow_2_1 1 rfl rfl)
theorem dJ2_grow_2_26 : decode cJ2_grow_2 26 = .ok (.ishr, 1) := dk_122 (dk_at dksJ2_grow_2_1 2 rfl rfl)
theorem dJ2_grow_2_27 : decode cJ2_grow_2 27 = .ok (.invokestatic 73, 3) := dk_184 0 73 (dk_at dksJ2_grow_2_1 3 rfl rfl)
theorem dJ2_grow_2_30 : decode cJ2_grow_2 30 = .ok (.istore_n 3, 1) := dk_62 (dk_at dksJ2_grow_2_1 6 rfl rfl)
theorem dJ2_grow_2_31 : decode cJ2_grow_2 31 = .ok (.aload_n 0, 1) := dk_42 (dk_at dksJ2_grow_2_1 7 rfl rfl)
theorem dJ2_grow_2_32 : decode cJ2_grow_2 32 = .ok (.aload_n 0, 1) := dk_42 (dk_at dksJ2_grow_2_1 8 rfl rfl)
theorem dJ2_grow_2_33 : decode cJ2_grow_2 33 = .ok (.getfield 9, 3) := dk_180 0 9 (dk_at dksJ2_grow_2_1 9 rfl rfl)
theorem dJ2_grow_2_36 : decode cJ2_grow_2 36 = .ok (.iload_n 3, 1) := dk_29 (dk_at dksJ2_grow_2_1 12 rfl rfl)
theorem dJ2_grow_2_37 : decode cJ2_grow_2 37 = .ok (.invokestatic 66, 3) := dk_184 0 66 (dk_at dksJ2_grow_2_1 13 rfl rfl)
theorem dJ2_grow_2_40 : decode cJ2_grow_2 40 = .ok (.dup_x1, 1) := dk_90 (dk_at dksJ2_grow_2_1 16 rfl rfl)
theorem dJ2_grow_2_41 : decode cJ2_grow_2 41 = .ok (.putfield 9, 3) := dk_181 0 9 (dk_at dksJ2_grow_2_1 17 rfl rfl)
theorem dJ2_grow_2_44 : decode cJ2_grow_2 44 = .ok (.areturn, 1) := dk_176 (dk_at dksJ2_grow_2_1 20 rfl rfl)
theorem dJ2_grow_2_45 : decode cJ2_grow_2 45 = .ok (.aload_n 0, 1) := dk_42 (dk_at dksJ2_grow_2_1 21 rfl rfl)
theorem dJ2_grow_2_46 : decode cJ2_grow_2 46 = .ok (.bipush 10, 2) := dk_16 10 (dk_at dksJ2_grow_2_1 22 rfl rfl)
theorem dJ2_grow_2_48 : decode cJ2_grow_2 48 = .ok (.iload_n 1, 1) := dk_27 (dk_at dksJ2_grow_2_2 0 rfl rfl)
theorem dJ2_grow_2_49 : decode cJ2_grow_2 49 = .ok (.invokestatic 79, 3) := dk_184 0 79 (dk_at dksJ2_grow_2_2 1 rfl rfl)
theorem dJ2_grow_2_52 : decode cJ2_grow_2 52 = .ok (.anewarray 7, 3) := dk_189 0 7 (dk_at dksJ2_grow_2_2 4 rfl rfl)
theorem dJ2_grow_2_55 : decode cJ2_grow_2 55 = .ok (.dup_x1, 1) := dk_90 (dk_at dksJ2_grow_2_2 7 rfl rfl)
theorem dJ2_grow_2_56 : decode cJ2_grow_2 56 = .ok (.putfield 9, 3) := dk_181 0 9 (dk_at dksJ2_grow_2_2 8 rfl rfl)
theorem dJ2_grow_2_59 : decode cJ2_grow_2 59 = .ok (.areturn, 1) := dk_176 (dk_at dksJ2_grow_2_2 11 rfl rfl)
abbrev cJ2_size : ByteArray := prog_42_method_8_code
def yJ2_size : MethodName := ⟨RJ2, "size", "()I"⟩
theorem dJ2_size_0 : decode cJ2_size 0 = .ok (.aload_n 0, 1) := by decide +kernel
theorem dJ2_size_1 : decode cJ2_size 1 = .ok (.getfield 48, 3) := by decide +kernel
theorem dJ2_size_4 : decode cJ2_size 4 = .ok (.ireturn, 1) := by decide +kernel
abbrev cJ2_remove : ByteArray := prog_42_method_29_code
def yJ2_remove : MethodName := ⟨RJ2, "remove", "(I)Ljava/lang/Object;"⟩
def dkwJ2_remove_1 : List UInt8 := [45, 176]
abbrev dktJ2_remove_1 : List UInt8 := dkwJ2_remove_1 ++ []
def dkwJ2_remove_0 : List UInt8 := [27, 42, 180, 0, 48, 184, 0, 118, 87, 42, 180, 0, 9, 77, 44, 27, 50, 78, 42, 44, 27, 182, 0, 144]
abbrev dktJ2_remove_0 : List UInt8 := dkwJ2_remove_0 ++ dktJ2_remove_1
theorem dksJ2_remove_0 : cJ2_remove.data.toList.drop 0 = dktJ2_remove_0 := by decide +kernel
theorem dksJ2_remove_1 : cJ2_remove.data.toList.drop 24 = dktJ2_remove_1 := dk_seg dksJ2_remove_0 24 rfl rfl
theorem dJ2_remove_0 : decode cJ2_remove 0 = .ok (.iload_n 1, 1) := dk_27 (dk_at dksJ2_remove_0 0 rfl rfl)
theorem dJ2_remove_1 : decode cJ2_remove 1 = .ok (.aload_n 0, 1) := dk_42 (dk_at dksJ2_remove_0 1 rfl rfl)
theorem dJ2_remove_2 : decode cJ2_remove 2 = .ok (.getfield 48, 3) := dk_180 0 48 (dk_at dksJ2_remove_0 2 rfl rfl)
theorem dJ2_remove_5 : decode cJ2_remove 5 = .ok (.invokestatic 118, 3) := dk_184 0 118 (dk_at dksJ2_remove_0 5 rfl rfl)
theorem dJ2_remove_8 : decode cJ2_remove 8 = .ok (.pop, 1) := dk_87 (dk_at dksJ2_remove_0 8 rfl rfl)
theorem dJ2_remove_9 : decode cJ2_remove 9 = .ok (.aload_n 0, 1) := dk_42 (dk_at dksJ2_remove_0 9 rfl rfl)
theorem dJ2_remove_10 : decode cJ2_remove 10 = .ok (.getfield 9, 3) := dk_180 0 9 (dk_at dksJ2_remove_0 10 rfl rfl)
theorem dJ2_remove_13 : decode cJ2_remove 13 = .ok (.astore_n 2, 1) := dk_77 (dk_at dksJ2_remove_0 13 rfl rfl)
theorem dJ2_remove_14 : decode cJ2_remove 14 = .ok (.aload_n 2, 1) := dk_44 (dk_at dksJ2_remove_0 14 rfl rfl)
theorem dJ2_remove_15 : decode cJ2_remove 15 = .ok (.iload_n 1, 1) := dk_27 (dk_at dksJ2_remove_0 15 rfl rfl)
theorem dJ2_remove_16 : decode cJ2_remove 16 = .ok (.aaload, 1) := dk_50 (dk_at dksJ2_remove_0 16 rfl rfl)
theorem dJ2_remove_17 : decode cJ2_remove 17 = .ok (.astore_n 3, 1) := dk_78 (dk_at dksJ2_remove_0 17 rfl rfl)
theorem dJ2_remove_18 : decode cJ2_remove 18 = .ok (.aload_n 0, 1) := dk_42 (dk_at dksJ2_remove_0 18 rfl rfl)
theorem dJ2_remove_19 : decode cJ2_remove 19 = .ok (.aload_n 2, 1) := dk_44 (dk_at dksJ2_remove_0 19 rfl rfl)
theorem dJ2_remove_20 : decode cJ2_remove 20 = .ok (.iload_n 1, 1) := dk_27 (dk_at dksJ2_remove_0 20 rfl rfl)
theorem dJ2_remove_21 : decode cJ2_remove 21 = .ok (.invokevirtual 144, 3) := dk_182 0 144 (dk_at dksJ2_remove_0 21 rfl rfl)
theorem dJ2_remove_24 : decode cJ2_remove 24 = .ok (.aload_n 3, 1) := dk_45 (dk_at dksJ2_remove_1 0 rfl rfl)
theorem dJ2_remove_25 : decode cJ2_remove 25 = .ok (.areturn, 1) := dk_176 (dk_at dksJ2_remove_1 1 rfl rfl)
abbrev cJ2_fastRemove : ByteArray := prog_42_method_39_code
def yJ2_fastRemove : MethodName := ⟨RJ2, "fastRemove", "([Ljava/lang/Object;I)V"⟩
def dkwJ2_fastRemove_1 : List UInt8 := [4, 96, 43, 28, 29, 28, 100, 184, 0, 112, 43, 42, 29, 90, 181, 0, 48, 1, 83, 177]
abbrev dktJ2_fastRemove_1 : List UInt8 := dkwJ2_fastRemove_1 ++ []
def dkwJ2_fastRemove_0 : List UInt8 := [42, 89, 180, 0, 63, 4, 96, 181, 0, 63, 42, 180, 0, 48, 4, 100, 89, 62, 28, 164, 0, 15, 43, 28]
abbrev dktJ2_fastRemove_0 : List UInt8 := dkwJ2_fastRemove_0 ++ dktJ2_fastRemove_1
theorem dksJ2_fastRemove_0 : cJ2_fastRemove.data.toList.drop 0 = dktJ2_fastRemove_0 := by decide +kernel
theorem dksJ2_fastRemove_1 : cJ2_fastRemove.data.toList.drop 24 = dktJ2_fastRemove_1 := dk_seg dksJ2_fastRemove_0 24 rfl rfl
theorem dJ2_fastRemove_0 : decode cJ2_fastRemove 0 = .ok (.aload_n 0, 1) := dk_42 (dk_at dksJ2_fastRemove_0 0 rfl rfl)
theorem dJ2_fastRemove_1 : decode cJ2_fastRemove 1 = .ok (.dup, 1) := dk_89 (dk_at dksJ2_fastRemove_0 1 rfl rfl)
theorem dJ2_fastRemove_2 : decode cJ2_fastRemove 2 = .ok (.getfield 63, 3) := dk_180 0 63 (dk_at dksJ2_fastRemove_0 2 rfl rfl)
theorem dJ2_fastRemove_5 : decode cJ2_fastRemove 5 = .ok (.iconst 1, 1) := dk_4 (dk_at dksJ2_fastRemove_0 5 rfl rfl)
theorem dJ2_fastRemove_6 : decode cJ2_fastRemove 6 = .ok (.iadd, 1) := dk_96 (dk_at dksJ2_fastRemove_0 6 rfl rfl)
theorem dJ2_fastRemove_7 : decode cJ2_fastRemove 7 = .ok (.putfield 63, 3) := dk_181 0 63 (dk_at dksJ2_fastRemove_0 7 rfl rfl)
theorem dJ2_fastRemove_10 : decode cJ2_fastRemove 10 = .ok (.aload_n 0, 1) := dk_42 (dk_at dksJ2_fastRemove_0 10 rfl rfl)
theorem dJ2_fastRemove_11 : decode cJ2_fastRemove 11 = .ok (.getfield 48, 3) := dk_180 0 48 (dk_at dksJ2_fastRemove_0 11 rfl rfl)
theorem dJ2_fastRemove_14 : decode cJ2_fastRemove 14 = .ok (.iconst 1, 1) := dk_4 (dk_at dksJ2_fastRemove_0 14 rfl rfl)
theorem dJ2_fastRemove_15 : decode cJ2_fastRemove 15 = .ok (.isub, 1) := dk_100 (dk_at dksJ2_fastRemove_0 15 rfl rfl)
theorem dJ2_fastRemove_16 : decode cJ2_fastRemove 16 = .ok (.dup, 1) := dk_89 (dk_at dksJ2_fastRemove_0 16 rfl rfl)
theorem dJ2_fastRemove_17 : decode cJ2_fastRemove 17 = .ok (.istore_n 3, 1) := dk_62 (dk_at dksJ2_fastRemove_0 17 rfl rfl)
theorem dJ2_fastRemove_18 : decode cJ2_fastRemove 18 = .ok (.iload_n 2, 1) := dk_28 (dk_at dksJ2_fastRemove_0 18 rfl rfl)
theorem dJ2_fastRemove_19 : decode cJ2_fastRemove 19 = .ok (.if_icmp .le 15, 3) := dk_164 0 15 (dk_at dksJ2_fastRemove_0 19 rfl rfl)
theorem dJ2_fastRemove_22 : decode cJ2_fastRemove 22 = .ok (.aload_n 1, 1) := dk_43 (dk_at dksJ2_fastRemove_0 22 rfl rfl)
theorem dJ2_fastRemove_23 : decode cJ2_fastRemove 23 = .ok (.iload_n 2, 1) := dk_28 (dk_at dksJ2_fastRemove_0 23 rfl rfl)
theorem dJ2_fastRemove_24 : decode cJ2_fastRemove 24 = .ok (.iconst 1, 1) := dk_4 (dk_at dksJ2_fastRemove_1 0 rfl rfl)
theorem dJ2_fastRemove_25 : decode cJ2_fastRemove 25 = .ok (.iadd, 1) := dk_96 (dk_at dksJ2_fastRemove_1 1 rfl rfl)
theorem dJ2_fastRemove_26 : decode cJ2_fastRemove 26 = .ok (.aload_n 1, 1) := dk_43 (dk_at dksJ2_fastRemove_1 2 rfl rfl)
theorem dJ2_fastRemove_27 : decode cJ2_fastRemove 27 = .ok (.iload_n 2, 1) := dk_28 (dk_at dksJ2_fastRemove_1 3 rfl rfl)
theorem dJ2_fastRemove_28 : decode cJ2_fastRemove 28 = .ok (.iload_n 3, 1) := dk_29 (dk_at dksJ2_fastRemove_1 4 rfl rfl)
theorem dJ2_fastRemove_29 : decode cJ2_fastRemove 29 = .ok (.iload_n 2, 1) := dk_28 (dk_at dksJ2_fastRemove_1 5 rfl rfl)
theorem dJ2_fastRemove_30 : decode cJ2_fastRemove 30 = .ok (.isub, 1) := dk_100 (dk_at dksJ2_fastRemove_1 6 rfl rfl)
theorem dJ2_fastRemove_31 : decode cJ2_fastRemove 31 = .ok (.invokestatic 112, 3) := dk_184 0 112 (dk_at dksJ2_fastRemove_1 7 rfl rfl)
theorem dJ2_fastRemove_34 : decode cJ2_fastRemove 34 = .ok (.aload_n 1, 1) := dk_43 (dk_at dksJ2_fastRemove_1 10 rfl rfl)
theorem dJ2_fastRemove_35 : decode cJ2_fastRemove 35 = .ok (.aload_n 0, 1) := dk_42 (dk_at dksJ2_fastRemove_1 11 rfl rfl)
theorem dJ2_fastRemove_36 : decode cJ2_fastRemove 36 = .ok (.iload_n 3, 1) := dk_29 (dk_at dksJ2_fastRemove_1 12 rfl rfl)
theorem dJ2_fastRemove_37 : decode cJ2_fastRemove 37 = .ok (.dup_x1, 1) := dk_90 (dk_at dksJ2_fastRemove_1 13 rfl rfl)
theorem dJ2_fastRemove_38 : decode cJ2_fastRemove 38 = .ok (.putfield 48, 3) := dk_181 0 48 (dk_at dksJ2_fastRemove_1 14 rfl rfl)
theorem dJ2_fastRemove_41 : decode cJ2_fastRemove 41 = .ok (.aconst_null, 1) := dk_1 (dk_at dksJ2_fastRemove_1 17 rfl rfl)
theorem dJ2_fastRemove_42 : decode cJ2_fastRemove 42 = .ok (.aastore, 1) := dk_83 (dk_at dksJ2_fastRemove_1 18 rfl rfl)
theorem dJ2_fastRemove_43 : decode cJ2_fastRemove 43 = .ok (.return_, 1) := dk_177 (dk_at dksJ2_fastRemove_1 19 rfl rfl)
abbrev cJ2_get : ByteArray := prog_42_method_20_code
def yJ2_get : MethodName := ⟨RJ2, "get", "(I)Ljava/lang/Object;"⟩
def dkwJ2_get_0 : List UInt8 := [27, 42, 180, 0, 48, 184, 0, 118, 87, 42, 27, 182, 0, 123, 176]
abbrev dktJ2_get_0 : List UInt8 := dkwJ2_get_0 ++ []
theorem dksJ2_get_0 : cJ2_get.data.toList.drop 0 = dktJ2_get_0 := by decide +kernel
theorem dJ2_get_0 : decode cJ2_get 0 = .ok (.iload_n 1, 1) := dk_27 (dk_at dksJ2_get_0 0 rfl rfl)
theorem dJ2_get_1 : decode cJ2_get 1 = .ok (.aload_n 0, 1) := dk_42 (dk_at dksJ2_get_0 1 rfl rfl)
theorem dJ2_get_2 : decode cJ2_get 2 = .ok (.getfield 48, 3) := dk_180 0 48 (dk_at dksJ2_get_0 2 rfl rfl)
theorem dJ2_get_5 : decode cJ2_get 5 = .ok (.invokestatic 118, 3) := dk_184 0 118 (dk_at dksJ2_get_0 5 rfl rfl)
theorem dJ2_get_8 : decode cJ2_get 8 = .ok (.pop, 1) := dk_87 (dk_at dksJ2_get_0 8 rfl rfl)
theorem dJ2_get_9 : decode cJ2_get 9 = .ok (.aload_n 0, 1) := dk_42 (dk_at dksJ2_get_0 9 rfl rfl)
theorem dJ2_get_10 : decode cJ2_get 10 = .ok (.iload_n 1, 1) := dk_27 (dk_at dksJ2_get_0 10 rfl rfl)
theorem dJ2_get_11 : decode cJ2_get 11 = .ok (.invokevirtual 123, 3) := dk_182 0 123 (dk_at dksJ2_get_0 11 rfl rfl)
theorem dJ2_get_14 : decode cJ2_get 14 = .ok (.areturn, 1) := dk_176 (dk_at dksJ2_get_0 14 rfl rfl)
abbrev cJ2_elementData : ByteArray := prog_42_method_18_code
def yJ2_elementData : MethodName := ⟨RJ2, "elementData", "(I)Ljava/lang/Object;"⟩
def dkwJ2_elementData_0 : List UInt8 := [42, 180, 0, 9, 27, 50, 176]
abbrev dktJ2_elementData_0 : List UInt8 := dkwJ2_elementData_0 ++ []
theorem dksJ2_elementData_0 : cJ2_elementData.data.toList.drop 0 = dktJ2_elementData_0 := by decide +kernel
theorem dJ2_elementData_0 : decode cJ2_elementData 0 = .ok (.aload_n 0, 1) := dk_42 (dk_at dksJ2_elementData_0 0 rfl rfl)
theorem dJ2_elementData_1 : decode cJ2_elementData 1 = .ok (.getfield 9, 3) := dk_180 0 9 (dk_at dksJ2_elementData_0 1 rfl rfl)
theorem dJ2_elementData_4 : decode cJ2_elementData 4 = .ok (.iload_n 1, 1) := dk_27 (dk_at dksJ2_elementData_0 4 rfl rfl)
theorem dJ2_elementData_5 : decode cJ2_elementData 5 = .ok (.aaload, 1) := dk_50 (dk_at dksJ2_elementData_0 5 rfl rfl)
theorem dJ2_elementData_6 : decode cJ2_elementData 6 = .ok (.areturn, 1) := dk_176 (dk_at dksJ2_elementData_0 6 rfl rfl)
abbrev cJ2_set : ByteArray := prog_42_method_23_code
def yJ2_set : MethodName := ⟨RJ2, "set", "(ILjava/lang/Object;)Ljava/lang/Object;"⟩
def dkwJ2_set_0 : List UInt8 := [27, 42, 180, 0, 48, 184, 0, 118, 87, 42, 27, 182, 0, 123, 78, 42, 180, 0, 9, 27, 44, 83, 45, 176]
abbrev dktJ2_set_0 : List UInt8 := dkwJ2_set_0 ++ []
theorem dksJ2_set_0 : cJ2_set.data.toList.drop 0 = dktJ2_set_0 := by decide +kernel
theorem dJ2_set_0 : decode cJ2_set 0 = .ok (.iload_n 1, 1) := dk_27 (dk_at dksJ2_set_0 0 rfl rfl)
theorem dJ2_set_1 : decode cJ2_set 1 = .ok (.aload_n 0, 1) := dk_42 (dk_at dksJ2_set_0 1 rfl rfl)
theorem dJ2_set_2 : decode cJ2_set 2 = .ok (.getfield 48, 3) := dk_180 0 48 (dk_at dksJ2_set_0 2 rfl rfl)
theorem dJ2_set_5 : decode cJ2_set 5 = .ok (.invokestatic 118, 3) := dk_184 0 118 (dk_at dksJ2_set_0 5 rfl rfl)
theorem dJ2_set_8 : decode cJ2_set 8 = .ok (.pop, 1) := dk_87 (dk_at dksJ2_set_0 8 rfl rfl)
theorem dJ2_set_9 : decode cJ2_set 9 = .ok (.aload_n 0, 1) := dk_42 (dk_at dksJ2_set_0 9 rfl rfl)
theorem dJ2_set_10 : decode cJ2_set 10 = .ok (.iload_n 1, 1) := dk_27 (dk_at dksJ2_set_0 10 rfl rfl)
theorem dJ2_set_11 : decode cJ2_set 11 = .ok (.invokevirtual 123, 3) := dk_182 0 123 (dk_at dksJ2_set_0 11 rfl rfl)
theorem dJ2_set_14 : decode cJ2_set 14 = .ok (.astore_n 3, 1) := dk_78 (dk_at dksJ2_set_0 14 rfl rfl)
theorem dJ2_set_15 : decode cJ2_set 15 = .ok (.aload_n 0, 1) := dk_42 (dk_at dksJ2_set_0 15 rfl rfl)
theorem dJ2_set_16 : decode cJ2_set 16 = .ok (.getfield 9, 3) := dk_180 0 9 (dk_at dksJ2_set_0 16 rfl rfl)
theorem dJ2_set_19 : decode cJ2_set 19 = .ok (.iload_n 1, 1) := dk_27 (dk_at dksJ2_set_0 19 rfl rfl)
theorem dJ2_set_20 : decode cJ2_set 20 = .ok (.aload_n 2, 1) := dk_44 (dk_at dksJ2_set_0 20 rfl rfl)
theorem dJ2_set_21 : decode cJ2_set 21 = .ok (.aastore, 1) := dk_83 (dk_at dksJ2_set_0 21 rfl rfl)
theorem dJ2_set_22 : decode cJ2_set 22 = .ok (.aload_n 3, 1) := dk_45 (dk_at dksJ2_set_0 22 rfl rfl)
theorem dJ2_set_23 : decode cJ2_set 23 = .ok (.areturn, 1) := dk_176 (dk_at dksJ2_set_0 23 rfl rfl)
abbrev cJ2_add_3 : ByteArray := prog_42_method_26_code
def yJ2_add_3 : MethodName := ⟨RJ2, "add", "(ILjava/lang/Object;)V"⟩
def dkwJ2_add_3_2 : List UInt8 := [29, 27, 100, 184, 0, 112, 25, 4, 27, 44, 83, 42, 29, 4, 96, 181, 0, 48, 177]
abbrev dktJ2_add_3_2 : List UInt8 := dkwJ2_add_3_2 ++ []
def dkwJ2_add_3_1 : List UInt8 := [180, 0, 9, 89, 58, 4, 190, 160, 0, 9, 42, 182, 0, 129, 58, 4, 25, 4, 27, 25, 4, 27, 4, 96]
abbrev dktJ2_add_3_1 : List UInt8 := dkwJ2_add_3_1 ++ dktJ2_add_3_2
def dkwJ2_add_3_0 : List UInt8 := [42, 27, 182, 0, 135, 42, 89, 180, 0, 63, 4, 96, 181, 0, 63, 42, 180, 0, 48, 89, 62, 42]
abbrev dktJ2_add_3_0 : List UInt8 := dkwJ2_add_3_0 ++ dktJ2_add_3_1
theorem dksJ2_add_3_0 : cJ2_add_3.data.toList.drop 0 = dktJ2_add_3_0 := by decide +kernel
theorem dksJ2_add_3_1 : cJ2_add_3.data.toList.drop 22 = dktJ2_add_3_1 := dk_seg dksJ2_add_3_0 22 rfl rfl
theorem dksJ2_add_3_2 : cJ2_add_3.data.toList.drop 46 = dktJ2_add_3_2 := dk_seg dksJ2_add_3_1 24 rfl rfl
theorem dJ2_add_3_0 : decode cJ2_add_3 0 = .ok (.aload_n 0, 1) := dk_42 (dk_at dksJ2_add_3_0 0 rfl rfl)
theorem dJ2_add_3_1 : decode cJ2_add_3 1 = .ok (.iload_n 1, 1) := dk_27 (dk_at dksJ2_add_3_0 1 rfl rfl)
theorem dJ2_add_3_2 : decode cJ2_add_3 2 = .ok (.invokevirtual 135, 3) := dk_182 0 135 (dk_at dksJ2_add_3_0 2 rfl rfl)
theorem dJ2_add_3_5 : decode cJ2_add_3 5 = .ok (.aload_n 0, 1) := dk_42 (dk_at dksJ2_add_3_0 5 rfl rfl)
theorem dJ2_add_3_6 : decode cJ2_add_3 6 = .ok (.dup, 1) := dk_89 (dk_at dksJ2_add_3_0 6 rfl rfl)
theorem dJ2_add_3_7 : decode cJ2_add_3 7 = .ok (.getfield 63, 3) := dk_180 0 63 (dk_at dksJ2_add_3_0 7 rfl rfl)
theorem dJ2_add_3_10 : decode cJ2_add_3 10 = .ok (.iconst 1, 1) := dk_4 (dk_at dksJ2_add_3_0 10 rfl rfl)
theorem dJ2_add_3_11 : decode cJ2_add_3 11 = .ok (.iadd, 1) := dk_96 (dk_at dksJ2_add_3_0 11 rfl rfl)
theorem dJ2_add_3_12 : decode cJ2_add_3 12 = .ok (.putfield 63, 3) := dk_181 0 63 (dk_at dksJ2_add_3_0 12 rfl rfl)
theorem dJ2_add_3_15 : decode cJ2_add_3 15 = .ok (.aload_n 0, 1) := dk_42 (dk_at dksJ2_add_3_0 15 rfl rfl)
theorem dJ2_add_3_16 : decode cJ2_add_3 16 = .ok (.getfield 48, 3) := dk_180 0 48 (dk_at dksJ2_add_3_0 16 rfl rfl)
theorem dJ2_add_3_19 : decode cJ2_add_3 19 = .ok (.dup, 1) := dk_89 (dk_at dksJ2_add_3_0 19 rfl rfl)
theorem dJ2_add_3_20 : decode cJ2_add_3 20 = .ok (.istore_n 3, 1) := dk_62 (dk_at dksJ2_add_3_0 20 rfl rfl)
theorem dJ2_add_3_21 : decode cJ2_add_3 21 = .ok (.aload_n 0, 1) := dk_42 (dk_at dksJ2_add_3_0 21 rfl rfl)
theorem dJ2_add_3_22 : decode cJ2_add_3 22 = .ok (.getfield 9, 3) := dk_180 0 9 (dk_at dksJ2_add_3_1 0 rfl rfl)
theorem dJ2_add_3_25 : decode cJ2_add_3 25 = .ok (.dup, 1) := dk_89 (dk_at dksJ2_add_3_1 3 rfl rfl)
theorem dJ2_add_3_26 : decode cJ2_add_3 26 = .ok (.astore 4, 2) := dk_58 4 (dk_at dksJ2_add_3_1 4 rfl rfl)
theorem dJ2_add_3_28 : decode cJ2_add_3 28 = .ok (.arraylength, 1) := dk_190 (dk_at dksJ2_add_3_1 6 rfl rfl)
theorem dJ2_add_3_29 : decode cJ2_add_3 29 = .ok (.if_icmp .ne 9, 3) := dk_160 0 9 (dk_at dksJ2_add_3_1 7 rfl rfl)
theorem dJ2_add_3_32 : decode cJ2_add_3 32 = .ok (.aload_n 0, 1) := dk_42 (dk_at dksJ2_add_3_1 10 rfl rfl)
theorem dJ2_add_3_33 : decode cJ2_add_3 33 = .ok (.invokevirtual 129, 3) := dk_182 0 129 (dk_at dksJ2_add_3_1 11 rfl rfl)
theorem dJ2_add_3_36 : decode cJ2_add_3 36 = .ok (.astore 4, 2) := dk_58 4 (dk_at dksJ2_add_3_1 14 rfl rfl)
theorem dJ2_add_3_38 : decode cJ2_add_3 38 = .ok (.aload 4, 2) := dk_25 4 (dk_at dksJ2_add_3_1 16 rfl rfl)
theorem dJ2_add_3_40 : decode cJ2_add_3 40 = .ok (.iload_n 1, 1) := dk_27 (dk_at dksJ2_add_3_1 18 rfl rfl)
theorem dJ2_add_3_41 : decode cJ2_add_3 41 = .ok (.aload 4, 2) := dk_25 4 (dk_at dksJ2_add_3_1 19 rfl rfl)
theorem dJ2_add_3_43 : decode cJ2_add_3 43 = .ok (.iload_n 1, 1) := dk_27 (dk_at dksJ2_add_3_1 21 rfl rfl)
theorem dJ2_add_3_44 : decode cJ2_add_3 44 = .ok (.iconst 1, 1) := dk_4 (dk_at dksJ2_add_3_1 22 rfl rfl)
theorem dJ2_add_3_45 : decode cJ2_add_3 45 = .ok (.iadd, 1) := dk_96 (dk_at dksJ2_add_3_1 23 rfl rfl)
theorem dJ2_add_3_46 : decode cJ2_add_3 46 = .ok (.iload_n 3, 1) := dk_29 (dk_at dksJ2_add_3_2 0 rfl rfl)
theorem dJ2_add_3_47 : decode cJ2_add_3 47 = .ok (.iload_n 1, 1) := dk_27 (dk_at dksJ2_add_3_2 1 rfl rfl)
theorem dJ2_add_3_48 : decode cJ2_add_3 48 = .ok (.isub, 1) := dk_100 (dk_at dksJ2_add_3_2 2 rfl rfl)
theorem dJ2_add_3_49 : decode cJ2_add_3 49 = .ok (.invokestatic 112, 3) := dk_184 0 112 (dk_at dksJ2_add_3_2 3 rfl rfl)
theorem dJ2_add_3_52 : decode cJ2_add_3 52 = .ok (.aload 4, 2) := dk_25 4 (dk_at dksJ2_add_3_2 6 rfl rfl)
theorem dJ2_add_3_54 : decode cJ2_add_3 54 = .ok (.iload_n 1, 1) := dk_27 (dk_at dksJ2_add_3_2 8 rfl rfl)
theorem dJ2_add_3_55 : decode cJ2_add_3 55 = .ok (.aload_n 2, 1) := dk_44 (dk_at dksJ2_add_3_2 9 rfl rfl)
theorem dJ2_add_3_56 : decode cJ2_add_3 56 = .ok (.aastore, 1) := dk_83 (dk_at dksJ2_add_3_2 10 rfl rfl)
theorem dJ2_add_3_57 : decode cJ2_add_3 57 = .ok (.aload_n 0, 1) := dk_42 (dk_at dksJ2_add_3_2 11 rfl rfl)
theorem dJ2_add_3_58 : decode cJ2_add_3 58 = .ok (.iload_n 3, 1) := dk_29 (dk_at dksJ2_add_3_2 12 rfl rfl)
theorem dJ2_add_3_59 : decode cJ2_add_3 59 = .ok (.iconst 1, 1) := dk_4 (dk_at dksJ2_add_3_2 13 rfl rfl)
theorem dJ2_add_3_60 : decode cJ2_add_3 60 = .ok (.iadd, 1) := dk_96 (dk_at dksJ2_add_3_2 14 rfl rfl)
theorem dJ2_add_3_61 : decode cJ2_add_3 61 = .ok (.putfield 48, 3) := dk_181 0 48 (dk_at dksJ2_add_3_2 15 rfl rfl)
theorem dJ2_add_3_64 : decode cJ2_add_3 64 = .ok (.return_, 1) := dk_177 (dk_at dksJ2_add_3_2 18 rfl rfl)
abbrev cJ2_rangeCheckForAdd : ByteArray := prog_42_method_45_code
def yJ2_rangeCheckForAdd : MethodName := ⟨RJ2, "rangeCheckForAdd", "(I)V"⟩
def dkwJ2_rangeCheckForAdd_1 : List UInt8 := [191, 177]
abbrev dktJ2_rangeCheckForAdd_1 : List UInt8 := dkwJ2_rangeCheckForAdd_1 ++ []
def dkwJ2_rangeCheckForAdd_0 : List UInt8 := [27, 42, 180, 0, 48, 163, 0, 7, 27, 156, 0, 16, 187, 0, 187, 89, 42, 27, 182, 0, 198, 183, 0, 193]
abbrev dktJ2_rangeCheckForAdd_0 : List UInt8 := dkwJ2_rangeCheckForAdd_0 ++ dktJ2_rangeCheckForAdd_1
theorem dksJ2_rangeCheckForAdd_0 : cJ2_rangeCheckForAdd.data.toList.drop 0 = dktJ2_rangeCheckForAdd_0 := by decide +kernel
theorem dksJ2_rangeCheckForAdd_1 : cJ2_rangeCheckForAdd.data.toList.drop 24 = dktJ2_rangeCheckForAdd_1 := dk_seg dksJ2_rangeCheckForAdd_0 24 rfl rfl
theorem dJ2_rangeCheckForAdd_0 : decode cJ2_rangeCheckForAdd 0 = .ok (.iload_n 1, 1) := dk_27 (dk_at dksJ2_rangeCheckForAdd_0 0 rfl rfl)
theorem dJ2_rangeCheckForAdd_1 : decode cJ2_rangeCheckForAdd 1 = .ok (.aload_n 0, 1) := dk_42 (dk_at dksJ2_rangeCheckForAdd_0 1 rfl rfl)
theorem dJ2_rangeCheckForAdd_2 : decode cJ2_rangeCheckForAdd 2 = .ok (.getfield 48, 3) := dk_180 0 48 (dk_at dksJ2_rangeCheckForAdd_0 2 rfl rfl)
theorem dJ2_rangeCheckForAdd_5 : decode cJ2_rangeCheckForAdd 5 = .ok (.if_icmp .gt 7, 3) := dk_163 0 7 (dk_at dksJ2_rangeCheckForAdd_0 5 rfl rfl)
theorem dJ2_rangeCheckForAdd_8 : decode cJ2_rangeCheckForAdd 8 = .ok (.iload_n 1, 1) := dk_27 (dk_at dksJ2_rangeCheckForAdd_0 8 rfl rfl)
theorem dJ2_rangeCheckForAdd_9 : decode cJ2_rangeCheckForAdd 9 = .ok (.ifCond .ge 16, 3) := dk_156 0 16 (dk_at dksJ2_rangeCheckForAdd_0 9 rfl rfl)
theorem dJ2_rangeCheckForAdd_12 : decode cJ2_rangeCheckForAdd 12 = .ok (.new 187, 3) := dk_187 0 187 (dk_at dksJ2_rangeCheckForAdd_0 12 rfl rfl)
theorem dJ2_rangeCheckForAdd_15 : decode cJ2_rangeCheckForAdd 15 = .ok (.dup, 1) := dk_89 (dk_at dksJ2_rangeCheckForAdd_0 15 rfl rfl)
theorem dJ2_rangeCheckForAdd_16 : decode cJ2_rangeCheckForAdd 16 = .ok (.aload_n 0, 1) := dk_42 (dk_at dksJ2_rangeCheckForAdd_0 16 rfl rfl)
theorem dJ2_rangeCheckForAdd_17 : decode cJ2_rangeCheckForAdd 17 = .ok (.iload_n 1, 1) := dk_27 (dk_at dksJ2_rangeCheckForAdd_0 17 rfl rfl)
theorem dJ2_rangeCheckForAdd_18 : decode cJ2_rangeCheckForAdd 18 = .ok (.invokevirtual 198, 3) := dk_182 0 198 (dk_at dksJ2_rangeCheckForAdd_0 18 rfl rfl)
theorem dJ2_rangeCheckForAdd_21 : decode cJ2_rangeCheckForAdd 21 = .ok (.invokespecial 193, 3) := dk_183 0 193 (dk_at dksJ2_rangeCheckForAdd_0 21 rfl rfl)
theorem dJ2_rangeCheckForAdd_24 : decode cJ2_rangeCheckForAdd 24 = .ok (.athrow, 1) := dk_191 (dk_at dksJ2_rangeCheckForAdd_1 0 rfl rfl)
theorem dJ2_rangeCheckForAdd_25 : decode cJ2_rangeCheckForAdd 25 = .ok (.return_, 1) := dk_177 (dk_at dksJ2_rangeCheckForAdd_1 1 rfl rfl)
abbrev cJ2_isEmpty : ByteArray := prog_42_method_9_code
def yJ2_isEmpty : MethodName := ⟨RJ2, "isEmpty", "()Z"⟩
def dkwJ2_isEmpty_0 : List UInt8 := [42, 180, 0, 48, 154, 0, 7, 4, 167, 0, 4, 3, 172]
abbrev dktJ2_isEmpty_0 : List UInt8 := dkwJ2_isEmpty_0 ++ []
theorem dksJ2_isEmpty_0 : cJ2_isEmpty.data.toList.drop 0 = dktJ2_isEmpty_0 := by decide +kernel
theorem dJ2_isEmpty_0 : decode cJ2_isEmpty 0 = .ok (.aload_n 0, 1) := dk_42 (dk_at dksJ2_isEmpty_0 0 rfl rfl)
theorem dJ2_isEmpty_1 : decode cJ2_isEmpty 1 = .ok (.getfield 48, 3) := dk_180 0 48 (dk_at dksJ2_isEmpty_0 1 rfl rfl)
theorem dJ2_isEmpty_4 : decode cJ2_isEmpty 4 = .ok (.ifCond .ne 7, 3) := dk_154 0 7 (dk_at dksJ2_isEmpty_0 4 rfl rfl)
theorem dJ2_isEmpty_7 : decode cJ2_isEmpty 7 = .ok (.iconst 1, 1) := dk_4 (dk_at dksJ2_isEmpty_0 7 rfl rfl)
theorem dJ2_isEmpty_8 : decode cJ2_isEmpty 8 = .ok (.goto 4, 3) := dk_167 0 4 (dk_at dksJ2_isEmpty_0 8 rfl rfl)
theorem dJ2_isEmpty_11 : decode cJ2_isEmpty 11 = .ok (.iconst 0, 1) := dk_3 (dk_at dksJ2_isEmpty_0 11 rfl rfl)
theorem dJ2_isEmpty_12 : decode cJ2_isEmpty 12 = .ok (.ireturn, 1) := dk_172 (dk_at dksJ2_isEmpty_0 12 rfl rfl)
theorem q82 : (Jvm.Cond.initialized "java/util/ArrayList") ∈ lw_all := lw_g (lw_at lw_m1 5 rfl) rfl
theorem q136 : (Jvm.Cond.instantiable "java/util/ArrayList" (3 : Nat)) ∈ lw_all := lw_g (lw_at lw_m1 59 rfl) rfl
theorem q138 : (Jvm.Cond.instanceMethod ({ cls := "java/util/ArrayList", name := "<init>", desc := "()V" } : Jvm.MethodName)) ∈ lw_all := lw_g (lw_at lw_m1 61 rfl) rfl
theorem q139 : (Jvm.Cond.code ({ cls := "java/util/ArrayList", name := "<init>", desc := "()V" } : Jvm.MethodName) prog_42_method_2_code (1 : Nat) (Option.none : Option Jvm.ClassFile.FieldType)) ∈ lw_all := lw_g (lw_at lw_m1 62 rfl) rfl
theorem q140 : (Jvm.Cond.methodLink "java/util/ArrayList" (1 : Nat) ({ cls := "java/util/AbstractList", name := "<init>", desc := "()V" } : Jvm.MethodName)) ∈ lw_all := lw_g (lw_at lw_m1 63 rfl) rfl
theorem q147 : (Jvm.Cond.fieldLink "java/util/ArrayList" (39 : Nat) "java/util/ArrayList" "DEFAULTCAPACITY_EMPTY_ELEMENTDATA" "[Ljava/lang/Object;") ∈ lw_all := lw_g (lw_at lw_m1 70 rfl) rfl
theorem q148 : (Jvm.Cond.laysStatic "java/util/ArrayList" "DEFAULTCAPACITY_EMPTY_ELEMENTDATA" "[Ljava/lang/Object;") ∈ lw_tbl := lw_at lw_m1 71 rfl
theorem q149 : (Jvm.Cond.fieldLink "java/util/ArrayList" (9 : Nat) "java/util/ArrayList" "elementData" "[Ljava/lang/Object;") ∈ lw_all := lw_g (lw_at lw_m1 72 rfl) rfl
theorem q150 : (Jvm.Cond.fieldLink "java/util/ArrayList" (48 : Nat) "java/util/ArrayList" "size" "I") ∈ lw_all := lw_g (lw_at lw_m1 73 rfl) rfl
theorem q152 : (Jvm.Cond.fieldLink "java/util/ArrayList" (63 : Nat) "java/util/ArrayList" "modCount" "I") ∈ lw_all := lw_g (lw_at lw_m1 75 rfl) rfl
theorem q153 : (Jvm.Cond.sameField "java/util/ArrayList" "java/util/AbstractList" "modCount" "I") ∈ lw_all := lw_g (lw_at lw_m1 76 rfl) rfl
theorem q154 : (Jvm.Cond.lays "java/util/ArrayList" "java/util/ArrayList" "elementData" "[Ljava/lang/Object;") ∈ lw_all := lw_g (lw_at lw_m1 77 rfl) rfl
theorem q155 : (Jvm.Cond.soleField "java/util/ArrayList" "elementData") ∈ lw_all := lw_g (lw_at lw_m1 78 rfl) rfl
theorem q156 : (Jvm.Cond.lays "java/util/ArrayList" "java/util/ArrayList" "size" "I") ∈ lw_all := lw_g (lw_at lw_m1 79 rfl) rfl
theorem q157 : (Jvm.Cond.soleField "java/util/ArrayList" "size") ∈ lw_all := lw_g (lw_at lw_m1 80 rfl) rfl
theorem q158 : (Jvm.Cond.lays "java/util/ArrayList" "java/util/AbstractList" "modCount" "I") ∈ lw_all := lw_g (lw_at lw_m1 81 rfl) rfl
theorem q160 : (Jvm.Cond.superclass "java/util/ArrayList" "java/util/AbstractList") ∈ lw_all := lw_g (lw_at lw_m1 83 rfl) rfl
theorem q430 : (Jvm.Cond.selects "java/util/ArrayList" ({ cls := "java/lang/Object", name := "getClass", desc := "()Ljava/lang/Class;" } : Jvm.MethodName) ({ cls := "java/lang/Object", name := "getClass", desc := "()Ljava/lang/Class;" } : Jvm.MethodName)) ∈ lw_all := lw_g (lw_at lw_m2 113 rfl) rfl
theorem q887 : (Jvm.Cond.castable "java/util/ArrayList" "java/util/List") ∈ lw_tbl := lw_at lw_m4 90 rfl
theorem q888 : (Jvm.Cond.selects "java/util/ArrayList" ({ cls := "java/util/List", name := "add", desc := "(Ljava/lang/Object;)Z" } : Jvm.MethodName) ({ cls := "java/util/ArrayList", name := "add", desc := "(Ljava/lang/Object;)Z" } : Jvm.MethodName)) ∈ lw_all := lw_g (lw_at lw_m4 91 rfl) rfl
theorem q889 : (Jvm.Cond.unhidden "java/util/ArrayList" "add" "(Ljava/lang/Object;)Z") ∈ lw_tbl := lw_at lw_m4 92 rfl
theorem q890 : (Jvm.Cond.instanceMethod ({ cls := "java/util/ArrayList", name := "add", desc := "(Ljava/lang/Object;)Z" } : Jvm.MethodName)) ∈ lw_all := lw_g (lw_at lw_m4 93 rfl) rfl
theorem q891 : (Jvm.Cond.publicMethod ({ cls := "java/util/ArrayList", name := "add", desc := "(Ljava/lang/Object;)Z" } : Jvm.MethodName)) ∈ lw_tbl := lw_at lw_m4 94 rfl
theorem q892 : (Jvm.Cond.code ({ cls := "java/util/ArrayList", name := "add", desc := "(Ljava/lang/Object;)Z" } : Jvm.MethodName) prog_42_method_25_code (2 : Nat) (Option.some Jvm.ClassFile.FieldType.boolean)) ∈ lw_all := lw_g (lw_at lw_m4 95 rfl) rfl
theorem q893 : (Jvm.Cond.methodLink "java/util/ArrayList" (131 : Nat) ({ cls := "java/util/ArrayList", name := "add", desc := "(Ljava/lang/Object;[Ljava/lang/Object;I)V" } : Jvm.MethodName)) ∈ lw_all := lw_g (lw_at lw_m4 96 rfl) rfl
theorem q894 : (Jvm.Cond.privateMethod ({ cls := "java/util/ArrayList", name := "add", desc := "(Ljava/lang/Object;[Ljava/lang/Object;I)V" } : Jvm.MethodName)) ∈ lw_tbl := lw_at lw_m4 97 rfl
theorem q895 : (Jvm.Cond.instanceMethod ({ cls := "java/util/ArrayList", name := "add", desc := "(Ljava/lang/Object;[Ljava/lang/Object;I)V" } : Jvm.MethodName)) ∈ lw_all := lw_g (lw_at lw_m4 98 rfl) rfl
theorem q896 : (Jvm.Cond.code ({ cls := "java/util/ArrayList", name := "add", desc := "(Ljava/lang/Object;[Ljava/lang/Object;I)V" } : Jvm.MethodName) prog_42_method_24_code (4 : Nat) (Option.none : Option Jvm.ClassFile.FieldType)) ∈ lw_all := lw_g (lw_at lw_m4 99 rfl) rfl
theorem q897 : (Jvm.Cond.methodLink "java/util/ArrayList" (129 : Nat) ({ cls := "java/util/ArrayList", name := "grow", desc := "()[Ljava/lang/Object;" } : Jvm.MethodName)) ∈ lw_all := lw_g (lw_at lw_m4 100 rfl) rfl
theorem q898 : (Jvm.Cond.privateMethod ({ cls := "java/util/ArrayList", name := "grow", desc := "()[Ljava/lang/Object;" } : Jvm.MethodName)) ∈ lw_tbl := lw_at lw_m4 101 rfl
theorem q899 : (Jvm.Cond.instanceMethod ({ cls := "java/util/ArrayList", name := "grow", desc := "()[Ljava/lang/Object;" } : Jvm.MethodName)) ∈ lw_all := lw_g (lw_at lw_m4 102 rfl) rfl
theorem q900 : (Jvm.Cond.code ({ cls := "java/util/ArrayList", name := "grow", desc := "()[Ljava/lang/Object;" } : Jvm.MethodName) prog_42_method_7_code (1 : Nat) (Option.some (Jvm.ClassFile.FieldType.array (Jvm.ClassFile.FieldType.object "java/lang/Object")))) ∈ lw_all := lw_g (lw_at lw_m4 103 rfl) rfl
theorem q901 : (Jvm.Cond.methodLink "java/util/ArrayList" (69 : Nat) ({ cls := "java/util/ArrayList", name := "grow", desc := "(I)[Ljava/lang/Object;" } : Jvm.MethodName)) ∈ lw_all := lw_g (lw_at lw_m4 104 rfl) rfl
theorem q902 : (Jvm.Cond.privateMethod ({ cls := "java/util/ArrayList", name := "grow", desc := "(I)[Ljava/lang/Object;" } : Jvm.MethodName)) ∈ lw_tbl := lw_at lw_m4 105 rfl
theorem q903 : (Jvm.Cond.instanceMethod ({ cls := "java/util/ArrayList", name := "grow", desc := "(I)[Ljava/lang/Object;" } : Jvm.MethodName)) ∈ lw_all := lw_g (lw_at lw_m4 106 rfl) rfl
theorem q904 : (Jvm.Cond.code ({ cls := "java/util/ArrayList", name := "grow", desc := "(I)[Ljava/lang/Object;" } : Jvm.MethodName) prog_42_method_6_code (4 : Nat) (Option.some (Jvm.ClassFile.FieldType.array (Jvm.ClassFile.FieldType.object "java/lang/Object")))) ∈ lw_all := lw_g (lw_at lw_m4 107 rfl) rfl
theorem q905 : (Jvm.Cond.methodLink "java/util/ArrayList" (73 : Nat) ({ cls := "jdk/internal/util/ArraysSupport", name := "newLength", desc := "(III)I" } : Jvm.MethodName)) ∈ lw_all := lw_g (lw_at lw_m4 108 rfl) rfl
theorem q913 : (Jvm.Cond.methodLink "java/util/ArrayList" (66 : Nat) ({ cls := "java/util/Arrays", name := "copyOf", desc := "([Ljava/lang/Object;I)[Ljava/lang/Object;" } : Jvm.MethodName)) ∈ lw_all := lw_g (lw_at lw_m4 116 rfl) rfl
theorem q927 : (Jvm.Cond.methodLink "java/util/ArrayList" (79 : Nat) ({ cls := "java/lang/Math", name := "max", desc := "(II)I" } : Jvm.MethodName)) ∈ lw_all := lw_g (lw_at lw_m4 130 rfl) rfl
theorem q928 : (Jvm.Cond.classLink "java/util/ArrayList" (7 : Nat) "java/lang/Object") ∈ lw_all := lw_g (lw_at lw_m4 131 rfl) rfl
theorem q994 : (Jvm.Cond.selects "java/util/ArrayList" ({ cls := "java/util/List", name := "size", desc := "()I" } : Jvm.MethodName) ({ cls := "java/util/ArrayList", name := "size", desc := "()I" } : Jvm.MethodName)) ∈ lw_all := lw_g (lw_at lw_m4 197 rfl) rfl
theorem q995 : (Jvm.Cond.unhidden "java/util/ArrayList" "size" "()I") ∈ lw_tbl := lw_at lw_m4 198 rfl
theorem q996 : (Jvm.Cond.instanceMethod ({ cls := "java/util/ArrayList", name := "size", desc := "()I" } : Jvm.MethodName)) ∈ lw_all := lw_g (lw_at lw_m4 199 rfl) rfl
theorem q997 : (Jvm.Cond.publicMethod ({ cls := "java/util/ArrayList", name := "size", desc := "()I" } : Jvm.MethodName)) ∈ lw_tbl := lw_at lw_m4 200 rfl
theorem q998 : (Jvm.Cond.code ({ cls := "java/util/ArrayList", name := "size", desc := "()I" } : Jvm.MethodName) prog_42_method_8_code (1 : Nat) (Option.some Jvm.ClassFile.FieldType.int)) ∈ lw_all := lw_g (lw_at lw_m4 201 rfl) rfl
theorem q1003 : (Jvm.Cond.selects "java/util/ArrayList" ({ cls := "java/util/List", name := "remove", desc := "(I)Ljava/lang/Object;" } : Jvm.MethodName) ({ cls := "java/util/ArrayList", name := "remove", desc := "(I)Ljava/lang/Object;" } : Jvm.MethodName)) ∈ lw_all := lw_g (lw_at lw_m4 206 rfl) rfl
theorem q1004 : (Jvm.Cond.unhidden "java/util/ArrayList" "remove" "(I)Ljava/lang/Object;") ∈ lw_tbl := lw_at lw_m4 207 rfl
theorem q1005 : (Jvm.Cond.instanceMethod ({ cls := "java/util/ArrayList", name := "remove", desc := "(I)Ljava/lang/Object;" } : Jvm.MethodName)) ∈ lw_all := lw_g (lw_at lw_m4 208 rfl) rfl
theorem q1006 : (Jvm.Cond.publicMethod ({ cls := "java/util/ArrayList", name := "remove", desc := "(I)Ljava/lang/Object;" } : Jvm.MethodName)) ∈ lw_tbl := lw_at lw_m4 209 rfl
theorem q1007 : (Jvm.Cond.code ({ cls := "java/util/ArrayList", name := "remove", desc := "(I)Ljava/lang/Object;" } : Jvm.MethodName) prog_42_method_29_code (4 : Nat) (Option.some (Jvm.ClassFile.FieldType.object "java/lang/Object"))) ∈ lw_all := lw_g (lw_at lw_m4 210 rfl) rfl
theorem q1008 : (Jvm.Cond.methodLink "java/util/ArrayList" (118 : Nat) ({ cls := "java/util/Objects", name := "checkIndex", desc := "(II)I" } : Jvm.MethodName)) ∈ lw_all := lw_g (lw_at lw_m4 211 rfl) rfl
theorem q1014 : (Jvm.Cond.methodLink "java/util/ArrayList" (144 : Nat) ({ cls := "java/util/ArrayList", name := "fastRemove", desc := "([Ljava/lang/Object;I)V" } : Jvm.MethodName)) ∈ lw_all := lw_g (lw_at lw_m4 217 rfl) rfl
theorem q1015 : (Jvm.Cond.privateMethod ({ cls := "java/util/ArrayList", name := "fastRemove", desc := "([Ljava/lang/Object;I)V" } : Jvm.MethodName)) ∈ lw_tbl := lw_at lw_m4 218 rfl
theorem q1016 : (Jvm.Cond.instanceMethod ({ cls := "java/util/ArrayList", name := "fastRemove", desc := "([Ljava/lang/Object;I)V" } : Jvm.MethodName)) ∈ lw_all := lw_g (lw_at lw_m4 219 rfl) rfl
theorem q1017 : (Jvm.Cond.code ({ cls := "java/util/ArrayList", name := "fastRemove", desc := "([Ljava/lang/Object;I)V" } : Jvm.MethodName) prog_42_method_39_code (4 : Nat) (Option.none : Option Jvm.ClassFile.FieldType)) ∈ lw_all := lw_g (lw_at lw_m4 220 rfl) rfl
theorem q1018 : (Jvm.Cond.methodLink "java/util/ArrayList" (112 : Nat) ({ cls := "java/lang/System", name := "arraycopy", desc := "(Ljava/lang/Object;ILjava/lang/Object;II)V" } : Jvm.MethodName)) ∈ lw_all := lw_g (lw_at lw_m4 221 rfl) rfl
theorem q1031 : (Jvm.Cond.selects "java/util/ArrayList" ({ cls := "java/util/List", name := "get", desc := "(I)Ljava/lang/Object;" } : Jvm.MethodName) ({ cls := "java/util/ArrayList", name := "get", desc := "(I)Ljava/lang/Object;" } : Jvm.MethodName)) ∈ lw_all := lw_g (lw_at lw_m4 234 rfl) rfl
theorem q1032 : (Jvm.Cond.unhidden "java/util/ArrayList" "get" "(I)Ljava/lang/Object;") ∈ lw_tbl := lw_at lw_m4 235 rfl
theorem q1033 : (Jvm.Cond.instanceMethod ({ cls := "java/util/ArrayList", name := "get", desc := "(I)Ljava/lang/Object;" } : Jvm.MethodName)) ∈ lw_all := lw_g (lw_at lw_m4 236 rfl) rfl
theorem q1034 : (Jvm.Cond.publicMethod ({ cls := "java/util/ArrayList", name := "get", desc := "(I)Ljava/lang/Object;" } : Jvm.MethodName)) ∈ lw_tbl := lw_at lw_m4 237 rfl
theorem q1035 : (Jvm.Cond.code ({ cls := "java/util/ArrayList", name := "get", desc := "(I)Ljava/lang/Object;" } : Jvm.MethodName) prog_42_method_20_code (2 : Nat) (Option.some (Jvm.ClassFile.FieldType.object "java/lang/Object"))) ∈ lw_all := lw_g (lw_at lw_m4 238 rfl) rfl
theorem q1036 : (Jvm.Cond.methodLink "java/util/ArrayList" (123 : Nat) ({ cls := "java/util/ArrayList", name := "elementData", desc := "(I)Ljava/lang/Object;" } : Jvm.MethodName)) ∈ lw_all := lw_g (lw_at lw_m4 239 rfl) rfl
theorem q1037 : (Jvm.Cond.instanceMethod ({ cls := "java/util/ArrayList", name := "elementData", desc := "(I)Ljava/lang/Object;" } : Jvm.MethodName)) ∈ lw_all := lw_g (lw_at lw_m5 0 rfl) rfl
theorem q1038 : (Jvm.Cond.selects "java/util/ArrayList" ({ cls := "java/util/ArrayList", name := "elementData", desc := "(I)Ljava/lang/Object;" } : Jvm.MethodName) ({ cls := "java/util/ArrayList", name := "elementData", desc := "(I)Ljava/lang/Object;" } : Jvm.MethodName)) ∈ lw_all := lw_g (lw_at lw_m5 1 rfl) rfl
theorem q1039 : (Jvm.Cond.code ({ cls := "java/util/ArrayList", name := "elementData", desc := "(I)Ljava/lang/Object;" } : Jvm.MethodName) prog_42_method_18_code (2 : Nat) (Option.some (Jvm.ClassFile.FieldType.object "java/lang/Object"))) ∈ lw_all := lw_g (lw_at lw_m5 2 rfl) rfl
theorem q1549 : (Jvm.Cond.selects "java/util/ArrayList" ({ cls := "java/util/List", name := "set", desc := "(ILjava/lang/Object;)Ljava/lang/Object;" } : Jvm.MethodName) ({ cls := "java/util/ArrayList", name := "set", desc := "(ILjava/lang/Object;)Ljava/lang/Object;" } : Jvm.MethodName)) ∈ lw_all := lw_g (lw_at lw_m7 32 rfl) rfl
theorem q1550 : (Jvm.Cond.unhidden "java/util/ArrayList" "set" "(ILjava/lang/Object;)Ljava/lang/Object;") ∈ lw_tbl := lw_at lw_m7 33 rfl
theorem q1551 : (Jvm.Cond.instanceMethod ({ cls := "java/util/ArrayList", name := "set", desc := "(ILjava/lang/Object;)Ljava/lang/Object;" } : Jvm.MethodName)) ∈ lw_all := lw_g (lw_at lw_m7 34 rfl) rfl
theorem q1552 : (Jvm.Cond.publicMethod ({ cls := "java/util/ArrayList", name := "set", desc := "(ILjava/lang/Object;)Ljava/lang/Object;" } : Jvm.MethodName)) ∈ lw_tbl := lw_at lw_m7 35 rfl
theorem q1553 : (Jvm.Cond.code ({ cls := "java/util/ArrayList", name := "set", desc := "(ILjava/lang/Object;)Ljava/lang/Object;" } : Jvm.MethodName) prog_42_method_23_code (4 : Nat) (Option.some (Jvm.ClassFile.FieldType.object "java/lang/Object"))) ∈ lw_all := lw_g (lw_at lw_m7 36 rfl) rfl
theorem q1611 : (Jvm.Cond.selects "java/util/ArrayList" ({ cls := "java/util/List", name := "add", desc := "(ILjava/lang/Object;)V" } : Jvm.MethodName) ({ cls := "java/util/ArrayList", name := "add", desc := "(ILjava/lang/Object;)V" } : Jvm.MethodName)) ∈ lw_all := lw_g (lw_at lw_m7 94 rfl) rfl
theorem q1612 : (Jvm.Cond.unhidden "java/util/ArrayList" "add" "(ILjava/lang/Object;)V") ∈ lw_tbl := lw_at lw_m7 95 rfl
theorem q1613 : (Jvm.Cond.instanceMethod ({ cls := "java/util/ArrayList", name := "add", desc := "(ILjava/lang/Object;)V" } : Jvm.MethodName)) ∈ lw_all := lw_g (lw_at lw_m7 96 rfl) rfl
theorem q1614 : (Jvm.Cond.publicMethod ({ cls := "java/util/ArrayList", name := "add", desc := "(ILjava/lang/Object;)V" } : Jvm.MethodName)) ∈ lw_tbl := lw_at lw_m7 97 rfl
theorem q1615 : (Jvm.Cond.code ({ cls := "java/util/ArrayList", name := "add", desc := "(ILjava/lang/Object;)V" } : Jvm.MethodName) prog_42_method_26_code (5 : Nat) (Option.none : Option Jvm.ClassFile.FieldType)) ∈ lw_all := lw_g (lw_at lw_m7 98 rfl) rfl
theorem q1616 : (Jvm.Cond.methodLink "java/util/ArrayList" (135 : Nat) ({ cls := "java/util/ArrayList", name := "rangeCheckForAdd", desc := "(I)V" } : Jvm.MethodName)) ∈ lw_all := lw_g (lw_at lw_m7 99 rfl) rfl
theorem q1617 : (Jvm.Cond.privateMethod ({ cls := "java/util/ArrayList", name := "rangeCheckForAdd", desc := "(I)V" } : Jvm.MethodName)) ∈ lw_tbl := lw_at lw_m7 100 rfl
theorem q1618 : (Jvm.Cond.instanceMethod ({ cls := "java/util/ArrayList", name := "rangeCheckForAdd", desc := "(I)V" } : Jvm.MethodName)) ∈ lw_all := lw_g (lw_at lw_m7 101 rfl) rfl
theorem q1619 : (Jvm.Cond.code ({ cls := "java/util/ArrayList", name := "rangeCheckForAdd", desc := "(I)V" } : Jvm.MethodName) prog_42_method_45_code (2 : Nat) (Option.none : Option Jvm.ClassFile.FieldType)) ∈ lw_all := lw_g (lw_at lw_m7 102 rfl) rfl
theorem q1843 : (Jvm.Cond.selects "java/util/ArrayList" ({ cls := "java/util/List", name := "isEmpty", desc := "()Z" } : Jvm.MethodName) ({ cls := "java/util/ArrayList", name := "isEmpty", desc := "()Z" } : Jvm.MethodName)) ∈ lw_all := lw_g (lw_at lw_m8 86 rfl) rfl
theorem q1844 : (Jvm.Cond.unhidden "java/util/ArrayList" "isEmpty" "()Z") ∈ lw_tbl := lw_at lw_m8 87 rfl
theorem q1845 : (Jvm.Cond.instanceMethod ({ cls := "java/util/ArrayList", name := "isEmpty", desc := "()Z" } : Jvm.MethodName)) ∈ lw_all := lw_g (lw_at lw_m8 88 rfl) rfl
theorem q1846 : (Jvm.Cond.publicMethod ({ cls := "java/util/ArrayList", name := "isEmpty", desc := "()Z" } : Jvm.MethodName)) ∈ lw_tbl := lw_at lw_m8 89 rfl
theorem q1847 : (Jvm.Cond.code ({ cls := "java/util/ArrayList", name := "isEmpty", desc := "()Z" } : Jvm.MethodName) prog_42_method_9_code (1 : Nat) (Option.some Jvm.ClassFile.FieldType.boolean)) ∈ lw_all := lw_g (lw_at lw_m8 90 rfl) rfl
theorem q2289 : (Jvm.Cond.castable "java/util/ArrayList" "java/lang/Object") ∈ lw_tbl := lw_at lw_m10 52 rfl
theorem in_J2 : ∀ w ∈ wsJ20, w ∈ lw_all := lw_in wsJ20 [158, 154, 156] (by decide +kernel) (by decide +kernel)
/-! java/util/AbstractMap -/
set_option maxRecDepth 100000
def RJ7 : String := "java/util/AbstractMap"
abbrev cJ7_init : ByteArray := prog_40_method_1_code
def yJ7_init : MethodName := ⟨RJ7, "<init>", "()V"⟩
theorem dJ7_init_0 : decode cJ7_init 0 = .ok (.aload_n 0, 1) := by decide +kernel
theorem dJ7_init_1 : decode cJ7_init 1 = .ok (.invokespecial 1, 3) := by decide +kernel
theorem dJ7_init_4 : decode cJ7_init 4 = .ok (.return_, 1) := by decide +kernel
theorem q88 : (Jvm.Cond.initialized "java/util/AbstractMap") ∈ lw_all := lw_g (lw_at lw_m1 11 rfl) rfl
theorem q244 : (Jvm.Cond.instanceMethod ({ cls := "java/util/AbstractMap", name := "<init>", desc := "()V" } : Jvm.MethodName)) ∈ lw_all := lw_g (lw_at lw_m1 167 rfl) rfl
theorem q245 : (Jvm.Cond.code ({ cls := "java/util/AbstractMap", name := "<init>", desc := "()V" } : Jvm.MethodName) prog_40_method_1_code (1 : Nat) (Option.none : Option Jvm.ClassFile.FieldType)) ∈ lw_all := lw_g (lw_at lw_m1 168 rfl) rfl
theorem q246 : (Jvm.Cond.methodLink "java/util/AbstractMap" (1 : Nat) ({ cls := "java/lang/Object", name := "<init>", desc := "()V" } : Jvm.MethodName)) ∈ lw_all := lw_g (lw_at lw_m1 169 rfl) rfl
theorem q280 : (Jvm.Cond.soleField "java/util/AbstractMap" "keySet") ∈ lw_all := lw_g (lw_at lw_m1 203 rfl) rfl
theorem q282 : (Jvm.Cond.soleField "java/util/AbstractMap" "values") ∈ lw_all := lw_g (lw_at lw_m1 205 rfl) rfl
/-! java/util/HashMap -/
set_option maxRecDepth 100000
def RJ8 : String := "java/util/HashMap"
def TJ8 : u_T := fun k => match k with
  | 0 => ("java/util/AbstractMap", "keySet", "Ljava/util/Set;", false)
  | 1 => ("java/util/AbstractMap", "values", "Ljava/util/Collection;", false)
  | 2 => ("java/util/HashMap", "table", "[Ljava/util/HashMap$Node;", false)
  | 3 => ("java/util/HashMap", "entrySet", "Ljava/util/Set;", false)
  | 4 => ("java/util/HashMap", "size", "I", false)
  | 5 => ("java/util/HashMap", "modCount", "I", false)
  | 6 => ("java/util/HashMap", "threshold", "I", false)
  | _ => ("java/util/HashMap", "loadFactor", "F", true)
def tyJ8 : Nat → FieldType := fun k => match k with
  | 0 => .object "java/util/Set"
  | 1 => .object "java/util/Collection"
  | 2 => .array (.object "java/util/HashMap$Node")
  | 3 => .object "java/util/Set"
  | 4 => .int
  | 5 => .int
  | 6 => .int
  | _ => .float
abbrev wsJ80 : List Cond := u_ws RJ8 TJ8 8
theorem nmJ8 : ∀ a, a < 8 → ∀ b, b < 8 → a ≠ b → (TJ8 a).2.1 ≠ (TJ8 b).2.1 := by decide +kernel
theorem tyJ8_ok : ∀ k, k < 8 → parseFieldDescriptor (TJ8 k).2.2.1 = some (tyJ8 k) := by decide +kernel
abbrev cJ8_init : ByteArray := prog_45_method_7_code
def yJ8_init : MethodName := ⟨RJ8, "<init>", "()V"⟩
def dkwJ8_init_0 : List UInt8 := [42, 183, 0, 43, 42, 18, 92, 181, 0, 81, 177]
abbrev dktJ8_init_0 : List UInt8 := dkwJ8_init_0 ++ []
theorem dksJ8_init_0 : cJ8_init.data.toList.drop 0 = dktJ8_init_0 := by decide +kernel
theorem dJ8_init_0 : decode cJ8_init 0 = .ok (.aload_n 0, 1) := dk_42 (dk_at dksJ8_init_0 0 rfl rfl)
theorem dJ8_init_1 : decode cJ8_init 1 = .ok (.invokespecial 43, 3) := dk_183 0 43 (dk_at dksJ8_init_0 1 rfl rfl)
theorem dJ8_init_4 : decode cJ8_init 4 = .ok (.aload_n 0, 1) := dk_42 (dk_at dksJ8_init_0 4 rfl rfl)
theorem dJ8_init_5 : decode cJ8_init 5 = .ok (.ldc 92, 2) := dk_18 92 (dk_at dksJ8_init_0 5 rfl rfl)
theorem dJ8_init_7 : decode cJ8_init 7 = .ok (.putfield 81, 3) := dk_181 0 81 (dk_at dksJ8_init_0 7 rfl rfl)
theorem dJ8_init_10 : decode cJ8_init 10 = .ok (.return_, 1) := dk_177 (dk_at dksJ8_init_0 10 rfl rfl)
abbrev cJ8_get : ByteArray := prog_45_method_12_code
def yJ8_get : MethodName := ⟨RJ8, "get", "(Ljava/lang/Object;)Ljava/lang/Object;"⟩
def dkwJ8_get_0 : List UInt8 := [42, 43, 182, 0, 158, 89, 77, 199, 0, 7, 1, 167, 0, 7, 44, 180, 0, 162, 176]
abbrev dktJ8_get_0 : List UInt8 := dkwJ8_get_0 ++ []
theorem dksJ8_get_0 : cJ8_get.data.toList.drop 0 = dktJ8_get_0 := by decide +kernel
theorem dJ8_get_0 : decode cJ8_get 0 = .ok (.aload_n 0, 1) := dk_42 (dk_at dksJ8_get_0 0 rfl rfl)
theorem dJ8_get_1 : decode cJ8_get 1 = .ok (.aload_n 1, 1) := dk_43 (dk_at dksJ8_get_0 1 rfl rfl)
theorem dJ8_get_2 : decode cJ8_get 2 = .ok (.invokevirtual 158, 3) := dk_182 0 158 (dk_at dksJ8_get_0 2 rfl rfl)
theorem dJ8_get_5 : decode cJ8_get 5 = .ok (.dup, 1) := dk_89 (dk_at dksJ8_get_0 5 rfl rfl)
theorem dJ8_get_6 : decode cJ8_get 6 = .ok (.astore_n 2, 1) := dk_77 (dk_at dksJ8_get_0 6 rfl rfl)
theorem dJ8_get_7 : decode cJ8_get 7 = .ok (.ifnonnull 7, 3) := dk_199 0 7 (dk_at dksJ8_get_0 7 rfl rfl)
theorem dJ8_get_10 : decode cJ8_get 10 = .ok (.aconst_null, 1) := dk_1 (dk_at dksJ8_get_0 10 rfl rfl)
theorem dJ8_get_11 : decode cJ8_get 11 = .ok (.goto 7, 3) := dk_167 0 7 (dk_at dksJ8_get_0 11 rfl rfl)
theorem dJ8_get_14 : decode cJ8_get 14 = .ok (.aload_n 2, 1) := dk_44 (dk_at dksJ8_get_0 14 rfl rfl)
theorem dJ8_get_15 : decode cJ8_get 15 = .ok (.getfield 162, 3) := dk_180 0 162 (dk_at dksJ8_get_0 15 rfl rfl)
theorem dJ8_get_18 : decode cJ8_get 18 = .ok (.areturn, 1) := dk_176 (dk_at dksJ8_get_0 18 rfl rfl)
abbrev cJ8_getNode : ByteArray := prog_45_method_13_code
def yJ8_getNode : MethodName := ⟨RJ8, "getNode", "(Ljava/lang/Object;)Ljava/util/HashMap$Node;"⟩
def dkwJ8_getNode_6 : List UInt8 := [89, 58, 4, 199, 255, 210, 1, 176]
abbrev dktJ8_getNode_6 : List UInt8 := dkwJ8_getNode_6 ++ []
def dkwJ8_getNode_5 : List UInt8 := [165, 0, 16, 43, 198, 0, 15, 43, 25, 7, 182, 0, 173, 153, 0, 6, 25, 4, 176, 25, 4, 180, 0, 177]
abbrev dktJ8_getNode_5 : List UInt8 := dkwJ8_getNode_5 ++ dktJ8_getNode_6
def dkwJ8_getNode_4 : List UInt8 := [43, 182, 0, 182, 176, 25, 4, 180, 0, 168, 21, 6, 160, 0, 31, 25, 4, 180, 0, 170, 89, 58, 7, 43]
abbrev dktJ8_getNode_4 : List UInt8 := dkwJ8_getNode_4 ++ dktJ8_getNode_5
def dkwJ8_getNode_3 : List UInt8 := [176, 45, 180, 0, 177, 89, 58, 4, 198, 0, 70, 45, 193, 0, 180, 153, 0, 14, 45, 192, 0, 180, 21, 6]
abbrev dktJ8_getNode_3 : List UInt8 := dkwJ8_getNode_3 ++ dktJ8_getNode_4
def dkwJ8_getNode_2 : List UInt8 := [180, 0, 170, 89, 58, 7, 43, 165, 0, 16, 43, 198, 0, 14, 43, 25, 7, 182, 0, 173, 153, 0, 5, 45]
abbrev dktJ8_getNode_2 : List UInt8 := dkwJ8_getNode_2 ++ dktJ8_getNode_3
def dkwJ8_getNode_1 : List UInt8 := [184, 0, 149, 89, 54, 6, 126, 50, 89, 78, 198, 0, 115, 45, 180, 0, 168, 21, 6, 160, 0, 29, 45]
abbrev dktJ8_getNode_1 : List UInt8 := dkwJ8_getNode_1 ++ dktJ8_getNode_2
def dkwJ8_getNode_0 : List UInt8 := [42, 180, 0, 105, 89, 77, 198, 0, 142, 44, 190, 89, 54, 5, 158, 0, 134, 44, 21, 5, 4, 100, 43]
abbrev dktJ8_getNode_0 : List UInt8 := dkwJ8_getNode_0 ++ dktJ8_getNode_1
theorem dksJ8_getNode_0 : cJ8_getNode.data.toList.drop 0 = dktJ8_getNode_0 := by decide +kernel
theorem dksJ8_getNode_1 : cJ8_getNode.data.toList.drop 23 = dktJ8_getNode_1 := dk_seg dksJ8_getNode_0 23 rfl rfl
theorem dksJ8_getNode_2 : cJ8_getNode.data.toList.drop 46 = dktJ8_getNode_2 := dk_seg dksJ8_getNode_1 23 rfl rfl
theorem dksJ8_getNode_3 : cJ8_getNode.data.toList.drop 70 = dktJ8_getNode_3 := dk_seg dksJ8_getNode_2 24 rfl rfl
theorem dksJ8_getNode_4 : cJ8_getNode.data.toList.drop 94 = dktJ8_getNode_4 := dk_seg dksJ8_getNode_3 24 rfl rfl
theorem dksJ8_getNode_5 : cJ8_getNode.data.toList.drop 118 = dktJ8_getNode_5 := dk_seg dksJ8_getNode_4 24 rfl rfl
theorem dksJ8_getNode_6 : cJ8_getNode.data.toList.drop 142 = dktJ8_getNode_6 := dk_seg dksJ8_getNode_5 24 rfl rfl
theorem dJ8_getNode_0 : decode cJ8_getNode 0 = .ok (.aload_n 0, 1) := dk_42 (dk_at dksJ8_getNode_0 0 rfl rfl)
theorem dJ8_getNode_1 : decode cJ8_getNode 1 = .ok (.getfield 105, 3) := dk_180 0 105 (dk_at dksJ8_getNode_0 1 rfl rfl)
theorem dJ8_getNode_4 : decode cJ8_getNode 4 = .ok (.dup, 1) := dk_89 (dk_at dksJ8_getNode_0 4 rfl rfl)
theorem dJ8_getNode_5 : decode cJ8_getNode 5 = .ok (.astore_n 2, 1) := dk_77 (dk_at dksJ8_getNode_0 5 rfl rfl)
theorem dJ8_getNode_6 : decode cJ8_getNode 6 = .ok (.ifnull 142, 3) := dk_198 0 142 (dk_at dksJ8_getNode_0 6 rfl rfl)
theorem dJ8_getNode_9 : decode cJ8_getNode 9 = .ok (.aload_n 2, 1) := dk_44 (dk_at dksJ8_getNode_0 9 rfl rfl)
theorem dJ8_getNode_10 : decode cJ8_getNode 10 = .ok (.arraylength, 1) := dk_190 (dk_at dksJ8_getNode_0 10 rfl rfl)
theorem dJ8_getNode_11 : decode cJ8_getNode 11 = .ok (.dup, 1) := dk_89 (dk_at dksJ8_getNode_0 11 rfl rfl)
theorem dJ8_getNode_12 : decode cJ8_getNode 12 = .ok (.istore 5, 2) := dk_54 5 (dk_at dksJ8_getNode_0 12 rfl rfl)
theorem dJ8_getNode_14 : decode cJ8_getNode 14 = .ok (.ifCond .le 134, 3) := dk_158 0 134 (dk_at dksJ8_getNode_0 14 rfl rfl)
theorem dJ8_getNode_17 : decode cJ8_getNode 17 = .ok (.aload_n 2, 1) := dk_44 (dk_at dksJ8_getNode_0 17 rfl rfl)
theorem dJ8_getNode_18 : decode cJ8_getNode 18 = .ok (.iload 5, 2) := dk_21 5 (dk_at dksJ8_getNode_0 18 rfl rfl)
theorem dJ8_getNode_20 : decode cJ8_getNode 20 = .ok (.iconst 1, 1) := dk_4 (dk_at dksJ8_getNode_0 20 rfl rfl)
theorem dJ8_getNode_21 : decode cJ8_getNode 21 = .ok (.isub, 1) := dk_100 (dk_at dksJ8_getNode_0 21 rfl rfl)
theorem dJ8_getNode_22 : decode cJ8_getNode 22 = .ok (.aload_n 1, 1) := dk_43 (dk_at dksJ8_getNode_0 22 rfl rfl)
theorem dJ8_getNode_23 : decode cJ8_getNode 23 = .ok (.invokestatic 149, 3) := dk_184 0 149 (dk_at dksJ8_getNode_1 0 rfl rfl)
theorem dJ8_getNode_26 : decode cJ8_getNode 26 = .ok (.dup, 1) := dk_89 (dk_at dksJ8_getNode_1 3 rfl rfl)
theorem dJ8_getNode_27 : decode cJ8_getNode 27 = .ok (.istore 6, 2) := dk_54 6 (dk_at dksJ8_getNode_1 4 rfl rfl)
theorem dJ8_getNode_29 : decode cJ8_getNode 29 = .ok (.iand, 1) := dk_126 (dk_at dksJ8_getNode_1 6 rfl rfl)
theorem dJ8_getNode_30 : decode cJ8_getNode 30 = .ok (.aaload, 1) := dk_50 (dk_at dksJ8_getNode_1 7 rfl rfl)
theorem dJ8_getNode_31 : decode cJ8_getNode 31 = .ok (.dup, 1) := dk_89 (dk_at dksJ8_getNode_1 8 rfl rfl)
theorem dJ8_getNode_32 : decode cJ8_getNode 32 = .ok (.astore_n 3, 1) := dk_78 (dk_at dksJ8_getNode_1 9 rfl rfl)
theorem dJ8_getNode_33 : decode cJ8_getNode 33 = .ok (.ifnull 115, 3) := dk_198 0 115 (dk_at dksJ8_getNode_1 10 rfl rfl)
theorem dJ8_getNode_36 : decode cJ8_getNode 36 = .ok (.aload_n 3, 1) := dk_45 (dk_at dksJ8_getNode_1 13 rfl rfl)
theorem dJ8_getNode_37 : decode cJ8_getNode 37 = .ok (.getfield 168, 3) := dk_180 0 168 (dk_at dksJ8_getNode_1 14 rfl rfl)
theorem dJ8_getNode_40 : decode cJ8_getNode 40 = .ok (.iload 6, 2) := dk_21 6 (dk_at dksJ8_getNode_1 17 rfl rfl)
theorem dJ8_getNode_42 : decode cJ8_getNode 42 = .ok (.if_icmp .ne 29, 3) := dk_160 0 29 (dk_at dksJ8_getNode_1 19 rfl rfl)
theorem dJ8_getNode_45 : decode cJ8_getNode 45 = .ok (.aload_n 3, 1) := dk_45 (dk_at dksJ8_getNode_1 22 rfl rfl)
theorem dJ8_getNode_46 : decode cJ8_getNode 46 = .ok (.getfield 170, 3) := dk_180 0 170 (dk_at dksJ8_getNode_2 0 rfl rfl)
theorem dJ8_getNode_49 : decode cJ8_getNode 49 = .ok (.dup, 1) := dk_89 (dk_at dksJ8_getNode_2 3 rfl rfl)
theorem dJ8_getNode_50 : decode cJ8_getNode 50 = .ok (.astore 7, 2) := dk_58 7 (dk_at dksJ8_getNode_2 4 rfl rfl)
theorem dJ8_getNode_52 : decode cJ8_getNode 52 = .ok (.aload_n 1, 1) := dk_43 (dk_at dksJ8_getNode_2 6 rfl rfl)
theorem dJ8_getNode_53 : decode cJ8_getNode 53 = .ok (.if_acmp .eq 16, 3) := dk_165 0 16 (dk_at dksJ8_getNode_2 7 rfl rfl)
theorem dJ8_getNode_56 : decode cJ8_getNode 56 = .ok (.aload_n 1, 1) := dk_43 (dk_at dksJ8_getNode_2 10 rfl rfl)
theorem dJ8_getNode_57 : decode cJ8_getNode 57 = .ok (.ifnull 14, 3) := dk_198 0 14 (dk_at dksJ8_getNode_2 11 rfl rfl)
theorem dJ8_getNode_60 : decode cJ8_getNode 60 = .ok (.aload_n 1, 1) := dk_43 (dk_at dksJ8_getNode_2 14 rfl rfl)
theorem dJ8_getNode_61 : decode cJ8_getNode 61 = .ok (.aload 7, 2) := dk_25 7 (dk_at dksJ8_getNode_2 15 rfl rfl)
theorem dJ8_getNode_63 : decode cJ8_getNode 63 = .ok (.invokevirtual 173, 3) := dk_182 0 173 (dk_at dksJ8_getNode_2 17 rfl rfl)
theorem dJ8_getNode_66 : decode cJ8_getNode 66 = .ok (.ifCond .eq 5, 3) := dk_153 0 5 (dk_at dksJ8_getNode_2 20 rfl rfl)
theorem dJ8_getNode_69 : decode cJ8_getNode 69 = .ok (.aload_n 3, 1) := dk_45 (dk_at dksJ8_getNode_2 23 rfl rfl)
theorem dJ8_getNode_70 : decode cJ8_getNode 70 = .ok (.areturn, 1) := dk_176 (dk_at dksJ8_getNode_3 0 rfl rfl)
theorem dJ8_getNode_71 : decode cJ8_getNode 71 = .ok (.aload_n 3, 1) := dk_45 (dk_at dksJ8_getNode_3 1 rfl rfl)
theorem dJ8_getNode_72 : decode cJ8_getNode 72 = .ok (.getfield 177, 3) := dk_180 0 177 (dk_at dksJ8_getNode_3 2 rfl rfl)
theorem dJ8_getNode_75 : decode cJ8_getNode 75 = .ok (.dup, 1) := dk_89 (dk_at dksJ8_getNode_3 5 rfl rfl)
theorem dJ8_getNode_76 : decode cJ8_getNode 76 = .ok (.astore 4, 2) := dk_58 4 (dk_at dksJ8_getNode_3 6 rfl rfl)
theorem dJ8_getNode_78 : decode cJ8_getNode 78 = .ok (.ifnull 70, 3) := dk_198 0 70 (dk_at dksJ8_getNode_3 8 rfl rfl)
theorem dJ8_getNode_81 : decode cJ8_getNode 81 = .ok (.aload_n 3, 1) := dk_45 (dk_at dksJ8_getNode_3 11 rfl rfl)
theorem dJ8_getNode_82 : decode cJ8_getNode 82 = .ok (.instanceof 180, 3) := dk_193 0 180 (dk_at dksJ8_getNode_3 12 rfl rfl)
theorem dJ8_getNode_85 : decode cJ8_getNode 85 = .ok (.ifCond .eq 14, 3) := dk_153 0 14 (dk_at dksJ8_getNode_3 15 rfl rfl)
theorem dJ8_getNode_88 : decode cJ8_getNode 88 = .ok (.aload_n 3, 1) := dk_45 (dk_at dksJ8_getNode_3 18 rfl rfl)
theorem dJ8_getNode_89 : decode cJ8_getNode 89 = .ok (.checkcast 180, 3) := dk_192 0 180 (dk_at dksJ8_getNode_3 19 rfl rfl)
theorem dJ8_getNode_92 : decode cJ8_getNode 92 = .ok (.iload 6, 2) := dk_21 6 (dk_at dksJ8_getNode_3 22 rfl rfl)
theorem dJ8_getNode_94 : decode cJ8_getNode 94 = .ok (.aload_n 1, 1) := dk_43 (dk_at dksJ8_getNode_4 0 rfl rfl)
theorem dJ8_getNode_95 : decode cJ8_getNode 95 = .ok (.invokevirtual 182, 3) := dk_182 0 182 (dk_at dksJ8_getNode_4 1 rfl rfl)
theorem dJ8_getNode_98 : decode cJ8_getNode 98 = .ok (.areturn, 1) := dk_176 (dk_at dksJ8_getNode_4 4 rfl rfl)
theorem dJ8_getNode_99 : decode cJ8_getNode 99 = .ok (.aload 4, 2) := dk_25 4 (dk_at dksJ8_getNode_4 5 rfl rfl)
theorem dJ8_getNode_101 : decode cJ8_getNode 101 = .ok (.getfield 168, 3) := dk_180 0 168 (dk_at dksJ8_getNode_4 7 rfl rfl)
theorem dJ8_getNode_104 : decode cJ8_getNode 104 = .ok (.iload 6, 2) := dk_21 6 (dk_at dksJ8_getNode_4 10 rfl rfl)
theorem dJ8_getNode_106 : decode cJ8_getNode 106 = .ok (.if_icmp .ne 31, 3) := dk_160 0 31 (dk_at dksJ8_getNode_4 12 rfl rfl)
theorem dJ8_getNode_109 : decode cJ8_getNode 109 = .ok (.aload 4, 2) := dk_25 4 (dk_at dksJ8_getNode_4 15 rfl rfl)
theorem dJ8_getNode_111 : decode cJ8_getNode 111 = .ok (.getfield 170, 3) := dk_180 0 170 (dk_at dksJ8_getNode_4 17 rfl rfl)
theorem dJ8_getNode_114 : decode cJ8_getNode 114 = .ok (.dup, 1) := dk_89 (dk_at dksJ8_getNode_4 20 rfl rfl)
theorem dJ8_getNode_115 : decode cJ8_getNode 115 = .ok (.astore 7, 2) := dk_58 7 (dk_at dksJ8_getNode_4 21 rfl rfl)
theorem dJ8_getNode_117 : decode cJ8_getNode 117 = .ok (.aload_n 1, 1) := dk_43 (dk_at dksJ8_getNode_4 23 rfl rfl)
theorem dJ8_getNode_118 : decode cJ8_getNode 118 = .ok (.if_acmp .eq 16, 3) := dk_165 0 16 (dk_at dksJ8_getNode_5 0 rfl rfl)
theorem dJ8_getNode_121 : decode cJ8_getNode 121 = .ok (.aload_n 1, 1) := dk_43 (dk_at dksJ8_getNode_5 3 rfl rfl)
theorem dJ8_getNode_122 : decode cJ8_getNode 122 = .ok (.ifnull 15, 3) := dk_198 0 15 (dk_at dksJ8_getNode_5 4 rfl rfl)
theorem dJ8_getNode_125 : decode cJ8_getNode 125 = .ok (.aload_n 1, 1) := dk_43 (dk_at dksJ8_getNode_5 7 rfl rfl)
theorem dJ8_getNode_126 : decode cJ8_getNode 126 = .ok (.aload 7, 2) := dk_25 7 (dk_at dksJ8_getNode_5 8 rfl rfl)
theorem dJ8_getNode_128 : decode cJ8_getNode 128 = .ok (.invokevirtual 173, 3) := dk_182 0 173 (dk_at dksJ8_getNode_5 10 rfl rfl)
theorem dJ8_getNode_131 : decode cJ8_getNode 131 = .ok (.ifCond .eq 6, 3) := dk_153 0 6 (dk_at dksJ8_getNode_5 13 rfl rfl)
theorem dJ8_getNode_134 : decode cJ8_getNode 134 = .ok (.aload 4, 2) := dk_25 4 (dk_at dksJ8_getNode_5 16 rfl rfl)
theorem dJ8_getNode_136 : decode cJ8_getNode 136 = .ok (.areturn, 1) := dk_176 (dk_at dksJ8_getNode_5 18 rfl rfl)
theorem dJ8_getNode_137 : decode cJ8_getNode 137 = .ok (.aload 4, 2) := dk_25 4 (dk_at dksJ8_getNode_5 19 rfl rfl)
theorem dJ8_getNode_139 : decode cJ8_getNode 139 = .ok (.getfield 177, 3) := dk_180 0 177 (dk_at dksJ8_getNode_5 21 rfl rfl)
theorem dJ8_getNode_142 : decode cJ8_getNode 142 = .ok (.dup, 1) := dk_89 (dk_at dksJ8_getNode_6 0 rfl rfl)
theorem dJ8_getNode_143 : decode cJ8_getNode 143 = .ok (.astore 4, 2) := dk_58 4 (dk_at dksJ8_getNode_6 1 rfl rfl)
theorem dJ8_getNode_145 : decode cJ8_getNode 145 = .ok (.ifnonnull (-46), 3) := dk_199 255 210 (dk_at dksJ8_getNode_6 3 rfl rfl)
theorem dJ8_getNode_148 : decode cJ8_getNode 148 = .ok (.aconst_null, 1) := dk_1 (dk_at dksJ8_getNode_6 6 rfl rfl)
theorem dJ8_getNode_149 : decode cJ8_getNode 149 = .ok (.areturn, 1) := dk_176 (dk_at dksJ8_getNode_6 7 rfl rfl)
abbrev cJ8_hash : ByteArray := prog_45_method_1_code
def yJ8_hash : MethodName := ⟨RJ8, "hash", "(Ljava/lang/Object;)I"⟩
def dkwJ8_hash_0 : List UInt8 := [42, 199, 0, 7, 3, 167, 0, 14, 42, 182, 0, 1, 89, 60, 27, 16, 16, 124, 130, 172]
abbrev dktJ8_hash_0 : List UInt8 := dkwJ8_hash_0 ++ []
theorem dksJ8_hash_0 : cJ8_hash.data.toList.drop 0 = dktJ8_hash_0 := by decide +kernel
theorem dJ8_hash_0 : decode cJ8_hash 0 = .ok (.aload_n 0, 1) := dk_42 (dk_at dksJ8_hash_0 0 rfl rfl)
theorem dJ8_hash_1 : decode cJ8_hash 1 = .ok (.ifnonnull 7, 3) := dk_199 0 7 (dk_at dksJ8_hash_0 1 rfl rfl)
theorem dJ8_hash_4 : decode cJ8_hash 4 = .ok (.iconst 0, 1) := dk_3 (dk_at dksJ8_hash_0 4 rfl rfl)
theorem dJ8_hash_5 : decode cJ8_hash 5 = .ok (.goto 14, 3) := dk_167 0 14 (dk_at dksJ8_hash_0 5 rfl rfl)
theorem dJ8_hash_8 : decode cJ8_hash 8 = .ok (.aload_n 0, 1) := dk_42 (dk_at dksJ8_hash_0 8 rfl rfl)
theorem dJ8_hash_9 : decode cJ8_hash 9 = .ok (.invokevirtual 1, 3) := dk_182 0 1 (dk_at dksJ8_hash_0 9 rfl rfl)
theorem dJ8_hash_12 : decode cJ8_hash 12 = .ok (.dup, 1) := dk_89 (dk_at dksJ8_hash_0 12 rfl rfl)
theorem dJ8_hash_13 : decode cJ8_hash 13 = .ok (.istore_n 1, 1) := dk_60 (dk_at dksJ8_hash_0 13 rfl rfl)
theorem dJ8_hash_14 : decode cJ8_hash 14 = .ok (.iload_n 1, 1) := dk_27 (dk_at dksJ8_hash_0 14 rfl rfl)
theorem dJ8_hash_15 : decode cJ8_hash 15 = .ok (.bipush 16, 2) := dk_16 16 (dk_at dksJ8_hash_0 15 rfl rfl)
theorem dJ8_hash_17 : decode cJ8_hash 17 = .ok (.iushr, 1) := dk_124 (dk_at dksJ8_hash_0 17 rfl rfl)
theorem dJ8_hash_18 : decode cJ8_hash 18 = .ok (.ixor, 1) := dk_130 (dk_at dksJ8_hash_0 18 rfl rfl)
theorem dJ8_hash_19 : decode cJ8_hash 19 = .ok (.ireturn, 1) := dk_172 (dk_at dksJ8_hash_0 19 rfl rfl)
abbrev cJ8_comparableClassFor : ByteArray := prog_45_method_2_code
def yJ8_comparableClassFor : MethodName := ⟨RJ8, "comparableClassFor", "(Ljava/lang/Object;)Ljava/lang/Class;"⟩
def dkwJ8_comparableClassFor_4 : List UInt8 := [4, 160, 0, 12, 45, 3, 50, 43, 166, 0, 5, 43, 176, 132, 7, 1, 167, 255, 186, 1, 176]
abbrev dktJ8_comparableClassFor_4 : List UInt8 := dkwJ8_comparableClassFor_4 ++ []
def dkwJ8_comparableClassFor_3 : List UInt8 := [185, 0, 23, 1, 0, 18, 7, 166, 0, 30, 25, 4, 185, 0, 27, 1, 0, 89, 78, 198, 0, 18, 45, 190]
abbrev dktJ8_comparableClassFor_3 : List UInt8 := dkwJ8_comparableClassFor_3 ++ dktJ8_comparableClassFor_4
def dkwJ8_comparableClassFor_2 : List UInt8 := [25, 5, 21, 7, 50, 58, 8, 25, 8, 193, 0, 21, 153, 0, 48, 25, 8, 192, 0, 21, 89, 58, 4]
abbrev dktJ8_comparableClassFor_2 : List UInt8 := dkwJ8_comparableClassFor_2 ++ dktJ8_comparableClassFor_3
def dkwJ8_comparableClassFor_1 : List UInt8 := [89, 77, 198, 0, 87, 44, 58, 5, 25, 5, 190, 54, 6, 3, 54, 7, 21, 7, 21, 6, 162, 0, 69]
abbrev dktJ8_comparableClassFor_1 : List UInt8 := dkwJ8_comparableClassFor_1 ++ dktJ8_comparableClassFor_2
def dkwJ8_comparableClassFor_0 : List UInt8 := [42, 193, 0, 7, 153, 0, 109, 42, 182, 0, 9, 89, 76, 18, 13, 166, 0, 5, 43, 176, 43, 182, 0, 15]
abbrev dktJ8_comparableClassFor_0 : List UInt8 := dkwJ8_comparableClassFor_0 ++ dktJ8_comparableClassFor_1
theorem dksJ8_comparableClassFor_0 : cJ8_comparableClassFor.data.toList.drop 0 = dktJ8_comparableClassFor_0 := by decide +kernel
theorem dksJ8_comparableClassFor_1 : cJ8_comparableClassFor.data.toList.drop 24 = dktJ8_comparableClassFor_1 := dk_seg dksJ8_comparableClassFor_0 24 rfl rfl
theorem dksJ8_comparableClassFor_2 : cJ8_comparableClassFor.data.toList.drop 47 = dktJ8_comparableClassFor_2 := dk_seg dksJ8_comparableClassFor_1 23 rfl rfl
theorem dksJ8_comparableClassFor_3 : cJ8_comparableClassFor.data.toList.drop 70 = dktJ8_comparableClassFor_3 := dk_seg dksJ8_comparableClassFor_2 23 rfl rfl
theorem dksJ8_comparableClassFor_4 : cJ8_comparableClassFor.data.toList.drop 94 = dktJ8_comparableClassFor_4 := dk_seg dksJ8_comparableClassFor_3 24 rfl rfl
theorem dJ8_comparableClassFor_0 : decode cJ8_comparableClassFor 0 = .ok (.aload_n 0, 1) := dk_42 (dk_at dksJ8_comparableClassFor_0 0 rfl rfl)
theorem dJ8_comparableClassFor_1 : decode cJ8_comparableClassFor 1 = .ok (.instanceof 7, 3) := dk_193 0 7 (dk_at dksJ8_comparableClassFor_0 1 rfl rfl)
theorem dJ8_comparableClassFor_4 : decode cJ8_comparableClassFor 4 = .ok (.ifCond .eq 109, 3) := dk_153 0 109 (dk_at dksJ8_comparableClassFor_0 4 rfl rfl)
theorem dJ8_comparableClassFor_7 : decode cJ8_comparableClassFor 7 = .ok (.aload_n 0, 1) := dk_42 (dk_at dksJ8_comparableClassFor_0 7 rfl rfl)
theorem dJ8_comparableClassFor_8 : decode cJ8_comparableClassFor 8 = .ok (.invokevirtual 9, 3) := dk_182 0 9 (dk_at dksJ8_comparableClassFor_0 8 rfl rfl)
theorem dJ8_comparableClassFor_11 : decode cJ8_comparableClassFor 11 = .ok (.dup, 1) := dk_89 (dk_at dksJ8_comparableClassFor_0 11 rfl rfl)
theorem dJ8_comparableClassFor_12 : decode cJ8_comparableClassFor 12 = .ok (.astore_n 1, 1) := dk_76 (dk_at dksJ8_comparableClassFor_0 12 rfl rfl)
theorem dJ8_comparableClassFor_13 : decode cJ8_comparableClassFor 13 = .ok (.ldc 13, 2) := dk_18 13 (dk_at dksJ8_comparableClassFor_0 13 rfl rfl)
theorem dJ8_comparableClassFor_15 : decode cJ8_comparableClassFor 15 = .ok (.if_acmp .ne 5, 3) := dk_166 0 5 (dk_at dksJ8_comparableClassFor_0 15 rfl rfl)
theorem dJ8_comparableClassFor_18 : decode cJ8_comparableClassFor 18 = .ok (.aload_n 1, 1) := dk_43 (dk_at dksJ8_comparableClassFor_0 18 rfl rfl)
theorem dJ8_comparableClassFor_19 : decode cJ8_comparableClassFor 19 = .ok (.areturn, 1) := dk_176 (dk_at dksJ8_comparableClassFor_0 19 rfl rfl)
theorem dJ8_comparableClassFor_20 : decode cJ8_comparableClassFor 20 = .ok (.aload_n 1, 1) := dk_43 (dk_at dksJ8_comparableClassFor_0 20 rfl rfl)
theorem dJ8_comparableClassFor_21 : decode cJ8_comparableClassFor 21 = .ok (.invokevirtual 15, 3) := dk_182 0 15 (dk_at dksJ8_comparableClassFor_0 21 rfl rfl)
theorem dJ8_comparableClassFor_24 : decode cJ8_comparableClassFor 24 = .ok (.dup, 1) := dk_89 (dk_at dksJ8_comparableClassFor_1 0 rfl rfl)
theorem dJ8_comparableClassFor_25 : decode cJ8_comparableClassFor 25 = .ok (.astore_n 2, 1) := dk_77 (dk_at dksJ8_comparableClassFor_1 1 rfl rfl)
theorem dJ8_comparableClassFor_26 : decode cJ8_comparableClassFor 26 = .ok (.ifnull 87, 3) := dk_198 0 87 (dk_at dksJ8_comparableClassFor_1 2 rfl rfl)
theorem dJ8_comparableClassFor_29 : decode cJ8_comparableClassFor 29 = .ok (.aload_n 2, 1) := dk_44 (dk_at dksJ8_comparableClassFor_1 5 rfl rfl)
theorem dJ8_comparableClassFor_30 : decode cJ8_comparableClassFor 30 = .ok (.astore 5, 2) := dk_58 5 (dk_at dksJ8_comparableClassFor_1 6 rfl rfl)
theorem dJ8_comparableClassFor_32 : decode cJ8_comparableClassFor 32 = .ok (.aload 5, 2) := dk_25 5 (dk_at dksJ8_comparableClassFor_1 8 rfl rfl)
theorem dJ8_comparableClassFor_34 : decode cJ8_comparableClassFor 34 = .ok (.arraylength, 1) := dk_190 (dk_at dksJ8_comparableClassFor_1 10 rfl rfl)
theorem dJ8_comparableClassFor_35 : decode cJ8_comparableClassFor 35 = .ok (.istore 6, 2) := dk_54 6 (dk_at dksJ8_comparableClassFor_1 11 rfl rfl)
theorem dJ8_comparableClassFor_37 : decode cJ8_comparableClassFor 37 = .ok (.iconst 0, 1) := dk_3 (dk_at dksJ8_comparableClassFor_1 13 rfl rfl)
theorem dJ8_comparableClassFor_38 : decode cJ8_comparableClassFor 38 = .ok (.istore 7, 2) := dk_54 7 (dk_at dksJ8_comparableClassFor_1 14 rfl rfl)
theorem dJ8_comparableClassFor_40 : decode cJ8_comparableClassFor 40 = .ok (.iload 7, 2) := dk_21 7 (dk_at dksJ8_comparableClassFor_1 16 rfl rfl)
theorem dJ8_comparableClassFor_42 : decode cJ8_comparableClassFor 42 = .ok (.iload 6, 2) := dk_21 6 (dk_at dksJ8_comparableClassFor_1 18 rfl rfl)
theorem dJ8_comparableClassFor_44 : decode cJ8_comparableClassFor 44 = .ok (.if_icmp .ge 69, 3) := dk_162 0 69 (dk_at dksJ8_comparableClassFor_1 20 rfl rfl)
theorem dJ8_comparableClassFor_47 : decode cJ8_comparableClassFor 47 = .ok (.aload 5, 2) := dk_25 5 (dk_at dksJ8_comparableClassFor_2 0 rfl rfl)
theorem dJ8_comparableClassFor_49 : decode cJ8_comparableClassFor 49 = .ok (.iload 7, 2) := dk_21 7 (dk_at dksJ8_comparableClassFor_2 2 rfl rfl)
theorem dJ8_comparableClassFor_51 : decode cJ8_comparableClassFor 51 = .ok (.aaload, 1) := dk_50 (dk_at dksJ8_comparableClassFor_2 4 rfl rfl)
theorem dJ8_comparableClassFor_52 : decode cJ8_comparableClassFor 52 = .ok (.astore 8, 2) := dk_58 8 (dk_at dksJ8_comparableClassFor_2 5 rfl rfl)
theorem dJ8_comparableClassFor_54 : decode cJ8_comparableClassFor 54 = .ok (.aload 8, 2) := dk_25 8 (dk_at dksJ8_comparableClassFor_2 7 rfl rfl)
theorem dJ8_comparableClassFor_56 : decode cJ8_comparableClassFor 56 = .ok (.instanceof 21, 3) := dk_193 0 21 (dk_at dksJ8_comparableClassFor_2 9 rfl rfl)
theorem dJ8_comparableClassFor_59 : decode cJ8_comparableClassFor 59 = .ok (.ifCond .eq 48, 3) := dk_153 0 48 (dk_at dksJ8_comparableClassFor_2 12 rfl rfl)
theorem dJ8_comparableClassFor_62 : decode cJ8_comparableClassFor 62 = .ok (.aload 8, 2) := dk_25 8 (dk_at dksJ8_comparableClassFor_2 15 rfl rfl)
theorem dJ8_comparableClassFor_64 : decode cJ8_comparableClassFor 64 = .ok (.checkcast 21, 3) := dk_192 0 21 (dk_at dksJ8_comparableClassFor_2 17 rfl rfl)
theorem dJ8_comparableClassFor_67 : decode cJ8_comparableClassFor 67 = .ok (.dup, 1) := dk_89 (dk_at dksJ8_comparableClassFor_2 20 rfl rfl)
theorem dJ8_comparableClassFor_68 : decode cJ8_comparableClassFor 68 = .ok (.astore 4, 2) := dk_58 4 (dk_at dksJ8_comparableClassFor_2 21 rfl rfl)
theorem dJ8_comparableClassFor_70 : decode cJ8_comparableClassFor 70 = .ok (.invokeinterface 23 1, 5) := by decide +kernel
theorem dJ8_comparableClassFor_75 : decode cJ8_comparableClassFor 75 = .ok (.ldc 7, 2) := dk_18 7 (dk_at dksJ8_comparableClassFor_3 5 rfl rfl)
theorem dJ8_comparableClassFor_77 : decode cJ8_comparableClassFor 77 = .ok (.if_acmp .ne 30, 3) := dk_166 0 30 (dk_at dksJ8_comparableClassFor_3 7 rfl rfl)
theorem dJ8_comparableClassFor_80 : decode cJ8_comparableClassFor 80 = .ok (.aload 4, 2) := dk_25 4 (dk_at dksJ8_comparableClassFor_3 10 rfl rfl)
theorem dJ8_comparableClassFor_82 : decode cJ8_comparableClassFor 82 = .ok (.invokeinterface 27 1, 5) := by decide +kernel
theorem dJ8_comparableClassFor_87 : decode cJ8_comparableClassFor 87 = .ok (.dup, 1) := dk_89 (dk_at dksJ8_comparableClassFor_3 17 rfl rfl)
theorem dJ8_comparableClassFor_88 : decode cJ8_comparableClassFor 88 = .ok (.astore_n 3, 1) := dk_78 (dk_at dksJ8_comparableClassFor_3 18 rfl rfl)
theorem dJ8_comparableClassFor_89 : decode cJ8_comparableClassFor 89 = .ok (.ifnull 18, 3) := dk_198 0 18 (dk_at dksJ8_comparableClassFor_3 19 rfl rfl)
theorem dJ8_comparableClassFor_92 : decode cJ8_comparableClassFor 92 = .ok (.aload_n 3, 1) := dk_45 (dk_at dksJ8_comparableClassFor_3 22 rfl rfl)
theorem dJ8_comparableClassFor_93 : decode cJ8_comparableClassFor 93 = .ok (.arraylength, 1) := dk_190 (dk_at dksJ8_comparableClassFor_3 23 rfl rfl)
theorem dJ8_comparableClassFor_94 : decode cJ8_comparableClassFor 94 = .ok (.iconst 1, 1) := dk_4 (dk_at dksJ8_comparableClassFor_4 0 rfl rfl)
theorem dJ8_comparableClassFor_95 : decode cJ8_comparableClassFor 95 = .ok (.if_icmp .ne 12, 3) := dk_160 0 12 (dk_at dksJ8_comparableClassFor_4 1 rfl rfl)
theorem dJ8_comparableClassFor_98 : decode cJ8_comparableClassFor 98 = .ok (.aload_n 3, 1) := dk_45 (dk_at dksJ8_comparableClassFor_4 4 rfl rfl)
theorem dJ8_comparableClassFor_99 : decode cJ8_comparableClassFor 99 = .ok (.iconst 0, 1) := dk_3 (dk_at dksJ8_comparableClassFor_4 5 rfl rfl)
theorem dJ8_comparableClassFor_100 : decode cJ8_comparableClassFor 100 = .ok (.aaload, 1) := dk_50 (dk_at dksJ8_comparableClassFor_4 6 rfl rfl)
theorem dJ8_comparableClassFor_101 : decode cJ8_comparableClassFor 101 = .ok (.aload_n 1, 1) := dk_43 (dk_at dksJ8_comparableClassFor_4 7 rfl rfl)
theorem dJ8_comparableClassFor_102 : decode cJ8_comparableClassFor 102 = .ok (.if_acmp .ne 5, 3) := dk_166 0 5 (dk_at dksJ8_comparableClassFor_4 8 rfl rfl)
theorem dJ8_comparableClassFor_105 : decode cJ8_comparableClassFor 105 = .ok (.aload_n 1, 1) := dk_43 (dk_at dksJ8_comparableClassFor_4 11 rfl rfl)
theorem dJ8_comparableClassFor_106 : decode cJ8_comparableClassFor 106 = .ok (.areturn, 1) := dk_176 (dk_at dksJ8_comparableClassFor_4 12 rfl rfl)
theorem dJ8_comparableClassFor_107 : decode cJ8_comparableClassFor 107 = .ok (.iinc 7 1, 3) := dk_132 7 1 (dk_at dksJ8_comparableClassFor_4 13 rfl rfl)
theorem dJ8_comparableClassFor_110 : decode cJ8_comparableClassFor 110 = .ok (.goto (-70), 3) := dk_167 255 186 (dk_at dksJ8_comparableClassFor_4 16 rfl rfl)
theorem dJ8_comparableClassFor_113 : decode cJ8_comparableClassFor 113 = .ok (.aconst_null, 1) := dk_1 (dk_at dksJ8_comparableClassFor_4 19 rfl rfl)
theorem dJ8_comparableClassFor_114 : decode cJ8_comparableClassFor 114 = .ok (.areturn, 1) := dk_176 (dk_at dksJ8_comparableClassFor_4 20 rfl rfl)
abbrev cJ8_compareComparables : ByteArray := prog_45_method_3_code
def yJ8_compareComparables : MethodName := ⟨RJ8, "compareComparables", "(Ljava/lang/Class;Ljava/lang/Object;Ljava/lang/Object;)I"⟩
def dkwJ8_compareComparables_1 : List UInt8 := [185, 0, 30, 2, 0, 172]
abbrev dktJ8_compareComparables_1 : List UInt8 := dkwJ8_compareComparables_1 ++ []
def dkwJ8_compareComparables_0 : List UInt8 := [44, 198, 0, 11, 44, 182, 0, 9, 42, 165, 0, 7, 3, 167, 0, 13, 43, 192, 0, 7, 44]
abbrev dktJ8_compareComparables_0 : List UInt8 := dkwJ8_compareComparables_0 ++ dktJ8_compareComparables_1
theorem dksJ8_compareComparables_0 : cJ8_compareComparables.data.toList.drop 0 = dktJ8_compareComparables_0 := by decide +kernel
theorem dksJ8_compareComparables_1 : cJ8_compareComparables.data.toList.drop 21 = dktJ8_compareComparables_1 := dk_seg dksJ8_compareComparables_0 21 rfl rfl
theorem dJ8_compareComparables_0 : decode cJ8_compareComparables 0 = .ok (.aload_n 2, 1) := dk_44 (dk_at dksJ8_compareComparables_0 0 rfl rfl)
theorem dJ8_compareComparables_1 : decode cJ8_compareComparables 1 = .ok (.ifnull 11, 3) := dk_198 0 11 (dk_at dksJ8_compareComparables_0 1 rfl rfl)
theorem dJ8_compareComparables_4 : decode cJ8_compareComparables 4 = .ok (.aload_n 2, 1) := dk_44 (dk_at dksJ8_compareComparables_0 4 rfl rfl)
theorem dJ8_compareComparables_5 : decode cJ8_compareComparables 5 = .ok (.invokevirtual 9, 3) := dk_182 0 9 (dk_at dksJ8_compareComparables_0 5 rfl rfl)
theorem dJ8_compareComparables_8 : decode cJ8_compareComparables 8 = .ok (.aload_n 0, 1) := dk_42 (dk_at dksJ8_compareComparables_0 8 rfl rfl)
theorem dJ8_compareComparables_9 : decode cJ8_compareComparables 9 = .ok (.if_acmp .eq 7, 3) := dk_165 0 7 (dk_at dksJ8_compareComparables_0 9 rfl rfl)
theorem dJ8_compareComparables_12 : decode cJ8_compareComparables 12 = .ok (.iconst 0, 1) := dk_3 (dk_at dksJ8_compareComparables_0 12 rfl rfl)
theorem dJ8_compareComparables_13 : decode cJ8_compareComparables 13 = .ok (.goto 13, 3) := dk_167 0 13 (dk_at dksJ8_compareComparables_0 13 rfl rfl)
theorem dJ8_compareComparables_16 : decode cJ8_compareComparables 16 = .ok (.aload_n 1, 1) := dk_43 (dk_at dksJ8_compareComparables_0 16 rfl rfl)
theorem dJ8_compareComparables_17 : decode cJ8_compareComparables 17 = .ok (.checkcast 7, 3) := dk_192 0 7 (dk_at dksJ8_compareComparables_0 17 rfl rfl)
theorem dJ8_compareComparables_20 : decode cJ8_compareComparables 20 = .ok (.aload_n 2, 1) := dk_44 (dk_at dksJ8_compareComparables_0 20 rfl rfl)
theorem dJ8_compareComparables_21 : decode cJ8_compareComparables 21 = .ok (.invokeinterface 30 2, 5) := by decide +kernel
theorem dJ8_compareComparables_26 : decode cJ8_compareComparables 26 = .ok (.ireturn, 1) := dk_172 (dk_at dksJ8_compareComparables_1 5 rfl rfl)
abbrev cJ8_put : ByteArray := prog_45_method_15_code
def yJ8_put : MethodName := ⟨RJ8, "put", "(Ljava/lang/Object;Ljava/lang/Object;)Ljava/lang/Object;"⟩
def dkwJ8_put_0 : List UInt8 := [42, 43, 184, 0, 149, 43, 44, 3, 4, 182, 0, 152, 176]
abbrev dktJ8_put_0 : List UInt8 := dkwJ8_put_0 ++ []
theorem dksJ8_put_0 : cJ8_put.data.toList.drop 0 = dktJ8_put_0 := by decide +kernel
theorem dJ8_put_0 : decode cJ8_put 0 = .ok (.aload_n 0, 1) := dk_42 (dk_at dksJ8_put_0 0 rfl rfl)
theorem dJ8_put_1 : decode cJ8_put 1 = .ok (.aload_n 1, 1) := dk_43 (dk_at dksJ8_put_0 1 rfl rfl)
theorem dJ8_put_2 : decode cJ8_put 2 = .ok (.invokestatic 149, 3) := dk_184 0 149 (dk_at dksJ8_put_0 2 rfl rfl)
theorem dJ8_put_5 : decode cJ8_put 5 = .ok (.aload_n 1, 1) := dk_43 (dk_at dksJ8_put_0 5 rfl rfl)
theorem dJ8_put_6 : decode cJ8_put 6 = .ok (.aload_n 2, 1) := dk_44 (dk_at dksJ8_put_0 6 rfl rfl)
theorem dJ8_put_7 : decode cJ8_put 7 = .ok (.iconst 0, 1) := dk_3 (dk_at dksJ8_put_0 7 rfl rfl)
theorem dJ8_put_8 : decode cJ8_put 8 = .ok (.iconst 1, 1) := dk_4 (dk_at dksJ8_put_0 8 rfl rfl)
theorem dJ8_put_9 : decode cJ8_put 9 = .ok (.invokevirtual 152, 3) := dk_182 0 152 (dk_at dksJ8_put_0 9 rfl rfl)
theorem dJ8_put_12 : decode cJ8_put 12 = .ok (.areturn, 1) := dk_176 (dk_at dksJ8_put_0 12 rfl rfl)
abbrev cJ8_putVal : ByteArray := prog_45_method_16_code
def yJ8_putVal : MethodName := ⟨RJ8, "putVal", "(ILjava/lang/Object;Ljava/lang/Object;ZZ)Ljava/lang/Object;"⟩
def dkwJ8_putVal_12 : List UInt8 := [181, 0, 156, 42, 180, 0, 88, 164, 0, 8, 42, 182, 0, 117, 87, 42, 21, 5, 182, 0, 205, 1, 176]
abbrev dktJ8_putVal_12 : List UInt8 := dkwJ8_putVal_12 ++ []
def dkwJ8_putVal_11 : List UInt8 := [182, 0, 198, 25, 12, 176, 42, 89, 180, 0, 202, 4, 96, 181, 0, 202, 42, 89, 180, 0, 156, 4, 96, 90]
abbrev dktJ8_putVal_11 : List UInt8 := dkwJ8_putVal_11 ++ dktJ8_putVal_12
def dkwJ8_putVal_10 : List UInt8 := [180, 0, 162, 58, 12, 21, 4, 153, 0, 8, 25, 12, 199, 0, 9, 25, 10, 45, 181, 0, 162, 42, 25, 10]
abbrev dktJ8_putVal_10 : List UInt8 := dkwJ8_putVal_10 ++ dktJ8_putVal_11
def dkwJ8_putVal_9 : List UInt8 := [153, 0, 6, 167, 0, 13, 25, 10, 58, 7, 132, 12, 1, 167, 255, 171, 25, 10, 198, 0, 35, 25, 10]
abbrev dktJ8_putVal_9 : List UInt8 := dkwJ8_putVal_9 ++ dktJ8_putVal_10
def dkwJ8_putVal_8 : List UInt8 := [25, 10, 180, 0, 170, 89, 58, 11, 44, 165, 0, 29, 44, 198, 0, 15, 44, 25, 11, 182, 0, 173]
abbrev dktJ8_putVal_8 : List UInt8 := dkwJ8_putVal_8 ++ dktJ8_putVal_9
def dkwJ8_putVal_7 : List UInt8 := [16, 7, 161, 0, 60, 42, 25, 6, 27, 182, 0, 194, 167, 0, 50, 25, 10, 180, 0, 168, 27, 160, 0, 31]
abbrev dktJ8_putVal_7 : List UInt8 := dkwJ8_putVal_7 ++ dktJ8_putVal_8
def dkwJ8_putVal_6 : List UInt8 := [180, 0, 177, 89, 58, 10, 199, 0, 33, 25, 7, 42, 27, 44, 45, 1, 182, 0, 186, 181, 0, 177, 21, 12]
abbrev dktJ8_putVal_6 : List UInt8 := dkwJ8_putVal_6 ++ dktJ8_putVal_7
def dkwJ8_putVal_5 : List UInt8 := [192, 0, 180, 42, 25, 6, 27, 44, 45, 182, 0, 190, 58, 10, 167, 0, 94, 3, 54, 12, 25, 7]
abbrev dktJ8_putVal_5 : List UInt8 := dkwJ8_putVal_5 ++ dktJ8_putVal_6
def dkwJ8_putVal_4 : List UInt8 := [182, 0, 173, 153, 0, 10, 25, 7, 58, 10, 167, 0, 121, 25, 7, 193, 0, 180, 153, 0, 22, 25, 7]
abbrev dktJ8_putVal_4 : List UInt8 := dkwJ8_putVal_4 ++ dktJ8_putVal_5
def dkwJ8_putVal_3 : List UInt8 := [160, 0, 35, 25, 7, 180, 0, 170, 89, 58, 11, 44, 165, 0, 16, 44, 198, 0, 19, 44, 25, 11]
abbrev dktJ8_putVal_3 : List UInt8 := dkwJ8_putVal_3 ++ dktJ8_putVal_4
def dkwJ8_putVal_2 : List UInt8 := [25, 6, 21, 9, 42, 27, 44, 45, 1, 182, 0, 186, 83, 167, 0, 199, 25, 7, 180, 0, 168, 27]
abbrev dktJ8_putVal_2 : List UInt8 := dkwJ8_putVal_2 ++ dktJ8_putVal_3
def dkwJ8_putVal_1 : List UInt8 := [58, 6, 190, 54, 8, 25, 6, 21, 8, 4, 100, 27, 126, 89, 54, 9, 50, 89, 58, 7, 199, 0, 19]
abbrev dktJ8_putVal_1 : List UInt8 := dkwJ8_putVal_1 ++ dktJ8_putVal_2
def dkwJ8_putVal_0 : List UInt8 := [42, 180, 0, 105, 89, 58, 6, 198, 0, 12, 25, 6, 190, 89, 54, 8, 154, 0, 13, 42, 182, 0, 117, 89]
abbrev dktJ8_putVal_0 : List UInt8 := dkwJ8_putVal_0 ++ dktJ8_putVal_1
theorem dksJ8_putVal_0 : cJ8_putVal.data.toList.drop 0 = dktJ8_putVal_0 := by decide +kernel
theorem dksJ8_putVal_1 : cJ8_putVal.data.toList.drop 24 = dktJ8_putVal_1 := dk_seg dksJ8_putVal_0 24 rfl rfl
theorem dksJ8_putVal_2 : cJ8_putVal.data.toList.drop 47 = dktJ8_putVal_2 := dk_seg dksJ8_putVal_1 23 rfl rfl
theorem dksJ8_putVal_3 : cJ8_putVal.data.toList.drop 69 = dktJ8_putVal_3 := dk_seg dksJ8_putVal_2 22 rfl rfl
theorem dksJ8_putVal_4 : cJ8_putVal.data.toList.drop 91 = dktJ8_putVal_4 := dk_seg dksJ8_putVal_3 22 rfl rfl
theorem dksJ8_putVal_5 : cJ8_putVal.data.toList.drop 114 = dktJ8_putVal_5 := dk_seg dksJ8_putVal_4 23 rfl rfl
theorem dksJ8_putVal_6 : cJ8_putVal.data.toList.drop 136 = dktJ8_putVal_6 := dk_seg dksJ8_putVal_5 22 rfl rfl
theorem dksJ8_putVal_7 : cJ8_putVal.data.toList.drop 160 = dktJ8_putVal_7 := dk_seg dksJ8_putVal_6 24 rfl rfl
theorem dksJ8_putVal_8 : cJ8_putVal.data.toList.drop 184 = dktJ8_putVal_8 := dk_seg dksJ8_putVal_7 24 rfl rfl
theorem dksJ8_putVal_9 : cJ8_putVal.data.toList.drop 206 = dktJ8_putVal_9 := dk_seg dksJ8_putVal_8 22 rfl rfl
theorem dksJ8_putVal_10 : cJ8_putVal.data.toList.drop 229 = dktJ8_putVal_10 := dk_seg dksJ8_putVal_9 23 rfl rfl
theorem dksJ8_putVal_11 : cJ8_putVal.data.toList.drop 253 = dktJ8_putVal_11 := dk_seg dksJ8_putVal_10 24 rfl rfl
theorem dksJ8_putVal_12 : cJ8_putVal.data.toList.drop 277 = dktJ8_putVal_12 := dk_seg dksJ8_putVal_11 24 rfl rfl
theorem dJ8_putVal_0 : decode cJ8_putVal 0 = .ok (.aload_n 0, 1) := dk_42 (dk_at dksJ8_putVal_0 0 rfl rfl)
theorem dJ8_putVal_1 : decode cJ8_putVal 1 = .ok (.getfield 105, 3) := dk_180 0 105 (dk_at dksJ8_putVal_0 1 rfl rfl)
theorem dJ8_putVal_4 : decode cJ8_putVal 4 = .ok (.dup, 1) := dk_89 (dk_at dksJ8_putVal_0 4 rfl rfl)
theorem dJ8_putVal_5 : decode cJ8_putVal 5 = .ok (.astore 6, 2) := dk_58 6 (dk_at dksJ8_putVal_0 5 rfl rfl)
theorem dJ8_putVal_7 : decode cJ8_putVal 7 = .ok (.ifnull 12, 3) := dk_198 0 12 (dk_at dksJ8_putVal_0 7 rfl rfl)
theorem dJ8_putVal_10 : decode cJ8_putVal 10 = .ok (.aload 6, 2) := dk_25 6 (dk_at dksJ8_putVal_0 10 rfl rfl)
theorem dJ8_putVal_12 : decode cJ8_putVal 12 = .ok (.arraylength, 1) := dk_190 (dk_at dksJ8_putVal_0 12 rfl rfl)
theorem dJ8_putVal_13 : decode cJ8_putVal 13 = .ok (.dup, 1) := dk_89 (dk_at dksJ8_putVal_0 13 rfl rfl)
theorem dJ8_putVal_14 : decode cJ8_putVal 14 = .ok (.istore 8, 2) := dk_54 8 (dk_at dksJ8_putVal_0 14 rfl rfl)
theorem dJ8_putVal_16 : decode cJ8_putVal 16 = .ok (.ifCond .ne 13, 3) := dk_154 0 13 (dk_at dksJ8_putVal_0 16 rfl rfl)
theorem dJ8_putVal_19 : decode cJ8_putVal 19 = .ok (.aload_n 0, 1) := dk_42 (dk_at dksJ8_putVal_0 19 rfl rfl)
theorem dJ8_putVal_20 : decode cJ8_putVal 20 = .ok (.invokevirtual 117, 3) := dk_182 0 117 (dk_at dksJ8_putVal_0 20 rfl rfl)
theorem dJ8_putVal_23 : decode cJ8_putVal 23 = .ok (.dup, 1) := dk_89 (dk_at dksJ8_putVal_0 23 rfl rfl)
theorem dJ8_putVal_24 : decode cJ8_putVal 24 = .ok (.astore 6, 2) := dk_58 6 (dk_at dksJ8_putVal_1 0 rfl rfl)
theorem dJ8_putVal_26 : decode cJ8_putVal 26 = .ok (.arraylength, 1) := dk_190 (dk_at dksJ8_putVal_1 2 rfl rfl)
theorem dJ8_putVal_27 : decode cJ8_putVal 27 = .ok (.istore 8, 2) := dk_54 8 (dk_at dksJ8_putVal_1 3 rfl rfl)
theorem dJ8_putVal_29 : decode cJ8_putVal 29 = .ok (.aload 6, 2) := dk_25 6 (dk_at dksJ8_putVal_1 5 rfl rfl)
theorem dJ8_putVal_31 : decode cJ8_putVal 31 = .ok (.iload 8, 2) := dk_21 8 (dk_at dksJ8_putVal_1 7 rfl rfl)
theorem dJ8_putVal_33 : decode cJ8_putVal 33 = .ok (.iconst 1, 1) := dk_4 (dk_at dksJ8_putVal_1 9 rfl rfl)
theorem dJ8_putVal_34 : decode cJ8_putVal 34 = .ok (.isub, 1) := dk_100 (dk_at dksJ8_putVal_1 10 rfl rfl)
theorem dJ8_putVal_35 : decode cJ8_putVal 35 = .ok (.iload_n 1, 1) := dk_27 (dk_at dksJ8_putVal_1 11 rfl rfl)
theorem dJ8_putVal_36 : decode cJ8_putVal 36 = .ok (.iand, 1) := dk_126 (dk_at dksJ8_putVal_1 12 rfl rfl)
theorem dJ8_putVal_37 : decode cJ8_putVal 37 = .ok (.dup, 1) := dk_89 (dk_at dksJ8_putVal_1 13 rfl rfl)
theorem dJ8_putVal_38 : decode cJ8_putVal 38 = .ok (.istore 9, 2) := dk_54 9 (dk_at dksJ8_putVal_1 14 rfl rfl)
theorem dJ8_putVal_40 : decode cJ8_putVal 40 = .ok (.aaload, 1) := dk_50 (dk_at dksJ8_putVal_1 16 rfl rfl)
theorem dJ8_putVal_41 : decode cJ8_putVal 41 = .ok (.dup, 1) := dk_89 (dk_at dksJ8_putVal_1 17 rfl rfl)
theorem dJ8_putVal_42 : decode cJ8_putVal 42 = .ok (.astore 7, 2) := dk_58 7 (dk_at dksJ8_putVal_1 18 rfl rfl)
theorem dJ8_putVal_44 : decode cJ8_putVal 44 = .ok (.ifnonnull 19, 3) := dk_199 0 19 (dk_at dksJ8_putVal_1 20 rfl rfl)
theorem dJ8_putVal_47 : decode cJ8_putVal 47 = .ok (.aload 6, 2) := dk_25 6 (dk_at dksJ8_putVal_2 0 rfl rfl)
theorem dJ8_putVal_49 : decode cJ8_putVal 49 = .ok (.iload 9, 2) := dk_21 9 (dk_at dksJ8_putVal_2 2 rfl rfl)
theorem dJ8_putVal_51 : decode cJ8_putVal 51 = .ok (.aload_n 0, 1) := dk_42 (dk_at dksJ8_putVal_2 4 rfl rfl)
theorem dJ8_putVal_52 : decode cJ8_putVal 52 = .ok (.iload_n 1, 1) := dk_27 (dk_at dksJ8_putVal_2 5 rfl rfl)
theorem dJ8_putVal_53 : decode cJ8_putVal 53 = .ok (.aload_n 2, 1) := dk_44 (dk_at dksJ8_putVal_2 6 rfl rfl)
theorem dJ8_putVal_54 : decode cJ8_putVal 54 = .ok (.aload_n 3, 1) := dk_45 (dk_at dksJ8_putVal_2 7 rfl rfl)
theorem dJ8_putVal_55 : decode cJ8_putVal 55 = .ok (.aconst_null, 1) := dk_1 (dk_at dksJ8_putVal_2 8 rfl rfl)
theorem dJ8_putVal_56 : decode cJ8_putVal 56 = .ok (.invokevirtual 186, 3) := dk_182 0 186 (dk_at dksJ8_putVal_2 9 rfl rfl)
theorem dJ8_putVal_59 : decode cJ8_putVal 59 = .ok (.aastore, 1) := dk_83 (dk_at dksJ8_putVal_2 12 rfl rfl)
theorem dJ8_putVal_60 : decode cJ8_putVal 60 = .ok (.goto 199, 3) := dk_167 0 199 (dk_at dksJ8_putVal_2 13 rfl rfl)
theorem dJ8_putVal_63 : decode cJ8_putVal 63 = .ok (.aload 7, 2) := dk_25 7 (dk_at dksJ8_putVal_2 16 rfl rfl)
theorem dJ8_putVal_65 : decode cJ8_putVal 65 = .ok (.getfield 168, 3) := dk_180 0 168 (dk_at dksJ8_putVal_2 18 rfl rfl)
theorem dJ8_putVal_68 : decode cJ8_putVal 68 = .ok (.iload_n 1, 1) := dk_27 (dk_at dksJ8_putVal_2 21 rfl rfl)
theorem dJ8_putVal_69 : decode cJ8_putVal 69 = .ok (.if_icmp .ne 35, 3) := dk_160 0 35 (dk_at dksJ8_putVal_3 0 rfl rfl)
theorem dJ8_putVal_72 : decode cJ8_putVal 72 = .ok (.aload 7, 2) := dk_25 7 (dk_at dksJ8_putVal_3 3 rfl rfl)
theorem dJ8_putVal_74 : decode cJ8_putVal 74 = .ok (.getfield 170, 3) := dk_180 0 170 (dk_at dksJ8_putVal_3 5 rfl rfl)
theorem dJ8_putVal_77 : decode cJ8_putVal 77 = .ok (.dup, 1) := dk_89 (dk_at dksJ8_putVal_3 8 rfl rfl)
theorem dJ8_putVal_78 : decode cJ8_putVal 78 = .ok (.astore 11, 2) := dk_58 11 (dk_at dksJ8_putVal_3 9 rfl rfl)
theorem dJ8_putVal_80 : decode cJ8_putVal 80 = .ok (.aload_n 2, 1) := dk_44 (dk_at dksJ8_putVal_3 11 rfl rfl)
theorem dJ8_putVal_81 : decode cJ8_putVal 81 = .ok (.if_acmp .eq 16, 3) := dk_165 0 16 (dk_at dksJ8_putVal_3 12 rfl rfl)
theorem dJ8_putVal_84 : decode cJ8_putVal 84 = .ok (.aload_n 2, 1) := dk_44 (dk_at dksJ8_putVal_3 15 rfl rfl)
theorem dJ8_putVal_85 : decode cJ8_putVal 85 = .ok (.ifnull 19, 3) := dk_198 0 19 (dk_at dksJ8_putVal_3 16 rfl rfl)
theorem dJ8_putVal_88 : decode cJ8_putVal 88 = .ok (.aload_n 2, 1) := dk_44 (dk_at dksJ8_putVal_3 19 rfl rfl)
theorem dJ8_putVal_89 : decode cJ8_putVal 89 = .ok (.aload 11, 2) := dk_25 11 (dk_at dksJ8_putVal_3 20 rfl rfl)
theorem dJ8_putVal_91 : decode cJ8_putVal 91 = .ok (.invokevirtual 173, 3) := dk_182 0 173 (dk_at dksJ8_putVal_4 0 rfl rfl)
theorem dJ8_putVal_94 : decode cJ8_putVal 94 = .ok (.ifCond .eq 10, 3) := dk_153 0 10 (dk_at dksJ8_putVal_4 3 rfl rfl)
theorem dJ8_putVal_97 : decode cJ8_putVal 97 = .ok (.aload 7, 2) := dk_25 7 (dk_at dksJ8_putVal_4 6 rfl rfl)
theorem dJ8_putVal_99 : decode cJ8_putVal 99 = .ok (.astore 10, 2) := dk_58 10 (dk_at dksJ8_putVal_4 8 rfl rfl)
theorem dJ8_putVal_101 : decode cJ8_putVal 101 = .ok (.goto 121, 3) := dk_167 0 121 (dk_at dksJ8_putVal_4 10 rfl rfl)
theorem dJ8_putVal_104 : decode cJ8_putVal 104 = .ok (.aload 7, 2) := dk_25 7 (dk_at dksJ8_putVal_4 13 rfl rfl)
theorem dJ8_putVal_106 : decode cJ8_putVal 106 = .ok (.instanceof 180, 3) := dk_193 0 180 (dk_at dksJ8_putVal_4 15 rfl rfl)
theorem dJ8_putVal_109 : decode cJ8_putVal 109 = .ok (.ifCond .eq 22, 3) := dk_153 0 22 (dk_at dksJ8_putVal_4 18 rfl rfl)
theorem dJ8_putVal_112 : decode cJ8_putVal 112 = .ok (.aload 7, 2) := dk_25 7 (dk_at dksJ8_putVal_4 21 rfl rfl)
theorem dJ8_putVal_114 : decode cJ8_putVal 114 = .ok (.checkcast 180, 3) := dk_192 0 180 (dk_at dksJ8_putVal_5 0 rfl rfl)
theorem dJ8_putVal_117 : decode cJ8_putVal 117 = .ok (.aload_n 0, 1) := dk_42 (dk_at dksJ8_putVal_5 3 rfl rfl)
theorem dJ8_putVal_118 : decode cJ8_putVal 118 = .ok (.aload 6, 2) := dk_25 6 (dk_at dksJ8_putVal_5 4 rfl rfl)
theorem dJ8_putVal_120 : decode cJ8_putVal 120 = .ok (.iload_n 1, 1) := dk_27 (dk_at dksJ8_putVal_5 6 rfl rfl)
theorem dJ8_putVal_121 : decode cJ8_putVal 121 = .ok (.aload_n 2, 1) := dk_44 (dk_at dksJ8_putVal_5 7 rfl rfl)
theorem dJ8_putVal_122 : decode cJ8_putVal 122 = .ok (.aload_n 3, 1) := dk_45 (dk_at dksJ8_putVal_5 8 rfl rfl)
theorem dJ8_putVal_123 : decode cJ8_putVal 123 = .ok (.invokevirtual 190, 3) := dk_182 0 190 (dk_at dksJ8_putVal_5 9 rfl rfl)
theorem dJ8_putVal_126 : decode cJ8_putVal 126 = .ok (.astore 10, 2) := dk_58 10 (dk_at dksJ8_putVal_5 12 rfl rfl)
theorem dJ8_putVal_128 : decode cJ8_putVal 128 = .ok (.goto 94, 3) := dk_167 0 94 (dk_at dksJ8_putVal_5 14 rfl rfl)
theorem dJ8_putVal_131 : decode cJ8_putVal 131 = .ok (.iconst 0, 1) := dk_3 (dk_at dksJ8_putVal_5 17 rfl rfl)
theorem dJ8_putVal_132 : decode cJ8_putVal 132 = .ok (.istore 12, 2) := dk_54 12 (dk_at dksJ8_putVal_5 18 rfl rfl)
theorem dJ8_putVal_134 : decode cJ8_putVal 134 = .ok (.aload 7, 2) := dk_25 7 (dk_at dksJ8_putVal_5 20 rfl rfl)
theorem dJ8_putVal_136 : decode cJ8_putVal 136 = .ok (.getfield 177, 3) := dk_180 0 177 (dk_at dksJ8_putVal_6 0 rfl rfl)
theorem dJ8_putVal_139 : decode cJ8_putVal 139 = .ok (.dup, 1) := dk_89 (dk_at dksJ8_putVal_6 3 rfl rfl)
theorem dJ8_putVal_140 : decode cJ8_putVal 140 = .ok (.astore 10, 2) := dk_58 10 (dk_at dksJ8_putVal_6 4 rfl rfl)
theorem dJ8_putVal_142 : decode cJ8_putVal 142 = .ok (.ifnonnull 33, 3) := dk_199 0 33 (dk_at dksJ8_putVal_6 6 rfl rfl)
theorem dJ8_putVal_145 : decode cJ8_putVal 145 = .ok (.aload 7, 2) := dk_25 7 (dk_at dksJ8_putVal_6 9 rfl rfl)
theorem dJ8_putVal_147 : decode cJ8_putVal 147 = .ok (.aload_n 0, 1) := dk_42 (dk_at dksJ8_putVal_6 11 rfl rfl)
theorem dJ8_putVal_148 : decode cJ8_putVal 148 = .ok (.iload_n 1, 1) := dk_27 (dk_at dksJ8_putVal_6 12 rfl rfl)
theorem dJ8_putVal_149 : decode cJ8_putVal 149 = .ok (.aload_n 2, 1) := dk_44 (dk_at dksJ8_putVal_6 13 rfl rfl)
theorem dJ8_putVal_150 : decode cJ8_putVal 150 = .ok (.aload_n 3, 1) := dk_45 (dk_at dksJ8_putVal_6 14 rfl rfl)
theorem dJ8_putVal_151 : decode cJ8_putVal 151 = .ok (.aconst_null, 1) := dk_1 (dk_at dksJ8_putVal_6 15 rfl rfl)
theorem dJ8_putVal_152 : decode cJ8_putVal 152 = .ok (.invokevirtual 186, 3) := dk_182 0 186 (dk_at dksJ8_putVal_6 16 rfl rfl)
theorem dJ8_putVal_155 : decode cJ8_putVal 155 = .ok (.putfield 177, 3) := dk_181 0 177 (dk_at dksJ8_putVal_6 19 rfl rfl)
theorem dJ8_putVal_158 : decode cJ8_putVal 158 = .ok (.iload 12, 2) := dk_21 12 (dk_at dksJ8_putVal_6 22 rfl rfl)
theorem dJ8_putVal_160 : decode cJ8_putVal 160 = .ok (.bipush 7, 2) := dk_16 7 (dk_at dksJ8_putVal_7 0 rfl rfl)
theorem dJ8_putVal_162 : decode cJ8_putVal 162 = .ok (.if_icmp .lt 60, 3) := dk_161 0 60 (dk_at dksJ8_putVal_7 2 rfl rfl)
theorem dJ8_putVal_165 : decode cJ8_putVal 165 = .ok (.aload_n 0, 1) := dk_42 (dk_at dksJ8_putVal_7 5 rfl rfl)
theorem dJ8_putVal_166 : decode cJ8_putVal 166 = .ok (.aload 6, 2) := dk_25 6 (dk_at dksJ8_putVal_7 6 rfl rfl)
theorem dJ8_putVal_168 : decode cJ8_putVal 168 = .ok (.iload_n 1, 1) := dk_27 (dk_at dksJ8_putVal_7 8 rfl rfl)
theorem dJ8_putVal_169 : decode cJ8_putVal 169 = .ok (.invokevirtual 194, 3) := dk_182 0 194 (dk_at dksJ8_putVal_7 9 rfl rfl)
theorem dJ8_putVal_172 : decode cJ8_putVal 172 = .ok (.goto 50, 3) := dk_167 0 50 (dk_at dksJ8_putVal_7 12 rfl rfl)
theorem dJ8_putVal_175 : decode cJ8_putVal 175 = .ok (.aload 10, 2) := dk_25 10 (dk_at dksJ8_putVal_7 15 rfl rfl)
theorem dJ8_putVal_177 : decode cJ8_putVal 177 = .ok (.getfield 168, 3) := dk_180 0 168 (dk_at dksJ8_putVal_7 17 rfl rfl)
theorem dJ8_putVal_180 : decode cJ8_putVal 180 = .ok (.iload_n 1, 1) := dk_27 (dk_at dksJ8_putVal_7 20 rfl rfl)
theorem dJ8_putVal_181 : decode cJ8_putVal 181 = .ok (.if_icmp .ne 31, 3) := dk_160 0 31 (dk_at dksJ8_putVal_7 21 rfl rfl)
theorem dJ8_putVal_184 : decode cJ8_putVal 184 = .ok (.aload 10, 2) := dk_25 10 (dk_at dksJ8_putVal_8 0 rfl rfl)
theorem dJ8_putVal_186 : decode cJ8_putVal 186 = .ok (.getfield 170, 3) := dk_180 0 170 (dk_at dksJ8_putVal_8 2 rfl rfl)
theorem dJ8_putVal_189 : decode cJ8_putVal 189 = .ok (.dup, 1) := dk_89 (dk_at dksJ8_putVal_8 5 rfl rfl)
theorem dJ8_putVal_190 : decode cJ8_putVal 190 = .ok (.astore 11, 2) := dk_58 11 (dk_at dksJ8_putVal_8 6 rfl rfl)
theorem dJ8_putVal_192 : decode cJ8_putVal 192 = .ok (.aload_n 2, 1) := dk_44 (dk_at dksJ8_putVal_8 8 rfl rfl)
theorem dJ8_putVal_193 : decode cJ8_putVal 193 = .ok (.if_acmp .eq 29, 3) := dk_165 0 29 (dk_at dksJ8_putVal_8 9 rfl rfl)
theorem dJ8_putVal_196 : decode cJ8_putVal 196 = .ok (.aload_n 2, 1) := dk_44 (dk_at dksJ8_putVal_8 12 rfl rfl)
theorem dJ8_putVal_197 : decode cJ8_putVal 197 = .ok (.ifnull 15, 3) := dk_198 0 15 (dk_at dksJ8_putVal_8 13 rfl rfl)
theorem dJ8_putVal_200 : decode cJ8_putVal 200 = .ok (.aload_n 2, 1) := dk_44 (dk_at dksJ8_putVal_8 16 rfl rfl)
theorem dJ8_putVal_201 : decode cJ8_putVal 201 = .ok (.aload 11, 2) := dk_25 11 (dk_at dksJ8_putVal_8 17 rfl rfl)
theorem dJ8_putVal_203 : decode cJ8_putVal 203 = .ok (.invokevirtual 173, 3) := dk_182 0 173 (dk_at dksJ8_putVal_8 19 rfl rfl)
theorem dJ8_putVal_206 : decode cJ8_putVal 206 = .ok (.ifCond .eq 6, 3) := dk_153 0 6 (dk_at dksJ8_putVal_9 0 rfl rfl)
theorem dJ8_putVal_209 : decode cJ8_putVal 209 = .ok (.goto 13, 3) := dk_167 0 13 (dk_at dksJ8_putVal_9 3 rfl rfl)
theorem dJ8_putVal_212 : decode cJ8_putVal 212 = .ok (.aload 10, 2) := dk_25 10 (dk_at dksJ8_putVal_9 6 rfl rfl)
theorem dJ8_putVal_214 : decode cJ8_putVal 214 = .ok (.astore 7, 2) := dk_58 7 (dk_at dksJ8_putVal_9 8 rfl rfl)
theorem dJ8_putVal_216 : decode cJ8_putVal 216 = .ok (.iinc 12 1, 3) := dk_132 12 1 (dk_at dksJ8_putVal_9 10 rfl rfl)
theorem dJ8_putVal_219 : decode cJ8_putVal 219 = .ok (.goto (-85), 3) := dk_167 255 171 (dk_at dksJ8_putVal_9 13 rfl rfl)
theorem dJ8_putVal_222 : decode cJ8_putVal 222 = .ok (.aload 10, 2) := dk_25 10 (dk_at dksJ8_putVal_9 16 rfl rfl)
theorem dJ8_putVal_224 : decode cJ8_putVal 224 = .ok (.ifnull 35, 3) := dk_198 0 35 (dk_at dksJ8_putVal_9 18 rfl rfl)
theorem dJ8_putVal_227 : decode cJ8_putVal 227 = .ok (.aload 10, 2) := dk_25 10 (dk_at dksJ8_putVal_9 21 rfl rfl)
theorem dJ8_putVal_229 : decode cJ8_putVal 229 = .ok (.getfield 162, 3) := dk_180 0 162 (dk_at dksJ8_putVal_10 0 rfl rfl)
theorem dJ8_putVal_232 : decode cJ8_putVal 232 = .ok (.astore 12, 2) := dk_58 12 (dk_at dksJ8_putVal_10 3 rfl rfl)
theorem dJ8_putVal_234 : decode cJ8_putVal 234 = .ok (.iload 4, 2) := dk_21 4 (dk_at dksJ8_putVal_10 5 rfl rfl)
theorem dJ8_putVal_236 : decode cJ8_putVal 236 = .ok (.ifCond .eq 8, 3) := dk_153 0 8 (dk_at dksJ8_putVal_10 7 rfl rfl)
theorem dJ8_putVal_239 : decode cJ8_putVal 239 = .ok (.aload 12, 2) := dk_25 12 (dk_at dksJ8_putVal_10 10 rfl rfl)
theorem dJ8_putVal_241 : decode cJ8_putVal 241 = .ok (.ifnonnull 9, 3) := dk_199 0 9 (dk_at dksJ8_putVal_10 12 rfl rfl)
theorem dJ8_putVal_244 : decode cJ8_putVal 244 = .ok (.aload 10, 2) := dk_25 10 (dk_at dksJ8_putVal_10 15 rfl rfl)
theorem dJ8_putVal_246 : decode cJ8_putVal 246 = .ok (.aload_n 3, 1) := dk_45 (dk_at dksJ8_putVal_10 17 rfl rfl)
theorem dJ8_putVal_247 : decode cJ8_putVal 247 = .ok (.putfield 162, 3) := dk_181 0 162 (dk_at dksJ8_putVal_10 18 rfl rfl)
theorem dJ8_putVal_250 : decode cJ8_putVal 250 = .ok (.aload_n 0, 1) := dk_42 (dk_at dksJ8_putVal_10 21 rfl rfl)
theorem dJ8_putVal_251 : decode cJ8_putVal 251 = .ok (.aload 10, 2) := dk_25 10 (dk_at dksJ8_putVal_10 22 rfl rfl)
theorem dJ8_putVal_253 : decode cJ8_putVal 253 = .ok (.invokevirtual 198, 3) := dk_182 0 198 (dk_at dksJ8_putVal_11 0 rfl rfl)
theorem dJ8_putVal_256 : decode cJ8_putVal 256 = .ok (.aload 12, 2) := dk_25 12 (dk_at dksJ8_putVal_11 3 rfl rfl)
theorem dJ8_putVal_258 : decode cJ8_putVal 258 = .ok (.areturn, 1) := dk_176 (dk_at dksJ8_putVal_11 5 rfl rfl)
theorem dJ8_putVal_259 : decode cJ8_putVal 259 = .ok (.aload_n 0, 1) := dk_42 (dk_at dksJ8_putVal_11 6 rfl rfl)
theorem dJ8_putVal_260 : decode cJ8_putVal 260 = .ok (.dup, 1) := dk_89 (dk_at dksJ8_putVal_11 7 rfl rfl)
theorem dJ8_putVal_261 : decode cJ8_putVal 261 = .ok (.getfield 202, 3) := dk_180 0 202 (dk_at dksJ8_putVal_11 8 rfl rfl)
theorem dJ8_putVal_264 : decode cJ8_putVal 264 = .ok (.iconst 1, 1) := dk_4 (dk_at dksJ8_putVal_11 11 rfl rfl)
theorem dJ8_putVal_265 : decode cJ8_putVal 265 = .ok (.iadd, 1) := dk_96 (dk_at dksJ8_putVal_11 12 rfl rfl)
theorem dJ8_putVal_266 : decode cJ8_putVal 266 = .ok (.putfield 202, 3) := dk_181 0 202 (dk_at dksJ8_putVal_11 13 rfl rfl)
theorem dJ8_putVal_269 : decode cJ8_putVal 269 = .ok (.aload_n 0, 1) := dk_42 (dk_at dksJ8_putVal_11 16 rfl rfl)
theorem dJ8_putVal_270 : decode cJ8_putVal 270 = .ok (.dup, 1) := dk_89 (dk_at dksJ8_putVal_11 17 rfl rfl)
theorem dJ8_putVal_271 : decode cJ8_putVal 271 = .ok (.getfield 156, 3) := dk_180 0 156 (dk_at dksJ8_putVal_11 18 rfl rfl)
theorem dJ8_putVal_274 : decode cJ8_putVal 274 = .ok (.iconst 1, 1) := dk_4 (dk_at dksJ8_putVal_11 21 rfl rfl)
theorem dJ8_putVal_275 : decode cJ8_putVal 275 = .ok (.iadd, 1) := dk_96 (dk_at dksJ8_putVal_11 22 rfl rfl)
theorem dJ8_putVal_276 : decode cJ8_putVal 276 = .ok (.dup_x1, 1) := dk_90 (dk_at dksJ8_putVal_11 23 rfl rfl)
theorem dJ8_putVal_277 : decode cJ8_putVal 277 = .ok (.putfield 156, 3) := dk_181 0 156 (dk_at dksJ8_putVal_12 0 rfl rfl)
theorem dJ8_putVal_280 : decode cJ8_putVal 280 = .ok (.aload_n 0, 1) := dk_42 (dk_at dksJ8_putVal_12 3 rfl rfl)
theorem dJ8_putVal_281 : decode cJ8_putVal 281 = .ok (.getfield 88, 3) := dk_180 0 88 (dk_at dksJ8_putVal_12 4 rfl rfl)
theorem dJ8_putVal_284 : decode cJ8_putVal 284 = .ok (.if_icmp .le 8, 3) := dk_164 0 8 (dk_at dksJ8_putVal_12 7 rfl rfl)
theorem dJ8_putVal_287 : decode cJ8_putVal 287 = .ok (.aload_n 0, 1) := dk_42 (dk_at dksJ8_putVal_12 10 rfl rfl)
theorem dJ8_putVal_288 : decode cJ8_putVal 288 = .ok (.invokevirtual 117, 3) := dk_182 0 117 (dk_at dksJ8_putVal_12 11 rfl rfl)
theorem dJ8_putVal_291 : decode cJ8_putVal 291 = .ok (.pop, 1) := dk_87 (dk_at dksJ8_putVal_12 14 rfl rfl)
theorem dJ8_putVal_292 : decode cJ8_putVal 292 = .ok (.aload_n 0, 1) := dk_42 (dk_at dksJ8_putVal_12 15 rfl rfl)
theorem dJ8_putVal_293 : decode cJ8_putVal 293 = .ok (.iload 5, 2) := dk_21 5 (dk_at dksJ8_putVal_12 16 rfl rfl)
theorem dJ8_putVal_295 : decode cJ8_putVal 295 = .ok (.invokevirtual 205, 3) := dk_182 0 205 (dk_at dksJ8_putVal_12 18 rfl rfl)
theorem dJ8_putVal_298 : decode cJ8_putVal 298 = .ok (.aconst_null, 1) := dk_1 (dk_at dksJ8_putVal_12 21 rfl rfl)
theorem dJ8_putVal_299 : decode cJ8_putVal 299 = .ok (.areturn, 1) := dk_176 (dk_at dksJ8_putVal_12 22 rfl rfl)
abbrev cJ8_resize : ByteArray := prog_45_method_17_code
def yJ8_resize : MethodName := ⟨RJ8, "resize", "()[Ljava/util/HashMap$Node;"⟩
def dkwJ8_resize_15 : List UInt8 := [25, 6, 176]
abbrev dktJ8_resize_15 : List UInt8 := dkwJ8_resize_15 ++ []
def dkwJ8_resize_14 : List UInt8 := [198, 0, 18, 25, 12, 1, 181, 0, 177, 25, 6, 21, 7, 28, 96, 25, 11, 83, 132, 7, 1, 167, 255, 57]
abbrev dktJ8_resize_14 : List UInt8 := dkwJ8_resize_14 ++ dktJ8_resize_15
def dkwJ8_resize_13 : List UInt8 := [199, 255, 185, 25, 10, 198, 0, 16, 25, 10, 1, 181, 0, 177, 25, 6, 21, 7, 25, 9, 83, 25, 12]
abbrev dktJ8_resize_13 : List UInt8 := dkwJ8_resize_13 ++ dktJ8_resize_14
def dkwJ8_resize_12 : List UInt8 := [25, 8, 58, 11, 167, 0, 10, 25, 12, 25, 8, 181, 0, 177, 25, 8, 58, 12, 25, 13, 89, 58, 8]
abbrev dktJ8_resize_12 : List UInt8 := dkwJ8_resize_12 ++ dktJ8_resize_13
def dkwJ8_resize_11 : List UInt8 := [58, 9, 167, 0, 10, 25, 10, 25, 8, 181, 0, 177, 25, 8, 58, 10, 167, 0, 26, 25, 12, 199, 0, 10]
abbrev dktJ8_resize_11 : List UInt8 := dkwJ8_resize_11 ++ dktJ8_resize_12
def dkwJ8_resize_10 : List UInt8 := [25, 8, 180, 0, 177, 58, 13, 25, 8, 180, 0, 168, 28, 126, 154, 0, 29, 25, 10, 199, 0, 10, 25, 8]
abbrev dktJ8_resize_10 : List UInt8 := dkwJ8_resize_10 ++ dktJ8_resize_11
def dkwJ8_resize_9 : List UInt8 := [42, 25, 6, 21, 7, 28, 182, 0, 211, 167, 0, 127, 1, 58, 9, 1, 58, 10, 1, 58, 11, 1, 58, 12]
abbrev dktJ8_resize_9 : List UInt8 := dkwJ8_resize_9 ++ dktJ8_resize_10
def dkwJ8_resize_8 : List UInt8 := [21, 4, 4, 100, 126, 25, 8, 83, 167, 0, 152, 25, 8, 193, 0, 180, 153, 0, 20, 25, 8, 192, 0, 180]
abbrev dktJ8_resize_8 : List UInt8 := dkwJ8_resize_8 ++ dktJ8_resize_9
def dkwJ8_resize_7 : List UInt8 := [198, 0, 183, 43, 21, 7, 1, 83, 25, 8, 180, 0, 177, 199, 0, 21, 25, 6, 25, 8, 180, 0, 168]
abbrev dktJ8_resize_7 : List UInt8 := dkwJ8_resize_7 ++ dktJ8_resize_8
def dkwJ8_resize_6 : List UInt8 := [181, 0, 105, 43, 198, 0, 208, 3, 54, 7, 21, 7, 28, 162, 0, 199, 43, 21, 7, 50, 89, 58, 8]
abbrev dktJ8_resize_6 : List UInt8 := dkwJ8_resize_6 ++ dktJ8_resize_7
def dkwJ8_resize_5 : List UInt8 := [167, 0, 5, 18, 209, 54, 5, 42, 21, 5, 181, 0, 88, 21, 4, 189, 0, 163, 58, 6, 42, 25, 6]
abbrev dktJ8_resize_5 : List UInt8 := dkwJ8_resize_5 ++ dktJ8_resize_6
def dkwJ8_resize_4 : List UInt8 := [180, 0, 81, 106, 56, 6, 21, 4, 18, 42, 162, 0, 17, 23, 6, 18, 210, 150, 156, 0, 9, 23, 6, 139]
abbrev dktJ8_resize_4 : List UInt8 := dkwJ8_resize_4 ++ dktJ8_resize_5
def dkwJ8_resize_3 : List UInt8 := [54, 4, 167, 0, 11, 16, 16, 54, 4, 16, 12, 54, 5, 21, 5, 154, 0, 38, 21, 4, 134, 42]
abbrev dktJ8_resize_3 : List UInt8 := dkwJ8_resize_3 ++ dktJ8_resize_4
def dkwJ8_resize_2 : List UInt8 := [18, 42, 162, 0, 35, 28, 16, 16, 161, 0, 29, 29, 4, 120, 54, 5, 167, 0, 21, 29, 158, 0, 9, 29]
abbrev dktJ8_resize_2 : List UInt8 := dkwJ8_resize_2 ++ dktJ8_resize_3
def dkwJ8_resize_1 : List UInt8 := [28, 158, 0, 42, 28, 18, 42, 161, 0, 11, 42, 18, 209, 181, 0, 88, 43, 176, 28, 4, 120, 89, 54, 4]
abbrev dktJ8_resize_1 : List UInt8 := dkwJ8_resize_1 ++ dktJ8_resize_2
def dkwJ8_resize_0 : List UInt8 := [42, 180, 0, 105, 76, 43, 199, 0, 7, 3, 167, 0, 5, 43, 190, 61, 42, 180, 0, 88, 62, 3, 54, 5]
abbrev dktJ8_resize_0 : List UInt8 := dkwJ8_resize_0 ++ dktJ8_resize_1
theorem dksJ8_resize_0 : cJ8_resize.data.toList.drop 0 = dktJ8_resize_0 := by decide +kernel
theorem dksJ8_resize_1 : cJ8_resize.data.toList.drop 24 = dktJ8_resize_1 := dk_seg dksJ8_resize_0 24 rfl rfl
theorem dksJ8_resize_2 : cJ8_resize.data.toList.drop 48 = dktJ8_resize_2 := dk_seg dksJ8_resize_1 24 rfl rfl
theorem dksJ8_resize_3 : cJ8_resize.data.toList.drop 72 = dktJ8_resize_3 := dk_seg dksJ8_resize_2 24 rfl rfl
theorem dksJ8_resize_4 : cJ8_resize.data.toList.drop 94 = dktJ8_resize_4 := dk_seg dksJ8_resize_3 22 rfl rfl
theorem dksJ8_resize_5 : cJ8_resize.data.toList.drop 118 = dktJ8_resize_5 := dk_seg dksJ8_resize_4 24 rfl rfl
theorem dksJ8_resize_6 : cJ8_resize.data.toList.drop 141 = dktJ8_resize_6 := dk_seg dksJ8_resize_5 23 rfl rfl
theorem dksJ8_resize_7 : cJ8_resize.data.toList.drop 164 = dktJ8_resize_7 := dk_seg dksJ8_resize_6 23 rfl rfl
theorem dksJ8_resize_8 : cJ8_resize.data.toList.drop 187 = dktJ8_resize_8 := dk_seg dksJ8_resize_7 23 rfl rfl
theorem dksJ8_resize_9 : cJ8_resize.data.toList.drop 211 = dktJ8_resize_9 := dk_seg dksJ8_resize_8 24 rfl rfl
theorem dksJ8_resize_10 : cJ8_resize.data.toList.drop 235 = dktJ8_resize_10 := dk_seg dksJ8_resize_9 24 rfl rfl
theorem dksJ8_resize_11 : cJ8_resize.data.toList.drop 259 = dktJ8_resize_11 := dk_seg dksJ8_resize_10 24 rfl rfl
theorem dksJ8_resize_12 : cJ8_resize.data.toList.drop 283 = dktJ8_resize_12 := dk_seg dksJ8_resize_11 24 rfl rfl
theorem dksJ8_resize_13 : cJ8_resize.data.toList.drop 306 = dktJ8_resize_13 := dk_seg dksJ8_resize_12 23 rfl rfl
theorem dksJ8_resize_14 : cJ8_resize.data.toList.drop 329 = dktJ8_resize_14 := dk_seg dksJ8_resize_13 23 rfl rfl
theorem dksJ8_resize_15 : cJ8_resize.data.toList.drop 353 = dktJ8_resize_15 := dk_seg dksJ8_resize_14 24 rfl rfl
theorem dJ8_resize_0 : decode cJ8_resize 0 = .ok (.aload_n 0, 1) := dk_42 (dk_at dksJ8_resize_0 0 rfl rfl)
theorem dJ8_resize_1 : decode cJ8_resize 1 = .ok (.getfield 105, 3) := dk_180 0 105 (dk_at dksJ8_resize_0 1 rfl rfl)
theorem dJ8_resize_4 : decode cJ8_resize 4 = .ok (.astore_n 1, 1) := dk_76 (dk_at dksJ8_resize_0 4 rfl rfl)
theorem dJ8_resize_5 : decode cJ8_resize 5 = .ok (.aload_n 1, 1) := dk_43 (dk_at dksJ8_resize_0 5 rfl rfl)
theorem dJ8_resize_6 : decode cJ8_resize 6 = .ok (.ifnonnull 7, 3) := dk_199 0 7 (dk_at dksJ8_resize_0 6 rfl rfl)
theorem dJ8_resize_9 : decode cJ8_resize 9 = .ok (.iconst 0, 1) := dk_3 (dk_at dksJ8_resize_0 9 rfl rfl)
theorem dJ8_resize_10 : decode cJ8_resize 10 = .ok (.goto 5, 3) := dk_167 0 5 (dk_at dksJ8_resize_0 10 rfl rfl)
theorem dJ8_resize_13 : decode cJ8_resize 13 = .ok (.aload_n 1, 1) := dk_43 (dk_at dksJ8_resize_0 13 rfl rfl)
theorem dJ8_resize_14 : decode cJ8_resize 14 = .ok (.arraylength, 1) := dk_190 (dk_at dksJ8_resize_0 14 rfl rfl)
theorem dJ8_resize_15 : decode cJ8_resize 15 = .ok (.istore_n 2, 1) := dk_61 (dk_at dksJ8_resize_0 15 rfl rfl)
theorem dJ8_resize_16 : decode cJ8_resize 16 = .ok (.aload_n 0, 1) := dk_42 (dk_at dksJ8_resize_0 16 rfl rfl)
theorem dJ8_resize_17 : decode cJ8_resize 17 = .ok (.getfield 88, 3) := dk_180 0 88 (dk_at dksJ8_resize_0 17 rfl rfl)
theorem dJ8_resize_20 : decode cJ8_resize 20 = .ok (.istore_n 3, 1) := dk_62 (dk_at dksJ8_resize_0 20 rfl rfl)
theorem dJ8_resize_21 : decode cJ8_resize 21 = .ok (.iconst 0, 1) := dk_3 (dk_at dksJ8_resize_0 21 rfl rfl)
theorem dJ8_resize_22 : decode cJ8_resize 22 = .ok (.istore 5, 2) := dk_54 5 (dk_at dksJ8_resize_0 22 rfl rfl)
theorem dJ8_resize_24 : decode cJ8_resize 24 = .ok (.iload_n 2, 1) := dk_28 (dk_at dksJ8_resize_1 0 rfl rfl)
theorem dJ8_resize_25 : decode cJ8_resize 25 = .ok (.ifCond .le 42, 3) := dk_158 0 42 (dk_at dksJ8_resize_1 1 rfl rfl)
theorem dJ8_resize_28 : decode cJ8_resize 28 = .ok (.iload_n 2, 1) := dk_28 (dk_at dksJ8_resize_1 4 rfl rfl)
theorem dJ8_resize_29 : decode cJ8_resize 29 = .ok (.ldc 42, 2) := dk_18 42 (dk_at dksJ8_resize_1 5 rfl rfl)
theorem dJ8_resize_31 : decode cJ8_resize 31 = .ok (.if_icmp .lt 11, 3) := dk_161 0 11 (dk_at dksJ8_resize_1 7 rfl rfl)
theorem dJ8_resize_34 : decode cJ8_resize 34 = .ok (.aload_n 0, 1) := dk_42 (dk_at dksJ8_resize_1 10 rfl rfl)
theorem dJ8_resize_35 : decode cJ8_resize 35 = .ok (.ldc 209, 2) := dk_18 209 (dk_at dksJ8_resize_1 11 rfl rfl)
theorem dJ8_resize_37 : decode cJ8_resize 37 = .ok (.putfield 88, 3) := dk_181 0 88 (dk_at dksJ8_resize_1 13 rfl rfl)
theorem dJ8_resize_40 : decode cJ8_resize 40 = .ok (.aload_n 1, 1) := dk_43 (dk_at dksJ8_resize_1 16 rfl rfl)
theorem dJ8_resize_41 : decode cJ8_resize 41 = .ok (.areturn, 1) := dk_176 (dk_at dksJ8_resize_1 17 rfl rfl)
theorem dJ8_resize_42 : decode cJ8_resize 42 = .ok (.iload_n 2, 1) := dk_28 (dk_at dksJ8_resize_1 18 rfl rfl)
theorem dJ8_resize_43 : decode cJ8_resize 43 = .ok (.iconst 1, 1) := dk_4 (dk_at dksJ8_resize_1 19 rfl rfl)
theorem dJ8_resize_44 : decode cJ8_resize 44 = .ok (.ishl, 1) := dk_120 (dk_at dksJ8_resize_1 20 rfl rfl)
theorem dJ8_resize_45 : decode cJ8_resize 45 = .ok (.dup, 1) := dk_89 (dk_at dksJ8_resize_1 21 rfl rfl)
theorem dJ8_resize_46 : decode cJ8_resize 46 = .ok (.istore 4, 2) := dk_54 4 (dk_at dksJ8_resize_1 22 rfl rfl)
theorem dJ8_resize_48 : decode cJ8_resize 48 = .ok (.ldc 42, 2) := dk_18 42 (dk_at dksJ8_resize_2 0 rfl rfl)
theorem dJ8_resize_50 : decode cJ8_resize 50 = .ok (.if_icmp .ge 35, 3) := dk_162 0 35 (dk_at dksJ8_resize_2 2 rfl rfl)
theorem dJ8_resize_53 : decode cJ8_resize 53 = .ok (.iload_n 2, 1) := dk_28 (dk_at dksJ8_resize_2 5 rfl rfl)
theorem dJ8_resize_54 : decode cJ8_resize 54 = .ok (.bipush 16, 2) := dk_16 16 (dk_at dksJ8_resize_2 6 rfl rfl)
theorem dJ8_resize_56 : decode cJ8_resize 56 = .ok (.if_icmp .lt 29, 3) := dk_161 0 29 (dk_at dksJ8_resize_2 8 rfl rfl)
theorem dJ8_resize_59 : decode cJ8_resize 59 = .ok (.iload_n 3, 1) := dk_29 (dk_at dksJ8_resize_2 11 rfl rfl)
theorem dJ8_resize_60 : decode cJ8_resize 60 = .ok (.iconst 1, 1) := dk_4 (dk_at dksJ8_resize_2 12 rfl rfl)
theorem dJ8_resize_61 : decode cJ8_resize 61 = .ok (.ishl, 1) := dk_120 (dk_at dksJ8_resize_2 13 rfl rfl)
theorem dJ8_resize_62 : decode cJ8_resize 62 = .ok (.istore 5, 2) := dk_54 5 (dk_at dksJ8_resize_2 14 rfl rfl)
theorem dJ8_resize_64 : decode cJ8_resize 64 = .ok (.goto 21, 3) := dk_167 0 21 (dk_at dksJ8_resize_2 16 rfl rfl)
theorem dJ8_resize_67 : decode cJ8_resize 67 = .ok (.iload_n 3, 1) := dk_29 (dk_at dksJ8_resize_2 19 rfl rfl)
theorem dJ8_resize_68 : decode cJ8_resize 68 = .ok (.ifCond .le 9, 3) := dk_158 0 9 (dk_at dksJ8_resize_2 20 rfl rfl)
theorem dJ8_resize_71 : decode cJ8_resize 71 = .ok (.iload_n 3, 1) := dk_29 (dk_at dksJ8_resize_2 23 rfl rfl)
theorem dJ8_resize_72 : decode cJ8_resize 72 = .ok (.istore 4, 2) := dk_54 4 (dk_at dksJ8_resize_3 0 rfl rfl)
theorem dJ8_resize_74 : decode cJ8_resize 74 = .ok (.goto 11, 3) := dk_167 0 11 (dk_at dksJ8_resize_3 2 rfl rfl)
theorem dJ8_resize_77 : decode cJ8_resize 77 = .ok (.bipush 16, 2) := dk_16 16 (dk_at dksJ8_resize_3 5 rfl rfl)
theorem dJ8_resize_79 : decode cJ8_resize 79 = .ok (.istore 4, 2) := dk_54 4 (dk_at dksJ8_resize_3 7 rfl rfl)
theorem dJ8_resize_81 : decode cJ8_resize 81 = .ok (.bipush 12, 2) := dk_16 12 (dk_at dksJ8_resize_3 9 rfl rfl)
theorem dJ8_resize_83 : decode cJ8_resize 83 = .ok (.istore 5, 2) := dk_54 5 (dk_at dksJ8_resize_3 11 rfl rfl)
theorem dJ8_resize_85 : decode cJ8_resize 85 = .ok (.iload 5, 2) := dk_21 5 (dk_at dksJ8_resize_3 13 rfl rfl)
theorem dJ8_resize_87 : decode cJ8_resize 87 = .ok (.ifCond .ne 38, 3) := dk_154 0 38 (dk_at dksJ8_resize_3 15 rfl rfl)
theorem dJ8_resize_90 : decode cJ8_resize 90 = .ok (.iload 4, 2) := dk_21 4 (dk_at dksJ8_resize_3 18 rfl rfl)
theorem dJ8_resize_92 : decode cJ8_resize 92 = .ok (.i2f, 1) := dk_134 (dk_at dksJ8_resize_3 20 rfl rfl)
theorem dJ8_resize_93 : decode cJ8_resize 93 = .ok (.aload_n 0, 1) := dk_42 (dk_at dksJ8_resize_3 21 rfl rfl)
theorem dJ8_resize_94 : decode cJ8_resize 94 = .ok (.getfield 81, 3) := dk_180 0 81 (dk_at dksJ8_resize_4 0 rfl rfl)
theorem dJ8_resize_97 : decode cJ8_resize 97 = .ok (.fmul, 1) := dk_106 (dk_at dksJ8_resize_4 3 rfl rfl)
theorem dJ8_resize_98 : decode cJ8_resize 98 = .ok (.fstore 6, 2) := dk_56 6 (dk_at dksJ8_resize_4 4 rfl rfl)
theorem dJ8_resize_100 : decode cJ8_resize 100 = .ok (.iload 4, 2) := dk_21 4 (dk_at dksJ8_resize_4 6 rfl rfl)
theorem dJ8_resize_102 : decode cJ8_resize 102 = .ok (.ldc 42, 2) := dk_18 42 (dk_at dksJ8_resize_4 8 rfl rfl)
theorem dJ8_resize_104 : decode cJ8_resize 104 = .ok (.if_icmp .ge 17, 3) := dk_162 0 17 (dk_at dksJ8_resize_4 10 rfl rfl)
theorem dJ8_resize_107 : decode cJ8_resize 107 = .ok (.fload 6, 2) := dk_23 6 (dk_at dksJ8_resize_4 13 rfl rfl)
theorem dJ8_resize_109 : decode cJ8_resize 109 = .ok (.ldc 210, 2) := dk_18 210 (dk_at dksJ8_resize_4 15 rfl rfl)
theorem dJ8_resize_111 : decode cJ8_resize 111 = .ok (.fcmp .g, 1) := dk_150 (dk_at dksJ8_resize_4 17 rfl rfl)
theorem dJ8_resize_112 : decode cJ8_resize 112 = .ok (.ifCond .ge 9, 3) := dk_156 0 9 (dk_at dksJ8_resize_4 18 rfl rfl)
theorem dJ8_resize_115 : decode cJ8_resize 115 = .ok (.fload 6, 2) := dk_23 6 (dk_at dksJ8_resize_4 21 rfl rfl)
theorem dJ8_resize_117 : decode cJ8_resize 117 = .ok (.f2i, 1) := dk_139 (dk_at dksJ8_resize_4 23 rfl rfl)
theorem dJ8_resize_118 : decode cJ8_resize 118 = .ok (.goto 5, 3) := dk_167 0 5 (dk_at dksJ8_resize_5 0 rfl rfl)
theorem dJ8_resize_121 : decode cJ8_resize 121 = .ok (.ldc 209, 2) := dk_18 209 (dk_at dksJ8_resize_5 3 rfl rfl)
theorem dJ8_resize_123 : decode cJ8_resize 123 = .ok (.istore 5, 2) := dk_54 5 (dk_at dksJ8_resize_5 5 rfl rfl)
theorem dJ8_resize_125 : decode cJ8_resize 125 = .ok (.aload_n 0, 1) := dk_42 (dk_at dksJ8_resize_5 7 rfl rfl)
theorem dJ8_resize_126 : decode cJ8_resize 126 = .ok (.iload 5, 2) := dk_21 5 (dk_at dksJ8_resize_5 8 rfl rfl)
theorem dJ8_resize_128 : decode cJ8_resize 128 = .ok (.putfield 88, 3) := dk_181 0 88 (dk_at dksJ8_resize_5 10 rfl rfl)
theorem dJ8_resize_131 : decode cJ8_resize 131 = .ok (.iload 4, 2) := dk_21 4 (dk_at dksJ8_resize_5 13 rfl rfl)
theorem dJ8_resize_133 : decode cJ8_resize 133 = .ok (.anewarray 163, 3) := dk_189 0 163 (dk_at dksJ8_resize_5 15 rfl rfl)
theorem dJ8_resize_136 : decode cJ8_resize 136 = .ok (.astore 6, 2) := dk_58 6 (dk_at dksJ8_resize_5 18 rfl rfl)
theorem dJ8_resize_138 : decode cJ8_resize 138 = .ok (.aload_n 0, 1) := dk_42 (dk_at dksJ8_resize_5 20 rfl rfl)
theorem dJ8_resize_139 : decode cJ8_resize 139 = .ok (.aload 6, 2) := dk_25 6 (dk_at dksJ8_resize_5 21 rfl rfl)
theorem dJ8_resize_141 : decode cJ8_resize 141 = .ok (.putfield 105, 3) := dk_181 0 105 (dk_at dksJ8_resize_6 0 rfl rfl)
theorem dJ8_resize_144 : decode cJ8_resize 144 = .ok (.aload_n 1, 1) := dk_43 (dk_at dksJ8_resize_6 3 rfl rfl)
theorem dJ8_resize_145 : decode cJ8_resize 145 = .ok (.ifnull 208, 3) := dk_198 0 208 (dk_at dksJ8_resize_6 4 rfl rfl)
theorem dJ8_resize_148 : decode cJ8_resize 148 = .ok (.iconst 0, 1) := dk_3 (dk_at dksJ8_resize_6 7 rfl rfl)
theorem dJ8_resize_149 : decode cJ8_resize 149 = .ok (.istore 7, 2) := dk_54 7 (dk_at dksJ8_resize_6 8 rfl rfl)
theorem dJ8_resize_151 : decode cJ8_resize 151 = .ok (.iload 7, 2) := dk_21 7 (dk_at dksJ8_resize_6 10 rfl rfl)
theorem dJ8_resize_153 : decode cJ8_resize 153 = .ok (.iload_n 2, 1) := dk_28 (dk_at dksJ8_resize_6 12 rfl rfl)
theorem dJ8_resize_154 : decode cJ8_resize 154 = .ok (.if_icmp .ge 199, 3) := dk_162 0 199 (dk_at dksJ8_resize_6 13 rfl rfl)
theorem dJ8_resize_157 : decode cJ8_resize 157 = .ok (.aload_n 1, 1) := dk_43 (dk_at dksJ8_resize_6 16 rfl rfl)
theorem dJ8_resize_158 : decode cJ8_resize 158 = .ok (.iload 7, 2) := dk_21 7 (dk_at dksJ8_resize_6 17 rfl rfl)
theorem dJ8_resize_160 : decode cJ8_resize 160 = .ok (.aaload, 1) := dk_50 (dk_at dksJ8_resize_6 19 rfl rfl)
theorem dJ8_resize_161 : decode cJ8_resize 161 = .ok (.dup, 1) := dk_89 (dk_at dksJ8_resize_6 20 rfl rfl)
theorem dJ8_resize_162 : decode cJ8_resize 162 = .ok (.astore 8, 2) := dk_58 8 (dk_at dksJ8_resize_6 21 rfl rfl)
theorem dJ8_resize_164 : decode cJ8_resize 164 = .ok (.ifnull 183, 3) := dk_198 0 183 (dk_at dksJ8_resize_7 0 rfl rfl)
theorem dJ8_resize_167 : decode cJ8_resize 167 = .ok (.aload_n 1, 1) := dk_43 (dk_at dksJ8_resize_7 3 rfl rfl)
theorem dJ8_resize_168 : decode cJ8_resize 168 = .ok (.iload 7, 2) := dk_21 7 (dk_at dksJ8_resize_7 4 rfl rfl)
theorem dJ8_resize_170 : decode cJ8_resize 170 = .ok (.aconst_null, 1) := dk_1 (dk_at dksJ8_resize_7 6 rfl rfl)
theorem dJ8_resize_171 : decode cJ8_resize 171 = .ok (.aastore, 1) := dk_83 (dk_at dksJ8_resize_7 7 rfl rfl)
theorem dJ8_resize_172 : decode cJ8_resize 172 = .ok (.aload 8, 2) := dk_25 8 (dk_at dksJ8_resize_7 8 rfl rfl)
theorem dJ8_resize_174 : decode cJ8_resize 174 = .ok (.getfield 177, 3) := dk_180 0 177 (dk_at dksJ8_resize_7 10 rfl rfl)
theorem dJ8_resize_177 : decode cJ8_resize 177 = .ok (.ifnonnull 21, 3) := dk_199 0 21 (dk_at dksJ8_resize_7 13 rfl rfl)
theorem dJ8_resize_180 : decode cJ8_resize 180 = .ok (.aload 6, 2) := dk_25 6 (dk_at dksJ8_resize_7 16 rfl rfl)
theorem dJ8_resize_182 : decode cJ8_resize 182 = .ok (.aload 8, 2) := dk_25 8 (dk_at dksJ8_resize_7 18 rfl rfl)
theorem dJ8_resize_184 : decode cJ8_resize 184 = .ok (.getfield 168, 3) := dk_180 0 168 (dk_at dksJ8_resize_7 20 rfl rfl)
theorem dJ8_resize_187 : decode cJ8_resize 187 = .ok (.iload 4, 2) := dk_21 4 (dk_at dksJ8_resize_8 0 rfl rfl)
theorem dJ8_resize_189 : decode cJ8_resize 189 = .ok (.iconst 1, 1) := dk_4 (dk_at dksJ8_resize_8 2 rfl rfl)
theorem dJ8_resize_190 : decode cJ8_resize 190 = .ok (.isub, 1) := dk_100 (dk_at dksJ8_resize_8 3 rfl rfl)
theorem dJ8_resize_191 : decode cJ8_resize 191 = .ok (.iand, 1) := dk_126 (dk_at dksJ8_resize_8 4 rfl rfl)
theorem dJ8_resize_192 : decode cJ8_resize 192 = .ok (.aload 8, 2) := dk_25 8 (dk_at dksJ8_resize_8 5 rfl rfl)
theorem dJ8_resize_194 : decode cJ8_resize 194 = .ok (.aastore, 1) := dk_83 (dk_at dksJ8_resize_8 7 rfl rfl)
theorem dJ8_resize_195 : decode cJ8_resize 195 = .ok (.goto 152, 3) := dk_167 0 152 (dk_at dksJ8_resize_8 8 rfl rfl)
theorem dJ8_resize_198 : decode cJ8_resize 198 = .ok (.aload 8, 2) := dk_25 8 (dk_at dksJ8_resize_8 11 rfl rfl)
theorem dJ8_resize_200 : decode cJ8_resize 200 = .ok (.instanceof 180, 3) := dk_193 0 180 (dk_at dksJ8_resize_8 13 rfl rfl)
theorem dJ8_resize_203 : decode cJ8_resize 203 = .ok (.ifCond .eq 20, 3) := dk_153 0 20 (dk_at dksJ8_resize_8 16 rfl rfl)
theorem dJ8_resize_206 : decode cJ8_resize 206 = .ok (.aload 8, 2) := dk_25 8 (dk_at dksJ8_resize_8 19 rfl rfl)
theorem dJ8_resize_208 : decode cJ8_resize 208 = .ok (.checkcast 180, 3) := dk_192 0 180 (dk_at dksJ8_resize_8 21 rfl rfl)
theorem dJ8_resize_211 : decode cJ8_resize 211 = .ok (.aload_n 0, 1) := dk_42 (dk_at dksJ8_resize_9 0 rfl rfl)
theorem dJ8_resize_212 : decode cJ8_resize 212 = .ok (.aload 6, 2) := dk_25 6 (dk_at dksJ8_resize_9 1 rfl rfl)
theorem dJ8_resize_214 : decode cJ8_resize 214 = .ok (.iload 7, 2) := dk_21 7 (dk_at dksJ8_resize_9 3 rfl rfl)
theorem dJ8_resize_216 : decode cJ8_resize 216 = .ok (.iload_n 2, 1) := dk_28 (dk_at dksJ8_resize_9 5 rfl rfl)
theorem dJ8_resize_217 : decode cJ8_resize 217 = .ok (.invokevirtual 211, 3) := dk_182 0 211 (dk_at dksJ8_resize_9 6 rfl rfl)
theorem dJ8_resize_220 : decode cJ8_resize 220 = .ok (.goto 127, 3) := dk_167 0 127 (dk_at dksJ8_resize_9 9 rfl rfl)
theorem dJ8_resize_223 : decode cJ8_resize 223 = .ok (.aconst_null, 1) := dk_1 (dk_at dksJ8_resize_9 12 rfl rfl)
theorem dJ8_resize_224 : decode cJ8_resize 224 = .ok (.astore 9, 2) := dk_58 9 (dk_at dksJ8_resize_9 13 rfl rfl)
theorem dJ8_resize_226 : decode cJ8_resize 226 = .ok (.aconst_null, 1) := dk_1 (dk_at dksJ8_resize_9 15 rfl rfl)
theorem dJ8_resize_227 : decode cJ8_resize 227 = .ok (.astore 10, 2) := dk_58 10 (dk_at dksJ8_resize_9 16 rfl rfl)
theorem dJ8_resize_229 : decode cJ8_resize 229 = .ok (.aconst_null, 1) := dk_1 (dk_at dksJ8_resize_9 18 rfl rfl)
theorem dJ8_resize_230 : decode cJ8_resize 230 = .ok (.astore 11, 2) := dk_58 11 (dk_at dksJ8_resize_9 19 rfl rfl)
theorem dJ8_resize_232 : decode cJ8_resize 232 = .ok (.aconst_null, 1) := dk_1 (dk_at dksJ8_resize_9 21 rfl rfl)
theorem dJ8_resize_233 : decode cJ8_resize 233 = .ok (.astore 12, 2) := dk_58 12 (dk_at dksJ8_resize_9 22 rfl rfl)
theorem dJ8_resize_235 : decode cJ8_resize 235 = .ok (.aload 8, 2) := dk_25 8 (dk_at dksJ8_resize_10 0 rfl rfl)
theorem dJ8_resize_237 : decode cJ8_resize 237 = .ok (.getfield 177, 3) := dk_180 0 177 (dk_at dksJ8_resize_10 2 rfl rfl)
theorem dJ8_resize_240 : decode cJ8_resize 240 = .ok (.astore 13, 2) := dk_58 13 (dk_at dksJ8_resize_10 5 rfl rfl)
theorem dJ8_resize_242 : decode cJ8_resize 242 = .ok (.aload 8, 2) := dk_25 8 (dk_at dksJ8_resize_10 7 rfl rfl)
theorem dJ8_resize_244 : decode cJ8_resize 244 = .ok (.getfield 168, 3) := dk_180 0 168 (dk_at dksJ8_resize_10 9 rfl rfl)
theorem dJ8_resize_247 : decode cJ8_resize 247 = .ok (.iload_n 2, 1) := dk_28 (dk_at dksJ8_resize_10 12 rfl rfl)
theorem dJ8_resize_248 : decode cJ8_resize 248 = .ok (.iand, 1) := dk_126 (dk_at dksJ8_resize_10 13 rfl rfl)
theorem dJ8_resize_249 : decode cJ8_resize 249 = .ok (.ifCond .ne 29, 3) := dk_154 0 29 (dk_at dksJ8_resize_10 14 rfl rfl)
theorem dJ8_resize_252 : decode cJ8_resize 252 = .ok (.aload 10, 2) := dk_25 10 (dk_at dksJ8_resize_10 17 rfl rfl)
theorem dJ8_resize_254 : decode cJ8_resize 254 = .ok (.ifnonnull 10, 3) := dk_199 0 10 (dk_at dksJ8_resize_10 19 rfl rfl)
theorem dJ8_resize_257 : decode cJ8_resize 257 = .ok (.aload 8, 2) := dk_25 8 (dk_at dksJ8_resize_10 22 rfl rfl)
theorem dJ8_resize_259 : decode cJ8_resize 259 = .ok (.astore 9, 2) := dk_58 9 (dk_at dksJ8_resize_11 0 rfl rfl)
theorem dJ8_resize_261 : decode cJ8_resize 261 = .ok (.goto 10, 3) := dk_167 0 10 (dk_at dksJ8_resize_11 2 rfl rfl)
theorem dJ8_resize_264 : decode cJ8_resize 264 = .ok (.aload 10, 2) := dk_25 10 (dk_at dksJ8_resize_11 5 rfl rfl)
theorem dJ8_resize_266 : decode cJ8_resize 266 = .ok (.aload 8, 2) := dk_25 8 (dk_at dksJ8_resize_11 7 rfl rfl)
theorem dJ8_resize_268 : decode cJ8_resize 268 = .ok (.putfield 177, 3) := dk_181 0 177 (dk_at dksJ8_resize_11 9 rfl rfl)
theorem dJ8_resize_271 : decode cJ8_resize 271 = .ok (.aload 8, 2) := dk_25 8 (dk_at dksJ8_resize_11 12 rfl rfl)
theorem dJ8_resize_273 : decode cJ8_resize 273 = .ok (.astore 10, 2) := dk_58 10 (dk_at dksJ8_resize_11 14 rfl rfl)
theorem dJ8_resize_275 : decode cJ8_resize 275 = .ok (.goto 26, 3) := dk_167 0 26 (dk_at dksJ8_resize_11 16 rfl rfl)
theorem dJ8_resize_278 : decode cJ8_resize 278 = .ok (.aload 12, 2) := dk_25 12 (dk_at dksJ8_resize_11 19 rfl rfl)
theorem dJ8_resize_280 : decode cJ8_resize 280 = .ok (.ifnonnull 10, 3) := dk_199 0 10 (dk_at dksJ8_resize_11 21 rfl rfl)
theorem dJ8_resize_283 : decode cJ8_resize 283 = .ok (.aload 8, 2) := dk_25 8 (dk_at dksJ8_resize_12 0 rfl rfl)
theorem dJ8_resize_285 : decode cJ8_resize 285 = .ok (.astore 11, 2) := dk_58 11 (dk_at dksJ8_resize_12 2 rfl rfl)
theorem dJ8_resize_287 : decode cJ8_resize 287 = .ok (.goto 10, 3) := dk_167 0 10 (dk_at dksJ8_resize_12 4 rfl rfl)
theorem dJ8_resize_290 : decode cJ8_resize 290 = .ok (.aload 12, 2) := dk_25 12 (dk_at dksJ8_resize_12 7 rfl rfl)
theorem dJ8_resize_292 : decode cJ8_resize 292 = .ok (.aload 8, 2) := dk_25 8 (dk_at dksJ8_resize_12 9 rfl rfl)
theorem dJ8_resize_294 : decode cJ8_resize 294 = .ok (.putfield 177, 3) := dk_181 0 177 (dk_at dksJ8_resize_12 11 rfl rfl)
theorem dJ8_resize_297 : decode cJ8_resize 297 = .ok (.aload 8, 2) := dk_25 8 (dk_at dksJ8_resize_12 14 rfl rfl)
theorem dJ8_resize_299 : decode cJ8_resize 299 = .ok (.astore 12, 2) := dk_58 12 (dk_at dksJ8_resize_12 16 rfl rfl)
theorem dJ8_resize_301 : decode cJ8_resize 301 = .ok (.aload 13, 2) := dk_25 13 (dk_at dksJ8_resize_12 18 rfl rfl)
theorem dJ8_resize_303 : decode cJ8_resize 303 = .ok (.dup, 1) := dk_89 (dk_at dksJ8_resize_12 20 rfl rfl)
theorem dJ8_resize_304 : decode cJ8_resize 304 = .ok (.astore 8, 2) := dk_58 8 (dk_at dksJ8_resize_12 21 rfl rfl)
theorem dJ8_resize_306 : decode cJ8_resize 306 = .ok (.ifnonnull (-71), 3) := dk_199 255 185 (dk_at dksJ8_resize_13 0 rfl rfl)
theorem dJ8_resize_309 : decode cJ8_resize 309 = .ok (.aload 10, 2) := dk_25 10 (dk_at dksJ8_resize_13 3 rfl rfl)
theorem dJ8_resize_311 : decode cJ8_resize 311 = .ok (.ifnull 16, 3) := dk_198 0 16 (dk_at dksJ8_resize_13 5 rfl rfl)
theorem dJ8_resize_314 : decode cJ8_resize 314 = .ok (.aload 10, 2) := dk_25 10 (dk_at dksJ8_resize_13 8 rfl rfl)
theorem dJ8_resize_316 : decode cJ8_resize 316 = .ok (.aconst_null, 1) := dk_1 (dk_at dksJ8_resize_13 10 rfl rfl)
theorem dJ8_resize_317 : decode cJ8_resize 317 = .ok (.putfield 177, 3) := dk_181 0 177 (dk_at dksJ8_resize_13 11 rfl rfl)
theorem dJ8_resize_320 : decode cJ8_resize 320 = .ok (.aload 6, 2) := dk_25 6 (dk_at dksJ8_resize_13 14 rfl rfl)
theorem dJ8_resize_322 : decode cJ8_resize 322 = .ok (.iload 7, 2) := dk_21 7 (dk_at dksJ8_resize_13 16 rfl rfl)
theorem dJ8_resize_324 : decode cJ8_resize 324 = .ok (.aload 9, 2) := dk_25 9 (dk_at dksJ8_resize_13 18 rfl rfl)
theorem dJ8_resize_326 : decode cJ8_resize 326 = .ok (.aastore, 1) := dk_83 (dk_at dksJ8_resize_13 20 rfl rfl)
theorem dJ8_resize_327 : decode cJ8_resize 327 = .ok (.aload 12, 2) := dk_25 12 (dk_at dksJ8_resize_13 21 rfl rfl)
theorem dJ8_resize_329 : decode cJ8_resize 329 = .ok (.ifnull 18, 3) := dk_198 0 18 (dk_at dksJ8_resize_14 0 rfl rfl)
theorem dJ8_resize_332 : decode cJ8_resize 332 = .ok (.aload 12, 2) := dk_25 12 (dk_at dksJ8_resize_14 3 rfl rfl)
theorem dJ8_resize_334 : decode cJ8_resize 334 = .ok (.aconst_null, 1) := dk_1 (dk_at dksJ8_resize_14 5 rfl rfl)
theorem dJ8_resize_335 : decode cJ8_resize 335 = .ok (.putfield 177, 3) := dk_181 0 177 (dk_at dksJ8_resize_14 6 rfl rfl)
theorem dJ8_resize_338 : decode cJ8_resize 338 = .ok (.aload 6, 2) := dk_25 6 (dk_at dksJ8_resize_14 9 rfl rfl)
theorem dJ8_resize_340 : decode cJ8_resize 340 = .ok (.iload 7, 2) := dk_21 7 (dk_at dksJ8_resize_14 11 rfl rfl)
theorem dJ8_resize_342 : decode cJ8_resize 342 = .ok (.iload_n 2, 1) := dk_28 (dk_at dksJ8_resize_14 13 rfl rfl)
theorem dJ8_resize_343 : decode cJ8_resize 343 = .ok (.iadd, 1) := dk_96 (dk_at dksJ8_resize_14 14 rfl rfl)
theorem dJ8_resize_344 : decode cJ8_resize 344 = .ok (.aload 11, 2) := dk_25 11 (dk_at dksJ8_resize_14 15 rfl rfl)
theorem dJ8_resize_346 : decode cJ8_resize 346 = .ok (.aastore, 1) := dk_83 (dk_at dksJ8_resize_14 17 rfl rfl)
theorem dJ8_resize_347 : decode cJ8_resize 347 = .ok (.iinc 7 1, 3) := dk_132 7 1 (dk_at dksJ8_resize_14 18 rfl rfl)
theorem dJ8_resize_350 : decode cJ8_resize 350 = .ok (.goto (-199), 3) := dk_167 255 57 (dk_at dksJ8_resize_14 21 rfl rfl)
theorem dJ8_resize_353 : decode cJ8_resize 353 = .ok (.aload 6, 2) := dk_25 6 (dk_at dksJ8_resize_15 0 rfl rfl)
theorem dJ8_resize_355 : decode cJ8_resize 355 = .ok (.areturn, 1) := dk_176 (dk_at dksJ8_resize_15 2 rfl rfl)
abbrev cJ8_replacementNode : ByteArray := prog_45_method_47_code
def yJ8_replacementNode : MethodName := ⟨RJ8, "replacementNode", "(Ljava/util/HashMap$Node;Ljava/util/HashMap$Node;)Ljava/util/HashMap$Node;"⟩
def dkwJ8_replacementNode_0 : List UInt8 := [187, 0, 163, 89, 43, 180, 0, 168, 43, 180, 0, 170, 43, 180, 0, 162, 44, 183, 1, 119, 176]
abbrev dktJ8_replacementNode_0 : List UInt8 := dkwJ8_replacementNode_0 ++ []
theorem dksJ8_replacementNode_0 : cJ8_replacementNode.data.toList.drop 0 = dktJ8_replacementNode_0 := by decide +kernel
theorem dJ8_replacementNode_0 : decode cJ8_replacementNode 0 = .ok (.new 163, 3) := dk_187 0 163 (dk_at dksJ8_replacementNode_0 0 rfl rfl)
theorem dJ8_replacementNode_3 : decode cJ8_replacementNode 3 = .ok (.dup, 1) := dk_89 (dk_at dksJ8_replacementNode_0 3 rfl rfl)
theorem dJ8_replacementNode_4 : decode cJ8_replacementNode 4 = .ok (.aload_n 1, 1) := dk_43 (dk_at dksJ8_replacementNode_0 4 rfl rfl)
theorem dJ8_replacementNode_5 : decode cJ8_replacementNode 5 = .ok (.getfield 168, 3) := dk_180 0 168 (dk_at dksJ8_replacementNode_0 5 rfl rfl)
theorem dJ8_replacementNode_8 : decode cJ8_replacementNode 8 = .ok (.aload_n 1, 1) := dk_43 (dk_at dksJ8_replacementNode_0 8 rfl rfl)
theorem dJ8_replacementNode_9 : decode cJ8_replacementNode 9 = .ok (.getfield 170, 3) := dk_180 0 170 (dk_at dksJ8_replacementNode_0 9 rfl rfl)
theorem dJ8_replacementNode_12 : decode cJ8_replacementNode 12 = .ok (.aload_n 1, 1) := dk_43 (dk_at dksJ8_replacementNode_0 12 rfl rfl)
theorem dJ8_replacementNode_13 : decode cJ8_replacementNode 13 = .ok (.getfield 162, 3) := dk_180 0 162 (dk_at dksJ8_replacementNode_0 13 rfl rfl)
theorem dJ8_replacementNode_16 : decode cJ8_replacementNode 16 = .ok (.aload_n 2, 1) := dk_44 (dk_at dksJ8_replacementNode_0 16 rfl rfl)
theorem dJ8_replacementNode_17 : decode cJ8_replacementNode 17 = .ok (.invokespecial 375, 3) := dk_183 1 119 (dk_at dksJ8_replacementNode_0 17 rfl rfl)
theorem dJ8_replacementNode_20 : decode cJ8_replacementNode 20 = .ok (.areturn, 1) := dk_176 (dk_at dksJ8_replacementNode_0 20 rfl rfl)
abbrev cJ8_newNode : ByteArray := prog_45_method_46_code
def yJ8_newNode : MethodName := ⟨RJ8, "newNode", "(ILjava/lang/Object;Ljava/lang/Object;Ljava/util/HashMap$Node;)Ljava/util/HashMap$Node;"⟩
def dkwJ8_newNode_0 : List UInt8 := [187, 0, 163, 89, 27, 44, 45, 25, 4, 183, 1, 119, 176]
abbrev dktJ8_newNode_0 : List UInt8 := dkwJ8_newNode_0 ++ []
theorem dksJ8_newNode_0 : cJ8_newNode.data.toList.drop 0 = dktJ8_newNode_0 := by decide +kernel
theorem dJ8_newNode_0 : decode cJ8_newNode 0 = .ok (.new 163, 3) := dk_187 0 163 (dk_at dksJ8_newNode_0 0 rfl rfl)
theorem dJ8_newNode_3 : decode cJ8_newNode 3 = .ok (.dup, 1) := dk_89 (dk_at dksJ8_newNode_0 3 rfl rfl)
theorem dJ8_newNode_4 : decode cJ8_newNode 4 = .ok (.iload_n 1, 1) := dk_27 (dk_at dksJ8_newNode_0 4 rfl rfl)
theorem dJ8_newNode_5 : decode cJ8_newNode 5 = .ok (.aload_n 2, 1) := dk_44 (dk_at dksJ8_newNode_0 5 rfl rfl)
theorem dJ8_newNode_6 : decode cJ8_newNode 6 = .ok (.aload_n 3, 1) := dk_45 (dk_at dksJ8_newNode_0 6 rfl rfl)
theorem dJ8_newNode_7 : decode cJ8_newNode 7 = .ok (.aload 4, 2) := dk_25 4 (dk_at dksJ8_newNode_0 7 rfl rfl)
theorem dJ8_newNode_9 : decode cJ8_newNode 9 = .ok (.invokespecial 375, 3) := dk_183 1 119 (dk_at dksJ8_newNode_0 9 rfl rfl)
theorem dJ8_newNode_12 : decode cJ8_newNode 12 = .ok (.areturn, 1) := dk_176 (dk_at dksJ8_newNode_0 12 rfl rfl)
abbrev cJ8_newTreeNode : ByteArray := prog_45_method_48_code
def yJ8_newTreeNode : MethodName := ⟨RJ8, "newTreeNode", "(ILjava/lang/Object;Ljava/lang/Object;Ljava/util/HashMap$Node;)Ljava/util/HashMap$TreeNode;"⟩
def dkwJ8_newTreeNode_0 : List UInt8 := [187, 0, 180, 89, 27, 44, 45, 25, 4, 183, 1, 122, 176]
abbrev dktJ8_newTreeNode_0 : List UInt8 := dkwJ8_newTreeNode_0 ++ []
theorem dksJ8_newTreeNode_0 : cJ8_newTreeNode.data.toList.drop 0 = dktJ8_newTreeNode_0 := by decide +kernel
theorem dJ8_newTreeNode_0 : decode cJ8_newTreeNode 0 = .ok (.new 180, 3) := dk_187 0 180 (dk_at dksJ8_newTreeNode_0 0 rfl rfl)
theorem dJ8_newTreeNode_3 : decode cJ8_newTreeNode 3 = .ok (.dup, 1) := dk_89 (dk_at dksJ8_newTreeNode_0 3 rfl rfl)
theorem dJ8_newTreeNode_4 : decode cJ8_newTreeNode 4 = .ok (.iload_n 1, 1) := dk_27 (dk_at dksJ8_newTreeNode_0 4 rfl rfl)
theorem dJ8_newTreeNode_5 : decode cJ8_newTreeNode 5 = .ok (.aload_n 2, 1) := dk_44 (dk_at dksJ8_newTreeNode_0 5 rfl rfl)
theorem dJ8_newTreeNode_6 : decode cJ8_newTreeNode 6 = .ok (.aload_n 3, 1) := dk_45 (dk_at dksJ8_newTreeNode_0 6 rfl rfl)
theorem dJ8_newTreeNode_7 : decode cJ8_newTreeNode 7 = .ok (.aload 4, 2) := dk_25 4 (dk_at dksJ8_newTreeNode_0 7 rfl rfl)
theorem dJ8_newTreeNode_9 : decode cJ8_newTreeNode 9 = .ok (.invokespecial 378, 3) := dk_183 1 122 (dk_at dksJ8_newTreeNode_0 9 rfl rfl)
theorem dJ8_newTreeNode_12 : decode cJ8_newTreeNode 12 = .ok (.areturn, 1) := dk_176 (dk_at dksJ8_newTreeNode_0 12 rfl rfl)
abbrev cJ8_treeifyBin : ByteArray := prog_45_method_18_code
def yJ8_treeifyBin : MethodName := ⟨RJ8, "treeifyBin", "([Ljava/util/HashMap$Node;I)V"⟩
def dkwJ8_treeifyBin_4 : List UInt8 := [21, 4, 25, 6, 91, 83, 198, 0, 9, 25, 6, 43, 182, 0, 224, 177]
abbrev dktJ8_treeifyBin_4 : List UInt8 := dkwJ8_treeifyBin_4 ++ []
def dkwJ8_treeifyBin_3 : List UInt8 := [25, 7, 25, 8, 181, 0, 223, 25, 8, 58, 7, 25, 5, 180, 0, 177, 89, 58, 5, 199, 255, 209, 43]
abbrev dktJ8_treeifyBin_3 : List UInt8 := dkwJ8_treeifyBin_3 ++ dktJ8_treeifyBin_4
def dkwJ8_treeifyBin_2 : List UInt8 := [182, 0, 215, 58, 8, 25, 7, 199, 0, 10, 25, 8, 58, 6, 167, 0, 17, 25, 8, 25, 7, 181, 0, 219]
abbrev dktJ8_treeifyBin_2 : List UInt8 := dkwJ8_treeifyBin_2 ++ dktJ8_treeifyBin_3
def dkwJ8_treeifyBin_1 : List UInt8 := [100, 28, 126, 89, 54, 4, 50, 89, 58, 5, 198, 0, 75, 1, 58, 6, 1, 58, 7, 42, 25, 5, 1]
abbrev dktJ8_treeifyBin_1 : List UInt8 := dkwJ8_treeifyBin_1 ++ dktJ8_treeifyBin_2
def dkwJ8_treeifyBin_0 : List UInt8 := [43, 198, 0, 12, 43, 190, 89, 62, 16, 64, 162, 0, 11, 42, 182, 0, 117, 87, 167, 0, 91, 43, 29, 4]
abbrev dktJ8_treeifyBin_0 : List UInt8 := dkwJ8_treeifyBin_0 ++ dktJ8_treeifyBin_1
theorem dksJ8_treeifyBin_0 : cJ8_treeifyBin.data.toList.drop 0 = dktJ8_treeifyBin_0 := by decide +kernel
theorem dksJ8_treeifyBin_1 : cJ8_treeifyBin.data.toList.drop 24 = dktJ8_treeifyBin_1 := dk_seg dksJ8_treeifyBin_0 24 rfl rfl
theorem dksJ8_treeifyBin_2 : cJ8_treeifyBin.data.toList.drop 47 = dktJ8_treeifyBin_2 := dk_seg dksJ8_treeifyBin_1 23 rfl rfl
theorem dksJ8_treeifyBin_3 : cJ8_treeifyBin.data.toList.drop 71 = dktJ8_treeifyBin_3 := dk_seg dksJ8_treeifyBin_2 24 rfl rfl
theorem dksJ8_treeifyBin_4 : cJ8_treeifyBin.data.toList.drop 94 = dktJ8_treeifyBin_4 := dk_seg dksJ8_treeifyBin_3 23 rfl rfl
theorem dJ8_treeifyBin_0 : decode cJ8_treeifyBin 0 = .ok (.aload_n 1, 1) := dk_43 (dk_at dksJ8_treeifyBin_0 0 rfl rfl)
theorem dJ8_treeifyBin_1 : decode cJ8_treeifyBin 1 = .ok (.ifnull 12, 3) := dk_198 0 12 (dk_at dksJ8_treeifyBin_0 1 rfl rfl)
theorem dJ8_treeifyBin_4 : decode cJ8_treeifyBin 4 = .ok (.aload_n 1, 1) := dk_43 (dk_at dksJ8_treeifyBin_0 4 rfl rfl)
theorem dJ8_treeifyBin_5 : decode cJ8_treeifyBin 5 = .ok (.arraylength, 1) := dk_190 (dk_at dksJ8_treeifyBin_0 5 rfl rfl)
theorem dJ8_treeifyBin_6 : decode cJ8_treeifyBin 6 = .ok (.dup, 1) := dk_89 (dk_at dksJ8_treeifyBin_0 6 rfl rfl)
theorem dJ8_treeifyBin_7 : decode cJ8_treeifyBin 7 = .ok (.istore_n 3, 1) := dk_62 (dk_at dksJ8_treeifyBin_0 7 rfl rfl)
theorem dJ8_treeifyBin_8 : decode cJ8_treeifyBin 8 = .ok (.bipush 64, 2) := dk_16 64 (dk_at dksJ8_treeifyBin_0 8 rfl rfl)
theorem dJ8_treeifyBin_10 : decode cJ8_treeifyBin 10 = .ok (.if_icmp .ge 11, 3) := dk_162 0 11 (dk_at dksJ8_treeifyBin_0 10 rfl rfl)
theorem dJ8_treeifyBin_13 : decode cJ8_treeifyBin 13 = .ok (.aload_n 0, 1) := dk_42 (dk_at dksJ8_treeifyBin_0 13 rfl rfl)
theorem dJ8_treeifyBin_14 : decode cJ8_treeifyBin 14 = .ok (.invokevirtual 117, 3) := dk_182 0 117 (dk_at dksJ8_treeifyBin_0 14 rfl rfl)
theorem dJ8_treeifyBin_17 : decode cJ8_treeifyBin 17 = .ok (.pop, 1) := dk_87 (dk_at dksJ8_treeifyBin_0 17 rfl rfl)
theorem dJ8_treeifyBin_18 : decode cJ8_treeifyBin 18 = .ok (.goto 91, 3) := dk_167 0 91 (dk_at dksJ8_treeifyBin_0 18 rfl rfl)
theorem dJ8_treeifyBin_21 : decode cJ8_treeifyBin 21 = .ok (.aload_n 1, 1) := dk_43 (dk_at dksJ8_treeifyBin_0 21 rfl rfl)
theorem dJ8_treeifyBin_22 : decode cJ8_treeifyBin 22 = .ok (.iload_n 3, 1) := dk_29 (dk_at dksJ8_treeifyBin_0 22 rfl rfl)
theorem dJ8_treeifyBin_23 : decode cJ8_treeifyBin 23 = .ok (.iconst 1, 1) := dk_4 (dk_at dksJ8_treeifyBin_0 23 rfl rfl)
theorem dJ8_treeifyBin_24 : decode cJ8_treeifyBin 24 = .ok (.isub, 1) := dk_100 (dk_at dksJ8_treeifyBin_1 0 rfl rfl)
theorem dJ8_treeifyBin_25 : decode cJ8_treeifyBin 25 = .ok (.iload_n 2, 1) := dk_28 (dk_at dksJ8_treeifyBin_1 1 rfl rfl)
theorem dJ8_treeifyBin_26 : decode cJ8_treeifyBin 26 = .ok (.iand, 1) := dk_126 (dk_at dksJ8_treeifyBin_1 2 rfl rfl)
theorem dJ8_treeifyBin_27 : decode cJ8_treeifyBin 27 = .ok (.dup, 1) := dk_89 (dk_at dksJ8_treeifyBin_1 3 rfl rfl)
theorem dJ8_treeifyBin_28 : decode cJ8_treeifyBin 28 = .ok (.istore 4, 2) := dk_54 4 (dk_at dksJ8_treeifyBin_1 4 rfl rfl)
theorem dJ8_treeifyBin_30 : decode cJ8_treeifyBin 30 = .ok (.aaload, 1) := dk_50 (dk_at dksJ8_treeifyBin_1 6 rfl rfl)
theorem dJ8_treeifyBin_31 : decode cJ8_treeifyBin 31 = .ok (.dup, 1) := dk_89 (dk_at dksJ8_treeifyBin_1 7 rfl rfl)
theorem dJ8_treeifyBin_32 : decode cJ8_treeifyBin 32 = .ok (.astore 5, 2) := dk_58 5 (dk_at dksJ8_treeifyBin_1 8 rfl rfl)
theorem dJ8_treeifyBin_34 : decode cJ8_treeifyBin 34 = .ok (.ifnull 75, 3) := dk_198 0 75 (dk_at dksJ8_treeifyBin_1 10 rfl rfl)
theorem dJ8_treeifyBin_37 : decode cJ8_treeifyBin 37 = .ok (.aconst_null, 1) := dk_1 (dk_at dksJ8_treeifyBin_1 13 rfl rfl)
theorem dJ8_treeifyBin_38 : decode cJ8_treeifyBin 38 = .ok (.astore 6, 2) := dk_58 6 (dk_at dksJ8_treeifyBin_1 14 rfl rfl)
theorem dJ8_treeifyBin_40 : decode cJ8_treeifyBin 40 = .ok (.aconst_null, 1) := dk_1 (dk_at dksJ8_treeifyBin_1 16 rfl rfl)
theorem dJ8_treeifyBin_41 : decode cJ8_treeifyBin 41 = .ok (.astore 7, 2) := dk_58 7 (dk_at dksJ8_treeifyBin_1 17 rfl rfl)
theorem dJ8_treeifyBin_43 : decode cJ8_treeifyBin 43 = .ok (.aload_n 0, 1) := dk_42 (dk_at dksJ8_treeifyBin_1 19 rfl rfl)
theorem dJ8_treeifyBin_44 : decode cJ8_treeifyBin 44 = .ok (.aload 5, 2) := dk_25 5 (dk_at dksJ8_treeifyBin_1 20 rfl rfl)
theorem dJ8_treeifyBin_46 : decode cJ8_treeifyBin 46 = .ok (.aconst_null, 1) := dk_1 (dk_at dksJ8_treeifyBin_1 22 rfl rfl)
theorem dJ8_treeifyBin_47 : decode cJ8_treeifyBin 47 = .ok (.invokevirtual 215, 3) := dk_182 0 215 (dk_at dksJ8_treeifyBin_2 0 rfl rfl)
theorem dJ8_treeifyBin_50 : decode cJ8_treeifyBin 50 = .ok (.astore 8, 2) := dk_58 8 (dk_at dksJ8_treeifyBin_2 3 rfl rfl)
theorem dJ8_treeifyBin_52 : decode cJ8_treeifyBin 52 = .ok (.aload 7, 2) := dk_25 7 (dk_at dksJ8_treeifyBin_2 5 rfl rfl)
theorem dJ8_treeifyBin_54 : decode cJ8_treeifyBin 54 = .ok (.ifnonnull 10, 3) := dk_199 0 10 (dk_at dksJ8_treeifyBin_2 7 rfl rfl)
theorem dJ8_treeifyBin_57 : decode cJ8_treeifyBin 57 = .ok (.aload 8, 2) := dk_25 8 (dk_at dksJ8_treeifyBin_2 10 rfl rfl)
theorem dJ8_treeifyBin_59 : decode cJ8_treeifyBin 59 = .ok (.astore 6, 2) := dk_58 6 (dk_at dksJ8_treeifyBin_2 12 rfl rfl)
theorem dJ8_treeifyBin_61 : decode cJ8_treeifyBin 61 = .ok (.goto 17, 3) := dk_167 0 17 (dk_at dksJ8_treeifyBin_2 14 rfl rfl)
theorem dJ8_treeifyBin_64 : decode cJ8_treeifyBin 64 = .ok (.aload 8, 2) := dk_25 8 (dk_at dksJ8_treeifyBin_2 17 rfl rfl)
theorem dJ8_treeifyBin_66 : decode cJ8_treeifyBin 66 = .ok (.aload 7, 2) := dk_25 7 (dk_at dksJ8_treeifyBin_2 19 rfl rfl)
theorem dJ8_treeifyBin_68 : decode cJ8_treeifyBin 68 = .ok (.putfield 219, 3) := dk_181 0 219 (dk_at dksJ8_treeifyBin_2 21 rfl rfl)
theorem dJ8_treeifyBin_71 : decode cJ8_treeifyBin 71 = .ok (.aload 7, 2) := dk_25 7 (dk_at dksJ8_treeifyBin_3 0 rfl rfl)
theorem dJ8_treeifyBin_73 : decode cJ8_treeifyBin 73 = .ok (.aload 8, 2) := dk_25 8 (dk_at dksJ8_treeifyBin_3 2 rfl rfl)
theorem dJ8_treeifyBin_75 : decode cJ8_treeifyBin 75 = .ok (.putfield 223, 3) := dk_181 0 223 (dk_at dksJ8_treeifyBin_3 4 rfl rfl)
theorem dJ8_treeifyBin_78 : decode cJ8_treeifyBin 78 = .ok (.aload 8, 2) := dk_25 8 (dk_at dksJ8_treeifyBin_3 7 rfl rfl)
theorem dJ8_treeifyBin_80 : decode cJ8_treeifyBin 80 = .ok (.astore 7, 2) := dk_58 7 (dk_at dksJ8_treeifyBin_3 9 rfl rfl)
theorem dJ8_treeifyBin_82 : decode cJ8_treeifyBin 82 = .ok (.aload 5, 2) := dk_25 5 (dk_at dksJ8_treeifyBin_3 11 rfl rfl)
theorem dJ8_treeifyBin_84 : decode cJ8_treeifyBin 84 = .ok (.getfield 177, 3) := dk_180 0 177 (dk_at dksJ8_treeifyBin_3 13 rfl rfl)
theorem dJ8_treeifyBin_87 : decode cJ8_treeifyBin 87 = .ok (.dup, 1) := dk_89 (dk_at dksJ8_treeifyBin_3 16 rfl rfl)
theorem dJ8_treeifyBin_88 : decode cJ8_treeifyBin 88 = .ok (.astore 5, 2) := dk_58 5 (dk_at dksJ8_treeifyBin_3 17 rfl rfl)
theorem dJ8_treeifyBin_90 : decode cJ8_treeifyBin 90 = .ok (.ifnonnull (-47), 3) := dk_199 255 209 (dk_at dksJ8_treeifyBin_3 19 rfl rfl)
theorem dJ8_treeifyBin_93 : decode cJ8_treeifyBin 93 = .ok (.aload_n 1, 1) := dk_43 (dk_at dksJ8_treeifyBin_3 22 rfl rfl)
theorem dJ8_treeifyBin_94 : decode cJ8_treeifyBin 94 = .ok (.iload 4, 2) := dk_21 4 (dk_at dksJ8_treeifyBin_4 0 rfl rfl)
theorem dJ8_treeifyBin_96 : decode cJ8_treeifyBin 96 = .ok (.aload 6, 2) := dk_25 6 (dk_at dksJ8_treeifyBin_4 2 rfl rfl)
theorem dJ8_treeifyBin_98 : decode cJ8_treeifyBin 98 = .ok (.dup_x2, 1) := dk_91 (dk_at dksJ8_treeifyBin_4 4 rfl rfl)
theorem dJ8_treeifyBin_99 : decode cJ8_treeifyBin 99 = .ok (.aastore, 1) := dk_83 (dk_at dksJ8_treeifyBin_4 5 rfl rfl)
theorem dJ8_treeifyBin_100 : decode cJ8_treeifyBin 100 = .ok (.ifnull 9, 3) := dk_198 0 9 (dk_at dksJ8_treeifyBin_4 6 rfl rfl)
theorem dJ8_treeifyBin_103 : decode cJ8_treeifyBin 103 = .ok (.aload 6, 2) := dk_25 6 (dk_at dksJ8_treeifyBin_4 9 rfl rfl)
theorem dJ8_treeifyBin_105 : decode cJ8_treeifyBin 105 = .ok (.aload_n 1, 1) := dk_43 (dk_at dksJ8_treeifyBin_4 11 rfl rfl)
theorem dJ8_treeifyBin_106 : decode cJ8_treeifyBin 106 = .ok (.invokevirtual 224, 3) := dk_182 0 224 (dk_at dksJ8_treeifyBin_4 12 rfl rfl)
theorem dJ8_treeifyBin_109 : decode cJ8_treeifyBin 109 = .ok (.return_, 1) := dk_177 (dk_at dksJ8_treeifyBin_4 15 rfl rfl)
abbrev cJ8_replacementTreeNode : ByteArray := prog_45_method_49_code
def yJ8_replacementTreeNode : MethodName := ⟨RJ8, "replacementTreeNode", "(Ljava/util/HashMap$Node;Ljava/util/HashMap$Node;)Ljava/util/HashMap$TreeNode;"⟩
def dkwJ8_replacementTreeNode_0 : List UInt8 := [187, 0, 180, 89, 43, 180, 0, 168, 43, 180, 0, 170, 43, 180, 0, 162, 44, 183, 1, 122, 176]
abbrev dktJ8_replacementTreeNode_0 : List UInt8 := dkwJ8_replacementTreeNode_0 ++ []
theorem dksJ8_replacementTreeNode_0 : cJ8_replacementTreeNode.data.toList.drop 0 = dktJ8_replacementTreeNode_0 := by decide +kernel
theorem dJ8_replacementTreeNode_0 : decode cJ8_replacementTreeNode 0 = .ok (.new 180, 3) := dk_187 0 180 (dk_at dksJ8_replacementTreeNode_0 0 rfl rfl)
theorem dJ8_replacementTreeNode_3 : decode cJ8_replacementTreeNode 3 = .ok (.dup, 1) := dk_89 (dk_at dksJ8_replacementTreeNode_0 3 rfl rfl)
theorem dJ8_replacementTreeNode_4 : decode cJ8_replacementTreeNode 4 = .ok (.aload_n 1, 1) := dk_43 (dk_at dksJ8_replacementTreeNode_0 4 rfl rfl)
theorem dJ8_replacementTreeNode_5 : decode cJ8_replacementTreeNode 5 = .ok (.getfield 168, 3) := dk_180 0 168 (dk_at dksJ8_replacementTreeNode_0 5 rfl rfl)
theorem dJ8_replacementTreeNode_8 : decode cJ8_replacementTreeNode 8 = .ok (.aload_n 1, 1) := dk_43 (dk_at dksJ8_replacementTreeNode_0 8 rfl rfl)
theorem dJ8_replacementTreeNode_9 : decode cJ8_replacementTreeNode 9 = .ok (.getfield 170, 3) := dk_180 0 170 (dk_at dksJ8_replacementTreeNode_0 9 rfl rfl)
theorem dJ8_replacementTreeNode_12 : decode cJ8_replacementTreeNode 12 = .ok (.aload_n 1, 1) := dk_43 (dk_at dksJ8_replacementTreeNode_0 12 rfl rfl)
theorem dJ8_replacementTreeNode_13 : decode cJ8_replacementTreeNode 13 = .ok (.getfield 162, 3) := dk_180 0 162 (dk_at dksJ8_replacementTreeNode_0 13 rfl rfl)
theorem dJ8_replacementTreeNode_16 : decode cJ8_replacementTreeNode 16 = .ok (.aload_n 2, 1) := dk_44 (dk_at dksJ8_replacementTreeNode_0 16 rfl rfl)
theorem dJ8_replacementTreeNode_17 : decode cJ8_replacementTreeNode 17 = .ok (.invokespecial 378, 3) := dk_183 1 122 (dk_at dksJ8_replacementTreeNode_0 17 rfl rfl)
theorem dJ8_replacementTreeNode_20 : decode cJ8_replacementTreeNode 20 = .ok (.areturn, 1) := dk_176 (dk_at dksJ8_replacementTreeNode_0 20 rfl rfl)
abbrev cJ8_afterNodeAccess : ByteArray := prog_45_method_51_code
def yJ8_afterNodeAccess : MethodName := ⟨RJ8, "afterNodeAccess", "(Ljava/util/HashMap$Node;)V"⟩
theorem dJ8_afterNodeAccess_0 : decode cJ8_afterNodeAccess 0 = .ok (.return_, 1) := by decide +kernel
abbrev cJ8_afterNodeInsertion : ByteArray := prog_45_method_52_code
def yJ8_afterNodeInsertion : MethodName := ⟨RJ8, "afterNodeInsertion", "(Z)V"⟩
theorem dJ8_afterNodeInsertion_0 : decode cJ8_afterNodeInsertion 0 = .ok (.return_, 1) := by decide +kernel
abbrev cJ8_size : ByteArray := prog_45_method_10_code
def yJ8_size : MethodName := ⟨RJ8, "size", "()I"⟩
theorem dJ8_size_0 : decode cJ8_size 0 = .ok (.aload_n 0, 1) := by decide +kernel
theorem dJ8_size_1 : decode cJ8_size 1 = .ok (.getfield 156, 3) := by decide +kernel
theorem dJ8_size_4 : decode cJ8_size 4 = .ok (.ireturn, 1) := by decide +kernel
theorem q89 : (Jvm.Cond.initialized "java/util/HashMap") ∈ lw_all := lw_g (lw_at lw_m1 12 rfl) rfl
theorem q241 : (Jvm.Cond.instanceMethod ({ cls := "java/util/HashMap", name := "<init>", desc := "()V" } : Jvm.MethodName)) ∈ lw_all := lw_g (lw_at lw_m1 164 rfl) rfl
theorem q242 : (Jvm.Cond.code ({ cls := "java/util/HashMap", name := "<init>", desc := "()V" } : Jvm.MethodName) prog_45_method_7_code (1 : Nat) (Option.none : Option Jvm.ClassFile.FieldType)) ∈ lw_all := lw_g (lw_at lw_m1 165 rfl) rfl
theorem q243 : (Jvm.Cond.methodLink "java/util/HashMap" (43 : Nat) ({ cls := "java/util/AbstractMap", name := "<init>", desc := "()V" } : Jvm.MethodName)) ∈ lw_all := lw_g (lw_at lw_m1 166 rfl) rfl
theorem q247 : (Jvm.Cond.constantFloat "java/util/HashMap" (92 : Nat) (1061158912 : UInt32)) ∈ lw_all := lw_g (lw_at lw_m1 170 rfl) rfl
theorem q252 : (Jvm.Cond.fieldLink "java/util/HashMap" (105 : Nat) "java/util/HashMap" "table" "[Ljava/util/HashMap$Node;") ∈ lw_all := lw_g (lw_at lw_m1 175 rfl) rfl
theorem q253 : (Jvm.Cond.fieldLink "java/util/HashMap" (156 : Nat) "java/util/HashMap" "size" "I") ∈ lw_all := lw_g (lw_at lw_m1 176 rfl) rfl
theorem q256 : (Jvm.Cond.fieldLink "java/util/HashMap" (202 : Nat) "java/util/HashMap" "modCount" "I") ∈ lw_all := lw_g (lw_at lw_m1 179 rfl) rfl
theorem q257 : (Jvm.Cond.fieldLink "java/util/HashMap" (88 : Nat) "java/util/HashMap" "threshold" "I") ∈ lw_all := lw_g (lw_at lw_m1 180 rfl) rfl
theorem q258 : (Jvm.Cond.fieldLink "java/util/HashMap" (81 : Nat) "java/util/HashMap" "loadFactor" "F") ∈ lw_all := lw_g (lw_at lw_m1 181 rfl) rfl
theorem q268 : (Jvm.Cond.soleField "java/util/HashMap" "table") ∈ lw_all := lw_g (lw_at lw_m1 191 rfl) rfl
theorem q270 : (Jvm.Cond.soleField "java/util/HashMap" "entrySet") ∈ lw_all := lw_g (lw_at lw_m1 193 rfl) rfl
theorem q272 : (Jvm.Cond.soleField "java/util/HashMap" "size") ∈ lw_all := lw_g (lw_at lw_m1 195 rfl) rfl
theorem q274 : (Jvm.Cond.soleField "java/util/HashMap" "modCount") ∈ lw_all := lw_g (lw_at lw_m1 197 rfl) rfl
theorem q276 : (Jvm.Cond.soleField "java/util/HashMap" "threshold") ∈ lw_all := lw_g (lw_at lw_m1 199 rfl) rfl
theorem q278 : (Jvm.Cond.soleField "java/util/HashMap" "loadFactor") ∈ lw_all := lw_g (lw_at lw_m1 201 rfl) rfl
theorem q315 : (Jvm.Cond.castable "java/util/HashMap" "java/util/Map") ∈ lw_tbl := lw_at lw_m1 238 rfl
theorem q316 : (Jvm.Cond.selects "java/util/HashMap" ({ cls := "java/util/Map", name := "get", desc := "(Ljava/lang/Object;)Ljava/lang/Object;" } : Jvm.MethodName) ({ cls := "java/util/HashMap", name := "get", desc := "(Ljava/lang/Object;)Ljava/lang/Object;" } : Jvm.MethodName)) ∈ lw_all := lw_g (lw_at lw_m1 239 rfl) rfl
theorem q317 : (Jvm.Cond.unhidden "java/util/HashMap" "get" "(Ljava/lang/Object;)Ljava/lang/Object;") ∈ lw_tbl := lw_at lw_m2 0 rfl
theorem q318 : (Jvm.Cond.instanceMethod ({ cls := "java/util/HashMap", name := "get", desc := "(Ljava/lang/Object;)Ljava/lang/Object;" } : Jvm.MethodName)) ∈ lw_all := lw_g (lw_at lw_m2 1 rfl) rfl
theorem q319 : (Jvm.Cond.publicMethod ({ cls := "java/util/HashMap", name := "get", desc := "(Ljava/lang/Object;)Ljava/lang/Object;" } : Jvm.MethodName)) ∈ lw_tbl := lw_at lw_m2 2 rfl
theorem q320 : (Jvm.Cond.code ({ cls := "java/util/HashMap", name := "get", desc := "(Ljava/lang/Object;)Ljava/lang/Object;" } : Jvm.MethodName) prog_45_method_12_code (3 : Nat) (Option.some (Jvm.ClassFile.FieldType.object "java/lang/Object"))) ∈ lw_all := lw_g (lw_at lw_m2 3 rfl) rfl
theorem q321 : (Jvm.Cond.methodLink "java/util/HashMap" (158 : Nat) ({ cls := "java/util/HashMap", name := "getNode", desc := "(Ljava/lang/Object;)Ljava/util/HashMap$Node;" } : Jvm.MethodName)) ∈ lw_all := lw_g (lw_at lw_m2 4 rfl) rfl
theorem q322 : (Jvm.Cond.instanceMethod ({ cls := "java/util/HashMap", name := "getNode", desc := "(Ljava/lang/Object;)Ljava/util/HashMap$Node;" } : Jvm.MethodName)) ∈ lw_all := lw_g (lw_at lw_m2 5 rfl) rfl
theorem q323 : (Jvm.Cond.selects "java/util/HashMap" ({ cls := "java/util/HashMap", name := "getNode", desc := "(Ljava/lang/Object;)Ljava/util/HashMap$Node;" } : Jvm.MethodName) ({ cls := "java/util/HashMap", name := "getNode", desc := "(Ljava/lang/Object;)Ljava/util/HashMap$Node;" } : Jvm.MethodName)) ∈ lw_all := lw_g (lw_at lw_m2 6 rfl) rfl
theorem q324 : (Jvm.Cond.sameMethod "java/util/HashMap" "java/util/HashMap" "getNode" "(Ljava/lang/Object;)Ljava/util/HashMap$Node;") ∈ lw_all := lw_g (lw_at lw_m2 7 rfl) rfl
theorem q326 : (Jvm.Cond.code ({ cls := "java/util/HashMap", name := "getNode", desc := "(Ljava/lang/Object;)Ljava/util/HashMap$Node;" } : Jvm.MethodName) prog_45_method_13_code (8 : Nat) (Option.some (Jvm.ClassFile.FieldType.object "java/util/HashMap$Node"))) ∈ lw_all := lw_g (lw_at lw_m2 9 rfl) rfl
theorem q327 : (Jvm.Cond.methodLink "java/util/HashMap" (149 : Nat) ({ cls := "java/util/HashMap", name := "hash", desc := "(Ljava/lang/Object;)I" } : Jvm.MethodName)) ∈ lw_all := lw_g (lw_at lw_m2 10 rfl) rfl
theorem q328 : (Jvm.Cond.static ({ cls := "java/util/HashMap", name := "hash", desc := "(Ljava/lang/Object;)I" } : Jvm.MethodName)) ∈ lw_all := lw_g (lw_at lw_m2 11 rfl) rfl
theorem q329 : (Jvm.Cond.code ({ cls := "java/util/HashMap", name := "hash", desc := "(Ljava/lang/Object;)I" } : Jvm.MethodName) prog_45_method_1_code (2 : Nat) (Option.some Jvm.ClassFile.FieldType.int)) ∈ lw_all := lw_g (lw_at lw_m2 12 rfl) rfl
theorem q331 : (Jvm.Cond.methodLink "java/util/HashMap" (1 : Nat) ({ cls := "java/lang/Object", name := "hashCode", desc := "()I" } : Jvm.MethodName)) ∈ lw_all := lw_g (lw_at lw_m2 14 rfl) rfl
theorem q361 : (Jvm.Cond.methodLink "java/util/HashMap" (173 : Nat) ({ cls := "java/lang/Object", name := "equals", desc := "(Ljava/lang/Object;)Z" } : Jvm.MethodName)) ∈ lw_all := lw_g (lw_at lw_m2 44 rfl) rfl
theorem q394 : (Jvm.Cond.classLink "java/util/HashMap" (180 : Nat) "java/util/HashMap$TreeNode") ∈ lw_all := lw_g (lw_at lw_m2 77 rfl) rfl
theorem q395 : (Jvm.Cond.methodLink "java/util/HashMap" (182 : Nat) ({ cls := "java/util/HashMap$TreeNode", name := "getTreeNode", desc := "(ILjava/lang/Object;)Ljava/util/HashMap$TreeNode;" } : Jvm.MethodName)) ∈ lw_all := lw_g (lw_at lw_m2 78 rfl) rfl
theorem q409 : (Jvm.Cond.static ({ cls := "java/util/HashMap", name := "comparableClassFor", desc := "(Ljava/lang/Object;)Ljava/lang/Class;" } : Jvm.MethodName)) ∈ lw_all := lw_g (lw_at lw_m2 92 rfl) rfl
theorem q410 : (Jvm.Cond.code ({ cls := "java/util/HashMap", name := "comparableClassFor", desc := "(Ljava/lang/Object;)Ljava/lang/Class;" } : Jvm.MethodName) prog_45_method_2_code (9 : Nat) (Option.some (Jvm.ClassFile.FieldType.object "java/lang/Class"))) ∈ lw_all := lw_g (lw_at lw_m2 93 rfl) rfl
theorem q411 : (Jvm.Cond.classLink "java/util/HashMap" (7 : Nat) "java/lang/Comparable") ∈ lw_all := lw_g (lw_at lw_m2 94 rfl) rfl
theorem q412 : (Jvm.Cond.methodLink "java/util/HashMap" (9 : Nat) ({ cls := "java/lang/Object", name := "getClass", desc := "()Ljava/lang/Class;" } : Jvm.MethodName)) ∈ lw_all := lw_g (lw_at lw_m2 95 rfl) rfl
theorem q431 : (Jvm.Cond.selects "java/util/HashMap" ({ cls := "java/lang/Object", name := "getClass", desc := "()Ljava/lang/Class;" } : Jvm.MethodName) ({ cls := "java/lang/Object", name := "getClass", desc := "()Ljava/lang/Class;" } : Jvm.MethodName)) ∈ lw_all := lw_g (lw_at lw_m2 114 rfl) rfl
theorem q439 : (Jvm.Cond.classLink "java/util/HashMap" (13 : Nat) "java/lang/String") ∈ lw_all := lw_g (lw_at lw_m2 122 rfl) rfl
theorem q441 : (Jvm.Cond.static ({ cls := "java/util/HashMap", name := "compareComparables", desc := "(Ljava/lang/Class;Ljava/lang/Object;Ljava/lang/Object;)I" } : Jvm.MethodName)) ∈ lw_all := lw_g (lw_at lw_m2 124 rfl) rfl
theorem q442 : (Jvm.Cond.code ({ cls := "java/util/HashMap", name := "compareComparables", desc := "(Ljava/lang/Class;Ljava/lang/Object;Ljava/lang/Object;)I" } : Jvm.MethodName) prog_45_method_3_code (3 : Nat) (Option.some Jvm.ClassFile.FieldType.int)) ∈ lw_all := lw_g (lw_at lw_m2 125 rfl) rfl
theorem q443 : (Jvm.Cond.interfaceEntry "java/util/HashMap" (30 : Nat)) ∈ lw_tbl := lw_at lw_m2 126 rfl
theorem q444 : (Jvm.Cond.methodLink "java/util/HashMap" (30 : Nat) ({ cls := "java/lang/Comparable", name := "compareTo", desc := "(Ljava/lang/Object;)I" } : Jvm.MethodName)) ∈ lw_all := lw_g (lw_at lw_m2 127 rfl) rfl
theorem q644 : (Jvm.Cond.declares ({ cls := "java/util/HashMap", name := "getNode", desc := "(Ljava/lang/Object;)Ljava/util/HashMap$Node;" } : Jvm.MethodName)) ∈ lw_tbl := lw_at lw_m3 87 rfl
theorem q656 : (Jvm.Cond.selects "java/util/HashMap" ({ cls := "java/util/Map", name := "put", desc := "(Ljava/lang/Object;Ljava/lang/Object;)Ljava/lang/Object;" } : Jvm.MethodName) ({ cls := "java/util/HashMap", name := "put", desc := "(Ljava/lang/Object;Ljava/lang/Object;)Ljava/lang/Object;" } : Jvm.MethodName)) ∈ lw_all := lw_g (lw_at lw_m3 99 rfl) rfl
theorem q657 : (Jvm.Cond.unhidden "java/util/HashMap" "put" "(Ljava/lang/Object;Ljava/lang/Object;)Ljava/lang/Object;") ∈ lw_tbl := lw_at lw_m3 100 rfl
theorem q658 : (Jvm.Cond.instanceMethod ({ cls := "java/util/HashMap", name := "put", desc := "(Ljava/lang/Object;Ljava/lang/Object;)Ljava/lang/Object;" } : Jvm.MethodName)) ∈ lw_all := lw_g (lw_at lw_m3 101 rfl) rfl
theorem q659 : (Jvm.Cond.publicMethod ({ cls := "java/util/HashMap", name := "put", desc := "(Ljava/lang/Object;Ljava/lang/Object;)Ljava/lang/Object;" } : Jvm.MethodName)) ∈ lw_tbl := lw_at lw_m3 102 rfl
theorem q660 : (Jvm.Cond.code ({ cls := "java/util/HashMap", name := "put", desc := "(Ljava/lang/Object;Ljava/lang/Object;)Ljava/lang/Object;" } : Jvm.MethodName) prog_45_method_15_code (3 : Nat) (Option.some (Jvm.ClassFile.FieldType.object "java/lang/Object"))) ∈ lw_all := lw_g (lw_at lw_m3 103 rfl) rfl
theorem q661 : (Jvm.Cond.methodLink "java/util/HashMap" (152 : Nat) ({ cls := "java/util/HashMap", name := "putVal", desc := "(ILjava/lang/Object;Ljava/lang/Object;ZZ)Ljava/lang/Object;" } : Jvm.MethodName)) ∈ lw_all := lw_g (lw_at lw_m3 104 rfl) rfl
theorem q662 : (Jvm.Cond.instanceMethod ({ cls := "java/util/HashMap", name := "putVal", desc := "(ILjava/lang/Object;Ljava/lang/Object;ZZ)Ljava/lang/Object;" } : Jvm.MethodName)) ∈ lw_all := lw_g (lw_at lw_m3 105 rfl) rfl
theorem q663 : (Jvm.Cond.selects "java/util/HashMap" ({ cls := "java/util/HashMap", name := "putVal", desc := "(ILjava/lang/Object;Ljava/lang/Object;ZZ)Ljava/lang/Object;" } : Jvm.MethodName) ({ cls := "java/util/HashMap", name := "putVal", desc := "(ILjava/lang/Object;Ljava/lang/Object;ZZ)Ljava/lang/Object;" } : Jvm.MethodName)) ∈ lw_all := lw_g (lw_at lw_m3 106 rfl) rfl
theorem q664 : (Jvm.Cond.sameMethod "java/util/HashMap" "java/util/HashMap" "putVal" "(ILjava/lang/Object;Ljava/lang/Object;ZZ)Ljava/lang/Object;") ∈ lw_all := lw_g (lw_at lw_m3 107 rfl) rfl
theorem q666 : (Jvm.Cond.code ({ cls := "java/util/HashMap", name := "putVal", desc := "(ILjava/lang/Object;Ljava/lang/Object;ZZ)Ljava/lang/Object;" } : Jvm.MethodName) prog_45_method_16_code (13 : Nat) (Option.some (Jvm.ClassFile.FieldType.object "java/lang/Object"))) ∈ lw_all := lw_g (lw_at lw_m3 109 rfl) rfl
theorem q667 : (Jvm.Cond.methodLink "java/util/HashMap" (117 : Nat) ({ cls := "java/util/HashMap", name := "resize", desc := "()[Ljava/util/HashMap$Node;" } : Jvm.MethodName)) ∈ lw_all := lw_g (lw_at lw_m3 110 rfl) rfl
theorem q668 : (Jvm.Cond.instanceMethod ({ cls := "java/util/HashMap", name := "resize", desc := "()[Ljava/util/HashMap$Node;" } : Jvm.MethodName)) ∈ lw_all := lw_g (lw_at lw_m3 111 rfl) rfl
theorem q669 : (Jvm.Cond.selects "java/util/HashMap" ({ cls := "java/util/HashMap", name := "resize", desc := "()[Ljava/util/HashMap$Node;" } : Jvm.MethodName) ({ cls := "java/util/HashMap", name := "resize", desc := "()[Ljava/util/HashMap$Node;" } : Jvm.MethodName)) ∈ lw_all := lw_g (lw_at lw_m3 112 rfl) rfl
theorem q670 : (Jvm.Cond.sameMethod "java/util/HashMap" "java/util/HashMap" "resize" "()[Ljava/util/HashMap$Node;") ∈ lw_all := lw_g (lw_at lw_m3 113 rfl) rfl
theorem q672 : (Jvm.Cond.code ({ cls := "java/util/HashMap", name := "resize", desc := "()[Ljava/util/HashMap$Node;" } : Jvm.MethodName) prog_45_method_17_code (14 : Nat) (Option.some (Jvm.ClassFile.FieldType.array (Jvm.ClassFile.FieldType.object "java/util/HashMap$Node")))) ∈ lw_all := lw_g (lw_at lw_m3 115 rfl) rfl
theorem q673 : (Jvm.Cond.constant "java/util/HashMap" (42 : Nat) (1073741824 : Int32)) ∈ lw_all := lw_g (lw_at lw_m3 116 rfl) rfl
theorem q674 : (Jvm.Cond.constant "java/util/HashMap" (209 : Nat) (2147483647 : Int32)) ∈ lw_all := lw_g (lw_at lw_m3 117 rfl) rfl
theorem q675 : (Jvm.Cond.constantFloat "java/util/HashMap" (210 : Nat) (1317011456 : UInt32)) ∈ lw_all := lw_g (lw_at lw_m3 118 rfl) rfl
theorem q676 : (Jvm.Cond.classLink "java/util/HashMap" (163 : Nat) "java/util/HashMap$Node") ∈ lw_all := lw_g (lw_at lw_m3 119 rfl) rfl
theorem q678 : (Jvm.Cond.methodLink "java/util/HashMap" (211 : Nat) ({ cls := "java/util/HashMap$TreeNode", name := "split", desc := "(Ljava/util/HashMap;[Ljava/util/HashMap$Node;II)V" } : Jvm.MethodName)) ∈ lw_all := lw_g (lw_at lw_m3 121 rfl) rfl
theorem q688 : (Jvm.Cond.instanceMethod ({ cls := "java/util/HashMap", name := "replacementNode", desc := "(Ljava/util/HashMap$Node;Ljava/util/HashMap$Node;)Ljava/util/HashMap$Node;" } : Jvm.MethodName)) ∈ lw_all := lw_g (lw_at lw_m3 131 rfl) rfl
theorem q689 : (Jvm.Cond.selects "java/util/HashMap" ({ cls := "java/util/HashMap", name := "replacementNode", desc := "(Ljava/util/HashMap$Node;Ljava/util/HashMap$Node;)Ljava/util/HashMap$Node;" } : Jvm.MethodName) ({ cls := "java/util/HashMap", name := "replacementNode", desc := "(Ljava/util/HashMap$Node;Ljava/util/HashMap$Node;)Ljava/util/HashMap$Node;" } : Jvm.MethodName)) ∈ lw_all := lw_g (lw_at lw_m3 132 rfl) rfl
theorem q690 : (Jvm.Cond.sameMethod "java/util/HashMap" "java/util/HashMap" "replacementNode" "(Ljava/util/HashMap$Node;Ljava/util/HashMap$Node;)Ljava/util/HashMap$Node;") ∈ lw_all := lw_g (lw_at lw_m3 133 rfl) rfl
theorem q709 : (Jvm.Cond.fieldLink "java/util/HashMap" (168 : Nat) "java/util/HashMap$Node" "hash" "I") ∈ lw_all := lw_g (lw_at lw_m3 152 rfl) rfl
theorem q715 : (Jvm.Cond.fieldLink "java/util/HashMap" (170 : Nat) "java/util/HashMap$Node" "key" "Ljava/lang/Object;") ∈ lw_all := lw_g (lw_at lw_m3 158 rfl) rfl
theorem q719 : (Jvm.Cond.fieldLink "java/util/HashMap" (162 : Nat) "java/util/HashMap$Node" "value" "Ljava/lang/Object;") ∈ lw_all := lw_g (lw_at lw_m3 162 rfl) rfl
theorem q725 : (Jvm.Cond.fieldLink "java/util/HashMap" (177 : Nat) "java/util/HashMap$Node" "next" "Ljava/util/HashMap$Node;") ∈ lw_all := lw_g (lw_at lw_m3 168 rfl) rfl
theorem q726 : (Jvm.Cond.fieldLink "java/util/HashMap" (223 : Nat) "java/util/HashMap$TreeNode" "next" "Ljava/util/HashMap$Node;") ∈ lw_all := lw_g (lw_at lw_m3 169 rfl) rfl
theorem q744 : (Jvm.Cond.code ({ cls := "java/util/HashMap", name := "replacementNode", desc := "(Ljava/util/HashMap$Node;Ljava/util/HashMap$Node;)Ljava/util/HashMap$Node;" } : Jvm.MethodName) prog_45_method_47_code (3 : Nat) (Option.some (Jvm.ClassFile.FieldType.object "java/util/HashMap$Node"))) ∈ lw_all := lw_g (lw_at lw_m3 187 rfl) rfl
theorem q746 : (Jvm.Cond.methodLink "java/util/HashMap" (375 : Nat) ({ cls := "java/util/HashMap$Node", name := "<init>", desc := "(ILjava/lang/Object;Ljava/lang/Object;Ljava/util/HashMap$Node;)V" } : Jvm.MethodName)) ∈ lw_all := lw_g (lw_at lw_m3 189 rfl) rfl
theorem q770 : (Jvm.Cond.methodLink "java/util/HashMap" (186 : Nat) ({ cls := "java/util/HashMap", name := "newNode", desc := "(ILjava/lang/Object;Ljava/lang/Object;Ljava/util/HashMap$Node;)Ljava/util/HashMap$Node;" } : Jvm.MethodName)) ∈ lw_all := lw_g (lw_at lw_m3 213 rfl) rfl
theorem q771 : (Jvm.Cond.instanceMethod ({ cls := "java/util/HashMap", name := "newNode", desc := "(ILjava/lang/Object;Ljava/lang/Object;Ljava/util/HashMap$Node;)Ljava/util/HashMap$Node;" } : Jvm.MethodName)) ∈ lw_all := lw_g (lw_at lw_m3 214 rfl) rfl
theorem q772 : (Jvm.Cond.selects "java/util/HashMap" ({ cls := "java/util/HashMap", name := "newNode", desc := "(ILjava/lang/Object;Ljava/lang/Object;Ljava/util/HashMap$Node;)Ljava/util/HashMap$Node;" } : Jvm.MethodName) ({ cls := "java/util/HashMap", name := "newNode", desc := "(ILjava/lang/Object;Ljava/lang/Object;Ljava/util/HashMap$Node;)Ljava/util/HashMap$Node;" } : Jvm.MethodName)) ∈ lw_all := lw_g (lw_at lw_m3 215 rfl) rfl
theorem q773 : (Jvm.Cond.sameMethod "java/util/HashMap" "java/util/HashMap" "newNode" "(ILjava/lang/Object;Ljava/lang/Object;Ljava/util/HashMap$Node;)Ljava/util/HashMap$Node;") ∈ lw_all := lw_g (lw_at lw_m3 216 rfl) rfl
theorem q781 : (Jvm.Cond.code ({ cls := "java/util/HashMap", name := "newNode", desc := "(ILjava/lang/Object;Ljava/lang/Object;Ljava/util/HashMap$Node;)Ljava/util/HashMap$Node;" } : Jvm.MethodName) prog_45_method_46_code (5 : Nat) (Option.some (Jvm.ClassFile.FieldType.object "java/util/HashMap$Node"))) ∈ lw_all := lw_g (lw_at lw_m3 224 rfl) rfl
theorem q782 : (Jvm.Cond.methodLink "java/util/HashMap" (190 : Nat) ({ cls := "java/util/HashMap$TreeNode", name := "putTreeVal", desc := "(Ljava/util/HashMap;[Ljava/util/HashMap$Node;ILjava/lang/Object;Ljava/lang/Object;)Ljava/util/HashMap$TreeNode;" } : Jvm.MethodName)) ∈ lw_all := lw_g (lw_at lw_m3 225 rfl) rfl
theorem q787 : (Jvm.Cond.instanceMethod ({ cls := "java/util/HashMap", name := "newTreeNode", desc := "(ILjava/lang/Object;Ljava/lang/Object;Ljava/util/HashMap$Node;)Ljava/util/HashMap$TreeNode;" } : Jvm.MethodName)) ∈ lw_all := lw_g (lw_at lw_m3 230 rfl) rfl
theorem q788 : (Jvm.Cond.selects "java/util/HashMap" ({ cls := "java/util/HashMap", name := "newTreeNode", desc := "(ILjava/lang/Object;Ljava/lang/Object;Ljava/util/HashMap$Node;)Ljava/util/HashMap$TreeNode;" } : Jvm.MethodName) ({ cls := "java/util/HashMap", name := "newTreeNode", desc := "(ILjava/lang/Object;Ljava/lang/Object;Ljava/util/HashMap$Node;)Ljava/util/HashMap$TreeNode;" } : Jvm.MethodName)) ∈ lw_all := lw_g (lw_at lw_m3 231 rfl) rfl
theorem q789 : (Jvm.Cond.sameMethod "java/util/HashMap" "java/util/HashMap" "newTreeNode" "(ILjava/lang/Object;Ljava/lang/Object;Ljava/util/HashMap$Node;)Ljava/util/HashMap$TreeNode;") ∈ lw_all := lw_g (lw_at lw_m3 232 rfl) rfl
theorem q803 : (Jvm.Cond.fieldLink "java/util/HashMap" (219 : Nat) "java/util/HashMap$TreeNode" "prev" "Ljava/util/HashMap$TreeNode;") ∈ lw_all := lw_g (lw_at lw_m4 6 rfl) rfl
theorem q822 : (Jvm.Cond.code ({ cls := "java/util/HashMap", name := "newTreeNode", desc := "(ILjava/lang/Object;Ljava/lang/Object;Ljava/util/HashMap$Node;)Ljava/util/HashMap$TreeNode;" } : Jvm.MethodName) prog_45_method_48_code (5 : Nat) (Option.some (Jvm.ClassFile.FieldType.object "java/util/HashMap$TreeNode"))) ∈ lw_all := lw_g (lw_at lw_m4 25 rfl) rfl
theorem q823 : (Jvm.Cond.methodLink "java/util/HashMap" (378 : Nat) ({ cls := "java/util/HashMap$TreeNode", name := "<init>", desc := "(ILjava/lang/Object;Ljava/lang/Object;Ljava/util/HashMap$Node;)V" } : Jvm.MethodName)) ∈ lw_all := lw_g (lw_at lw_m4 26 rfl) rfl
theorem q824 : (Jvm.Cond.methodLink "java/util/HashMap" (194 : Nat) ({ cls := "java/util/HashMap", name := "treeifyBin", desc := "([Ljava/util/HashMap$Node;I)V" } : Jvm.MethodName)) ∈ lw_all := lw_g (lw_at lw_m4 27 rfl) rfl
theorem q825 : (Jvm.Cond.instanceMethod ({ cls := "java/util/HashMap", name := "treeifyBin", desc := "([Ljava/util/HashMap$Node;I)V" } : Jvm.MethodName)) ∈ lw_all := lw_g (lw_at lw_m4 28 rfl) rfl
theorem q826 : (Jvm.Cond.selects "java/util/HashMap" ({ cls := "java/util/HashMap", name := "treeifyBin", desc := "([Ljava/util/HashMap$Node;I)V" } : Jvm.MethodName) ({ cls := "java/util/HashMap", name := "treeifyBin", desc := "([Ljava/util/HashMap$Node;I)V" } : Jvm.MethodName)) ∈ lw_all := lw_g (lw_at lw_m4 29 rfl) rfl
theorem q827 : (Jvm.Cond.sameMethod "java/util/HashMap" "java/util/HashMap" "treeifyBin" "([Ljava/util/HashMap$Node;I)V") ∈ lw_all := lw_g (lw_at lw_m4 30 rfl) rfl
theorem q829 : (Jvm.Cond.code ({ cls := "java/util/HashMap", name := "treeifyBin", desc := "([Ljava/util/HashMap$Node;I)V" } : Jvm.MethodName) prog_45_method_18_code (9 : Nat) (Option.none : Option Jvm.ClassFile.FieldType)) ∈ lw_all := lw_g (lw_at lw_m4 32 rfl) rfl
theorem q830 : (Jvm.Cond.methodLink "java/util/HashMap" (215 : Nat) ({ cls := "java/util/HashMap", name := "replacementTreeNode", desc := "(Ljava/util/HashMap$Node;Ljava/util/HashMap$Node;)Ljava/util/HashMap$TreeNode;" } : Jvm.MethodName)) ∈ lw_all := lw_g (lw_at lw_m4 33 rfl) rfl
theorem q831 : (Jvm.Cond.instanceMethod ({ cls := "java/util/HashMap", name := "replacementTreeNode", desc := "(Ljava/util/HashMap$Node;Ljava/util/HashMap$Node;)Ljava/util/HashMap$TreeNode;" } : Jvm.MethodName)) ∈ lw_all := lw_g (lw_at lw_m4 34 rfl) rfl
theorem q832 : (Jvm.Cond.selects "java/util/HashMap" ({ cls := "java/util/HashMap", name := "replacementTreeNode", desc := "(Ljava/util/HashMap$Node;Ljava/util/HashMap$Node;)Ljava/util/HashMap$TreeNode;" } : Jvm.MethodName) ({ cls := "java/util/HashMap", name := "replacementTreeNode", desc := "(Ljava/util/HashMap$Node;Ljava/util/HashMap$Node;)Ljava/util/HashMap$TreeNode;" } : Jvm.MethodName)) ∈ lw_all := lw_g (lw_at lw_m4 35 rfl) rfl
theorem q833 : (Jvm.Cond.sameMethod "java/util/HashMap" "java/util/HashMap" "replacementTreeNode" "(Ljava/util/HashMap$Node;Ljava/util/HashMap$Node;)Ljava/util/HashMap$TreeNode;") ∈ lw_all := lw_g (lw_at lw_m4 36 rfl) rfl
theorem q837 : (Jvm.Cond.code ({ cls := "java/util/HashMap", name := "replacementTreeNode", desc := "(Ljava/util/HashMap$Node;Ljava/util/HashMap$Node;)Ljava/util/HashMap$TreeNode;" } : Jvm.MethodName) prog_45_method_49_code (3 : Nat) (Option.some (Jvm.ClassFile.FieldType.object "java/util/HashMap$TreeNode"))) ∈ lw_all := lw_g (lw_at lw_m4 40 rfl) rfl
theorem q838 : (Jvm.Cond.methodLink "java/util/HashMap" (224 : Nat) ({ cls := "java/util/HashMap$TreeNode", name := "treeify", desc := "([Ljava/util/HashMap$Node;)V" } : Jvm.MethodName)) ∈ lw_all := lw_g (lw_at lw_m4 41 rfl) rfl
theorem q839 : (Jvm.Cond.methodLink "java/util/HashMap" (198 : Nat) ({ cls := "java/util/HashMap", name := "afterNodeAccess", desc := "(Ljava/util/HashMap$Node;)V" } : Jvm.MethodName)) ∈ lw_all := lw_g (lw_at lw_m4 42 rfl) rfl
theorem q840 : (Jvm.Cond.instanceMethod ({ cls := "java/util/HashMap", name := "afterNodeAccess", desc := "(Ljava/util/HashMap$Node;)V" } : Jvm.MethodName)) ∈ lw_all := lw_g (lw_at lw_m4 43 rfl) rfl
theorem q841 : (Jvm.Cond.selects "java/util/HashMap" ({ cls := "java/util/HashMap", name := "afterNodeAccess", desc := "(Ljava/util/HashMap$Node;)V" } : Jvm.MethodName) ({ cls := "java/util/HashMap", name := "afterNodeAccess", desc := "(Ljava/util/HashMap$Node;)V" } : Jvm.MethodName)) ∈ lw_all := lw_g (lw_at lw_m4 44 rfl) rfl
theorem q842 : (Jvm.Cond.sameMethod "java/util/HashMap" "java/util/HashMap" "afterNodeAccess" "(Ljava/util/HashMap$Node;)V") ∈ lw_all := lw_g (lw_at lw_m4 45 rfl) rfl
theorem q844 : (Jvm.Cond.code ({ cls := "java/util/HashMap", name := "afterNodeAccess", desc := "(Ljava/util/HashMap$Node;)V" } : Jvm.MethodName) prog_45_method_51_code (2 : Nat) (Option.none : Option Jvm.ClassFile.FieldType)) ∈ lw_all := lw_g (lw_at lw_m4 47 rfl) rfl
theorem q845 : (Jvm.Cond.methodLink "java/util/HashMap" (205 : Nat) ({ cls := "java/util/HashMap", name := "afterNodeInsertion", desc := "(Z)V" } : Jvm.MethodName)) ∈ lw_all := lw_g (lw_at lw_m4 48 rfl) rfl
theorem q846 : (Jvm.Cond.instanceMethod ({ cls := "java/util/HashMap", name := "afterNodeInsertion", desc := "(Z)V" } : Jvm.MethodName)) ∈ lw_all := lw_g (lw_at lw_m4 49 rfl) rfl
theorem q847 : (Jvm.Cond.selects "java/util/HashMap" ({ cls := "java/util/HashMap", name := "afterNodeInsertion", desc := "(Z)V" } : Jvm.MethodName) ({ cls := "java/util/HashMap", name := "afterNodeInsertion", desc := "(Z)V" } : Jvm.MethodName)) ∈ lw_all := lw_g (lw_at lw_m4 50 rfl) rfl
theorem q848 : (Jvm.Cond.sameMethod "java/util/HashMap" "java/util/HashMap" "afterNodeInsertion" "(Z)V") ∈ lw_all := lw_g (lw_at lw_m4 51 rfl) rfl
theorem q856 : (Jvm.Cond.code ({ cls := "java/util/HashMap", name := "afterNodeInsertion", desc := "(Z)V" } : Jvm.MethodName) prog_45_method_52_code (2 : Nat) (Option.none : Option Jvm.ClassFile.FieldType)) ∈ lw_all := lw_g (lw_at lw_m4 59 rfl) rfl
theorem q979 : (Jvm.Cond.selects "java/util/HashMap" ({ cls := "java/util/Map", name := "size", desc := "()I" } : Jvm.MethodName) ({ cls := "java/util/HashMap", name := "size", desc := "()I" } : Jvm.MethodName)) ∈ lw_all := lw_g (lw_at lw_m4 182 rfl) rfl
theorem q980 : (Jvm.Cond.unhidden "java/util/HashMap" "size" "()I") ∈ lw_tbl := lw_at lw_m4 183 rfl
theorem q981 : (Jvm.Cond.instanceMethod ({ cls := "java/util/HashMap", name := "size", desc := "()I" } : Jvm.MethodName)) ∈ lw_all := lw_g (lw_at lw_m4 184 rfl) rfl
theorem q982 : (Jvm.Cond.publicMethod ({ cls := "java/util/HashMap", name := "size", desc := "()I" } : Jvm.MethodName)) ∈ lw_tbl := lw_at lw_m4 185 rfl
theorem q983 : (Jvm.Cond.code ({ cls := "java/util/HashMap", name := "size", desc := "()I" } : Jvm.MethodName) prog_45_method_10_code (1 : Nat) (Option.some Jvm.ClassFile.FieldType.int)) ∈ lw_all := lw_g (lw_at lw_m4 186 rfl) rfl
theorem q1502 : (Jvm.Cond.instantiable "java/util/HashMap" (8 : Nat)) ∈ lw_all := lw_g (lw_at lw_m6 225 rfl) rfl
theorem q1504 : (Jvm.Cond.lays "java/util/HashMap" "java/util/HashMap" "table" "[Ljava/util/HashMap$Node;") ∈ lw_all := lw_g (lw_at lw_m6 227 rfl) rfl
theorem q1505 : (Jvm.Cond.lays "java/util/HashMap" "java/util/HashMap" "entrySet" "Ljava/util/Set;") ∈ lw_all := lw_g (lw_at lw_m6 228 rfl) rfl
theorem q1506 : (Jvm.Cond.lays "java/util/HashMap" "java/util/HashMap" "size" "I") ∈ lw_all := lw_g (lw_at lw_m6 229 rfl) rfl
theorem q1507 : (Jvm.Cond.lays "java/util/HashMap" "java/util/HashMap" "modCount" "I") ∈ lw_all := lw_g (lw_at lw_m6 230 rfl) rfl
theorem q1508 : (Jvm.Cond.lays "java/util/HashMap" "java/util/HashMap" "threshold" "I") ∈ lw_all := lw_g (lw_at lw_m6 231 rfl) rfl
theorem q1509 : (Jvm.Cond.laysFinal "java/util/HashMap" "java/util/HashMap" "loadFactor" "F") ∈ lw_all := lw_g (lw_at lw_m6 232 rfl) rfl
theorem q1510 : (Jvm.Cond.lays "java/util/HashMap" "java/util/AbstractMap" "keySet" "Ljava/util/Set;") ∈ lw_all := lw_g (lw_at lw_m6 233 rfl) rfl
theorem q1511 : (Jvm.Cond.lays "java/util/HashMap" "java/util/AbstractMap" "values" "Ljava/util/Collection;") ∈ lw_all := lw_g (lw_at lw_m6 234 rfl) rfl
theorem q1512 : (Jvm.Cond.superclass "java/util/HashMap" "java/util/AbstractMap") ∈ lw_all := lw_g (lw_at lw_m6 235 rfl) rfl
theorem q2274 : (Jvm.Cond.sameMethod "java/util/HashMap" "java/util/HashMap" "put" "(Ljava/lang/Object;Ljava/lang/Object;)Ljava/lang/Object;") ∈ lw_all := lw_g (lw_at lw_m10 37 rfl) rfl
theorem q2275 : (Jvm.Cond.selects "java/util/HashMap" ({ cls := "java/util/HashMap", name := "put", desc := "(Ljava/lang/Object;Ljava/lang/Object;)Ljava/lang/Object;" } : Jvm.MethodName) ({ cls := "java/util/HashMap", name := "put", desc := "(Ljava/lang/Object;Ljava/lang/Object;)Ljava/lang/Object;" } : Jvm.MethodName)) ∈ lw_all := lw_g (lw_at lw_m10 38 rfl) rfl
theorem q2305 : (Jvm.Cond.castable "java/util/HashMap" "java/lang/Object") ∈ lw_tbl := lw_at lw_m10 68 rfl
theorem in_J8 : ∀ w ∈ wsJ80, w ∈ lw_all := lw_in wsJ80 [1510, 1511, 1504, 1505, 1506, 1507, 1508, 1509] (by decide +kernel) (by decide +kernel)
/-! java/util/LinkedHashMap -/
set_option maxRecDepth 100000
def RJ9 : String := "java/util/LinkedHashMap"
def TJ9 : u_T := fun k => match k with
  | 0 => ("java/util/AbstractMap", "keySet", "Ljava/util/Set;", false)
  | 1 => ("java/util/AbstractMap", "values", "Ljava/util/Collection;", false)
  | 2 => ("java/util/HashMap", "table", "[Ljava/util/HashMap$Node;", false)
  | 3 => ("java/util/HashMap", "entrySet", "Ljava/util/Set;", false)
  | 4 => ("java/util/HashMap", "size", "I", false)
  | 5 => ("java/util/HashMap", "modCount", "I", false)
  | 6 => ("java/util/HashMap", "threshold", "I", false)
  | 7 => ("java/util/HashMap", "loadFactor", "F", true)
  | 8 => ("java/util/LinkedHashMap", "head", "Ljava/util/LinkedHashMap$Entry;", false)
  | 9 => ("java/util/LinkedHashMap", "tail", "Ljava/util/LinkedHashMap$Entry;", false)
  | 10 => ("java/util/LinkedHashMap", "accessOrder", "Z", true)
  | _ => ("java/util/LinkedHashMap", "putMode", "I", false)
def tyJ9 : Nat → FieldType := fun k => match k with
  | 0 => .object "java/util/Set"
  | 1 => .object "java/util/Collection"
  | 2 => .array (.object "java/util/HashMap$Node")
  | 3 => .object "java/util/Set"
  | 4 => .int
  | 5 => .int
  | 6 => .int
  | 7 => .float
  | 8 => .object "java/util/LinkedHashMap$Entry"
  | 9 => .object "java/util/LinkedHashMap$Entry"
  | 10 => .boolean
  | _ => .int
abbrev wsJ90 : List Cond := u_ws RJ9 TJ9 12
theorem nmJ9 : ∀ a, a < 12 → ∀ b, b < 12 → a ≠ b → (TJ9 a).2.1 ≠ (TJ9 b).2.1 := by decide +kernel
theorem tyJ9_ok : ∀ k, k < 12 → parseFieldDescriptor (TJ9 k).2.2.1 = some (tyJ9 k) := by decide +kernel
abbrev cJ9_init : ByteArray := prog_49_method_16_code
def yJ9_init : MethodName := ⟨RJ9, "<init>", "()V"⟩
def dkwJ9_init_0 : List UInt8 := [42, 183, 0, 87, 42, 3, 181, 0, 1, 42, 3, 181, 0, 64, 177]
abbrev dktJ9_init_0 : List UInt8 := dkwJ9_init_0 ++ []
theorem dksJ9_init_0 : cJ9_init.data.toList.drop 0 = dktJ9_init_0 := by decide +kernel
theorem dJ9_init_0 : decode cJ9_init 0 = .ok (.aload_n 0, 1) := dk_42 (dk_at dksJ9_init_0 0 rfl rfl)
theorem dJ9_init_1 : decode cJ9_init 1 = .ok (.invokespecial 87, 3) := dk_183 0 87 (dk_at dksJ9_init_0 1 rfl rfl)
theorem dJ9_init_4 : decode cJ9_init 4 = .ok (.aload_n 0, 1) := dk_42 (dk_at dksJ9_init_0 4 rfl rfl)
theorem dJ9_init_5 : decode cJ9_init 5 = .ok (.iconst 0, 1) := dk_3 (dk_at dksJ9_init_0 5 rfl rfl)
theorem dJ9_init_6 : decode cJ9_init 6 = .ok (.putfield 1, 3) := dk_181 0 1 (dk_at dksJ9_init_0 6 rfl rfl)
theorem dJ9_init_9 : decode cJ9_init 9 = .ok (.aload_n 0, 1) := dk_42 (dk_at dksJ9_init_0 9 rfl rfl)
theorem dJ9_init_10 : decode cJ9_init 10 = .ok (.iconst 0, 1) := dk_3 (dk_at dksJ9_init_0 10 rfl rfl)
theorem dJ9_init_11 : decode cJ9_init 11 = .ok (.putfield 64, 3) := dk_181 0 64 (dk_at dksJ9_init_0 11 rfl rfl)
theorem dJ9_init_14 : decode cJ9_init 14 = .ok (.return_, 1) := dk_177 (dk_at dksJ9_init_0 14 rfl rfl)
abbrev cJ9_get : ByteArray := prog_49_method_20_code
def yJ9_get : MethodName := ⟨RJ9, "get", "(Ljava/lang/Object;)Ljava/lang/Object;"⟩
def dkwJ9_get_1 : List UInt8 := [44, 180, 0, 107, 176]
abbrev dktJ9_get_1 : List UInt8 := dkwJ9_get_1 ++ []
def dkwJ9_get_0 : List UInt8 := [42, 43, 182, 0, 99, 89, 77, 199, 0, 5, 1, 176, 42, 180, 0, 64, 153, 0, 8, 42, 44, 182, 0, 103]
abbrev dktJ9_get_0 : List UInt8 := dkwJ9_get_0 ++ dktJ9_get_1
theorem dksJ9_get_0 : cJ9_get.data.toList.drop 0 = dktJ9_get_0 := by decide +kernel
theorem dksJ9_get_1 : cJ9_get.data.toList.drop 24 = dktJ9_get_1 := dk_seg dksJ9_get_0 24 rfl rfl
theorem dJ9_get_0 : decode cJ9_get 0 = .ok (.aload_n 0, 1) := dk_42 (dk_at dksJ9_get_0 0 rfl rfl)
theorem dJ9_get_1 : decode cJ9_get 1 = .ok (.aload_n 1, 1) := dk_43 (dk_at dksJ9_get_0 1 rfl rfl)
theorem dJ9_get_2 : decode cJ9_get 2 = .ok (.invokevirtual 99, 3) := dk_182 0 99 (dk_at dksJ9_get_0 2 rfl rfl)
theorem dJ9_get_5 : decode cJ9_get 5 = .ok (.dup, 1) := dk_89 (dk_at dksJ9_get_0 5 rfl rfl)
theorem dJ9_get_6 : decode cJ9_get 6 = .ok (.astore_n 2, 1) := dk_77 (dk_at dksJ9_get_0 6 rfl rfl)
theorem dJ9_get_7 : decode cJ9_get 7 = .ok (.ifnonnull 5, 3) := dk_199 0 5 (dk_at dksJ9_get_0 7 rfl rfl)
theorem dJ9_get_10 : decode cJ9_get 10 = .ok (.aconst_null, 1) := dk_1 (dk_at dksJ9_get_0 10 rfl rfl)
theorem dJ9_get_11 : decode cJ9_get 11 = .ok (.areturn, 1) := dk_176 (dk_at dksJ9_get_0 11 rfl rfl)
theorem dJ9_get_12 : decode cJ9_get 12 = .ok (.aload_n 0, 1) := dk_42 (dk_at dksJ9_get_0 12 rfl rfl)
theorem dJ9_get_13 : decode cJ9_get 13 = .ok (.getfield 64, 3) := dk_180 0 64 (dk_at dksJ9_get_0 13 rfl rfl)
theorem dJ9_get_16 : decode cJ9_get 16 = .ok (.ifCond .eq 8, 3) := dk_153 0 8 (dk_at dksJ9_get_0 16 rfl rfl)
theorem dJ9_get_19 : decode cJ9_get 19 = .ok (.aload_n 0, 1) := dk_42 (dk_at dksJ9_get_0 19 rfl rfl)
theorem dJ9_get_20 : decode cJ9_get 20 = .ok (.aload_n 2, 1) := dk_44 (dk_at dksJ9_get_0 20 rfl rfl)
theorem dJ9_get_21 : decode cJ9_get 21 = .ok (.invokevirtual 103, 3) := dk_182 0 103 (dk_at dksJ9_get_0 21 rfl rfl)
theorem dJ9_get_24 : decode cJ9_get 24 = .ok (.aload_n 2, 1) := dk_44 (dk_at dksJ9_get_1 0 rfl rfl)
theorem dJ9_get_25 : decode cJ9_get 25 = .ok (.getfield 107, 3) := dk_180 0 107 (dk_at dksJ9_get_1 1 rfl rfl)
theorem dJ9_get_28 : decode cJ9_get 28 = .ok (.areturn, 1) := dk_176 (dk_at dksJ9_get_1 4 rfl rfl)
abbrev cJ9_afterNodeAccess : ByteArray := prog_49_method_10_code
def yJ9_afterNodeAccess : MethodName := ⟨RJ9, "afterNodeAccess", "(Ljava/util/HashMap$Node;)V"⟩
def dkwJ9_afterNodeAccess_11 : List UInt8 := [181, 0, 7, 42, 89, 180, 0, 68, 4, 96, 181, 0, 68, 177]
abbrev dktJ9_afterNodeAccess_11 : List UInt8 := dkwJ9_afterNodeAccess_11 ++ []
def dkwJ9_afterNodeAccess_10 : List UInt8 := [25, 4, 181, 0, 11, 167, 0, 15, 25, 4, 45, 181, 0, 14, 45, 25, 4, 181, 0, 19, 42, 25, 4]
abbrev dktJ9_afterNodeAccess_10 : List UInt8 := dkwJ9_afterNodeAccess_10 ++ dktJ9_afterNodeAccess_11
def dkwJ9_afterNodeAccess_9 : List UInt8 := [25, 5, 198, 0, 13, 25, 5, 25, 6, 181, 0, 14, 167, 0, 6, 25, 6, 78, 45, 199, 0, 12, 42]
abbrev dktJ9_afterNodeAccess_9 : List UInt8 := dkwJ9_afterNodeAccess_9 ++ dktJ9_afterNodeAccess_10
def dkwJ9_afterNodeAccess_8 : List UInt8 := [181, 0, 19, 25, 6, 199, 0, 12, 42, 25, 5, 181, 0, 11, 167, 0, 10, 25, 6, 25, 5, 181, 0, 19]
abbrev dktJ9_afterNodeAccess_8 : List UInt8 := dkwJ9_afterNodeAccess_8 ++ dktJ9_afterNodeAccess_9
def dkwJ9_afterNodeAccess_7 : List UInt8 := [43, 192, 0, 15, 58, 4, 25, 4, 180, 0, 19, 58, 5, 25, 4, 180, 0, 14, 58, 6, 25, 4, 1]
abbrev dktJ9_afterNodeAccess_7 : List UInt8 := dkwJ9_afterNodeAccess_7 ++ dktJ9_afterNodeAccess_8
def dkwJ9_afterNodeAccess_6 : List UInt8 := [181, 0, 68, 167, 0, 127, 42, 180, 0, 1, 4, 160, 0, 119, 42, 180, 0, 7, 89, 78, 43, 165, 0, 109]
abbrev dktJ9_afterNodeAccess_6 : List UInt8 := dkwJ9_afterNodeAccess_6 ++ dktJ9_afterNodeAccess_7
def dkwJ9_afterNodeAccess_5 : List UInt8 := [181, 0, 19, 44, 25, 4, 181, 0, 14, 42, 25, 4, 181, 0, 11, 42, 89, 180, 0, 68, 4, 96]
abbrev dktJ9_afterNodeAccess_5 : List UInt8 := dkwJ9_afterNodeAccess_5 ++ dktJ9_afterNodeAccess_6
def dkwJ9_afterNodeAccess_4 : List UInt8 := [167, 0, 6, 25, 5, 77, 44, 199, 0, 12, 42, 25, 4, 181, 0, 7, 167, 0, 15, 25, 4, 44]
abbrev dktJ9_afterNodeAccess_4 : List UInt8 := dkwJ9_afterNodeAccess_4 ++ dktJ9_afterNodeAccess_5
def dkwJ9_afterNodeAccess_3 : List UInt8 := [167, 0, 10, 25, 5, 25, 6, 181, 0, 14, 25, 6, 198, 0, 13, 25, 6, 25, 5, 181, 0, 19]
abbrev dktJ9_afterNodeAccess_3 : List UInt8 := dkwJ9_afterNodeAccess_3 ++ dktJ9_afterNodeAccess_4
def dkwJ9_afterNodeAccess_2 : List UInt8 := [180, 0, 14, 58, 6, 25, 4, 1, 181, 0, 14, 25, 5, 199, 0, 12, 42, 25, 6, 181, 0, 7]
abbrev dktJ9_afterNodeAccess_2 : List UInt8 := dkwJ9_afterNodeAccess_2 ++ dktJ9_afterNodeAccess_3
def dkwJ9_afterNodeAccess_1 : List UInt8 := [180, 0, 11, 89, 77, 43, 165, 0, 112, 43, 192, 0, 15, 58, 4, 25, 4, 180, 0, 19, 58, 5, 25, 4]
abbrev dktJ9_afterNodeAccess_1 : List UInt8 := dkwJ9_afterNodeAccess_1 ++ dktJ9_afterNodeAccess_2
def dkwJ9_afterNodeAccess_0 : List UInt8 := [42, 180, 0, 1, 5, 159, 0, 17, 42, 180, 0, 1, 154, 0, 129, 42, 180, 0, 64, 153, 0, 122, 42]
abbrev dktJ9_afterNodeAccess_0 : List UInt8 := dkwJ9_afterNodeAccess_0 ++ dktJ9_afterNodeAccess_1
theorem dksJ9_afterNodeAccess_0 : cJ9_afterNodeAccess.data.toList.drop 0 = dktJ9_afterNodeAccess_0 := by decide +kernel
theorem dksJ9_afterNodeAccess_1 : cJ9_afterNodeAccess.data.toList.drop 23 = dktJ9_afterNodeAccess_1 := dk_seg dksJ9_afterNodeAccess_0 23 rfl rfl
theorem dksJ9_afterNodeAccess_2 : cJ9_afterNodeAccess.data.toList.drop 47 = dktJ9_afterNodeAccess_2 := dk_seg dksJ9_afterNodeAccess_1 24 rfl rfl
theorem dksJ9_afterNodeAccess_3 : cJ9_afterNodeAccess.data.toList.drop 69 = dktJ9_afterNodeAccess_3 := dk_seg dksJ9_afterNodeAccess_2 22 rfl rfl
theorem dksJ9_afterNodeAccess_4 : cJ9_afterNodeAccess.data.toList.drop 91 = dktJ9_afterNodeAccess_4 := dk_seg dksJ9_afterNodeAccess_3 22 rfl rfl
theorem dksJ9_afterNodeAccess_5 : cJ9_afterNodeAccess.data.toList.drop 113 = dktJ9_afterNodeAccess_5 := dk_seg dksJ9_afterNodeAccess_4 22 rfl rfl
theorem dksJ9_afterNodeAccess_6 : cJ9_afterNodeAccess.data.toList.drop 135 = dktJ9_afterNodeAccess_6 := dk_seg dksJ9_afterNodeAccess_5 22 rfl rfl
theorem dksJ9_afterNodeAccess_7 : cJ9_afterNodeAccess.data.toList.drop 159 = dktJ9_afterNodeAccess_7 := dk_seg dksJ9_afterNodeAccess_6 24 rfl rfl
theorem dksJ9_afterNodeAccess_8 : cJ9_afterNodeAccess.data.toList.drop 182 = dktJ9_afterNodeAccess_8 := dk_seg dksJ9_afterNodeAccess_7 23 rfl rfl
theorem dksJ9_afterNodeAccess_9 : cJ9_afterNodeAccess.data.toList.drop 206 = dktJ9_afterNodeAccess_9 := dk_seg dksJ9_afterNodeAccess_8 24 rfl rfl
theorem dksJ9_afterNodeAccess_10 : cJ9_afterNodeAccess.data.toList.drop 229 = dktJ9_afterNodeAccess_10 := dk_seg dksJ9_afterNodeAccess_9 23 rfl rfl
theorem dksJ9_afterNodeAccess_11 : cJ9_afterNodeAccess.data.toList.drop 252 = dktJ9_afterNodeAccess_11 := dk_seg dksJ9_afterNodeAccess_10 23 rfl rfl
theorem dJ9_afterNodeAccess_0 : decode cJ9_afterNodeAccess 0 = .ok (.aload_n 0, 1) := dk_42 (dk_at dksJ9_afterNodeAccess_0 0 rfl rfl)
theorem dJ9_afterNodeAccess_1 : decode cJ9_afterNodeAccess 1 = .ok (.getfield 1, 3) := dk_180 0 1 (dk_at dksJ9_afterNodeAccess_0 1 rfl rfl)
theorem dJ9_afterNodeAccess_4 : decode cJ9_afterNodeAccess 4 = .ok (.iconst 2, 1) := dk_5 (dk_at dksJ9_afterNodeAccess_0 4 rfl rfl)
theorem dJ9_afterNodeAccess_5 : decode cJ9_afterNodeAccess 5 = .ok (.if_icmp .eq 17, 3) := dk_159 0 17 (dk_at dksJ9_afterNodeAccess_0 5 rfl rfl)
theorem dJ9_afterNodeAccess_8 : decode cJ9_afterNodeAccess 8 = .ok (.aload_n 0, 1) := dk_42 (dk_at dksJ9_afterNodeAccess_0 8 rfl rfl)
theorem dJ9_afterNodeAccess_9 : decode cJ9_afterNodeAccess 9 = .ok (.getfield 1, 3) := dk_180 0 1 (dk_at dksJ9_afterNodeAccess_0 9 rfl rfl)
theorem dJ9_afterNodeAccess_12 : decode cJ9_afterNodeAccess 12 = .ok (.ifCond .ne 129, 3) := dk_154 0 129 (dk_at dksJ9_afterNodeAccess_0 12 rfl rfl)
theorem dJ9_afterNodeAccess_15 : decode cJ9_afterNodeAccess 15 = .ok (.aload_n 0, 1) := dk_42 (dk_at dksJ9_afterNodeAccess_0 15 rfl rfl)
theorem dJ9_afterNodeAccess_16 : decode cJ9_afterNodeAccess 16 = .ok (.getfield 64, 3) := dk_180 0 64 (dk_at dksJ9_afterNodeAccess_0 16 rfl rfl)
theorem dJ9_afterNodeAccess_19 : decode cJ9_afterNodeAccess 19 = .ok (.ifCond .eq 122, 3) := dk_153 0 122 (dk_at dksJ9_afterNodeAccess_0 19 rfl rfl)
theorem dJ9_afterNodeAccess_22 : decode cJ9_afterNodeAccess 22 = .ok (.aload_n 0, 1) := dk_42 (dk_at dksJ9_afterNodeAccess_0 22 rfl rfl)
theorem dJ9_afterNodeAccess_23 : decode cJ9_afterNodeAccess 23 = .ok (.getfield 11, 3) := dk_180 0 11 (dk_at dksJ9_afterNodeAccess_1 0 rfl rfl)
theorem dJ9_afterNodeAccess_26 : decode cJ9_afterNodeAccess 26 = .ok (.dup, 1) := dk_89 (dk_at dksJ9_afterNodeAccess_1 3 rfl rfl)
theorem dJ9_afterNodeAccess_27 : decode cJ9_afterNodeAccess 27 = .ok (.astore_n 2, 1) := dk_77 (dk_at dksJ9_afterNodeAccess_1 4 rfl rfl)
theorem dJ9_afterNodeAccess_28 : decode cJ9_afterNodeAccess 28 = .ok (.aload_n 1, 1) := dk_43 (dk_at dksJ9_afterNodeAccess_1 5 rfl rfl)
theorem dJ9_afterNodeAccess_29 : decode cJ9_afterNodeAccess 29 = .ok (.if_acmp .eq 112, 3) := dk_165 0 112 (dk_at dksJ9_afterNodeAccess_1 6 rfl rfl)
theorem dJ9_afterNodeAccess_32 : decode cJ9_afterNodeAccess 32 = .ok (.aload_n 1, 1) := dk_43 (dk_at dksJ9_afterNodeAccess_1 9 rfl rfl)
theorem dJ9_afterNodeAccess_33 : decode cJ9_afterNodeAccess 33 = .ok (.checkcast 15, 3) := dk_192 0 15 (dk_at dksJ9_afterNodeAccess_1 10 rfl rfl)
theorem dJ9_afterNodeAccess_36 : decode cJ9_afterNodeAccess 36 = .ok (.astore 4, 2) := dk_58 4 (dk_at dksJ9_afterNodeAccess_1 13 rfl rfl)
theorem dJ9_afterNodeAccess_38 : decode cJ9_afterNodeAccess 38 = .ok (.aload 4, 2) := dk_25 4 (dk_at dksJ9_afterNodeAccess_1 15 rfl rfl)
theorem dJ9_afterNodeAccess_40 : decode cJ9_afterNodeAccess 40 = .ok (.getfield 19, 3) := dk_180 0 19 (dk_at dksJ9_afterNodeAccess_1 17 rfl rfl)
theorem dJ9_afterNodeAccess_43 : decode cJ9_afterNodeAccess 43 = .ok (.astore 5, 2) := dk_58 5 (dk_at dksJ9_afterNodeAccess_1 20 rfl rfl)
theorem dJ9_afterNodeAccess_45 : decode cJ9_afterNodeAccess 45 = .ok (.aload 4, 2) := dk_25 4 (dk_at dksJ9_afterNodeAccess_1 22 rfl rfl)
theorem dJ9_afterNodeAccess_47 : decode cJ9_afterNodeAccess 47 = .ok (.getfield 14, 3) := dk_180 0 14 (dk_at dksJ9_afterNodeAccess_2 0 rfl rfl)
theorem dJ9_afterNodeAccess_50 : decode cJ9_afterNodeAccess 50 = .ok (.astore 6, 2) := dk_58 6 (dk_at dksJ9_afterNodeAccess_2 3 rfl rfl)
theorem dJ9_afterNodeAccess_52 : decode cJ9_afterNodeAccess 52 = .ok (.aload 4, 2) := dk_25 4 (dk_at dksJ9_afterNodeAccess_2 5 rfl rfl)
theorem dJ9_afterNodeAccess_54 : decode cJ9_afterNodeAccess 54 = .ok (.aconst_null, 1) := dk_1 (dk_at dksJ9_afterNodeAccess_2 7 rfl rfl)
theorem dJ9_afterNodeAccess_55 : decode cJ9_afterNodeAccess 55 = .ok (.putfield 14, 3) := dk_181 0 14 (dk_at dksJ9_afterNodeAccess_2 8 rfl rfl)
theorem dJ9_afterNodeAccess_58 : decode cJ9_afterNodeAccess 58 = .ok (.aload 5, 2) := dk_25 5 (dk_at dksJ9_afterNodeAccess_2 11 rfl rfl)
theorem dJ9_afterNodeAccess_60 : decode cJ9_afterNodeAccess 60 = .ok (.ifnonnull 12, 3) := dk_199 0 12 (dk_at dksJ9_afterNodeAccess_2 13 rfl rfl)
theorem dJ9_afterNodeAccess_63 : decode cJ9_afterNodeAccess 63 = .ok (.aload_n 0, 1) := dk_42 (dk_at dksJ9_afterNodeAccess_2 16 rfl rfl)
theorem dJ9_afterNodeAccess_64 : decode cJ9_afterNodeAccess 64 = .ok (.aload 6, 2) := dk_25 6 (dk_at dksJ9_afterNodeAccess_2 17 rfl rfl)
theorem dJ9_afterNodeAccess_66 : decode cJ9_afterNodeAccess 66 = .ok (.putfield 7, 3) := dk_181 0 7 (dk_at dksJ9_afterNodeAccess_2 19 rfl rfl)
theorem dJ9_afterNodeAccess_69 : decode cJ9_afterNodeAccess 69 = .ok (.goto 10, 3) := dk_167 0 10 (dk_at dksJ9_afterNodeAccess_3 0 rfl rfl)
theorem dJ9_afterNodeAccess_72 : decode cJ9_afterNodeAccess 72 = .ok (.aload 5, 2) := dk_25 5 (dk_at dksJ9_afterNodeAccess_3 3 rfl rfl)
theorem dJ9_afterNodeAccess_74 : decode cJ9_afterNodeAccess 74 = .ok (.aload 6, 2) := dk_25 6 (dk_at dksJ9_afterNodeAccess_3 5 rfl rfl)
theorem dJ9_afterNodeAccess_76 : decode cJ9_afterNodeAccess 76 = .ok (.putfield 14, 3) := dk_181 0 14 (dk_at dksJ9_afterNodeAccess_3 7 rfl rfl)
theorem dJ9_afterNodeAccess_79 : decode cJ9_afterNodeAccess 79 = .ok (.aload 6, 2) := dk_25 6 (dk_at dksJ9_afterNodeAccess_3 10 rfl rfl)
theorem dJ9_afterNodeAccess_81 : decode cJ9_afterNodeAccess 81 = .ok (.ifnull 13, 3) := dk_198 0 13 (dk_at dksJ9_afterNodeAccess_3 12 rfl rfl)
theorem dJ9_afterNodeAccess_84 : decode cJ9_afterNodeAccess 84 = .ok (.aload 6, 2) := dk_25 6 (dk_at dksJ9_afterNodeAccess_3 15 rfl rfl)
theorem dJ9_afterNodeAccess_86 : decode cJ9_afterNodeAccess 86 = .ok (.aload 5, 2) := dk_25 5 (dk_at dksJ9_afterNodeAccess_3 17 rfl rfl)
theorem dJ9_afterNodeAccess_88 : decode cJ9_afterNodeAccess 88 = .ok (.putfield 19, 3) := dk_181 0 19 (dk_at dksJ9_afterNodeAccess_3 19 rfl rfl)
theorem dJ9_afterNodeAccess_91 : decode cJ9_afterNodeAccess 91 = .ok (.goto 6, 3) := dk_167 0 6 (dk_at dksJ9_afterNodeAccess_4 0 rfl rfl)
theorem dJ9_afterNodeAccess_94 : decode cJ9_afterNodeAccess 94 = .ok (.aload 5, 2) := dk_25 5 (dk_at dksJ9_afterNodeAccess_4 3 rfl rfl)
theorem dJ9_afterNodeAccess_96 : decode cJ9_afterNodeAccess 96 = .ok (.astore_n 2, 1) := dk_77 (dk_at dksJ9_afterNodeAccess_4 5 rfl rfl)
theorem dJ9_afterNodeAccess_97 : decode cJ9_afterNodeAccess 97 = .ok (.aload_n 2, 1) := dk_44 (dk_at dksJ9_afterNodeAccess_4 6 rfl rfl)
theorem dJ9_afterNodeAccess_98 : decode cJ9_afterNodeAccess 98 = .ok (.ifnonnull 12, 3) := dk_199 0 12 (dk_at dksJ9_afterNodeAccess_4 7 rfl rfl)
theorem dJ9_afterNodeAccess_101 : decode cJ9_afterNodeAccess 101 = .ok (.aload_n 0, 1) := dk_42 (dk_at dksJ9_afterNodeAccess_4 10 rfl rfl)
theorem dJ9_afterNodeAccess_102 : decode cJ9_afterNodeAccess 102 = .ok (.aload 4, 2) := dk_25 4 (dk_at dksJ9_afterNodeAccess_4 11 rfl rfl)
theorem dJ9_afterNodeAccess_104 : decode cJ9_afterNodeAccess 104 = .ok (.putfield 7, 3) := dk_181 0 7 (dk_at dksJ9_afterNodeAccess_4 13 rfl rfl)
theorem dJ9_afterNodeAccess_107 : decode cJ9_afterNodeAccess 107 = .ok (.goto 15, 3) := dk_167 0 15 (dk_at dksJ9_afterNodeAccess_4 16 rfl rfl)
theorem dJ9_afterNodeAccess_110 : decode cJ9_afterNodeAccess 110 = .ok (.aload 4, 2) := dk_25 4 (dk_at dksJ9_afterNodeAccess_4 19 rfl rfl)
theorem dJ9_afterNodeAccess_112 : decode cJ9_afterNodeAccess 112 = .ok (.aload_n 2, 1) := dk_44 (dk_at dksJ9_afterNodeAccess_4 21 rfl rfl)
theorem dJ9_afterNodeAccess_113 : decode cJ9_afterNodeAccess 113 = .ok (.putfield 19, 3) := dk_181 0 19 (dk_at dksJ9_afterNodeAccess_5 0 rfl rfl)
theorem dJ9_afterNodeAccess_116 : decode cJ9_afterNodeAccess 116 = .ok (.aload_n 2, 1) := dk_44 (dk_at dksJ9_afterNodeAccess_5 3 rfl rfl)
theorem dJ9_afterNodeAccess_117 : decode cJ9_afterNodeAccess 117 = .ok (.aload 4, 2) := dk_25 4 (dk_at dksJ9_afterNodeAccess_5 4 rfl rfl)
theorem dJ9_afterNodeAccess_119 : decode cJ9_afterNodeAccess 119 = .ok (.putfield 14, 3) := dk_181 0 14 (dk_at dksJ9_afterNodeAccess_5 6 rfl rfl)
theorem dJ9_afterNodeAccess_122 : decode cJ9_afterNodeAccess 122 = .ok (.aload_n 0, 1) := dk_42 (dk_at dksJ9_afterNodeAccess_5 9 rfl rfl)
theorem dJ9_afterNodeAccess_123 : decode cJ9_afterNodeAccess 123 = .ok (.aload 4, 2) := dk_25 4 (dk_at dksJ9_afterNodeAccess_5 10 rfl rfl)
theorem dJ9_afterNodeAccess_125 : decode cJ9_afterNodeAccess 125 = .ok (.putfield 11, 3) := dk_181 0 11 (dk_at dksJ9_afterNodeAccess_5 12 rfl rfl)
theorem dJ9_afterNodeAccess_128 : decode cJ9_afterNodeAccess 128 = .ok (.aload_n 0, 1) := dk_42 (dk_at dksJ9_afterNodeAccess_5 15 rfl rfl)
theorem dJ9_afterNodeAccess_129 : decode cJ9_afterNodeAccess 129 = .ok (.dup, 1) := dk_89 (dk_at dksJ9_afterNodeAccess_5 16 rfl rfl)
theorem dJ9_afterNodeAccess_130 : decode cJ9_afterNodeAccess 130 = .ok (.getfield 68, 3) := dk_180 0 68 (dk_at dksJ9_afterNodeAccess_5 17 rfl rfl)
theorem dJ9_afterNodeAccess_133 : decode cJ9_afterNodeAccess 133 = .ok (.iconst 1, 1) := dk_4 (dk_at dksJ9_afterNodeAccess_5 20 rfl rfl)
theorem dJ9_afterNodeAccess_134 : decode cJ9_afterNodeAccess 134 = .ok (.iadd, 1) := dk_96 (dk_at dksJ9_afterNodeAccess_5 21 rfl rfl)
theorem dJ9_afterNodeAccess_135 : decode cJ9_afterNodeAccess 135 = .ok (.putfield 68, 3) := dk_181 0 68 (dk_at dksJ9_afterNodeAccess_6 0 rfl rfl)
theorem dJ9_afterNodeAccess_138 : decode cJ9_afterNodeAccess 138 = .ok (.goto 127, 3) := dk_167 0 127 (dk_at dksJ9_afterNodeAccess_6 3 rfl rfl)
theorem dJ9_afterNodeAccess_141 : decode cJ9_afterNodeAccess 141 = .ok (.aload_n 0, 1) := dk_42 (dk_at dksJ9_afterNodeAccess_6 6 rfl rfl)
theorem dJ9_afterNodeAccess_142 : decode cJ9_afterNodeAccess 142 = .ok (.getfield 1, 3) := dk_180 0 1 (dk_at dksJ9_afterNodeAccess_6 7 rfl rfl)
theorem dJ9_afterNodeAccess_145 : decode cJ9_afterNodeAccess 145 = .ok (.iconst 1, 1) := dk_4 (dk_at dksJ9_afterNodeAccess_6 10 rfl rfl)
theorem dJ9_afterNodeAccess_146 : decode cJ9_afterNodeAccess 146 = .ok (.if_icmp .ne 119, 3) := dk_160 0 119 (dk_at dksJ9_afterNodeAccess_6 11 rfl rfl)
theorem dJ9_afterNodeAccess_149 : decode cJ9_afterNodeAccess 149 = .ok (.aload_n 0, 1) := dk_42 (dk_at dksJ9_afterNodeAccess_6 14 rfl rfl)
theorem dJ9_afterNodeAccess_150 : decode cJ9_afterNodeAccess 150 = .ok (.getfield 7, 3) := dk_180 0 7 (dk_at dksJ9_afterNodeAccess_6 15 rfl rfl)
theorem dJ9_afterNodeAccess_153 : decode cJ9_afterNodeAccess 153 = .ok (.dup, 1) := dk_89 (dk_at dksJ9_afterNodeAccess_6 18 rfl rfl)
theorem dJ9_afterNodeAccess_154 : decode cJ9_afterNodeAccess 154 = .ok (.astore_n 3, 1) := dk_78 (dk_at dksJ9_afterNodeAccess_6 19 rfl rfl)
theorem dJ9_afterNodeAccess_155 : decode cJ9_afterNodeAccess 155 = .ok (.aload_n 1, 1) := dk_43 (dk_at dksJ9_afterNodeAccess_6 20 rfl rfl)
theorem dJ9_afterNodeAccess_156 : decode cJ9_afterNodeAccess 156 = .ok (.if_acmp .eq 109, 3) := dk_165 0 109 (dk_at dksJ9_afterNodeAccess_6 21 rfl rfl)
theorem dJ9_afterNodeAccess_159 : decode cJ9_afterNodeAccess 159 = .ok (.aload_n 1, 1) := dk_43 (dk_at dksJ9_afterNodeAccess_7 0 rfl rfl)
theorem dJ9_afterNodeAccess_160 : decode cJ9_afterNodeAccess 160 = .ok (.checkcast 15, 3) := dk_192 0 15 (dk_at dksJ9_afterNodeAccess_7 1 rfl rfl)
theorem dJ9_afterNodeAccess_163 : decode cJ9_afterNodeAccess 163 = .ok (.astore 4, 2) := dk_58 4 (dk_at dksJ9_afterNodeAccess_7 4 rfl rfl)
theorem dJ9_afterNodeAccess_165 : decode cJ9_afterNodeAccess 165 = .ok (.aload 4, 2) := dk_25 4 (dk_at dksJ9_afterNodeAccess_7 6 rfl rfl)
theorem dJ9_afterNodeAccess_167 : decode cJ9_afterNodeAccess 167 = .ok (.getfield 19, 3) := dk_180 0 19 (dk_at dksJ9_afterNodeAccess_7 8 rfl rfl)
theorem dJ9_afterNodeAccess_170 : decode cJ9_afterNodeAccess 170 = .ok (.astore 5, 2) := dk_58 5 (dk_at dksJ9_afterNodeAccess_7 11 rfl rfl)
theorem dJ9_afterNodeAccess_172 : decode cJ9_afterNodeAccess 172 = .ok (.aload 4, 2) := dk_25 4 (dk_at dksJ9_afterNodeAccess_7 13 rfl rfl)
theorem dJ9_afterNodeAccess_174 : decode cJ9_afterNodeAccess 174 = .ok (.getfield 14, 3) := dk_180 0 14 (dk_at dksJ9_afterNodeAccess_7 15 rfl rfl)
theorem dJ9_afterNodeAccess_177 : decode cJ9_afterNodeAccess 177 = .ok (.astore 6, 2) := dk_58 6 (dk_at dksJ9_afterNodeAccess_7 18 rfl rfl)
theorem dJ9_afterNodeAccess_179 : decode cJ9_afterNodeAccess 179 = .ok (.aload 4, 2) := dk_25 4 (dk_at dksJ9_afterNodeAccess_7 20 rfl rfl)
theorem dJ9_afterNodeAccess_181 : decode cJ9_afterNodeAccess 181 = .ok (.aconst_null, 1) := dk_1 (dk_at dksJ9_afterNodeAccess_7 22 rfl rfl)
theorem dJ9_afterNodeAccess_182 : decode cJ9_afterNodeAccess 182 = .ok (.putfield 19, 3) := dk_181 0 19 (dk_at dksJ9_afterNodeAccess_8 0 rfl rfl)
theorem dJ9_afterNodeAccess_185 : decode cJ9_afterNodeAccess 185 = .ok (.aload 6, 2) := dk_25 6 (dk_at dksJ9_afterNodeAccess_8 3 rfl rfl)
theorem dJ9_afterNodeAccess_187 : decode cJ9_afterNodeAccess 187 = .ok (.ifnonnull 12, 3) := dk_199 0 12 (dk_at dksJ9_afterNodeAccess_8 5 rfl rfl)
theorem dJ9_afterNodeAccess_190 : decode cJ9_afterNodeAccess 190 = .ok (.aload_n 0, 1) := dk_42 (dk_at dksJ9_afterNodeAccess_8 8 rfl rfl)
theorem dJ9_afterNodeAccess_191 : decode cJ9_afterNodeAccess 191 = .ok (.aload 5, 2) := dk_25 5 (dk_at dksJ9_afterNodeAccess_8 9 rfl rfl)
theorem dJ9_afterNodeAccess_193 : decode cJ9_afterNodeAccess 193 = .ok (.putfield 11, 3) := dk_181 0 11 (dk_at dksJ9_afterNodeAccess_8 11 rfl rfl)
theorem dJ9_afterNodeAccess_196 : decode cJ9_afterNodeAccess 196 = .ok (.goto 10, 3) := dk_167 0 10 (dk_at dksJ9_afterNodeAccess_8 14 rfl rfl)
theorem dJ9_afterNodeAccess_199 : decode cJ9_afterNodeAccess 199 = .ok (.aload 6, 2) := dk_25 6 (dk_at dksJ9_afterNodeAccess_8 17 rfl rfl)
theorem dJ9_afterNodeAccess_201 : decode cJ9_afterNodeAccess 201 = .ok (.aload 5, 2) := dk_25 5 (dk_at dksJ9_afterNodeAccess_8 19 rfl rfl)
theorem dJ9_afterNodeAccess_203 : decode cJ9_afterNodeAccess 203 = .ok (.putfield 19, 3) := dk_181 0 19 (dk_at dksJ9_afterNodeAccess_8 21 rfl rfl)
theorem dJ9_afterNodeAccess_206 : decode cJ9_afterNodeAccess 206 = .ok (.aload 5, 2) := dk_25 5 (dk_at dksJ9_afterNodeAccess_9 0 rfl rfl)
theorem dJ9_afterNodeAccess_208 : decode cJ9_afterNodeAccess 208 = .ok (.ifnull 13, 3) := dk_198 0 13 (dk_at dksJ9_afterNodeAccess_9 2 rfl rfl)
theorem dJ9_afterNodeAccess_211 : decode cJ9_afterNodeAccess 211 = .ok (.aload 5, 2) := dk_25 5 (dk_at dksJ9_afterNodeAccess_9 5 rfl rfl)
theorem dJ9_afterNodeAccess_213 : decode cJ9_afterNodeAccess 213 = .ok (.aload 6, 2) := dk_25 6 (dk_at dksJ9_afterNodeAccess_9 7 rfl rfl)
theorem dJ9_afterNodeAccess_215 : decode cJ9_afterNodeAccess 215 = .ok (.putfield 14, 3) := dk_181 0 14 (dk_at dksJ9_afterNodeAccess_9 9 rfl rfl)
theorem dJ9_afterNodeAccess_218 : decode cJ9_afterNodeAccess 218 = .ok (.goto 6, 3) := dk_167 0 6 (dk_at dksJ9_afterNodeAccess_9 12 rfl rfl)
theorem dJ9_afterNodeAccess_221 : decode cJ9_afterNodeAccess 221 = .ok (.aload 6, 2) := dk_25 6 (dk_at dksJ9_afterNodeAccess_9 15 rfl rfl)
theorem dJ9_afterNodeAccess_223 : decode cJ9_afterNodeAccess 223 = .ok (.astore_n 3, 1) := dk_78 (dk_at dksJ9_afterNodeAccess_9 17 rfl rfl)
theorem dJ9_afterNodeAccess_224 : decode cJ9_afterNodeAccess 224 = .ok (.aload_n 3, 1) := dk_45 (dk_at dksJ9_afterNodeAccess_9 18 rfl rfl)
theorem dJ9_afterNodeAccess_225 : decode cJ9_afterNodeAccess 225 = .ok (.ifnonnull 12, 3) := dk_199 0 12 (dk_at dksJ9_afterNodeAccess_9 19 rfl rfl)
theorem dJ9_afterNodeAccess_228 : decode cJ9_afterNodeAccess 228 = .ok (.aload_n 0, 1) := dk_42 (dk_at dksJ9_afterNodeAccess_9 22 rfl rfl)
theorem dJ9_afterNodeAccess_229 : decode cJ9_afterNodeAccess 229 = .ok (.aload 4, 2) := dk_25 4 (dk_at dksJ9_afterNodeAccess_10 0 rfl rfl)
theorem dJ9_afterNodeAccess_231 : decode cJ9_afterNodeAccess 231 = .ok (.putfield 11, 3) := dk_181 0 11 (dk_at dksJ9_afterNodeAccess_10 2 rfl rfl)
theorem dJ9_afterNodeAccess_234 : decode cJ9_afterNodeAccess 234 = .ok (.goto 15, 3) := dk_167 0 15 (dk_at dksJ9_afterNodeAccess_10 5 rfl rfl)
theorem dJ9_afterNodeAccess_237 : decode cJ9_afterNodeAccess 237 = .ok (.aload 4, 2) := dk_25 4 (dk_at dksJ9_afterNodeAccess_10 8 rfl rfl)
theorem dJ9_afterNodeAccess_239 : decode cJ9_afterNodeAccess 239 = .ok (.aload_n 3, 1) := dk_45 (dk_at dksJ9_afterNodeAccess_10 10 rfl rfl)
theorem dJ9_afterNodeAccess_240 : decode cJ9_afterNodeAccess 240 = .ok (.putfield 14, 3) := dk_181 0 14 (dk_at dksJ9_afterNodeAccess_10 11 rfl rfl)
theorem dJ9_afterNodeAccess_243 : decode cJ9_afterNodeAccess 243 = .ok (.aload_n 3, 1) := dk_45 (dk_at dksJ9_afterNodeAccess_10 14 rfl rfl)
theorem dJ9_afterNodeAccess_244 : decode cJ9_afterNodeAccess 244 = .ok (.aload 4, 2) := dk_25 4 (dk_at dksJ9_afterNodeAccess_10 15 rfl rfl)
theorem dJ9_afterNodeAccess_246 : decode cJ9_afterNodeAccess 246 = .ok (.putfield 19, 3) := dk_181 0 19 (dk_at dksJ9_afterNodeAccess_10 17 rfl rfl)
theorem dJ9_afterNodeAccess_249 : decode cJ9_afterNodeAccess 249 = .ok (.aload_n 0, 1) := dk_42 (dk_at dksJ9_afterNodeAccess_10 20 rfl rfl)
theorem dJ9_afterNodeAccess_250 : decode cJ9_afterNodeAccess 250 = .ok (.aload 4, 2) := dk_25 4 (dk_at dksJ9_afterNodeAccess_10 21 rfl rfl)
theorem dJ9_afterNodeAccess_252 : decode cJ9_afterNodeAccess 252 = .ok (.putfield 7, 3) := dk_181 0 7 (dk_at dksJ9_afterNodeAccess_11 0 rfl rfl)
theorem dJ9_afterNodeAccess_255 : decode cJ9_afterNodeAccess 255 = .ok (.aload_n 0, 1) := dk_42 (dk_at dksJ9_afterNodeAccess_11 3 rfl rfl)
theorem dJ9_afterNodeAccess_256 : decode cJ9_afterNodeAccess 256 = .ok (.dup, 1) := dk_89 (dk_at dksJ9_afterNodeAccess_11 4 rfl rfl)
theorem dJ9_afterNodeAccess_257 : decode cJ9_afterNodeAccess 257 = .ok (.getfield 68, 3) := dk_180 0 68 (dk_at dksJ9_afterNodeAccess_11 5 rfl rfl)
theorem dJ9_afterNodeAccess_260 : decode cJ9_afterNodeAccess 260 = .ok (.iconst 1, 1) := dk_4 (dk_at dksJ9_afterNodeAccess_11 8 rfl rfl)
theorem dJ9_afterNodeAccess_261 : decode cJ9_afterNodeAccess 261 = .ok (.iadd, 1) := dk_96 (dk_at dksJ9_afterNodeAccess_11 9 rfl rfl)
theorem dJ9_afterNodeAccess_262 : decode cJ9_afterNodeAccess 262 = .ok (.putfield 68, 3) := dk_181 0 68 (dk_at dksJ9_afterNodeAccess_11 10 rfl rfl)
theorem dJ9_afterNodeAccess_265 : decode cJ9_afterNodeAccess 265 = .ok (.return_, 1) := dk_177 (dk_at dksJ9_afterNodeAccess_11 13 rfl rfl)
abbrev cJ9_replacementNode : ByteArray := prog_49_method_5_code
def yJ9_replacementNode : MethodName := ⟨RJ9, "replacementNode", "(Ljava/util/HashMap$Node;Ljava/util/HashMap$Node;)Ljava/util/HashMap$Node;"⟩
def dkwJ9_replacementNode_1 : List UInt8 := [183, 0, 28, 58, 4, 42, 45, 25, 4, 182, 0, 46, 25, 4, 176]
abbrev dktJ9_replacementNode_1 : List UInt8 := dkwJ9_replacementNode_1 ++ []
def dkwJ9_replacementNode_0 : List UInt8 := [43, 192, 0, 15, 78, 187, 0, 15, 89, 45, 180, 0, 36, 45, 180, 0, 39, 45, 180, 0, 43, 44]
abbrev dktJ9_replacementNode_0 : List UInt8 := dkwJ9_replacementNode_0 ++ dktJ9_replacementNode_1
theorem dksJ9_replacementNode_0 : cJ9_replacementNode.data.toList.drop 0 = dktJ9_replacementNode_0 := by decide +kernel
theorem dksJ9_replacementNode_1 : cJ9_replacementNode.data.toList.drop 22 = dktJ9_replacementNode_1 := dk_seg dksJ9_replacementNode_0 22 rfl rfl
theorem dJ9_replacementNode_0 : decode cJ9_replacementNode 0 = .ok (.aload_n 1, 1) := dk_43 (dk_at dksJ9_replacementNode_0 0 rfl rfl)
theorem dJ9_replacementNode_1 : decode cJ9_replacementNode 1 = .ok (.checkcast 15, 3) := dk_192 0 15 (dk_at dksJ9_replacementNode_0 1 rfl rfl)
theorem dJ9_replacementNode_4 : decode cJ9_replacementNode 4 = .ok (.astore_n 3, 1) := dk_78 (dk_at dksJ9_replacementNode_0 4 rfl rfl)
theorem dJ9_replacementNode_5 : decode cJ9_replacementNode 5 = .ok (.new 15, 3) := dk_187 0 15 (dk_at dksJ9_replacementNode_0 5 rfl rfl)
theorem dJ9_replacementNode_8 : decode cJ9_replacementNode 8 = .ok (.dup, 1) := dk_89 (dk_at dksJ9_replacementNode_0 8 rfl rfl)
theorem dJ9_replacementNode_9 : decode cJ9_replacementNode 9 = .ok (.aload_n 3, 1) := dk_45 (dk_at dksJ9_replacementNode_0 9 rfl rfl)
theorem dJ9_replacementNode_10 : decode cJ9_replacementNode 10 = .ok (.getfield 36, 3) := dk_180 0 36 (dk_at dksJ9_replacementNode_0 10 rfl rfl)
theorem dJ9_replacementNode_13 : decode cJ9_replacementNode 13 = .ok (.aload_n 3, 1) := dk_45 (dk_at dksJ9_replacementNode_0 13 rfl rfl)
theorem dJ9_replacementNode_14 : decode cJ9_replacementNode 14 = .ok (.getfield 39, 3) := dk_180 0 39 (dk_at dksJ9_replacementNode_0 14 rfl rfl)
theorem dJ9_replacementNode_17 : decode cJ9_replacementNode 17 = .ok (.aload_n 3, 1) := dk_45 (dk_at dksJ9_replacementNode_0 17 rfl rfl)
theorem dJ9_replacementNode_18 : decode cJ9_replacementNode 18 = .ok (.getfield 43, 3) := dk_180 0 43 (dk_at dksJ9_replacementNode_0 18 rfl rfl)
theorem dJ9_replacementNode_21 : decode cJ9_replacementNode 21 = .ok (.aload_n 2, 1) := dk_44 (dk_at dksJ9_replacementNode_0 21 rfl rfl)
theorem dJ9_replacementNode_22 : decode cJ9_replacementNode 22 = .ok (.invokespecial 28, 3) := dk_183 0 28 (dk_at dksJ9_replacementNode_1 0 rfl rfl)
theorem dJ9_replacementNode_25 : decode cJ9_replacementNode 25 = .ok (.astore 4, 2) := dk_58 4 (dk_at dksJ9_replacementNode_1 3 rfl rfl)
theorem dJ9_replacementNode_27 : decode cJ9_replacementNode 27 = .ok (.aload_n 0, 1) := dk_42 (dk_at dksJ9_replacementNode_1 5 rfl rfl)
theorem dJ9_replacementNode_28 : decode cJ9_replacementNode 28 = .ok (.aload_n 3, 1) := dk_45 (dk_at dksJ9_replacementNode_1 6 rfl rfl)
theorem dJ9_replacementNode_29 : decode cJ9_replacementNode 29 = .ok (.aload 4, 2) := dk_25 4 (dk_at dksJ9_replacementNode_1 7 rfl rfl)
theorem dJ9_replacementNode_31 : decode cJ9_replacementNode 31 = .ok (.invokevirtual 46, 3) := dk_182 0 46 (dk_at dksJ9_replacementNode_1 9 rfl rfl)
theorem dJ9_replacementNode_34 : decode cJ9_replacementNode 34 = .ok (.aload 4, 2) := dk_25 4 (dk_at dksJ9_replacementNode_1 12 rfl rfl)
theorem dJ9_replacementNode_36 : decode cJ9_replacementNode 36 = .ok (.areturn, 1) := dk_176 (dk_at dksJ9_replacementNode_1 14 rfl rfl)
abbrev cJ9_transferLinks : ByteArray := prog_49_method_2_code
def yJ9_transferLinks : MethodName := ⟨RJ9, "transferLinks", "(Ljava/util/LinkedHashMap$Entry;Ljava/util/LinkedHashMap$Entry;)V"⟩
def dkwJ9_transferLinks_2 : List UInt8 := [181, 0, 11, 167, 0, 9, 25, 4, 44, 181, 0, 19, 177]
abbrev dktJ9_transferLinks_2 : List UInt8 := dkwJ9_transferLinks_2 ++ []
def dkwJ9_transferLinks_1 : List UInt8 := [199, 0, 11, 42, 44, 181, 0, 7, 167, 0, 8, 45, 44, 181, 0, 14, 25, 4, 199, 0, 11, 42, 44]
abbrev dktJ9_transferLinks_1 : List UInt8 := dkwJ9_transferLinks_1 ++ dktJ9_transferLinks_2
def dkwJ9_transferLinks_0 : List UInt8 := [44, 43, 180, 0, 19, 90, 181, 0, 19, 78, 44, 43, 180, 0, 14, 90, 181, 0, 14, 58, 4, 45]
abbrev dktJ9_transferLinks_0 : List UInt8 := dkwJ9_transferLinks_0 ++ dktJ9_transferLinks_1
theorem dksJ9_transferLinks_0 : cJ9_transferLinks.data.toList.drop 0 = dktJ9_transferLinks_0 := by decide +kernel
theorem dksJ9_transferLinks_1 : cJ9_transferLinks.data.toList.drop 22 = dktJ9_transferLinks_1 := dk_seg dksJ9_transferLinks_0 22 rfl rfl
theorem dksJ9_transferLinks_2 : cJ9_transferLinks.data.toList.drop 45 = dktJ9_transferLinks_2 := dk_seg dksJ9_transferLinks_1 23 rfl rfl
theorem dJ9_transferLinks_0 : decode cJ9_transferLinks 0 = .ok (.aload_n 2, 1) := dk_44 (dk_at dksJ9_transferLinks_0 0 rfl rfl)
theorem dJ9_transferLinks_1 : decode cJ9_transferLinks 1 = .ok (.aload_n 1, 1) := dk_43 (dk_at dksJ9_transferLinks_0 1 rfl rfl)
theorem dJ9_transferLinks_2 : decode cJ9_transferLinks 2 = .ok (.getfield 19, 3) := dk_180 0 19 (dk_at dksJ9_transferLinks_0 2 rfl rfl)
theorem dJ9_transferLinks_5 : decode cJ9_transferLinks 5 = .ok (.dup_x1, 1) := dk_90 (dk_at dksJ9_transferLinks_0 5 rfl rfl)
theorem dJ9_transferLinks_6 : decode cJ9_transferLinks 6 = .ok (.putfield 19, 3) := dk_181 0 19 (dk_at dksJ9_transferLinks_0 6 rfl rfl)
theorem dJ9_transferLinks_9 : decode cJ9_transferLinks 9 = .ok (.astore_n 3, 1) := dk_78 (dk_at dksJ9_transferLinks_0 9 rfl rfl)
theorem dJ9_transferLinks_10 : decode cJ9_transferLinks 10 = .ok (.aload_n 2, 1) := dk_44 (dk_at dksJ9_transferLinks_0 10 rfl rfl)
theorem dJ9_transferLinks_11 : decode cJ9_transferLinks 11 = .ok (.aload_n 1, 1) := dk_43 (dk_at dksJ9_transferLinks_0 11 rfl rfl)
theorem dJ9_transferLinks_12 : decode cJ9_transferLinks 12 = .ok (.getfield 14, 3) := dk_180 0 14 (dk_at dksJ9_transferLinks_0 12 rfl rfl)
theorem dJ9_transferLinks_15 : decode cJ9_transferLinks 15 = .ok (.dup_x1, 1) := dk_90 (dk_at dksJ9_transferLinks_0 15 rfl rfl)
theorem dJ9_transferLinks_16 : decode cJ9_transferLinks 16 = .ok (.putfield 14, 3) := dk_181 0 14 (dk_at dksJ9_transferLinks_0 16 rfl rfl)
theorem dJ9_transferLinks_19 : decode cJ9_transferLinks 19 = .ok (.astore 4, 2) := dk_58 4 (dk_at dksJ9_transferLinks_0 19 rfl rfl)
theorem dJ9_transferLinks_21 : decode cJ9_transferLinks 21 = .ok (.aload_n 3, 1) := dk_45 (dk_at dksJ9_transferLinks_0 21 rfl rfl)
theorem dJ9_transferLinks_22 : decode cJ9_transferLinks 22 = .ok (.ifnonnull 11, 3) := dk_199 0 11 (dk_at dksJ9_transferLinks_1 0 rfl rfl)
theorem dJ9_transferLinks_25 : decode cJ9_transferLinks 25 = .ok (.aload_n 0, 1) := dk_42 (dk_at dksJ9_transferLinks_1 3 rfl rfl)
theorem dJ9_transferLinks_26 : decode cJ9_transferLinks 26 = .ok (.aload_n 2, 1) := dk_44 (dk_at dksJ9_transferLinks_1 4 rfl rfl)
theorem dJ9_transferLinks_27 : decode cJ9_transferLinks 27 = .ok (.putfield 7, 3) := dk_181 0 7 (dk_at dksJ9_transferLinks_1 5 rfl rfl)
theorem dJ9_transferLinks_30 : decode cJ9_transferLinks 30 = .ok (.goto 8, 3) := dk_167 0 8 (dk_at dksJ9_transferLinks_1 8 rfl rfl)
theorem dJ9_transferLinks_33 : decode cJ9_transferLinks 33 = .ok (.aload_n 3, 1) := dk_45 (dk_at dksJ9_transferLinks_1 11 rfl rfl)
theorem dJ9_transferLinks_34 : decode cJ9_transferLinks 34 = .ok (.aload_n 2, 1) := dk_44 (dk_at dksJ9_transferLinks_1 12 rfl rfl)
theorem dJ9_transferLinks_35 : decode cJ9_transferLinks 35 = .ok (.putfield 14, 3) := dk_181 0 14 (dk_at dksJ9_transferLinks_1 13 rfl rfl)
theorem dJ9_transferLinks_38 : decode cJ9_transferLinks 38 = .ok (.aload 4, 2) := dk_25 4 (dk_at dksJ9_transferLinks_1 16 rfl rfl)
theorem dJ9_transferLinks_40 : decode cJ9_transferLinks 40 = .ok (.ifnonnull 11, 3) := dk_199 0 11 (dk_at dksJ9_transferLinks_1 18 rfl rfl)
theorem dJ9_transferLinks_43 : decode cJ9_transferLinks 43 = .ok (.aload_n 0, 1) := dk_42 (dk_at dksJ9_transferLinks_1 21 rfl rfl)
theorem dJ9_transferLinks_44 : decode cJ9_transferLinks 44 = .ok (.aload_n 2, 1) := dk_44 (dk_at dksJ9_transferLinks_1 22 rfl rfl)
theorem dJ9_transferLinks_45 : decode cJ9_transferLinks 45 = .ok (.putfield 11, 3) := dk_181 0 11 (dk_at dksJ9_transferLinks_2 0 rfl rfl)
theorem dJ9_transferLinks_48 : decode cJ9_transferLinks 48 = .ok (.goto 9, 3) := dk_167 0 9 (dk_at dksJ9_transferLinks_2 3 rfl rfl)
theorem dJ9_transferLinks_51 : decode cJ9_transferLinks 51 = .ok (.aload 4, 2) := dk_25 4 (dk_at dksJ9_transferLinks_2 6 rfl rfl)
theorem dJ9_transferLinks_53 : decode cJ9_transferLinks 53 = .ok (.aload_n 2, 1) := dk_44 (dk_at dksJ9_transferLinks_2 8 rfl rfl)
theorem dJ9_transferLinks_54 : decode cJ9_transferLinks 54 = .ok (.putfield 19, 3) := dk_181 0 19 (dk_at dksJ9_transferLinks_2 9 rfl rfl)
theorem dJ9_transferLinks_57 : decode cJ9_transferLinks 57 = .ok (.return_, 1) := dk_177 (dk_at dksJ9_transferLinks_2 12 rfl rfl)
abbrev cJ9_newNode : ByteArray := prog_49_method_4_code
def yJ9_newNode : MethodName := ⟨RJ9, "newNode", "(ILjava/lang/Object;Ljava/lang/Object;Ljava/util/HashMap$Node;)Ljava/util/HashMap$Node;"⟩
def dkwJ9_newNode_0 : List UInt8 := [187, 0, 15, 89, 27, 44, 45, 25, 4, 183, 0, 28, 58, 5, 42, 25, 5, 182, 0, 32, 25, 5, 176]
abbrev dktJ9_newNode_0 : List UInt8 := dkwJ9_newNode_0 ++ []
theorem dksJ9_newNode_0 : cJ9_newNode.data.toList.drop 0 = dktJ9_newNode_0 := by decide +kernel
theorem dJ9_newNode_0 : decode cJ9_newNode 0 = .ok (.new 15, 3) := dk_187 0 15 (dk_at dksJ9_newNode_0 0 rfl rfl)
theorem dJ9_newNode_3 : decode cJ9_newNode 3 = .ok (.dup, 1) := dk_89 (dk_at dksJ9_newNode_0 3 rfl rfl)
theorem dJ9_newNode_4 : decode cJ9_newNode 4 = .ok (.iload_n 1, 1) := dk_27 (dk_at dksJ9_newNode_0 4 rfl rfl)
theorem dJ9_newNode_5 : decode cJ9_newNode 5 = .ok (.aload_n 2, 1) := dk_44 (dk_at dksJ9_newNode_0 5 rfl rfl)
theorem dJ9_newNode_6 : decode cJ9_newNode 6 = .ok (.aload_n 3, 1) := dk_45 (dk_at dksJ9_newNode_0 6 rfl rfl)
theorem dJ9_newNode_7 : decode cJ9_newNode 7 = .ok (.aload 4, 2) := dk_25 4 (dk_at dksJ9_newNode_0 7 rfl rfl)
theorem dJ9_newNode_9 : decode cJ9_newNode 9 = .ok (.invokespecial 28, 3) := dk_183 0 28 (dk_at dksJ9_newNode_0 9 rfl rfl)
theorem dJ9_newNode_12 : decode cJ9_newNode 12 = .ok (.astore 5, 2) := dk_58 5 (dk_at dksJ9_newNode_0 12 rfl rfl)
theorem dJ9_newNode_14 : decode cJ9_newNode 14 = .ok (.aload_n 0, 1) := dk_42 (dk_at dksJ9_newNode_0 14 rfl rfl)
theorem dJ9_newNode_15 : decode cJ9_newNode 15 = .ok (.aload 5, 2) := dk_25 5 (dk_at dksJ9_newNode_0 15 rfl rfl)
theorem dJ9_newNode_17 : decode cJ9_newNode 17 = .ok (.invokevirtual 32, 3) := dk_182 0 32 (dk_at dksJ9_newNode_0 17 rfl rfl)
theorem dJ9_newNode_20 : decode cJ9_newNode 20 = .ok (.aload 5, 2) := dk_25 5 (dk_at dksJ9_newNode_0 20 rfl rfl)
theorem dJ9_newNode_22 : decode cJ9_newNode 22 = .ok (.areturn, 1) := dk_176 (dk_at dksJ9_newNode_0 22 rfl rfl)
abbrev cJ9_linkNodeAtEnd : ByteArray := prog_49_method_1_code
def yJ9_linkNodeAtEnd : MethodName := ⟨RJ9, "linkNodeAtEnd", "(Ljava/util/LinkedHashMap$Entry;)V"⟩
def dkwJ9_linkNodeAtEnd_3 : List UInt8 := [181, 0, 14, 177]
abbrev dktJ9_linkNodeAtEnd_3 : List UInt8 := dkwJ9_linkNodeAtEnd_3 ++ []
def dkwJ9_linkNodeAtEnd_2 : List UInt8 := [42, 43, 181, 0, 11, 44, 199, 0, 11, 42, 43, 181, 0, 7, 167, 0, 13, 43, 44, 181, 0, 19, 44, 43]
abbrev dktJ9_linkNodeAtEnd_2 : List UInt8 := dkwJ9_linkNodeAtEnd_2 ++ dktJ9_linkNodeAtEnd_3
def dkwJ9_linkNodeAtEnd_1 : List UInt8 := [181, 0, 11, 167, 0, 13, 43, 44, 181, 0, 14, 44, 43, 181, 0, 19, 167, 0, 35, 42, 180, 0, 11, 77]
abbrev dktJ9_linkNodeAtEnd_1 : List UInt8 := dkwJ9_linkNodeAtEnd_1 ++ dktJ9_linkNodeAtEnd_2
def dkwJ9_linkNodeAtEnd_0 : List UInt8 := [42, 180, 0, 1, 4, 160, 0, 38, 42, 180, 0, 7, 77, 42, 43, 181, 0, 7, 44, 199, 0, 11, 42, 43]
abbrev dktJ9_linkNodeAtEnd_0 : List UInt8 := dkwJ9_linkNodeAtEnd_0 ++ dktJ9_linkNodeAtEnd_1
theorem dksJ9_linkNodeAtEnd_0 : cJ9_linkNodeAtEnd.data.toList.drop 0 = dktJ9_linkNodeAtEnd_0 := by decide +kernel
theorem dksJ9_linkNodeAtEnd_1 : cJ9_linkNodeAtEnd.data.toList.drop 24 = dktJ9_linkNodeAtEnd_1 := dk_seg dksJ9_linkNodeAtEnd_0 24 rfl rfl
theorem dksJ9_linkNodeAtEnd_2 : cJ9_linkNodeAtEnd.data.toList.drop 48 = dktJ9_linkNodeAtEnd_2 := dk_seg dksJ9_linkNodeAtEnd_1 24 rfl rfl
theorem dksJ9_linkNodeAtEnd_3 : cJ9_linkNodeAtEnd.data.toList.drop 72 = dktJ9_linkNodeAtEnd_3 := dk_seg dksJ9_linkNodeAtEnd_2 24 rfl rfl
theorem dJ9_linkNodeAtEnd_0 : decode cJ9_linkNodeAtEnd 0 = .ok (.aload_n 0, 1) := dk_42 (dk_at dksJ9_linkNodeAtEnd_0 0 rfl rfl)
theorem dJ9_linkNodeAtEnd_1 : decode cJ9_linkNodeAtEnd 1 = .ok (.getfield 1, 3) := dk_180 0 1 (dk_at dksJ9_linkNodeAtEnd_0 1 rfl rfl)
theorem dJ9_linkNodeAtEnd_4 : decode cJ9_linkNodeAtEnd 4 = .ok (.iconst 1, 1) := dk_4 (dk_at dksJ9_linkNodeAtEnd_0 4 rfl rfl)
theorem dJ9_linkNodeAtEnd_5 : decode cJ9_linkNodeAtEnd 5 = .ok (.if_icmp .ne 38, 3) := dk_160 0 38 (dk_at dksJ9_linkNodeAtEnd_0 5 rfl rfl)
theorem dJ9_linkNodeAtEnd_8 : decode cJ9_linkNodeAtEnd 8 = .ok (.aload_n 0, 1) := dk_42 (dk_at dksJ9_linkNodeAtEnd_0 8 rfl rfl)
theorem dJ9_linkNodeAtEnd_9 : decode cJ9_linkNodeAtEnd 9 = .ok (.getfield 7, 3) := dk_180 0 7 (dk_at dksJ9_linkNodeAtEnd_0 9 rfl rfl)
theorem dJ9_linkNodeAtEnd_12 : decode cJ9_linkNodeAtEnd 12 = .ok (.astore_n 2, 1) := dk_77 (dk_at dksJ9_linkNodeAtEnd_0 12 rfl rfl)
theorem dJ9_linkNodeAtEnd_13 : decode cJ9_linkNodeAtEnd 13 = .ok (.aload_n 0, 1) := dk_42 (dk_at dksJ9_linkNodeAtEnd_0 13 rfl rfl)
theorem dJ9_linkNodeAtEnd_14 : decode cJ9_linkNodeAtEnd 14 = .ok (.aload_n 1, 1) := dk_43 (dk_at dksJ9_linkNodeAtEnd_0 14 rfl rfl)
theorem dJ9_linkNodeAtEnd_15 : decode cJ9_linkNodeAtEnd 15 = .ok (.putfield 7, 3) := dk_181 0 7 (dk_at dksJ9_linkNodeAtEnd_0 15 rfl rfl)
theorem dJ9_linkNodeAtEnd_18 : decode cJ9_linkNodeAtEnd 18 = .ok (.aload_n 2, 1) := dk_44 (dk_at dksJ9_linkNodeAtEnd_0 18 rfl rfl)
theorem dJ9_linkNodeAtEnd_19 : decode cJ9_linkNodeAtEnd 19 = .ok (.ifnonnull 11, 3) := dk_199 0 11 (dk_at dksJ9_linkNodeAtEnd_0 19 rfl rfl)
theorem dJ9_linkNodeAtEnd_22 : decode cJ9_linkNodeAtEnd 22 = .ok (.aload_n 0, 1) := dk_42 (dk_at dksJ9_linkNodeAtEnd_0 22 rfl rfl)
theorem dJ9_linkNodeAtEnd_23 : decode cJ9_linkNodeAtEnd 23 = .ok (.aload_n 1, 1) := dk_43 (dk_at dksJ9_linkNodeAtEnd_0 23 rfl rfl)
theorem dJ9_linkNodeAtEnd_24 : decode cJ9_linkNodeAtEnd 24 = .ok (.putfield 11, 3) := dk_181 0 11 (dk_at dksJ9_linkNodeAtEnd_1 0 rfl rfl)
theorem dJ9_linkNodeAtEnd_27 : decode cJ9_linkNodeAtEnd 27 = .ok (.goto 13, 3) := dk_167 0 13 (dk_at dksJ9_linkNodeAtEnd_1 3 rfl rfl)
theorem dJ9_linkNodeAtEnd_30 : decode cJ9_linkNodeAtEnd 30 = .ok (.aload_n 1, 1) := dk_43 (dk_at dksJ9_linkNodeAtEnd_1 6 rfl rfl)
theorem dJ9_linkNodeAtEnd_31 : decode cJ9_linkNodeAtEnd 31 = .ok (.aload_n 2, 1) := dk_44 (dk_at dksJ9_linkNodeAtEnd_1 7 rfl rfl)
theorem dJ9_linkNodeAtEnd_32 : decode cJ9_linkNodeAtEnd 32 = .ok (.putfield 14, 3) := dk_181 0 14 (dk_at dksJ9_linkNodeAtEnd_1 8 rfl rfl)
theorem dJ9_linkNodeAtEnd_35 : decode cJ9_linkNodeAtEnd 35 = .ok (.aload_n 2, 1) := dk_44 (dk_at dksJ9_linkNodeAtEnd_1 11 rfl rfl)
theorem dJ9_linkNodeAtEnd_36 : decode cJ9_linkNodeAtEnd 36 = .ok (.aload_n 1, 1) := dk_43 (dk_at dksJ9_linkNodeAtEnd_1 12 rfl rfl)
theorem dJ9_linkNodeAtEnd_37 : decode cJ9_linkNodeAtEnd 37 = .ok (.putfield 19, 3) := dk_181 0 19 (dk_at dksJ9_linkNodeAtEnd_1 13 rfl rfl)
theorem dJ9_linkNodeAtEnd_40 : decode cJ9_linkNodeAtEnd 40 = .ok (.goto 35, 3) := dk_167 0 35 (dk_at dksJ9_linkNodeAtEnd_1 16 rfl rfl)
theorem dJ9_linkNodeAtEnd_43 : decode cJ9_linkNodeAtEnd 43 = .ok (.aload_n 0, 1) := dk_42 (dk_at dksJ9_linkNodeAtEnd_1 19 rfl rfl)
theorem dJ9_linkNodeAtEnd_44 : decode cJ9_linkNodeAtEnd 44 = .ok (.getfield 11, 3) := dk_180 0 11 (dk_at dksJ9_linkNodeAtEnd_1 20 rfl rfl)
theorem dJ9_linkNodeAtEnd_47 : decode cJ9_linkNodeAtEnd 47 = .ok (.astore_n 2, 1) := dk_77 (dk_at dksJ9_linkNodeAtEnd_1 23 rfl rfl)
theorem dJ9_linkNodeAtEnd_48 : decode cJ9_linkNodeAtEnd 48 = .ok (.aload_n 0, 1) := dk_42 (dk_at dksJ9_linkNodeAtEnd_2 0 rfl rfl)
theorem dJ9_linkNodeAtEnd_49 : decode cJ9_linkNodeAtEnd 49 = .ok (.aload_n 1, 1) := dk_43 (dk_at dksJ9_linkNodeAtEnd_2 1 rfl rfl)
theorem dJ9_linkNodeAtEnd_50 : decode cJ9_linkNodeAtEnd 50 = .ok (.putfield 11, 3) := dk_181 0 11 (dk_at dksJ9_linkNodeAtEnd_2 2 rfl rfl)
theorem dJ9_linkNodeAtEnd_53 : decode cJ9_linkNodeAtEnd 53 = .ok (.aload_n 2, 1) := dk_44 (dk_at dksJ9_linkNodeAtEnd_2 5 rfl rfl)
theorem dJ9_linkNodeAtEnd_54 : decode cJ9_linkNodeAtEnd 54 = .ok (.ifnonnull 11, 3) := dk_199 0 11 (dk_at dksJ9_linkNodeAtEnd_2 6 rfl rfl)
theorem dJ9_linkNodeAtEnd_57 : decode cJ9_linkNodeAtEnd 57 = .ok (.aload_n 0, 1) := dk_42 (dk_at dksJ9_linkNodeAtEnd_2 9 rfl rfl)
theorem dJ9_linkNodeAtEnd_58 : decode cJ9_linkNodeAtEnd 58 = .ok (.aload_n 1, 1) := dk_43 (dk_at dksJ9_linkNodeAtEnd_2 10 rfl rfl)
theorem dJ9_linkNodeAtEnd_59 : decode cJ9_linkNodeAtEnd 59 = .ok (.putfield 7, 3) := dk_181 0 7 (dk_at dksJ9_linkNodeAtEnd_2 11 rfl rfl)
theorem dJ9_linkNodeAtEnd_62 : decode cJ9_linkNodeAtEnd 62 = .ok (.goto 13, 3) := dk_167 0 13 (dk_at dksJ9_linkNodeAtEnd_2 14 rfl rfl)
theorem dJ9_linkNodeAtEnd_65 : decode cJ9_linkNodeAtEnd 65 = .ok (.aload_n 1, 1) := dk_43 (dk_at dksJ9_linkNodeAtEnd_2 17 rfl rfl)
theorem dJ9_linkNodeAtEnd_66 : decode cJ9_linkNodeAtEnd 66 = .ok (.aload_n 2, 1) := dk_44 (dk_at dksJ9_linkNodeAtEnd_2 18 rfl rfl)
theorem dJ9_linkNodeAtEnd_67 : decode cJ9_linkNodeAtEnd 67 = .ok (.putfield 19, 3) := dk_181 0 19 (dk_at dksJ9_linkNodeAtEnd_2 19 rfl rfl)
theorem dJ9_linkNodeAtEnd_70 : decode cJ9_linkNodeAtEnd 70 = .ok (.aload_n 2, 1) := dk_44 (dk_at dksJ9_linkNodeAtEnd_2 22 rfl rfl)
theorem dJ9_linkNodeAtEnd_71 : decode cJ9_linkNodeAtEnd 71 = .ok (.aload_n 1, 1) := dk_43 (dk_at dksJ9_linkNodeAtEnd_2 23 rfl rfl)
theorem dJ9_linkNodeAtEnd_72 : decode cJ9_linkNodeAtEnd 72 = .ok (.putfield 14, 3) := dk_181 0 14 (dk_at dksJ9_linkNodeAtEnd_3 0 rfl rfl)
theorem dJ9_linkNodeAtEnd_75 : decode cJ9_linkNodeAtEnd 75 = .ok (.return_, 1) := dk_177 (dk_at dksJ9_linkNodeAtEnd_3 3 rfl rfl)
abbrev cJ9_newTreeNode : ByteArray := prog_49_method_6_code
def yJ9_newTreeNode : MethodName := ⟨RJ9, "newTreeNode", "(ILjava/lang/Object;Ljava/lang/Object;Ljava/util/HashMap$Node;)Ljava/util/HashMap$TreeNode;"⟩
def dkwJ9_newTreeNode_0 : List UInt8 := [187, 0, 50, 89, 27, 44, 45, 25, 4, 183, 0, 52, 58, 5, 42, 25, 5, 182, 0, 32, 25, 5, 176]
abbrev dktJ9_newTreeNode_0 : List UInt8 := dkwJ9_newTreeNode_0 ++ []
theorem dksJ9_newTreeNode_0 : cJ9_newTreeNode.data.toList.drop 0 = dktJ9_newTreeNode_0 := by decide +kernel
theorem dJ9_newTreeNode_0 : decode cJ9_newTreeNode 0 = .ok (.new 50, 3) := dk_187 0 50 (dk_at dksJ9_newTreeNode_0 0 rfl rfl)
theorem dJ9_newTreeNode_3 : decode cJ9_newTreeNode 3 = .ok (.dup, 1) := dk_89 (dk_at dksJ9_newTreeNode_0 3 rfl rfl)
theorem dJ9_newTreeNode_4 : decode cJ9_newTreeNode 4 = .ok (.iload_n 1, 1) := dk_27 (dk_at dksJ9_newTreeNode_0 4 rfl rfl)
theorem dJ9_newTreeNode_5 : decode cJ9_newTreeNode 5 = .ok (.aload_n 2, 1) := dk_44 (dk_at dksJ9_newTreeNode_0 5 rfl rfl)
theorem dJ9_newTreeNode_6 : decode cJ9_newTreeNode 6 = .ok (.aload_n 3, 1) := dk_45 (dk_at dksJ9_newTreeNode_0 6 rfl rfl)
theorem dJ9_newTreeNode_7 : decode cJ9_newTreeNode 7 = .ok (.aload 4, 2) := dk_25 4 (dk_at dksJ9_newTreeNode_0 7 rfl rfl)
theorem dJ9_newTreeNode_9 : decode cJ9_newTreeNode 9 = .ok (.invokespecial 52, 3) := dk_183 0 52 (dk_at dksJ9_newTreeNode_0 9 rfl rfl)
theorem dJ9_newTreeNode_12 : decode cJ9_newTreeNode 12 = .ok (.astore 5, 2) := dk_58 5 (dk_at dksJ9_newTreeNode_0 12 rfl rfl)
theorem dJ9_newTreeNode_14 : decode cJ9_newTreeNode 14 = .ok (.aload_n 0, 1) := dk_42 (dk_at dksJ9_newTreeNode_0 14 rfl rfl)
theorem dJ9_newTreeNode_15 : decode cJ9_newTreeNode 15 = .ok (.aload 5, 2) := dk_25 5 (dk_at dksJ9_newTreeNode_0 15 rfl rfl)
theorem dJ9_newTreeNode_17 : decode cJ9_newTreeNode 17 = .ok (.invokevirtual 32, 3) := dk_182 0 32 (dk_at dksJ9_newTreeNode_0 17 rfl rfl)
theorem dJ9_newTreeNode_20 : decode cJ9_newTreeNode 20 = .ok (.aload 5, 2) := dk_25 5 (dk_at dksJ9_newTreeNode_0 20 rfl rfl)
theorem dJ9_newTreeNode_22 : decode cJ9_newTreeNode 22 = .ok (.areturn, 1) := dk_176 (dk_at dksJ9_newTreeNode_0 22 rfl rfl)
abbrev cJ9_replacementTreeNode : ByteArray := prog_49_method_7_code
def yJ9_replacementTreeNode : MethodName := ⟨RJ9, "replacementTreeNode", "(Ljava/util/HashMap$Node;Ljava/util/HashMap$Node;)Ljava/util/HashMap$TreeNode;"⟩
def dkwJ9_replacementTreeNode_1 : List UInt8 := [183, 0, 52, 58, 4, 42, 45, 25, 4, 182, 0, 46, 25, 4, 176]
abbrev dktJ9_replacementTreeNode_1 : List UInt8 := dkwJ9_replacementTreeNode_1 ++ []
def dkwJ9_replacementTreeNode_0 : List UInt8 := [43, 192, 0, 15, 78, 187, 0, 50, 89, 45, 180, 0, 36, 45, 180, 0, 39, 45, 180, 0, 43, 44]
abbrev dktJ9_replacementTreeNode_0 : List UInt8 := dkwJ9_replacementTreeNode_0 ++ dktJ9_replacementTreeNode_1
theorem dksJ9_replacementTreeNode_0 : cJ9_replacementTreeNode.data.toList.drop 0 = dktJ9_replacementTreeNode_0 := by decide +kernel
theorem dksJ9_replacementTreeNode_1 : cJ9_replacementTreeNode.data.toList.drop 22 = dktJ9_replacementTreeNode_1 := dk_seg dksJ9_replacementTreeNode_0 22 rfl rfl
theorem dJ9_replacementTreeNode_0 : decode cJ9_replacementTreeNode 0 = .ok (.aload_n 1, 1) := dk_43 (dk_at dksJ9_replacementTreeNode_0 0 rfl rfl)
theorem dJ9_replacementTreeNode_1 : decode cJ9_replacementTreeNode 1 = .ok (.checkcast 15, 3) := dk_192 0 15 (dk_at dksJ9_replacementTreeNode_0 1 rfl rfl)
theorem dJ9_replacementTreeNode_4 : decode cJ9_replacementTreeNode 4 = .ok (.astore_n 3, 1) := dk_78 (dk_at dksJ9_replacementTreeNode_0 4 rfl rfl)
theorem dJ9_replacementTreeNode_5 : decode cJ9_replacementTreeNode 5 = .ok (.new 50, 3) := dk_187 0 50 (dk_at dksJ9_replacementTreeNode_0 5 rfl rfl)
theorem dJ9_replacementTreeNode_8 : decode cJ9_replacementTreeNode 8 = .ok (.dup, 1) := dk_89 (dk_at dksJ9_replacementTreeNode_0 8 rfl rfl)
theorem dJ9_replacementTreeNode_9 : decode cJ9_replacementTreeNode 9 = .ok (.aload_n 3, 1) := dk_45 (dk_at dksJ9_replacementTreeNode_0 9 rfl rfl)
theorem dJ9_replacementTreeNode_10 : decode cJ9_replacementTreeNode 10 = .ok (.getfield 36, 3) := dk_180 0 36 (dk_at dksJ9_replacementTreeNode_0 10 rfl rfl)
theorem dJ9_replacementTreeNode_13 : decode cJ9_replacementTreeNode 13 = .ok (.aload_n 3, 1) := dk_45 (dk_at dksJ9_replacementTreeNode_0 13 rfl rfl)
theorem dJ9_replacementTreeNode_14 : decode cJ9_replacementTreeNode 14 = .ok (.getfield 39, 3) := dk_180 0 39 (dk_at dksJ9_replacementTreeNode_0 14 rfl rfl)
theorem dJ9_replacementTreeNode_17 : decode cJ9_replacementTreeNode 17 = .ok (.aload_n 3, 1) := dk_45 (dk_at dksJ9_replacementTreeNode_0 17 rfl rfl)
theorem dJ9_replacementTreeNode_18 : decode cJ9_replacementTreeNode 18 = .ok (.getfield 43, 3) := dk_180 0 43 (dk_at dksJ9_replacementTreeNode_0 18 rfl rfl)
theorem dJ9_replacementTreeNode_21 : decode cJ9_replacementTreeNode 21 = .ok (.aload_n 2, 1) := dk_44 (dk_at dksJ9_replacementTreeNode_0 21 rfl rfl)
theorem dJ9_replacementTreeNode_22 : decode cJ9_replacementTreeNode 22 = .ok (.invokespecial 52, 3) := dk_183 0 52 (dk_at dksJ9_replacementTreeNode_1 0 rfl rfl)
theorem dJ9_replacementTreeNode_25 : decode cJ9_replacementTreeNode 25 = .ok (.astore 4, 2) := dk_58 4 (dk_at dksJ9_replacementTreeNode_1 3 rfl rfl)
theorem dJ9_replacementTreeNode_27 : decode cJ9_replacementTreeNode 27 = .ok (.aload_n 0, 1) := dk_42 (dk_at dksJ9_replacementTreeNode_1 5 rfl rfl)
theorem dJ9_replacementTreeNode_28 : decode cJ9_replacementTreeNode 28 = .ok (.aload_n 3, 1) := dk_45 (dk_at dksJ9_replacementTreeNode_1 6 rfl rfl)
theorem dJ9_replacementTreeNode_29 : decode cJ9_replacementTreeNode 29 = .ok (.aload 4, 2) := dk_25 4 (dk_at dksJ9_replacementTreeNode_1 7 rfl rfl)
theorem dJ9_replacementTreeNode_31 : decode cJ9_replacementTreeNode 31 = .ok (.invokevirtual 46, 3) := dk_182 0 46 (dk_at dksJ9_replacementTreeNode_1 9 rfl rfl)
theorem dJ9_replacementTreeNode_34 : decode cJ9_replacementTreeNode 34 = .ok (.aload 4, 2) := dk_25 4 (dk_at dksJ9_replacementTreeNode_1 12 rfl rfl)
theorem dJ9_replacementTreeNode_36 : decode cJ9_replacementTreeNode 36 = .ok (.areturn, 1) := dk_176 (dk_at dksJ9_replacementTreeNode_1 14 rfl rfl)
abbrev cJ9_afterNodeInsertion : ByteArray := prog_49_method_9_code
def yJ9_afterNodeInsertion : MethodName := ⟨RJ9, "afterNodeInsertion", "(Z)V"⟩
def dkwJ9_afterNodeInsertion_1 : List UInt8 := [180, 0, 39, 78, 42, 45, 184, 0, 57, 45, 1, 3, 4, 182, 0, 60, 87, 177]
abbrev dktJ9_afterNodeInsertion_1 : List UInt8 := dkwJ9_afterNodeInsertion_1 ++ []
def dkwJ9_afterNodeInsertion_0 : List UInt8 := [27, 153, 0, 38, 42, 180, 0, 7, 89, 77, 198, 0, 29, 42, 44, 182, 0, 53, 153, 0, 21, 44]
abbrev dktJ9_afterNodeInsertion_0 : List UInt8 := dkwJ9_afterNodeInsertion_0 ++ dktJ9_afterNodeInsertion_1
theorem dksJ9_afterNodeInsertion_0 : cJ9_afterNodeInsertion.data.toList.drop 0 = dktJ9_afterNodeInsertion_0 := by decide +kernel
theorem dksJ9_afterNodeInsertion_1 : cJ9_afterNodeInsertion.data.toList.drop 22 = dktJ9_afterNodeInsertion_1 := dk_seg dksJ9_afterNodeInsertion_0 22 rfl rfl
theorem dJ9_afterNodeInsertion_0 : decode cJ9_afterNodeInsertion 0 = .ok (.iload_n 1, 1) := dk_27 (dk_at dksJ9_afterNodeInsertion_0 0 rfl rfl)
theorem dJ9_afterNodeInsertion_1 : decode cJ9_afterNodeInsertion 1 = .ok (.ifCond .eq 38, 3) := dk_153 0 38 (dk_at dksJ9_afterNodeInsertion_0 1 rfl rfl)
theorem dJ9_afterNodeInsertion_4 : decode cJ9_afterNodeInsertion 4 = .ok (.aload_n 0, 1) := dk_42 (dk_at dksJ9_afterNodeInsertion_0 4 rfl rfl)
theorem dJ9_afterNodeInsertion_5 : decode cJ9_afterNodeInsertion 5 = .ok (.getfield 7, 3) := dk_180 0 7 (dk_at dksJ9_afterNodeInsertion_0 5 rfl rfl)
theorem dJ9_afterNodeInsertion_8 : decode cJ9_afterNodeInsertion 8 = .ok (.dup, 1) := dk_89 (dk_at dksJ9_afterNodeInsertion_0 8 rfl rfl)
theorem dJ9_afterNodeInsertion_9 : decode cJ9_afterNodeInsertion 9 = .ok (.astore_n 2, 1) := dk_77 (dk_at dksJ9_afterNodeInsertion_0 9 rfl rfl)
theorem dJ9_afterNodeInsertion_10 : decode cJ9_afterNodeInsertion 10 = .ok (.ifnull 29, 3) := dk_198 0 29 (dk_at dksJ9_afterNodeInsertion_0 10 rfl rfl)
theorem dJ9_afterNodeInsertion_13 : decode cJ9_afterNodeInsertion 13 = .ok (.aload_n 0, 1) := dk_42 (dk_at dksJ9_afterNodeInsertion_0 13 rfl rfl)
theorem dJ9_afterNodeInsertion_14 : decode cJ9_afterNodeInsertion 14 = .ok (.aload_n 2, 1) := dk_44 (dk_at dksJ9_afterNodeInsertion_0 14 rfl rfl)
theorem dJ9_afterNodeInsertion_15 : decode cJ9_afterNodeInsertion 15 = .ok (.invokevirtual 53, 3) := dk_182 0 53 (dk_at dksJ9_afterNodeInsertion_0 15 rfl rfl)
theorem dJ9_afterNodeInsertion_18 : decode cJ9_afterNodeInsertion 18 = .ok (.ifCond .eq 21, 3) := dk_153 0 21 (dk_at dksJ9_afterNodeInsertion_0 18 rfl rfl)
theorem dJ9_afterNodeInsertion_21 : decode cJ9_afterNodeInsertion 21 = .ok (.aload_n 2, 1) := dk_44 (dk_at dksJ9_afterNodeInsertion_0 21 rfl rfl)
theorem dJ9_afterNodeInsertion_22 : decode cJ9_afterNodeInsertion 22 = .ok (.getfield 39, 3) := dk_180 0 39 (dk_at dksJ9_afterNodeInsertion_1 0 rfl rfl)
theorem dJ9_afterNodeInsertion_25 : decode cJ9_afterNodeInsertion 25 = .ok (.astore_n 3, 1) := dk_78 (dk_at dksJ9_afterNodeInsertion_1 3 rfl rfl)
theorem dJ9_afterNodeInsertion_26 : decode cJ9_afterNodeInsertion 26 = .ok (.aload_n 0, 1) := dk_42 (dk_at dksJ9_afterNodeInsertion_1 4 rfl rfl)
theorem dJ9_afterNodeInsertion_27 : decode cJ9_afterNodeInsertion 27 = .ok (.aload_n 3, 1) := dk_45 (dk_at dksJ9_afterNodeInsertion_1 5 rfl rfl)
theorem dJ9_afterNodeInsertion_28 : decode cJ9_afterNodeInsertion 28 = .ok (.invokestatic 57, 3) := dk_184 0 57 (dk_at dksJ9_afterNodeInsertion_1 6 rfl rfl)
theorem dJ9_afterNodeInsertion_31 : decode cJ9_afterNodeInsertion 31 = .ok (.aload_n 3, 1) := dk_45 (dk_at dksJ9_afterNodeInsertion_1 9 rfl rfl)
theorem dJ9_afterNodeInsertion_32 : decode cJ9_afterNodeInsertion 32 = .ok (.aconst_null, 1) := dk_1 (dk_at dksJ9_afterNodeInsertion_1 10 rfl rfl)
theorem dJ9_afterNodeInsertion_33 : decode cJ9_afterNodeInsertion 33 = .ok (.iconst 0, 1) := dk_3 (dk_at dksJ9_afterNodeInsertion_1 11 rfl rfl)
theorem dJ9_afterNodeInsertion_34 : decode cJ9_afterNodeInsertion 34 = .ok (.iconst 1, 1) := dk_4 (dk_at dksJ9_afterNodeInsertion_1 12 rfl rfl)
theorem dJ9_afterNodeInsertion_35 : decode cJ9_afterNodeInsertion 35 = .ok (.invokevirtual 60, 3) := dk_182 0 60 (dk_at dksJ9_afterNodeInsertion_1 13 rfl rfl)
theorem dJ9_afterNodeInsertion_38 : decode cJ9_afterNodeInsertion 38 = .ok (.pop, 1) := dk_87 (dk_at dksJ9_afterNodeInsertion_1 16 rfl rfl)
theorem dJ9_afterNodeInsertion_39 : decode cJ9_afterNodeInsertion 39 = .ok (.return_, 1) := dk_177 (dk_at dksJ9_afterNodeInsertion_1 17 rfl rfl)
abbrev cJ9_removeEldestEntry : ByteArray := prog_49_method_23_code
def yJ9_removeEldestEntry : MethodName := ⟨RJ9, "removeEldestEntry", "(Ljava/util/Map$Entry;)Z"⟩
theorem dJ9_removeEldestEntry_0 : decode cJ9_removeEldestEntry 0 = .ok (.iconst 0, 1) := by decide +kernel
theorem dJ9_removeEldestEntry_1 : decode cJ9_removeEldestEntry 1 = .ok (.ireturn, 1) := by decide +kernel
theorem q90 : (Jvm.Cond.initialized "java/util/LinkedHashMap") ∈ lw_all := lw_g (lw_at lw_m1 13 rfl) rfl
theorem q236 : (Jvm.Cond.instantiable "java/util/LinkedHashMap" (12 : Nat)) ∈ lw_all := lw_g (lw_at lw_m1 159 rfl) rfl
theorem q238 : (Jvm.Cond.instanceMethod ({ cls := "java/util/LinkedHashMap", name := "<init>", desc := "()V" } : Jvm.MethodName)) ∈ lw_all := lw_g (lw_at lw_m1 161 rfl) rfl
theorem q239 : (Jvm.Cond.code ({ cls := "java/util/LinkedHashMap", name := "<init>", desc := "()V" } : Jvm.MethodName) prog_49_method_16_code (1 : Nat) (Option.none : Option Jvm.ClassFile.FieldType)) ∈ lw_all := lw_g (lw_at lw_m1 162 rfl) rfl
theorem q240 : (Jvm.Cond.methodLink "java/util/LinkedHashMap" (87 : Nat) ({ cls := "java/util/HashMap", name := "<init>", desc := "()V" } : Jvm.MethodName)) ∈ lw_all := lw_g (lw_at lw_m1 163 rfl) rfl
theorem q248 : (Jvm.Cond.fieldLink "java/util/LinkedHashMap" (7 : Nat) "java/util/LinkedHashMap" "head" "Ljava/util/LinkedHashMap$Entry;") ∈ lw_all := lw_g (lw_at lw_m1 171 rfl) rfl
theorem q249 : (Jvm.Cond.fieldLink "java/util/LinkedHashMap" (11 : Nat) "java/util/LinkedHashMap" "tail" "Ljava/util/LinkedHashMap$Entry;") ∈ lw_all := lw_g (lw_at lw_m1 172 rfl) rfl
theorem q250 : (Jvm.Cond.fieldLink "java/util/LinkedHashMap" (64 : Nat) "java/util/LinkedHashMap" "accessOrder" "Z") ∈ lw_all := lw_g (lw_at lw_m1 173 rfl) rfl
theorem q251 : (Jvm.Cond.fieldLink "java/util/LinkedHashMap" (1 : Nat) "java/util/LinkedHashMap" "putMode" "I") ∈ lw_all := lw_g (lw_at lw_m1 174 rfl) rfl
theorem q254 : (Jvm.Cond.fieldLink "java/util/LinkedHashMap" (68 : Nat) "java/util/LinkedHashMap" "modCount" "I") ∈ lw_all := lw_g (lw_at lw_m1 177 rfl) rfl
theorem q255 : (Jvm.Cond.sameField "java/util/LinkedHashMap" "java/util/HashMap" "modCount" "I") ∈ lw_all := lw_g (lw_at lw_m1 178 rfl) rfl
theorem q259 : (Jvm.Cond.lays "java/util/LinkedHashMap" "java/util/LinkedHashMap" "head" "Ljava/util/LinkedHashMap$Entry;") ∈ lw_all := lw_g (lw_at lw_m1 182 rfl) rfl
theorem q260 : (Jvm.Cond.soleField "java/util/LinkedHashMap" "head") ∈ lw_all := lw_g (lw_at lw_m1 183 rfl) rfl
theorem q261 : (Jvm.Cond.lays "java/util/LinkedHashMap" "java/util/LinkedHashMap" "tail" "Ljava/util/LinkedHashMap$Entry;") ∈ lw_all := lw_g (lw_at lw_m1 184 rfl) rfl
theorem q262 : (Jvm.Cond.soleField "java/util/LinkedHashMap" "tail") ∈ lw_all := lw_g (lw_at lw_m1 185 rfl) rfl
theorem q263 : (Jvm.Cond.laysFinal "java/util/LinkedHashMap" "java/util/LinkedHashMap" "accessOrder" "Z") ∈ lw_all := lw_g (lw_at lw_m1 186 rfl) rfl
theorem q264 : (Jvm.Cond.soleField "java/util/LinkedHashMap" "accessOrder") ∈ lw_all := lw_g (lw_at lw_m1 187 rfl) rfl
theorem q265 : (Jvm.Cond.lays "java/util/LinkedHashMap" "java/util/LinkedHashMap" "putMode" "I") ∈ lw_all := lw_g (lw_at lw_m1 188 rfl) rfl
theorem q266 : (Jvm.Cond.soleField "java/util/LinkedHashMap" "putMode") ∈ lw_all := lw_g (lw_at lw_m1 189 rfl) rfl
theorem q267 : (Jvm.Cond.lays "java/util/LinkedHashMap" "java/util/HashMap" "table" "[Ljava/util/HashMap$Node;") ∈ lw_all := lw_g (lw_at lw_m1 190 rfl) rfl
theorem q269 : (Jvm.Cond.lays "java/util/LinkedHashMap" "java/util/HashMap" "entrySet" "Ljava/util/Set;") ∈ lw_all := lw_g (lw_at lw_m1 192 rfl) rfl
theorem q271 : (Jvm.Cond.lays "java/util/LinkedHashMap" "java/util/HashMap" "size" "I") ∈ lw_all := lw_g (lw_at lw_m1 194 rfl) rfl
theorem q273 : (Jvm.Cond.lays "java/util/LinkedHashMap" "java/util/HashMap" "modCount" "I") ∈ lw_all := lw_g (lw_at lw_m1 196 rfl) rfl
theorem q275 : (Jvm.Cond.lays "java/util/LinkedHashMap" "java/util/HashMap" "threshold" "I") ∈ lw_all := lw_g (lw_at lw_m1 198 rfl) rfl
theorem q277 : (Jvm.Cond.laysFinal "java/util/LinkedHashMap" "java/util/HashMap" "loadFactor" "F") ∈ lw_all := lw_g (lw_at lw_m1 200 rfl) rfl
theorem q279 : (Jvm.Cond.lays "java/util/LinkedHashMap" "java/util/AbstractMap" "keySet" "Ljava/util/Set;") ∈ lw_all := lw_g (lw_at lw_m1 202 rfl) rfl
theorem q281 : (Jvm.Cond.lays "java/util/LinkedHashMap" "java/util/AbstractMap" "values" "Ljava/util/Collection;") ∈ lw_all := lw_g (lw_at lw_m1 204 rfl) rfl
theorem q283 : (Jvm.Cond.superclass "java/util/LinkedHashMap" "java/util/HashMap") ∈ lw_all := lw_g (lw_at lw_m1 206 rfl) rfl
theorem q325 : (Jvm.Cond.selects "java/util/LinkedHashMap" ({ cls := "java/util/HashMap", name := "getNode", desc := "(Ljava/lang/Object;)Ljava/util/HashMap$Node;" } : Jvm.MethodName) ({ cls := "java/util/HashMap", name := "getNode", desc := "(Ljava/lang/Object;)Ljava/util/HashMap$Node;" } : Jvm.MethodName)) ∈ lw_all := lw_g (lw_at lw_m2 8 rfl) rfl
theorem q435 : (Jvm.Cond.selects "java/util/LinkedHashMap" ({ cls := "java/lang/Object", name := "getClass", desc := "()Ljava/lang/Class;" } : Jvm.MethodName) ({ cls := "java/lang/Object", name := "getClass", desc := "()Ljava/lang/Class;" } : Jvm.MethodName)) ∈ lw_all := lw_g (lw_at lw_m2 118 rfl) rfl
theorem q636 : (Jvm.Cond.castable "java/util/LinkedHashMap" "java/util/Map") ∈ lw_tbl := lw_at lw_m3 79 rfl
theorem q637 : (Jvm.Cond.selects "java/util/LinkedHashMap" ({ cls := "java/util/Map", name := "get", desc := "(Ljava/lang/Object;)Ljava/lang/Object;" } : Jvm.MethodName) ({ cls := "java/util/LinkedHashMap", name := "get", desc := "(Ljava/lang/Object;)Ljava/lang/Object;" } : Jvm.MethodName)) ∈ lw_all := lw_g (lw_at lw_m3 80 rfl) rfl
theorem q638 : (Jvm.Cond.unhidden "java/util/LinkedHashMap" "get" "(Ljava/lang/Object;)Ljava/lang/Object;") ∈ lw_tbl := lw_at lw_m3 81 rfl
theorem q639 : (Jvm.Cond.instanceMethod ({ cls := "java/util/LinkedHashMap", name := "get", desc := "(Ljava/lang/Object;)Ljava/lang/Object;" } : Jvm.MethodName)) ∈ lw_all := lw_g (lw_at lw_m3 82 rfl) rfl
theorem q640 : (Jvm.Cond.publicMethod ({ cls := "java/util/LinkedHashMap", name := "get", desc := "(Ljava/lang/Object;)Ljava/lang/Object;" } : Jvm.MethodName)) ∈ lw_tbl := lw_at lw_m3 83 rfl
theorem q641 : (Jvm.Cond.code ({ cls := "java/util/LinkedHashMap", name := "get", desc := "(Ljava/lang/Object;)Ljava/lang/Object;" } : Jvm.MethodName) prog_49_method_20_code (3 : Nat) (Option.some (Jvm.ClassFile.FieldType.object "java/lang/Object"))) ∈ lw_all := lw_g (lw_at lw_m3 84 rfl) rfl
theorem q642 : (Jvm.Cond.methodLink "java/util/LinkedHashMap" (99 : Nat) ({ cls := "java/util/LinkedHashMap", name := "getNode", desc := "(Ljava/lang/Object;)Ljava/util/HashMap$Node;" } : Jvm.MethodName)) ∈ lw_all := lw_g (lw_at lw_m3 85 rfl) rfl
theorem q643 : (Jvm.Cond.sameMethod "java/util/LinkedHashMap" "java/util/HashMap" "getNode" "(Ljava/lang/Object;)Ljava/util/HashMap$Node;") ∈ lw_all := lw_g (lw_at lw_m3 86 rfl) rfl
theorem q645 : (Jvm.Cond.selects "java/util/LinkedHashMap" ({ cls := "java/util/LinkedHashMap", name := "getNode", desc := "(Ljava/lang/Object;)Ljava/util/HashMap$Node;" } : Jvm.MethodName) ({ cls := "java/util/HashMap", name := "getNode", desc := "(Ljava/lang/Object;)Ljava/util/HashMap$Node;" } : Jvm.MethodName)) ∈ lw_all := lw_g (lw_at lw_m3 88 rfl) rfl
theorem q646 : (Jvm.Cond.methodLink "java/util/LinkedHashMap" (103 : Nat) ({ cls := "java/util/LinkedHashMap", name := "afterNodeAccess", desc := "(Ljava/util/HashMap$Node;)V" } : Jvm.MethodName)) ∈ lw_all := lw_g (lw_at lw_m3 89 rfl) rfl
theorem q647 : (Jvm.Cond.instanceMethod ({ cls := "java/util/LinkedHashMap", name := "afterNodeAccess", desc := "(Ljava/util/HashMap$Node;)V" } : Jvm.MethodName)) ∈ lw_all := lw_g (lw_at lw_m3 90 rfl) rfl
theorem q648 : (Jvm.Cond.selects "java/util/LinkedHashMap" ({ cls := "java/util/LinkedHashMap", name := "afterNodeAccess", desc := "(Ljava/util/HashMap$Node;)V" } : Jvm.MethodName) ({ cls := "java/util/LinkedHashMap", name := "afterNodeAccess", desc := "(Ljava/util/HashMap$Node;)V" } : Jvm.MethodName)) ∈ lw_all := lw_g (lw_at lw_m3 91 rfl) rfl
theorem q649 : (Jvm.Cond.code ({ cls := "java/util/LinkedHashMap", name := "afterNodeAccess", desc := "(Ljava/util/HashMap$Node;)V" } : Jvm.MethodName) prog_49_method_10_code (7 : Nat) (Option.none : Option Jvm.ClassFile.FieldType)) ∈ lw_all := lw_g (lw_at lw_m3 92 rfl) rfl
theorem q650 : (Jvm.Cond.classLink "java/util/LinkedHashMap" (15 : Nat) "java/util/LinkedHashMap$Entry") ∈ lw_all := lw_g (lw_at lw_m3 93 rfl) rfl
theorem q665 : (Jvm.Cond.selects "java/util/LinkedHashMap" ({ cls := "java/util/HashMap", name := "putVal", desc := "(ILjava/lang/Object;Ljava/lang/Object;ZZ)Ljava/lang/Object;" } : Jvm.MethodName) ({ cls := "java/util/HashMap", name := "putVal", desc := "(ILjava/lang/Object;Ljava/lang/Object;ZZ)Ljava/lang/Object;" } : Jvm.MethodName)) ∈ lw_all := lw_g (lw_at lw_m3 108 rfl) rfl
theorem q671 : (Jvm.Cond.selects "java/util/LinkedHashMap" ({ cls := "java/util/HashMap", name := "resize", desc := "()[Ljava/util/HashMap$Node;" } : Jvm.MethodName) ({ cls := "java/util/HashMap", name := "resize", desc := "()[Ljava/util/HashMap$Node;" } : Jvm.MethodName)) ∈ lw_all := lw_g (lw_at lw_m3 114 rfl) rfl
theorem q691 : (Jvm.Cond.selects "java/util/LinkedHashMap" ({ cls := "java/util/HashMap", name := "replacementNode", desc := "(Ljava/util/HashMap$Node;Ljava/util/HashMap$Node;)Ljava/util/HashMap$Node;" } : Jvm.MethodName) ({ cls := "java/util/LinkedHashMap", name := "replacementNode", desc := "(Ljava/util/HashMap$Node;Ljava/util/HashMap$Node;)Ljava/util/HashMap$Node;" } : Jvm.MethodName)) ∈ lw_all := lw_g (lw_at lw_m3 134 rfl) rfl
theorem q692 : (Jvm.Cond.instanceMethod ({ cls := "java/util/LinkedHashMap", name := "replacementNode", desc := "(Ljava/util/HashMap$Node;Ljava/util/HashMap$Node;)Ljava/util/HashMap$Node;" } : Jvm.MethodName)) ∈ lw_all := lw_g (lw_at lw_m3 135 rfl) rfl
theorem q693 : (Jvm.Cond.code ({ cls := "java/util/LinkedHashMap", name := "replacementNode", desc := "(Ljava/util/HashMap$Node;Ljava/util/HashMap$Node;)Ljava/util/HashMap$Node;" } : Jvm.MethodName) prog_49_method_5_code (5 : Nat) (Option.some (Jvm.ClassFile.FieldType.object "java/util/HashMap$Node"))) ∈ lw_all := lw_g (lw_at lw_m3 136 rfl) rfl
theorem q695 : (Jvm.Cond.methodLink "java/util/LinkedHashMap" (28 : Nat) ({ cls := "java/util/LinkedHashMap$Entry", name := "<init>", desc := "(ILjava/lang/Object;Ljava/lang/Object;Ljava/util/HashMap$Node;)V" } : Jvm.MethodName)) ∈ lw_all := lw_g (lw_at lw_m3 138 rfl) rfl
theorem q702 : (Jvm.Cond.fieldLink "java/util/LinkedHashMap" (19 : Nat) "java/util/LinkedHashMap$Entry" "before" "Ljava/util/LinkedHashMap$Entry;") ∈ lw_all := lw_g (lw_at lw_m3 145 rfl) rfl
theorem q703 : (Jvm.Cond.fieldLink "java/util/LinkedHashMap" (14 : Nat) "java/util/LinkedHashMap$Entry" "after" "Ljava/util/LinkedHashMap$Entry;") ∈ lw_all := lw_g (lw_at lw_m3 146 rfl) rfl
theorem q707 : (Jvm.Cond.fieldLink "java/util/LinkedHashMap" (36 : Nat) "java/util/LinkedHashMap$Entry" "hash" "I") ∈ lw_all := lw_g (lw_at lw_m3 150 rfl) rfl
theorem q713 : (Jvm.Cond.fieldLink "java/util/LinkedHashMap" (39 : Nat) "java/util/LinkedHashMap$Entry" "key" "Ljava/lang/Object;") ∈ lw_all := lw_g (lw_at lw_m3 156 rfl) rfl
theorem q717 : (Jvm.Cond.fieldLink "java/util/LinkedHashMap" (43 : Nat) "java/util/LinkedHashMap$Entry" "value" "Ljava/lang/Object;") ∈ lw_all := lw_g (lw_at lw_m3 160 rfl) rfl
theorem q720 : (Jvm.Cond.fieldLink "java/util/LinkedHashMap" (107 : Nat) "java/util/HashMap$Node" "value" "Ljava/lang/Object;") ∈ lw_all := lw_g (lw_at lw_m3 163 rfl) rfl
theorem q740 : (Jvm.Cond.methodLink "java/util/LinkedHashMap" (46 : Nat) ({ cls := "java/util/LinkedHashMap", name := "transferLinks", desc := "(Ljava/util/LinkedHashMap$Entry;Ljava/util/LinkedHashMap$Entry;)V" } : Jvm.MethodName)) ∈ lw_all := lw_g (lw_at lw_m3 183 rfl) rfl
theorem q741 : (Jvm.Cond.privateMethod ({ cls := "java/util/LinkedHashMap", name := "transferLinks", desc := "(Ljava/util/LinkedHashMap$Entry;Ljava/util/LinkedHashMap$Entry;)V" } : Jvm.MethodName)) ∈ lw_tbl := lw_at lw_m3 184 rfl
theorem q742 : (Jvm.Cond.instanceMethod ({ cls := "java/util/LinkedHashMap", name := "transferLinks", desc := "(Ljava/util/LinkedHashMap$Entry;Ljava/util/LinkedHashMap$Entry;)V" } : Jvm.MethodName)) ∈ lw_all := lw_g (lw_at lw_m3 185 rfl) rfl
theorem q743 : (Jvm.Cond.code ({ cls := "java/util/LinkedHashMap", name := "transferLinks", desc := "(Ljava/util/LinkedHashMap$Entry;Ljava/util/LinkedHashMap$Entry;)V" } : Jvm.MethodName) prog_49_method_2_code (5 : Nat) (Option.none : Option Jvm.ClassFile.FieldType)) ∈ lw_all := lw_g (lw_at lw_m3 186 rfl) rfl
theorem q774 : (Jvm.Cond.selects "java/util/LinkedHashMap" ({ cls := "java/util/HashMap", name := "newNode", desc := "(ILjava/lang/Object;Ljava/lang/Object;Ljava/util/HashMap$Node;)Ljava/util/HashMap$Node;" } : Jvm.MethodName) ({ cls := "java/util/LinkedHashMap", name := "newNode", desc := "(ILjava/lang/Object;Ljava/lang/Object;Ljava/util/HashMap$Node;)Ljava/util/HashMap$Node;" } : Jvm.MethodName)) ∈ lw_all := lw_g (lw_at lw_m3 217 rfl) rfl
theorem q775 : (Jvm.Cond.instanceMethod ({ cls := "java/util/LinkedHashMap", name := "newNode", desc := "(ILjava/lang/Object;Ljava/lang/Object;Ljava/util/HashMap$Node;)Ljava/util/HashMap$Node;" } : Jvm.MethodName)) ∈ lw_all := lw_g (lw_at lw_m3 218 rfl) rfl
theorem q776 : (Jvm.Cond.code ({ cls := "java/util/LinkedHashMap", name := "newNode", desc := "(ILjava/lang/Object;Ljava/lang/Object;Ljava/util/HashMap$Node;)Ljava/util/HashMap$Node;" } : Jvm.MethodName) prog_49_method_4_code (6 : Nat) (Option.some (Jvm.ClassFile.FieldType.object "java/util/HashMap$Node"))) ∈ lw_all := lw_g (lw_at lw_m3 219 rfl) rfl
theorem q777 : (Jvm.Cond.methodLink "java/util/LinkedHashMap" (32 : Nat) ({ cls := "java/util/LinkedHashMap", name := "linkNodeAtEnd", desc := "(Ljava/util/LinkedHashMap$Entry;)V" } : Jvm.MethodName)) ∈ lw_all := lw_g (lw_at lw_m3 220 rfl) rfl
theorem q778 : (Jvm.Cond.privateMethod ({ cls := "java/util/LinkedHashMap", name := "linkNodeAtEnd", desc := "(Ljava/util/LinkedHashMap$Entry;)V" } : Jvm.MethodName)) ∈ lw_tbl := lw_at lw_m3 221 rfl
theorem q779 : (Jvm.Cond.instanceMethod ({ cls := "java/util/LinkedHashMap", name := "linkNodeAtEnd", desc := "(Ljava/util/LinkedHashMap$Entry;)V" } : Jvm.MethodName)) ∈ lw_all := lw_g (lw_at lw_m3 222 rfl) rfl
theorem q780 : (Jvm.Cond.code ({ cls := "java/util/LinkedHashMap", name := "linkNodeAtEnd", desc := "(Ljava/util/LinkedHashMap$Entry;)V" } : Jvm.MethodName) prog_49_method_1_code (3 : Nat) (Option.none : Option Jvm.ClassFile.FieldType)) ∈ lw_all := lw_g (lw_at lw_m3 223 rfl) rfl
theorem q790 : (Jvm.Cond.selects "java/util/LinkedHashMap" ({ cls := "java/util/HashMap", name := "newTreeNode", desc := "(ILjava/lang/Object;Ljava/lang/Object;Ljava/util/HashMap$Node;)Ljava/util/HashMap$TreeNode;" } : Jvm.MethodName) ({ cls := "java/util/LinkedHashMap", name := "newTreeNode", desc := "(ILjava/lang/Object;Ljava/lang/Object;Ljava/util/HashMap$Node;)Ljava/util/HashMap$TreeNode;" } : Jvm.MethodName)) ∈ lw_all := lw_g (lw_at lw_m3 233 rfl) rfl
theorem q791 : (Jvm.Cond.instanceMethod ({ cls := "java/util/LinkedHashMap", name := "newTreeNode", desc := "(ILjava/lang/Object;Ljava/lang/Object;Ljava/util/HashMap$Node;)Ljava/util/HashMap$TreeNode;" } : Jvm.MethodName)) ∈ lw_all := lw_g (lw_at lw_m3 234 rfl) rfl
theorem q792 : (Jvm.Cond.code ({ cls := "java/util/LinkedHashMap", name := "newTreeNode", desc := "(ILjava/lang/Object;Ljava/lang/Object;Ljava/util/HashMap$Node;)Ljava/util/HashMap$TreeNode;" } : Jvm.MethodName) prog_49_method_6_code (6 : Nat) (Option.some (Jvm.ClassFile.FieldType.object "java/util/HashMap$TreeNode"))) ∈ lw_all := lw_g (lw_at lw_m3 235 rfl) rfl
theorem q793 : (Jvm.Cond.classLink "java/util/LinkedHashMap" (50 : Nat) "java/util/HashMap$TreeNode") ∈ lw_all := lw_g (lw_at lw_m3 236 rfl) rfl
theorem q795 : (Jvm.Cond.methodLink "java/util/LinkedHashMap" (52 : Nat) ({ cls := "java/util/HashMap$TreeNode", name := "<init>", desc := "(ILjava/lang/Object;Ljava/lang/Object;Ljava/util/HashMap$Node;)V" } : Jvm.MethodName)) ∈ lw_all := lw_g (lw_at lw_m3 238 rfl) rfl
theorem q828 : (Jvm.Cond.selects "java/util/LinkedHashMap" ({ cls := "java/util/HashMap", name := "treeifyBin", desc := "([Ljava/util/HashMap$Node;I)V" } : Jvm.MethodName) ({ cls := "java/util/HashMap", name := "treeifyBin", desc := "([Ljava/util/HashMap$Node;I)V" } : Jvm.MethodName)) ∈ lw_all := lw_g (lw_at lw_m4 31 rfl) rfl
theorem q834 : (Jvm.Cond.selects "java/util/LinkedHashMap" ({ cls := "java/util/HashMap", name := "replacementTreeNode", desc := "(Ljava/util/HashMap$Node;Ljava/util/HashMap$Node;)Ljava/util/HashMap$TreeNode;" } : Jvm.MethodName) ({ cls := "java/util/LinkedHashMap", name := "replacementTreeNode", desc := "(Ljava/util/HashMap$Node;Ljava/util/HashMap$Node;)Ljava/util/HashMap$TreeNode;" } : Jvm.MethodName)) ∈ lw_all := lw_g (lw_at lw_m4 37 rfl) rfl
theorem q835 : (Jvm.Cond.instanceMethod ({ cls := "java/util/LinkedHashMap", name := "replacementTreeNode", desc := "(Ljava/util/HashMap$Node;Ljava/util/HashMap$Node;)Ljava/util/HashMap$TreeNode;" } : Jvm.MethodName)) ∈ lw_all := lw_g (lw_at lw_m4 38 rfl) rfl
theorem q836 : (Jvm.Cond.code ({ cls := "java/util/LinkedHashMap", name := "replacementTreeNode", desc := "(Ljava/util/HashMap$Node;Ljava/util/HashMap$Node;)Ljava/util/HashMap$TreeNode;" } : Jvm.MethodName) prog_49_method_7_code (5 : Nat) (Option.some (Jvm.ClassFile.FieldType.object "java/util/HashMap$TreeNode"))) ∈ lw_all := lw_g (lw_at lw_m4 39 rfl) rfl
theorem q843 : (Jvm.Cond.selects "java/util/LinkedHashMap" ({ cls := "java/util/HashMap", name := "afterNodeAccess", desc := "(Ljava/util/HashMap$Node;)V" } : Jvm.MethodName) ({ cls := "java/util/LinkedHashMap", name := "afterNodeAccess", desc := "(Ljava/util/HashMap$Node;)V" } : Jvm.MethodName)) ∈ lw_all := lw_g (lw_at lw_m4 46 rfl) rfl
theorem q849 : (Jvm.Cond.selects "java/util/LinkedHashMap" ({ cls := "java/util/HashMap", name := "afterNodeInsertion", desc := "(Z)V" } : Jvm.MethodName) ({ cls := "java/util/LinkedHashMap", name := "afterNodeInsertion", desc := "(Z)V" } : Jvm.MethodName)) ∈ lw_all := lw_g (lw_at lw_m4 52 rfl) rfl
theorem q850 : (Jvm.Cond.instanceMethod ({ cls := "java/util/LinkedHashMap", name := "afterNodeInsertion", desc := "(Z)V" } : Jvm.MethodName)) ∈ lw_all := lw_g (lw_at lw_m4 53 rfl) rfl
theorem q851 : (Jvm.Cond.code ({ cls := "java/util/LinkedHashMap", name := "afterNodeInsertion", desc := "(Z)V" } : Jvm.MethodName) prog_49_method_9_code (4 : Nat) (Option.none : Option Jvm.ClassFile.FieldType)) ∈ lw_all := lw_g (lw_at lw_m4 54 rfl) rfl
theorem q852 : (Jvm.Cond.methodLink "java/util/LinkedHashMap" (53 : Nat) ({ cls := "java/util/LinkedHashMap", name := "removeEldestEntry", desc := "(Ljava/util/Map$Entry;)Z" } : Jvm.MethodName)) ∈ lw_all := lw_g (lw_at lw_m4 55 rfl) rfl
theorem q853 : (Jvm.Cond.instanceMethod ({ cls := "java/util/LinkedHashMap", name := "removeEldestEntry", desc := "(Ljava/util/Map$Entry;)Z" } : Jvm.MethodName)) ∈ lw_all := lw_g (lw_at lw_m4 56 rfl) rfl
theorem q854 : (Jvm.Cond.selects "java/util/LinkedHashMap" ({ cls := "java/util/LinkedHashMap", name := "removeEldestEntry", desc := "(Ljava/util/Map$Entry;)Z" } : Jvm.MethodName) ({ cls := "java/util/LinkedHashMap", name := "removeEldestEntry", desc := "(Ljava/util/Map$Entry;)Z" } : Jvm.MethodName)) ∈ lw_all := lw_g (lw_at lw_m4 57 rfl) rfl
theorem q855 : (Jvm.Cond.code ({ cls := "java/util/LinkedHashMap", name := "removeEldestEntry", desc := "(Ljava/util/Map$Entry;)Z" } : Jvm.MethodName) prog_49_method_23_code (2 : Nat) (Option.some Jvm.ClassFile.FieldType.boolean)) ∈ lw_all := lw_g (lw_at lw_m4 58 rfl) rfl
theorem q857 : (Jvm.Cond.selects "java/util/LinkedHashMap" ({ cls := "java/util/Map", name := "put", desc := "(Ljava/lang/Object;Ljava/lang/Object;)Ljava/lang/Object;" } : Jvm.MethodName) ({ cls := "java/util/HashMap", name := "put", desc := "(Ljava/lang/Object;Ljava/lang/Object;)Ljava/lang/Object;" } : Jvm.MethodName)) ∈ lw_all := lw_g (lw_at lw_m4 60 rfl) rfl
theorem q858 : (Jvm.Cond.unhidden "java/util/LinkedHashMap" "put" "(Ljava/lang/Object;Ljava/lang/Object;)Ljava/lang/Object;") ∈ lw_tbl := lw_at lw_m4 61 rfl
theorem q984 : (Jvm.Cond.selects "java/util/LinkedHashMap" ({ cls := "java/util/Map", name := "size", desc := "()I" } : Jvm.MethodName) ({ cls := "java/util/HashMap", name := "size", desc := "()I" } : Jvm.MethodName)) ∈ lw_all := lw_g (lw_at lw_m4 187 rfl) rfl
theorem q985 : (Jvm.Cond.unhidden "java/util/LinkedHashMap" "size" "()I") ∈ lw_tbl := lw_at lw_m4 188 rfl
theorem q2276 : (Jvm.Cond.selects "java/util/LinkedHashMap" ({ cls := "java/util/HashMap", name := "put", desc := "(Ljava/lang/Object;Ljava/lang/Object;)Ljava/lang/Object;" } : Jvm.MethodName) ({ cls := "java/util/HashMap", name := "put", desc := "(Ljava/lang/Object;Ljava/lang/Object;)Ljava/lang/Object;" } : Jvm.MethodName)) ∈ lw_all := lw_g (lw_at lw_m10 39 rfl) rfl
theorem q2292 : (Jvm.Cond.castable "java/util/LinkedHashMap" "java/lang/Object") ∈ lw_tbl := lw_at lw_m10 55 rfl
theorem in_J9 : ∀ w ∈ wsJ90, w ∈ lw_all := lw_in wsJ90 [279, 281, 267, 269, 271, 273, 275, 277, 259, 261, 263, 265] (by decide +kernel) (by decide +kernel)
