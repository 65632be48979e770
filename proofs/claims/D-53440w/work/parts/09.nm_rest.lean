/-! jdk/internal/util/ArraysSupport -/
set_option maxRecDepth 100000
def RJ14 : String := "jdk/internal/util/ArraysSupport"
abbrev cJ14_mismatch : ByteArray := prog_61_method_13_code
def yJ14_mismatch : MethodName := ⟨RJ14, "mismatch", "([B[BI)I"⟩
def dkwJ14_mismatch_3 : List UInt8 := [172]
abbrev dktJ14_mismatch_3 : List UInt8 := dkwJ14_mismatch_3 ++ []
def dkwJ14_mismatch_2 : List UInt8 := [62, 29, 28, 162, 0, 20, 42, 29, 51, 43, 29, 51, 159, 0, 5, 29, 172, 132, 3, 1, 167, 255, 237, 2]
abbrev dktJ14_mismatch_2 : List UInt8 := dkwJ14_mismatch_2 ++ dktJ14_mismatch_3
def dkwJ14_mismatch_1 : List UInt8 := [43, 178, 0, 126, 133, 28, 178, 0, 129, 184, 0, 122, 62, 29, 155, 0, 5, 29, 172, 28, 29, 2, 130, 100]
abbrev dktJ14_mismatch_1 : List UInt8 := dkwJ14_mismatch_1 ++ dktJ14_mismatch_2
def dkwJ14_mismatch_0 : List UInt8 := [3, 62, 28, 16, 7, 164, 0, 44, 42, 3, 51, 43, 3, 51, 159, 0, 5, 3, 172, 42, 178, 0, 126, 133]
abbrev dktJ14_mismatch_0 : List UInt8 := dkwJ14_mismatch_0 ++ dktJ14_mismatch_1
theorem dksJ14_mismatch_0 : cJ14_mismatch.data.toList.drop 0 = dktJ14_mismatch_0 := by decide +kernel
theorem dksJ14_mismatch_1 : cJ14_mismatch.data.toList.drop 24 = dktJ14_mismatch_1 := dk_seg dksJ14_mismatch_0 24 rfl rfl
theorem dksJ14_mismatch_2 : cJ14_mismatch.data.toList.drop 48 = dktJ14_mismatch_2 := dk_seg dksJ14_mismatch_1 24 rfl rfl
theorem dksJ14_mismatch_3 : cJ14_mismatch.data.toList.drop 72 = dktJ14_mismatch_3 := dk_seg dksJ14_mismatch_2 24 rfl rfl
theorem dJ14_mismatch_0 : decode cJ14_mismatch 0 = .ok (.iconst 0, 1) := dk_3 (dk_at dksJ14_mismatch_0 0 rfl rfl)
theorem dJ14_mismatch_1 : decode cJ14_mismatch 1 = .ok (.istore_n 3, 1) := dk_62 (dk_at dksJ14_mismatch_0 1 rfl rfl)
theorem dJ14_mismatch_2 : decode cJ14_mismatch 2 = .ok (.iload_n 2, 1) := dk_28 (dk_at dksJ14_mismatch_0 2 rfl rfl)
theorem dJ14_mismatch_3 : decode cJ14_mismatch 3 = .ok (.bipush 7, 2) := dk_16 7 (dk_at dksJ14_mismatch_0 3 rfl rfl)
theorem dJ14_mismatch_5 : decode cJ14_mismatch 5 = .ok (.if_icmp .le 44, 3) := dk_164 0 44 (dk_at dksJ14_mismatch_0 5 rfl rfl)
theorem dJ14_mismatch_8 : decode cJ14_mismatch 8 = .ok (.aload_n 0, 1) := dk_42 (dk_at dksJ14_mismatch_0 8 rfl rfl)
theorem dJ14_mismatch_9 : decode cJ14_mismatch 9 = .ok (.iconst 0, 1) := dk_3 (dk_at dksJ14_mismatch_0 9 rfl rfl)
theorem dJ14_mismatch_10 : decode cJ14_mismatch 10 = .ok (.baload, 1) := dk_51 (dk_at dksJ14_mismatch_0 10 rfl rfl)
theorem dJ14_mismatch_11 : decode cJ14_mismatch 11 = .ok (.aload_n 1, 1) := dk_43 (dk_at dksJ14_mismatch_0 11 rfl rfl)
theorem dJ14_mismatch_12 : decode cJ14_mismatch 12 = .ok (.iconst 0, 1) := dk_3 (dk_at dksJ14_mismatch_0 12 rfl rfl)
theorem dJ14_mismatch_13 : decode cJ14_mismatch 13 = .ok (.baload, 1) := dk_51 (dk_at dksJ14_mismatch_0 13 rfl rfl)
theorem dJ14_mismatch_14 : decode cJ14_mismatch 14 = .ok (.if_icmp .eq 5, 3) := dk_159 0 5 (dk_at dksJ14_mismatch_0 14 rfl rfl)
theorem dJ14_mismatch_17 : decode cJ14_mismatch 17 = .ok (.iconst 0, 1) := dk_3 (dk_at dksJ14_mismatch_0 17 rfl rfl)
theorem dJ14_mismatch_18 : decode cJ14_mismatch 18 = .ok (.ireturn, 1) := dk_172 (dk_at dksJ14_mismatch_0 18 rfl rfl)
theorem dJ14_mismatch_19 : decode cJ14_mismatch 19 = .ok (.aload_n 0, 1) := dk_42 (dk_at dksJ14_mismatch_0 19 rfl rfl)
theorem dJ14_mismatch_20 : decode cJ14_mismatch 20 = .ok (.getstatic 126, 3) := dk_178 0 126 (dk_at dksJ14_mismatch_0 20 rfl rfl)
theorem dJ14_mismatch_23 : decode cJ14_mismatch 23 = .ok (.i2l, 1) := dk_133 (dk_at dksJ14_mismatch_0 23 rfl rfl)
theorem dJ14_mismatch_24 : decode cJ14_mismatch 24 = .ok (.aload_n 1, 1) := dk_43 (dk_at dksJ14_mismatch_1 0 rfl rfl)
theorem dJ14_mismatch_25 : decode cJ14_mismatch 25 = .ok (.getstatic 126, 3) := dk_178 0 126 (dk_at dksJ14_mismatch_1 1 rfl rfl)
theorem dJ14_mismatch_28 : decode cJ14_mismatch 28 = .ok (.i2l, 1) := dk_133 (dk_at dksJ14_mismatch_1 4 rfl rfl)
theorem dJ14_mismatch_29 : decode cJ14_mismatch 29 = .ok (.iload_n 2, 1) := dk_28 (dk_at dksJ14_mismatch_1 5 rfl rfl)
theorem dJ14_mismatch_30 : decode cJ14_mismatch 30 = .ok (.getstatic 129, 3) := dk_178 0 129 (dk_at dksJ14_mismatch_1 6 rfl rfl)
theorem dJ14_mismatch_33 : decode cJ14_mismatch 33 = .ok (.invokestatic 122, 3) := dk_184 0 122 (dk_at dksJ14_mismatch_1 9 rfl rfl)
theorem dJ14_mismatch_36 : decode cJ14_mismatch 36 = .ok (.istore_n 3, 1) := dk_62 (dk_at dksJ14_mismatch_1 12 rfl rfl)
theorem dJ14_mismatch_37 : decode cJ14_mismatch 37 = .ok (.iload_n 3, 1) := dk_29 (dk_at dksJ14_mismatch_1 13 rfl rfl)
theorem dJ14_mismatch_38 : decode cJ14_mismatch 38 = .ok (.ifCond .lt 5, 3) := dk_155 0 5 (dk_at dksJ14_mismatch_1 14 rfl rfl)
theorem dJ14_mismatch_41 : decode cJ14_mismatch 41 = .ok (.iload_n 3, 1) := dk_29 (dk_at dksJ14_mismatch_1 17 rfl rfl)
theorem dJ14_mismatch_42 : decode cJ14_mismatch 42 = .ok (.ireturn, 1) := dk_172 (dk_at dksJ14_mismatch_1 18 rfl rfl)
theorem dJ14_mismatch_43 : decode cJ14_mismatch 43 = .ok (.iload_n 2, 1) := dk_28 (dk_at dksJ14_mismatch_1 19 rfl rfl)
theorem dJ14_mismatch_44 : decode cJ14_mismatch 44 = .ok (.iload_n 3, 1) := dk_29 (dk_at dksJ14_mismatch_1 20 rfl rfl)
theorem dJ14_mismatch_45 : decode cJ14_mismatch 45 = .ok (.iconst (-1), 1) := dk_2 (dk_at dksJ14_mismatch_1 21 rfl rfl)
theorem dJ14_mismatch_46 : decode cJ14_mismatch 46 = .ok (.ixor, 1) := dk_130 (dk_at dksJ14_mismatch_1 22 rfl rfl)
theorem dJ14_mismatch_47 : decode cJ14_mismatch 47 = .ok (.isub, 1) := dk_100 (dk_at dksJ14_mismatch_1 23 rfl rfl)
theorem dJ14_mismatch_48 : decode cJ14_mismatch 48 = .ok (.istore_n 3, 1) := dk_62 (dk_at dksJ14_mismatch_2 0 rfl rfl)
theorem dJ14_mismatch_49 : decode cJ14_mismatch 49 = .ok (.iload_n 3, 1) := dk_29 (dk_at dksJ14_mismatch_2 1 rfl rfl)
theorem dJ14_mismatch_50 : decode cJ14_mismatch 50 = .ok (.iload_n 2, 1) := dk_28 (dk_at dksJ14_mismatch_2 2 rfl rfl)
theorem dJ14_mismatch_51 : decode cJ14_mismatch 51 = .ok (.if_icmp .ge 20, 3) := dk_162 0 20 (dk_at dksJ14_mismatch_2 3 rfl rfl)
theorem dJ14_mismatch_54 : decode cJ14_mismatch 54 = .ok (.aload_n 0, 1) := dk_42 (dk_at dksJ14_mismatch_2 6 rfl rfl)
theorem dJ14_mismatch_55 : decode cJ14_mismatch 55 = .ok (.iload_n 3, 1) := dk_29 (dk_at dksJ14_mismatch_2 7 rfl rfl)
theorem dJ14_mismatch_56 : decode cJ14_mismatch 56 = .ok (.baload, 1) := dk_51 (dk_at dksJ14_mismatch_2 8 rfl rfl)
theorem dJ14_mismatch_57 : decode cJ14_mismatch 57 = .ok (.aload_n 1, 1) := dk_43 (dk_at dksJ14_mismatch_2 9 rfl rfl)
theorem dJ14_mismatch_58 : decode cJ14_mismatch 58 = .ok (.iload_n 3, 1) := dk_29 (dk_at dksJ14_mismatch_2 10 rfl rfl)
theorem dJ14_mismatch_59 : decode cJ14_mismatch 59 = .ok (.baload, 1) := dk_51 (dk_at dksJ14_mismatch_2 11 rfl rfl)
theorem dJ14_mismatch_60 : decode cJ14_mismatch 60 = .ok (.if_icmp .eq 5, 3) := dk_159 0 5 (dk_at dksJ14_mismatch_2 12 rfl rfl)
theorem dJ14_mismatch_63 : decode cJ14_mismatch 63 = .ok (.iload_n 3, 1) := dk_29 (dk_at dksJ14_mismatch_2 15 rfl rfl)
theorem dJ14_mismatch_64 : decode cJ14_mismatch 64 = .ok (.ireturn, 1) := dk_172 (dk_at dksJ14_mismatch_2 16 rfl rfl)
theorem dJ14_mismatch_65 : decode cJ14_mismatch 65 = .ok (.iinc 3 1, 3) := dk_132 3 1 (dk_at dksJ14_mismatch_2 17 rfl rfl)
theorem dJ14_mismatch_68 : decode cJ14_mismatch 68 = .ok (.goto (-19), 3) := dk_167 255 237 (dk_at dksJ14_mismatch_2 20 rfl rfl)
theorem dJ14_mismatch_71 : decode cJ14_mismatch 71 = .ok (.iconst (-1), 1) := dk_2 (dk_at dksJ14_mismatch_2 23 rfl rfl)
theorem dJ14_mismatch_72 : decode cJ14_mismatch 72 = .ok (.ireturn, 1) := dk_172 (dk_at dksJ14_mismatch_3 0 rfl rfl)
abbrev cJ14_vectorizedMismatch : ByteArray := prog_61_method_3_code
def yJ14_vectorizedMismatch : MethodName := ⟨RJ14, "vectorizedMismatch", "(Ljava/lang/Object;JLjava/lang/Object;JII)I"⟩
def dkwJ14_vectorizedMismatch_11 : List UInt8 := [54, 10, 21, 10, 2, 130, 172, 21, 10, 2, 130, 172]
abbrev dktJ14_vectorizedMismatch_11 : List UInt8 := dkwJ14_vectorizedMismatch_11 ++ []
def dkwJ14_vectorizedMismatch_10 : List UInt8 := [178, 0, 46, 21, 7, 96, 122, 54, 17, 21, 9, 21, 8, 120, 21, 17, 96, 172, 21, 10, 21, 11, 100]
abbrev dktJ14_vectorizedMismatch_10 : List UInt8 := dkwJ14_vectorizedMismatch_10 ++ dktJ14_vectorizedMismatch_11
def dkwJ14_vectorizedMismatch_9 : List UInt8 := [153, 0, 18, 21, 16, 184, 0, 58, 178, 0, 46, 21, 7, 96, 122, 167, 0, 15, 21, 16, 184, 0, 11]
abbrev dktJ14_vectorizedMismatch_9 : List UInt8 := dkwJ14_vectorizedMismatch_9 ++ dktJ14_vectorizedMismatch_10
def dkwJ14_vectorizedMismatch_8 : List UInt8 := [182, 0, 54, 54, 15, 21, 14, 21, 15, 159, 0, 54, 21, 14, 21, 15, 130, 54, 16, 178, 0, 36]
abbrev dktJ14_vectorizedMismatch_8 : List UInt8 := dkwJ14_vectorizedMismatch_8 ++ dktJ14_vectorizedMismatch_9
def dkwJ14_vectorizedMismatch_7 : List UInt8 := [55, 12, 178, 0, 26, 42, 31, 22, 12, 97, 182, 0, 54, 54, 14, 178, 0, 26, 45, 22, 4, 22, 12, 97]
abbrev dktJ14_vectorizedMismatch_7 : List UInt8 := dkwJ14_vectorizedMismatch_7 ++ dktJ14_vectorizedMismatch_8
def dkwJ14_vectorizedMismatch_6 : List UInt8 := [4, 178, 0, 51, 21, 7, 100, 120, 54, 11, 21, 10, 21, 11, 161, 0, 104, 21, 9, 133, 178, 0, 20, 121]
abbrev dktJ14_vectorizedMismatch_6 : List UInt8 := dkwJ14_vectorizedMismatch_6 ++ dktJ14_vectorizedMismatch_7
def dkwJ14_vectorizedMismatch_5 : List UInt8 := [132, 9, 1, 167, 255, 148, 21, 6, 21, 9, 21, 8, 120, 100, 54, 10, 21, 7, 178, 0, 51, 162, 0, 126]
abbrev dktJ14_vectorizedMismatch_5 : List UInt8 := dkwJ14_vectorizedMismatch_5 ++ dktJ14_vectorizedMismatch_6
def dkwJ14_vectorizedMismatch_4 : List UInt8 := [22, 16, 184, 0, 49, 178, 0, 46, 21, 7, 96, 122, 54, 18, 21, 9, 21, 8, 120, 21, 18, 96, 172]
abbrev dktJ14_vectorizedMismatch_4 : List UInt8 := dkwJ14_vectorizedMismatch_4 ++ dktJ14_vectorizedMismatch_5
def dkwJ14_vectorizedMismatch_3 : List UInt8 := [55, 16, 178, 0, 36, 153, 0, 18, 22, 16, 184, 0, 40, 178, 0, 46, 21, 7, 96, 122, 167, 0, 15]
abbrev dktJ14_vectorizedMismatch_3 : List UInt8 := dkwJ14_vectorizedMismatch_3 ++ dktJ14_vectorizedMismatch_4
def dkwJ14_vectorizedMismatch_2 : List UInt8 := [22, 4, 22, 10, 97, 182, 0, 30, 55, 14, 22, 12, 22, 14, 148, 153, 0, 54, 22, 12, 22, 14, 131]
abbrev dktJ14_vectorizedMismatch_2 : List UInt8 := dkwJ14_vectorizedMismatch_2 ++ dktJ14_vectorizedMismatch_3
def dkwJ14_vectorizedMismatch_1 : List UInt8 := [178, 0, 20, 121, 55, 10, 178, 0, 26, 42, 31, 22, 10, 97, 182, 0, 30, 55, 12, 178, 0, 26, 45]
abbrev dktJ14_vectorizedMismatch_1 : List UInt8 := dkwJ14_vectorizedMismatch_1 ++ dktJ14_vectorizedMismatch_2
def dkwJ14_vectorizedMismatch_0 : List UInt8 := [178, 0, 20, 21, 7, 100, 54, 8, 3, 54, 9, 21, 9, 21, 6, 21, 8, 122, 162, 0, 104, 21, 9, 133]
abbrev dktJ14_vectorizedMismatch_0 : List UInt8 := dkwJ14_vectorizedMismatch_0 ++ dktJ14_vectorizedMismatch_1
theorem dksJ14_vectorizedMismatch_0 : cJ14_vectorizedMismatch.data.toList.drop 0 = dktJ14_vectorizedMismatch_0 := by decide +kernel
theorem dksJ14_vectorizedMismatch_1 : cJ14_vectorizedMismatch.data.toList.drop 24 = dktJ14_vectorizedMismatch_1 := dk_seg dksJ14_vectorizedMismatch_0 24 rfl rfl
theorem dksJ14_vectorizedMismatch_2 : cJ14_vectorizedMismatch.data.toList.drop 47 = dktJ14_vectorizedMismatch_2 := dk_seg dksJ14_vectorizedMismatch_1 23 rfl rfl
theorem dksJ14_vectorizedMismatch_3 : cJ14_vectorizedMismatch.data.toList.drop 70 = dktJ14_vectorizedMismatch_3 := dk_seg dksJ14_vectorizedMismatch_2 23 rfl rfl
theorem dksJ14_vectorizedMismatch_4 : cJ14_vectorizedMismatch.data.toList.drop 93 = dktJ14_vectorizedMismatch_4 := dk_seg dksJ14_vectorizedMismatch_3 23 rfl rfl
theorem dksJ14_vectorizedMismatch_5 : cJ14_vectorizedMismatch.data.toList.drop 116 = dktJ14_vectorizedMismatch_5 := dk_seg dksJ14_vectorizedMismatch_4 23 rfl rfl
theorem dksJ14_vectorizedMismatch_6 : cJ14_vectorizedMismatch.data.toList.drop 140 = dktJ14_vectorizedMismatch_6 := dk_seg dksJ14_vectorizedMismatch_5 24 rfl rfl
theorem dksJ14_vectorizedMismatch_7 : cJ14_vectorizedMismatch.data.toList.drop 164 = dktJ14_vectorizedMismatch_7 := dk_seg dksJ14_vectorizedMismatch_6 24 rfl rfl
theorem dksJ14_vectorizedMismatch_8 : cJ14_vectorizedMismatch.data.toList.drop 188 = dktJ14_vectorizedMismatch_8 := dk_seg dksJ14_vectorizedMismatch_7 24 rfl rfl
theorem dksJ14_vectorizedMismatch_9 : cJ14_vectorizedMismatch.data.toList.drop 210 = dktJ14_vectorizedMismatch_9 := dk_seg dksJ14_vectorizedMismatch_8 22 rfl rfl
theorem dksJ14_vectorizedMismatch_10 : cJ14_vectorizedMismatch.data.toList.drop 233 = dktJ14_vectorizedMismatch_10 := dk_seg dksJ14_vectorizedMismatch_9 23 rfl rfl
theorem dksJ14_vectorizedMismatch_11 : cJ14_vectorizedMismatch.data.toList.drop 256 = dktJ14_vectorizedMismatch_11 := dk_seg dksJ14_vectorizedMismatch_10 23 rfl rfl
theorem dJ14_vectorizedMismatch_0 : decode cJ14_vectorizedMismatch 0 = .ok (.getstatic 20, 3) := dk_178 0 20 (dk_at dksJ14_vectorizedMismatch_0 0 rfl rfl)
theorem dJ14_vectorizedMismatch_3 : decode cJ14_vectorizedMismatch 3 = .ok (.iload 7, 2) := dk_21 7 (dk_at dksJ14_vectorizedMismatch_0 3 rfl rfl)
theorem dJ14_vectorizedMismatch_5 : decode cJ14_vectorizedMismatch 5 = .ok (.isub, 1) := dk_100 (dk_at dksJ14_vectorizedMismatch_0 5 rfl rfl)
theorem dJ14_vectorizedMismatch_6 : decode cJ14_vectorizedMismatch 6 = .ok (.istore 8, 2) := dk_54 8 (dk_at dksJ14_vectorizedMismatch_0 6 rfl rfl)
theorem dJ14_vectorizedMismatch_8 : decode cJ14_vectorizedMismatch 8 = .ok (.iconst 0, 1) := dk_3 (dk_at dksJ14_vectorizedMismatch_0 8 rfl rfl)
theorem dJ14_vectorizedMismatch_9 : decode cJ14_vectorizedMismatch 9 = .ok (.istore 9, 2) := dk_54 9 (dk_at dksJ14_vectorizedMismatch_0 9 rfl rfl)
theorem dJ14_vectorizedMismatch_11 : decode cJ14_vectorizedMismatch 11 = .ok (.iload 9, 2) := dk_21 9 (dk_at dksJ14_vectorizedMismatch_0 11 rfl rfl)
theorem dJ14_vectorizedMismatch_13 : decode cJ14_vectorizedMismatch 13 = .ok (.iload 6, 2) := dk_21 6 (dk_at dksJ14_vectorizedMismatch_0 13 rfl rfl)
theorem dJ14_vectorizedMismatch_15 : decode cJ14_vectorizedMismatch 15 = .ok (.iload 8, 2) := dk_21 8 (dk_at dksJ14_vectorizedMismatch_0 15 rfl rfl)
theorem dJ14_vectorizedMismatch_17 : decode cJ14_vectorizedMismatch 17 = .ok (.ishr, 1) := dk_122 (dk_at dksJ14_vectorizedMismatch_0 17 rfl rfl)
theorem dJ14_vectorizedMismatch_18 : decode cJ14_vectorizedMismatch 18 = .ok (.if_icmp .ge 104, 3) := dk_162 0 104 (dk_at dksJ14_vectorizedMismatch_0 18 rfl rfl)
theorem dJ14_vectorizedMismatch_21 : decode cJ14_vectorizedMismatch 21 = .ok (.iload 9, 2) := dk_21 9 (dk_at dksJ14_vectorizedMismatch_0 21 rfl rfl)
theorem dJ14_vectorizedMismatch_23 : decode cJ14_vectorizedMismatch 23 = .ok (.i2l, 1) := dk_133 (dk_at dksJ14_vectorizedMismatch_0 23 rfl rfl)
theorem dJ14_vectorizedMismatch_24 : decode cJ14_vectorizedMismatch 24 = .ok (.getstatic 20, 3) := dk_178 0 20 (dk_at dksJ14_vectorizedMismatch_1 0 rfl rfl)
theorem dJ14_vectorizedMismatch_27 : decode cJ14_vectorizedMismatch 27 = .ok (.lshl, 1) := dk_121 (dk_at dksJ14_vectorizedMismatch_1 3 rfl rfl)
theorem dJ14_vectorizedMismatch_28 : decode cJ14_vectorizedMismatch 28 = .ok (.lstore 10, 2) := dk_55 10 (dk_at dksJ14_vectorizedMismatch_1 4 rfl rfl)
theorem dJ14_vectorizedMismatch_30 : decode cJ14_vectorizedMismatch 30 = .ok (.getstatic 26, 3) := dk_178 0 26 (dk_at dksJ14_vectorizedMismatch_1 6 rfl rfl)
theorem dJ14_vectorizedMismatch_33 : decode cJ14_vectorizedMismatch 33 = .ok (.aload_n 0, 1) := dk_42 (dk_at dksJ14_vectorizedMismatch_1 9 rfl rfl)
theorem dJ14_vectorizedMismatch_34 : decode cJ14_vectorizedMismatch 34 = .ok (.lload_n 1, 1) := dk_31 (dk_at dksJ14_vectorizedMismatch_1 10 rfl rfl)
theorem dJ14_vectorizedMismatch_35 : decode cJ14_vectorizedMismatch 35 = .ok (.lload 10, 2) := dk_22 10 (dk_at dksJ14_vectorizedMismatch_1 11 rfl rfl)
theorem dJ14_vectorizedMismatch_37 : decode cJ14_vectorizedMismatch 37 = .ok (.ladd, 1) := dk_97 (dk_at dksJ14_vectorizedMismatch_1 13 rfl rfl)
theorem dJ14_vectorizedMismatch_38 : decode cJ14_vectorizedMismatch 38 = .ok (.invokevirtual 30, 3) := dk_182 0 30 (dk_at dksJ14_vectorizedMismatch_1 14 rfl rfl)
theorem dJ14_vectorizedMismatch_41 : decode cJ14_vectorizedMismatch 41 = .ok (.lstore 12, 2) := dk_55 12 (dk_at dksJ14_vectorizedMismatch_1 17 rfl rfl)
theorem dJ14_vectorizedMismatch_43 : decode cJ14_vectorizedMismatch 43 = .ok (.getstatic 26, 3) := dk_178 0 26 (dk_at dksJ14_vectorizedMismatch_1 19 rfl rfl)
theorem dJ14_vectorizedMismatch_46 : decode cJ14_vectorizedMismatch 46 = .ok (.aload_n 3, 1) := dk_45 (dk_at dksJ14_vectorizedMismatch_1 22 rfl rfl)
theorem dJ14_vectorizedMismatch_47 : decode cJ14_vectorizedMismatch 47 = .ok (.lload 4, 2) := dk_22 4 (dk_at dksJ14_vectorizedMismatch_2 0 rfl rfl)
theorem dJ14_vectorizedMismatch_49 : decode cJ14_vectorizedMismatch 49 = .ok (.lload 10, 2) := dk_22 10 (dk_at dksJ14_vectorizedMismatch_2 2 rfl rfl)
theorem dJ14_vectorizedMismatch_51 : decode cJ14_vectorizedMismatch 51 = .ok (.ladd, 1) := dk_97 (dk_at dksJ14_vectorizedMismatch_2 4 rfl rfl)
theorem dJ14_vectorizedMismatch_52 : decode cJ14_vectorizedMismatch 52 = .ok (.invokevirtual 30, 3) := dk_182 0 30 (dk_at dksJ14_vectorizedMismatch_2 5 rfl rfl)
theorem dJ14_vectorizedMismatch_55 : decode cJ14_vectorizedMismatch 55 = .ok (.lstore 14, 2) := dk_55 14 (dk_at dksJ14_vectorizedMismatch_2 8 rfl rfl)
theorem dJ14_vectorizedMismatch_57 : decode cJ14_vectorizedMismatch 57 = .ok (.lload 12, 2) := dk_22 12 (dk_at dksJ14_vectorizedMismatch_2 10 rfl rfl)
theorem dJ14_vectorizedMismatch_59 : decode cJ14_vectorizedMismatch 59 = .ok (.lload 14, 2) := dk_22 14 (dk_at dksJ14_vectorizedMismatch_2 12 rfl rfl)
theorem dJ14_vectorizedMismatch_61 : decode cJ14_vectorizedMismatch 61 = .ok (.lcmp, 1) := dk_148 (dk_at dksJ14_vectorizedMismatch_2 14 rfl rfl)
theorem dJ14_vectorizedMismatch_62 : decode cJ14_vectorizedMismatch 62 = .ok (.ifCond .eq 54, 3) := dk_153 0 54 (dk_at dksJ14_vectorizedMismatch_2 15 rfl rfl)
theorem dJ14_vectorizedMismatch_65 : decode cJ14_vectorizedMismatch 65 = .ok (.lload 12, 2) := dk_22 12 (dk_at dksJ14_vectorizedMismatch_2 18 rfl rfl)
theorem dJ14_vectorizedMismatch_67 : decode cJ14_vectorizedMismatch 67 = .ok (.lload 14, 2) := dk_22 14 (dk_at dksJ14_vectorizedMismatch_2 20 rfl rfl)
theorem dJ14_vectorizedMismatch_69 : decode cJ14_vectorizedMismatch 69 = .ok (.lxor, 1) := dk_131 (dk_at dksJ14_vectorizedMismatch_2 22 rfl rfl)
theorem dJ14_vectorizedMismatch_70 : decode cJ14_vectorizedMismatch 70 = .ok (.lstore 16, 2) := dk_55 16 (dk_at dksJ14_vectorizedMismatch_3 0 rfl rfl)
theorem dJ14_vectorizedMismatch_72 : decode cJ14_vectorizedMismatch 72 = .ok (.getstatic 36, 3) := dk_178 0 36 (dk_at dksJ14_vectorizedMismatch_3 2 rfl rfl)
theorem dJ14_vectorizedMismatch_75 : decode cJ14_vectorizedMismatch 75 = .ok (.ifCond .eq 18, 3) := dk_153 0 18 (dk_at dksJ14_vectorizedMismatch_3 5 rfl rfl)
theorem dJ14_vectorizedMismatch_78 : decode cJ14_vectorizedMismatch 78 = .ok (.lload 16, 2) := dk_22 16 (dk_at dksJ14_vectorizedMismatch_3 8 rfl rfl)
theorem dJ14_vectorizedMismatch_80 : decode cJ14_vectorizedMismatch 80 = .ok (.invokestatic 40, 3) := dk_184 0 40 (dk_at dksJ14_vectorizedMismatch_3 10 rfl rfl)
theorem dJ14_vectorizedMismatch_83 : decode cJ14_vectorizedMismatch 83 = .ok (.getstatic 46, 3) := dk_178 0 46 (dk_at dksJ14_vectorizedMismatch_3 13 rfl rfl)
theorem dJ14_vectorizedMismatch_86 : decode cJ14_vectorizedMismatch 86 = .ok (.iload 7, 2) := dk_21 7 (dk_at dksJ14_vectorizedMismatch_3 16 rfl rfl)
theorem dJ14_vectorizedMismatch_88 : decode cJ14_vectorizedMismatch 88 = .ok (.iadd, 1) := dk_96 (dk_at dksJ14_vectorizedMismatch_3 18 rfl rfl)
theorem dJ14_vectorizedMismatch_89 : decode cJ14_vectorizedMismatch 89 = .ok (.ishr, 1) := dk_122 (dk_at dksJ14_vectorizedMismatch_3 19 rfl rfl)
theorem dJ14_vectorizedMismatch_90 : decode cJ14_vectorizedMismatch 90 = .ok (.goto 15, 3) := dk_167 0 15 (dk_at dksJ14_vectorizedMismatch_3 20 rfl rfl)
theorem dJ14_vectorizedMismatch_93 : decode cJ14_vectorizedMismatch 93 = .ok (.lload 16, 2) := dk_22 16 (dk_at dksJ14_vectorizedMismatch_4 0 rfl rfl)
theorem dJ14_vectorizedMismatch_95 : decode cJ14_vectorizedMismatch 95 = .ok (.invokestatic 49, 3) := dk_184 0 49 (dk_at dksJ14_vectorizedMismatch_4 2 rfl rfl)
theorem dJ14_vectorizedMismatch_98 : decode cJ14_vectorizedMismatch 98 = .ok (.getstatic 46, 3) := dk_178 0 46 (dk_at dksJ14_vectorizedMismatch_4 5 rfl rfl)
theorem dJ14_vectorizedMismatch_101 : decode cJ14_vectorizedMismatch 101 = .ok (.iload 7, 2) := dk_21 7 (dk_at dksJ14_vectorizedMismatch_4 8 rfl rfl)
theorem dJ14_vectorizedMismatch_103 : decode cJ14_vectorizedMismatch 103 = .ok (.iadd, 1) := dk_96 (dk_at dksJ14_vectorizedMismatch_4 10 rfl rfl)
theorem dJ14_vectorizedMismatch_104 : decode cJ14_vectorizedMismatch 104 = .ok (.ishr, 1) := dk_122 (dk_at dksJ14_vectorizedMismatch_4 11 rfl rfl)
theorem dJ14_vectorizedMismatch_105 : decode cJ14_vectorizedMismatch 105 = .ok (.istore 18, 2) := dk_54 18 (dk_at dksJ14_vectorizedMismatch_4 12 rfl rfl)
theorem dJ14_vectorizedMismatch_107 : decode cJ14_vectorizedMismatch 107 = .ok (.iload 9, 2) := dk_21 9 (dk_at dksJ14_vectorizedMismatch_4 14 rfl rfl)
theorem dJ14_vectorizedMismatch_109 : decode cJ14_vectorizedMismatch 109 = .ok (.iload 8, 2) := dk_21 8 (dk_at dksJ14_vectorizedMismatch_4 16 rfl rfl)
theorem dJ14_vectorizedMismatch_111 : decode cJ14_vectorizedMismatch 111 = .ok (.ishl, 1) := dk_120 (dk_at dksJ14_vectorizedMismatch_4 18 rfl rfl)
theorem dJ14_vectorizedMismatch_112 : decode cJ14_vectorizedMismatch 112 = .ok (.iload 18, 2) := dk_21 18 (dk_at dksJ14_vectorizedMismatch_4 19 rfl rfl)
theorem dJ14_vectorizedMismatch_114 : decode cJ14_vectorizedMismatch 114 = .ok (.iadd, 1) := dk_96 (dk_at dksJ14_vectorizedMismatch_4 21 rfl rfl)
theorem dJ14_vectorizedMismatch_115 : decode cJ14_vectorizedMismatch 115 = .ok (.ireturn, 1) := dk_172 (dk_at dksJ14_vectorizedMismatch_4 22 rfl rfl)
theorem dJ14_vectorizedMismatch_116 : decode cJ14_vectorizedMismatch 116 = .ok (.iinc 9 1, 3) := dk_132 9 1 (dk_at dksJ14_vectorizedMismatch_5 0 rfl rfl)
theorem dJ14_vectorizedMismatch_119 : decode cJ14_vectorizedMismatch 119 = .ok (.goto (-108), 3) := dk_167 255 148 (dk_at dksJ14_vectorizedMismatch_5 3 rfl rfl)
theorem dJ14_vectorizedMismatch_122 : decode cJ14_vectorizedMismatch 122 = .ok (.iload 6, 2) := dk_21 6 (dk_at dksJ14_vectorizedMismatch_5 6 rfl rfl)
theorem dJ14_vectorizedMismatch_124 : decode cJ14_vectorizedMismatch 124 = .ok (.iload 9, 2) := dk_21 9 (dk_at dksJ14_vectorizedMismatch_5 8 rfl rfl)
theorem dJ14_vectorizedMismatch_126 : decode cJ14_vectorizedMismatch 126 = .ok (.iload 8, 2) := dk_21 8 (dk_at dksJ14_vectorizedMismatch_5 10 rfl rfl)
theorem dJ14_vectorizedMismatch_128 : decode cJ14_vectorizedMismatch 128 = .ok (.ishl, 1) := dk_120 (dk_at dksJ14_vectorizedMismatch_5 12 rfl rfl)
theorem dJ14_vectorizedMismatch_129 : decode cJ14_vectorizedMismatch 129 = .ok (.isub, 1) := dk_100 (dk_at dksJ14_vectorizedMismatch_5 13 rfl rfl)
theorem dJ14_vectorizedMismatch_130 : decode cJ14_vectorizedMismatch 130 = .ok (.istore 10, 2) := dk_54 10 (dk_at dksJ14_vectorizedMismatch_5 14 rfl rfl)
theorem dJ14_vectorizedMismatch_132 : decode cJ14_vectorizedMismatch 132 = .ok (.iload 7, 2) := dk_21 7 (dk_at dksJ14_vectorizedMismatch_5 16 rfl rfl)
theorem dJ14_vectorizedMismatch_134 : decode cJ14_vectorizedMismatch 134 = .ok (.getstatic 51, 3) := dk_178 0 51 (dk_at dksJ14_vectorizedMismatch_5 18 rfl rfl)
theorem dJ14_vectorizedMismatch_137 : decode cJ14_vectorizedMismatch 137 = .ok (.if_icmp .ge 126, 3) := dk_162 0 126 (dk_at dksJ14_vectorizedMismatch_5 21 rfl rfl)
theorem dJ14_vectorizedMismatch_140 : decode cJ14_vectorizedMismatch 140 = .ok (.iconst 1, 1) := dk_4 (dk_at dksJ14_vectorizedMismatch_6 0 rfl rfl)
theorem dJ14_vectorizedMismatch_141 : decode cJ14_vectorizedMismatch 141 = .ok (.getstatic 51, 3) := dk_178 0 51 (dk_at dksJ14_vectorizedMismatch_6 1 rfl rfl)
theorem dJ14_vectorizedMismatch_144 : decode cJ14_vectorizedMismatch 144 = .ok (.iload 7, 2) := dk_21 7 (dk_at dksJ14_vectorizedMismatch_6 4 rfl rfl)
theorem dJ14_vectorizedMismatch_146 : decode cJ14_vectorizedMismatch 146 = .ok (.isub, 1) := dk_100 (dk_at dksJ14_vectorizedMismatch_6 6 rfl rfl)
theorem dJ14_vectorizedMismatch_147 : decode cJ14_vectorizedMismatch 147 = .ok (.ishl, 1) := dk_120 (dk_at dksJ14_vectorizedMismatch_6 7 rfl rfl)
theorem dJ14_vectorizedMismatch_148 : decode cJ14_vectorizedMismatch 148 = .ok (.istore 11, 2) := dk_54 11 (dk_at dksJ14_vectorizedMismatch_6 8 rfl rfl)
theorem dJ14_vectorizedMismatch_150 : decode cJ14_vectorizedMismatch 150 = .ok (.iload 10, 2) := dk_21 10 (dk_at dksJ14_vectorizedMismatch_6 10 rfl rfl)
theorem dJ14_vectorizedMismatch_152 : decode cJ14_vectorizedMismatch 152 = .ok (.iload 11, 2) := dk_21 11 (dk_at dksJ14_vectorizedMismatch_6 12 rfl rfl)
theorem dJ14_vectorizedMismatch_154 : decode cJ14_vectorizedMismatch 154 = .ok (.if_icmp .lt 104, 3) := dk_161 0 104 (dk_at dksJ14_vectorizedMismatch_6 14 rfl rfl)
theorem dJ14_vectorizedMismatch_157 : decode cJ14_vectorizedMismatch 157 = .ok (.iload 9, 2) := dk_21 9 (dk_at dksJ14_vectorizedMismatch_6 17 rfl rfl)
theorem dJ14_vectorizedMismatch_159 : decode cJ14_vectorizedMismatch 159 = .ok (.i2l, 1) := dk_133 (dk_at dksJ14_vectorizedMismatch_6 19 rfl rfl)
theorem dJ14_vectorizedMismatch_160 : decode cJ14_vectorizedMismatch 160 = .ok (.getstatic 20, 3) := dk_178 0 20 (dk_at dksJ14_vectorizedMismatch_6 20 rfl rfl)
theorem dJ14_vectorizedMismatch_163 : decode cJ14_vectorizedMismatch 163 = .ok (.lshl, 1) := dk_121 (dk_at dksJ14_vectorizedMismatch_6 23 rfl rfl)
theorem dJ14_vectorizedMismatch_164 : decode cJ14_vectorizedMismatch 164 = .ok (.lstore 12, 2) := dk_55 12 (dk_at dksJ14_vectorizedMismatch_7 0 rfl rfl)
theorem dJ14_vectorizedMismatch_166 : decode cJ14_vectorizedMismatch 166 = .ok (.getstatic 26, 3) := dk_178 0 26 (dk_at dksJ14_vectorizedMismatch_7 2 rfl rfl)
theorem dJ14_vectorizedMismatch_169 : decode cJ14_vectorizedMismatch 169 = .ok (.aload_n 0, 1) := dk_42 (dk_at dksJ14_vectorizedMismatch_7 5 rfl rfl)
theorem dJ14_vectorizedMismatch_170 : decode cJ14_vectorizedMismatch 170 = .ok (.lload_n 1, 1) := dk_31 (dk_at dksJ14_vectorizedMismatch_7 6 rfl rfl)
theorem dJ14_vectorizedMismatch_171 : decode cJ14_vectorizedMismatch 171 = .ok (.lload 12, 2) := dk_22 12 (dk_at dksJ14_vectorizedMismatch_7 7 rfl rfl)
theorem dJ14_vectorizedMismatch_173 : decode cJ14_vectorizedMismatch 173 = .ok (.ladd, 1) := dk_97 (dk_at dksJ14_vectorizedMismatch_7 9 rfl rfl)
theorem dJ14_vectorizedMismatch_174 : decode cJ14_vectorizedMismatch 174 = .ok (.invokevirtual 54, 3) := dk_182 0 54 (dk_at dksJ14_vectorizedMismatch_7 10 rfl rfl)
theorem dJ14_vectorizedMismatch_177 : decode cJ14_vectorizedMismatch 177 = .ok (.istore 14, 2) := dk_54 14 (dk_at dksJ14_vectorizedMismatch_7 13 rfl rfl)
theorem dJ14_vectorizedMismatch_179 : decode cJ14_vectorizedMismatch 179 = .ok (.getstatic 26, 3) := dk_178 0 26 (dk_at dksJ14_vectorizedMismatch_7 15 rfl rfl)
theorem dJ14_vectorizedMismatch_182 : decode cJ14_vectorizedMismatch 182 = .ok (.aload_n 3, 1) := dk_45 (dk_at dksJ14_vectorizedMismatch_7 18 rfl rfl)
theorem dJ14_vectorizedMismatch_183 : decode cJ14_vectorizedMismatch 183 = .ok (.lload 4, 2) := dk_22 4 (dk_at dksJ14_vectorizedMismatch_7 19 rfl rfl)
theorem dJ14_vectorizedMismatch_185 : decode cJ14_vectorizedMismatch 185 = .ok (.lload 12, 2) := dk_22 12 (dk_at dksJ14_vectorizedMismatch_7 21 rfl rfl)
theorem dJ14_vectorizedMismatch_187 : decode cJ14_vectorizedMismatch 187 = .ok (.ladd, 1) := dk_97 (dk_at dksJ14_vectorizedMismatch_7 23 rfl rfl)
theorem dJ14_vectorizedMismatch_188 : decode cJ14_vectorizedMismatch 188 = .ok (.invokevirtual 54, 3) := dk_182 0 54 (dk_at dksJ14_vectorizedMismatch_8 0 rfl rfl)
theorem dJ14_vectorizedMismatch_191 : decode cJ14_vectorizedMismatch 191 = .ok (.istore 15, 2) := dk_54 15 (dk_at dksJ14_vectorizedMismatch_8 3 rfl rfl)
theorem dJ14_vectorizedMismatch_193 : decode cJ14_vectorizedMismatch 193 = .ok (.iload 14, 2) := dk_21 14 (dk_at dksJ14_vectorizedMismatch_8 5 rfl rfl)
theorem dJ14_vectorizedMismatch_195 : decode cJ14_vectorizedMismatch 195 = .ok (.iload 15, 2) := dk_21 15 (dk_at dksJ14_vectorizedMismatch_8 7 rfl rfl)
theorem dJ14_vectorizedMismatch_197 : decode cJ14_vectorizedMismatch 197 = .ok (.if_icmp .eq 54, 3) := dk_159 0 54 (dk_at dksJ14_vectorizedMismatch_8 9 rfl rfl)
theorem dJ14_vectorizedMismatch_200 : decode cJ14_vectorizedMismatch 200 = .ok (.iload 14, 2) := dk_21 14 (dk_at dksJ14_vectorizedMismatch_8 12 rfl rfl)
theorem dJ14_vectorizedMismatch_202 : decode cJ14_vectorizedMismatch 202 = .ok (.iload 15, 2) := dk_21 15 (dk_at dksJ14_vectorizedMismatch_8 14 rfl rfl)
theorem dJ14_vectorizedMismatch_204 : decode cJ14_vectorizedMismatch 204 = .ok (.ixor, 1) := dk_130 (dk_at dksJ14_vectorizedMismatch_8 16 rfl rfl)
theorem dJ14_vectorizedMismatch_205 : decode cJ14_vectorizedMismatch 205 = .ok (.istore 16, 2) := dk_54 16 (dk_at dksJ14_vectorizedMismatch_8 17 rfl rfl)
theorem dJ14_vectorizedMismatch_207 : decode cJ14_vectorizedMismatch 207 = .ok (.getstatic 36, 3) := dk_178 0 36 (dk_at dksJ14_vectorizedMismatch_8 19 rfl rfl)
theorem dJ14_vectorizedMismatch_210 : decode cJ14_vectorizedMismatch 210 = .ok (.ifCond .eq 18, 3) := dk_153 0 18 (dk_at dksJ14_vectorizedMismatch_9 0 rfl rfl)
theorem dJ14_vectorizedMismatch_213 : decode cJ14_vectorizedMismatch 213 = .ok (.iload 16, 2) := dk_21 16 (dk_at dksJ14_vectorizedMismatch_9 3 rfl rfl)
theorem dJ14_vectorizedMismatch_215 : decode cJ14_vectorizedMismatch 215 = .ok (.invokestatic 58, 3) := dk_184 0 58 (dk_at dksJ14_vectorizedMismatch_9 5 rfl rfl)
theorem dJ14_vectorizedMismatch_218 : decode cJ14_vectorizedMismatch 218 = .ok (.getstatic 46, 3) := dk_178 0 46 (dk_at dksJ14_vectorizedMismatch_9 8 rfl rfl)
theorem dJ14_vectorizedMismatch_221 : decode cJ14_vectorizedMismatch 221 = .ok (.iload 7, 2) := dk_21 7 (dk_at dksJ14_vectorizedMismatch_9 11 rfl rfl)
theorem dJ14_vectorizedMismatch_223 : decode cJ14_vectorizedMismatch 223 = .ok (.iadd, 1) := dk_96 (dk_at dksJ14_vectorizedMismatch_9 13 rfl rfl)
theorem dJ14_vectorizedMismatch_224 : decode cJ14_vectorizedMismatch 224 = .ok (.ishr, 1) := dk_122 (dk_at dksJ14_vectorizedMismatch_9 14 rfl rfl)
theorem dJ14_vectorizedMismatch_225 : decode cJ14_vectorizedMismatch 225 = .ok (.goto 15, 3) := dk_167 0 15 (dk_at dksJ14_vectorizedMismatch_9 15 rfl rfl)
theorem dJ14_vectorizedMismatch_228 : decode cJ14_vectorizedMismatch 228 = .ok (.iload 16, 2) := dk_21 16 (dk_at dksJ14_vectorizedMismatch_9 18 rfl rfl)
theorem dJ14_vectorizedMismatch_230 : decode cJ14_vectorizedMismatch 230 = .ok (.invokestatic 11, 3) := dk_184 0 11 (dk_at dksJ14_vectorizedMismatch_9 20 rfl rfl)
theorem dJ14_vectorizedMismatch_233 : decode cJ14_vectorizedMismatch 233 = .ok (.getstatic 46, 3) := dk_178 0 46 (dk_at dksJ14_vectorizedMismatch_10 0 rfl rfl)
theorem dJ14_vectorizedMismatch_236 : decode cJ14_vectorizedMismatch 236 = .ok (.iload 7, 2) := dk_21 7 (dk_at dksJ14_vectorizedMismatch_10 3 rfl rfl)
theorem dJ14_vectorizedMismatch_238 : decode cJ14_vectorizedMismatch 238 = .ok (.iadd, 1) := dk_96 (dk_at dksJ14_vectorizedMismatch_10 5 rfl rfl)
theorem dJ14_vectorizedMismatch_239 : decode cJ14_vectorizedMismatch 239 = .ok (.ishr, 1) := dk_122 (dk_at dksJ14_vectorizedMismatch_10 6 rfl rfl)
theorem dJ14_vectorizedMismatch_240 : decode cJ14_vectorizedMismatch 240 = .ok (.istore 17, 2) := dk_54 17 (dk_at dksJ14_vectorizedMismatch_10 7 rfl rfl)
theorem dJ14_vectorizedMismatch_242 : decode cJ14_vectorizedMismatch 242 = .ok (.iload 9, 2) := dk_21 9 (dk_at dksJ14_vectorizedMismatch_10 9 rfl rfl)
theorem dJ14_vectorizedMismatch_244 : decode cJ14_vectorizedMismatch 244 = .ok (.iload 8, 2) := dk_21 8 (dk_at dksJ14_vectorizedMismatch_10 11 rfl rfl)
theorem dJ14_vectorizedMismatch_246 : decode cJ14_vectorizedMismatch 246 = .ok (.ishl, 1) := dk_120 (dk_at dksJ14_vectorizedMismatch_10 13 rfl rfl)
theorem dJ14_vectorizedMismatch_247 : decode cJ14_vectorizedMismatch 247 = .ok (.iload 17, 2) := dk_21 17 (dk_at dksJ14_vectorizedMismatch_10 14 rfl rfl)
theorem dJ14_vectorizedMismatch_249 : decode cJ14_vectorizedMismatch 249 = .ok (.iadd, 1) := dk_96 (dk_at dksJ14_vectorizedMismatch_10 16 rfl rfl)
theorem dJ14_vectorizedMismatch_250 : decode cJ14_vectorizedMismatch 250 = .ok (.ireturn, 1) := dk_172 (dk_at dksJ14_vectorizedMismatch_10 17 rfl rfl)
theorem dJ14_vectorizedMismatch_251 : decode cJ14_vectorizedMismatch 251 = .ok (.iload 10, 2) := dk_21 10 (dk_at dksJ14_vectorizedMismatch_10 18 rfl rfl)
theorem dJ14_vectorizedMismatch_253 : decode cJ14_vectorizedMismatch 253 = .ok (.iload 11, 2) := dk_21 11 (dk_at dksJ14_vectorizedMismatch_10 20 rfl rfl)
theorem dJ14_vectorizedMismatch_255 : decode cJ14_vectorizedMismatch 255 = .ok (.isub, 1) := dk_100 (dk_at dksJ14_vectorizedMismatch_10 22 rfl rfl)
theorem dJ14_vectorizedMismatch_256 : decode cJ14_vectorizedMismatch 256 = .ok (.istore 10, 2) := dk_54 10 (dk_at dksJ14_vectorizedMismatch_11 0 rfl rfl)
theorem dJ14_vectorizedMismatch_258 : decode cJ14_vectorizedMismatch 258 = .ok (.iload 10, 2) := dk_21 10 (dk_at dksJ14_vectorizedMismatch_11 2 rfl rfl)
theorem dJ14_vectorizedMismatch_260 : decode cJ14_vectorizedMismatch 260 = .ok (.iconst (-1), 1) := dk_2 (dk_at dksJ14_vectorizedMismatch_11 4 rfl rfl)
theorem dJ14_vectorizedMismatch_261 : decode cJ14_vectorizedMismatch 261 = .ok (.ixor, 1) := dk_130 (dk_at dksJ14_vectorizedMismatch_11 5 rfl rfl)
theorem dJ14_vectorizedMismatch_262 : decode cJ14_vectorizedMismatch 262 = .ok (.ireturn, 1) := dk_172 (dk_at dksJ14_vectorizedMismatch_11 6 rfl rfl)
theorem dJ14_vectorizedMismatch_263 : decode cJ14_vectorizedMismatch 263 = .ok (.iload 10, 2) := dk_21 10 (dk_at dksJ14_vectorizedMismatch_11 7 rfl rfl)
theorem dJ14_vectorizedMismatch_265 : decode cJ14_vectorizedMismatch 265 = .ok (.iconst (-1), 1) := dk_2 (dk_at dksJ14_vectorizedMismatch_11 9 rfl rfl)
theorem dJ14_vectorizedMismatch_266 : decode cJ14_vectorizedMismatch 266 = .ok (.ixor, 1) := dk_130 (dk_at dksJ14_vectorizedMismatch_11 10 rfl rfl)
theorem dJ14_vectorizedMismatch_267 : decode cJ14_vectorizedMismatch 267 = .ok (.ireturn, 1) := dk_172 (dk_at dksJ14_vectorizedMismatch_11 11 rfl rfl)
abbrev cJ14_newLength : ByteArray := prog_61_method_27_code
def yJ14_newLength : MethodName := ⟨RJ14, "newLength", "(III)I"⟩
def dkwJ14_newLength_1 : List UInt8 := [184, 0, 201, 172]
abbrev dktJ14_newLength_1 : List UInt8 := dkwJ14_newLength_1 ++ []
def dkwJ14_newLength_0 : List UInt8 := [26, 27, 28, 184, 0, 194, 96, 62, 3, 29, 162, 0, 11, 29, 18, 200, 163, 0, 5, 29, 172, 26, 27]
abbrev dktJ14_newLength_0 : List UInt8 := dkwJ14_newLength_0 ++ dktJ14_newLength_1
theorem dksJ14_newLength_0 : cJ14_newLength.data.toList.drop 0 = dktJ14_newLength_0 := by decide +kernel
theorem dksJ14_newLength_1 : cJ14_newLength.data.toList.drop 23 = dktJ14_newLength_1 := dk_seg dksJ14_newLength_0 23 rfl rfl
theorem dJ14_newLength_0 : decode cJ14_newLength 0 = .ok (.iload_n 0, 1) := dk_26 (dk_at dksJ14_newLength_0 0 rfl rfl)
theorem dJ14_newLength_1 : decode cJ14_newLength 1 = .ok (.iload_n 1, 1) := dk_27 (dk_at dksJ14_newLength_0 1 rfl rfl)
theorem dJ14_newLength_2 : decode cJ14_newLength 2 = .ok (.iload_n 2, 1) := dk_28 (dk_at dksJ14_newLength_0 2 rfl rfl)
theorem dJ14_newLength_3 : decode cJ14_newLength 3 = .ok (.invokestatic 194, 3) := dk_184 0 194 (dk_at dksJ14_newLength_0 3 rfl rfl)
theorem dJ14_newLength_6 : decode cJ14_newLength 6 = .ok (.iadd, 1) := dk_96 (dk_at dksJ14_newLength_0 6 rfl rfl)
theorem dJ14_newLength_7 : decode cJ14_newLength 7 = .ok (.istore_n 3, 1) := dk_62 (dk_at dksJ14_newLength_0 7 rfl rfl)
theorem dJ14_newLength_8 : decode cJ14_newLength 8 = .ok (.iconst 0, 1) := dk_3 (dk_at dksJ14_newLength_0 8 rfl rfl)
theorem dJ14_newLength_9 : decode cJ14_newLength 9 = .ok (.iload_n 3, 1) := dk_29 (dk_at dksJ14_newLength_0 9 rfl rfl)
theorem dJ14_newLength_10 : decode cJ14_newLength 10 = .ok (.if_icmp .ge 11, 3) := dk_162 0 11 (dk_at dksJ14_newLength_0 10 rfl rfl)
theorem dJ14_newLength_13 : decode cJ14_newLength 13 = .ok (.iload_n 3, 1) := dk_29 (dk_at dksJ14_newLength_0 13 rfl rfl)
theorem dJ14_newLength_14 : decode cJ14_newLength 14 = .ok (.ldc 200, 2) := dk_18 200 (dk_at dksJ14_newLength_0 14 rfl rfl)
theorem dJ14_newLength_16 : decode cJ14_newLength 16 = .ok (.if_icmp .gt 5, 3) := dk_163 0 5 (dk_at dksJ14_newLength_0 16 rfl rfl)
theorem dJ14_newLength_19 : decode cJ14_newLength 19 = .ok (.iload_n 3, 1) := dk_29 (dk_at dksJ14_newLength_0 19 rfl rfl)
theorem dJ14_newLength_20 : decode cJ14_newLength 20 = .ok (.ireturn, 1) := dk_172 (dk_at dksJ14_newLength_0 20 rfl rfl)
theorem dJ14_newLength_21 : decode cJ14_newLength 21 = .ok (.iload_n 0, 1) := dk_26 (dk_at dksJ14_newLength_0 21 rfl rfl)
theorem dJ14_newLength_22 : decode cJ14_newLength 22 = .ok (.iload_n 1, 1) := dk_27 (dk_at dksJ14_newLength_0 22 rfl rfl)
theorem dJ14_newLength_23 : decode cJ14_newLength 23 = .ok (.invokestatic 201, 3) := dk_184 0 201 (dk_at dksJ14_newLength_1 0 rfl rfl)
theorem dJ14_newLength_26 : decode cJ14_newLength 26 = .ok (.ireturn, 1) := dk_172 (dk_at dksJ14_newLength_1 3 rfl rfl)
abbrev cJ14_hugeLength : ByteArray := prog_61_method_28_code
def yJ14_hugeLength : MethodName := ⟨RJ14, "hugeLength", "(II)I"⟩
def dkwJ14_hugeLength_2 : List UInt8 := [191, 28, 18, 200, 163, 0, 6, 18, 200, 172, 28, 172]
abbrev dktJ14_hugeLength_2 : List UInt8 := dkwJ14_hugeLength_2 ++ []
def dkwJ14_hugeLength_1 : List UInt8 := [26, 182, 0, 98, 18, 208, 182, 0, 94, 27, 182, 0, 98, 18, 210, 182, 0, 94, 182, 0, 101, 183, 0, 212]
abbrev dktJ14_hugeLength_1 : List UInt8 := dkwJ14_hugeLength_1 ++ dktJ14_hugeLength_2
def dkwJ14_hugeLength_0 : List UInt8 := [26, 27, 96, 61, 28, 156, 0, 44, 187, 0, 204, 89, 187, 0, 89, 89, 183, 0, 91, 18, 206, 182, 0, 94]
abbrev dktJ14_hugeLength_0 : List UInt8 := dkwJ14_hugeLength_0 ++ dktJ14_hugeLength_1
theorem dksJ14_hugeLength_0 : cJ14_hugeLength.data.toList.drop 0 = dktJ14_hugeLength_0 := by decide +kernel
theorem dksJ14_hugeLength_1 : cJ14_hugeLength.data.toList.drop 24 = dktJ14_hugeLength_1 := dk_seg dksJ14_hugeLength_0 24 rfl rfl
theorem dksJ14_hugeLength_2 : cJ14_hugeLength.data.toList.drop 48 = dktJ14_hugeLength_2 := dk_seg dksJ14_hugeLength_1 24 rfl rfl
theorem dJ14_hugeLength_0 : decode cJ14_hugeLength 0 = .ok (.iload_n 0, 1) := dk_26 (dk_at dksJ14_hugeLength_0 0 rfl rfl)
theorem dJ14_hugeLength_1 : decode cJ14_hugeLength 1 = .ok (.iload_n 1, 1) := dk_27 (dk_at dksJ14_hugeLength_0 1 rfl rfl)
theorem dJ14_hugeLength_2 : decode cJ14_hugeLength 2 = .ok (.iadd, 1) := dk_96 (dk_at dksJ14_hugeLength_0 2 rfl rfl)
theorem dJ14_hugeLength_3 : decode cJ14_hugeLength 3 = .ok (.istore_n 2, 1) := dk_61 (dk_at dksJ14_hugeLength_0 3 rfl rfl)
theorem dJ14_hugeLength_4 : decode cJ14_hugeLength 4 = .ok (.iload_n 2, 1) := dk_28 (dk_at dksJ14_hugeLength_0 4 rfl rfl)
theorem dJ14_hugeLength_5 : decode cJ14_hugeLength 5 = .ok (.ifCond .ge 44, 3) := dk_156 0 44 (dk_at dksJ14_hugeLength_0 5 rfl rfl)
theorem dJ14_hugeLength_8 : decode cJ14_hugeLength 8 = .ok (.new 204, 3) := dk_187 0 204 (dk_at dksJ14_hugeLength_0 8 rfl rfl)
theorem dJ14_hugeLength_11 : decode cJ14_hugeLength 11 = .ok (.dup, 1) := dk_89 (dk_at dksJ14_hugeLength_0 11 rfl rfl)
theorem dJ14_hugeLength_12 : decode cJ14_hugeLength 12 = .ok (.new 89, 3) := dk_187 0 89 (dk_at dksJ14_hugeLength_0 12 rfl rfl)
theorem dJ14_hugeLength_15 : decode cJ14_hugeLength 15 = .ok (.dup, 1) := dk_89 (dk_at dksJ14_hugeLength_0 15 rfl rfl)
theorem dJ14_hugeLength_16 : decode cJ14_hugeLength 16 = .ok (.invokespecial 91, 3) := dk_183 0 91 (dk_at dksJ14_hugeLength_0 16 rfl rfl)
theorem dJ14_hugeLength_19 : decode cJ14_hugeLength 19 = .ok (.ldc 206, 2) := dk_18 206 (dk_at dksJ14_hugeLength_0 19 rfl rfl)
theorem dJ14_hugeLength_21 : decode cJ14_hugeLength 21 = .ok (.invokevirtual 94, 3) := dk_182 0 94 (dk_at dksJ14_hugeLength_0 21 rfl rfl)
theorem dJ14_hugeLength_24 : decode cJ14_hugeLength 24 = .ok (.iload_n 0, 1) := dk_26 (dk_at dksJ14_hugeLength_1 0 rfl rfl)
theorem dJ14_hugeLength_25 : decode cJ14_hugeLength 25 = .ok (.invokevirtual 98, 3) := dk_182 0 98 (dk_at dksJ14_hugeLength_1 1 rfl rfl)
theorem dJ14_hugeLength_28 : decode cJ14_hugeLength 28 = .ok (.ldc 208, 2) := dk_18 208 (dk_at dksJ14_hugeLength_1 4 rfl rfl)
theorem dJ14_hugeLength_30 : decode cJ14_hugeLength 30 = .ok (.invokevirtual 94, 3) := dk_182 0 94 (dk_at dksJ14_hugeLength_1 6 rfl rfl)
theorem dJ14_hugeLength_33 : decode cJ14_hugeLength 33 = .ok (.iload_n 1, 1) := dk_27 (dk_at dksJ14_hugeLength_1 9 rfl rfl)
theorem dJ14_hugeLength_34 : decode cJ14_hugeLength 34 = .ok (.invokevirtual 98, 3) := dk_182 0 98 (dk_at dksJ14_hugeLength_1 10 rfl rfl)
theorem dJ14_hugeLength_37 : decode cJ14_hugeLength 37 = .ok (.ldc 210, 2) := dk_18 210 (dk_at dksJ14_hugeLength_1 13 rfl rfl)
theorem dJ14_hugeLength_39 : decode cJ14_hugeLength 39 = .ok (.invokevirtual 94, 3) := dk_182 0 94 (dk_at dksJ14_hugeLength_1 15 rfl rfl)
theorem dJ14_hugeLength_42 : decode cJ14_hugeLength 42 = .ok (.invokevirtual 101, 3) := dk_182 0 101 (dk_at dksJ14_hugeLength_1 18 rfl rfl)
theorem dJ14_hugeLength_45 : decode cJ14_hugeLength 45 = .ok (.invokespecial 212, 3) := dk_183 0 212 (dk_at dksJ14_hugeLength_1 21 rfl rfl)
theorem dJ14_hugeLength_48 : decode cJ14_hugeLength 48 = .ok (.athrow, 1) := dk_191 (dk_at dksJ14_hugeLength_2 0 rfl rfl)
theorem dJ14_hugeLength_49 : decode cJ14_hugeLength 49 = .ok (.iload_n 2, 1) := dk_28 (dk_at dksJ14_hugeLength_2 1 rfl rfl)
theorem dJ14_hugeLength_50 : decode cJ14_hugeLength 50 = .ok (.ldc 200, 2) := dk_18 200 (dk_at dksJ14_hugeLength_2 2 rfl rfl)
theorem dJ14_hugeLength_52 : decode cJ14_hugeLength 52 = .ok (.if_icmp .gt 6, 3) := dk_163 0 6 (dk_at dksJ14_hugeLength_2 4 rfl rfl)
theorem dJ14_hugeLength_55 : decode cJ14_hugeLength 55 = .ok (.ldc 200, 2) := dk_18 200 (dk_at dksJ14_hugeLength_2 7 rfl rfl)
theorem dJ14_hugeLength_57 : decode cJ14_hugeLength 57 = .ok (.ireturn, 1) := dk_172 (dk_at dksJ14_hugeLength_2 9 rfl rfl)
theorem dJ14_hugeLength_58 : decode cJ14_hugeLength 58 = .ok (.iload_n 2, 1) := dk_28 (dk_at dksJ14_hugeLength_2 10 rfl rfl)
theorem dJ14_hugeLength_59 : decode cJ14_hugeLength 59 = .ok (.ireturn, 1) := dk_172 (dk_at dksJ14_hugeLength_2 11 rfl rfl)
theorem q96 : (Jvm.Cond.initialized "jdk/internal/util/ArraysSupport") ∈ lw_all := lw_g (lw_at lw_m1 19 rfl) rfl
theorem q484 : (Jvm.Cond.static ({ cls := "jdk/internal/util/ArraysSupport", name := "mismatch", desc := "([B[BI)I" } : Jvm.MethodName)) ∈ lw_all := lw_g (lw_at lw_m2 167 rfl) rfl
theorem q485 : (Jvm.Cond.code ({ cls := "jdk/internal/util/ArraysSupport", name := "mismatch", desc := "([B[BI)I" } : Jvm.MethodName) prog_61_method_13_code (4 : Nat) (Option.some Jvm.ClassFile.FieldType.int)) ∈ lw_all := lw_g (lw_at lw_m2 168 rfl) rfl
theorem q486 : (Jvm.Cond.fieldLink "jdk/internal/util/ArraysSupport" (126 : Nat) "jdk/internal/misc/Unsafe" "ARRAY_BYTE_BASE_OFFSET" "I") ∈ lw_all := lw_g (lw_at lw_m2 169 rfl) rfl
theorem q488 : (Jvm.Cond.fieldLink "jdk/internal/util/ArraysSupport" (129 : Nat) "jdk/internal/util/ArraysSupport" "LOG2_ARRAY_BYTE_INDEX_SCALE" "I") ∈ lw_all := lw_g (lw_at lw_m2 171 rfl) rfl
theorem q489 : (Jvm.Cond.laysStatic "jdk/internal/util/ArraysSupport" "LOG2_ARRAY_BYTE_INDEX_SCALE" "I") ∈ lw_tbl := lw_at lw_m2 172 rfl
theorem q490 : (Jvm.Cond.methodLink "jdk/internal/util/ArraysSupport" (122 : Nat) ({ cls := "jdk/internal/util/ArraysSupport", name := "vectorizedMismatch", desc := "(Ljava/lang/Object;JLjava/lang/Object;JII)I" } : Jvm.MethodName)) ∈ lw_all := lw_g (lw_at lw_m2 173 rfl) rfl
theorem q491 : (Jvm.Cond.static ({ cls := "jdk/internal/util/ArraysSupport", name := "vectorizedMismatch", desc := "(Ljava/lang/Object;JLjava/lang/Object;JII)I" } : Jvm.MethodName)) ∈ lw_all := lw_g (lw_at lw_m2 174 rfl) rfl
theorem q492 : (Jvm.Cond.code ({ cls := "jdk/internal/util/ArraysSupport", name := "vectorizedMismatch", desc := "(Ljava/lang/Object;JLjava/lang/Object;JII)I" } : Jvm.MethodName) prog_61_method_3_code (19 : Nat) (Option.some Jvm.ClassFile.FieldType.int)) ∈ lw_all := lw_g (lw_at lw_m2 175 rfl) rfl
theorem q493 : (Jvm.Cond.fieldLink "jdk/internal/util/ArraysSupport" (20 : Nat) "jdk/internal/util/ArraysSupport" "LOG2_ARRAY_LONG_INDEX_SCALE" "I") ∈ lw_all := lw_g (lw_at lw_m2 176 rfl) rfl
theorem q494 : (Jvm.Cond.laysStatic "jdk/internal/util/ArraysSupport" "LOG2_ARRAY_LONG_INDEX_SCALE" "I") ∈ lw_tbl := lw_at lw_m2 177 rfl
theorem q495 : (Jvm.Cond.fieldLink "jdk/internal/util/ArraysSupport" (26 : Nat) "jdk/internal/util/ArraysSupport" "U" "Ljdk/internal/misc/Unsafe;") ∈ lw_all := lw_g (lw_at lw_m2 178 rfl) rfl
theorem q496 : (Jvm.Cond.laysStatic "jdk/internal/util/ArraysSupport" "U" "Ljdk/internal/misc/Unsafe;") ∈ lw_tbl := lw_at lw_m2 179 rfl
theorem q497 : (Jvm.Cond.methodLink "jdk/internal/util/ArraysSupport" (30 : Nat) ({ cls := "jdk/internal/misc/Unsafe", name := "getLongUnaligned", desc := "(Ljava/lang/Object;J)J" } : Jvm.MethodName)) ∈ lw_all := lw_g (lw_at lw_m2 180 rfl) rfl
theorem q549 : (Jvm.Cond.fieldLink "jdk/internal/util/ArraysSupport" (36 : Nat) "jdk/internal/util/ArraysSupport" "BIG_ENDIAN" "Z") ∈ lw_all := lw_g (lw_at lw_m2 232 rfl) rfl
theorem q550 : (Jvm.Cond.laysStatic "jdk/internal/util/ArraysSupport" "BIG_ENDIAN" "Z") ∈ lw_tbl := lw_at lw_m2 233 rfl
theorem q551 : (Jvm.Cond.methodLink "jdk/internal/util/ArraysSupport" (40 : Nat) ({ cls := "java/lang/Long", name := "numberOfLeadingZeros", desc := "(J)I" } : Jvm.MethodName)) ∈ lw_all := lw_g (lw_at lw_m2 234 rfl) rfl
theorem q558 : (Jvm.Cond.fieldLink "jdk/internal/util/ArraysSupport" (46 : Nat) "jdk/internal/util/ArraysSupport" "LOG2_BYTE_BIT_SIZE" "I") ∈ lw_all := lw_g (lw_at lw_m3 1 rfl) rfl
theorem q559 : (Jvm.Cond.laysStatic "jdk/internal/util/ArraysSupport" "LOG2_BYTE_BIT_SIZE" "I") ∈ lw_tbl := lw_at lw_m3 2 rfl
theorem q560 : (Jvm.Cond.methodLink "jdk/internal/util/ArraysSupport" (49 : Nat) ({ cls := "java/lang/Long", name := "numberOfTrailingZeros", desc := "(J)I" } : Jvm.MethodName)) ∈ lw_all := lw_g (lw_at lw_m3 3 rfl) rfl
theorem q566 : (Jvm.Cond.fieldLink "jdk/internal/util/ArraysSupport" (51 : Nat) "jdk/internal/util/ArraysSupport" "LOG2_ARRAY_INT_INDEX_SCALE" "I") ∈ lw_all := lw_g (lw_at lw_m3 9 rfl) rfl
theorem q567 : (Jvm.Cond.laysStatic "jdk/internal/util/ArraysSupport" "LOG2_ARRAY_INT_INDEX_SCALE" "I") ∈ lw_tbl := lw_at lw_m3 10 rfl
theorem q568 : (Jvm.Cond.methodLink "jdk/internal/util/ArraysSupport" (54 : Nat) ({ cls := "jdk/internal/misc/Unsafe", name := "getIntUnaligned", desc := "(Ljava/lang/Object;J)I" } : Jvm.MethodName)) ∈ lw_all := lw_g (lw_at lw_m3 11 rfl) rfl
theorem q585 : (Jvm.Cond.methodLink "jdk/internal/util/ArraysSupport" (58 : Nat) ({ cls := "java/lang/Integer", name := "numberOfLeadingZeros", desc := "(I)I" } : Jvm.MethodName)) ∈ lw_all := lw_g (lw_at lw_m3 28 rfl) rfl
theorem q586 : (Jvm.Cond.methodLink "jdk/internal/util/ArraysSupport" (11 : Nat) ({ cls := "java/lang/Integer", name := "numberOfTrailingZeros", desc := "(I)I" } : Jvm.MethodName)) ∈ lw_all := lw_g (lw_at lw_m3 29 rfl) rfl
theorem q906 : (Jvm.Cond.static ({ cls := "jdk/internal/util/ArraysSupport", name := "newLength", desc := "(III)I" } : Jvm.MethodName)) ∈ lw_all := lw_g (lw_at lw_m4 109 rfl) rfl
theorem q907 : (Jvm.Cond.code ({ cls := "jdk/internal/util/ArraysSupport", name := "newLength", desc := "(III)I" } : Jvm.MethodName) prog_61_method_27_code (4 : Nat) (Option.some Jvm.ClassFile.FieldType.int)) ∈ lw_all := lw_g (lw_at lw_m4 110 rfl) rfl
theorem q908 : (Jvm.Cond.methodLink "jdk/internal/util/ArraysSupport" (194 : Nat) ({ cls := "java/lang/Math", name := "max", desc := "(II)I" } : Jvm.MethodName)) ∈ lw_all := lw_g (lw_at lw_m4 111 rfl) rfl
theorem q909 : (Jvm.Cond.constant "jdk/internal/util/ArraysSupport" (200 : Nat) (2147483639 : Int32)) ∈ lw_all := lw_g (lw_at lw_m4 112 rfl) rfl
theorem q910 : (Jvm.Cond.methodLink "jdk/internal/util/ArraysSupport" (201 : Nat) ({ cls := "jdk/internal/util/ArraysSupport", name := "hugeLength", desc := "(II)I" } : Jvm.MethodName)) ∈ lw_all := lw_g (lw_at lw_m4 113 rfl) rfl
theorem q911 : (Jvm.Cond.static ({ cls := "jdk/internal/util/ArraysSupport", name := "hugeLength", desc := "(II)I" } : Jvm.MethodName)) ∈ lw_all := lw_g (lw_at lw_m4 114 rfl) rfl
theorem q912 : (Jvm.Cond.code ({ cls := "jdk/internal/util/ArraysSupport", name := "hugeLength", desc := "(II)I" } : Jvm.MethodName) prog_61_method_28_code (3 : Nat) (Option.some Jvm.ClassFile.FieldType.int)) ∈ lw_all := lw_g (lw_at lw_m4 115 rfl) rfl
/-! jdk/internal/util/Preconditions -/
set_option maxRecDepth 100000
def RJ17 : String := "jdk/internal/util/Preconditions"
abbrev cJ17_checkFromToIndex : ByteArray := prog_62_method_12_code
def yJ17_checkFromToIndex : MethodName := ⟨RJ17, "checkFromToIndex", "(IIILjava/util/function/BiFunction;)I"⟩
def dkwJ17_checkFromToIndex_0 : List UInt8 := [26, 155, 0, 13, 26, 27, 163, 0, 8, 27, 28, 164, 0, 11, 45, 26, 27, 28, 184, 0, 99, 191, 26, 172]
abbrev dktJ17_checkFromToIndex_0 : List UInt8 := dkwJ17_checkFromToIndex_0 ++ []
theorem dksJ17_checkFromToIndex_0 : cJ17_checkFromToIndex.data.toList.drop 0 = dktJ17_checkFromToIndex_0 := by decide +kernel
theorem dJ17_checkFromToIndex_0 : decode cJ17_checkFromToIndex 0 = .ok (.iload_n 0, 1) := dk_26 (dk_at dksJ17_checkFromToIndex_0 0 rfl rfl)
theorem dJ17_checkFromToIndex_1 : decode cJ17_checkFromToIndex 1 = .ok (.ifCond .lt 13, 3) := dk_155 0 13 (dk_at dksJ17_checkFromToIndex_0 1 rfl rfl)
theorem dJ17_checkFromToIndex_4 : decode cJ17_checkFromToIndex 4 = .ok (.iload_n 0, 1) := dk_26 (dk_at dksJ17_checkFromToIndex_0 4 rfl rfl)
theorem dJ17_checkFromToIndex_5 : decode cJ17_checkFromToIndex 5 = .ok (.iload_n 1, 1) := dk_27 (dk_at dksJ17_checkFromToIndex_0 5 rfl rfl)
theorem dJ17_checkFromToIndex_6 : decode cJ17_checkFromToIndex 6 = .ok (.if_icmp .gt 8, 3) := dk_163 0 8 (dk_at dksJ17_checkFromToIndex_0 6 rfl rfl)
theorem dJ17_checkFromToIndex_9 : decode cJ17_checkFromToIndex 9 = .ok (.iload_n 1, 1) := dk_27 (dk_at dksJ17_checkFromToIndex_0 9 rfl rfl)
theorem dJ17_checkFromToIndex_10 : decode cJ17_checkFromToIndex 10 = .ok (.iload_n 2, 1) := dk_28 (dk_at dksJ17_checkFromToIndex_0 10 rfl rfl)
theorem dJ17_checkFromToIndex_11 : decode cJ17_checkFromToIndex 11 = .ok (.if_icmp .le 11, 3) := dk_164 0 11 (dk_at dksJ17_checkFromToIndex_0 11 rfl rfl)
theorem dJ17_checkFromToIndex_14 : decode cJ17_checkFromToIndex 14 = .ok (.aload_n 3, 1) := dk_45 (dk_at dksJ17_checkFromToIndex_0 14 rfl rfl)
theorem dJ17_checkFromToIndex_15 : decode cJ17_checkFromToIndex 15 = .ok (.iload_n 0, 1) := dk_26 (dk_at dksJ17_checkFromToIndex_0 15 rfl rfl)
theorem dJ17_checkFromToIndex_16 : decode cJ17_checkFromToIndex 16 = .ok (.iload_n 1, 1) := dk_27 (dk_at dksJ17_checkFromToIndex_0 16 rfl rfl)
theorem dJ17_checkFromToIndex_17 : decode cJ17_checkFromToIndex 17 = .ok (.iload_n 2, 1) := dk_28 (dk_at dksJ17_checkFromToIndex_0 17 rfl rfl)
theorem dJ17_checkFromToIndex_18 : decode cJ17_checkFromToIndex 18 = .ok (.invokestatic 99, 3) := dk_184 0 99 (dk_at dksJ17_checkFromToIndex_0 18 rfl rfl)
theorem dJ17_checkFromToIndex_21 : decode cJ17_checkFromToIndex 21 = .ok (.athrow, 1) := dk_191 (dk_at dksJ17_checkFromToIndex_0 21 rfl rfl)
theorem dJ17_checkFromToIndex_22 : decode cJ17_checkFromToIndex 22 = .ok (.iload_n 0, 1) := dk_26 (dk_at dksJ17_checkFromToIndex_0 22 rfl rfl)
theorem dJ17_checkFromToIndex_23 : decode cJ17_checkFromToIndex 23 = .ok (.ireturn, 1) := dk_172 (dk_at dksJ17_checkFromToIndex_0 23 rfl rfl)
abbrev cJ17_checkIndex : ByteArray := prog_62_method_11_code
def yJ17_checkIndex : MethodName := ⟨RJ17, "checkIndex", "(IILjava/util/function/BiFunction;)I"⟩
def dkwJ17_checkIndex_0 : List UInt8 := [26, 155, 0, 8, 26, 27, 161, 0, 10, 44, 26, 27, 184, 0, 95, 191, 26, 172]
abbrev dktJ17_checkIndex_0 : List UInt8 := dkwJ17_checkIndex_0 ++ []
theorem dksJ17_checkIndex_0 : cJ17_checkIndex.data.toList.drop 0 = dktJ17_checkIndex_0 := by decide +kernel
theorem dJ17_checkIndex_0 : decode cJ17_checkIndex 0 = .ok (.iload_n 0, 1) := dk_26 (dk_at dksJ17_checkIndex_0 0 rfl rfl)
theorem dJ17_checkIndex_1 : decode cJ17_checkIndex 1 = .ok (.ifCond .lt 8, 3) := dk_155 0 8 (dk_at dksJ17_checkIndex_0 1 rfl rfl)
theorem dJ17_checkIndex_4 : decode cJ17_checkIndex 4 = .ok (.iload_n 0, 1) := dk_26 (dk_at dksJ17_checkIndex_0 4 rfl rfl)
theorem dJ17_checkIndex_5 : decode cJ17_checkIndex 5 = .ok (.iload_n 1, 1) := dk_27 (dk_at dksJ17_checkIndex_0 5 rfl rfl)
theorem dJ17_checkIndex_6 : decode cJ17_checkIndex 6 = .ok (.if_icmp .lt 10, 3) := dk_161 0 10 (dk_at dksJ17_checkIndex_0 6 rfl rfl)
theorem dJ17_checkIndex_9 : decode cJ17_checkIndex 9 = .ok (.aload_n 2, 1) := dk_44 (dk_at dksJ17_checkIndex_0 9 rfl rfl)
theorem dJ17_checkIndex_10 : decode cJ17_checkIndex 10 = .ok (.iload_n 0, 1) := dk_26 (dk_at dksJ17_checkIndex_0 10 rfl rfl)
theorem dJ17_checkIndex_11 : decode cJ17_checkIndex 11 = .ok (.iload_n 1, 1) := dk_27 (dk_at dksJ17_checkIndex_0 11 rfl rfl)
theorem dJ17_checkIndex_12 : decode cJ17_checkIndex 12 = .ok (.invokestatic 95, 3) := dk_184 0 95 (dk_at dksJ17_checkIndex_0 12 rfl rfl)
theorem dJ17_checkIndex_15 : decode cJ17_checkIndex 15 = .ok (.athrow, 1) := dk_191 (dk_at dksJ17_checkIndex_0 15 rfl rfl)
theorem dJ17_checkIndex_16 : decode cJ17_checkIndex 16 = .ok (.iload_n 0, 1) := dk_26 (dk_at dksJ17_checkIndex_0 16 rfl rfl)
theorem dJ17_checkIndex_17 : decode cJ17_checkIndex 17 = .ok (.ireturn, 1) := dk_172 (dk_at dksJ17_checkIndex_0 17 rfl rfl)
abbrev cJ17_checkFromIndexSize : ByteArray := prog_62_method_13_code
def yJ17_checkFromIndexSize : MethodName := ⟨RJ17, "checkFromIndexSize", "(IIILjava/util/function/BiFunction;)I"⟩
def dkwJ17_checkFromIndexSize_1 : List UInt8 := [172]
abbrev dktJ17_checkFromIndexSize_1 : List UInt8 := dkwJ17_checkFromIndexSize_1 ++ []
def dkwJ17_checkFromIndexSize_0 : List UInt8 := [28, 26, 128, 27, 128, 155, 0, 10, 27, 28, 26, 100, 164, 0, 11, 45, 26, 27, 28, 184, 0, 103, 191, 26]
abbrev dktJ17_checkFromIndexSize_0 : List UInt8 := dkwJ17_checkFromIndexSize_0 ++ dktJ17_checkFromIndexSize_1
theorem dksJ17_checkFromIndexSize_0 : cJ17_checkFromIndexSize.data.toList.drop 0 = dktJ17_checkFromIndexSize_0 := by decide +kernel
theorem dksJ17_checkFromIndexSize_1 : cJ17_checkFromIndexSize.data.toList.drop 24 = dktJ17_checkFromIndexSize_1 := dk_seg dksJ17_checkFromIndexSize_0 24 rfl rfl
theorem dJ17_checkFromIndexSize_0 : decode cJ17_checkFromIndexSize 0 = .ok (.iload_n 2, 1) := dk_28 (dk_at dksJ17_checkFromIndexSize_0 0 rfl rfl)
theorem dJ17_checkFromIndexSize_1 : decode cJ17_checkFromIndexSize 1 = .ok (.iload_n 0, 1) := dk_26 (dk_at dksJ17_checkFromIndexSize_0 1 rfl rfl)
theorem dJ17_checkFromIndexSize_2 : decode cJ17_checkFromIndexSize 2 = .ok (.ior, 1) := dk_128 (dk_at dksJ17_checkFromIndexSize_0 2 rfl rfl)
theorem dJ17_checkFromIndexSize_3 : decode cJ17_checkFromIndexSize 3 = .ok (.iload_n 1, 1) := dk_27 (dk_at dksJ17_checkFromIndexSize_0 3 rfl rfl)
theorem dJ17_checkFromIndexSize_4 : decode cJ17_checkFromIndexSize 4 = .ok (.ior, 1) := dk_128 (dk_at dksJ17_checkFromIndexSize_0 4 rfl rfl)
theorem dJ17_checkFromIndexSize_5 : decode cJ17_checkFromIndexSize 5 = .ok (.ifCond .lt 10, 3) := dk_155 0 10 (dk_at dksJ17_checkFromIndexSize_0 5 rfl rfl)
theorem dJ17_checkFromIndexSize_8 : decode cJ17_checkFromIndexSize 8 = .ok (.iload_n 1, 1) := dk_27 (dk_at dksJ17_checkFromIndexSize_0 8 rfl rfl)
theorem dJ17_checkFromIndexSize_9 : decode cJ17_checkFromIndexSize 9 = .ok (.iload_n 2, 1) := dk_28 (dk_at dksJ17_checkFromIndexSize_0 9 rfl rfl)
theorem dJ17_checkFromIndexSize_10 : decode cJ17_checkFromIndexSize 10 = .ok (.iload_n 0, 1) := dk_26 (dk_at dksJ17_checkFromIndexSize_0 10 rfl rfl)
theorem dJ17_checkFromIndexSize_11 : decode cJ17_checkFromIndexSize 11 = .ok (.isub, 1) := dk_100 (dk_at dksJ17_checkFromIndexSize_0 11 rfl rfl)
theorem dJ17_checkFromIndexSize_12 : decode cJ17_checkFromIndexSize 12 = .ok (.if_icmp .le 11, 3) := dk_164 0 11 (dk_at dksJ17_checkFromIndexSize_0 12 rfl rfl)
theorem dJ17_checkFromIndexSize_15 : decode cJ17_checkFromIndexSize 15 = .ok (.aload_n 3, 1) := dk_45 (dk_at dksJ17_checkFromIndexSize_0 15 rfl rfl)
theorem dJ17_checkFromIndexSize_16 : decode cJ17_checkFromIndexSize 16 = .ok (.iload_n 0, 1) := dk_26 (dk_at dksJ17_checkFromIndexSize_0 16 rfl rfl)
theorem dJ17_checkFromIndexSize_17 : decode cJ17_checkFromIndexSize 17 = .ok (.iload_n 1, 1) := dk_27 (dk_at dksJ17_checkFromIndexSize_0 17 rfl rfl)
theorem dJ17_checkFromIndexSize_18 : decode cJ17_checkFromIndexSize 18 = .ok (.iload_n 2, 1) := dk_28 (dk_at dksJ17_checkFromIndexSize_0 18 rfl rfl)
theorem dJ17_checkFromIndexSize_19 : decode cJ17_checkFromIndexSize 19 = .ok (.invokestatic 103, 3) := dk_184 0 103 (dk_at dksJ17_checkFromIndexSize_0 19 rfl rfl)
theorem dJ17_checkFromIndexSize_22 : decode cJ17_checkFromIndexSize 22 = .ok (.athrow, 1) := dk_191 (dk_at dksJ17_checkFromIndexSize_0 22 rfl rfl)
theorem dJ17_checkFromIndexSize_23 : decode cJ17_checkFromIndexSize 23 = .ok (.iload_n 0, 1) := dk_26 (dk_at dksJ17_checkFromIndexSize_0 23 rfl rfl)
theorem dJ17_checkFromIndexSize_24 : decode cJ17_checkFromIndexSize 24 = .ok (.ireturn, 1) := dk_172 (dk_at dksJ17_checkFromIndexSize_1 0 rfl rfl)
theorem q100 : (Jvm.Cond.initialized "jdk/internal/util/Preconditions") ∈ lw_all := lw_g (lw_at lw_m1 23 rfl) rfl
theorem q603 : (Jvm.Cond.laysStatic "jdk/internal/util/Preconditions" "SIOOBE_FORMATTER" "Ljava/util/function/BiFunction;") ∈ lw_tbl := lw_at lw_m3 46 rfl
theorem q605 : (Jvm.Cond.static ({ cls := "jdk/internal/util/Preconditions", name := "checkFromToIndex", desc := "(IIILjava/util/function/BiFunction;)I" } : Jvm.MethodName)) ∈ lw_all := lw_g (lw_at lw_m3 48 rfl) rfl
theorem q606 : (Jvm.Cond.code ({ cls := "jdk/internal/util/Preconditions", name := "checkFromToIndex", desc := "(IIILjava/util/function/BiFunction;)I" } : Jvm.MethodName) prog_62_method_12_code (4 : Nat) (Option.some Jvm.ClassFile.FieldType.int)) ∈ lw_all := lw_g (lw_at lw_m3 49 rfl) rfl
theorem q1012 : (Jvm.Cond.static ({ cls := "jdk/internal/util/Preconditions", name := "checkIndex", desc := "(IILjava/util/function/BiFunction;)I" } : Jvm.MethodName)) ∈ lw_all := lw_g (lw_at lw_m4 215 rfl) rfl
theorem q1013 : (Jvm.Cond.code ({ cls := "jdk/internal/util/Preconditions", name := "checkIndex", desc := "(IILjava/util/function/BiFunction;)I" } : Jvm.MethodName) prog_62_method_11_code (3 : Nat) (Option.some Jvm.ClassFile.FieldType.int)) ∈ lw_all := lw_g (lw_at lw_m4 216 rfl) rfl
theorem q1705 : (Jvm.Cond.static ({ cls := "jdk/internal/util/Preconditions", name := "checkFromIndexSize", desc := "(IIILjava/util/function/BiFunction;)I" } : Jvm.MethodName)) ∈ lw_all := lw_g (lw_at lw_m7 188 rfl) rfl
theorem q1706 : (Jvm.Cond.code ({ cls := "jdk/internal/util/Preconditions", name := "checkFromIndexSize", desc := "(IIILjava/util/function/BiFunction;)I" } : Jvm.MethodName) prog_62_method_13_code (4 : Nat) (Option.some Jvm.ClassFile.FieldType.int)) ∈ lw_all := lw_g (lw_at lw_m7 189 rfl) rfl
/-! java/util/HashMap$Node -/
set_option maxRecDepth 100000
def RJ18 : String := "java/util/HashMap$Node"
def TJ18 : u_T := fun k => match k with
  | 0 => ("java/util/HashMap$Node", "hash", "I", true)
  | 1 => ("java/util/HashMap$Node", "key", "Ljava/lang/Object;", true)
  | 2 => ("java/util/HashMap$Node", "value", "Ljava/lang/Object;", false)
  | _ => ("java/util/HashMap$Node", "next", "Ljava/util/HashMap$Node;", false)
def tyJ18 : Nat → FieldType := fun k => match k with
  | 0 => .int
  | 1 => .object "java/lang/Object"
  | 2 => .object "java/lang/Object"
  | _ => .object "java/util/HashMap$Node"
abbrev wsJ180 : List Cond := u_ws RJ18 TJ18 4
theorem nmJ18 : ∀ a, a < 4 → ∀ b, b < 4 → a ≠ b → (TJ18 a).2.1 ≠ (TJ18 b).2.1 := by decide +kernel
theorem tyJ18_ok : ∀ k, k < 4 → parseFieldDescriptor (TJ18 k).2.2.1 = some (tyJ18 k) := by decide +kernel
abbrev cJ18_init : ByteArray := prog_46_method_1_code
def yJ18_init : MethodName := ⟨RJ18, "<init>", "(ILjava/lang/Object;Ljava/lang/Object;Ljava/util/HashMap$Node;)V"⟩
def dkwJ18_init_1 : List UInt8 := [181, 0, 20, 177]
abbrev dktJ18_init_1 : List UInt8 := dkwJ18_init_1 ++ []
def dkwJ18_init_0 : List UInt8 := [42, 183, 0, 1, 42, 27, 181, 0, 7, 42, 44, 181, 0, 13, 42, 45, 181, 0, 17, 42, 25, 4]
abbrev dktJ18_init_0 : List UInt8 := dkwJ18_init_0 ++ dktJ18_init_1
theorem dksJ18_init_0 : cJ18_init.data.toList.drop 0 = dktJ18_init_0 := by decide +kernel
theorem dksJ18_init_1 : cJ18_init.data.toList.drop 22 = dktJ18_init_1 := dk_seg dksJ18_init_0 22 rfl rfl
theorem dJ18_init_0 : decode cJ18_init 0 = .ok (.aload_n 0, 1) := dk_42 (dk_at dksJ18_init_0 0 rfl rfl)
theorem dJ18_init_1 : decode cJ18_init 1 = .ok (.invokespecial 1, 3) := dk_183 0 1 (dk_at dksJ18_init_0 1 rfl rfl)
theorem dJ18_init_4 : decode cJ18_init 4 = .ok (.aload_n 0, 1) := dk_42 (dk_at dksJ18_init_0 4 rfl rfl)
theorem dJ18_init_5 : decode cJ18_init 5 = .ok (.iload_n 1, 1) := dk_27 (dk_at dksJ18_init_0 5 rfl rfl)
theorem dJ18_init_6 : decode cJ18_init 6 = .ok (.putfield 7, 3) := dk_181 0 7 (dk_at dksJ18_init_0 6 rfl rfl)
theorem dJ18_init_9 : decode cJ18_init 9 = .ok (.aload_n 0, 1) := dk_42 (dk_at dksJ18_init_0 9 rfl rfl)
theorem dJ18_init_10 : decode cJ18_init 10 = .ok (.aload_n 2, 1) := dk_44 (dk_at dksJ18_init_0 10 rfl rfl)
theorem dJ18_init_11 : decode cJ18_init 11 = .ok (.putfield 13, 3) := dk_181 0 13 (dk_at dksJ18_init_0 11 rfl rfl)
theorem dJ18_init_14 : decode cJ18_init 14 = .ok (.aload_n 0, 1) := dk_42 (dk_at dksJ18_init_0 14 rfl rfl)
theorem dJ18_init_15 : decode cJ18_init 15 = .ok (.aload_n 3, 1) := dk_45 (dk_at dksJ18_init_0 15 rfl rfl)
theorem dJ18_init_16 : decode cJ18_init 16 = .ok (.putfield 17, 3) := dk_181 0 17 (dk_at dksJ18_init_0 16 rfl rfl)
theorem dJ18_init_19 : decode cJ18_init 19 = .ok (.aload_n 0, 1) := dk_42 (dk_at dksJ18_init_0 19 rfl rfl)
theorem dJ18_init_20 : decode cJ18_init 20 = .ok (.aload 4, 2) := dk_25 4 (dk_at dksJ18_init_0 20 rfl rfl)
theorem dJ18_init_22 : decode cJ18_init 22 = .ok (.putfield 20, 3) := dk_181 0 20 (dk_at dksJ18_init_1 0 rfl rfl)
theorem dJ18_init_25 : decode cJ18_init 25 = .ok (.return_, 1) := dk_177 (dk_at dksJ18_init_1 3 rfl rfl)
theorem q101 : (Jvm.Cond.initialized "java/util/HashMap$Node") ∈ lw_all := lw_g (lw_at lw_m1 24 rfl) rfl
theorem q432 : (Jvm.Cond.selects "java/util/HashMap$Node" ({ cls := "java/lang/Object", name := "getClass", desc := "()Ljava/lang/Class;" } : Jvm.MethodName) ({ cls := "java/lang/Object", name := "getClass", desc := "()Ljava/lang/Class;" } : Jvm.MethodName)) ∈ lw_all := lw_g (lw_at lw_m2 115 rfl) rfl
theorem q699 : (Jvm.Cond.instanceMethod ({ cls := "java/util/HashMap$Node", name := "<init>", desc := "(ILjava/lang/Object;Ljava/lang/Object;Ljava/util/HashMap$Node;)V" } : Jvm.MethodName)) ∈ lw_all := lw_g (lw_at lw_m3 142 rfl) rfl
theorem q700 : (Jvm.Cond.code ({ cls := "java/util/HashMap$Node", name := "<init>", desc := "(ILjava/lang/Object;Ljava/lang/Object;Ljava/util/HashMap$Node;)V" } : Jvm.MethodName) prog_46_method_1_code (5 : Nat) (Option.none : Option Jvm.ClassFile.FieldType)) ∈ lw_all := lw_g (lw_at lw_m3 143 rfl) rfl
theorem q701 : (Jvm.Cond.methodLink "java/util/HashMap$Node" (1 : Nat) ({ cls := "java/lang/Object", name := "<init>", desc := "()V" } : Jvm.MethodName)) ∈ lw_all := lw_g (lw_at lw_m3 144 rfl) rfl
theorem q704 : (Jvm.Cond.fieldLink "java/util/HashMap$Node" (7 : Nat) "java/util/HashMap$Node" "hash" "I") ∈ lw_all := lw_g (lw_at lw_m3 147 rfl) rfl
theorem q710 : (Jvm.Cond.fieldLink "java/util/HashMap$Node" (13 : Nat) "java/util/HashMap$Node" "key" "Ljava/lang/Object;") ∈ lw_all := lw_g (lw_at lw_m3 153 rfl) rfl
theorem q716 : (Jvm.Cond.fieldLink "java/util/HashMap$Node" (17 : Nat) "java/util/HashMap$Node" "value" "Ljava/lang/Object;") ∈ lw_all := lw_g (lw_at lw_m3 159 rfl) rfl
theorem q721 : (Jvm.Cond.fieldLink "java/util/HashMap$Node" (20 : Nat) "java/util/HashMap$Node" "next" "Ljava/util/HashMap$Node;") ∈ lw_all := lw_g (lw_at lw_m3 164 rfl) rfl
theorem q732 : (Jvm.Cond.soleField "java/util/HashMap$Node" "hash") ∈ lw_all := lw_g (lw_at lw_m3 175 rfl) rfl
theorem q734 : (Jvm.Cond.soleField "java/util/HashMap$Node" "key") ∈ lw_all := lw_g (lw_at lw_m3 177 rfl) rfl
theorem q736 : (Jvm.Cond.soleField "java/util/HashMap$Node" "value") ∈ lw_all := lw_g (lw_at lw_m3 179 rfl) rfl
theorem q738 : (Jvm.Cond.soleField "java/util/HashMap$Node" "next") ∈ lw_all := lw_g (lw_at lw_m3 181 rfl) rfl
theorem q745 : (Jvm.Cond.instantiable "java/util/HashMap$Node" (4 : Nat)) ∈ lw_all := lw_g (lw_at lw_m3 188 rfl) rfl
theorem q747 : (Jvm.Cond.laysFinal "java/util/HashMap$Node" "java/util/HashMap$Node" "hash" "I") ∈ lw_all := lw_g (lw_at lw_m3 190 rfl) rfl
theorem q748 : (Jvm.Cond.laysFinal "java/util/HashMap$Node" "java/util/HashMap$Node" "key" "Ljava/lang/Object;") ∈ lw_all := lw_g (lw_at lw_m3 191 rfl) rfl
theorem q749 : (Jvm.Cond.lays "java/util/HashMap$Node" "java/util/HashMap$Node" "value" "Ljava/lang/Object;") ∈ lw_all := lw_g (lw_at lw_m3 192 rfl) rfl
theorem q750 : (Jvm.Cond.lays "java/util/HashMap$Node" "java/util/HashMap$Node" "next" "Ljava/util/HashMap$Node;") ∈ lw_all := lw_g (lw_at lw_m3 193 rfl) rfl
theorem q751 : (Jvm.Cond.superclass "java/util/HashMap$Node" "java/lang/Object") ∈ lw_all := lw_g (lw_at lw_m3 194 rfl) rfl
theorem q2286 : (Jvm.Cond.castable "java/util/HashMap$Node" "java/lang/Object") ∈ lw_tbl := lw_at lw_m10 49 rfl
theorem in_J18 : ∀ w ∈ wsJ180, w ∈ lw_all := lw_in wsJ180 [747, 748, 749, 750] (by decide +kernel) (by decide +kernel)
/-! java/util/LinkedHashMap$Entry -/
set_option maxRecDepth 100000
def RJ19 : String := "java/util/LinkedHashMap$Entry"
def TJ19 : u_T := fun k => match k with
  | 0 => ("java/util/HashMap$Node", "hash", "I", true)
  | 1 => ("java/util/HashMap$Node", "key", "Ljava/lang/Object;", true)
  | 2 => ("java/util/HashMap$Node", "value", "Ljava/lang/Object;", false)
  | 3 => ("java/util/HashMap$Node", "next", "Ljava/util/HashMap$Node;", false)
  | 4 => ("java/util/LinkedHashMap$Entry", "before", "Ljava/util/LinkedHashMap$Entry;", false)
  | _ => ("java/util/LinkedHashMap$Entry", "after", "Ljava/util/LinkedHashMap$Entry;", false)
def tyJ19 : Nat → FieldType := fun k => match k with
  | 0 => .int
  | 1 => .object "java/lang/Object"
  | 2 => .object "java/lang/Object"
  | 3 => .object "java/util/HashMap$Node"
  | 4 => .object "java/util/LinkedHashMap$Entry"
  | _ => .object "java/util/LinkedHashMap$Entry"
abbrev wsJ190 : List Cond := u_ws RJ19 TJ19 6
theorem nmJ19 : ∀ a, a < 6 → ∀ b, b < 6 → a ≠ b → (TJ19 a).2.1 ≠ (TJ19 b).2.1 := by decide +kernel
theorem tyJ19_ok : ∀ k, k < 6 → parseFieldDescriptor (TJ19 k).2.2.1 = some (tyJ19 k) := by decide +kernel
abbrev cJ19_init : ByteArray := prog_50_method_1_code
def yJ19_init : MethodName := ⟨RJ19, "<init>", "(ILjava/lang/Object;Ljava/lang/Object;Ljava/util/HashMap$Node;)V"⟩
def dkwJ19_init_0 : List UInt8 := [42, 27, 44, 45, 25, 4, 183, 0, 1, 177]
abbrev dktJ19_init_0 : List UInt8 := dkwJ19_init_0 ++ []
theorem dksJ19_init_0 : cJ19_init.data.toList.drop 0 = dktJ19_init_0 := by decide +kernel
theorem dJ19_init_0 : decode cJ19_init 0 = .ok (.aload_n 0, 1) := dk_42 (dk_at dksJ19_init_0 0 rfl rfl)
theorem dJ19_init_1 : decode cJ19_init 1 = .ok (.iload_n 1, 1) := dk_27 (dk_at dksJ19_init_0 1 rfl rfl)
theorem dJ19_init_2 : decode cJ19_init 2 = .ok (.aload_n 2, 1) := dk_44 (dk_at dksJ19_init_0 2 rfl rfl)
theorem dJ19_init_3 : decode cJ19_init 3 = .ok (.aload_n 3, 1) := dk_45 (dk_at dksJ19_init_0 3 rfl rfl)
theorem dJ19_init_4 : decode cJ19_init 4 = .ok (.aload 4, 2) := dk_25 4 (dk_at dksJ19_init_0 4 rfl rfl)
theorem dJ19_init_6 : decode cJ19_init 6 = .ok (.invokespecial 1, 3) := dk_183 0 1 (dk_at dksJ19_init_0 6 rfl rfl)
theorem dJ19_init_9 : decode cJ19_init 9 = .ok (.return_, 1) := dk_177 (dk_at dksJ19_init_0 9 rfl rfl)
theorem q102 : (Jvm.Cond.initialized "java/util/LinkedHashMap$Entry") ∈ lw_all := lw_g (lw_at lw_m1 25 rfl) rfl
theorem q436 : (Jvm.Cond.selects "java/util/LinkedHashMap$Entry" ({ cls := "java/lang/Object", name := "getClass", desc := "()Ljava/lang/Class;" } : Jvm.MethodName) ({ cls := "java/lang/Object", name := "getClass", desc := "()Ljava/lang/Class;" } : Jvm.MethodName)) ∈ lw_all := lw_g (lw_at lw_m2 119 rfl) rfl
theorem q694 : (Jvm.Cond.instantiable "java/util/LinkedHashMap$Entry" (6 : Nat)) ∈ lw_all := lw_g (lw_at lw_m3 137 rfl) rfl
theorem q696 : (Jvm.Cond.instanceMethod ({ cls := "java/util/LinkedHashMap$Entry", name := "<init>", desc := "(ILjava/lang/Object;Ljava/lang/Object;Ljava/util/HashMap$Node;)V" } : Jvm.MethodName)) ∈ lw_all := lw_g (lw_at lw_m3 139 rfl) rfl
theorem q697 : (Jvm.Cond.code ({ cls := "java/util/LinkedHashMap$Entry", name := "<init>", desc := "(ILjava/lang/Object;Ljava/lang/Object;Ljava/util/HashMap$Node;)V" } : Jvm.MethodName) prog_50_method_1_code (5 : Nat) (Option.none : Option Jvm.ClassFile.FieldType)) ∈ lw_all := lw_g (lw_at lw_m3 140 rfl) rfl
theorem q698 : (Jvm.Cond.methodLink "java/util/LinkedHashMap$Entry" (1 : Nat) ({ cls := "java/util/HashMap$Node", name := "<init>", desc := "(ILjava/lang/Object;Ljava/lang/Object;Ljava/util/HashMap$Node;)V" } : Jvm.MethodName)) ∈ lw_all := lw_g (lw_at lw_m3 141 rfl) rfl
theorem q708 : (Jvm.Cond.sameField "java/util/LinkedHashMap$Entry" "java/util/HashMap$Node" "hash" "I") ∈ lw_all := lw_g (lw_at lw_m3 151 rfl) rfl
theorem q714 : (Jvm.Cond.sameField "java/util/LinkedHashMap$Entry" "java/util/HashMap$Node" "key" "Ljava/lang/Object;") ∈ lw_all := lw_g (lw_at lw_m3 157 rfl) rfl
theorem q718 : (Jvm.Cond.sameField "java/util/LinkedHashMap$Entry" "java/util/HashMap$Node" "value" "Ljava/lang/Object;") ∈ lw_all := lw_g (lw_at lw_m3 161 rfl) rfl
theorem q727 : (Jvm.Cond.lays "java/util/LinkedHashMap$Entry" "java/util/LinkedHashMap$Entry" "before" "Ljava/util/LinkedHashMap$Entry;") ∈ lw_all := lw_g (lw_at lw_m3 170 rfl) rfl
theorem q728 : (Jvm.Cond.soleField "java/util/LinkedHashMap$Entry" "before") ∈ lw_all := lw_g (lw_at lw_m3 171 rfl) rfl
theorem q729 : (Jvm.Cond.lays "java/util/LinkedHashMap$Entry" "java/util/LinkedHashMap$Entry" "after" "Ljava/util/LinkedHashMap$Entry;") ∈ lw_all := lw_g (lw_at lw_m3 172 rfl) rfl
theorem q730 : (Jvm.Cond.soleField "java/util/LinkedHashMap$Entry" "after") ∈ lw_all := lw_g (lw_at lw_m3 173 rfl) rfl
theorem q731 : (Jvm.Cond.laysFinal "java/util/LinkedHashMap$Entry" "java/util/HashMap$Node" "hash" "I") ∈ lw_all := lw_g (lw_at lw_m3 174 rfl) rfl
theorem q733 : (Jvm.Cond.laysFinal "java/util/LinkedHashMap$Entry" "java/util/HashMap$Node" "key" "Ljava/lang/Object;") ∈ lw_all := lw_g (lw_at lw_m3 176 rfl) rfl
theorem q735 : (Jvm.Cond.lays "java/util/LinkedHashMap$Entry" "java/util/HashMap$Node" "value" "Ljava/lang/Object;") ∈ lw_all := lw_g (lw_at lw_m3 178 rfl) rfl
theorem q737 : (Jvm.Cond.lays "java/util/LinkedHashMap$Entry" "java/util/HashMap$Node" "next" "Ljava/util/HashMap$Node;") ∈ lw_all := lw_g (lw_at lw_m3 180 rfl) rfl
theorem q739 : (Jvm.Cond.superclass "java/util/LinkedHashMap$Entry" "java/util/HashMap$Node") ∈ lw_all := lw_g (lw_at lw_m3 182 rfl) rfl
theorem q2295 : (Jvm.Cond.castable "java/util/LinkedHashMap$Entry" "java/lang/Object") ∈ lw_tbl := lw_at lw_m10 58 rfl
theorem q2310 : (Jvm.Cond.castable "java/util/LinkedHashMap$Entry" "java/util/HashMap$Node") ∈ lw_tbl := lw_at lw_m10 73 rfl
theorem in_J19 : ∀ w ∈ wsJ190, w ∈ lw_all := lw_in wsJ190 [731, 733, 735, 737, 727, 729] (by decide +kernel) (by decide +kernel)
/-! java/util/Arrays -/
set_option maxRecDepth 100000
def RJ21 : String := "java/util/Arrays"
abbrev cJ21_copyOf : ByteArray := prog_43_method_119_code
def yJ21_copyOf : MethodName := ⟨RJ21, "copyOf", "([Ljava/lang/Object;I)[Ljava/lang/Object;"⟩
def dkwJ21_copyOf_0 : List UInt8 := [42, 27, 42, 182, 0, 86, 184, 1, 44, 176]
abbrev dktJ21_copyOf_0 : List UInt8 := dkwJ21_copyOf_0 ++ []
theorem dksJ21_copyOf_0 : cJ21_copyOf.data.toList.drop 0 = dktJ21_copyOf_0 := by decide +kernel
theorem dJ21_copyOf_0 : decode cJ21_copyOf 0 = .ok (.aload_n 0, 1) := dk_42 (dk_at dksJ21_copyOf_0 0 rfl rfl)
theorem dJ21_copyOf_1 : decode cJ21_copyOf 1 = .ok (.iload_n 1, 1) := dk_27 (dk_at dksJ21_copyOf_0 1 rfl rfl)
theorem dJ21_copyOf_2 : decode cJ21_copyOf 2 = .ok (.aload_n 0, 1) := dk_42 (dk_at dksJ21_copyOf_0 2 rfl rfl)
theorem dJ21_copyOf_3 : decode cJ21_copyOf 3 = .ok (.invokevirtual 86, 3) := dk_182 0 86 (dk_at dksJ21_copyOf_0 3 rfl rfl)
theorem dJ21_copyOf_6 : decode cJ21_copyOf 6 = .ok (.invokestatic 300, 3) := dk_184 1 44 (dk_at dksJ21_copyOf_0 6 rfl rfl)
theorem dJ21_copyOf_9 : decode cJ21_copyOf 9 = .ok (.areturn, 1) := dk_176 (dk_at dksJ21_copyOf_0 9 rfl rfl)
abbrev cJ21_copyOf_2 : ByteArray := prog_43_method_120_code
def yJ21_copyOf_2 : MethodName := ⟨RJ21, "copyOf", "([Ljava/lang/Object;ILjava/lang/Class;)[Ljava/lang/Object;"⟩
def dkwJ21_copyOf_2_1 : List UInt8 := [78, 42, 3, 45, 3, 42, 190, 27, 184, 1, 48, 184, 0, 150, 45, 176]
abbrev dktJ21_copyOf_2_1 : List UInt8 := dkwJ21_copyOf_2_1 ++ []
def dkwJ21_copyOf_2_0 : List UInt8 := [44, 18, 110, 166, 0, 10, 27, 189, 0, 2, 167, 0, 14, 44, 182, 0, 90, 27, 184, 0, 95, 192, 0, 110]
abbrev dktJ21_copyOf_2_0 : List UInt8 := dkwJ21_copyOf_2_0 ++ dktJ21_copyOf_2_1
theorem dksJ21_copyOf_2_0 : cJ21_copyOf_2.data.toList.drop 0 = dktJ21_copyOf_2_0 := by decide +kernel
theorem dksJ21_copyOf_2_1 : cJ21_copyOf_2.data.toList.drop 24 = dktJ21_copyOf_2_1 := dk_seg dksJ21_copyOf_2_0 24 rfl rfl
theorem dJ21_copyOf_2_0 : decode cJ21_copyOf_2 0 = .ok (.aload_n 2, 1) := dk_44 (dk_at dksJ21_copyOf_2_0 0 rfl rfl)
theorem dJ21_copyOf_2_1 : decode cJ21_copyOf_2 1 = .ok (.ldc 110, 2) := dk_18 110 (dk_at dksJ21_copyOf_2_0 1 rfl rfl)
theorem dJ21_copyOf_2_3 : decode cJ21_copyOf_2 3 = .ok (.if_acmp .ne 10, 3) := dk_166 0 10 (dk_at dksJ21_copyOf_2_0 3 rfl rfl)
theorem dJ21_copyOf_2_6 : decode cJ21_copyOf_2 6 = .ok (.iload_n 1, 1) := dk_27 (dk_at dksJ21_copyOf_2_0 6 rfl rfl)
theorem dJ21_copyOf_2_7 : decode cJ21_copyOf_2 7 = .ok (.anewarray 2, 3) := dk_189 0 2 (dk_at dksJ21_copyOf_2_0 7 rfl rfl)
theorem dJ21_copyOf_2_10 : decode cJ21_copyOf_2 10 = .ok (.goto 14, 3) := dk_167 0 14 (dk_at dksJ21_copyOf_2_0 10 rfl rfl)
theorem dJ21_copyOf_2_13 : decode cJ21_copyOf_2 13 = .ok (.aload_n 2, 1) := dk_44 (dk_at dksJ21_copyOf_2_0 13 rfl rfl)
theorem dJ21_copyOf_2_14 : decode cJ21_copyOf_2 14 = .ok (.invokevirtual 90, 3) := dk_182 0 90 (dk_at dksJ21_copyOf_2_0 14 rfl rfl)
theorem dJ21_copyOf_2_17 : decode cJ21_copyOf_2 17 = .ok (.iload_n 1, 1) := dk_27 (dk_at dksJ21_copyOf_2_0 17 rfl rfl)
theorem dJ21_copyOf_2_18 : decode cJ21_copyOf_2 18 = .ok (.invokestatic 95, 3) := dk_184 0 95 (dk_at dksJ21_copyOf_2_0 18 rfl rfl)
theorem dJ21_copyOf_2_21 : decode cJ21_copyOf_2 21 = .ok (.checkcast 110, 3) := dk_192 0 110 (dk_at dksJ21_copyOf_2_0 21 rfl rfl)
theorem dJ21_copyOf_2_24 : decode cJ21_copyOf_2 24 = .ok (.astore_n 3, 1) := dk_78 (dk_at dksJ21_copyOf_2_1 0 rfl rfl)
theorem dJ21_copyOf_2_25 : decode cJ21_copyOf_2 25 = .ok (.aload_n 0, 1) := dk_42 (dk_at dksJ21_copyOf_2_1 1 rfl rfl)
theorem dJ21_copyOf_2_26 : decode cJ21_copyOf_2 26 = .ok (.iconst 0, 1) := dk_3 (dk_at dksJ21_copyOf_2_1 2 rfl rfl)
theorem dJ21_copyOf_2_27 : decode cJ21_copyOf_2 27 = .ok (.aload_n 3, 1) := dk_45 (dk_at dksJ21_copyOf_2_1 3 rfl rfl)
theorem dJ21_copyOf_2_28 : decode cJ21_copyOf_2 28 = .ok (.iconst 0, 1) := dk_3 (dk_at dksJ21_copyOf_2_1 4 rfl rfl)
theorem dJ21_copyOf_2_29 : decode cJ21_copyOf_2 29 = .ok (.aload_n 0, 1) := dk_42 (dk_at dksJ21_copyOf_2_1 5 rfl rfl)
theorem dJ21_copyOf_2_30 : decode cJ21_copyOf_2 30 = .ok (.arraylength, 1) := dk_190 (dk_at dksJ21_copyOf_2_1 6 rfl rfl)
theorem dJ21_copyOf_2_31 : decode cJ21_copyOf_2 31 = .ok (.iload_n 1, 1) := dk_27 (dk_at dksJ21_copyOf_2_1 7 rfl rfl)
theorem dJ21_copyOf_2_32 : decode cJ21_copyOf_2 32 = .ok (.invokestatic 304, 3) := dk_184 1 48 (dk_at dksJ21_copyOf_2_1 8 rfl rfl)
theorem dJ21_copyOf_2_35 : decode cJ21_copyOf_2 35 = .ok (.invokestatic 150, 3) := dk_184 0 150 (dk_at dksJ21_copyOf_2_1 11 rfl rfl)
theorem dJ21_copyOf_2_38 : decode cJ21_copyOf_2 38 = .ok (.aload_n 3, 1) := dk_45 (dk_at dksJ21_copyOf_2_1 14 rfl rfl)
theorem dJ21_copyOf_2_39 : decode cJ21_copyOf_2 39 = .ok (.areturn, 1) := dk_176 (dk_at dksJ21_copyOf_2_1 15 rfl rfl)
abbrev cJ21_copyOf_3 : ByteArray := prog_43_method_121_code
def yJ21_copyOf_3 : MethodName := ⟨RJ21, "copyOf", "([BI)[B"⟩
def dkwJ21_copyOf_3_1 : List UInt8 := [27, 184, 1, 48, 184, 0, 150, 44, 176]
abbrev dktJ21_copyOf_3_1 : List UInt8 := dkwJ21_copyOf_3_1 ++ []
def dkwJ21_copyOf_3_0 : List UInt8 := [27, 42, 190, 160, 0, 11, 42, 182, 1, 54, 192, 1, 55, 176, 27, 188, 8, 77, 42, 3, 44, 3, 42, 190]
abbrev dktJ21_copyOf_3_0 : List UInt8 := dkwJ21_copyOf_3_0 ++ dktJ21_copyOf_3_1
theorem dksJ21_copyOf_3_0 : cJ21_copyOf_3.data.toList.drop 0 = dktJ21_copyOf_3_0 := by decide +kernel
theorem dksJ21_copyOf_3_1 : cJ21_copyOf_3.data.toList.drop 24 = dktJ21_copyOf_3_1 := dk_seg dksJ21_copyOf_3_0 24 rfl rfl
theorem dJ21_copyOf_3_0 : decode cJ21_copyOf_3 0 = .ok (.iload_n 1, 1) := dk_27 (dk_at dksJ21_copyOf_3_0 0 rfl rfl)
theorem dJ21_copyOf_3_1 : decode cJ21_copyOf_3 1 = .ok (.aload_n 0, 1) := dk_42 (dk_at dksJ21_copyOf_3_0 1 rfl rfl)
theorem dJ21_copyOf_3_2 : decode cJ21_copyOf_3 2 = .ok (.arraylength, 1) := dk_190 (dk_at dksJ21_copyOf_3_0 2 rfl rfl)
theorem dJ21_copyOf_3_3 : decode cJ21_copyOf_3 3 = .ok (.if_icmp .ne 11, 3) := dk_160 0 11 (dk_at dksJ21_copyOf_3_0 3 rfl rfl)
theorem dJ21_copyOf_3_6 : decode cJ21_copyOf_3 6 = .ok (.aload_n 0, 1) := dk_42 (dk_at dksJ21_copyOf_3_0 6 rfl rfl)
theorem dJ21_copyOf_3_7 : decode cJ21_copyOf_3 7 = .ok (.invokevirtual 310, 3) := dk_182 1 54 (dk_at dksJ21_copyOf_3_0 7 rfl rfl)
theorem dJ21_copyOf_3_10 : decode cJ21_copyOf_3 10 = .ok (.checkcast 311, 3) := dk_192 1 55 (dk_at dksJ21_copyOf_3_0 10 rfl rfl)
theorem dJ21_copyOf_3_13 : decode cJ21_copyOf_3 13 = .ok (.areturn, 1) := dk_176 (dk_at dksJ21_copyOf_3_0 13 rfl rfl)
theorem dJ21_copyOf_3_14 : decode cJ21_copyOf_3 14 = .ok (.iload_n 1, 1) := dk_27 (dk_at dksJ21_copyOf_3_0 14 rfl rfl)
theorem dJ21_copyOf_3_15 : decode cJ21_copyOf_3 15 = .ok (.newarray .byte, 2) := dk_188_8 (dk_at dksJ21_copyOf_3_0 15 rfl rfl)
theorem dJ21_copyOf_3_17 : decode cJ21_copyOf_3 17 = .ok (.astore_n 2, 1) := dk_77 (dk_at dksJ21_copyOf_3_0 17 rfl rfl)
theorem dJ21_copyOf_3_18 : decode cJ21_copyOf_3 18 = .ok (.aload_n 0, 1) := dk_42 (dk_at dksJ21_copyOf_3_0 18 rfl rfl)
theorem dJ21_copyOf_3_19 : decode cJ21_copyOf_3 19 = .ok (.iconst 0, 1) := dk_3 (dk_at dksJ21_copyOf_3_0 19 rfl rfl)
theorem dJ21_copyOf_3_20 : decode cJ21_copyOf_3 20 = .ok (.aload_n 2, 1) := dk_44 (dk_at dksJ21_copyOf_3_0 20 rfl rfl)
theorem dJ21_copyOf_3_21 : decode cJ21_copyOf_3 21 = .ok (.iconst 0, 1) := dk_3 (dk_at dksJ21_copyOf_3_0 21 rfl rfl)
theorem dJ21_copyOf_3_22 : decode cJ21_copyOf_3 22 = .ok (.aload_n 0, 1) := dk_42 (dk_at dksJ21_copyOf_3_0 22 rfl rfl)
theorem dJ21_copyOf_3_23 : decode cJ21_copyOf_3 23 = .ok (.arraylength, 1) := dk_190 (dk_at dksJ21_copyOf_3_0 23 rfl rfl)
theorem dJ21_copyOf_3_24 : decode cJ21_copyOf_3 24 = .ok (.iload_n 1, 1) := dk_27 (dk_at dksJ21_copyOf_3_1 0 rfl rfl)
theorem dJ21_copyOf_3_25 : decode cJ21_copyOf_3 25 = .ok (.invokestatic 304, 3) := dk_184 1 48 (dk_at dksJ21_copyOf_3_1 1 rfl rfl)
theorem dJ21_copyOf_3_28 : decode cJ21_copyOf_3 28 = .ok (.invokestatic 150, 3) := dk_184 0 150 (dk_at dksJ21_copyOf_3_1 4 rfl rfl)
theorem dJ21_copyOf_3_31 : decode cJ21_copyOf_3 31 = .ok (.aload_n 2, 1) := dk_44 (dk_at dksJ21_copyOf_3_1 7 rfl rfl)
theorem dJ21_copyOf_3_32 : decode cJ21_copyOf_3 32 = .ok (.areturn, 1) := dk_176 (dk_at dksJ21_copyOf_3_1 8 rfl rfl)
abbrev cJ21_fill : ByteArray := prog_43_method_110_code
def yJ21_fill : MethodName := ⟨RJ21, "fill", "([BIIB)V"⟩
def dkwJ21_fill_1 : List UInt8 := [167, 255, 242, 177]
abbrev dktJ21_fill_1 : List UInt8 := dkwJ21_fill_1 ++ []
def dkwJ21_fill_0 : List UInt8 := [42, 190, 27, 28, 184, 0, 13, 27, 54, 4, 21, 4, 28, 162, 0, 14, 42, 21, 4, 29, 84, 132, 4, 1]
abbrev dktJ21_fill_0 : List UInt8 := dkwJ21_fill_0 ++ dktJ21_fill_1
theorem dksJ21_fill_0 : cJ21_fill.data.toList.drop 0 = dktJ21_fill_0 := by decide +kernel
theorem dksJ21_fill_1 : cJ21_fill.data.toList.drop 24 = dktJ21_fill_1 := dk_seg dksJ21_fill_0 24 rfl rfl
theorem dJ21_fill_0 : decode cJ21_fill 0 = .ok (.aload_n 0, 1) := dk_42 (dk_at dksJ21_fill_0 0 rfl rfl)
theorem dJ21_fill_1 : decode cJ21_fill 1 = .ok (.arraylength, 1) := dk_190 (dk_at dksJ21_fill_0 1 rfl rfl)
theorem dJ21_fill_2 : decode cJ21_fill 2 = .ok (.iload_n 1, 1) := dk_27 (dk_at dksJ21_fill_0 2 rfl rfl)
theorem dJ21_fill_3 : decode cJ21_fill 3 = .ok (.iload_n 2, 1) := dk_28 (dk_at dksJ21_fill_0 3 rfl rfl)
theorem dJ21_fill_4 : decode cJ21_fill 4 = .ok (.invokestatic 13, 3) := dk_184 0 13 (dk_at dksJ21_fill_0 4 rfl rfl)
theorem dJ21_fill_7 : decode cJ21_fill 7 = .ok (.iload_n 1, 1) := dk_27 (dk_at dksJ21_fill_0 7 rfl rfl)
theorem dJ21_fill_8 : decode cJ21_fill 8 = .ok (.istore 4, 2) := dk_54 4 (dk_at dksJ21_fill_0 8 rfl rfl)
theorem dJ21_fill_10 : decode cJ21_fill 10 = .ok (.iload 4, 2) := dk_21 4 (dk_at dksJ21_fill_0 10 rfl rfl)
theorem dJ21_fill_12 : decode cJ21_fill 12 = .ok (.iload_n 2, 1) := dk_28 (dk_at dksJ21_fill_0 12 rfl rfl)
theorem dJ21_fill_13 : decode cJ21_fill 13 = .ok (.if_icmp .ge 14, 3) := dk_162 0 14 (dk_at dksJ21_fill_0 13 rfl rfl)
theorem dJ21_fill_16 : decode cJ21_fill 16 = .ok (.aload_n 0, 1) := dk_42 (dk_at dksJ21_fill_0 16 rfl rfl)
theorem dJ21_fill_17 : decode cJ21_fill 17 = .ok (.iload 4, 2) := dk_21 4 (dk_at dksJ21_fill_0 17 rfl rfl)
theorem dJ21_fill_19 : decode cJ21_fill 19 = .ok (.iload_n 3, 1) := dk_29 (dk_at dksJ21_fill_0 19 rfl rfl)
theorem dJ21_fill_20 : decode cJ21_fill 20 = .ok (.bastore, 1) := dk_84 (dk_at dksJ21_fill_0 20 rfl rfl)
theorem dJ21_fill_21 : decode cJ21_fill 21 = .ok (.iinc 4 1, 3) := dk_132 4 1 (dk_at dksJ21_fill_0 21 rfl rfl)
theorem dJ21_fill_24 : decode cJ21_fill 24 = .ok (.goto (-14), 3) := dk_167 255 242 (dk_at dksJ21_fill_1 0 rfl rfl)
theorem dJ21_fill_27 : decode cJ21_fill 27 = .ok (.return_, 1) := dk_177 (dk_at dksJ21_fill_1 3 rfl rfl)
abbrev cJ21_rangeCheck : ByteArray := prog_43_method_30_code
def yJ21_rangeCheck : MethodName := ⟨RJ21, "rangeCheck", "(III)V"⟩
def dkwJ21_rangeCheck_3 : List UInt8 := [183, 0, 70, 191, 177]
abbrev dktJ21_rangeCheck_3 : List UInt8 := dkwJ21_rangeCheck_3 ++ []
def dkwJ21_rangeCheck_2 : List UInt8 := [27, 156, 0, 12, 187, 0, 68, 89, 27, 183, 0, 70, 191, 28, 26, 164, 0, 12, 187, 0, 68, 89, 28]
abbrev dktJ21_rangeCheck_2 : List UInt8 := dkwJ21_rangeCheck_2 ++ dktJ21_rangeCheck_3
def dkwJ21_rangeCheck_1 : List UInt8 := [182, 0, 54, 18, 57, 182, 0, 50, 28, 182, 0, 54, 18, 59, 182, 0, 50, 182, 0, 61, 183, 0, 65, 191]
abbrev dktJ21_rangeCheck_1 : List UInt8 := dkwJ21_rangeCheck_1 ++ dktJ21_rangeCheck_2
def dkwJ21_rangeCheck_0 : List UInt8 := [27, 28, 164, 0, 44, 187, 0, 43, 89, 187, 0, 45, 89, 183, 0, 47, 18, 48, 182, 0, 50, 27]
abbrev dktJ21_rangeCheck_0 : List UInt8 := dkwJ21_rangeCheck_0 ++ dktJ21_rangeCheck_1
theorem dksJ21_rangeCheck_0 : cJ21_rangeCheck.data.toList.drop 0 = dktJ21_rangeCheck_0 := by decide +kernel
theorem dksJ21_rangeCheck_1 : cJ21_rangeCheck.data.toList.drop 22 = dktJ21_rangeCheck_1 := dk_seg dksJ21_rangeCheck_0 22 rfl rfl
theorem dksJ21_rangeCheck_2 : cJ21_rangeCheck.data.toList.drop 46 = dktJ21_rangeCheck_2 := dk_seg dksJ21_rangeCheck_1 24 rfl rfl
theorem dksJ21_rangeCheck_3 : cJ21_rangeCheck.data.toList.drop 69 = dktJ21_rangeCheck_3 := dk_seg dksJ21_rangeCheck_2 23 rfl rfl
theorem dJ21_rangeCheck_0 : decode cJ21_rangeCheck 0 = .ok (.iload_n 1, 1) := dk_27 (dk_at dksJ21_rangeCheck_0 0 rfl rfl)
theorem dJ21_rangeCheck_1 : decode cJ21_rangeCheck 1 = .ok (.iload_n 2, 1) := dk_28 (dk_at dksJ21_rangeCheck_0 1 rfl rfl)
theorem dJ21_rangeCheck_2 : decode cJ21_rangeCheck 2 = .ok (.if_icmp .le 44, 3) := dk_164 0 44 (dk_at dksJ21_rangeCheck_0 2 rfl rfl)
theorem dJ21_rangeCheck_5 : decode cJ21_rangeCheck 5 = .ok (.new 43, 3) := dk_187 0 43 (dk_at dksJ21_rangeCheck_0 5 rfl rfl)
theorem dJ21_rangeCheck_8 : decode cJ21_rangeCheck 8 = .ok (.dup, 1) := dk_89 (dk_at dksJ21_rangeCheck_0 8 rfl rfl)
theorem dJ21_rangeCheck_9 : decode cJ21_rangeCheck 9 = .ok (.new 45, 3) := dk_187 0 45 (dk_at dksJ21_rangeCheck_0 9 rfl rfl)
theorem dJ21_rangeCheck_12 : decode cJ21_rangeCheck 12 = .ok (.dup, 1) := dk_89 (dk_at dksJ21_rangeCheck_0 12 rfl rfl)
theorem dJ21_rangeCheck_13 : decode cJ21_rangeCheck 13 = .ok (.invokespecial 47, 3) := dk_183 0 47 (dk_at dksJ21_rangeCheck_0 13 rfl rfl)
theorem dJ21_rangeCheck_16 : decode cJ21_rangeCheck 16 = .ok (.ldc 48, 2) := dk_18 48 (dk_at dksJ21_rangeCheck_0 16 rfl rfl)
theorem dJ21_rangeCheck_18 : decode cJ21_rangeCheck 18 = .ok (.invokevirtual 50, 3) := dk_182 0 50 (dk_at dksJ21_rangeCheck_0 18 rfl rfl)
theorem dJ21_rangeCheck_21 : decode cJ21_rangeCheck 21 = .ok (.iload_n 1, 1) := dk_27 (dk_at dksJ21_rangeCheck_0 21 rfl rfl)
theorem dJ21_rangeCheck_22 : decode cJ21_rangeCheck 22 = .ok (.invokevirtual 54, 3) := dk_182 0 54 (dk_at dksJ21_rangeCheck_1 0 rfl rfl)
theorem dJ21_rangeCheck_25 : decode cJ21_rangeCheck 25 = .ok (.ldc 57, 2) := dk_18 57 (dk_at dksJ21_rangeCheck_1 3 rfl rfl)
theorem dJ21_rangeCheck_27 : decode cJ21_rangeCheck 27 = .ok (.invokevirtual 50, 3) := dk_182 0 50 (dk_at dksJ21_rangeCheck_1 5 rfl rfl)
theorem dJ21_rangeCheck_30 : decode cJ21_rangeCheck 30 = .ok (.iload_n 2, 1) := dk_28 (dk_at dksJ21_rangeCheck_1 8 rfl rfl)
theorem dJ21_rangeCheck_31 : decode cJ21_rangeCheck 31 = .ok (.invokevirtual 54, 3) := dk_182 0 54 (dk_at dksJ21_rangeCheck_1 9 rfl rfl)
theorem dJ21_rangeCheck_34 : decode cJ21_rangeCheck 34 = .ok (.ldc 59, 2) := dk_18 59 (dk_at dksJ21_rangeCheck_1 12 rfl rfl)
theorem dJ21_rangeCheck_36 : decode cJ21_rangeCheck 36 = .ok (.invokevirtual 50, 3) := dk_182 0 50 (dk_at dksJ21_rangeCheck_1 14 rfl rfl)
theorem dJ21_rangeCheck_39 : decode cJ21_rangeCheck 39 = .ok (.invokevirtual 61, 3) := dk_182 0 61 (dk_at dksJ21_rangeCheck_1 17 rfl rfl)
theorem dJ21_rangeCheck_42 : decode cJ21_rangeCheck 42 = .ok (.invokespecial 65, 3) := dk_183 0 65 (dk_at dksJ21_rangeCheck_1 20 rfl rfl)
theorem dJ21_rangeCheck_45 : decode cJ21_rangeCheck 45 = .ok (.athrow, 1) := dk_191 (dk_at dksJ21_rangeCheck_1 23 rfl rfl)
theorem dJ21_rangeCheck_46 : decode cJ21_rangeCheck 46 = .ok (.iload_n 1, 1) := dk_27 (dk_at dksJ21_rangeCheck_2 0 rfl rfl)
theorem dJ21_rangeCheck_47 : decode cJ21_rangeCheck 47 = .ok (.ifCond .ge 12, 3) := dk_156 0 12 (dk_at dksJ21_rangeCheck_2 1 rfl rfl)
theorem dJ21_rangeCheck_50 : decode cJ21_rangeCheck 50 = .ok (.new 68, 3) := dk_187 0 68 (dk_at dksJ21_rangeCheck_2 4 rfl rfl)
theorem dJ21_rangeCheck_53 : decode cJ21_rangeCheck 53 = .ok (.dup, 1) := dk_89 (dk_at dksJ21_rangeCheck_2 7 rfl rfl)
theorem dJ21_rangeCheck_54 : decode cJ21_rangeCheck 54 = .ok (.iload_n 1, 1) := dk_27 (dk_at dksJ21_rangeCheck_2 8 rfl rfl)
theorem dJ21_rangeCheck_55 : decode cJ21_rangeCheck 55 = .ok (.invokespecial 70, 3) := dk_183 0 70 (dk_at dksJ21_rangeCheck_2 9 rfl rfl)
theorem dJ21_rangeCheck_58 : decode cJ21_rangeCheck 58 = .ok (.athrow, 1) := dk_191 (dk_at dksJ21_rangeCheck_2 12 rfl rfl)
theorem dJ21_rangeCheck_59 : decode cJ21_rangeCheck 59 = .ok (.iload_n 2, 1) := dk_28 (dk_at dksJ21_rangeCheck_2 13 rfl rfl)
theorem dJ21_rangeCheck_60 : decode cJ21_rangeCheck 60 = .ok (.iload_n 0, 1) := dk_26 (dk_at dksJ21_rangeCheck_2 14 rfl rfl)
theorem dJ21_rangeCheck_61 : decode cJ21_rangeCheck 61 = .ok (.if_icmp .le 12, 3) := dk_164 0 12 (dk_at dksJ21_rangeCheck_2 15 rfl rfl)
theorem dJ21_rangeCheck_64 : decode cJ21_rangeCheck 64 = .ok (.new 68, 3) := dk_187 0 68 (dk_at dksJ21_rangeCheck_2 18 rfl rfl)
theorem dJ21_rangeCheck_67 : decode cJ21_rangeCheck 67 = .ok (.dup, 1) := dk_89 (dk_at dksJ21_rangeCheck_2 21 rfl rfl)
theorem dJ21_rangeCheck_68 : decode cJ21_rangeCheck 68 = .ok (.iload_n 2, 1) := dk_28 (dk_at dksJ21_rangeCheck_2 22 rfl rfl)
theorem dJ21_rangeCheck_69 : decode cJ21_rangeCheck 69 = .ok (.invokespecial 70, 3) := dk_183 0 70 (dk_at dksJ21_rangeCheck_3 0 rfl rfl)
theorem dJ21_rangeCheck_72 : decode cJ21_rangeCheck 72 = .ok (.athrow, 1) := dk_191 (dk_at dksJ21_rangeCheck_3 3 rfl rfl)
theorem dJ21_rangeCheck_73 : decode cJ21_rangeCheck 73 = .ok (.return_, 1) := dk_177 (dk_at dksJ21_rangeCheck_3 4 rfl rfl)
theorem q105 : (Jvm.Cond.initialized "java/util/Arrays") ∈ lw_all := lw_g (lw_at lw_m1 28 rfl) rfl
theorem q914 : (Jvm.Cond.static ({ cls := "java/util/Arrays", name := "copyOf", desc := "([Ljava/lang/Object;I)[Ljava/lang/Object;" } : Jvm.MethodName)) ∈ lw_all := lw_g (lw_at lw_m4 117 rfl) rfl
theorem q915 : (Jvm.Cond.code ({ cls := "java/util/Arrays", name := "copyOf", desc := "([Ljava/lang/Object;I)[Ljava/lang/Object;" } : Jvm.MethodName) prog_43_method_119_code (2 : Nat) (Option.some (Jvm.ClassFile.FieldType.array (Jvm.ClassFile.FieldType.object "java/lang/Object")))) ∈ lw_all := lw_g (lw_at lw_m4 118 rfl) rfl
theorem q916 : (Jvm.Cond.methodLink "java/util/Arrays" (86 : Nat) ({ cls := "java/lang/Object", name := "getClass", desc := "()Ljava/lang/Class;" } : Jvm.MethodName)) ∈ lw_all := lw_g (lw_at lw_m4 119 rfl) rfl
theorem q917 : (Jvm.Cond.methodLink "java/util/Arrays" (300 : Nat) ({ cls := "java/util/Arrays", name := "copyOf", desc := "([Ljava/lang/Object;ILjava/lang/Class;)[Ljava/lang/Object;" } : Jvm.MethodName)) ∈ lw_all := lw_g (lw_at lw_m4 120 rfl) rfl
theorem q918 : (Jvm.Cond.static ({ cls := "java/util/Arrays", name := "copyOf", desc := "([Ljava/lang/Object;ILjava/lang/Class;)[Ljava/lang/Object;" } : Jvm.MethodName)) ∈ lw_all := lw_g (lw_at lw_m4 121 rfl) rfl
theorem q919 : (Jvm.Cond.code ({ cls := "java/util/Arrays", name := "copyOf", desc := "([Ljava/lang/Object;ILjava/lang/Class;)[Ljava/lang/Object;" } : Jvm.MethodName) prog_43_method_120_code (4 : Nat) (Option.some (Jvm.ClassFile.FieldType.array (Jvm.ClassFile.FieldType.object "java/lang/Object")))) ∈ lw_all := lw_g (lw_at lw_m4 122 rfl) rfl
theorem q920 : (Jvm.Cond.classLink "java/util/Arrays" (110 : Nat) "[Ljava/lang/Object;") ∈ lw_all := lw_g (lw_at lw_m4 123 rfl) rfl
theorem q922 : (Jvm.Cond.classLink "java/util/Arrays" (2 : Nat) "java/lang/Object") ∈ lw_all := lw_g (lw_at lw_m4 125 rfl) rfl
theorem q923 : (Jvm.Cond.methodLink "java/util/Arrays" (304 : Nat) ({ cls := "java/lang/Math", name := "min", desc := "(II)I" } : Jvm.MethodName)) ∈ lw_all := lw_g (lw_at lw_m4 126 rfl) rfl
theorem q924 : (Jvm.Cond.methodLink "java/util/Arrays" (150 : Nat) ({ cls := "java/lang/System", name := "arraycopy", desc := "(Ljava/lang/Object;ILjava/lang/Object;II)V" } : Jvm.MethodName)) ∈ lw_all := lw_g (lw_at lw_m4 127 rfl) rfl
theorem q1676 : (Jvm.Cond.static ({ cls := "java/util/Arrays", name := "copyOf", desc := "([BI)[B" } : Jvm.MethodName)) ∈ lw_all := lw_g (lw_at lw_m7 159 rfl) rfl
theorem q1677 : (Jvm.Cond.code ({ cls := "java/util/Arrays", name := "copyOf", desc := "([BI)[B" } : Jvm.MethodName) prog_43_method_121_code (3 : Nat) (Option.some (Jvm.ClassFile.FieldType.array Jvm.ClassFile.FieldType.byte))) ∈ lw_all := lw_g (lw_at lw_m7 160 rfl) rfl
theorem q1678 : (Jvm.Cond.methodLink "java/util/Arrays" (310 : Nat) ({ cls := "[B", name := "clone", desc := "()Ljava/lang/Object;" } : Jvm.MethodName)) ∈ lw_all := lw_g (lw_at lw_m7 161 rfl) rfl
theorem q1684 : (Jvm.Cond.classLink "java/util/Arrays" (311 : Nat) "[B") ∈ lw_all := lw_g (lw_at lw_m7 167 rfl) rfl
theorem q1735 : (Jvm.Cond.static ({ cls := "java/util/Arrays", name := "fill", desc := "([BIIB)V" } : Jvm.MethodName)) ∈ lw_all := lw_g (lw_at lw_m7 218 rfl) rfl
theorem q1736 : (Jvm.Cond.code ({ cls := "java/util/Arrays", name := "fill", desc := "([BIIB)V" } : Jvm.MethodName) prog_43_method_110_code (5 : Nat) (Option.none : Option Jvm.ClassFile.FieldType)) ∈ lw_all := lw_g (lw_at lw_m7 219 rfl) rfl
theorem q1737 : (Jvm.Cond.methodLink "java/util/Arrays" (13 : Nat) ({ cls := "java/util/Arrays", name := "rangeCheck", desc := "(III)V" } : Jvm.MethodName)) ∈ lw_all := lw_g (lw_at lw_m7 220 rfl) rfl
theorem q1738 : (Jvm.Cond.static ({ cls := "java/util/Arrays", name := "rangeCheck", desc := "(III)V" } : Jvm.MethodName)) ∈ lw_all := lw_g (lw_at lw_m7 221 rfl) rfl
theorem q1739 : (Jvm.Cond.code ({ cls := "java/util/Arrays", name := "rangeCheck", desc := "(III)V" } : Jvm.MethodName) prog_43_method_30_code (3 : Nat) (Option.none : Option Jvm.ClassFile.FieldType)) ∈ lw_all := lw_g (lw_at lw_m7 222 rfl) rfl
/-! java/util/Objects -/
set_option maxRecDepth 100000
def RJ22 : String := "java/util/Objects"
abbrev cJ22_checkIndex : ByteArray := prog_54_method_17_code
def yJ22_checkIndex : MethodName := ⟨RJ22, "checkIndex", "(II)I"⟩
def dkwJ22_checkIndex_0 : List UInt8 := [26, 27, 1, 184, 0, 105, 172]
abbrev dktJ22_checkIndex_0 : List UInt8 := dkwJ22_checkIndex_0 ++ []
theorem dksJ22_checkIndex_0 : cJ22_checkIndex.data.toList.drop 0 = dktJ22_checkIndex_0 := by decide +kernel
theorem dJ22_checkIndex_0 : decode cJ22_checkIndex 0 = .ok (.iload_n 0, 1) := dk_26 (dk_at dksJ22_checkIndex_0 0 rfl rfl)
theorem dJ22_checkIndex_1 : decode cJ22_checkIndex 1 = .ok (.iload_n 1, 1) := dk_27 (dk_at dksJ22_checkIndex_0 1 rfl rfl)
theorem dJ22_checkIndex_2 : decode cJ22_checkIndex 2 = .ok (.aconst_null, 1) := dk_1 (dk_at dksJ22_checkIndex_0 2 rfl rfl)
theorem dJ22_checkIndex_3 : decode cJ22_checkIndex 3 = .ok (.invokestatic 105, 3) := dk_184 0 105 (dk_at dksJ22_checkIndex_0 3 rfl rfl)
theorem dJ22_checkIndex_6 : decode cJ22_checkIndex 6 = .ok (.ireturn, 1) := dk_172 (dk_at dksJ22_checkIndex_0 6 rfl rfl)
theorem q108 : (Jvm.Cond.initialized "java/util/Objects") ∈ lw_all := lw_g (lw_at lw_m1 31 rfl) rfl
theorem q1009 : (Jvm.Cond.static ({ cls := "java/util/Objects", name := "checkIndex", desc := "(II)I" } : Jvm.MethodName)) ∈ lw_all := lw_g (lw_at lw_m4 212 rfl) rfl
theorem q1010 : (Jvm.Cond.code ({ cls := "java/util/Objects", name := "checkIndex", desc := "(II)I" } : Jvm.MethodName) prog_54_method_17_code (2 : Nat) (Option.some Jvm.ClassFile.FieldType.int)) ∈ lw_all := lw_g (lw_at lw_m4 213 rfl) rfl
theorem q1011 : (Jvm.Cond.methodLink "java/util/Objects" (105 : Nat) ({ cls := "jdk/internal/util/Preconditions", name := "checkIndex", desc := "(IILjava/util/function/BiFunction;)I" } : Jvm.MethodName)) ∈ lw_all := lw_g (lw_at lw_m4 214 rfl) rfl
/-! java/lang/Throwable -/
set_option maxRecDepth 100000
def RJ23 : String := "java/lang/Throwable"
def TJ23 : u_T := fun k => match k with
  | 0 => ("java/lang/Throwable", "cause", "Ljava/lang/Throwable;", false)
  | 1 => ("java/lang/Throwable", "stackTrace", "[Ljava/lang/StackTraceElement;", false)
  | 2 => ("java/lang/Throwable", "suppressedExceptions", "Ljava/util/List;", false)
  | 3 => ("java/lang/Throwable", "detailMessage", "Ljava/lang/String;", false)
  | _ => ("java/lang/Throwable", "backtrace", "Ljava/lang/Object;", false)
def tyJ23 : Nat → FieldType := fun k => match k with
  | 0 => .object "java/lang/Throwable"
  | 1 => .array (.object "java/lang/StackTraceElement")
  | 2 => .object "java/util/List"
  | 3 => .object "java/lang/String"
  | _ => .object "java/lang/Object"
abbrev wsJ230 : List Cond := u_ws RJ23 TJ23 5
theorem nmJ23 : ∀ a, a < 5 → ∀ b, b < 5 → a ≠ b → (TJ23 a).2.1 ≠ (TJ23 b).2.1 := by decide +kernel
theorem tyJ23_ok : ∀ k, k < 5 → parseFieldDescriptor (TJ23 k).2.2.1 = some (tyJ23 k) := by decide +kernel
abbrev cJ23_init : ByteArray := prog_35_method_1_code
def yJ23_init : MethodName := ⟨RJ23, "<init>", "()V"⟩
def dkwJ23_init_1 : List UInt8 := [182, 0, 27, 87, 177]
abbrev dktJ23_init_1 : List UInt8 := dkwJ23_init_1 ++ []
def dkwJ23_init_0 : List UInt8 := [42, 183, 0, 1, 42, 42, 181, 0, 7, 42, 178, 0, 13, 181, 0, 17, 42, 178, 0, 20, 181, 0, 24, 42]
abbrev dktJ23_init_0 : List UInt8 := dkwJ23_init_0 ++ dktJ23_init_1
theorem dksJ23_init_0 : cJ23_init.data.toList.drop 0 = dktJ23_init_0 := by decide +kernel
theorem dksJ23_init_1 : cJ23_init.data.toList.drop 24 = dktJ23_init_1 := dk_seg dksJ23_init_0 24 rfl rfl
theorem dJ23_init_0 : decode cJ23_init 0 = .ok (.aload_n 0, 1) := dk_42 (dk_at dksJ23_init_0 0 rfl rfl)
theorem dJ23_init_1 : decode cJ23_init 1 = .ok (.invokespecial 1, 3) := dk_183 0 1 (dk_at dksJ23_init_0 1 rfl rfl)
theorem dJ23_init_4 : decode cJ23_init 4 = .ok (.aload_n 0, 1) := dk_42 (dk_at dksJ23_init_0 4 rfl rfl)
theorem dJ23_init_5 : decode cJ23_init 5 = .ok (.aload_n 0, 1) := dk_42 (dk_at dksJ23_init_0 5 rfl rfl)
theorem dJ23_init_6 : decode cJ23_init 6 = .ok (.putfield 7, 3) := dk_181 0 7 (dk_at dksJ23_init_0 6 rfl rfl)
theorem dJ23_init_9 : decode cJ23_init 9 = .ok (.aload_n 0, 1) := dk_42 (dk_at dksJ23_init_0 9 rfl rfl)
theorem dJ23_init_10 : decode cJ23_init 10 = .ok (.getstatic 13, 3) := dk_178 0 13 (dk_at dksJ23_init_0 10 rfl rfl)
theorem dJ23_init_13 : decode cJ23_init 13 = .ok (.putfield 17, 3) := dk_181 0 17 (dk_at dksJ23_init_0 13 rfl rfl)
theorem dJ23_init_16 : decode cJ23_init 16 = .ok (.aload_n 0, 1) := dk_42 (dk_at dksJ23_init_0 16 rfl rfl)
theorem dJ23_init_17 : decode cJ23_init 17 = .ok (.getstatic 20, 3) := dk_178 0 20 (dk_at dksJ23_init_0 17 rfl rfl)
theorem dJ23_init_20 : decode cJ23_init 20 = .ok (.putfield 24, 3) := dk_181 0 24 (dk_at dksJ23_init_0 20 rfl rfl)
theorem dJ23_init_23 : decode cJ23_init 23 = .ok (.aload_n 0, 1) := dk_42 (dk_at dksJ23_init_0 23 rfl rfl)
theorem dJ23_init_24 : decode cJ23_init 24 = .ok (.invokevirtual 27, 3) := dk_182 0 27 (dk_at dksJ23_init_1 0 rfl rfl)
theorem dJ23_init_27 : decode cJ23_init 27 = .ok (.pop, 1) := dk_87 (dk_at dksJ23_init_1 3 rfl rfl)
theorem dJ23_init_28 : decode cJ23_init 28 = .ok (.return_, 1) := dk_177 (dk_at dksJ23_init_1 4 rfl rfl)
theorem q113 : (Jvm.Cond.initialized "java/lang/Throwable") ∈ lw_all := lw_g (lw_at lw_m1 36 rfl) rfl
theorem q1318 : (Jvm.Cond.declares ({ cls := "java/lang/Throwable", name := "<init>", desc := "()V" } : Jvm.MethodName)) ∈ lw_tbl := lw_at lw_m6 41 rfl
theorem q1319 : (Jvm.Cond.declares ({ cls := "java/lang/Throwable", name := "<init>", desc := "(Ljava/lang/String;)V" } : Jvm.MethodName)) ∈ lw_tbl := lw_at lw_m6 42 rfl
theorem q1323 : (Jvm.Cond.lays "java/lang/Throwable" "java/lang/Throwable" "cause" "Ljava/lang/Throwable;") ∈ lw_all := lw_g (lw_at lw_m6 46 rfl) rfl
theorem q1325 : (Jvm.Cond.lays "java/lang/Throwable" "java/lang/Throwable" "stackTrace" "[Ljava/lang/StackTraceElement;") ∈ lw_all := lw_g (lw_at lw_m6 48 rfl) rfl
theorem q1327 : (Jvm.Cond.lays "java/lang/Throwable" "java/lang/Throwable" "suppressedExceptions" "Ljava/util/List;") ∈ lw_all := lw_g (lw_at lw_m6 50 rfl) rfl
theorem q1329 : (Jvm.Cond.lays "java/lang/Throwable" "java/lang/Throwable" "detailMessage" "Ljava/lang/String;") ∈ lw_all := lw_g (lw_at lw_m6 52 rfl) rfl
theorem q1331 : (Jvm.Cond.lays "java/lang/Throwable" "java/lang/Throwable" "backtrace" "Ljava/lang/Object;") ∈ lw_all := lw_g (lw_at lw_m6 54 rfl) rfl
theorem q1332 : (Jvm.Cond.fieldLink "java/lang/Throwable" (198 : Nat) "java/lang/Throwable" "backtrace" "Ljava/lang/Object;") ∈ lw_all := lw_g (lw_at lw_m6 55 rfl) rfl
theorem q1333 : (Jvm.Cond.superclass "java/lang/Throwable" "java/lang/Object") ∈ lw_all := lw_g (lw_at lw_m6 56 rfl) rfl
theorem q1334 : (Jvm.Cond.instanceMethod ({ cls := "java/lang/Throwable", name := "<init>", desc := "()V" } : Jvm.MethodName)) ∈ lw_all := lw_g (lw_at lw_m6 57 rfl) rfl
theorem q1335 : (Jvm.Cond.code ({ cls := "java/lang/Throwable", name := "<init>", desc := "()V" } : Jvm.MethodName) prog_35_method_1_code (1 : Nat) (Option.none : Option Jvm.ClassFile.FieldType)) ∈ lw_all := lw_g (lw_at lw_m6 58 rfl) rfl
theorem q1336 : (Jvm.Cond.methodLink "java/lang/Throwable" (1 : Nat) ({ cls := "java/lang/Object", name := "<init>", desc := "()V" } : Jvm.MethodName)) ∈ lw_all := lw_g (lw_at lw_m6 59 rfl) rfl
theorem q1337 : (Jvm.Cond.fieldLink "java/lang/Throwable" (13 : Nat) "java/lang/Throwable" "UNASSIGNED_STACK" "[Ljava/lang/StackTraceElement;") ∈ lw_all := lw_g (lw_at lw_m6 60 rfl) rfl
theorem q1338 : (Jvm.Cond.laysStatic "java/lang/Throwable" "UNASSIGNED_STACK" "[Ljava/lang/StackTraceElement;") ∈ lw_tbl := lw_at lw_m6 61 rfl
theorem q1339 : (Jvm.Cond.fieldLink "java/lang/Throwable" (20 : Nat) "java/lang/Throwable" "SUPPRESSED_SENTINEL" "Ljava/util/List;") ∈ lw_all := lw_g (lw_at lw_m6 62 rfl) rfl
theorem q1340 : (Jvm.Cond.laysStatic "java/lang/Throwable" "SUPPRESSED_SENTINEL" "Ljava/util/List;") ∈ lw_tbl := lw_at lw_m6 63 rfl
theorem q1341 : (Jvm.Cond.methodLink "java/lang/Throwable" (27 : Nat) ({ cls := "java/lang/Throwable", name := "fillInStackTrace", desc := "()Ljava/lang/Throwable;" } : Jvm.MethodName)) ∈ lw_all := lw_g (lw_at lw_m6 64 rfl) rfl
theorem q1342 : (Jvm.Cond.instanceMethod ({ cls := "java/lang/Throwable", name := "fillInStackTrace", desc := "()Ljava/lang/Throwable;" } : Jvm.MethodName)) ∈ lw_all := lw_g (lw_at lw_m6 65 rfl) rfl
theorem q1343 : (Jvm.Cond.sameMethod "java/lang/Throwable" "java/lang/Throwable" "fillInStackTrace" "()Ljava/lang/Throwable;") ∈ lw_all := lw_g (lw_at lw_m6 66 rfl) rfl
theorem q1345 : (Jvm.Cond.codeSync ({ cls := "java/lang/Throwable", name := "fillInStackTrace", desc := "()Ljava/lang/Throwable;" } : Jvm.MethodName) prog_35_method_18_code (1 : Nat) (Option.some (Jvm.ClassFile.FieldType.object "java/lang/Throwable"))) ∈ lw_all := lw_g (lw_at lw_m6 68 rfl) rfl
theorem q1346 : (Jvm.Cond.methodLink "java/lang/Throwable" (202 : Nat) ({ cls := "java/lang/Throwable", name := "fillInStackTrace", desc := "(I)Ljava/lang/Throwable;" } : Jvm.MethodName)) ∈ lw_all := lw_g (lw_at lw_m6 69 rfl) rfl
theorem q1347 : (Jvm.Cond.privateMethod ({ cls := "java/lang/Throwable", name := "fillInStackTrace", desc := "(I)Ljava/lang/Throwable;" } : Jvm.MethodName)) ∈ lw_tbl := lw_at lw_m6 70 rfl
theorem q1348 : (Jvm.Cond.instanceMethod ({ cls := "java/lang/Throwable", name := "fillInStackTrace", desc := "(I)Ljava/lang/Throwable;" } : Jvm.MethodName)) ∈ lw_all := lw_g (lw_at lw_m6 71 rfl) rfl
theorem q1349 : (Jvm.Cond.instantiable "java/lang/Throwable" (6 : Nat)) ∈ lw_all := lw_g (lw_at lw_m6 72 rfl) rfl
theorem q1350 : (Jvm.Cond.native ({ cls := "java/lang/Throwable", name := "fillInStackTrace", desc := "(I)Ljava/lang/Throwable;" } : Jvm.MethodName)) ∈ lw_all := lw_g (lw_at lw_m6 73 rfl) rfl
theorem q1360 : (Jvm.Cond.fieldLink "java/lang/Throwable" (198 : Nat) "java/lang/Throwable" "backtrace" "Ljava/lang/Object;") ∈ lw_all := lw_g (lw_at lw_m6 83 rfl) rfl
theorem q1361 : (Jvm.Cond.fieldLink "java/lang/Throwable" (7 : Nat) "java/lang/Throwable" "cause" "Ljava/lang/Throwable;") ∈ lw_all := lw_g (lw_at lw_m6 84 rfl) rfl
theorem q1362 : (Jvm.Cond.fieldLink "java/lang/Throwable" (17 : Nat) "java/lang/Throwable" "stackTrace" "[Ljava/lang/StackTraceElement;") ∈ lw_all := lw_g (lw_at lw_m6 85 rfl) rfl
theorem q1363 : (Jvm.Cond.fieldLink "java/lang/Throwable" (24 : Nat) "java/lang/Throwable" "suppressedExceptions" "Ljava/util/List;") ∈ lw_all := lw_g (lw_at lw_m6 86 rfl) rfl
theorem q1366 : (Jvm.Cond.soleField "java/lang/Throwable" "backtrace") ∈ lw_all := lw_g (lw_at lw_m6 89 rfl) rfl
theorem q1367 : (Jvm.Cond.soleField "java/lang/Throwable" "detailMessage") ∈ lw_all := lw_g (lw_at lw_m6 90 rfl) rfl
theorem q1368 : (Jvm.Cond.soleField "java/lang/Throwable" "cause") ∈ lw_all := lw_g (lw_at lw_m6 91 rfl) rfl
theorem q1369 : (Jvm.Cond.soleField "java/lang/Throwable" "stackTrace") ∈ lw_all := lw_g (lw_at lw_m6 92 rfl) rfl
theorem q1371 : (Jvm.Cond.soleField "java/lang/Throwable" "depth") ∈ lw_all := lw_g (lw_at lw_m6 94 rfl) rfl
theorem q1372 : (Jvm.Cond.soleField "java/lang/Throwable" "suppressedExceptions") ∈ lw_all := lw_g (lw_at lw_m6 95 rfl) rfl
theorem q2273 : (Jvm.Cond.sameMethod "java/lang/Throwable" "java/lang/Throwable" "fillInStackTrace" "(I)Ljava/lang/Throwable;") ∈ lw_all := lw_g (lw_at lw_m10 36 rfl) rfl
theorem q2309 : (Jvm.Cond.castable "java/lang/Throwable" "java/lang/Object") ∈ lw_tbl := lw_at lw_m10 72 rfl
theorem in_J23 : ∀ w ∈ wsJ230, w ∈ lw_all := lw_in wsJ230 [1323, 1325, 1327, 1329, 1331] (by decide +kernel) (by decide +kernel)
/-! java/lang/Exception -/
set_option maxRecDepth 100000
def RJ24 : String := "java/lang/Exception"
abbrev cJ24_init : ByteArray := prog_23_method_1_code
def yJ24_init : MethodName := ⟨RJ24, "<init>", "()V"⟩
theorem dJ24_init_0 : decode cJ24_init 0 = .ok (.aload_n 0, 1) := by decide +kernel
theorem dJ24_init_1 : decode cJ24_init 1 = .ok (.invokespecial 1, 3) := by decide +kernel
theorem dJ24_init_4 : decode cJ24_init 4 = .ok (.return_, 1) := by decide +kernel
theorem q114 : (Jvm.Cond.initialized "java/lang/Exception") ∈ lw_all := lw_g (lw_at lw_m1 37 rfl) rfl
theorem q1316 : (Jvm.Cond.declares ({ cls := "java/lang/Exception", name := "<init>", desc := "()V" } : Jvm.MethodName)) ∈ lw_tbl := lw_at lw_m6 39 rfl
theorem q1317 : (Jvm.Cond.declares ({ cls := "java/lang/Exception", name := "<init>", desc := "(Ljava/lang/String;)V" } : Jvm.MethodName)) ∈ lw_tbl := lw_at lw_m6 40 rfl
theorem q1355 : (Jvm.Cond.instanceMethod ({ cls := "java/lang/Exception", name := "<init>", desc := "()V" } : Jvm.MethodName)) ∈ lw_all := lw_g (lw_at lw_m6 78 rfl) rfl
theorem q1356 : (Jvm.Cond.code ({ cls := "java/lang/Exception", name := "<init>", desc := "()V" } : Jvm.MethodName) prog_23_method_1_code (1 : Nat) (Option.none : Option Jvm.ClassFile.FieldType)) ∈ lw_all := lw_g (lw_at lw_m6 79 rfl) rfl
theorem q1357 : (Jvm.Cond.methodLink "java/lang/Exception" (1 : Nat) ({ cls := "java/lang/Throwable", name := "<init>", desc := "()V" } : Jvm.MethodName)) ∈ lw_all := lw_g (lw_at lw_m6 80 rfl) rfl
/-! java/util/AbstractSet -/
set_option maxRecDepth 100000
def RJ25 : String := "java/util/AbstractSet"
abbrev cJ25_init : ByteArray := prog_41_method_1_code
def yJ25_init : MethodName := ⟨RJ25, "<init>", "()V"⟩
theorem dJ25_init_0 : decode cJ25_init 0 = .ok (.aload_n 0, 1) := by decide +kernel
theorem dJ25_init_1 : decode cJ25_init 1 = .ok (.invokespecial 1, 3) := by decide +kernel
theorem dJ25_init_4 : decode cJ25_init 4 = .ok (.return_, 1) := by decide +kernel
theorem q116 : (Jvm.Cond.initialized "java/util/AbstractSet") ∈ lw_all := lw_g (lw_at lw_m1 39 rfl) rfl
theorem q1498 : (Jvm.Cond.instanceMethod ({ cls := "java/util/AbstractSet", name := "<init>", desc := "()V" } : Jvm.MethodName)) ∈ lw_all := lw_g (lw_at lw_m6 221 rfl) rfl
theorem q1499 : (Jvm.Cond.code ({ cls := "java/util/AbstractSet", name := "<init>", desc := "()V" } : Jvm.MethodName) prog_41_method_1_code (1 : Nat) (Option.none : Option Jvm.ClassFile.FieldType)) ∈ lw_all := lw_g (lw_at lw_m6 222 rfl) rfl
theorem q1500 : (Jvm.Cond.methodLink "java/util/AbstractSet" (1 : Nat) ({ cls := "java/util/AbstractCollection", name := "<init>", desc := "()V" } : Jvm.MethodName)) ∈ lw_all := lw_g (lw_at lw_m6 223 rfl) rfl
/-! java/util/HashSet -/
set_option maxRecDepth 100000
def RJ26 : String := "java/util/HashSet"
def TJ26 : u_T := fun k => match k with
  | _ => ("java/util/HashSet", "map", "Ljava/util/HashMap;", false)
def tyJ26 : Nat → FieldType := fun k => match k with
  | _ => .object "java/util/HashMap"
abbrev wsJ260 : List Cond := u_ws RJ26 TJ26 1
theorem nmJ26 : ∀ a, a < 1 → ∀ b, b < 1 → a ≠ b → (TJ26 a).2.1 ≠ (TJ26 b).2.1 := by decide +kernel
theorem tyJ26_ok : ∀ k, k < 1 → parseFieldDescriptor (TJ26 k).2.2.1 = some (tyJ26 k) := by decide +kernel
abbrev cJ26_init : ByteArray := prog_48_method_1_code
def yJ26_init : MethodName := ⟨RJ26, "<init>", "()V"⟩
def dkwJ26_init_0 : List UInt8 := [42, 183, 0, 1, 42, 187, 0, 7, 89, 183, 0, 9, 181, 0, 10, 177]
abbrev dktJ26_init_0 : List UInt8 := dkwJ26_init_0 ++ []
theorem dksJ26_init_0 : cJ26_init.data.toList.drop 0 = dktJ26_init_0 := by decide +kernel
theorem dJ26_init_0 : decode cJ26_init 0 = .ok (.aload_n 0, 1) := dk_42 (dk_at dksJ26_init_0 0 rfl rfl)
theorem dJ26_init_1 : decode cJ26_init 1 = .ok (.invokespecial 1, 3) := dk_183 0 1 (dk_at dksJ26_init_0 1 rfl rfl)
theorem dJ26_init_4 : decode cJ26_init 4 = .ok (.aload_n 0, 1) := dk_42 (dk_at dksJ26_init_0 4 rfl rfl)
theorem dJ26_init_5 : decode cJ26_init 5 = .ok (.new 7, 3) := dk_187 0 7 (dk_at dksJ26_init_0 5 rfl rfl)
theorem dJ26_init_8 : decode cJ26_init 8 = .ok (.dup, 1) := dk_89 (dk_at dksJ26_init_0 8 rfl rfl)
theorem dJ26_init_9 : decode cJ26_init 9 = .ok (.invokespecial 9, 3) := dk_183 0 9 (dk_at dksJ26_init_0 9 rfl rfl)
theorem dJ26_init_12 : decode cJ26_init 12 = .ok (.putfield 10, 3) := dk_181 0 10 (dk_at dksJ26_init_0 12 rfl rfl)
theorem dJ26_init_15 : decode cJ26_init 15 = .ok (.return_, 1) := dk_177 (dk_at dksJ26_init_0 15 rfl rfl)
abbrev cJ26_add : ByteArray := prog_48_method_10_code
def yJ26_add : MethodName := ⟨RJ26, "add", "(Ljava/lang/Object;)Z"⟩
def dkwJ26_add_0 : List UInt8 := [42, 180, 0, 10, 43, 178, 0, 64, 182, 0, 68, 199, 0, 7, 4, 167, 0, 4, 3, 172]
abbrev dktJ26_add_0 : List UInt8 := dkwJ26_add_0 ++ []
theorem dksJ26_add_0 : cJ26_add.data.toList.drop 0 = dktJ26_add_0 := by decide +kernel
theorem dJ26_add_0 : decode cJ26_add 0 = .ok (.aload_n 0, 1) := dk_42 (dk_at dksJ26_add_0 0 rfl rfl)
theorem dJ26_add_1 : decode cJ26_add 1 = .ok (.getfield 10, 3) := dk_180 0 10 (dk_at dksJ26_add_0 1 rfl rfl)
theorem dJ26_add_4 : decode cJ26_add 4 = .ok (.aload_n 1, 1) := dk_43 (dk_at dksJ26_add_0 4 rfl rfl)
theorem dJ26_add_5 : decode cJ26_add 5 = .ok (.getstatic 64, 3) := dk_178 0 64 (dk_at dksJ26_add_0 5 rfl rfl)
theorem dJ26_add_8 : decode cJ26_add 8 = .ok (.invokevirtual 68, 3) := dk_182 0 68 (dk_at dksJ26_add_0 8 rfl rfl)
theorem dJ26_add_11 : decode cJ26_add 11 = .ok (.ifnonnull 7, 3) := dk_199 0 7 (dk_at dksJ26_add_0 11 rfl rfl)
theorem dJ26_add_14 : decode cJ26_add 14 = .ok (.iconst 1, 1) := dk_4 (dk_at dksJ26_add_0 14 rfl rfl)
theorem dJ26_add_15 : decode cJ26_add 15 = .ok (.goto 4, 3) := dk_167 0 4 (dk_at dksJ26_add_0 15 rfl rfl)
theorem dJ26_add_18 : decode cJ26_add 18 = .ok (.iconst 0, 1) := dk_3 (dk_at dksJ26_add_0 18 rfl rfl)
theorem dJ26_add_19 : decode cJ26_add 19 = .ok (.ireturn, 1) := dk_172 (dk_at dksJ26_add_0 19 rfl rfl)
theorem q117 : (Jvm.Cond.initialized "java/util/HashSet") ∈ lw_all := lw_g (lw_at lw_m1 40 rfl) rfl
theorem q434 : (Jvm.Cond.selects "java/util/HashSet" ({ cls := "java/lang/Object", name := "getClass", desc := "()Ljava/lang/Class;" } : Jvm.MethodName) ({ cls := "java/lang/Object", name := "getClass", desc := "()Ljava/lang/Class;" } : Jvm.MethodName)) ∈ lw_all := lw_g (lw_at lw_m2 117 rfl) rfl
theorem q1493 : (Jvm.Cond.instantiable "java/util/HashSet" (1 : Nat)) ∈ lw_all := lw_g (lw_at lw_m6 216 rfl) rfl
theorem q1495 : (Jvm.Cond.instanceMethod ({ cls := "java/util/HashSet", name := "<init>", desc := "()V" } : Jvm.MethodName)) ∈ lw_all := lw_g (lw_at lw_m6 218 rfl) rfl
theorem q1496 : (Jvm.Cond.code ({ cls := "java/util/HashSet", name := "<init>", desc := "()V" } : Jvm.MethodName) prog_48_method_1_code (1 : Nat) (Option.none : Option Jvm.ClassFile.FieldType)) ∈ lw_all := lw_g (lw_at lw_m6 219 rfl) rfl
theorem q1497 : (Jvm.Cond.methodLink "java/util/HashSet" (1 : Nat) ({ cls := "java/util/AbstractSet", name := "<init>", desc := "()V" } : Jvm.MethodName)) ∈ lw_all := lw_g (lw_at lw_m6 220 rfl) rfl
theorem q1501 : (Jvm.Cond.classLink "java/util/HashSet" (7 : Nat) "java/util/HashMap") ∈ lw_all := lw_g (lw_at lw_m6 224 rfl) rfl
theorem q1503 : (Jvm.Cond.methodLink "java/util/HashSet" (9 : Nat) ({ cls := "java/util/HashMap", name := "<init>", desc := "()V" } : Jvm.MethodName)) ∈ lw_all := lw_g (lw_at lw_m6 226 rfl) rfl
theorem q1513 : (Jvm.Cond.fieldLink "java/util/HashSet" (10 : Nat) "java/util/HashSet" "map" "Ljava/util/HashMap;") ∈ lw_all := lw_g (lw_at lw_m6 236 rfl) rfl
theorem q1514 : (Jvm.Cond.lays "java/util/HashSet" "java/util/HashSet" "map" "Ljava/util/HashMap;") ∈ lw_all := lw_g (lw_at lw_m6 237 rfl) rfl
theorem q1515 : (Jvm.Cond.soleField "java/util/HashSet" "map") ∈ lw_all := lw_g (lw_at lw_m6 238 rfl) rfl
theorem q1516 : (Jvm.Cond.superclass "java/util/HashSet" "java/util/AbstractSet") ∈ lw_all := lw_g (lw_at lw_m6 239 rfl) rfl
theorem q1531 : (Jvm.Cond.castable "java/util/HashSet" "java/util/Set") ∈ lw_tbl := lw_at lw_m7 14 rfl
theorem q1532 : (Jvm.Cond.selects "java/util/HashSet" ({ cls := "java/util/Set", name := "add", desc := "(Ljava/lang/Object;)Z" } : Jvm.MethodName) ({ cls := "java/util/HashSet", name := "add", desc := "(Ljava/lang/Object;)Z" } : Jvm.MethodName)) ∈ lw_all := lw_g (lw_at lw_m7 15 rfl) rfl
theorem q1533 : (Jvm.Cond.unhidden "java/util/HashSet" "add" "(Ljava/lang/Object;)Z") ∈ lw_tbl := lw_at lw_m7 16 rfl
theorem q1534 : (Jvm.Cond.instanceMethod ({ cls := "java/util/HashSet", name := "add", desc := "(Ljava/lang/Object;)Z" } : Jvm.MethodName)) ∈ lw_all := lw_g (lw_at lw_m7 17 rfl) rfl
theorem q1535 : (Jvm.Cond.publicMethod ({ cls := "java/util/HashSet", name := "add", desc := "(Ljava/lang/Object;)Z" } : Jvm.MethodName)) ∈ lw_tbl := lw_at lw_m7 18 rfl
theorem q1536 : (Jvm.Cond.code ({ cls := "java/util/HashSet", name := "add", desc := "(Ljava/lang/Object;)Z" } : Jvm.MethodName) prog_48_method_10_code (2 : Nat) (Option.some Jvm.ClassFile.FieldType.boolean)) ∈ lw_all := lw_g (lw_at lw_m7 19 rfl) rfl
theorem q1537 : (Jvm.Cond.fieldLink "java/util/HashSet" (64 : Nat) "java/util/HashSet" "PRESENT" "Ljava/lang/Object;") ∈ lw_all := lw_g (lw_at lw_m7 20 rfl) rfl
theorem q1538 : (Jvm.Cond.laysStatic "java/util/HashSet" "PRESENT" "Ljava/lang/Object;") ∈ lw_tbl := lw_at lw_m7 21 rfl
theorem q1539 : (Jvm.Cond.methodLink "java/util/HashSet" (68 : Nat) ({ cls := "java/util/HashMap", name := "put", desc := "(Ljava/lang/Object;Ljava/lang/Object;)Ljava/lang/Object;" } : Jvm.MethodName)) ∈ lw_all := lw_g (lw_at lw_m7 22 rfl) rfl
theorem q2304 : (Jvm.Cond.castable "java/util/HashSet" "java/lang/Object") ∈ lw_tbl := lw_at lw_m10 67 rfl
theorem in_J26 : ∀ w ∈ wsJ260, w ∈ lw_all := lw_in wsJ260 [1514] (by decide +kernel) (by decide +kernel)
/-! java/lang/Object -/
set_option maxRecDepth 100000
def RJ27 : String := "java/lang/Object"
abbrev cJ27_init : ByteArray := object_method_1_code
def yJ27_init : MethodName := ⟨RJ27, "<init>", "()V"⟩
theorem dJ27_init_0 : decode cJ27_init 0 = .ok (.return_, 1) := by decide +kernel
abbrev cJ27_equals : ByteArray := object_method_4_code
def yJ27_equals : MethodName := ⟨RJ27, "equals", "(Ljava/lang/Object;)Z"⟩
def dkwJ27_equals_0 : List UInt8 := [42, 43, 166, 0, 7, 4, 167, 0, 4, 3, 172]
abbrev dktJ27_equals_0 : List UInt8 := dkwJ27_equals_0 ++ []
theorem dksJ27_equals_0 : cJ27_equals.data.toList.drop 0 = dktJ27_equals_0 := by decide +kernel
theorem dJ27_equals_0 : decode cJ27_equals 0 = .ok (.aload_n 0, 1) := dk_42 (dk_at dksJ27_equals_0 0 rfl rfl)
theorem dJ27_equals_1 : decode cJ27_equals 1 = .ok (.aload_n 1, 1) := dk_43 (dk_at dksJ27_equals_0 1 rfl rfl)
theorem dJ27_equals_2 : decode cJ27_equals 2 = .ok (.if_acmp .ne 7, 3) := dk_166 0 7 (dk_at dksJ27_equals_0 2 rfl rfl)
theorem dJ27_equals_5 : decode cJ27_equals 5 = .ok (.iconst 1, 1) := dk_4 (dk_at dksJ27_equals_0 5 rfl rfl)
theorem dJ27_equals_6 : decode cJ27_equals 6 = .ok (.goto 4, 3) := dk_167 0 4 (dk_at dksJ27_equals_0 6 rfl rfl)
theorem dJ27_equals_9 : decode cJ27_equals 9 = .ok (.iconst 0, 1) := dk_3 (dk_at dksJ27_equals_0 9 rfl rfl)
theorem dJ27_equals_10 : decode cJ27_equals 10 = .ok (.ireturn, 1) := dk_172 (dk_at dksJ27_equals_0 10 rfl rfl)
theorem q127 : (Jvm.Cond.instanceMethod ({ cls := "java/lang/Object", name := "<init>", desc := "()V" } : Jvm.MethodName)) ∈ lw_all := lw_g (lw_at lw_m1 50 rfl) rfl
theorem q128 : (Jvm.Cond.code ({ cls := "java/lang/Object", name := "<init>", desc := "()V" } : Jvm.MethodName) object_method_1_code (1 : Nat) (Option.none : Option Jvm.ClassFile.FieldType)) ∈ lw_all := lw_g (lw_at lw_m1 51 rfl) rfl
theorem q330 : (Jvm.Cond.declares ({ cls := "java/lang/Object", name := "hashCode", desc := "()I" } : Jvm.MethodName)) ∈ lw_tbl := lw_at lw_m2 13 rfl
theorem q332 : (Jvm.Cond.instanceMethod ({ cls := "java/lang/Object", name := "hashCode", desc := "()I" } : Jvm.MethodName)) ∈ lw_all := lw_g (lw_at lw_m2 15 rfl) rfl
theorem q333 : (Jvm.Cond.sameMethod "java/lang/Object" "java/lang/Object" "hashCode" "()I") ∈ lw_all := lw_g (lw_at lw_m2 16 rfl) rfl
theorem q359 : (Jvm.Cond.native ({ cls := "java/lang/Object", name := "hashCode", desc := "()I" } : Jvm.MethodName)) ∈ lw_all := lw_g (lw_at lw_m2 42 rfl) rfl
theorem q360 : (Jvm.Cond.declares ({ cls := "java/lang/Object", name := "equals", desc := "(Ljava/lang/Object;)Z" } : Jvm.MethodName)) ∈ lw_tbl := lw_at lw_m2 43 rfl
theorem q362 : (Jvm.Cond.instanceMethod ({ cls := "java/lang/Object", name := "equals", desc := "(Ljava/lang/Object;)Z" } : Jvm.MethodName)) ∈ lw_all := lw_g (lw_at lw_m2 45 rfl) rfl
theorem q363 : (Jvm.Cond.sameMethod "java/lang/Object" "java/lang/Object" "equals" "(Ljava/lang/Object;)Z") ∈ lw_all := lw_g (lw_at lw_m2 46 rfl) rfl
theorem q393 : (Jvm.Cond.code ({ cls := "java/lang/Object", name := "equals", desc := "(Ljava/lang/Object;)Z" } : Jvm.MethodName) object_method_4_code (2 : Nat) (Option.some Jvm.ClassFile.FieldType.boolean)) ∈ lw_all := lw_g (lw_at lw_m2 76 rfl) rfl
theorem q413 : (Jvm.Cond.instanceMethod ({ cls := "java/lang/Object", name := "getClass", desc := "()Ljava/lang/Class;" } : Jvm.MethodName)) ∈ lw_all := lw_g (lw_at lw_m2 96 rfl) rfl
theorem q414 : (Jvm.Cond.sameMethod "java/lang/Object" "java/lang/Object" "getClass" "()Ljava/lang/Class;") ∈ lw_all := lw_g (lw_at lw_m2 97 rfl) rfl
theorem q438 : (Jvm.Cond.native ({ cls := "java/lang/Object", name := "getClass", desc := "()Ljava/lang/Class;" } : Jvm.MethodName)) ∈ lw_all := lw_g (lw_at lw_m2 121 rfl) rfl
theorem q1680 : (Jvm.Cond.native ({ cls := "java/lang/Object", name := "clone", desc := "()Ljava/lang/Object;" } : Jvm.MethodName)) ∈ lw_all := lw_g (lw_at lw_m7 163 rfl) rfl
theorem q1681 : (Jvm.Cond.instanceMethod ({ cls := "java/lang/Object", name := "clone", desc := "()Ljava/lang/Object;" } : Jvm.MethodName)) ∈ lw_all := lw_g (lw_at lw_m7 164 rfl) rfl
theorem q2284 : (Jvm.Cond.initialized "java/lang/Object") ∈ lw_all := lw_g (lw_at lw_m10 47 rfl) rfl
theorem q2314 : (Jvm.Cond.declares ({ cls := "java/lang/Object", name := "getClass", desc := "()Ljava/lang/Class;" } : Jvm.MethodName)) ∈ lw_tbl := lw_at lw_m10 77 rfl
theorem q2320 : (Jvm.Cond.instantiable "java/lang/Object" (0 : Nat)) ∈ lw_all := lw_g (lw_at lw_m10 83 rfl) rfl
theorem q77 : (Jvm.Cond.initialized "PatrolDeskLaw") ∈ lw_all := lw_g (lw_at lw_m1 0 rfl) rfl
set_option maxRecDepth 100000
theorem q121 : (Jvm.Cond.classLink "PatrolDeskLaw" (7 : Nat) "PatrolDesk") ∈ lw_all := lw_g (lw_at lw_m1 44 rfl) rfl
theorem q123 : (Jvm.Cond.methodLink "PatrolDeskLaw" (9 : Nat) ({ cls := "PatrolDesk", name := "<init>", desc := "()V" } : Jvm.MethodName)) ∈ lw_all := lw_g (lw_at lw_m1 46 rfl) rfl
theorem q961 : (Jvm.Cond.methodLink "PatrolDeskLaw" (13 : Nat) ({ cls := "PatrolDesk", name := "addRoad", desc := "(III)I" } : Jvm.MethodName)) ∈ lw_all := lw_g (lw_at lw_m4 164 rfl) rfl
theorem q1276 : (Jvm.Cond.methodLink "PatrolDeskLaw" (18 : Nat) ({ cls := "PatrolDesk", name := "addMember", desc := "(I)I" } : Jvm.MethodName)) ∈ lw_all := lw_g (lw_at lw_m5 239 rfl) rfl
theorem q1282 : (Jvm.Cond.methodLink "PatrolDeskLaw" (23 : Nat) ({ cls := "PatrolDesk", name := "addPatrol", desc := "(IIZ)I" } : Jvm.MethodName)) ∈ lw_all := lw_g (lw_at lw_m6 5 rfl) rfl
theorem q1288 : (Jvm.Cond.methodLink "PatrolDeskLaw" (28 : Nat) ({ cls := "PatrolDesk", name := "addGarage", desc := "(II)I" } : Jvm.MethodName)) ∈ lw_all := lw_g (lw_at lw_m6 11 rfl) rfl
theorem q1294 : (Jvm.Cond.methodLink "PatrolDeskLaw" (33 : Nat) ({ cls := "PatrolDesk", name := "setPromise", desc := "(II)I" } : Jvm.MethodName)) ∈ lw_all := lw_g (lw_at lw_m6 17 rfl) rfl
theorem q1298 : (Jvm.Cond.methodLink "PatrolDeskLaw" (37 : Nat) ({ cls := "PatrolDesk", name := "setWeather", desc := "(I)I" } : Jvm.MethodName)) ∈ lw_all := lw_g (lw_at lw_m6 21 rfl) rfl
theorem q1302 : (Jvm.Cond.methodLink "PatrolDeskLaw" (41 : Nat) ({ cls := "PatrolDesk", name := "call", desc := "(III)I" } : Jvm.MethodName)) ∈ lw_all := lw_g (lw_at lw_m6 25 rfl) rfl
theorem q1391 : (Jvm.Cond.methodLink "PatrolDeskLaw" (45 : Nat) ({ cls := "PatrolDesk", name := "cancel", desc := "(I)I" } : Jvm.MethodName)) ∈ lw_all := lw_g (lw_at lw_m6 114 rfl) rfl
theorem q1414 : (Jvm.Cond.methodLink "PatrolDeskLaw" (49 : Nat) ({ cls := "PatrolDesk", name := "duty", desc := "(IZ)I" } : Jvm.MethodName)) ∈ lw_all := lw_g (lw_at lw_m6 137 rfl) rfl
theorem q1431 : (Jvm.Cond.methodLink "PatrolDeskLaw" (54 : Nat) ({ cls := "PatrolDesk", name := "goHome", desc := "(I)I" } : Jvm.MethodName)) ∈ lw_all := lw_g (lw_at lw_m6 154 rfl) rfl
theorem q1439 : (Jvm.Cond.methodLink "PatrolDeskLaw" (58 : Nat) ({ cls := "PatrolDesk", name := "fetch", desc := "(II)I" } : Jvm.MethodName)) ∈ lw_all := lw_g (lw_at lw_m6 162 rfl) rfl
theorem q1447 : (Jvm.Cond.methodLink "PatrolDeskLaw" (62 : Nat) ({ cls := "PatrolDesk", name := "pass", desc := "(I)I" } : Jvm.MethodName)) ∈ lw_all := lw_g (lw_at lw_m6 170 rfl) rfl
theorem q1647 : (Jvm.Cond.methodLink "PatrolDeskLaw" (66 : Nat) ({ cls := "PatrolDesk", name := "type", desc := "(C)I" } : Jvm.MethodName)) ∈ lw_all := lw_g (lw_at lw_m7 130 rfl) rfl
theorem q1720 : (Jvm.Cond.methodLink "PatrolDeskLaw" (71 : Nat) ({ cls := "PatrolDesk", name := "clearText", desc := "()I" } : Jvm.MethodName)) ∈ lw_all := lw_g (lw_at lw_m7 203 rfl) rfl
theorem q1744 : (Jvm.Cond.methodLink "PatrolDeskLaw" (76 : Nat) ({ cls := "PatrolDesk", name := "readCalls", desc := "()I" } : Jvm.MethodName)) ∈ lw_all := lw_g (lw_at lw_m7 227 rfl) rfl
theorem q1835 : (Jvm.Cond.methodLink "PatrolDeskLaw" (80 : Nat) ({ cls := "PatrolDesk", name := "undo", desc := "()I" } : Jvm.MethodName)) ∈ lw_all := lw_g (lw_at lw_m8 78 rfl) rfl
theorem q1848 : (Jvm.Cond.methodLink "PatrolDeskLaw" (84 : Nat) ({ cls := "PatrolDesk", name := "keep", desc := "()I" } : Jvm.MethodName)) ∈ lw_all := lw_g (lw_at lw_m8 91 rfl) rfl
theorem q1852 : (Jvm.Cond.methodLink "PatrolDeskLaw" (88 : Nat) ({ cls := "PatrolDesk", name := "restore", desc := "()I" } : Jvm.MethodName)) ∈ lw_all := lw_g (lw_at lw_m8 95 rfl) rfl
theorem q1856 : (Jvm.Cond.methodLink "PatrolDeskLaw" (92 : Nat) ({ cls := "PatrolDesk", name := "distance", desc := "(II)I" } : Jvm.MethodName)) ∈ lw_all := lw_g (lw_at lw_m8 99 rfl) rfl
theorem q1860 : (Jvm.Cond.methodLink "PatrolDeskLaw" (96 : Nat) ({ cls := "PatrolDesk", name := "wayAt", desc := "(III)I" } : Jvm.MethodName)) ∈ lw_all := lw_g (lw_at lw_m8 103 rfl) rfl
theorem q1865 : (Jvm.Cond.methodLink "PatrolDeskLaw" (100 : Nat) ({ cls := "PatrolDesk", name := "member", desc := "(II)I" } : Jvm.MethodName)) ∈ lw_all := lw_g (lw_at lw_m8 108 rfl) rfl
theorem q1891 : (Jvm.Cond.methodLink "PatrolDeskLaw" (104 : Nat) ({ cls := "PatrolDesk", name := "patrol", desc := "(II)I" } : Jvm.MethodName)) ∈ lw_all := lw_g (lw_at lw_m8 134 rfl) rfl
theorem q1895 : (Jvm.Cond.methodLink "PatrolDeskLaw" (108 : Nat) ({ cls := "PatrolDesk", name := "garage", desc := "(II)I" } : Jvm.MethodName)) ∈ lw_all := lw_g (lw_at lw_m8 138 rfl) rfl
theorem q1899 : (Jvm.Cond.methodLink "PatrolDeskLaw" (112 : Nat) ({ cls := "PatrolDesk", name := "callOf", desc := "(II)I" } : Jvm.MethodName)) ∈ lw_all := lw_g (lw_at lw_m8 142 rfl) rfl
theorem q1904 : (Jvm.Cond.methodLink "PatrolDeskLaw" (116 : Nat) ({ cls := "PatrolDesk", name := "waiting", desc := "(I)I" } : Jvm.MethodName)) ∈ lw_all := lw_g (lw_at lw_m8 147 rfl) rfl
theorem q1909 : (Jvm.Cond.methodLink "PatrolDeskLaw" (120 : Nat) ({ cls := "PatrolDesk", name := "nearest", desc := "(I)I" } : Jvm.MethodName)) ∈ lw_all := lw_g (lw_at lw_m8 152 rfl) rfl
theorem q1915 : (Jvm.Cond.methodLink "PatrolDeskLaw" (124 : Nat) ({ cls := "PatrolDesk", name := "waitFor", desc := "(I)I" } : Jvm.MethodName)) ∈ lw_all := lw_g (lw_at lw_m8 158 rfl) rfl
theorem q1920 : (Jvm.Cond.methodLink "PatrolDeskLaw" (128 : Nat) ({ cls := "PatrolDesk", name := "count", desc := "(I)I" } : Jvm.MethodName)) ∈ lw_all := lw_g (lw_at lw_m8 163 rfl) rfl
theorem q1935 : (Jvm.Cond.classLink "PatrolDeskLaw" (10 : Nat) "PatrolDeskModel") ∈ lw_all := lw_g (lw_at lw_m8 178 rfl) rfl
theorem q1937 : (Jvm.Cond.methodLink "PatrolDeskLaw" (12 : Nat) ({ cls := "PatrolDeskModel", name := "<init>", desc := "()V" } : Jvm.MethodName)) ∈ lw_all := lw_g (lw_at lw_m8 180 rfl) rfl
theorem q1992 : (Jvm.Cond.methodLink "PatrolDeskLaw" (17 : Nat) ({ cls := "PatrolDeskModel", name := "addRoad", desc := "(III)I" } : Jvm.MethodName)) ∈ lw_all := lw_g (lw_at lw_m8 235 rfl) rfl
theorem q2009 : (Jvm.Cond.methodLink "PatrolDeskLaw" (22 : Nat) ({ cls := "PatrolDeskModel", name := "addMember", desc := "(I)I" } : Jvm.MethodName)) ∈ lw_all := lw_g (lw_at lw_m9 12 rfl) rfl
theorem q2013 : (Jvm.Cond.methodLink "PatrolDeskLaw" (27 : Nat) ({ cls := "PatrolDeskModel", name := "addPatrol", desc := "(IIZ)I" } : Jvm.MethodName)) ∈ lw_all := lw_g (lw_at lw_m9 16 rfl) rfl
theorem q2025 : (Jvm.Cond.methodLink "PatrolDeskLaw" (32 : Nat) ({ cls := "PatrolDeskModel", name := "addGarage", desc := "(II)I" } : Jvm.MethodName)) ∈ lw_all := lw_g (lw_at lw_m9 28 rfl) rfl
theorem q2029 : (Jvm.Cond.methodLink "PatrolDeskLaw" (36 : Nat) ({ cls := "PatrolDeskModel", name := "setPromise", desc := "(II)I" } : Jvm.MethodName)) ∈ lw_all := lw_g (lw_at lw_m9 32 rfl) rfl
theorem q2033 : (Jvm.Cond.methodLink "PatrolDeskLaw" (40 : Nat) ({ cls := "PatrolDeskModel", name := "setWeather", desc := "(I)I" } : Jvm.MethodName)) ∈ lw_all := lw_g (lw_at lw_m9 36 rfl) rfl
theorem q2037 : (Jvm.Cond.methodLink "PatrolDeskLaw" (44 : Nat) ({ cls := "PatrolDeskModel", name := "call", desc := "(III)I" } : Jvm.MethodName)) ∈ lw_all := lw_g (lw_at lw_m9 40 rfl) rfl
theorem q2077 : (Jvm.Cond.methodLink "PatrolDeskLaw" (48 : Nat) ({ cls := "PatrolDeskModel", name := "cancel", desc := "(I)I" } : Jvm.MethodName)) ∈ lw_all := lw_g (lw_at lw_m9 80 rfl) rfl
theorem q2089 : (Jvm.Cond.methodLink "PatrolDeskLaw" (53 : Nat) ({ cls := "PatrolDeskModel", name := "duty", desc := "(IZ)I" } : Jvm.MethodName)) ∈ lw_all := lw_g (lw_at lw_m9 92 rfl) rfl
theorem q2101 : (Jvm.Cond.methodLink "PatrolDeskLaw" (57 : Nat) ({ cls := "PatrolDeskModel", name := "goHome", desc := "(I)I" } : Jvm.MethodName)) ∈ lw_all := lw_g (lw_at lw_m9 104 rfl) rfl
theorem q2109 : (Jvm.Cond.methodLink "PatrolDeskLaw" (61 : Nat) ({ cls := "PatrolDeskModel", name := "fetch", desc := "(II)I" } : Jvm.MethodName)) ∈ lw_all := lw_g (lw_at lw_m9 112 rfl) rfl
theorem q2121 : (Jvm.Cond.methodLink "PatrolDeskLaw" (65 : Nat) ({ cls := "PatrolDeskModel", name := "pass", desc := "(I)I" } : Jvm.MethodName)) ∈ lw_all := lw_g (lw_at lw_m9 124 rfl) rfl
theorem q2196 : (Jvm.Cond.methodLink "PatrolDeskLaw" (70 : Nat) ({ cls := "PatrolDeskModel", name := "type", desc := "(C)I" } : Jvm.MethodName)) ∈ lw_all := lw_g (lw_at lw_m9 199 rfl) rfl
theorem q2200 : (Jvm.Cond.methodLink "PatrolDeskLaw" (75 : Nat) ({ cls := "PatrolDeskModel", name := "clearText", desc := "()I" } : Jvm.MethodName)) ∈ lw_all := lw_g (lw_at lw_m9 203 rfl) rfl
theorem q2204 : (Jvm.Cond.methodLink "PatrolDeskLaw" (79 : Nat) ({ cls := "PatrolDeskModel", name := "readCalls", desc := "()I" } : Jvm.MethodName)) ∈ lw_all := lw_g (lw_at lw_m9 207 rfl) rfl
theorem q2220 : (Jvm.Cond.methodLink "PatrolDeskLaw" (83 : Nat) ({ cls := "PatrolDeskModel", name := "undo", desc := "()I" } : Jvm.MethodName)) ∈ lw_all := lw_g (lw_at lw_m9 223 rfl) rfl
theorem q2224 : (Jvm.Cond.methodLink "PatrolDeskLaw" (87 : Nat) ({ cls := "PatrolDeskModel", name := "keep", desc := "()I" } : Jvm.MethodName)) ∈ lw_all := lw_g (lw_at lw_m9 227 rfl) rfl
theorem q2228 : (Jvm.Cond.methodLink "PatrolDeskLaw" (91 : Nat) ({ cls := "PatrolDeskModel", name := "restore", desc := "()I" } : Jvm.MethodName)) ∈ lw_all := lw_g (lw_at lw_m9 231 rfl) rfl
theorem q2232 : (Jvm.Cond.methodLink "PatrolDeskLaw" (95 : Nat) ({ cls := "PatrolDeskModel", name := "distance", desc := "(II)I" } : Jvm.MethodName)) ∈ lw_all := lw_g (lw_at lw_m9 235 rfl) rfl
theorem q2236 : (Jvm.Cond.methodLink "PatrolDeskLaw" (99 : Nat) ({ cls := "PatrolDeskModel", name := "wayAt", desc := "(III)I" } : Jvm.MethodName)) ∈ lw_all := lw_g (lw_at lw_m9 239 rfl) rfl
theorem q2240 : (Jvm.Cond.methodLink "PatrolDeskLaw" (103 : Nat) ({ cls := "PatrolDeskModel", name := "member", desc := "(II)I" } : Jvm.MethodName)) ∈ lw_all := lw_g (lw_at lw_m10 3 rfl) rfl
theorem q2244 : (Jvm.Cond.methodLink "PatrolDeskLaw" (107 : Nat) ({ cls := "PatrolDeskModel", name := "patrol", desc := "(II)I" } : Jvm.MethodName)) ∈ lw_all := lw_g (lw_at lw_m10 7 rfl) rfl
theorem q2248 : (Jvm.Cond.methodLink "PatrolDeskLaw" (111 : Nat) ({ cls := "PatrolDeskModel", name := "garage", desc := "(II)I" } : Jvm.MethodName)) ∈ lw_all := lw_g (lw_at lw_m10 11 rfl) rfl
theorem q2252 : (Jvm.Cond.methodLink "PatrolDeskLaw" (115 : Nat) ({ cls := "PatrolDeskModel", name := "callOf", desc := "(II)I" } : Jvm.MethodName)) ∈ lw_all := lw_g (lw_at lw_m10 15 rfl) rfl
theorem q2256 : (Jvm.Cond.methodLink "PatrolDeskLaw" (119 : Nat) ({ cls := "PatrolDeskModel", name := "waiting", desc := "(I)I" } : Jvm.MethodName)) ∈ lw_all := lw_g (lw_at lw_m10 19 rfl) rfl
theorem q2260 : (Jvm.Cond.methodLink "PatrolDeskLaw" (123 : Nat) ({ cls := "PatrolDeskModel", name := "nearest", desc := "(I)I" } : Jvm.MethodName)) ∈ lw_all := lw_g (lw_at lw_m10 23 rfl) rfl
theorem q2264 : (Jvm.Cond.methodLink "PatrolDeskLaw" (127 : Nat) ({ cls := "PatrolDeskModel", name := "waitFor", desc := "(I)I" } : Jvm.MethodName)) ∈ lw_all := lw_g (lw_at lw_m10 27 rfl) rfl
theorem q2268 : (Jvm.Cond.methodLink "PatrolDeskLaw" (131 : Nat) ({ cls := "PatrolDeskModel", name := "count", desc := "(I)I" } : Jvm.MethodName)) ∈ lw_all := lw_g (lw_at lw_m10 31 rfl) rfl
theorem q1882 : (Jvm.Cond.interfaceMethod "PatrolDesk$Amount" "PatrolDesk$Amount" "of" "(LPatrolDesk$Call;)I") ∈ lw_tbl := lw_at lw_m8 125 rfl
set_option maxRecDepth 100000
theorem q1883 : (Jvm.Cond.declares ({ cls := "PatrolDesk$Amount", name := "of", desc := "(LPatrolDesk$Call;)I" } : Jvm.MethodName)) ∈ lw_tbl := lw_at lw_m8 126 rfl
theorem q1643 : (Jvm.Cond.interfaceMethod "PatrolDesk$Fits" "PatrolDesk$Fits" "test" "(LPatrolDesk$Patrol;I)Z") ∈ lw_tbl := lw_at lw_m7 126 rfl
set_option maxRecDepth 100000
theorem q1644 : (Jvm.Cond.declares ({ cls := "PatrolDesk$Fits", name := "test", desc := "(LPatrolDesk$Patrol;I)Z" } : Jvm.MethodName)) ∈ lw_tbl := lw_at lw_m7 127 rfl
theorem q1679 : (Jvm.Cond.sameMethod "[B" "java/lang/Object" "clone" "()Ljava/lang/Object;") ∈ lw_all := lw_g (lw_at lw_m7 162 rfl) rfl
set_option maxRecDepth 100000
theorem q1682 : (Jvm.Cond.selects "[B" ({ cls := "[B", name := "clone", desc := "()Ljava/lang/Object;" } : Jvm.MethodName) ({ cls := "java/lang/Object", name := "clone", desc := "()Ljava/lang/Object;" } : Jvm.MethodName)) ∈ lw_all := lw_g (lw_at lw_m7 165 rfl) rfl
theorem q1683 : (Jvm.Cond.castable "[B" "java/lang/Cloneable") ∈ lw_tbl := lw_at lw_m7 166 rfl
theorem q2316 : (Jvm.Cond.castable "[B" "java/lang/Object") ∈ lw_tbl := lw_at lw_m10 79 rfl
theorem q2315 : (Jvm.Cond.castable "[I" "java/lang/Object") ∈ lw_tbl := lw_at lw_m10 78 rfl
set_option maxRecDepth 100000
theorem q2312 : (Jvm.Cond.sameMethod "[Ljava/lang/Object;" "java/lang/Object" "getClass" "()Ljava/lang/Class;") ∈ lw_all := lw_g (lw_at lw_m10 75 rfl) rfl
set_option maxRecDepth 100000
theorem q2313 : (Jvm.Cond.selects "[Ljava/lang/Object;" ({ cls := "java/lang/Object", name := "getClass", desc := "()Ljava/lang/Class;" } : Jvm.MethodName) ({ cls := "java/lang/Object", name := "getClass", desc := "()Ljava/lang/Class;" } : Jvm.MethodName)) ∈ lw_all := lw_g (lw_at lw_m10 76 rfl) rfl
theorem q2319 : (Jvm.Cond.castable "[Ljava/lang/Object;" "java/lang/Object") ∈ lw_tbl := lw_at lw_m10 82 rfl
theorem q2318 : (Jvm.Cond.castable "[Ljava/util/HashMap$Node;" "java/lang/Object") ∈ lw_tbl := lw_at lw_m10 81 rfl
set_option maxRecDepth 100000
theorem q2317 : (Jvm.Cond.castable "[[I" "java/lang/Object") ∈ lw_tbl := lw_at lw_m10 80 rfl
set_option maxRecDepth 100000
theorem q1782 : (Jvm.Cond.interfaceMethod "java/lang/CharSequence" "java/lang/CharSequence" "length" "()I") ∈ lw_tbl := lw_at lw_m8 25 rfl
set_option maxRecDepth 100000
theorem q1783 : (Jvm.Cond.declares ({ cls := "java/lang/CharSequence", name := "length", desc := "()I" } : Jvm.MethodName)) ∈ lw_tbl := lw_at lw_m8 26 rfl
theorem q1790 : (Jvm.Cond.interfaceMethod "java/lang/CharSequence" "java/lang/CharSequence" "charAt" "(I)C") ∈ lw_tbl := lw_at lw_m8 33 rfl
theorem q1791 : (Jvm.Cond.declares ({ cls := "java/lang/CharSequence", name := "charAt", desc := "(I)C" } : Jvm.MethodName)) ∈ lw_tbl := lw_at lw_m8 34 rfl
theorem q445 : (Jvm.Cond.interfaceMethod "java/lang/Comparable" "java/lang/Comparable" "compareTo" "(Ljava/lang/Object;)I") ∈ lw_tbl := lw_at lw_m2 128 rfl
set_option maxRecDepth 100000
theorem q446 : (Jvm.Cond.declares ({ cls := "java/lang/Comparable", name := "compareTo", desc := "(Ljava/lang/Object;)I" } : Jvm.MethodName)) ∈ lw_tbl := lw_at lw_m2 129 rfl
theorem q104 : (Jvm.Cond.initialized "java/lang/Integer$IntegerCache") ∈ lw_all := lw_g (lw_at lw_m1 27 rfl) rfl
set_option maxRecDepth 100000
theorem q863 : (Jvm.Cond.laysStatic "java/lang/Integer$IntegerCache" "high" "I") ∈ lw_tbl := lw_at lw_m4 66 rfl
theorem q865 : (Jvm.Cond.laysStatic "java/lang/Integer$IntegerCache" "cache" "[Ljava/lang/Integer;") ∈ lw_tbl := lw_at lw_m4 68 rfl
theorem q106 : (Jvm.Cond.initialized "java/lang/System") ∈ lw_all := lw_g (lw_at lw_m1 29 rfl) rfl
set_option maxRecDepth 100000
theorem q925 : (Jvm.Cond.static ({ cls := "java/lang/System", name := "arraycopy", desc := "(Ljava/lang/Object;ILjava/lang/Object;II)V" } : Jvm.MethodName)) ∈ lw_all := lw_g (lw_at lw_m4 128 rfl) rfl
theorem q926 : (Jvm.Cond.native ({ cls := "java/lang/System", name := "arraycopy", desc := "(Ljava/lang/Object;ILjava/lang/Object;II)V" } : Jvm.MethodName)) ∈ lw_all := lw_g (lw_at lw_m4 129 rfl) rfl
theorem q885 : (Jvm.Cond.interfaceMethod "java/util/List" "java/util/List" "add" "(Ljava/lang/Object;)Z") ∈ lw_tbl := lw_at lw_m4 88 rfl
set_option maxRecDepth 100000
theorem q886 : (Jvm.Cond.declares ({ cls := "java/util/List", name := "add", desc := "(Ljava/lang/Object;)Z" } : Jvm.MethodName)) ∈ lw_tbl := lw_at lw_m4 89 rfl
theorem q992 : (Jvm.Cond.interfaceMethod "java/util/List" "java/util/List" "size" "()I") ∈ lw_tbl := lw_at lw_m4 195 rfl
theorem q993 : (Jvm.Cond.declares ({ cls := "java/util/List", name := "size", desc := "()I" } : Jvm.MethodName)) ∈ lw_tbl := lw_at lw_m4 196 rfl
theorem q1001 : (Jvm.Cond.interfaceMethod "java/util/List" "java/util/List" "remove" "(I)Ljava/lang/Object;") ∈ lw_tbl := lw_at lw_m4 204 rfl
theorem q1002 : (Jvm.Cond.declares ({ cls := "java/util/List", name := "remove", desc := "(I)Ljava/lang/Object;" } : Jvm.MethodName)) ∈ lw_tbl := lw_at lw_m4 205 rfl
theorem q1029 : (Jvm.Cond.interfaceMethod "java/util/List" "java/util/List" "get" "(I)Ljava/lang/Object;") ∈ lw_tbl := lw_at lw_m4 232 rfl
theorem q1030 : (Jvm.Cond.declares ({ cls := "java/util/List", name := "get", desc := "(I)Ljava/lang/Object;" } : Jvm.MethodName)) ∈ lw_tbl := lw_at lw_m4 233 rfl
theorem q1547 : (Jvm.Cond.interfaceMethod "java/util/List" "java/util/List" "set" "(ILjava/lang/Object;)Ljava/lang/Object;") ∈ lw_tbl := lw_at lw_m7 30 rfl
theorem q1548 : (Jvm.Cond.declares ({ cls := "java/util/List", name := "set", desc := "(ILjava/lang/Object;)Ljava/lang/Object;" } : Jvm.MethodName)) ∈ lw_tbl := lw_at lw_m7 31 rfl
theorem q1609 : (Jvm.Cond.interfaceMethod "java/util/List" "java/util/List" "add" "(ILjava/lang/Object;)V") ∈ lw_tbl := lw_at lw_m7 92 rfl
theorem q1610 : (Jvm.Cond.declares ({ cls := "java/util/List", name := "add", desc := "(ILjava/lang/Object;)V" } : Jvm.MethodName)) ∈ lw_tbl := lw_at lw_m7 93 rfl
theorem q1841 : (Jvm.Cond.interfaceMethod "java/util/List" "java/util/List" "isEmpty" "()Z") ∈ lw_tbl := lw_at lw_m8 84 rfl
theorem q1842 : (Jvm.Cond.declares ({ cls := "java/util/List", name := "isEmpty", desc := "()Z" } : Jvm.MethodName)) ∈ lw_tbl := lw_at lw_m8 85 rfl
theorem q313 : (Jvm.Cond.interfaceMethod "java/util/Map" "java/util/Map" "get" "(Ljava/lang/Object;)Ljava/lang/Object;") ∈ lw_tbl := lw_at lw_m1 236 rfl
set_option maxRecDepth 100000
theorem q314 : (Jvm.Cond.declares ({ cls := "java/util/Map", name := "get", desc := "(Ljava/lang/Object;)Ljava/lang/Object;" } : Jvm.MethodName)) ∈ lw_tbl := lw_at lw_m1 237 rfl
theorem q654 : (Jvm.Cond.interfaceMethod "java/util/Map" "java/util/Map" "put" "(Ljava/lang/Object;Ljava/lang/Object;)Ljava/lang/Object;") ∈ lw_tbl := lw_at lw_m3 97 rfl
theorem q655 : (Jvm.Cond.declares ({ cls := "java/util/Map", name := "put", desc := "(Ljava/lang/Object;Ljava/lang/Object;)Ljava/lang/Object;" } : Jvm.MethodName)) ∈ lw_tbl := lw_at lw_m3 98 rfl
theorem q977 : (Jvm.Cond.interfaceMethod "java/util/Map" "java/util/Map" "size" "()I") ∈ lw_tbl := lw_at lw_m4 180 rfl
theorem q978 : (Jvm.Cond.declares ({ cls := "java/util/Map", name := "size", desc := "()I" } : Jvm.MethodName)) ∈ lw_tbl := lw_at lw_m4 181 rfl
theorem q1529 : (Jvm.Cond.interfaceMethod "java/util/Set" "java/util/Set" "add" "(Ljava/lang/Object;)Z") ∈ lw_tbl := lw_at lw_m7 12 rfl
set_option maxRecDepth 100000
theorem q1530 : (Jvm.Cond.declares ({ cls := "java/util/Set", name := "add", desc := "(Ljava/lang/Object;)Z" } : Jvm.MethodName)) ∈ lw_tbl := lw_at lw_m7 13 rfl
theorem q98 : (Jvm.Cond.initialized "jdk/internal/misc/UnsafeConstants") ∈ lw_all := lw_g (lw_at lw_m1 21 rfl) rfl
set_option maxRecDepth 100000
theorem q523 : (Jvm.Cond.laysStatic "jdk/internal/misc/UnsafeConstants" "BIG_ENDIAN" "Z") ∈ lw_tbl := lw_at lw_m2 206 rfl
theorem q194 : (Jvm.Cond.arrayClass Jvm.ClassFile.FieldType.int) ∈ lw_all := lw_g (lw_at lw_m1 117 rfl) rfl
set_option maxRecDepth 100000
theorem q228 : (Jvm.Cond.arrayClass Jvm.ClassFile.FieldType.byte) ∈ lw_all := lw_g (lw_at lw_m1 151 rfl) rfl
theorem q285 : (Jvm.Cond.arrayOver (Jvm.ClassFile.FieldType.array Jvm.ClassFile.FieldType.int)) ∈ lw_tbl := lw_at lw_m1 208 rfl
theorem q677 : (Jvm.Cond.arrayOver (Jvm.ClassFile.FieldType.object "java/util/HashMap$Node")) ∈ lw_tbl := lw_at lw_m3 120 rfl
theorem q921 : (Jvm.Cond.arrayOver (Jvm.ClassFile.FieldType.object "java/lang/Object")) ∈ lw_tbl := lw_at lw_m4 124 rfl
