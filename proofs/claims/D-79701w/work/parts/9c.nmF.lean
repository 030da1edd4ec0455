set_option maxRecDepth 100000
abbrev cJ14_newLength : ByteArray := prog_71_method_27_code
def yJ14_newLength : MethodName := ⟨RJ14, "newLength", "(III)I"⟩
def dkwJ14_newLength_1 : List UInt8 := [184, 0, 201, 172]
abbrev dktJ14_newLength_1 : List UInt8 := dkwJ14_newLength_1 ++ []
def dkwJ14_newLength_0 : List UInt8 := [26, 27, 28, 184, 0, 194, 96, 62, 3, 29, 162, 0, 11, 29, 18, 200, 163, 0, 5, 29, 172, 26, 27]
abbrev dktJ14_newLength_0 : List UInt8 := dkwJ14_newLength_0 ++ dktJ14_newLength_1
theorem dksJ14_newLength_0 : cJ14_newLength.data.toList.drop 0 = dktJ14_newLength_0 := by decide +kernel
theorem dksJ14_newLength_1 : cJ14_newLength.data.toList.drop 23 = dktJ14_newLength_1 := dk_seg dksJ14_newLength_0 23 rfl rfl
theorem dJ14_newLength_0 : decode cJ14_newLength 0 = .ok (.iload_n 0, 1) := dk_26 (dk_at dksJ14_newLength_0 0 rfl rfl)
theorem dJ14_newLength_1 : decode cJ14_newLength 1 = .ok (.iload_n 1, 1) := dk_27 (dk_at dksJ14_newLength_0 1 rfl rfl)
theorem dJ14_newLength_2 : decode cJ14_newLength 2 = .ok (.iload_n 2, 1) := dk_28 (dk_at dksJ14_newLength_0 2 rfl rfl)
theorem dJ14_newLength_3 : decode cJ14_newLength 3 = .ok (.invokestatic 194, 3) := dk_184 0 194 (dk_at dksJ14_newLength_0 3 rfl rfl)
theorem dJ14_newLength_6 : decode cJ14_newLength 6 = .ok (.iadd, 1) := dk_96 (dk_at dksJ14_newLength_0 6 rfl rfl)
theorem dJ14_newLength_7 : decode cJ14_newLength 7 = .ok (.istore_n 3, 1) := dk_62 (dk_at dksJ14_newLength_0 7 rfl rfl)
theorem dJ14_newLength_8 : decode cJ14_newLength 8 = .ok (.iconst 0, 1) := dk_3 (dk_at dksJ14_newLength_0 8 rfl rfl)
theorem dJ14_newLength_9 : decode cJ14_newLength 9 = .ok (.iload_n 3, 1) := dk_29 (dk_at dksJ14_newLength_0 9 rfl rfl)
theorem dJ14_newLength_10 : decode cJ14_newLength 10 = .ok (.if_icmp .ge 11, 3) := dk_162 0 11 (dk_at dksJ14_newLength_0 10 rfl rfl)
theorem dJ14_newLength_13 : decode cJ14_newLength 13 = .ok (.iload_n 3, 1) := dk_29 (dk_at dksJ14_newLength_0 13 rfl rfl)
theorem dJ14_newLength_14 : decode cJ14_newLength 14 = .ok (.ldc 200, 2) := dk_18 200 (dk_at dksJ14_newLength_0 14 rfl rfl)
theorem dJ14_newLength_16 : decode cJ14_newLength 16 = .ok (.if_icmp .gt 5, 3) := dk_163 0 5 (dk_at dksJ14_newLength_0 16 rfl rfl)
theorem dJ14_newLength_19 : decode cJ14_newLength 19 = .ok (.iload_n 3, 1) := dk_29 (dk_at dksJ14_newLength_0 19 rfl rfl)
theorem dJ14_newLength_20 : decode cJ14_newLength 20 = .ok (.ireturn, 1) := dk_172 (dk_at dksJ14_newLength_0 20 rfl rfl)
theorem dJ14_newLength_21 : decode cJ14_newLength 21 = .ok (.iload_n 0, 1) := dk_26 (dk_at dksJ14_newLength_0 21 rfl rfl)
theorem dJ14_newLength_22 : decode cJ14_newLength 22 = .ok (.iload_n 1, 1) := dk_27 (dk_at dksJ14_newLength_0 22 rfl rfl)
theorem dJ14_newLength_23 : decode cJ14_newLength 23 = .ok (.invokestatic 201, 3) := dk_184 0 201 (dk_at dksJ14_newLength_1 0 rfl rfl)
theorem dJ14_newLength_26 : decode cJ14_newLength 26 = .ok (.ireturn, 1) := dk_172 (dk_at dksJ14_newLength_1 3 rfl rfl)
abbrev cJ14_hugeLength : ByteArray := prog_71_method_28_code
def yJ14_hugeLength : MethodName := ⟨RJ14, "hugeLength", "(II)I"⟩
def dkwJ14_hugeLength_2 : List UInt8 := [191, 28, 18, 200, 163, 0, 6, 18, 200, 172, 28, 172]
abbrev dktJ14_hugeLength_2 : List UInt8 := dkwJ14_hugeLength_2 ++ []
def dkwJ14_hugeLength_1 : List UInt8 := [26, 182, 0, 98, 18, 208, 182, 0, 94, 27, 182, 0, 98, 18, 210, 182, 0, 94, 182, 0, 101, 183, 0, 212]
abbrev dktJ14_hugeLength_1 : List UInt8 := dkwJ14_hugeLength_1 ++ dktJ14_hugeLength_2
def dkwJ14_hugeLength_0 : List UInt8 := [26, 27, 96, 61, 28, 156, 0, 44, 187, 0, 204, 89, 187, 0, 89, 89, 183, 0, 91, 18, 206, 182, 0, 94]
abbrev dktJ14_hugeLength_0 : List UInt8 := dkwJ14_hugeLength_0 ++ dktJ14_hugeLength_1
theorem dksJ14_hugeLength_0 : cJ14_hugeLength.data.toList.drop 0 = dktJ14_hugeLength_0 := by decide +kernel
theorem dksJ14_hugeLength_1 : cJ14_hugeLength.data.toList.drop 24 = dktJ14_hugeLength_1 := dk_seg dksJ14_hugeLength_0 24 rfl rfl
theorem dksJ14_hugeLength_2 : cJ14_hugeLength.data.toList.drop 48 = dktJ14_hugeLength_2 := dk_seg dksJ14_hugeLength_1 24 rfl rfl
theorem dJ14_hugeLength_0 : decode cJ14_hugeLength 0 = .ok (.iload_n 0, 1) := dk_26 (dk_at dksJ14_hugeLength_0 0 rfl rfl)
theorem dJ14_hugeLength_1 : decode cJ14_hugeLength 1 = .ok (.iload_n 1, 1) := dk_27 (dk_at dksJ14_hugeLength_0 1 rfl rfl)
theorem dJ14_hugeLength_2 : decode cJ14_hugeLength 2 = .ok (.iadd, 1) := dk_96 (dk_at dksJ14_hugeLength_0 2 rfl rfl)
theorem dJ14_hugeLength_3 : decode cJ14_hugeLength 3 = .ok (.istore_n 2, 1) := dk_61 (dk_at dksJ14_hugeLength_0 3 rfl rfl)
theorem dJ14_hugeLength_4 : decode cJ14_hugeLength 4 = .ok (.iload_n 2, 1) := dk_28 (dk_at dksJ14_hugeLength_0 4 rfl rfl)
theorem dJ14_hugeLength_5 : decode cJ14_hugeLength 5 = .ok (.ifCond .ge 44, 3) := dk_156 0 44 (dk_at dksJ14_hugeLength_0 5 rfl rfl)
theorem dJ14_hugeLength_8 : decode cJ14_hugeLength 8 = .ok (.new 204, 3) := dk_187 0 204 (dk_at dksJ14_hugeLength_0 8 rfl rfl)
theorem dJ14_hugeLength_11 : decode cJ14_hugeLength 11 = .ok (.dup, 1) := dk_89 (dk_at dksJ14_hugeLength_0 11 rfl rfl)
theorem dJ14_hugeLength_12 : decode cJ14_hugeLength 12 = .ok (.new 89, 3) := dk_187 0 89 (dk_at dksJ14_hugeLength_0 12 rfl rfl)
theorem dJ14_hugeLength_15 : decode cJ14_hugeLength 15 = .ok (.dup, 1) := dk_89 (dk_at dksJ14_hugeLength_0 15 rfl rfl)
theorem dJ14_hugeLength_16 : decode cJ14_hugeLength 16 = .ok (.invokespecial 91, 3) := dk_183 0 91 (dk_at dksJ14_hugeLength_0 16 rfl rfl)
theorem dJ14_hugeLength_19 : decode cJ14_hugeLength 19 = .ok (.ldc 206, 2) := dk_18 206 (dk_at dksJ14_hugeLength_0 19 rfl rfl)
theorem dJ14_hugeLength_21 : decode cJ14_hugeLength 21 = .ok (.invokevirtual 94, 3) := dk_182 0 94 (dk_at dksJ14_hugeLength_0 21 rfl rfl)
theorem dJ14_hugeLength_24 : decode cJ14_hugeLength 24 = .ok (.iload_n 0, 1) := dk_26 (dk_at dksJ14_hugeLength_1 0 rfl rfl)
theorem dJ14_hugeLength_25 : decode cJ14_hugeLength 25 = .ok (.invokevirtual 98, 3) := dk_182 0 98 (dk_at dksJ14_hugeLength_1 1 rfl rfl)
theorem dJ14_hugeLength_28 : decode cJ14_hugeLength 28 = .ok (.ldc 208, 2) := dk_18 208 (dk_at dksJ14_hugeLength_1 4 rfl rfl)
theorem dJ14_hugeLength_30 : decode cJ14_hugeLength 30 = .ok (.invokevirtual 94, 3) := dk_182 0 94 (dk_at dksJ14_hugeLength_1 6 rfl rfl)
theorem dJ14_hugeLength_33 : decode cJ14_hugeLength 33 = .ok (.iload_n 1, 1) := dk_27 (dk_at dksJ14_hugeLength_1 9 rfl rfl)
theorem dJ14_hugeLength_34 : decode cJ14_hugeLength 34 = .ok (.invokevirtual 98, 3) := dk_182 0 98 (dk_at dksJ14_hugeLength_1 10 rfl rfl)
theorem dJ14_hugeLength_37 : decode cJ14_hugeLength 37 = .ok (.ldc 210, 2) := dk_18 210 (dk_at dksJ14_hugeLength_1 13 rfl rfl)
theorem dJ14_hugeLength_39 : decode cJ14_hugeLength 39 = .ok (.invokevirtual 94, 3) := dk_182 0 94 (dk_at dksJ14_hugeLength_1 15 rfl rfl)
theorem dJ14_hugeLength_42 : decode cJ14_hugeLength 42 = .ok (.invokevirtual 101, 3) := dk_182 0 101 (dk_at dksJ14_hugeLength_1 18 rfl rfl)
theorem dJ14_hugeLength_45 : decode cJ14_hugeLength 45 = .ok (.invokespecial 212, 3) := dk_183 0 212 (dk_at dksJ14_hugeLength_1 21 rfl rfl)
theorem dJ14_hugeLength_48 : decode cJ14_hugeLength 48 = .ok (.athrow, 1) := dk_191 (dk_at dksJ14_hugeLength_2 0 rfl rfl)
theorem dJ14_hugeLength_49 : decode cJ14_hugeLength 49 = .ok (.iload_n 2, 1) := dk_28 (dk_at dksJ14_hugeLength_2 1 rfl rfl)
theorem dJ14_hugeLength_50 : decode cJ14_hugeLength 50 = .ok (.ldc 200, 2) := dk_18 200 (dk_at dksJ14_hugeLength_2 2 rfl rfl)
theorem dJ14_hugeLength_52 : decode cJ14_hugeLength 52 = .ok (.if_icmp .gt 6, 3) := dk_163 0 6 (dk_at dksJ14_hugeLength_2 4 rfl rfl)
theorem dJ14_hugeLength_55 : decode cJ14_hugeLength 55 = .ok (.ldc 200, 2) := dk_18 200 (dk_at dksJ14_hugeLength_2 7 rfl rfl)
theorem dJ14_hugeLength_57 : decode cJ14_hugeLength 57 = .ok (.ireturn, 1) := dk_172 (dk_at dksJ14_hugeLength_2 9 rfl rfl)
theorem dJ14_hugeLength_58 : decode cJ14_hugeLength 58 = .ok (.iload_n 2, 1) := dk_28 (dk_at dksJ14_hugeLength_2 10 rfl rfl)
theorem dJ14_hugeLength_59 : decode cJ14_hugeLength 59 = .ok (.ireturn, 1) := dk_172 (dk_at dksJ14_hugeLength_2 11 rfl rfl)
abbrev cJ14_mismatch : ByteArray := prog_71_method_13_code
def yJ14_mismatch : MethodName := ⟨RJ14, "mismatch", "([B[BI)I"⟩
def dkwJ14_mismatch_3 : List UInt8 := [172]
abbrev dktJ14_mismatch_3 : List UInt8 := dkwJ14_mismatch_3 ++ []
def dkwJ14_mismatch_2 : List UInt8 := [62, 29, 28, 162, 0, 20, 42, 29, 51, 43, 29, 51, 159, 0, 5, 29, 172, 132, 3, 1, 167, 255, 237, 2]
abbrev dktJ14_mismatch_2 : List UInt8 := dkwJ14_mismatch_2 ++ dktJ14_mismatch_3
def dkwJ14_mismatch_1 : List UInt8 := [43, 178, 0, 126, 133, 28, 178, 0, 129, 184, 0, 122, 62, 29, 155, 0, 5, 29, 172, 28, 29, 2, 130, 100]
abbrev dktJ14_mismatch_1 : List UInt8 := dkwJ14_mismatch_1 ++ dktJ14_mismatch_2
def dkwJ14_mismatch_0 : List UInt8 := [3, 62, 28, 16, 7, 164, 0, 44, 42, 3, 51, 43, 3, 51, 159, 0, 5, 3, 172, 42, 178, 0, 126, 133]
abbrev dktJ14_mismatch_0 : List UInt8 := dkwJ14_mismatch_0 ++ dktJ14_mismatch_1
theorem dksJ14_mismatch_0 : cJ14_mismatch.data.toList.drop 0 = dktJ14_mismatch_0 := by decide +kernel
theorem dksJ14_mismatch_1 : cJ14_mismatch.data.toList.drop 24 = dktJ14_mismatch_1 := dk_seg dksJ14_mismatch_0 24 rfl rfl
theorem dksJ14_mismatch_2 : cJ14_mismatch.data.toList.drop 48 = dktJ14_mismatch_2 := dk_seg dksJ14_mismatch_1 24 rfl rfl
theorem dksJ14_mismatch_3 : cJ14_mismatch.data.toList.drop 72 = dktJ14_mismatch_3 := dk_seg dksJ14_mismatch_2 24 rfl rfl
theorem dJ14_mismatch_0 : decode cJ14_mismatch 0 = .ok (.iconst 0, 1) := dk_3 (dk_at dksJ14_mismatch_0 0 rfl rfl)
theorem dJ14_mismatch_1 : decode cJ14_mismatch 1 = .ok (.istore_n 3, 1) := dk_62 (dk_at dksJ14_mismatch_0 1 rfl rfl)
theorem dJ14_mismatch_2 : decode cJ14_mismatch 2 = .ok (.iload_n 2, 1) := dk_28 (dk_at dksJ14_mismatch_0 2 rfl rfl)
theorem dJ14_mismatch_3 : decode cJ14_mismatch 3 = .ok (.bipush 7, 2) := dk_16 7 (dk_at dksJ14_mismatch_0 3 rfl rfl)
theorem dJ14_mismatch_5 : decode cJ14_mismatch 5 = .ok (.if_icmp .le 44, 3) := dk_164 0 44 (dk_at dksJ14_mismatch_0 5 rfl rfl)
theorem dJ14_mismatch_8 : decode cJ14_mismatch 8 = .ok (.aload_n 0, 1) := dk_42 (dk_at dksJ14_mismatch_0 8 rfl rfl)
theorem dJ14_mismatch_9 : decode cJ14_mismatch 9 = .ok (.iconst 0, 1) := dk_3 (dk_at dksJ14_mismatch_0 9 rfl rfl)
theorem dJ14_mismatch_10 : decode cJ14_mismatch 10 = .ok (.baload, 1) := dk_51 (dk_at dksJ14_mismatch_0 10 rfl rfl)
theorem dJ14_mismatch_11 : decode cJ14_mismatch 11 = .ok (.aload_n 1, 1) := dk_43 (dk_at dksJ14_mismatch_0 11 rfl rfl)
theorem dJ14_mismatch_12 : decode cJ14_mismatch 12 = .ok (.iconst 0, 1) := dk_3 (dk_at dksJ14_mismatch_0 12 rfl rfl)
theorem dJ14_mismatch_13 : decode cJ14_mismatch 13 = .ok (.baload, 1) := dk_51 (dk_at dksJ14_mismatch_0 13 rfl rfl)
theorem dJ14_mismatch_14 : decode cJ14_mismatch 14 = .ok (.if_icmp .eq 5, 3) := dk_159 0 5 (dk_at dksJ14_mismatch_0 14 rfl rfl)
theorem dJ14_mismatch_17 : decode cJ14_mismatch 17 = .ok (.iconst 0, 1) := dk_3 (dk_at dksJ14_mismatch_0 17 rfl rfl)
theorem dJ14_mismatch_18 : decode cJ14_mismatch 18 = .ok (.ireturn, 1) := dk_172 (dk_at dksJ14_mismatch_0 18 rfl rfl)
theorem dJ14_mismatch_19 : decode cJ14_mismatch 19 = .ok (.aload_n 0, 1) := dk_42 (dk_at dksJ14_mismatch_0 19 rfl rfl)
theorem dJ14_mismatch_20 : decode cJ14_mismatch 20 = .ok (.getstatic 126, 3) := dk_178 0 126 (dk_at dksJ14_mismatch_0 20 rfl rfl)
theorem dJ14_mismatch_23 : decode cJ14_mismatch 23 = .ok (.i2l, 1) := dk_133 (dk_at dksJ14_mismatch_0 23 rfl rfl)
theorem dJ14_mismatch_24 : decode cJ14_mismatch 24 = .ok (.aload_n 1, 1) := dk_43 (dk_at dksJ14_mismatch_1 0 rfl rfl)
theorem dJ14_mismatch_25 : decode cJ14_mismatch 25 = .ok (.getstatic 126, 3) := dk_178 0 126 (dk_at dksJ14_mismatch_1 1 rfl rfl)
theorem dJ14_mismatch_28 : decode cJ14_mismatch 28 = .ok (.i2l, 1) := dk_133 (dk_at dksJ14_mismatch_1 4 rfl rfl)
theorem dJ14_mismatch_29 : decode cJ14_mismatch 29 = .ok (.iload_n 2, 1) := dk_28 (dk_at dksJ14_mismatch_1 5 rfl rfl)
theorem dJ14_mismatch_30 : decode cJ14_mismatch 30 = .ok (.getstatic 129, 3) := dk_178 0 129 (dk_at dksJ14_mismatch_1 6 rfl rfl)
theorem dJ14_mismatch_33 : decode cJ14_mismatch 33 = .ok (.invokestatic 122, 3) := dk_184 0 122 (dk_at dksJ14_mismatch_1 9 rfl rfl)
theorem dJ14_mismatch_36 : decode cJ14_mismatch 36 = .ok (.istore_n 3, 1) := dk_62 (dk_at dksJ14_mismatch_1 12 rfl rfl)
theorem dJ14_mismatch_37 : decode cJ14_mismatch 37 = .ok (.iload_n 3, 1) := dk_29 (dk_at dksJ14_mismatch_1 13 rfl rfl)
theorem dJ14_mismatch_38 : decode cJ14_mismatch 38 = .ok (.ifCond .lt 5, 3) := dk_155 0 5 (dk_at dksJ14_mismatch_1 14 rfl rfl)
theorem dJ14_mismatch_41 : decode cJ14_mismatch 41 = .ok (.iload_n 3, 1) := dk_29 (dk_at dksJ14_mismatch_1 17 rfl rfl)
theorem dJ14_mismatch_42 : decode cJ14_mismatch 42 = .ok (.ireturn, 1) := dk_172 (dk_at dksJ14_mismatch_1 18 rfl rfl)
theorem dJ14_mismatch_43 : decode cJ14_mismatch 43 = .ok (.iload_n 2, 1) := dk_28 (dk_at dksJ14_mismatch_1 19 rfl rfl)
theorem dJ14_mismatch_44 : decode cJ14_mismatch 44 = .ok (.iload_n 3, 1) := dk_29 (dk_at dksJ14_mismatch_1 20 rfl rfl)
theorem dJ14_mismatch_45 : decode cJ14_mismatch 45 = .ok (.iconst (-1), 1) := dk_2 (dk_at dksJ14_mismatch_1 21 rfl rfl)
theorem dJ14_mismatch_46 : decode cJ14_mismatch 46 = .ok (.ixor, 1) := dk_130 (dk_at dksJ14_mismatch_1 22 rfl rfl)
theorem dJ14_mismatch_47 : decode cJ14_mismatch 47 = .ok (.isub, 1) := dk_100 (dk_at dksJ14_mismatch_1 23 rfl rfl)
theorem dJ14_mismatch_48 : decode cJ14_mismatch 48 = .ok (.istore_n 3, 1) := dk_62 (dk_at dksJ14_mismatch_2 0 rfl rfl)
theorem dJ14_mismatch_49 : decode cJ14_mismatch 49 = .ok (.iload_n 3, 1) := dk_29 (dk_at dksJ14_mismatch_2 1 rfl rfl)
theorem dJ14_mismatch_50 : decode cJ14_mismatch 50 = .ok (.iload_n 2, 1) := dk_28 (dk_at dksJ14_mismatch_2 2 rfl rfl)
theorem dJ14_mismatch_51 : decode cJ14_mismatch 51 = .ok (.if_icmp .ge 20, 3) := dk_162 0 20 (dk_at dksJ14_mismatch_2 3 rfl rfl)
theorem dJ14_mismatch_54 : decode cJ14_mismatch 54 = .ok (.aload_n 0, 1) := dk_42 (dk_at dksJ14_mismatch_2 6 rfl rfl)
theorem dJ14_mismatch_55 : decode cJ14_mismatch 55 = .ok (.iload_n 3, 1) := dk_29 (dk_at dksJ14_mismatch_2 7 rfl rfl)
theorem dJ14_mismatch_56 : decode cJ14_mismatch 56 = .ok (.baload, 1) := dk_51 (dk_at dksJ14_mismatch_2 8 rfl rfl)
theorem dJ14_mismatch_57 : decode cJ14_mismatch 57 = .ok (.aload_n 1, 1) := dk_43 (dk_at dksJ14_mismatch_2 9 rfl rfl)
theorem dJ14_mismatch_58 : decode cJ14_mismatch 58 = .ok (.iload_n 3, 1) := dk_29 (dk_at dksJ14_mismatch_2 10 rfl rfl)
theorem dJ14_mismatch_59 : decode cJ14_mismatch 59 = .ok (.baload, 1) := dk_51 (dk_at dksJ14_mismatch_2 11 rfl rfl)
theorem dJ14_mismatch_60 : decode cJ14_mismatch 60 = .ok (.if_icmp .eq 5, 3) := dk_159 0 5 (dk_at dksJ14_mismatch_2 12 rfl rfl)
theorem dJ14_mismatch_63 : decode cJ14_mismatch 63 = .ok (.iload_n 3, 1) := dk_29 (dk_at dksJ14_mismatch_2 15 rfl rfl)
theorem dJ14_mismatch_64 : decode cJ14_mismatch 64 = .ok (.ireturn, 1) := dk_172 (dk_at dksJ14_mismatch_2 16 rfl rfl)
theorem dJ14_mismatch_65 : decode cJ14_mismatch 65 = .ok (.iinc 3 1, 3) := dk_132 3 1 (dk_at dksJ14_mismatch_2 17 rfl rfl)
theorem dJ14_mismatch_68 : decode cJ14_mismatch 68 = .ok (.goto (-19), 3) := dk_167 255 237 (dk_at dksJ14_mismatch_2 20 rfl rfl)
theorem dJ14_mismatch_71 : decode cJ14_mismatch 71 = .ok (.iconst (-1), 1) := dk_2 (dk_at dksJ14_mismatch_2 23 rfl rfl)
theorem dJ14_mismatch_72 : decode cJ14_mismatch 72 = .ok (.ireturn, 1) := dk_172 (dk_at dksJ14_mismatch_3 0 rfl rfl)
abbrev cJ14_vectorizedMismatch : ByteArray := prog_71_method_3_code
def yJ14_vectorizedMismatch : MethodName := ⟨RJ14, "vectorizedMismatch", "(Ljava/lang/Object;JLjava/lang/Object;JII)I"⟩
def dkwJ14_vectorizedMismatch_11 : List UInt8 := [54, 10, 21, 10, 2, 130, 172, 21, 10, 2, 130, 172]
abbrev dktJ14_vectorizedMismatch_11 : List UInt8 := dkwJ14_vectorizedMismatch_11 ++ []
def dkwJ14_vectorizedMismatch_10 : List UInt8 := [178, 0, 46, 21, 7, 96, 122, 54, 17, 21, 9, 21, 8, 120, 21, 17, 96, 172, 21, 10, 21, 11, 100]
abbrev dktJ14_vectorizedMismatch_10 : List UInt8 := dkwJ14_vectorizedMismatch_10 ++ dktJ14_vectorizedMismatch_11
def dkwJ14_vectorizedMismatch_9 : List UInt8 := [153, 0, 18, 21, 16, 184, 0, 58, 178, 0, 46, 21, 7, 96, 122, 167, 0, 15, 21, 16, 184, 0, 11]
abbrev dktJ14_vectorizedMismatch_9 : List UInt8 := dkwJ14_vectorizedMismatch_9 ++ dktJ14_vectorizedMismatch_10
def dkwJ14_vectorizedMismatch_8 : List UInt8 := [182, 0, 54, 54, 15, 21, 14, 21, 15, 159, 0, 54, 21, 14, 21, 15, 130, 54, 16, 178, 0, 36]
abbrev dktJ14_vectorizedMismatch_8 : List UInt8 := dkwJ14_vectorizedMismatch_8 ++ dktJ14_vectorizedMismatch_9
def dkwJ14_vectorizedMismatch_7 : List UInt8 := [55, 12, 178, 0, 26, 42, 31, 22, 12, 97, 182, 0, 54, 54, 14, 178, 0, 26, 45, 22, 4, 22, 12, 97]
abbrev dktJ14_vectorizedMismatch_7 : List UInt8 := dkwJ14_vectorizedMismatch_7 ++ dktJ14_vectorizedMismatch_8
def dkwJ14_vectorizedMismatch_6 : List UInt8 := [4, 178, 0, 51, 21, 7, 100, 120, 54, 11, 21, 10, 21, 11, 161, 0, 104, 21, 9, 133, 178, 0, 20, 121]
abbrev dktJ14_vectorizedMismatch_6 : List UInt8 := dkwJ14_vectorizedMismatch_6 ++ dktJ14_vectorizedMismatch_7
def dkwJ14_vectorizedMismatch_5 : List UInt8 := [132, 9, 1, 167, 255, 148, 21, 6, 21, 9, 21, 8, 120, 100, 54, 10, 21, 7, 178, 0, 51, 162, 0, 126]
abbrev dktJ14_vectorizedMismatch_5 : List UInt8 := dkwJ14_vectorizedMismatch_5 ++ dktJ14_vectorizedMismatch_6
def dkwJ14_vectorizedMismatch_4 : List UInt8 := [22, 16, 184, 0, 49, 178, 0, 46, 21, 7, 96, 122, 54, 18, 21, 9, 21, 8, 120, 21, 18, 96, 172]
abbrev dktJ14_vectorizedMismatch_4 : List UInt8 := dkwJ14_vectorizedMismatch_4 ++ dktJ14_vectorizedMismatch_5
def dkwJ14_vectorizedMismatch_3 : List UInt8 := [55, 16, 178, 0, 36, 153, 0, 18, 22, 16, 184, 0, 40, 178, 0, 46, 21, 7, 96, 122, 167, 0, 15]
abbrev dktJ14_vectorizedMismatch_3 : List UInt8 := dkwJ14_vectorizedMismatch_3 ++ dktJ14_vectorizedMismatch_4
def dkwJ14_vectorizedMismatch_2 : List UInt8 := [22, 4, 22, 10, 97, 182, 0, 30, 55, 14, 22, 12, 22, 14, 148, 153, 0, 54, 22, 12, 22, 14, 131]
abbrev dktJ14_vectorizedMismatch_2 : List UInt8 := dkwJ14_vectorizedMismatch_2 ++ dktJ14_vectorizedMismatch_3
def dkwJ14_vectorizedMismatch_1 : List UInt8 := [178, 0, 20, 121, 55, 10, 178, 0, 26, 42, 31, 22, 10, 97, 182, 0, 30, 55, 12, 178, 0, 26, 45]
abbrev dktJ14_vectorizedMismatch_1 : List UInt8 := dkwJ14_vectorizedMismatch_1 ++ dktJ14_vectorizedMismatch_2
def dkwJ14_vectorizedMismatch_0 : List UInt8 := [178, 0, 20, 21, 7, 100, 54, 8, 3, 54, 9, 21, 9, 21, 6, 21, 8, 122, 162, 0, 104, 21, 9, 133]
abbrev dktJ14_vectorizedMismatch_0 : List UInt8 := dkwJ14_vectorizedMismatch_0 ++ dktJ14_vectorizedMismatch_1
theorem dksJ14_vectorizedMismatch_0 : cJ14_vectorizedMismatch.data.toList.drop 0 = dktJ14_vectorizedMismatch_0 := by decide +kernel
theorem dksJ14_vectorizedMismatch_1 : cJ14_vectorizedMismatch.data.toList.drop 24 = dktJ14_vectorizedMismatch_1 := dk_seg dksJ14_vectorizedMismatch_0 24 rfl rfl
theorem dksJ14_vectorizedMismatch_2 : cJ14_vectorizedMismatch.data.toList.drop 47 = dktJ14_vectorizedMismatch_2 := dk_seg dksJ14_vectorizedMismatch_1 23 rfl rfl
theorem dksJ14_vectorizedMismatch_3 : cJ14_vectorizedMismatch.data.toList.drop 70 = dktJ14_vectorizedMismatch_3 := dk_seg dksJ14_vectorizedMismatch_2 23 rfl rfl
theorem dksJ14_vectorizedMismatch_4 : cJ14_vectorizedMismatch.data.toList.drop 93 = dktJ14_vectorizedMismatch_4 := dk_seg dksJ14_vectorizedMismatch_3 23 rfl rfl
theorem dksJ14_vectorizedMismatch_5 : cJ14_vectorizedMismatch.data.toList.drop 116 = dktJ14_vectorizedMismatch_5 := dk_seg dksJ14_vectorizedMismatch_4 23 rfl rfl
theorem dksJ14_vectorizedMismatch_6 : cJ14_vectorizedMismatch.data.toList.drop 140 = dktJ14_vectorizedMismatch_6 := dk_seg dksJ14_vectorizedMismatch_5 24 rfl rfl
theorem dksJ14_vectorizedMismatch_7 : cJ14_vectorizedMismatch.data.toList.drop 164 = dktJ14_vectorizedMismatch_7 := dk_seg dksJ14_vectorizedMismatch_6 24 rfl rfl
theorem dksJ14_vectorizedMismatch_8 : cJ14_vectorizedMismatch.data.toList.drop 188 = dktJ14_vectorizedMismatch_8 := dk_seg dksJ14_vectorizedMismatch_7 24 rfl rfl
theorem dksJ14_vectorizedMismatch_9 : cJ14_vectorizedMismatch.data.toList.drop 210 = dktJ14_vectorizedMismatch_9 := dk_seg dksJ14_vectorizedMismatch_8 22 rfl rfl
theorem dksJ14_vectorizedMismatch_10 : cJ14_vectorizedMismatch.data.toList.drop 233 = dktJ14_vectorizedMismatch_10 := dk_seg dksJ14_vectorizedMismatch_9 23 rfl rfl
theorem dksJ14_vectorizedMismatch_11 : cJ14_vectorizedMismatch.data.toList.drop 256 = dktJ14_vectorizedMismatch_11 := dk_seg dksJ14_vectorizedMismatch_10 23 rfl rfl
theorem dJ14_vectorizedMismatch_0 : decode cJ14_vectorizedMismatch 0 = .ok (.getstatic 20, 3) := dk_178 0 20 (dk_at dksJ14_vectorizedMismatch_0 0 rfl rfl)
theorem dJ14_vectorizedMismatch_3 : decode cJ14_vectorizedMismatch 3 = .ok (.iload 7, 2) := dk_21 7 (dk_at dksJ14_vectorizedMismatch_0 3 rfl rfl)
theorem dJ14_vectorizedMismatch_5 : decode cJ14_vectorizedMismatch 5 = .ok (.isub, 1) := dk_100 (dk_at dksJ14_vectorizedMismatch_0 5 rfl rfl)
theorem dJ14_vectorizedMismatch_6 : decode cJ14_vectorizedMismatch 6 = .ok (.istore 8, 2) := dk_54 8 (dk_at dksJ14_vectorizedMismatch_0 6 rfl rfl)
theorem dJ14_vectorizedMismatch_8 : decode cJ14_vectorizedMismatch 8 = .ok (.iconst 0, 1) := dk_3 (dk_at dksJ14_vectorizedMismatch_0 8 rfl rfl)
theorem dJ14_vectorizedMismatch_9 : decode cJ14_vectorizedMismatch 9 = .ok (.istore 9, 2) := dk_54 9 (dk_at dksJ14_vectorizedMismatch_0 9 rfl rfl)
theorem dJ14_vectorizedMismatch_11 : decode cJ14_vectorizedMismatch 11 = .ok (.iload 9, 2) := dk_21 9 (dk_at dksJ14_vectorizedMismatch_0 11 rfl rfl)
theorem dJ14_vectorizedMismatch_13 : decode cJ14_vectorizedMismatch 13 = .ok (.iload 6, 2) := dk_21 6 (dk_at dksJ14_vectorizedMismatch_0 13 rfl rfl)
theorem dJ14_vectorizedMismatch_15 : decode cJ14_vectorizedMismatch 15 = .ok (.iload 8, 2) := dk_21 8 (dk_at dksJ14_vectorizedMismatch_0 15 rfl rfl)
theorem dJ14_vectorizedMismatch_17 : decode cJ14_vectorizedMismatch 17 = .ok (.ishr, 1) := dk_122 (dk_at dksJ14_vectorizedMismatch_0 17 rfl rfl)
theorem dJ14_vectorizedMismatch_18 : decode cJ14_vectorizedMismatch 18 = .ok (.if_icmp .ge 104, 3) := dk_162 0 104 (dk_at dksJ14_vectorizedMismatch_0 18 rfl rfl)
theorem dJ14_vectorizedMismatch_21 : decode cJ14_vectorizedMismatch 21 = .ok (.iload 9, 2) := dk_21 9 (dk_at dksJ14_vectorizedMismatch_0 21 rfl rfl)
theorem dJ14_vectorizedMismatch_23 : decode cJ14_vectorizedMismatch 23 = .ok (.i2l, 1) := dk_133 (dk_at dksJ14_vectorizedMismatch_0 23 rfl rfl)
theorem dJ14_vectorizedMismatch_24 : decode cJ14_vectorizedMismatch 24 = .ok (.getstatic 20, 3) := dk_178 0 20 (dk_at dksJ14_vectorizedMismatch_1 0 rfl rfl)
theorem dJ14_vectorizedMismatch_27 : decode cJ14_vectorizedMismatch 27 = .ok (.lshl, 1) := dk_121 (dk_at dksJ14_vectorizedMismatch_1 3 rfl rfl)
theorem dJ14_vectorizedMismatch_28 : decode cJ14_vectorizedMismatch 28 = .ok (.lstore 10, 2) := dk_55 10 (dk_at dksJ14_vectorizedMismatch_1 4 rfl rfl)
theorem dJ14_vectorizedMismatch_30 : decode cJ14_vectorizedMismatch 30 = .ok (.getstatic 26, 3) := dk_178 0 26 (dk_at dksJ14_vectorizedMismatch_1 6 rfl rfl)
theorem dJ14_vectorizedMismatch_33 : decode cJ14_vectorizedMismatch 33 = .ok (.aload_n 0, 1) := dk_42 (dk_at dksJ14_vectorizedMismatch_1 9 rfl rfl)
theorem dJ14_vectorizedMismatch_34 : decode cJ14_vectorizedMismatch 34 = .ok (.lload_n 1, 1) := dk_31 (dk_at dksJ14_vectorizedMismatch_1 10 rfl rfl)
theorem dJ14_vectorizedMismatch_35 : decode cJ14_vectorizedMismatch 35 = .ok (.lload 10, 2) := dk_22 10 (dk_at dksJ14_vectorizedMismatch_1 11 rfl rfl)
theorem dJ14_vectorizedMismatch_37 : decode cJ14_vectorizedMismatch 37 = .ok (.ladd, 1) := dk_97 (dk_at dksJ14_vectorizedMismatch_1 13 rfl rfl)
theorem dJ14_vectorizedMismatch_38 : decode cJ14_vectorizedMismatch 38 = .ok (.invokevirtual 30, 3) := dk_182 0 30 (dk_at dksJ14_vectorizedMismatch_1 14 rfl rfl)
theorem dJ14_vectorizedMismatch_41 : decode cJ14_vectorizedMismatch 41 = .ok (.lstore 12, 2) := dk_55 12 (dk_at dksJ14_vectorizedMismatch_1 17 rfl rfl)
theorem dJ14_vectorizedMismatch_43 : decode cJ14_vectorizedMismatch 43 = .ok (.getstatic 26, 3) := dk_178 0 26 (dk_at dksJ14_vectorizedMismatch_1 19 rfl rfl)
theorem dJ14_vectorizedMismatch_46 : decode cJ14_vectorizedMismatch 46 = .ok (.aload_n 3, 1) := dk_45 (dk_at dksJ14_vectorizedMismatch_1 22 rfl rfl)
theorem dJ14_vectorizedMismatch_47 : decode cJ14_vectorizedMismatch 47 = .ok (.lload 4, 2) := dk_22 4 (dk_at dksJ14_vectorizedMismatch_2 0 rfl rfl)
theorem dJ14_vectorizedMismatch_49 : decode cJ14_vectorizedMismatch 49 = .ok (.lload 10, 2) := dk_22 10 (dk_at dksJ14_vectorizedMismatch_2 2 rfl rfl)
theorem dJ14_vectorizedMismatch_51 : decode cJ14_vectorizedMismatch 51 = .ok (.ladd, 1) := dk_97 (dk_at dksJ14_vectorizedMismatch_2 4 rfl rfl)
theorem dJ14_vectorizedMismatch_52 : decode cJ14_vectorizedMismatch 52 = .ok (.invokevirtual 30, 3) := dk_182 0 30 (dk_at dksJ14_vectorizedMismatch_2 5 rfl rfl)
theorem dJ14_vectorizedMismatch_55 : decode cJ14_vectorizedMismatch 55 = .ok (.lstore 14, 2) := dk_55 14 (dk_at dksJ14_vectorizedMismatch_2 8 rfl rfl)
theorem dJ14_vectorizedMismatch_57 : decode cJ14_vectorizedMismatch 57 = .ok (.lload 12, 2) := dk_22 12 (dk_at dksJ14_vectorizedMismatch_2 10 rfl rfl)
theorem dJ14_vectorizedMismatch_59 : decode cJ14_vectorizedMismatch 59 = .ok (.lload 14, 2) := dk_22 14 (dk_at dksJ14_vectorizedMismatch_2 12 rfl rfl)
theorem dJ14_vectorizedMismatch_61 : decode cJ14_vectorizedMismatch 61 = .ok (.lcmp, 1) := dk_148 (dk_at dksJ14_vectorizedMismatch_2 14 rfl rfl)
theorem dJ14_vectorizedMismatch_62 : decode cJ14_vectorizedMismatch 62 = .ok (.ifCond .eq 54, 3) := dk_153 0 54 (dk_at dksJ14_vectorizedMismatch_2 15 rfl rfl)
theorem dJ14_vectorizedMismatch_65 : decode cJ14_vectorizedMismatch 65 = .ok (.lload 12, 2) := dk_22 12 (dk_at dksJ14_vectorizedMismatch_2 18 rfl rfl)
theorem dJ14_vectorizedMismatch_67 : decode cJ14_vectorizedMismatch 67 = .ok (.lload 14, 2) := dk_22 14 (dk_at dksJ14_vectorizedMismatch_2 20 rfl rfl)
theorem dJ14_vectorizedMismatch_69 : decode cJ14_vectorizedMismatch 69 = .ok (.lxor, 1) := dk_131 (dk_at dksJ14_vectorizedMismatch_2 22 rfl rfl)
theorem dJ14_vectorizedMismatch_70 : decode cJ14_vectorizedMismatch 70 = .ok (.lstore 16, 2) := dk_55 16 (dk_at dksJ14_vectorizedMismatch_3 0 rfl rfl)
theorem dJ14_vectorizedMismatch_72 : decode cJ14_vectorizedMismatch 72 = .ok (.getstatic 36, 3) := dk_178 0 36 (dk_at dksJ14_vectorizedMismatch_3 2 rfl rfl)
theorem dJ14_vectorizedMismatch_75 : decode cJ14_vectorizedMismatch 75 = .ok (.ifCond .eq 18, 3) := dk_153 0 18 (dk_at dksJ14_vectorizedMismatch_3 5 rfl rfl)
theorem dJ14_vectorizedMismatch_78 : decode cJ14_vectorizedMismatch 78 = .ok (.lload 16, 2) := dk_22 16 (dk_at dksJ14_vectorizedMismatch_3 8 rfl rfl)
theorem dJ14_vectorizedMismatch_80 : decode cJ14_vectorizedMismatch 80 = .ok (.invokestatic 40, 3) := dk_184 0 40 (dk_at dksJ14_vectorizedMismatch_3 10 rfl rfl)
theorem dJ14_vectorizedMismatch_83 : decode cJ14_vectorizedMismatch 83 = .ok (.getstatic 46, 3) := dk_178 0 46 (dk_at dksJ14_vectorizedMismatch_3 13 rfl rfl)
theorem dJ14_vectorizedMismatch_86 : decode cJ14_vectorizedMismatch 86 = .ok (.iload 7, 2) := dk_21 7 (dk_at dksJ14_vectorizedMismatch_3 16 rfl rfl)
theorem dJ14_vectorizedMismatch_88 : decode cJ14_vectorizedMismatch 88 = .ok (.iadd, 1) := dk_96 (dk_at dksJ14_vectorizedMismatch_3 18 rfl rfl)
theorem dJ14_vectorizedMismatch_89 : decode cJ14_vectorizedMismatch 89 = .ok (.ishr, 1) := dk_122 (dk_at dksJ14_vectorizedMismatch_3 19 rfl rfl)
theorem dJ14_vectorizedMismatch_90 : decode cJ14_vectorizedMismatch 90 = .ok (.goto 15, 3) := dk_167 0 15 (dk_at dksJ14_vectorizedMismatch_3 20 rfl rfl)
theorem dJ14_vectorizedMismatch_93 : decode cJ14_vectorizedMismatch 93 = .ok (.lload 16, 2) := dk_22 16 (dk_at dksJ14_vectorizedMismatch_4 0 rfl rfl)
theorem dJ14_vectorizedMismatch_95 : decode cJ14_vectorizedMismatch 95 = .ok (.invokestatic 49, 3) := dk_184 0 49 (dk_at dksJ14_vectorizedMismatch_4 2 rfl rfl)
theorem dJ14_vectorizedMismatch_98 : decode cJ14_vectorizedMismatch 98 = .ok (.getstatic 46, 3) := dk_178 0 46 (dk_at dksJ14_vectorizedMismatch_4 5 rfl rfl)
theorem dJ14_vectorizedMismatch_101 : decode cJ14_vectorizedMismatch 101 = .ok (.iload 7, 2) := dk_21 7 (dk_at dksJ14_vectorizedMismatch_4 8 rfl rfl)
theorem dJ14_vectorizedMismatch_103 : decode cJ14_vectorizedMismatch 103 = .ok (.iadd, 1) := dk_96 (dk_at dksJ14_vectorizedMismatch_4 10 rfl rfl)
theorem dJ14_vectorizedMismatch_104 : decode cJ14_vectorizedMismatch 104 = .ok (.ishr, 1) := dk_122 (dk_at dksJ14_vectorizedMismatch_4 11 rfl rfl)
theorem dJ14_vectorizedMismatch_105 : decode cJ14_vectorizedMismatch 105 = .ok (.istore 18, 2) := dk_54 18 (dk_at dksJ14_vectorizedMismatch_4 12 rfl rfl)
theorem dJ14_vectorizedMismatch_107 : decode cJ14_vectorizedMismatch 107 = .ok (.iload 9, 2) := dk_21 9 (dk_at dksJ14_vectorizedMismatch_4 14 rfl rfl)
theorem dJ14_vectorizedMismatch_109 : decode cJ14_vectorizedMismatch 109 = .ok (.iload 8, 2) := dk_21 8 (dk_at dksJ14_vectorizedMismatch_4 16 rfl rfl)
theorem dJ14_vectorizedMismatch_111 : decode cJ14_vectorizedMismatch 111 = .ok (.ishl, 1) := dk_120 (dk_at dksJ14_vectorizedMismatch_4 18 rfl rfl)
theorem dJ14_vectorizedMismatch_112 : decode cJ14_vectorizedMismatch 112 = .ok (.iload 18, 2) := dk_21 18 (dk_at dksJ14_vectorizedMismatch_4 19 rfl rfl)
theorem dJ14_vectorizedMismatch_114 : decode cJ14_vectorizedMismatch 114 = .ok (.iadd, 1) := dk_96 (dk_at dksJ14_vectorizedMismatch_4 21 rfl rfl)
theorem dJ14_vectorizedMismatch_115 : decode cJ14_vectorizedMismatch 115 = .ok (.ireturn, 1) := dk_172 (dk_at dksJ14_vectorizedMismatch_4 22 rfl rfl)
theorem dJ14_vectorizedMismatch_116 : decode cJ14_vectorizedMismatch 116 = .ok (.iinc 9 1, 3) := dk_132 9 1 (dk_at dksJ14_vectorizedMismatch_5 0 rfl rfl)
theorem dJ14_vectorizedMismatch_119 : decode cJ14_vectorizedMismatch 119 = .ok (.goto (-108), 3) := dk_167 255 148 (dk_at dksJ14_vectorizedMismatch_5 3 rfl rfl)
theorem dJ14_vectorizedMismatch_122 : decode cJ14_vectorizedMismatch 122 = .ok (.iload 6, 2) := dk_21 6 (dk_at dksJ14_vectorizedMismatch_5 6 rfl rfl)
theorem dJ14_vectorizedMismatch_124 : decode cJ14_vectorizedMismatch 124 = .ok (.iload 9, 2) := dk_21 9 (dk_at dksJ14_vectorizedMismatch_5 8 rfl rfl)
theorem dJ14_vectorizedMismatch_126 : decode cJ14_vectorizedMismatch 126 = .ok (.iload 8, 2) := dk_21 8 (dk_at dksJ14_vectorizedMismatch_5 10 rfl rfl)
theorem dJ14_vectorizedMismatch_128 : decode cJ14_vectorizedMismatch 128 = .ok (.ishl, 1) := dk_120 (dk_at dksJ14_vectorizedMismatch_5 12 rfl rfl)
theorem dJ14_vectorizedMismatch_129 : decode cJ14_vectorizedMismatch 129 = .ok (.isub, 1) := dk_100 (dk_at dksJ14_vectorizedMismatch_5 13 rfl rfl)
theorem dJ14_vectorizedMismatch_130 : decode cJ14_vectorizedMismatch 130 = .ok (.istore 10, 2) := dk_54 10 (dk_at dksJ14_vectorizedMismatch_5 14 rfl rfl)
theorem dJ14_vectorizedMismatch_132 : decode cJ14_vectorizedMismatch 132 = .ok (.iload 7, 2) := dk_21 7 (dk_at dksJ14_vectorizedMismatch_5 16 rfl rfl)
theorem dJ14_vectorizedMismatch_134 : decode cJ14_vectorizedMismatch 134 = .ok (.getstatic 51, 3) := dk_178 0 51 (dk_at dksJ14_vectorizedMismatch_5 18 rfl rfl)
theorem dJ14_vectorizedMismatch_137 : decode cJ14_vectorizedMismatch 137 = .ok (.if_icmp .ge 126, 3) := dk_162 0 126 (dk_at dksJ14_vectorizedMismatch_5 21 rfl rfl)
theorem dJ14_vectorizedMismatch_140 : decode cJ14_vectorizedMismatch 140 = .ok (.iconst 1, 1) := dk_4 (dk_at dksJ14_vectorizedMismatch_6 0 rfl rfl)
theorem dJ14_vectorizedMismatch_141 : decode cJ14_vectorizedMismatch 141 = .ok (.getstatic 51, 3) := dk_178 0 51 (dk_at dksJ14_vectorizedMismatch_6 1 rfl rfl)
theorem dJ14_vectorizedMismatch_144 : decode cJ14_vectorizedMismatch 144 = .ok (.iload 7, 2) := dk_21 7 (dk_at dksJ14_vectorizedMismatch_6 4 rfl rfl)
theorem dJ14_vectorizedMismatch_146 : decode cJ14_vectorizedMismatch 146 = .ok (.isub, 1) := dk_100 (dk_at dksJ14_vectorizedMismatch_6 6 rfl rfl)
theorem dJ14_vectorizedMismatch_147 : decode cJ14_vectorizedMismatch 147 = .ok (.ishl, 1) := dk_120 (dk_at dksJ14_vectorizedMismatch_6 7 rfl rfl)
theorem dJ14_vectorizedMismatch_148 : decode cJ14_vectorizedMismatch 148 = .ok (.istore 11, 2) := dk_54 11 (dk_at dksJ14_vectorizedMismatch_6 8 rfl rfl)
theorem dJ14_vectorizedMismatch_150 : decode cJ14_vectorizedMismatch 150 = .ok (.iload 10, 2) := dk_21 10 (dk_at dksJ14_vectorizedMismatch_6 10 rfl rfl)
theorem dJ14_vectorizedMismatch_152 : decode cJ14_vectorizedMismatch 152 = .ok (.iload 11, 2) := dk_21 11 (dk_at dksJ14_vectorizedMismatch_6 12 rfl rfl)
theorem dJ14_vectorizedMismatch_154 : decode cJ14_vectorizedMismatch 154 = .ok (.if_icmp .lt 104, 3) := dk_161 0 104 (dk_at dksJ14_vectorizedMismatch_6 14 rfl rfl)
theorem dJ14_vectorizedMismatch_157 : decode cJ14_vectorizedMismatch 157 = .ok (.iload 9, 2) := dk_21 9 (dk_at dksJ14_vectorizedMismatch_6 17 rfl rfl)
theorem dJ14_vectorizedMismatch_159 : decode cJ14_vectorizedMismatch 159 = .ok (.i2l, 1) := dk_133 (dk_at dksJ14_vectorizedMismatch_6 19 rfl rfl)
theorem dJ14_vectorizedMismatch_160 : decode cJ14_vectorizedMismatch 160 = .ok (.getstatic 20, 3) := dk_178 0 20 (dk_at dksJ14_vectorizedMismatch_6 20 rfl rfl)
theorem dJ14_vectorizedMismatch_163 : decode cJ14_vectorizedMismatch 163 = .ok (.lshl, 1) := dk_121 (dk_at dksJ14_vectorizedMismatch_6 23 rfl rfl)
theorem dJ14_vectorizedMismatch_164 : decode cJ14_vectorizedMismatch 164 = .ok (.lstore 12, 2) := dk_55 12 (dk_at dksJ14_vectorizedMismatch_7 0 rfl rfl)
theorem dJ14_vectorizedMismatch_166 : decode cJ14_vectorizedMismatch 166 = .ok (.getstatic 26, 3) := dk_178 0 26 (dk_at dksJ14_vectorizedMismatch_7 2 rfl rfl)
theorem dJ14_vectorizedMismatch_169 : decode cJ14_vectorizedMismatch 169 = .ok (.aload_n 0, 1) := dk_42 (dk_at dksJ14_vectorizedMismatch_7 5 rfl rfl)
theorem dJ14_vectorizedMismatch_170 : decode cJ14_vectorizedMismatch 170 = .ok (.lload_n 1, 1) := dk_31 (dk_at dksJ14_vectorizedMismatch_7 6 rfl rfl)
theorem dJ14_vectorizedMismatch_171 : decode cJ14_vectorizedMismatch 171 = .ok (.lload 12, 2) := dk_22 12 (dk_at dksJ14_vectorizedMismatch_7 7 rfl rfl)
theorem dJ14_vectorizedMismatch_173 : decode cJ14_vectorizedMismatch 173 = .ok (.ladd, 1) := dk_97 (dk_at dksJ14_vectorizedMismatch_7 9 rfl rfl)
theorem dJ14_vectorizedMismatch_174 : decode cJ14_vectorizedMismatch 174 = .ok (.invokevirtual 54, 3) := dk_182 0 54 (dk_at dksJ14_vectorizedMismatch_7 10 rfl rfl)
theorem dJ14_vectorizedMismatch_177 : decode cJ14_vectorizedMismatch 177 = .ok (.istore 14, 2) := dk_54 14 (dk_at dksJ14_vectorizedMismatch_7 13 rfl rfl)
theorem dJ14_vectorizedMismatch_179 : decode cJ14_vectorizedMismatch 179 = .ok (.getstatic 26, 3) := dk_178 0 26 (dk_at dksJ14_vectorizedMismatch_7 15 rfl rfl)
theorem dJ14_vectorizedMismatch_182 : decode cJ14_vectorizedMismatch 182 = .ok (.aload_n 3, 1) := dk_45 (dk_at dksJ14_vectorizedMismatch_7 18 rfl rfl)
theorem dJ14_vectorizedMismatch_183 : decode cJ14_vectorizedMismatch 183 = .ok (.lload 4, 2) := dk_22 4 (dk_at dksJ14_vectorizedMismatch_7 19 rfl rfl)
theorem dJ14_vectorizedMismatch_185 : decode cJ14_vectorizedMismatch 185 = .ok (.lload 12, 2) := dk_22 12 (dk_at dksJ14_vectorizedMismatch_7 21 rfl rfl)
theorem dJ14_vectorizedMismatch_187 : decode cJ14_vectorizedMismatch 187 = .ok (.ladd, 1) := dk_97 (dk_at dksJ14_vectorizedMismatch_7 23 rfl rfl)
theorem dJ14_vectorizedMismatch_188 : decode cJ14_vectorizedMismatch 188 = .ok (.invokevirtual 54, 3) := dk_182 0 54 (dk_at dksJ14_vectorizedMismatch_8 0 rfl rfl)
theorem dJ14_vectorizedMismatch_191 : decode cJ14_vectorizedMismatch 191 = .ok (.istore 15, 2) := dk_54 15 (dk_at dksJ14_vectorizedMismatch_8 3 rfl rfl)
theorem dJ14_vectorizedMismatch_193 : decode cJ14_vectorizedMismatch 193 = .ok (.iload 14, 2) := dk_21 14 (dk_at dksJ14_vectorizedMismatch_8 5 rfl rfl)
theorem dJ14_vectorizedMismatch_195 : decode cJ14_vectorizedMismatch 195 = .ok (.iload 15, 2) := dk_21 15 (dk_at dksJ14_vectorizedMismatch_8 7 rfl rfl)
theorem dJ14_vectorizedMismatch_197 : decode cJ14_vectorizedMismatch 197 = .ok (.if_icmp .eq 54, 3) := dk_159 0 54 (dk_at dksJ14_vectorizedMismatch_8 9 rfl rfl)
theorem dJ14_vectorizedMismatch_200 : decode cJ14_vectorizedMismatch 200 = .ok (.iload 14, 2) := dk_21 14 (dk_at dksJ14_vectorizedMismatch_8 12 rfl rfl)
theorem dJ14_vectorizedMismatch_202 : decode cJ14_vectorizedMismatch 202 = .ok (.iload 15, 2) := dk_21 15 (dk_at dksJ14_vectorizedMismatch_8 14 rfl rfl)
theorem dJ14_vectorizedMismatch_204 : decode cJ14_vectorizedMismatch 204 = .ok (.ixor, 1) := dk_130 (dk_at dksJ14_vectorizedMismatch_8 16 rfl rfl)
theorem dJ14_vectorizedMismatch_205 : decode cJ14_vectorizedMismatch 205 = .ok (.istore 16, 2) := dk_54 16 (dk_at dksJ14_vectorizedMismatch_8 17 rfl rfl)
theorem dJ14_vectorizedMismatch_207 : decode cJ14_vectorizedMismatch 207 = .ok (.getstatic 36, 3) := dk_178 0 36 (dk_at dksJ14_vectorizedMismatch_8 19 rfl rfl)
theorem dJ14_vectorizedMismatch_210 : decode cJ14_vectorizedMismatch 210 = .ok (.ifCond .eq 18, 3) := dk_153 0 18 (dk_at dksJ14_vectorizedMismatch_9 0 rfl rfl)
theorem dJ14_vectorizedMismatch_213 : decode cJ14_vectorizedMismatch 213 = .ok (.iload 16, 2) := dk_21 16 (dk_at dksJ14_vectorizedMismatch_9 3 rfl rfl)
theorem dJ14_vectorizedMismatch_215 : decode cJ14_vectorizedMismatch 215 = .ok (.invokestatic 58, 3) := dk_184 0 58 (dk_at dksJ14_vectorizedMismatch_9 5 rfl rfl)
theorem dJ14_vectorizedMismatch_218 : decode cJ14_vectorizedMismatch 218 = .ok (.getstatic 46, 3) := dk_178 0 46 (dk_at dksJ14_vectorizedMismatch_9 8 rfl rfl)
theorem dJ14_vectorizedMismatch_221 : decode cJ14_vectorizedMismatch 221 = .ok (.iload 7, 2) := dk_21 7 (dk_at dksJ14_vectorizedMismatch_9 11 rfl rfl)
theorem dJ14_vectorizedMismatch_223 : decode cJ14_vectorizedMismatch 223 = .ok (.iadd, 1) := dk_96 (dk_at dksJ14_vectorizedMismatch_9 13 rfl rfl)
theorem dJ14_vectorizedMismatch_224 : decode cJ14_vectorizedMismatch 224 = .ok (.ishr, 1) := dk_122 (dk_at dksJ14_vectorizedMismatch_9 14 rfl rfl)
theorem dJ14_vectorizedMismatch_225 : decode cJ14_vectorizedMismatch 225 = .ok (.goto 15, 3) := dk_167 0 15 (dk_at dksJ14_vectorizedMismatch_9 15 rfl rfl)
theorem dJ14_vectorizedMismatch_228 : decode cJ14_vectorizedMismatch 228 = .ok (.iload 16, 2) := dk_21 16 (dk_at dksJ14_vectorizedMismatch_9 18 rfl rfl)
theorem dJ14_vectorizedMismatch_230 : decode cJ14_vectorizedMismatch 230 = .ok (.invokestatic 11, 3) := dk_184 0 11 (dk_at dksJ14_vectorizedMismatch_9 20 rfl rfl)
theorem dJ14_vectorizedMismatch_233 : decode cJ14_vectorizedMismatch 233 = .ok (.getstatic 46, 3) := dk_178 0 46 (dk_at dksJ14_vectorizedMismatch_10 0 rfl rfl)
theorem dJ14_vectorizedMismatch_236 : decode cJ14_vectorizedMismatch 236 = .ok (.iload 7, 2) := dk_21 7 (dk_at dksJ14_vectorizedMismatch_10 3 rfl rfl)
theorem dJ14_vectorizedMismatch_238 : decode cJ14_vectorizedMismatch 238 = .ok (.iadd, 1) := dk_96 (dk_at dksJ14_vectorizedMismatch_10 5 rfl rfl)
theorem dJ14_vectorizedMismatch_239 : decode cJ14_vectorizedMismatch 239 = .ok (.ishr, 1) := dk_122 (dk_at dksJ14_vectorizedMismatch_10 6 rfl rfl)
theorem dJ14_vectorizedMismatch_240 : decode cJ14_vectorizedMismatch 240 = .ok (.istore 17, 2) := dk_54 17 (dk_at dksJ14_vectorizedMismatch_10 7 rfl rfl)
theorem dJ14_vectorizedMismatch_242 : decode cJ14_vectorizedMismatch 242 = .ok (.iload 9, 2) := dk_21 9 (dk_at dksJ14_vectorizedMismatch_10 9 rfl rfl)
theorem dJ14_vectorizedMismatch_244 : decode cJ14_vectorizedMismatch 244 = .ok (.iload 8, 2) := dk_21 8 (dk_at dksJ14_vectorizedMismatch_10 11 rfl rfl)
theorem dJ14_vectorizedMismatch_246 : decode cJ14_vectorizedMismatch 246 = .ok (.ishl, 1) := dk_120 (dk_at dksJ14_vectorizedMismatch_10 13 rfl rfl)
theorem dJ14_vectorizedMismatch_247 : decode cJ14_vectorizedMismatch 247 = .ok (.iload 17, 2) := dk_21 17 (dk_at dksJ14_vectorizedMismatch_10 14 rfl rfl)
theorem dJ14_vectorizedMismatch_249 : decode cJ14_vectorizedMismatch 249 = .ok (.iadd, 1) := dk_96 (dk_at dksJ14_vectorizedMismatch_10 16 rfl rfl)
theorem dJ14_vectorizedMismatch_250 : decode cJ14_vectorizedMismatch 250 = .ok (.ireturn, 1) := dk_172 (dk_at dksJ14_vectorizedMismatch_10 17 rfl rfl)
theorem dJ14_vectorizedMismatch_251 : decode cJ14_vectorizedMismatch 251 = .ok (.iload 10, 2) := dk_21 10 (dk_at dksJ14_vectorizedMismatch_10 18 rfl rfl)
theorem dJ14_vectorizedMismatch_253 : decode cJ14_vectorizedMismatch 253 = .ok (.iload 11, 2) := dk_21 11 (dk_at dksJ14_vectorizedMismatch_10 20 rfl rfl)
theorem dJ14_vectorizedMismatch_255 : decode cJ14_vectorizedMismatch 255 = .ok (.isub, 1) := dk_100 (dk_at dksJ14_vectorizedMismatch_10 22 rfl rfl)
theorem dJ14_vectorizedMismatch_256 : decode cJ14_vectorizedMismatch 256 = .ok (.istore 10, 2) := dk_54 10 (dk_at dksJ14_vectorizedMismatch_11 0 rfl rfl)
theorem dJ14_vectorizedMismatch_258 : decode cJ14_vectorizedMismatch 258 = .ok (.iload 10, 2) := dk_21 10 (dk_at dksJ14_vectorizedMismatch_11 2 rfl rfl)
theorem dJ14_vectorizedMismatch_260 : decode cJ14_vectorizedMismatch 260 = .ok (.iconst (-1), 1) := dk_2 (dk_at dksJ14_vectorizedMismatch_11 4 rfl rfl)
theorem dJ14_vectorizedMismatch_261 : decode cJ14_vectorizedMismatch 261 = .ok (.ixor, 1) := dk_130 (dk_at dksJ14_vectorizedMismatch_11 5 rfl rfl)
theorem dJ14_vectorizedMismatch_262 : decode cJ14_vectorizedMismatch 262 = .ok (.ireturn, 1) := dk_172 (dk_at dksJ14_vectorizedMismatch_11 6 rfl rfl)
theorem dJ14_vectorizedMismatch_263 : decode cJ14_vectorizedMismatch 263 = .ok (.iload 10, 2) := dk_21 10 (dk_at dksJ14_vectorizedMismatch_11 7 rfl rfl)
theorem dJ14_vectorizedMismatch_265 : decode cJ14_vectorizedMismatch 265 = .ok (.iconst (-1), 1) := dk_2 (dk_at dksJ14_vectorizedMismatch_11 9 rfl rfl)
theorem dJ14_vectorizedMismatch_266 : decode cJ14_vectorizedMismatch 266 = .ok (.ixor, 1) := dk_130 (dk_at dksJ14_vectorizedMismatch_11 10 rfl rfl)
theorem dJ14_vectorizedMismatch_267 : decode cJ14_vectorizedMismatch 267 = .ok (.ireturn, 1) := dk_172 (dk_at dksJ14_vectorizedMismatch_11 11 rfl rfl)
theorem q119 : (Jvm.Cond.initialized "jdk/internal/util/ArraysSupport") ∈ lw_all := lw_g (lw_at lw_m1 24 rfl) rfl
theorem q681 : (Jvm.Cond.static ({ cls := "jdk/internal/util/ArraysSupport", name := "newLength", desc := "(III)I" } : Jvm.MethodName)) ∈ lw_all := lw_g (lw_at lw_m3 106 rfl) rfl
theorem q682 : (Jvm.Cond.code ({ cls := "jdk/internal/util/ArraysSupport", name := "newLength", desc := "(III)I" } : Jvm.MethodName) prog_71_method_27_code (4 : Nat) (Option.some Jvm.ClassFile.FieldType.int)) ∈ lw_all := lw_g (lw_at lw_m3 107 rfl) rfl
theorem q683 : (Jvm.Cond.methodLink "jdk/internal/util/ArraysSupport" (194 : Nat) ({ cls := "java/lang/Math", name := "max", desc := "(II)I" } : Jvm.MethodName)) ∈ lw_all := lw_g (lw_at lw_m3 108 rfl) rfl
theorem q686 : (Jvm.Cond.constant "jdk/internal/util/ArraysSupport" (200 : Nat) (2147483639 : Int32)) ∈ lw_all := lw_g (lw_at lw_m3 111 rfl) rfl
theorem q687 : (Jvm.Cond.methodLink "jdk/internal/util/ArraysSupport" (201 : Nat) ({ cls := "jdk/internal/util/ArraysSupport", name := "hugeLength", desc := "(II)I" } : Jvm.MethodName)) ∈ lw_all := lw_g (lw_at lw_m3 112 rfl) rfl
theorem q688 : (Jvm.Cond.static ({ cls := "jdk/internal/util/ArraysSupport", name := "hugeLength", desc := "(II)I" } : Jvm.MethodName)) ∈ lw_all := lw_g (lw_at lw_m3 113 rfl) rfl
theorem q689 : (Jvm.Cond.code ({ cls := "jdk/internal/util/ArraysSupport", name := "hugeLength", desc := "(II)I" } : Jvm.MethodName) prog_71_method_28_code (3 : Nat) (Option.some Jvm.ClassFile.FieldType.int)) ∈ lw_all := lw_g (lw_at lw_m3 114 rfl) rfl
theorem q1069 : (Jvm.Cond.static ({ cls := "jdk/internal/util/ArraysSupport", name := "mismatch", desc := "([B[BI)I" } : Jvm.MethodName)) ∈ lw_all := lw_g (lw_at lw_m5 14 rfl) rfl
theorem q1070 : (Jvm.Cond.code ({ cls := "jdk/internal/util/ArraysSupport", name := "mismatch", desc := "([B[BI)I" } : Jvm.MethodName) prog_71_method_13_code (4 : Nat) (Option.some Jvm.ClassFile.FieldType.int)) ∈ lw_all := lw_g (lw_at lw_m5 15 rfl) rfl
theorem q1071 : (Jvm.Cond.fieldLink "jdk/internal/util/ArraysSupport" (126 : Nat) "jdk/internal/misc/Unsafe" "ARRAY_BYTE_BASE_OFFSET" "I") ∈ lw_all := lw_g (lw_at lw_m5 16 rfl) rfl
theorem q1073 : (Jvm.Cond.fieldLink "jdk/internal/util/ArraysSupport" (129 : Nat) "jdk/internal/util/ArraysSupport" "LOG2_ARRAY_BYTE_INDEX_SCALE" "I") ∈ lw_all := lw_g (lw_at lw_m5 18 rfl) rfl
theorem q1074 : (Jvm.Cond.laysStatic "jdk/internal/util/ArraysSupport" "LOG2_ARRAY_BYTE_INDEX_SCALE" "I") ∈ lw_tbl := lw_at lw_m5 19 rfl
theorem q1075 : (Jvm.Cond.methodLink "jdk/internal/util/ArraysSupport" (122 : Nat) ({ cls := "jdk/internal/util/ArraysSupport", name := "vectorizedMismatch", desc := "(Ljava/lang/Object;JLjava/lang/Object;JII)I" } : Jvm.MethodName)) ∈ lw_all := lw_g (lw_at lw_m5 20 rfl) rfl
theorem q1076 : (Jvm.Cond.static ({ cls := "jdk/internal/util/ArraysSupport", name := "vectorizedMismatch", desc := "(Ljava/lang/Object;JLjava/lang/Object;JII)I" } : Jvm.MethodName)) ∈ lw_all := lw_g (lw_at lw_m5 21 rfl) rfl
theorem q1077 : (Jvm.Cond.code ({ cls := "jdk/internal/util/ArraysSupport", name := "vectorizedMismatch", desc := "(Ljava/lang/Object;JLjava/lang/Object;JII)I" } : Jvm.MethodName) prog_71_method_3_code (19 : Nat) (Option.some Jvm.ClassFile.FieldType.int)) ∈ lw_all := lw_g (lw_at lw_m5 22 rfl) rfl
theorem q1078 : (Jvm.Cond.fieldLink "jdk/internal/util/ArraysSupport" (20 : Nat) "jdk/internal/util/ArraysSupport" "LOG2_ARRAY_LONG_INDEX_SCALE" "I") ∈ lw_all := lw_g (lw_at lw_m5 23 rfl) rfl
theorem q1079 : (Jvm.Cond.laysStatic "jdk/internal/util/ArraysSupport" "LOG2_ARRAY_LONG_INDEX_SCALE" "I") ∈ lw_tbl := lw_at lw_m5 24 rfl
theorem q1080 : (Jvm.Cond.fieldLink "jdk/internal/util/ArraysSupport" (26 : Nat) "jdk/internal/util/ArraysSupport" "U" "Ljdk/internal/misc/Unsafe;") ∈ lw_all := lw_g (lw_at lw_m5 25 rfl) rfl
theorem q1081 : (Jvm.Cond.laysStatic "jdk/internal/util/ArraysSupport" "U" "Ljdk/internal/misc/Unsafe;") ∈ lw_tbl := lw_at lw_m5 26 rfl
theorem q1082 : (Jvm.Cond.methodLink "jdk/internal/util/ArraysSupport" (30 : Nat) ({ cls := "jdk/internal/misc/Unsafe", name := "getLongUnaligned", desc := "(Ljava/lang/Object;J)J" } : Jvm.MethodName)) ∈ lw_all := lw_g (lw_at lw_m5 27 rfl) rfl
theorem q1134 : (Jvm.Cond.fieldLink "jdk/internal/util/ArraysSupport" (36 : Nat) "jdk/internal/util/ArraysSupport" "BIG_ENDIAN" "Z") ∈ lw_all := lw_g (lw_at lw_m5 79 rfl) rfl
theorem q1135 : (Jvm.Cond.laysStatic "jdk/internal/util/ArraysSupport" "BIG_ENDIAN" "Z") ∈ lw_tbl := lw_at lw_m5 80 rfl
theorem q1136 : (Jvm.Cond.methodLink "jdk/internal/util/ArraysSupport" (40 : Nat) ({ cls := "java/lang/Long", name := "numberOfLeadingZeros", desc := "(J)I" } : Jvm.MethodName)) ∈ lw_all := lw_g (lw_at lw_m5 81 rfl) rfl
theorem q1143 : (Jvm.Cond.fieldLink "jdk/internal/util/ArraysSupport" (46 : Nat) "jdk/internal/util/ArraysSupport" "LOG2_BYTE_BIT_SIZE" "I") ∈ lw_all := lw_g (lw_at lw_m5 88 rfl) rfl
theorem q1144 : (Jvm.Cond.laysStatic "jdk/internal/util/ArraysSupport" "LOG2_BYTE_BIT_SIZE" "I") ∈ lw_tbl := lw_at lw_m5 89 rfl
theorem q1145 : (Jvm.Cond.methodLink "jdk/internal/util/ArraysSupport" (49 : Nat) ({ cls := "java/lang/Long", name := "numberOfTrailingZeros", desc := "(J)I" } : Jvm.MethodName)) ∈ lw_all := lw_g (lw_at lw_m5 90 rfl) rfl
theorem q1151 : (Jvm.Cond.fieldLink "jdk/internal/util/ArraysSupport" (51 : Nat) "jdk/internal/util/ArraysSupport" "LOG2_ARRAY_INT_INDEX_SCALE" "I") ∈ lw_all := lw_g (lw_at lw_m5 96 rfl) rfl
theorem q1152 : (Jvm.Cond.laysStatic "jdk/internal/util/ArraysSupport" "LOG2_ARRAY_INT_INDEX_SCALE" "I") ∈ lw_tbl := lw_at lw_m5 97 rfl
theorem q1153 : (Jvm.Cond.methodLink "jdk/internal/util/ArraysSupport" (54 : Nat) ({ cls := "jdk/internal/misc/Unsafe", name := "getIntUnaligned", desc := "(Ljava/lang/Object;J)I" } : Jvm.MethodName)) ∈ lw_all := lw_g (lw_at lw_m5 98 rfl) rfl
theorem q1170 : (Jvm.Cond.methodLink "jdk/internal/util/ArraysSupport" (58 : Nat) ({ cls := "java/lang/Integer", name := "numberOfLeadingZeros", desc := "(I)I" } : Jvm.MethodName)) ∈ lw_all := lw_g (lw_at lw_m5 115 rfl) rfl
theorem q1171 : (Jvm.Cond.methodLink "jdk/internal/util/ArraysSupport" (11 : Nat) ({ cls := "java/lang/Integer", name := "numberOfTrailingZeros", desc := "(I)I" } : Jvm.MethodName)) ∈ lw_all := lw_g (lw_at lw_m5 116 rfl) rfl
