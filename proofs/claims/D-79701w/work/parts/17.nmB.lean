set_option maxRecDepth 100000
abbrev cX1_init : ByteArray := prog_15_method_1_code
def yX1_init : MethodName := ⟨RX1, "<init>", "()V"⟩
def dkwX1_init_4 : List UInt8 := [79, 89, 16, 16, 17, 0, 180, 79, 89, 16, 17, 17, 11, 184, 79, 89, 16, 18, 3, 79, 183, 0, 3, 177]
abbrev dktX1_init_4 : List UInt8 := dkwX1_init_4 ++ []
def dkwX1_init_3 : List UInt8 := [89, 16, 12, 17, 7, 208, 79, 89, 16, 13, 5, 79, 89, 16, 14, 17, 1, 44, 79, 89, 16, 15, 16, 60]
abbrev dktX1_init_3 : List UInt8 := dkwX1_init_3 ++ dktX1_init_4
def dkwX1_init_2 : List UInt8 := [89, 16, 8, 7, 79, 89, 16, 9, 16, 60, 79, 89, 16, 10, 16, 20, 79, 89, 16, 11, 17, 1, 244, 79]
abbrev dktX1_init_2 : List UInt8 := dkwX1_init_2 ++ dktX1_init_3
def dkwX1_init_1 : List UInt8 := [16, 100, 79, 89, 7, 17, 1, 244, 79, 89, 8, 6, 79, 89, 16, 6, 8, 79, 89, 16, 7, 16, 60, 79]
abbrev dktX1_init_1 : List UInt8 := dkwX1_init_1 ++ dktX1_init_2
def dkwX1_init_0 : List UInt8 := [42, 16, 19, 188, 10, 89, 3, 17, 1, 144, 79, 89, 4, 16, 20, 79, 89, 5, 16, 20, 79, 89, 6]
abbrev dktX1_init_0 : List UInt8 := dkwX1_init_0 ++ dktX1_init_1
theorem dksX1_init_0 : cX1_init.data.toList.drop 0 = dktX1_init_0 := by decide +kernel
theorem dksX1_init_1 : cX1_init.data.toList.drop 23 = dktX1_init_1 := dk_seg dksX1_init_0 23 rfl rfl
theorem dksX1_init_2 : cX1_init.data.toList.drop 47 = dktX1_init_2 := dk_seg dksX1_init_1 24 rfl rfl
theorem dksX1_init_3 : cX1_init.data.toList.drop 71 = dktX1_init_3 := dk_seg dksX1_init_2 24 rfl rfl
theorem dksX1_init_4 : cX1_init.data.toList.drop 95 = dktX1_init_4 := dk_seg dksX1_init_3 24 rfl rfl
theorem dX1_init_0 : decode cX1_init 0 = .ok (.aload_n 0, 1) := dk_42 (dk_at dksX1_init_0 0 rfl rfl)
theorem dX1_init_1 : decode cX1_init 1 = .ok (.bipush 19, 2) := dk_16 19 (dk_at dksX1_init_0 1 rfl rfl)
theorem dX1_init_3 : decode cX1_init 3 = .ok (.newarray .int, 2) := dk_188_10 (dk_at dksX1_init_0 3 rfl rfl)
theorem dX1_init_5 : decode cX1_init 5 = .ok (.dup, 1) := dk_89 (dk_at dksX1_init_0 5 rfl rfl)
theorem dX1_init_6 : decode cX1_init 6 = .ok (.iconst 0, 1) := dk_3 (dk_at dksX1_init_0 6 rfl rfl)
theorem dX1_init_7 : decode cX1_init 7 = .ok (.sipush 400, 3) := dk_17 1 144 (dk_at dksX1_init_0 7 rfl rfl)
theorem dX1_init_10 : decode cX1_init 10 = .ok (.iastore, 1) := dk_79 (dk_at dksX1_init_0 10 rfl rfl)
theorem dX1_init_11 : decode cX1_init 11 = .ok (.dup, 1) := dk_89 (dk_at dksX1_init_0 11 rfl rfl)
theorem dX1_init_12 : decode cX1_init 12 = .ok (.iconst 1, 1) := dk_4 (dk_at dksX1_init_0 12 rfl rfl)
theorem dX1_init_13 : decode cX1_init 13 = .ok (.bipush 20, 2) := dk_16 20 (dk_at dksX1_init_0 13 rfl rfl)
theorem dX1_init_15 : decode cX1_init 15 = .ok (.iastore, 1) := dk_79 (dk_at dksX1_init_0 15 rfl rfl)
theorem dX1_init_16 : decode cX1_init 16 = .ok (.dup, 1) := dk_89 (dk_at dksX1_init_0 16 rfl rfl)
theorem dX1_init_17 : decode cX1_init 17 = .ok (.iconst 2, 1) := dk_5 (dk_at dksX1_init_0 17 rfl rfl)
theorem dX1_init_18 : decode cX1_init 18 = .ok (.bipush 20, 2) := dk_16 20 (dk_at dksX1_init_0 18 rfl rfl)
theorem dX1_init_20 : decode cX1_init 20 = .ok (.iastore, 1) := dk_79 (dk_at dksX1_init_0 20 rfl rfl)
theorem dX1_init_21 : decode cX1_init 21 = .ok (.dup, 1) := dk_89 (dk_at dksX1_init_0 21 rfl rfl)
theorem dX1_init_22 : decode cX1_init 22 = .ok (.iconst 3, 1) := dk_6 (dk_at dksX1_init_0 22 rfl rfl)
theorem dX1_init_23 : decode cX1_init 23 = .ok (.bipush 100, 2) := dk_16 100 (dk_at dksX1_init_1 0 rfl rfl)
theorem dX1_init_25 : decode cX1_init 25 = .ok (.iastore, 1) := dk_79 (dk_at dksX1_init_1 2 rfl rfl)
theorem dX1_init_26 : decode cX1_init 26 = .ok (.dup, 1) := dk_89 (dk_at dksX1_init_1 3 rfl rfl)
theorem dX1_init_27 : decode cX1_init 27 = .ok (.iconst 4, 1) := dk_7 (dk_at dksX1_init_1 4 rfl rfl)
theorem dX1_init_28 : decode cX1_init 28 = .ok (.sipush 500, 3) := dk_17 1 244 (dk_at dksX1_init_1 5 rfl rfl)
theorem dX1_init_31 : decode cX1_init 31 = .ok (.iastore, 1) := dk_79 (dk_at dksX1_init_1 8 rfl rfl)
theorem dX1_init_32 : decode cX1_init 32 = .ok (.dup, 1) := dk_89 (dk_at dksX1_init_1 9 rfl rfl)
theorem dX1_init_33 : decode cX1_init 33 = .ok (.iconst 5, 1) := dk_8 (dk_at dksX1_init_1 10 rfl rfl)
theorem dX1_init_34 : decode cX1_init 34 = .ok (.iconst 3, 1) := dk_6 (dk_at dksX1_init_1 11 rfl rfl)
theorem dX1_init_35 : decode cX1_init 35 = .ok (.iastore, 1) := dk_79 (dk_at dksX1_init_1 12 rfl rfl)
theorem dX1_init_36 : decode cX1_init 36 = .ok (.dup, 1) := dk_89 (dk_at dksX1_init_1 13 rfl rfl)
theorem dX1_init_37 : decode cX1_init 37 = .ok (.bipush 6, 2) := dk_16 6 (dk_at dksX1_init_1 14 rfl rfl)
theorem dX1_init_39 : decode cX1_init 39 = .ok (.iconst 5, 1) := dk_8 (dk_at dksX1_init_1 16 rfl rfl)
theorem dX1_init_40 : decode cX1_init 40 = .ok (.iastore, 1) := dk_79 (dk_at dksX1_init_1 17 rfl rfl)
theorem dX1_init_41 : decode cX1_init 41 = .ok (.dup, 1) := dk_89 (dk_at dksX1_init_1 18 rfl rfl)
theorem dX1_init_42 : decode cX1_init 42 = .ok (.bipush 7, 2) := dk_16 7 (dk_at dksX1_init_1 19 rfl rfl)
theorem dX1_init_44 : decode cX1_init 44 = .ok (.bipush 60, 2) := dk_16 60 (dk_at dksX1_init_1 21 rfl rfl)
theorem dX1_init_46 : decode cX1_init 46 = .ok (.iastore, 1) := dk_79 (dk_at dksX1_init_1 23 rfl rfl)
theorem dX1_init_47 : decode cX1_init 47 = .ok (.dup, 1) := dk_89 (dk_at dksX1_init_2 0 rfl rfl)
theorem dX1_init_48 : decode cX1_init 48 = .ok (.bipush 8, 2) := dk_16 8 (dk_at dksX1_init_2 1 rfl rfl)
theorem dX1_init_50 : decode cX1_init 50 = .ok (.iconst 4, 1) := dk_7 (dk_at dksX1_init_2 3 rfl rfl)
theorem dX1_init_51 : decode cX1_init 51 = .ok (.iastore, 1) := dk_79 (dk_at dksX1_init_2 4 rfl rfl)
theorem dX1_init_52 : decode cX1_init 52 = .ok (.dup, 1) := dk_89 (dk_at dksX1_init_2 5 rfl rfl)
theorem dX1_init_53 : decode cX1_init 53 = .ok (.bipush 9, 2) := dk_16 9 (dk_at dksX1_init_2 6 rfl rfl)
theorem dX1_init_55 : decode cX1_init 55 = .ok (.bipush 60, 2) := dk_16 60 (dk_at dksX1_init_2 8 rfl rfl)
theorem dX1_init_57 : decode cX1_init 57 = .ok (.iastore, 1) := dk_79 (dk_at dksX1_init_2 10 rfl rfl)
theorem dX1_init_58 : decode cX1_init 58 = .ok (.dup, 1) := dk_89 (dk_at dksX1_init_2 11 rfl rfl)
theorem dX1_init_59 : decode cX1_init 59 = .ok (.bipush 10, 2) := dk_16 10 (dk_at dksX1_init_2 12 rfl rfl)
theorem dX1_init_61 : decode cX1_init 61 = .ok (.bipush 20, 2) := dk_16 20 (dk_at dksX1_init_2 14 rfl rfl)
theorem dX1_init_63 : decode cX1_init 63 = .ok (.iastore, 1) := dk_79 (dk_at dksX1_init_2 16 rfl rfl)
theorem dX1_init_64 : decode cX1_init 64 = .ok (.dup, 1) := dk_89 (dk_at dksX1_init_2 17 rfl rfl)
theorem dX1_init_65 : decode cX1_init 65 = .ok (.bipush 11, 2) := dk_16 11 (dk_at dksX1_init_2 18 rfl rfl)
theorem dX1_init_67 : decode cX1_init 67 = .ok (.sipush 500, 3) := dk_17 1 244 (dk_at dksX1_init_2 20 rfl rfl)
theorem dX1_init_70 : decode cX1_init 70 = .ok (.iastore, 1) := dk_79 (dk_at dksX1_init_2 23 rfl rfl)
theorem dX1_init_71 : decode cX1_init 71 = .ok (.dup, 1) := dk_89 (dk_at dksX1_init_3 0 rfl rfl)
theorem dX1_init_72 : decode cX1_init 72 = .ok (.bipush 12, 2) := dk_16 12 (dk_at dksX1_init_3 1 rfl rfl)
theorem dX1_init_74 : decode cX1_init 74 = .ok (.sipush 2000, 3) := dk_17 7 208 (dk_at dksX1_init_3 3 rfl rfl)
theorem dX1_init_77 : decode cX1_init 77 = .ok (.iastore, 1) := dk_79 (dk_at dksX1_init_3 6 rfl rfl)
theorem dX1_init_78 : decode cX1_init 78 = .ok (.dup, 1) := dk_89 (dk_at dksX1_init_3 7 rfl rfl)
theorem dX1_init_79 : decode cX1_init 79 = .ok (.bipush 13, 2) := dk_16 13 (dk_at dksX1_init_3 8 rfl rfl)
theorem dX1_init_81 : decode cX1_init 81 = .ok (.iconst 2, 1) := dk_5 (dk_at dksX1_init_3 10 rfl rfl)
theorem dX1_init_82 : decode cX1_init 82 = .ok (.iastore, 1) := dk_79 (dk_at dksX1_init_3 11 rfl rfl)
theorem dX1_init_83 : decode cX1_init 83 = .ok (.dup, 1) := dk_89 (dk_at dksX1_init_3 12 rfl rfl)
theorem dX1_init_84 : decode cX1_init 84 = .ok (.bipush 14, 2) := dk_16 14 (dk_at dksX1_init_3 13 rfl rfl)
theorem dX1_init_86 : decode cX1_init 86 = .ok (.sipush 300, 3) := dk_17 1 44 (dk_at dksX1_init_3 15 rfl rfl)
theorem dX1_init_89 : decode cX1_init 89 = .ok (.iastore, 1) := dk_79 (dk_at dksX1_init_3 18 rfl rfl)
theorem dX1_init_90 : decode cX1_init 90 = .ok (.dup, 1) := dk_89 (dk_at dksX1_init_3 19 rfl rfl)
theorem dX1_init_91 : decode cX1_init 91 = .ok (.bipush 15, 2) := dk_16 15 (dk_at dksX1_init_3 20 rfl rfl)
theorem dX1_init_93 : decode cX1_init 93 = .ok (.bipush 60, 2) := dk_16 60 (dk_at dksX1_init_3 22 rfl rfl)
theorem dX1_init_95 : decode cX1_init 95 = .ok (.iastore, 1) := dk_79 (dk_at dksX1_init_4 0 rfl rfl)
theorem dX1_init_96 : decode cX1_init 96 = .ok (.dup, 1) := dk_89 (dk_at dksX1_init_4 1 rfl rfl)
theorem dX1_init_97 : decode cX1_init 97 = .ok (.bipush 16, 2) := dk_16 16 (dk_at dksX1_init_4 2 rfl rfl)
theorem dX1_init_99 : decode cX1_init 99 = .ok (.sipush 180, 3) := dk_17 0 180 (dk_at dksX1_init_4 4 rfl rfl)
theorem dX1_init_102 : decode cX1_init 102 = .ok (.iastore, 1) := dk_79 (dk_at dksX1_init_4 7 rfl rfl)
theorem dX1_init_103 : decode cX1_init 103 = .ok (.dup, 1) := dk_89 (dk_at dksX1_init_4 8 rfl rfl)
theorem dX1_init_104 : decode cX1_init 104 = .ok (.bipush 17, 2) := dk_16 17 (dk_at dksX1_init_4 9 rfl rfl)
theorem dX1_init_106 : decode cX1_init 106 = .ok (.sipush 3000, 3) := dk_17 11 184 (dk_at dksX1_init_4 11 rfl rfl)
theorem dX1_init_109 : decode cX1_init 109 = .ok (.iastore, 1) := dk_79 (dk_at dksX1_init_4 14 rfl rfl)
theorem dX1_init_110 : decode cX1_init 110 = .ok (.dup, 1) := dk_89 (dk_at dksX1_init_4 15 rfl rfl)
theorem dX1_init_111 : decode cX1_init 111 = .ok (.bipush 18, 2) := dk_16 18 (dk_at dksX1_init_4 16 rfl rfl)
theorem dX1_init_113 : decode cX1_init 113 = .ok (.iconst 0, 1) := dk_3 (dk_at dksX1_init_4 18 rfl rfl)
theorem dX1_init_114 : decode cX1_init 114 = .ok (.iastore, 1) := dk_79 (dk_at dksX1_init_4 19 rfl rfl)
theorem dX1_init_115 : decode cX1_init 115 = .ok (.invokespecial 3, 3) := dk_183 0 3 (dk_at dksX1_init_4 20 rfl rfl)
theorem dX1_init_118 : decode cX1_init 118 = .ok (.return_, 1) := dk_177 (dk_at dksX1_init_4 23 rfl rfl)
abbrev cX1_init_2 : ByteArray := prog_15_method_2_code
def yX1_init_2 : MethodName := ⟨RX1, "<init>", "([I)V"⟩
def dkwX1_init_2_7 : List UInt8 := [180, 0, 55, 5, 186, 0, 95, 0, 0, 83, 42, 43, 181, 0, 96, 177]
abbrev dktX1_init_2_7 : List UInt8 := dkwX1_init_2_7 ++ []
def dkwX1_init_2_6 : List UInt8 := [180, 0, 55, 3, 186, 0, 90, 0, 0, 83, 42, 180, 0, 55, 4, 186, 0, 94, 0, 0, 83, 42]
abbrev dktX1_init_2_6 : List UInt8 := dkwX1_init_2_6 ++ dktX1_init_2_7
def dkwX1_init_2_5 : List UInt8 := [42, 183, 0, 73, 183, 0, 76, 181, 0, 79, 42, 2, 181, 0, 83, 42, 17, 39, 16, 181, 0, 87, 42]
abbrev dktX1_init_2_5 : List UInt8 := dkwX1_init_2_5 ++ dktX1_init_2_6
def dkwX1_init_2_4 : List UInt8 := [189, 0, 53, 181, 0, 55, 42, 184, 0, 59, 181, 0, 65, 42, 187, 0, 69, 89, 16, 6, 187, 0, 71, 89]
abbrev dktX1_init_2_4 : List UInt8 := dkwX1_init_2_4 ++ dktX1_init_2_5
def dkwX1_init_2_3 : List UInt8 := [16, 8, 188, 10, 181, 0, 43, 42, 16, 8, 188, 4, 181, 0, 46, 42, 6, 188, 10, 181, 0, 50, 42, 6]
abbrev dktX1_init_2_3 : List UInt8 := dkwX1_init_2_3 ++ dktX1_init_2_4
def dkwX1_init_2_2 : List UInt8 := [181, 0, 31, 42, 187, 0, 14, 89, 183, 0, 16, 181, 0, 34, 42, 16, 6, 189, 0, 37, 181, 0, 39, 42]
abbrev dktX1_init_2_2 : List UInt8 := dkwX1_init_2_2 ++ dktX1_init_2_3
def dkwX1_init_2_1 : List UInt8 := [181, 0, 21, 42, 16, 12, 188, 10, 181, 0, 24, 42, 16, 12, 188, 10, 181, 0, 28, 42, 16, 12, 188, 10]
abbrev dktX1_init_2_1 : List UInt8 := dkwX1_init_2_1 ++ dktX1_init_2_2
def dkwX1_init_2_0 : List UInt8 := [42, 183, 0, 9, 42, 187, 0, 14, 89, 183, 0, 16, 181, 0, 17, 42, 187, 0, 14, 89, 183, 0, 16]
abbrev dktX1_init_2_0 : List UInt8 := dkwX1_init_2_0 ++ dktX1_init_2_1
theorem dksX1_init_2_0 : cX1_init_2.data.toList.drop 0 = dktX1_init_2_0 := by decide +kernel
theorem dksX1_init_2_1 : cX1_init_2.data.toList.drop 23 = dktX1_init_2_1 := dk_seg dksX1_init_2_0 23 rfl rfl
theorem dksX1_init_2_2 : cX1_init_2.data.toList.drop 47 = dktX1_init_2_2 := dk_seg dksX1_init_2_1 24 rfl rfl
theorem dksX1_init_2_3 : cX1_init_2.data.toList.drop 71 = dktX1_init_2_3 := dk_seg dksX1_init_2_2 24 rfl rfl
theorem dksX1_init_2_4 : cX1_init_2.data.toList.drop 95 = dktX1_init_2_4 := dk_seg dksX1_init_2_3 24 rfl rfl
theorem dksX1_init_2_5 : cX1_init_2.data.toList.drop 119 = dktX1_init_2_5 := dk_seg dksX1_init_2_4 24 rfl rfl
theorem dksX1_init_2_6 : cX1_init_2.data.toList.drop 142 = dktX1_init_2_6 := dk_seg dksX1_init_2_5 23 rfl rfl
theorem dksX1_init_2_7 : cX1_init_2.data.toList.drop 164 = dktX1_init_2_7 := dk_seg dksX1_init_2_6 22 rfl rfl
theorem dX1_init_2_0 : decode cX1_init_2 0 = .ok (.aload_n 0, 1) := dk_42 (dk_at dksX1_init_2_0 0 rfl rfl)
theorem dX1_init_2_1 : decode cX1_init_2 1 = .ok (.invokespecial 9, 3) := dk_183 0 9 (dk_at dksX1_init_2_0 1 rfl rfl)
theorem dX1_init_2_4 : decode cX1_init_2 4 = .ok (.aload_n 0, 1) := dk_42 (dk_at dksX1_init_2_0 4 rfl rfl)
theorem dX1_init_2_5 : decode cX1_init_2 5 = .ok (.new 14, 3) := dk_187 0 14 (dk_at dksX1_init_2_0 5 rfl rfl)
theorem dX1_init_2_8 : decode cX1_init_2 8 = .ok (.dup, 1) := dk_89 (dk_at dksX1_init_2_0 8 rfl rfl)
theorem dX1_init_2_9 : decode cX1_init_2 9 = .ok (.invokespecial 16, 3) := dk_183 0 16 (dk_at dksX1_init_2_0 9 rfl rfl)
theorem dX1_init_2_12 : decode cX1_init_2 12 = .ok (.putfield 17, 3) := dk_181 0 17 (dk_at dksX1_init_2_0 12 rfl rfl)
theorem dX1_init_2_15 : decode cX1_init_2 15 = .ok (.aload_n 0, 1) := dk_42 (dk_at dksX1_init_2_0 15 rfl rfl)
theorem dX1_init_2_16 : decode cX1_init_2 16 = .ok (.new 14, 3) := dk_187 0 14 (dk_at dksX1_init_2_0 16 rfl rfl)
theorem dX1_init_2_19 : decode cX1_init_2 19 = .ok (.dup, 1) := dk_89 (dk_at dksX1_init_2_0 19 rfl rfl)
theorem dX1_init_2_20 : decode cX1_init_2 20 = .ok (.invokespecial 16, 3) := dk_183 0 16 (dk_at dksX1_init_2_0 20 rfl rfl)
theorem dX1_init_2_23 : decode cX1_init_2 23 = .ok (.putfield 21, 3) := dk_181 0 21 (dk_at dksX1_init_2_1 0 rfl rfl)
theorem dX1_init_2_26 : decode cX1_init_2 26 = .ok (.aload_n 0, 1) := dk_42 (dk_at dksX1_init_2_1 3 rfl rfl)
theorem dX1_init_2_27 : decode cX1_init_2 27 = .ok (.bipush 12, 2) := dk_16 12 (dk_at dksX1_init_2_1 4 rfl rfl)
theorem dX1_init_2_29 : decode cX1_init_2 29 = .ok (.newarray .int, 2) := dk_188_10 (dk_at dksX1_init_2_1 6 rfl rfl)
theorem dX1_init_2_31 : decode cX1_init_2 31 = .ok (.putfield 24, 3) := dk_181 0 24 (dk_at dksX1_init_2_1 8 rfl rfl)
theorem dX1_init_2_34 : decode cX1_init_2 34 = .ok (.aload_n 0, 1) := dk_42 (dk_at dksX1_init_2_1 11 rfl rfl)
theorem dX1_init_2_35 : decode cX1_init_2 35 = .ok (.bipush 12, 2) := dk_16 12 (dk_at dksX1_init_2_1 12 rfl rfl)
theorem dX1_init_2_37 : decode cX1_init_2 37 = .ok (.newarray .int, 2) := dk_188_10 (dk_at dksX1_init_2_1 14 rfl rfl)
theorem dX1_init_2_39 : decode cX1_init_2 39 = .ok (.putfield 28, 3) := dk_181 0 28 (dk_at dksX1_init_2_1 16 rfl rfl)
theorem dX1_init_2_42 : decode cX1_init_2 42 = .ok (.aload_n 0, 1) := dk_42 (dk_at dksX1_init_2_1 19 rfl rfl)
theorem dX1_init_2_43 : decode cX1_init_2 43 = .ok (.bipush 12, 2) := dk_16 12 (dk_at dksX1_init_2_1 20 rfl rfl)
theorem dX1_init_2_45 : decode cX1_init_2 45 = .ok (.newarray .int, 2) := dk_188_10 (dk_at dksX1_init_2_1 22 rfl rfl)
theorem dX1_init_2_47 : decode cX1_init_2 47 = .ok (.putfield 31, 3) := dk_181 0 31 (dk_at dksX1_init_2_2 0 rfl rfl)
theorem dX1_init_2_50 : decode cX1_init_2 50 = .ok (.aload_n 0, 1) := dk_42 (dk_at dksX1_init_2_2 3 rfl rfl)
theorem dX1_init_2_51 : decode cX1_init_2 51 = .ok (.new 14, 3) := dk_187 0 14 (dk_at dksX1_init_2_2 4 rfl rfl)
theorem dX1_init_2_54 : decode cX1_init_2 54 = .ok (.dup, 1) := dk_89 (dk_at dksX1_init_2_2 7 rfl rfl)
theorem dX1_init_2_55 : decode cX1_init_2 55 = .ok (.invokespecial 16, 3) := dk_183 0 16 (dk_at dksX1_init_2_2 8 rfl rfl)
theorem dX1_init_2_58 : decode cX1_init_2 58 = .ok (.putfield 34, 3) := dk_181 0 34 (dk_at dksX1_init_2_2 11 rfl rfl)
theorem dX1_init_2_61 : decode cX1_init_2 61 = .ok (.aload_n 0, 1) := dk_42 (dk_at dksX1_init_2_2 14 rfl rfl)
theorem dX1_init_2_62 : decode cX1_init_2 62 = .ok (.bipush 6, 2) := dk_16 6 (dk_at dksX1_init_2_2 15 rfl rfl)
theorem dX1_init_2_64 : decode cX1_init_2 64 = .ok (.anewarray 37, 3) := dk_189 0 37 (dk_at dksX1_init_2_2 17 rfl rfl)
theorem dX1_init_2_67 : decode cX1_init_2 67 = .ok (.putfield 39, 3) := dk_181 0 39 (dk_at dksX1_init_2_2 20 rfl rfl)
theorem dX1_init_2_70 : decode cX1_init_2 70 = .ok (.aload_n 0, 1) := dk_42 (dk_at dksX1_init_2_2 23 rfl rfl)
theorem dX1_init_2_71 : decode cX1_init_2 71 = .ok (.bipush 8, 2) := dk_16 8 (dk_at dksX1_init_2_3 0 rfl rfl)
theorem dX1_init_2_73 : decode cX1_init_2 73 = .ok (.newarray .int, 2) := dk_188_10 (dk_at dksX1_init_2_3 2 rfl rfl)
theorem dX1_init_2_75 : decode cX1_init_2 75 = .ok (.putfield 43, 3) := dk_181 0 43 (dk_at dksX1_init_2_3 4 rfl rfl)
theorem dX1_init_2_78 : decode cX1_init_2 78 = .ok (.aload_n 0, 1) := dk_42 (dk_at dksX1_init_2_3 7 rfl rfl)
theorem dX1_init_2_79 : decode cX1_init_2 79 = .ok (.bipush 8, 2) := dk_16 8 (dk_at dksX1_init_2_3 8 rfl rfl)
theorem dX1_init_2_81 : decode cX1_init_2 81 = .ok (.newarray .boolean, 2) := dk_188_4 (dk_at dksX1_init_2_3 10 rfl rfl)
theorem dX1_init_2_83 : decode cX1_init_2 83 = .ok (.putfield 46, 3) := dk_181 0 46 (dk_at dksX1_init_2_3 12 rfl rfl)
theorem dX1_init_2_86 : decode cX1_init_2 86 = .ok (.aload_n 0, 1) := dk_42 (dk_at dksX1_init_2_3 15 rfl rfl)
theorem dX1_init_2_87 : decode cX1_init_2 87 = .ok (.iconst 3, 1) := dk_6 (dk_at dksX1_init_2_3 16 rfl rfl)
theorem dX1_init_2_88 : decode cX1_init_2 88 = .ok (.newarray .int, 2) := dk_188_10 (dk_at dksX1_init_2_3 17 rfl rfl)
theorem dX1_init_2_90 : decode cX1_init_2 90 = .ok (.putfield 50, 3) := dk_181 0 50 (dk_at dksX1_init_2_3 19 rfl rfl)
theorem dX1_init_2_93 : decode cX1_init_2 93 = .ok (.aload_n 0, 1) := dk_42 (dk_at dksX1_init_2_3 22 rfl rfl)
theorem dX1_init_2_94 : decode cX1_init_2 94 = .ok (.iconst 3, 1) := dk_6 (dk_at dksX1_init_2_3 23 rfl rfl)
theorem dX1_init_2_95 : decode cX1_init_2 95 = .ok (.anewarray 53, 3) := dk_189 0 53 (dk_at dksX1_init_2_4 0 rfl rfl)
theorem dX1_init_2_98 : decode cX1_init_2 98 = .ok (.putfield 55, 3) := dk_181 0 55 (dk_at dksX1_init_2_4 3 rfl rfl)
theorem dX1_init_2_101 : decode cX1_init_2 101 = .ok (.aload_n 0, 1) := dk_42 (dk_at dksX1_init_2_4 6 rfl rfl)
theorem dX1_init_2_102 : decode cX1_init_2 102 = .ok (.invokestatic 59, 3) := dk_184 0 59 (dk_at dksX1_init_2_4 7 rfl rfl)
theorem dX1_init_2_105 : decode cX1_init_2 105 = .ok (.putfield 65, 3) := dk_181 0 65 (dk_at dksX1_init_2_4 10 rfl rfl)
theorem dX1_init_2_108 : decode cX1_init_2 108 = .ok (.aload_n 0, 1) := dk_42 (dk_at dksX1_init_2_4 13 rfl rfl)
theorem dX1_init_2_109 : decode cX1_init_2 109 = .ok (.new 69, 3) := dk_187 0 69 (dk_at dksX1_init_2_4 14 rfl rfl)
theorem dX1_init_2_112 : decode cX1_init_2 112 = .ok (.dup, 1) := dk_89 (dk_at dksX1_init_2_4 17 rfl rfl)
theorem dX1_init_2_113 : decode cX1_init_2 113 = .ok (.bipush 6, 2) := dk_16 6 (dk_at dksX1_init_2_4 18 rfl rfl)
theorem dX1_init_2_115 : decode cX1_init_2 115 = .ok (.new 71, 3) := dk_187 0 71 (dk_at dksX1_init_2_4 20 rfl rfl)
theorem dX1_init_2_118 : decode cX1_init_2 118 = .ok (.dup, 1) := dk_89 (dk_at dksX1_init_2_4 23 rfl rfl)
theorem dX1_init_2_119 : decode cX1_init_2 119 = .ok (.aload_n 0, 1) := dk_42 (dk_at dksX1_init_2_5 0 rfl rfl)
theorem dX1_init_2_120 : decode cX1_init_2 120 = .ok (.invokespecial 73, 3) := dk_183 0 73 (dk_at dksX1_init_2_5 1 rfl rfl)
theorem dX1_init_2_123 : decode cX1_init_2 123 = .ok (.invokespecial 76, 3) := dk_183 0 76 (dk_at dksX1_init_2_5 4 rfl rfl)
theorem dX1_init_2_126 : decode cX1_init_2 126 = .ok (.putfield 79, 3) := dk_181 0 79 (dk_at dksX1_init_2_5 7 rfl rfl)
theorem dX1_init_2_129 : decode cX1_init_2 129 = .ok (.aload_n 0, 1) := dk_42 (dk_at dksX1_init_2_5 10 rfl rfl)
theorem dX1_init_2_130 : decode cX1_init_2 130 = .ok (.iconst (-1), 1) := dk_2 (dk_at dksX1_init_2_5 11 rfl rfl)
theorem dX1_init_2_131 : decode cX1_init_2 131 = .ok (.putfield 83, 3) := dk_181 0 83 (dk_at dksX1_init_2_5 12 rfl rfl)
theorem dX1_init_2_134 : decode cX1_init_2 134 = .ok (.aload_n 0, 1) := dk_42 (dk_at dksX1_init_2_5 15 rfl rfl)
theorem dX1_init_2_135 : decode cX1_init_2 135 = .ok (.sipush 10000, 3) := dk_17 39 16 (dk_at dksX1_init_2_5 16 rfl rfl)
theorem dX1_init_2_138 : decode cX1_init_2 138 = .ok (.putfield 87, 3) := dk_181 0 87 (dk_at dksX1_init_2_5 19 rfl rfl)
theorem dX1_init_2_141 : decode cX1_init_2 141 = .ok (.aload_n 0, 1) := dk_42 (dk_at dksX1_init_2_5 22 rfl rfl)
theorem dX1_init_2_142 : decode cX1_init_2 142 = .ok (.getfield 55, 3) := dk_180 0 55 (dk_at dksX1_init_2_6 0 rfl rfl)
theorem dX1_init_2_145 : decode cX1_init_2 145 = .ok (.iconst 0, 1) := dk_3 (dk_at dksX1_init_2_6 3 rfl rfl)
theorem dX1_init_2_146 : decode cX1_init_2 146 = .ok (.invokedynamic 90, 5) := by decide +kernel
theorem dX1_init_2_151 : decode cX1_init_2 151 = .ok (.aastore, 1) := dk_83 (dk_at dksX1_init_2_6 9 rfl rfl)
theorem dX1_init_2_152 : decode cX1_init_2 152 = .ok (.aload_n 0, 1) := dk_42 (dk_at dksX1_init_2_6 10 rfl rfl)
theorem dX1_init_2_153 : decode cX1_init_2 153 = .ok (.getfield 55, 3) := dk_180 0 55 (dk_at dksX1_init_2_6 11 rfl rfl)
theorem dX1_init_2_156 : decode cX1_init_2 156 = .ok (.iconst 1, 1) := dk_4 (dk_at dksX1_init_2_6 14 rfl rfl)
theorem dX1_init_2_157 : decode cX1_init_2 157 = .ok (.invokedynamic 94, 5) := by decide +kernel
theorem dX1_init_2_162 : decode cX1_init_2 162 = .ok (.aastore, 1) := dk_83 (dk_at dksX1_init_2_6 20 rfl rfl)
theorem dX1_init_2_163 : decode cX1_init_2 163 = .ok (.aload_n 0, 1) := dk_42 (dk_at dksX1_init_2_6 21 rfl rfl)
theorem dX1_init_2_164 : decode cX1_init_2 164 = .ok (.getfield 55, 3) := dk_180 0 55 (dk_at dksX1_init_2_7 0 rfl rfl)
theorem dX1_init_2_167 : decode cX1_init_2 167 = .ok (.iconst 2, 1) := dk_5 (dk_at dksX1_init_2_7 3 rfl rfl)
theorem dX1_init_2_168 : decode cX1_init_2 168 = .ok (.invokedynamic 95, 5) := by decide +kernel
theorem dX1_init_2_173 : decode cX1_init_2 173 = .ok (.aastore, 1) := dk_83 (dk_at dksX1_init_2_7 9 rfl rfl)
theorem dX1_init_2_174 : decode cX1_init_2 174 = .ok (.aload_n 0, 1) := dk_42 (dk_at dksX1_init_2_7 10 rfl rfl)
theorem dX1_init_2_175 : decode cX1_init_2 175 = .ok (.aload_n 1, 1) := dk_43 (dk_at dksX1_init_2_7 11 rfl rfl)
theorem dX1_init_2_176 : decode cX1_init_2 176 = .ok (.putfield 96, 3) := dk_181 0 96 (dk_at dksX1_init_2_7 12 rfl rfl)
theorem dX1_init_2_179 : decode cX1_init_2 179 = .ok (.return_, 1) := dk_177 (dk_at dksX1_init_2_7 15 rfl rfl)
abbrev cX1_lambda_new_0 : ByteArray := prog_15_method_44_code
def yX1_lambda_new_0 : MethodName := ⟨RX1, "lambda$new$0", "(LFieldPumps$Station;)Z"⟩
def dkwX1_lambda_new_0_1 : List UInt8 := [4, 167, 0, 4, 3, 172]
abbrev dktX1_lambda_new_0_1 : List UInt8 := dkwX1_lambda_new_0_1 ++ []
def dkwX1_lambda_new_0_0 : List UInt8 := [42, 182, 1, 59, 42, 180, 0, 96, 4, 46, 116, 162, 0, 17, 42, 17, 3, 232, 182, 1, 55, 153, 0, 7]
abbrev dktX1_lambda_new_0_0 : List UInt8 := dkwX1_lambda_new_0_0 ++ dktX1_lambda_new_0_1
theorem dksX1_lambda_new_0_0 : cX1_lambda_new_0.data.toList.drop 0 = dktX1_lambda_new_0_0 := by decide +kernel
theorem dksX1_lambda_new_0_1 : cX1_lambda_new_0.data.toList.drop 24 = dktX1_lambda_new_0_1 := dk_seg dksX1_lambda_new_0_0 24 rfl rfl
theorem dX1_lambda_new_0_0 : decode cX1_lambda_new_0 0 = .ok (.aload_n 0, 1) := dk_42 (dk_at dksX1_lambda_new_0_0 0 rfl rfl)
theorem dX1_lambda_new_0_1 : decode cX1_lambda_new_0 1 = .ok (.invokevirtual 315, 3) := dk_182 1 59 (dk_at dksX1_lambda_new_0_0 1 rfl rfl)
theorem dX1_lambda_new_0_4 : decode cX1_lambda_new_0 4 = .ok (.aload_n 0, 1) := dk_42 (dk_at dksX1_lambda_new_0_0 4 rfl rfl)
theorem dX1_lambda_new_0_5 : decode cX1_lambda_new_0 5 = .ok (.getfield 96, 3) := dk_180 0 96 (dk_at dksX1_lambda_new_0_0 5 rfl rfl)
theorem dX1_lambda_new_0_8 : decode cX1_lambda_new_0 8 = .ok (.iconst 1, 1) := dk_4 (dk_at dksX1_lambda_new_0_0 8 rfl rfl)
theorem dX1_lambda_new_0_9 : decode cX1_lambda_new_0 9 = .ok (.iaload, 1) := dk_46 (dk_at dksX1_lambda_new_0_0 9 rfl rfl)
theorem dX1_lambda_new_0_10 : decode cX1_lambda_new_0 10 = .ok (.ineg, 1) := dk_116 (dk_at dksX1_lambda_new_0_0 10 rfl rfl)
theorem dX1_lambda_new_0_11 : decode cX1_lambda_new_0 11 = .ok (.if_icmp .ge 17, 3) := dk_162 0 17 (dk_at dksX1_lambda_new_0_0 11 rfl rfl)
theorem dX1_lambda_new_0_14 : decode cX1_lambda_new_0 14 = .ok (.aload_n 0, 1) := dk_42 (dk_at dksX1_lambda_new_0_0 14 rfl rfl)
theorem dX1_lambda_new_0_15 : decode cX1_lambda_new_0 15 = .ok (.sipush 1000, 3) := dk_17 3 232 (dk_at dksX1_lambda_new_0_0 15 rfl rfl)
theorem dX1_lambda_new_0_18 : decode cX1_lambda_new_0 18 = .ok (.invokevirtual 311, 3) := dk_182 1 55 (dk_at dksX1_lambda_new_0_0 18 rfl rfl)
theorem dX1_lambda_new_0_21 : decode cX1_lambda_new_0 21 = .ok (.ifCond .eq 7, 3) := dk_153 0 7 (dk_at dksX1_lambda_new_0_0 21 rfl rfl)
theorem dX1_lambda_new_0_24 : decode cX1_lambda_new_0 24 = .ok (.iconst 1, 1) := dk_4 (dk_at dksX1_lambda_new_0_1 0 rfl rfl)
theorem dX1_lambda_new_0_25 : decode cX1_lambda_new_0 25 = .ok (.goto 4, 3) := dk_167 0 4 (dk_at dksX1_lambda_new_0_1 1 rfl rfl)
theorem dX1_lambda_new_0_28 : decode cX1_lambda_new_0 28 = .ok (.iconst 0, 1) := dk_3 (dk_at dksX1_lambda_new_0_1 4 rfl rfl)
theorem dX1_lambda_new_0_29 : decode cX1_lambda_new_0 29 = .ok (.ireturn, 1) := dk_172 (dk_at dksX1_lambda_new_0_1 5 rfl rfl)
abbrev cX1_off : ByteArray := prog_15_method_29_code
def yX1_off : MethodName := ⟨RX1, "off", "()I"⟩
def dkwX1_off_0 : List UInt8 := [42, 180, 0, 157, 42, 180, 0, 96, 3, 46, 100, 172]
abbrev dktX1_off_0 : List UInt8 := dkwX1_off_0 ++ []
theorem dksX1_off_0 : cX1_off.data.toList.drop 0 = dktX1_off_0 := by decide +kernel
theorem dX1_off_0 : decode cX1_off 0 = .ok (.aload_n 0, 1) := dk_42 (dk_at dksX1_off_0 0 rfl rfl)
theorem dX1_off_1 : decode cX1_off 1 = .ok (.getfield 157, 3) := dk_180 0 157 (dk_at dksX1_off_0 1 rfl rfl)
theorem dX1_off_4 : decode cX1_off 4 = .ok (.aload_n 0, 1) := dk_42 (dk_at dksX1_off_0 4 rfl rfl)
theorem dX1_off_5 : decode cX1_off 5 = .ok (.getfield 96, 3) := dk_180 0 96 (dk_at dksX1_off_0 5 rfl rfl)
theorem dX1_off_8 : decode cX1_off 8 = .ok (.iconst 0, 1) := dk_3 (dk_at dksX1_off_0 8 rfl rfl)
theorem dX1_off_9 : decode cX1_off 9 = .ok (.iaload, 1) := dk_46 (dk_at dksX1_off_0 9 rfl rfl)
theorem dX1_off_10 : decode cX1_off 10 = .ok (.isub, 1) := dk_100 (dk_at dksX1_off_0 10 rfl rfl)
theorem dX1_off_11 : decode cX1_off 11 = .ok (.ireturn, 1) := dk_172 (dk_at dksX1_off_0 11 rfl rfl)
abbrev cX1_isAtSpeed : ByteArray := prog_15_method_27_code
def yX1_isAtSpeed : MethodName := ⟨RX1, "isAtSpeed", "(I)Z"⟩
def dkwX1_isAtSpeed_1 : List UInt8 := [180, 0, 221, 27, 160, 0, 7, 4, 167, 0, 4, 3, 172]
abbrev dktX1_isAtSpeed_1 : List UInt8 := dkwX1_isAtSpeed_1 ++ []
def dkwX1_isAtSpeed_0 : List UInt8 := [42, 180, 0, 83, 2, 159, 0, 24, 42, 180, 0, 17, 42, 180, 0, 83, 182, 0, 226, 192, 0, 117]
abbrev dktX1_isAtSpeed_0 : List UInt8 := dkwX1_isAtSpeed_0 ++ dktX1_isAtSpeed_1
theorem dksX1_isAtSpeed_0 : cX1_isAtSpeed.data.toList.drop 0 = dktX1_isAtSpeed_0 := by decide +kernel
theorem dksX1_isAtSpeed_1 : cX1_isAtSpeed.data.toList.drop 22 = dktX1_isAtSpeed_1 := dk_seg dksX1_isAtSpeed_0 22 rfl rfl
theorem dX1_isAtSpeed_0 : decode cX1_isAtSpeed 0 = .ok (.aload_n 0, 1) := dk_42 (dk_at dksX1_isAtSpeed_0 0 rfl rfl)
theorem dX1_isAtSpeed_1 : decode cX1_isAtSpeed 1 = .ok (.getfield 83, 3) := dk_180 0 83 (dk_at dksX1_isAtSpeed_0 1 rfl rfl)
theorem dX1_isAtSpeed_4 : decode cX1_isAtSpeed 4 = .ok (.iconst (-1), 1) := dk_2 (dk_at dksX1_isAtSpeed_0 4 rfl rfl)
theorem dX1_isAtSpeed_5 : decode cX1_isAtSpeed 5 = .ok (.if_icmp .eq 24, 3) := dk_159 0 24 (dk_at dksX1_isAtSpeed_0 5 rfl rfl)
theorem dX1_isAtSpeed_8 : decode cX1_isAtSpeed 8 = .ok (.aload_n 0, 1) := dk_42 (dk_at dksX1_isAtSpeed_0 8 rfl rfl)
theorem dX1_isAtSpeed_9 : decode cX1_isAtSpeed 9 = .ok (.getfield 17, 3) := dk_180 0 17 (dk_at dksX1_isAtSpeed_0 9 rfl rfl)
theorem dX1_isAtSpeed_12 : decode cX1_isAtSpeed 12 = .ok (.aload_n 0, 1) := dk_42 (dk_at dksX1_isAtSpeed_0 12 rfl rfl)
theorem dX1_isAtSpeed_13 : decode cX1_isAtSpeed 13 = .ok (.getfield 83, 3) := dk_180 0 83 (dk_at dksX1_isAtSpeed_0 13 rfl rfl)
theorem dX1_isAtSpeed_16 : decode cX1_isAtSpeed 16 = .ok (.invokevirtual 226, 3) := dk_182 0 226 (dk_at dksX1_isAtSpeed_0 16 rfl rfl)
theorem dX1_isAtSpeed_19 : decode cX1_isAtSpeed 19 = .ok (.checkcast 117, 3) := dk_192 0 117 (dk_at dksX1_isAtSpeed_0 19 rfl rfl)
theorem dX1_isAtSpeed_22 : decode cX1_isAtSpeed 22 = .ok (.getfield 221, 3) := dk_180 0 221 (dk_at dksX1_isAtSpeed_1 0 rfl rfl)
theorem dX1_isAtSpeed_25 : decode cX1_isAtSpeed 25 = .ok (.iload_n 1, 1) := dk_27 (dk_at dksX1_isAtSpeed_1 3 rfl rfl)
theorem dX1_isAtSpeed_26 : decode cX1_isAtSpeed 26 = .ok (.if_icmp .ne 7, 3) := dk_160 0 7 (dk_at dksX1_isAtSpeed_1 4 rfl rfl)
theorem dX1_isAtSpeed_29 : decode cX1_isAtSpeed 29 = .ok (.iconst 1, 1) := dk_4 (dk_at dksX1_isAtSpeed_1 7 rfl rfl)
theorem dX1_isAtSpeed_30 : decode cX1_isAtSpeed 30 = .ok (.goto 4, 3) := dk_167 0 4 (dk_at dksX1_isAtSpeed_1 8 rfl rfl)
theorem dX1_isAtSpeed_33 : decode cX1_isAtSpeed 33 = .ok (.iconst 0, 1) := dk_3 (dk_at dksX1_isAtSpeed_1 11 rfl rfl)
theorem dX1_isAtSpeed_34 : decode cX1_isAtSpeed 34 = .ok (.ireturn, 1) := dk_172 (dk_at dksX1_isAtSpeed_1 12 rfl rfl)
abbrev cX1_lambda_new_1 : ByteArray := prog_15_method_43_code
def yX1_lambda_new_1 : MethodName := ⟨RX1, "lambda$new$1", "(LFieldPumps$Station;)Z"⟩
def dkwX1_lambda_new_1_1 : List UInt8 := [153, 0, 7, 4, 167, 0, 4, 3, 172]
abbrev dktX1_lambda_new_1_1 : List UInt8 := dkwX1_lambda_new_1_1 ++ []
def dkwX1_lambda_new_1_0 : List UInt8 := [42, 182, 1, 59, 42, 180, 0, 96, 4, 46, 164, 0, 20, 42, 42, 180, 0, 96, 7, 46, 182, 1, 55]
abbrev dktX1_lambda_new_1_0 : List UInt8 := dkwX1_lambda_new_1_0 ++ dktX1_lambda_new_1_1
theorem dksX1_lambda_new_1_0 : cX1_lambda_new_1.data.toList.drop 0 = dktX1_lambda_new_1_0 := by decide +kernel
theorem dksX1_lambda_new_1_1 : cX1_lambda_new_1.data.toList.drop 23 = dktX1_lambda_new_1_1 := dk_seg dksX1_lambda_new_1_0 23 rfl rfl
theorem dX1_lambda_new_1_0 : decode cX1_lambda_new_1 0 = .ok (.aload_n 0, 1) := dk_42 (dk_at dksX1_lambda_new_1_0 0 rfl rfl)
theorem dX1_lambda_new_1_1 : decode cX1_lambda_new_1 1 = .ok (.invokevirtual 315, 3) := dk_182 1 59 (dk_at dksX1_lambda_new_1_0 1 rfl rfl)
theorem dX1_lambda_new_1_4 : decode cX1_lambda_new_1 4 = .ok (.aload_n 0, 1) := dk_42 (dk_at dksX1_lambda_new_1_0 4 rfl rfl)
theorem dX1_lambda_new_1_5 : decode cX1_lambda_new_1 5 = .ok (.getfield 96, 3) := dk_180 0 96 (dk_at dksX1_lambda_new_1_0 5 rfl rfl)
theorem dX1_lambda_new_1_8 : decode cX1_lambda_new_1 8 = .ok (.iconst 1, 1) := dk_4 (dk_at dksX1_lambda_new_1_0 8 rfl rfl)
theorem dX1_lambda_new_1_9 : decode cX1_lambda_new_1 9 = .ok (.iaload, 1) := dk_46 (dk_at dksX1_lambda_new_1_0 9 rfl rfl)
theorem dX1_lambda_new_1_10 : decode cX1_lambda_new_1 10 = .ok (.if_icmp .le 20, 3) := dk_164 0 20 (dk_at dksX1_lambda_new_1_0 10 rfl rfl)
theorem dX1_lambda_new_1_13 : decode cX1_lambda_new_1 13 = .ok (.aload_n 0, 1) := dk_42 (dk_at dksX1_lambda_new_1_0 13 rfl rfl)
theorem dX1_lambda_new_1_14 : decode cX1_lambda_new_1 14 = .ok (.aload_n 0, 1) := dk_42 (dk_at dksX1_lambda_new_1_0 14 rfl rfl)
theorem dX1_lambda_new_1_15 : decode cX1_lambda_new_1 15 = .ok (.getfield 96, 3) := dk_180 0 96 (dk_at dksX1_lambda_new_1_0 15 rfl rfl)
theorem dX1_lambda_new_1_18 : decode cX1_lambda_new_1 18 = .ok (.iconst 4, 1) := dk_7 (dk_at dksX1_lambda_new_1_0 18 rfl rfl)
theorem dX1_lambda_new_1_19 : decode cX1_lambda_new_1 19 = .ok (.iaload, 1) := dk_46 (dk_at dksX1_lambda_new_1_0 19 rfl rfl)
theorem dX1_lambda_new_1_20 : decode cX1_lambda_new_1 20 = .ok (.invokevirtual 311, 3) := dk_182 1 55 (dk_at dksX1_lambda_new_1_0 20 rfl rfl)
theorem dX1_lambda_new_1_23 : decode cX1_lambda_new_1 23 = .ok (.ifCond .eq 7, 3) := dk_153 0 7 (dk_at dksX1_lambda_new_1_1 0 rfl rfl)
theorem dX1_lambda_new_1_26 : decode cX1_lambda_new_1 26 = .ok (.iconst 1, 1) := dk_4 (dk_at dksX1_lambda_new_1_1 3 rfl rfl)
theorem dX1_lambda_new_1_27 : decode cX1_lambda_new_1 27 = .ok (.goto 4, 3) := dk_167 0 4 (dk_at dksX1_lambda_new_1_1 4 rfl rfl)
theorem dX1_lambda_new_1_30 : decode cX1_lambda_new_1 30 = .ok (.iconst 0, 1) := dk_3 (dk_at dksX1_lambda_new_1_1 7 rfl rfl)
theorem dX1_lambda_new_1_31 : decode cX1_lambda_new_1 31 = .ok (.ireturn, 1) := dk_172 (dk_at dksX1_lambda_new_1_1 8 rfl rfl)
abbrev cX1_lambda_new_2 : ByteArray := prog_15_method_42_code
def yX1_lambda_new_2 : MethodName := ⟨RX1, "lambda$new$2", "(LFieldPumps$Station;)Z"⟩
def dkwX1_lambda_new_2_1 : List UInt8 := [167, 0, 4, 3, 172]
abbrev dktX1_lambda_new_2_1 : List UInt8 := dkwX1_lambda_new_2_1 ++ []
def dkwX1_lambda_new_2_0 : List UInt8 := [42, 182, 1, 133, 153, 0, 21, 42, 180, 0, 163, 42, 180, 0, 96, 16, 7, 46, 162, 0, 7, 4]
abbrev dktX1_lambda_new_2_0 : List UInt8 := dkwX1_lambda_new_2_0 ++ dktX1_lambda_new_2_1
theorem dksX1_lambda_new_2_0 : cX1_lambda_new_2.data.toList.drop 0 = dktX1_lambda_new_2_0 := by decide +kernel
theorem dksX1_lambda_new_2_1 : cX1_lambda_new_2.data.toList.drop 22 = dktX1_lambda_new_2_1 := dk_seg dksX1_lambda_new_2_0 22 rfl rfl
theorem dX1_lambda_new_2_0 : decode cX1_lambda_new_2 0 = .ok (.aload_n 0, 1) := dk_42 (dk_at dksX1_lambda_new_2_0 0 rfl rfl)
theorem dX1_lambda_new_2_1 : decode cX1_lambda_new_2 1 = .ok (.invokevirtual 389, 3) := dk_182 1 133 (dk_at dksX1_lambda_new_2_0 1 rfl rfl)
theorem dX1_lambda_new_2_4 : decode cX1_lambda_new_2 4 = .ok (.ifCond .eq 21, 3) := dk_153 0 21 (dk_at dksX1_lambda_new_2_0 4 rfl rfl)
theorem dX1_lambda_new_2_7 : decode cX1_lambda_new_2 7 = .ok (.aload_n 0, 1) := dk_42 (dk_at dksX1_lambda_new_2_0 7 rfl rfl)
theorem dX1_lambda_new_2_8 : decode cX1_lambda_new_2 8 = .ok (.getfield 163, 3) := dk_180 0 163 (dk_at dksX1_lambda_new_2_0 8 rfl rfl)
theorem dX1_lambda_new_2_11 : decode cX1_lambda_new_2 11 = .ok (.aload_n 0, 1) := dk_42 (dk_at dksX1_lambda_new_2_0 11 rfl rfl)
theorem dX1_lambda_new_2_12 : decode cX1_lambda_new_2 12 = .ok (.getfield 96, 3) := dk_180 0 96 (dk_at dksX1_lambda_new_2_0 12 rfl rfl)
theorem dX1_lambda_new_2_15 : decode cX1_lambda_new_2 15 = .ok (.bipush 7, 2) := dk_16 7 (dk_at dksX1_lambda_new_2_0 15 rfl rfl)
theorem dX1_lambda_new_2_17 : decode cX1_lambda_new_2 17 = .ok (.iaload, 1) := dk_46 (dk_at dksX1_lambda_new_2_0 17 rfl rfl)
theorem dX1_lambda_new_2_18 : decode cX1_lambda_new_2 18 = .ok (.if_icmp .ge 7, 3) := dk_162 0 7 (dk_at dksX1_lambda_new_2_0 18 rfl rfl)
theorem dX1_lambda_new_2_21 : decode cX1_lambda_new_2 21 = .ok (.iconst 1, 1) := dk_4 (dk_at dksX1_lambda_new_2_0 21 rfl rfl)
theorem dX1_lambda_new_2_22 : decode cX1_lambda_new_2 22 = .ok (.goto 4, 3) := dk_167 0 4 (dk_at dksX1_lambda_new_2_1 0 rfl rfl)
theorem dX1_lambda_new_2_25 : decode cX1_lambda_new_2 25 = .ok (.iconst 0, 1) := dk_3 (dk_at dksX1_lambda_new_2_1 3 rfl rfl)
theorem dX1_lambda_new_2_26 : decode cX1_lambda_new_2 26 = .ok (.ireturn, 1) := dk_172 (dk_at dksX1_lambda_new_2_1 4 rfl rfl)
abbrev cX1_isAlone : ByteArray := prog_15_method_28_code
def yX1_isAlone : MethodName := ⟨RX1, "isAlone", "()Z"⟩
def dkwX1_isAlone_1 : List UInt8 := [182, 1, 55, 153, 0, 7, 4, 167, 0, 4, 3, 172]
abbrev dktX1_isAlone_1 : List UInt8 := dkwX1_isAlone_1 ++ []
def dkwX1_isAlone_0 : List UInt8 := [42, 180, 0, 83, 2, 159, 0, 28, 42, 182, 0, 237, 4, 160, 0, 20, 42, 42, 180, 0, 96, 7, 46]
abbrev dktX1_isAlone_0 : List UInt8 := dkwX1_isAlone_0 ++ dktX1_isAlone_1
theorem dksX1_isAlone_0 : cX1_isAlone.data.toList.drop 0 = dktX1_isAlone_0 := by decide +kernel
theorem dksX1_isAlone_1 : cX1_isAlone.data.toList.drop 23 = dktX1_isAlone_1 := dk_seg dksX1_isAlone_0 23 rfl rfl
theorem dX1_isAlone_0 : decode cX1_isAlone 0 = .ok (.aload_n 0, 1) := dk_42 (dk_at dksX1_isAlone_0 0 rfl rfl)
theorem dX1_isAlone_1 : decode cX1_isAlone 1 = .ok (.getfield 83, 3) := dk_180 0 83 (dk_at dksX1_isAlone_0 1 rfl rfl)
theorem dX1_isAlone_4 : decode cX1_isAlone 4 = .ok (.iconst (-1), 1) := dk_2 (dk_at dksX1_isAlone_0 4 rfl rfl)
theorem dX1_isAlone_5 : decode cX1_isAlone 5 = .ok (.if_icmp .eq 28, 3) := dk_159 0 28 (dk_at dksX1_isAlone_0 5 rfl rfl)
theorem dX1_isAlone_8 : decode cX1_isAlone 8 = .ok (.aload_n 0, 1) := dk_42 (dk_at dksX1_isAlone_0 8 rfl rfl)
theorem dX1_isAlone_9 : decode cX1_isAlone 9 = .ok (.invokevirtual 237, 3) := dk_182 0 237 (dk_at dksX1_isAlone_0 9 rfl rfl)
theorem dX1_isAlone_12 : decode cX1_isAlone 12 = .ok (.iconst 1, 1) := dk_4 (dk_at dksX1_isAlone_0 12 rfl rfl)
theorem dX1_isAlone_13 : decode cX1_isAlone 13 = .ok (.if_icmp .ne 20, 3) := dk_160 0 20 (dk_at dksX1_isAlone_0 13 rfl rfl)
theorem dX1_isAlone_16 : decode cX1_isAlone 16 = .ok (.aload_n 0, 1) := dk_42 (dk_at dksX1_isAlone_0 16 rfl rfl)
theorem dX1_isAlone_17 : decode cX1_isAlone 17 = .ok (.aload_n 0, 1) := dk_42 (dk_at dksX1_isAlone_0 17 rfl rfl)
theorem dX1_isAlone_18 : decode cX1_isAlone 18 = .ok (.getfield 96, 3) := dk_180 0 96 (dk_at dksX1_isAlone_0 18 rfl rfl)
theorem dX1_isAlone_21 : decode cX1_isAlone 21 = .ok (.iconst 4, 1) := dk_7 (dk_at dksX1_isAlone_0 21 rfl rfl)
theorem dX1_isAlone_22 : decode cX1_isAlone 22 = .ok (.iaload, 1) := dk_46 (dk_at dksX1_isAlone_0 22 rfl rfl)
theorem dX1_isAlone_23 : decode cX1_isAlone 23 = .ok (.invokevirtual 311, 3) := dk_182 1 55 (dk_at dksX1_isAlone_1 0 rfl rfl)
theorem dX1_isAlone_26 : decode cX1_isAlone 26 = .ok (.ifCond .eq 7, 3) := dk_153 0 7 (dk_at dksX1_isAlone_1 3 rfl rfl)
theorem dX1_isAlone_29 : decode cX1_isAlone 29 = .ok (.iconst 1, 1) := dk_4 (dk_at dksX1_isAlone_1 6 rfl rfl)
theorem dX1_isAlone_30 : decode cX1_isAlone 30 = .ok (.goto 4, 3) := dk_167 0 4 (dk_at dksX1_isAlone_1 7 rfl rfl)
theorem dX1_isAlone_33 : decode cX1_isAlone 33 = .ok (.iconst 0, 1) := dk_3 (dk_at dksX1_isAlone_1 10 rfl rfl)
theorem dX1_isAlone_34 : decode cX1_isAlone 34 = .ok (.ireturn, 1) := dk_172 (dk_at dksX1_isAlone_1 11 rfl rfl)
abbrev cX1_running : ByteArray := prog_15_method_11_code
def yX1_running : MethodName := ⟨RX1, "running", "()I"⟩
def dkwX1_running_1 : List UInt8 := [192, 0, 117, 182, 0, 218, 153, 0, 7, 4, 167, 0, 4, 3, 96, 60, 132, 2, 1, 167, 255, 217, 27, 172]
abbrev dktX1_running_1 : List UInt8 := dkwX1_running_1 ++ []
def dkwX1_running_0 : List UInt8 := [3, 60, 3, 61, 28, 42, 180, 0, 17, 182, 0, 198, 162, 0, 34, 27, 42, 180, 0, 17, 28, 182, 0, 226]
abbrev dktX1_running_0 : List UInt8 := dkwX1_running_0 ++ dktX1_running_1
theorem dksX1_running_0 : cX1_running.data.toList.drop 0 = dktX1_running_0 := by decide +kernel
theorem dksX1_running_1 : cX1_running.data.toList.drop 24 = dktX1_running_1 := dk_seg dksX1_running_0 24 rfl rfl
theorem dX1_running_0 : decode cX1_running 0 = .ok (.iconst 0, 1) := dk_3 (dk_at dksX1_running_0 0 rfl rfl)
theorem dX1_running_1 : decode cX1_running 1 = .ok (.istore_n 1, 1) := dk_60 (dk_at dksX1_running_0 1 rfl rfl)
theorem dX1_running_2 : decode cX1_running 2 = .ok (.iconst 0, 1) := dk_3 (dk_at dksX1_running_0 2 rfl rfl)
theorem dX1_running_3 : decode cX1_running 3 = .ok (.istore_n 2, 1) := dk_61 (dk_at dksX1_running_0 3 rfl rfl)
theorem dX1_running_4 : decode cX1_running 4 = .ok (.iload_n 2, 1) := dk_28 (dk_at dksX1_running_0 4 rfl rfl)
theorem dX1_running_5 : decode cX1_running 5 = .ok (.aload_n 0, 1) := dk_42 (dk_at dksX1_running_0 5 rfl rfl)
theorem dX1_running_6 : decode cX1_running 6 = .ok (.getfield 17, 3) := dk_180 0 17 (dk_at dksX1_running_0 6 rfl rfl)
theorem dX1_running_9 : decode cX1_running 9 = .ok (.invokevirtual 198, 3) := dk_182 0 198 (dk_at dksX1_running_0 9 rfl rfl)
theorem dX1_running_12 : decode cX1_running 12 = .ok (.if_icmp .ge 34, 3) := dk_162 0 34 (dk_at dksX1_running_0 12 rfl rfl)
theorem dX1_running_15 : decode cX1_running 15 = .ok (.iload_n 1, 1) := dk_27 (dk_at dksX1_running_0 15 rfl rfl)
theorem dX1_running_16 : decode cX1_running 16 = .ok (.aload_n 0, 1) := dk_42 (dk_at dksX1_running_0 16 rfl rfl)
theorem dX1_running_17 : decode cX1_running 17 = .ok (.getfield 17, 3) := dk_180 0 17 (dk_at dksX1_running_0 17 rfl rfl)
theorem dX1_running_20 : decode cX1_running 20 = .ok (.iload_n 2, 1) := dk_28 (dk_at dksX1_running_0 20 rfl rfl)
theorem dX1_running_21 : decode cX1_running 21 = .ok (.invokevirtual 226, 3) := dk_182 0 226 (dk_at dksX1_running_0 21 rfl rfl)
theorem dX1_running_24 : decode cX1_running 24 = .ok (.checkcast 117, 3) := dk_192 0 117 (dk_at dksX1_running_1 0 rfl rfl)
theorem dX1_running_27 : decode cX1_running 27 = .ok (.invokevirtual 218, 3) := dk_182 0 218 (dk_at dksX1_running_1 3 rfl rfl)
theorem dX1_running_30 : decode cX1_running 30 = .ok (.ifCond .eq 7, 3) := dk_153 0 7 (dk_at dksX1_running_1 6 rfl rfl)
theorem dX1_running_33 : decode cX1_running 33 = .ok (.iconst 1, 1) := dk_4 (dk_at dksX1_running_1 9 rfl rfl)
theorem dX1_running_34 : decode cX1_running 34 = .ok (.goto 4, 3) := dk_167 0 4 (dk_at dksX1_running_1 10 rfl rfl)
theorem dX1_running_37 : decode cX1_running 37 = .ok (.iconst 0, 1) := dk_3 (dk_at dksX1_running_1 13 rfl rfl)
theorem dX1_running_38 : decode cX1_running 38 = .ok (.iadd, 1) := dk_96 (dk_at dksX1_running_1 14 rfl rfl)
theorem dX1_running_39 : decode cX1_running 39 = .ok (.istore_n 1, 1) := dk_60 (dk_at dksX1_running_1 15 rfl rfl)
theorem dX1_running_40 : decode cX1_running 40 = .ok (.iinc 2 1, 3) := dk_132 2 1 (dk_at dksX1_running_1 16 rfl rfl)
theorem dX1_running_43 : decode cX1_running 43 = .ok (.goto (-39), 3) := dk_167 255 217 (dk_at dksX1_running_1 19 rfl rfl)
theorem dX1_running_46 : decode cX1_running 46 = .ok (.iload_n 1, 1) := dk_27 (dk_at dksX1_running_1 22 rfl rfl)
theorem dX1_running_47 : decode cX1_running 47 = .ok (.ireturn, 1) := dk_172 (dk_at dksX1_running_1 23 rfl rfl)
abbrev cX1_init_3 : ByteArray := prog_15_method_3_code
def yX1_init_3 : MethodName := ⟨RX1, "<init>", "(LFieldPumps$Station;)V"⟩
def dkwX1_init_3_14 : List UInt8 := [43, 180, 0, 181, 181, 0, 181, 177]
abbrev dktX1_init_3_14 : List UInt8 := dkwX1_init_3_14 ++ []
def dkwX1_init_3_13 : List UInt8 := [43, 180, 0, 172, 181, 0, 172, 42, 43, 180, 0, 175, 181, 0, 175, 42, 43, 180, 0, 178, 181, 0, 178, 42]
abbrev dktX1_init_3_13 : List UInt8 := dkwX1_init_3_13 ++ dktX1_init_3_14
def dkwX1_init_3_12 : List UInt8 := [43, 180, 0, 163, 181, 0, 163, 42, 43, 180, 0, 166, 181, 0, 166, 42, 43, 180, 0, 169, 181, 0, 169, 42]
abbrev dktX1_init_3_12 : List UInt8 := dkwX1_init_3_12 ++ dktX1_init_3_13
def dkwX1_init_3_11 : List UInt8 := [43, 180, 0, 87, 181, 0, 87, 42, 43, 180, 0, 160, 181, 0, 160, 42, 43, 180, 0, 83, 181, 0, 83, 42]
abbrev dktX1_init_3_11 : List UInt8 := dkwX1_init_3_11 ++ dktX1_init_3_12
def dkwX1_init_3_10 : List UInt8 := [43, 180, 0, 151, 181, 0, 151, 42, 43, 180, 0, 154, 181, 0, 154, 42, 43, 180, 0, 157, 181, 0, 157, 42]
abbrev dktX1_init_3_10 : List UInt8 := dkwX1_init_3_10 ++ dktX1_init_3_11
def dkwX1_init_3_9 : List UInt8 := [180, 0, 46, 3, 16, 8, 184, 0, 132, 43, 180, 0, 50, 3, 42, 180, 0, 50, 3, 6, 184, 0, 132, 42]
abbrev dktX1_init_3_9 : List UInt8 := dkwX1_init_3_9 ++ dktX1_init_3_10
def dkwX1_init_3_8 : List UInt8 := [167, 255, 222, 43, 180, 0, 43, 3, 42, 180, 0, 43, 3, 16, 8, 184, 0, 132, 43, 180, 0, 46, 3, 42]
abbrev dktX1_init_3_8 : List UInt8 := dkwX1_init_3_8 ++ dktX1_init_3_9
def dkwX1_init_3_7 : List UInt8 := [185, 0, 114, 1, 0, 192, 0, 141, 182, 0, 143, 62, 42, 180, 0, 34, 29, 184, 0, 147, 182, 0, 129, 87]
abbrev dktX1_init_3_7 : List UInt8 := dkwX1_init_3_7 ++ dktX1_init_3_8
def dkwX1_init_3_6 : List UInt8 := [180, 0, 138, 181, 0, 138, 43, 180, 0, 34, 182, 0, 104, 77, 44, 185, 0, 108, 1, 0, 153, 0, 31, 44]
abbrev dktX1_init_3_6 : List UInt8 := dkwX1_init_3_6 ++ dktX1_init_3_7
def dkwX1_init_3_5 : List UInt8 := [16, 12, 184, 0, 132, 43, 180, 0, 31, 3, 42, 180, 0, 31, 3, 16, 12, 184, 0, 132, 42, 43]
abbrev dktX1_init_3_5 : List UInt8 := dkwX1_init_3_5 ++ dktX1_init_3_6
def dkwX1_init_3_4 : List UInt8 := [180, 0, 24, 3, 42, 180, 0, 24, 3, 16, 12, 184, 0, 132, 43, 180, 0, 28, 3, 42, 180, 0, 28, 3]
abbrev dktX1_init_3_4 : List UInt8 := dkwX1_init_3_4 ++ dktX1_init_3_5
def dkwX1_init_3_3 : List UInt8 := [185, 0, 114, 1, 0, 192, 0, 127, 78, 42, 180, 0, 21, 45, 182, 0, 129, 87, 167, 255, 228, 43]
abbrev dktX1_init_3_3 : List UInt8 := dkwX1_init_3_3 ++ dktX1_init_3_4
def dkwX1_init_3_2 : List UInt8 := [182, 0, 123, 167, 255, 229, 43, 180, 0, 21, 182, 0, 104, 77, 44, 185, 0, 108, 1, 0, 153, 0, 25, 44]
abbrev dktX1_init_3_2 : List UInt8 := dkwX1_init_3_2 ++ dktX1_init_3_3
def dkwX1_init_3_1 : List UInt8 := [185, 0, 108, 1, 0, 153, 0, 24, 44, 185, 0, 114, 1, 0, 192, 0, 117, 78, 42, 45, 184, 0, 119]
abbrev dktX1_init_3_1 : List UInt8 := dkwX1_init_3_1 ++ dktX1_init_3_2
def dkwX1_init_3_0 : List UInt8 := [42, 43, 180, 0, 96, 182, 0, 99, 192, 0, 100, 183, 0, 3, 43, 180, 0, 17, 182, 0, 104, 77, 44]
abbrev dktX1_init_3_0 : List UInt8 := dkwX1_init_3_0 ++ dktX1_init_3_1
theorem dksX1_init_3_0 : cX1_init_3.data.toList.drop 0 = dktX1_init_3_0 := by decide +kernel
theorem dksX1_init_3_1 : cX1_init_3.data.toList.drop 23 = dktX1_init_3_1 := dk_seg dksX1_init_3_0 23 rfl rfl
theorem dksX1_init_3_2 : cX1_init_3.data.toList.drop 46 = dktX1_init_3_2 := dk_seg dksX1_init_3_1 23 rfl rfl
theorem dksX1_init_3_3 : cX1_init_3.data.toList.drop 70 = dktX1_init_3_3 := dk_seg dksX1_init_3_2 24 rfl rfl
theorem dksX1_init_3_4 : cX1_init_3.data.toList.drop 92 = dktX1_init_3_4 := dk_seg dksX1_init_3_3 22 rfl rfl
theorem dksX1_init_3_5 : cX1_init_3.data.toList.drop 116 = dktX1_init_3_5 := dk_seg dksX1_init_3_4 24 rfl rfl
theorem dksX1_init_3_6 : cX1_init_3.data.toList.drop 138 = dktX1_init_3_6 := dk_seg dksX1_init_3_5 22 rfl rfl
theorem dksX1_init_3_7 : cX1_init_3.data.toList.drop 162 = dktX1_init_3_7 := dk_seg dksX1_init_3_6 24 rfl rfl
theorem dksX1_init_3_8 : cX1_init_3.data.toList.drop 186 = dktX1_init_3_8 := dk_seg dksX1_init_3_7 24 rfl rfl
theorem dksX1_init_3_9 : cX1_init_3.data.toList.drop 210 = dktX1_init_3_9 := dk_seg dksX1_init_3_8 24 rfl rfl
theorem dksX1_init_3_10 : cX1_init_3.data.toList.drop 234 = dktX1_init_3_10 := dk_seg dksX1_init_3_9 24 rfl rfl
theorem dksX1_init_3_11 : cX1_init_3.data.toList.drop 258 = dktX1_init_3_11 := dk_seg dksX1_init_3_10 24 rfl rfl
theorem dksX1_init_3_12 : cX1_init_3.data.toList.drop 282 = dktX1_init_3_12 := dk_seg dksX1_init_3_11 24 rfl rfl
theorem dksX1_init_3_13 : cX1_init_3.data.toList.drop 306 = dktX1_init_3_13 := dk_seg dksX1_init_3_12 24 rfl rfl
theorem dksX1_init_3_14 : cX1_init_3.data.toList.drop 330 = dktX1_init_3_14 := dk_seg dksX1_init_3_13 24 rfl rfl
theorem dX1_init_3_0 : decode cX1_init_3 0 = .ok (.aload_n 0, 1) := dk_42 (dk_at dksX1_init_3_0 0 rfl rfl)
theorem dX1_init_3_1 : decode cX1_init_3 1 = .ok (.aload_n 1, 1) := dk_43 (dk_at dksX1_init_3_0 1 rfl rfl)
theorem dX1_init_3_2 : decode cX1_init_3 2 = .ok (.getfield 96, 3) := dk_180 0 96 (dk_at dksX1_init_3_0 2 rfl rfl)
theorem dX1_init_3_5 : decode cX1_init_3 5 = .ok (.invokevirtual 99, 3) := dk_182 0 99 (dk_at dksX1_init_3_0 5 rfl rfl)
theorem dX1_init_3_8 : decode cX1_init_3 8 = .ok (.checkcast 100, 3) := dk_192 0 100 (dk_at dksX1_init_3_0 8 rfl rfl)
theorem dX1_init_3_11 : decode cX1_init_3 11 = .ok (.invokespecial 3, 3) := dk_183 0 3 (dk_at dksX1_init_3_0 11 rfl rfl)
theorem dX1_init_3_14 : decode cX1_init_3 14 = .ok (.aload_n 1, 1) := dk_43 (dk_at dksX1_init_3_0 14 rfl rfl)
theorem dX1_init_3_15 : decode cX1_init_3 15 = .ok (.getfield 17, 3) := dk_180 0 17 (dk_at dksX1_init_3_0 15 rfl rfl)
theorem dX1_init_3_18 : decode cX1_init_3 18 = .ok (.invokevirtual 104, 3) := dk_182 0 104 (dk_at dksX1_init_3_0 18 rfl rfl)
theorem dX1_init_3_21 : decode cX1_init_3 21 = .ok (.astore_n 2, 1) := dk_77 (dk_at dksX1_init_3_0 21 rfl rfl)
theorem dX1_init_3_22 : decode cX1_init_3 22 = .ok (.aload_n 2, 1) := dk_44 (dk_at dksX1_init_3_0 22 rfl rfl)
theorem dX1_init_3_23 : decode cX1_init_3 23 = .ok (.invokeinterface 108 1, 5) := by decide +kernel
theorem dX1_init_3_28 : decode cX1_init_3 28 = .ok (.ifCond .eq 24, 3) := dk_153 0 24 (dk_at dksX1_init_3_1 5 rfl rfl)
theorem dX1_init_3_31 : decode cX1_init_3 31 = .ok (.aload_n 2, 1) := dk_44 (dk_at dksX1_init_3_1 8 rfl rfl)
theorem dX1_init_3_32 : decode cX1_init_3 32 = .ok (.invokeinterface 114 1, 5) := by decide +kernel
theorem dX1_init_3_37 : decode cX1_init_3 37 = .ok (.checkcast 117, 3) := dk_192 0 117 (dk_at dksX1_init_3_1 14 rfl rfl)
theorem dX1_init_3_40 : decode cX1_init_3 40 = .ok (.astore_n 3, 1) := dk_78 (dk_at dksX1_init_3_1 17 rfl rfl)
theorem dX1_init_3_41 : decode cX1_init_3 41 = .ok (.aload_n 0, 1) := dk_42 (dk_at dksX1_init_3_1 18 rfl rfl)
theorem dX1_init_3_42 : decode cX1_init_3 42 = .ok (.aload_n 3, 1) := dk_45 (dk_at dksX1_init_3_1 19 rfl rfl)
theorem dX1_init_3_43 : decode cX1_init_3 43 = .ok (.invokestatic 119, 3) := dk_184 0 119 (dk_at dksX1_init_3_1 20 rfl rfl)
theorem dX1_init_3_46 : decode cX1_init_3 46 = .ok (.invokevirtual 123, 3) := dk_182 0 123 (dk_at dksX1_init_3_2 0 rfl rfl)
theorem dX1_init_3_49 : decode cX1_init_3 49 = .ok (.goto (-27), 3) := dk_167 255 229 (dk_at dksX1_init_3_2 3 rfl rfl)
theorem dX1_init_3_52 : decode cX1_init_3 52 = .ok (.aload_n 1, 1) := dk_43 (dk_at dksX1_init_3_2 6 rfl rfl)
theorem dX1_init_3_53 : decode cX1_init_3 53 = .ok (.getfield 21, 3) := dk_180 0 21 (dk_at dksX1_init_3_2 7 rfl rfl)
theorem dX1_init_3_56 : decode cX1_init_3 56 = .ok (.invokevirtual 104, 3) := dk_182 0 104 (dk_at dksX1_init_3_2 10 rfl rfl)
theorem dX1_init_3_59 : decode cX1_init_3 59 = .ok (.astore_n 2, 1) := dk_77 (dk_at dksX1_init_3_2 13 rfl rfl)
theorem dX1_init_3_60 : decode cX1_init_3 60 = .ok (.aload_n 2, 1) := dk_44 (dk_at dksX1_init_3_2 14 rfl rfl)
theorem dX1_init_3_61 : decode cX1_init_3 61 = .ok (.invokeinterface 108 1, 5) := by decide +kernel
theorem dX1_init_3_66 : decode cX1_init_3 66 = .ok (.ifCond .eq 25, 3) := dk_153 0 25 (dk_at dksX1_init_3_2 20 rfl rfl)
theorem dX1_init_3_69 : decode cX1_init_3 69 = .ok (.aload_n 2, 1) := dk_44 (dk_at dksX1_init_3_2 23 rfl rfl)
theorem dX1_init_3_70 : decode cX1_init_3 70 = .ok (.invokeinterface 114 1, 5) := by decide +kernel
theorem dX1_init_3_75 : decode cX1_init_3 75 = .ok (.checkcast 127, 3) := dk_192 0 127 (dk_at dksX1_init_3_3 5 rfl rfl)
theorem dX1_init_3_78 : decode cX1_init_3 78 = .ok (.astore_n 3, 1) := dk_78 (dk_at dksX1_init_3_3 8 rfl rfl)
theorem dX1_init_3_79 : decode cX1_init_3 79 = .ok (.aload_n 0, 1) := dk_42 (dk_at dksX1_init_3_3 9 rfl rfl)
theorem dX1_init_3_80 : decode cX1_init_3 80 = .ok (.getfield 21, 3) := dk_180 0 21 (dk_at dksX1_init_3_3 10 rfl rfl)
theorem dX1_init_3_83 : decode cX1_init_3 83 = .ok (.aload_n 3, 1) := dk_45 (dk_at dksX1_init_3_3 13 rfl rfl)
theorem dX1_init_3_84 : decode cX1_init_3 84 = .ok (.invokevirtual 129, 3) := dk_182 0 129 (dk_at dksX1_init_3_3 14 rfl rfl)
theorem dX1_init_3_87 : decode cX1_init_3 87 = .ok (.pop, 1) := dk_87 (dk_at dksX1_init_3_3 17 rfl rfl)
theorem dX1_init_3_88 : decode cX1_init_3 88 = .ok (.goto (-28), 3) := dk_167 255 228 (dk_at dksX1_init_3_3 18 rfl rfl)
theorem dX1_init_3_91 : decode cX1_init_3 91 = .ok (.aload_n 1, 1) := dk_43 (dk_at dksX1_init_3_3 21 rfl rfl)
theorem dX1_init_3_92 : decode cX1_init_3 92 = .ok (.getfield 24, 3) := dk_180 0 24 (dk_at dksX1_init_3_4 0 rfl rfl)
theorem dX1_init_3_95 : decode cX1_init_3 95 = .ok (.iconst 0, 1) := dk_3 (dk_at dksX1_init_3_4 3 rfl rfl)
theorem dX1_init_3_96 : decode cX1_init_3 96 = .ok (.aload_n 0, 1) := dk_42 (dk_at dksX1_init_3_4 4 rfl rfl)
theorem dX1_init_3_97 : decode cX1_init_3 97 = .ok (.getfield 24, 3) := dk_180 0 24 (dk_at dksX1_init_3_4 5 rfl rfl)
theorem dX1_init_3_100 : decode cX1_init_3 100 = .ok (.iconst 0, 1) := dk_3 (dk_at dksX1_init_3_4 8 rfl rfl)
theorem dX1_init_3_101 : decode cX1_init_3 101 = .ok (.bipush 12, 2) := dk_16 12 (dk_at dksX1_init_3_4 9 rfl rfl)
theorem dX1_init_3_103 : decode cX1_init_3 103 = .ok (.invokestatic 132, 3) := dk_184 0 132 (dk_at dksX1_init_3_4 11 rfl rfl)
theorem dX1_init_3_106 : decode cX1_init_3 106 = .ok (.aload_n 1, 1) := dk_43 (dk_at dksX1_init_3_4 14 rfl rfl)
theorem dX1_init_3_107 : decode cX1_init_3 107 = .ok (.getfield 28, 3) := dk_180 0 28 (dk_at dksX1_init_3_4 15 rfl rfl)
theorem dX1_init_3_110 : decode cX1_init_3 110 = .ok (.iconst 0, 1) := dk_3 (dk_at dksX1_init_3_4 18 rfl rfl)
theorem dX1_init_3_111 : decode cX1_init_3 111 = .ok (.aload_n 0, 1) := dk_42 (dk_at dksX1_init_3_4 19 rfl rfl)
theorem dX1_init_3_112 : decode cX1_init_3 112 = .ok (.getfield 28, 3) := dk_180 0 28 (dk_at dksX1_init_3_4 20 rfl rfl)
theorem dX1_init_3_115 : decode cX1_init_3 115 = .ok (.iconst 0, 1) := dk_3 (dk_at dksX1_init_3_4 23 rfl rfl)
theorem dX1_init_3_116 : decode cX1_init_3 116 = .ok (.bipush 12, 2) := dk_16 12 (dk_at dksX1_init_3_5 0 rfl rfl)
theorem dX1_init_3_118 : decode cX1_init_3 118 = .ok (.invokestatic 132, 3) := dk_184 0 132 (dk_at dksX1_init_3_5 2 rfl rfl)
theorem dX1_init_3_121 : decode cX1_init_3 121 = .ok (.aload_n 1, 1) := dk_43 (dk_at dksX1_init_3_5 5 rfl rfl)
theorem dX1_init_3_122 : decode cX1_init_3 122 = .ok (.getfield 31, 3) := dk_180 0 31 (dk_at dksX1_init_3_5 6 rfl rfl)
theorem dX1_init_3_125 : decode cX1_init_3 125 = .ok (.iconst 0, 1) := dk_3 (dk_at dksX1_init_3_5 9 rfl rfl)
theorem dX1_init_3_126 : decode cX1_init_3 126 = .ok (.aload_n 0, 1) := dk_42 (dk_at dksX1_init_3_5 10 rfl rfl)
theorem dX1_init_3_127 : decode cX1_init_3 127 = .ok (.getfield 31, 3) := dk_180 0 31 (dk_at dksX1_init_3_5 11 rfl rfl)
theorem dX1_init_3_130 : decode cX1_init_3 130 = .ok (.iconst 0, 1) := dk_3 (dk_at dksX1_init_3_5 14 rfl rfl)
theorem dX1_init_3_131 : decode cX1_init_3 131 = .ok (.bipush 12, 2) := dk_16 12 (dk_at dksX1_init_3_5 15 rfl rfl)
theorem dX1_init_3_133 : decode cX1_init_3 133 = .ok (.invokestatic 132, 3) := dk_184 0 132 (dk_at dksX1_init_3_5 17 rfl rfl)
theorem dX1_init_3_136 : decode cX1_init_3 136 = .ok (.aload_n 0, 1) := dk_42 (dk_at dksX1_init_3_5 20 rfl rfl)
theorem dX1_init_3_137 : decode cX1_init_3 137 = .ok (.aload_n 1, 1) := dk_43 (dk_at dksX1_init_3_5 21 rfl rfl)
theorem dX1_init_3_138 : decode cX1_init_3 138 = .ok (.getfield 138, 3) := dk_180 0 138 (dk_at dksX1_init_3_6 0 rfl rfl)
theorem dX1_init_3_141 : decode cX1_init_3 141 = .ok (.putfield 138, 3) := dk_181 0 138 (dk_at dksX1_init_3_6 3 rfl rfl)
theorem dX1_init_3_144 : decode cX1_init_3 144 = .ok (.aload_n 1, 1) := dk_43 (dk_at dksX1_init_3_6 6 rfl rfl)
theorem dX1_init_3_145 : decode cX1_init_3 145 = .ok (.getfield 34, 3) := dk_180 0 34 (dk_at dksX1_init_3_6 7 rfl rfl)
theorem dX1_init_3_148 : decode cX1_init_3 148 = .ok (.invokevirtual 104, 3) := dk_182 0 104 (dk_at dksX1_init_3_6 10 rfl rfl)
theorem dX1_init_3_151 : decode cX1_init_3 151 = .ok (.astore_n 2, 1) := dk_77 (dk_at dksX1_init_3_6 13 rfl rfl)
theorem dX1_init_3_152 : decode cX1_init_3 152 = .ok (.aload_n 2, 1) := dk_44 (dk_at dksX1_init_3_6 14 rfl rfl)
theorem dX1_init_3_153 : decode cX1_init_3 153 = .ok (.invokeinterface 108 1, 5) := by decide +kernel
theorem dX1_init_3_158 : decode cX1_init_3 158 = .ok (.ifCond .eq 31, 3) := dk_153 0 31 (dk_at dksX1_init_3_6 20 rfl rfl)
theorem dX1_init_3_161 : decode cX1_init_3 161 = .ok (.aload_n 2, 1) := dk_44 (dk_at dksX1_init_3_6 23 rfl rfl)
theorem dX1_init_3_162 : decode cX1_init_3 162 = .ok (.invokeinterface 114 1, 5) := by decide +kernel
theorem dX1_init_3_167 : decode cX1_init_3 167 = .ok (.checkcast 141, 3) := dk_192 0 141 (dk_at dksX1_init_3_7 5 rfl rfl)
theorem dX1_init_3_170 : decode cX1_init_3 170 = .ok (.invokevirtual 143, 3) := dk_182 0 143 (dk_at dksX1_init_3_7 8 rfl rfl)
theorem dX1_init_3_173 : decode cX1_init_3 173 = .ok (.istore_n 3, 1) := dk_62 (dk_at dksX1_init_3_7 11 rfl rfl)
theorem dX1_init_3_174 : decode cX1_init_3 174 = .ok (.aload_n 0, 1) := dk_42 (dk_at dksX1_init_3_7 12 rfl rfl)
theorem dX1_init_3_175 : decode cX1_init_3 175 = .ok (.getfield 34, 3) := dk_180 0 34 (dk_at dksX1_init_3_7 13 rfl rfl)
theorem dX1_init_3_178 : decode cX1_init_3 178 = .ok (.iload_n 3, 1) := dk_29 (dk_at dksX1_init_3_7 16 rfl rfl)
theorem dX1_init_3_179 : decode cX1_init_3 179 = .ok (.invokestatic 147, 3) := dk_184 0 147 (dk_at dksX1_init_3_7 17 rfl rfl)
theorem dX1_init_3_182 : decode cX1_init_3 182 = .ok (.invokevirtual 129, 3) := dk_182 0 129 (dk_at dksX1_init_3_7 20 rfl rfl)
theorem dX1_init_3_185 : decode cX1_init_3 185 = .ok (.pop, 1) := dk_87 (dk_at dksX1_init_3_7 23 rfl rfl)
theorem dX1_init_3_186 : decode cX1_init_3 186 = .ok (.goto (-34), 3) := dk_167 255 222 (dk_at dksX1_init_3_8 0 rfl rfl)
theorem dX1_init_3_189 : decode cX1_init_3 189 = .ok (.aload_n 1, 1) := dk_43 (dk_at dksX1_init_3_8 3 rfl rfl)
theorem dX1_init_3_190 : decode cX1_init_3 190 = .ok (.getfield 43, 3) := dk_180 0 43 (dk_at dksX1_init_3_8 4 rfl rfl)
theorem dX1_init_3_193 : decode cX1_init_3 193 = .ok (.iconst 0, 1) := dk_3 (dk_at dksX1_init_3_8 7 rfl rfl)
theorem dX1_init_3_194 : decode cX1_init_3 194 = .ok (.aload_n 0, 1) := dk_42 (dk_at dksX1_init_3_8 8 rfl rfl)
theorem dX1_init_3_195 : decode cX1_init_3 195 = .ok (.getfield 43, 3) := dk_180 0 43 (dk_at dksX1_init_3_8 9 rfl rfl)
theorem dX1_init_3_198 : decode cX1_init_3 198 = .ok (.iconst 0, 1) := dk_3 (dk_at dksX1_init_3_8 12 rfl rfl)
theorem dX1_init_3_199 : decode cX1_init_3 199 = .ok (.bipush 8, 2) := dk_16 8 (dk_at dksX1_init_3_8 13 rfl rfl)
theorem dX1_init_3_201 : decode cX1_init_3 201 = .ok (.invokestatic 132, 3) := dk_184 0 132 (dk_at dksX1_init_3_8 15 rfl rfl)
theorem dX1_init_3_204 : decode cX1_init_3 204 = .ok (.aload_n 1, 1) := dk_43 (dk_at dksX1_init_3_8 18 rfl rfl)
theorem dX1_init_3_205 : decode cX1_init_3 205 = .ok (.getfield 46, 3) := dk_180 0 46 (dk_at dksX1_init_3_8 19 rfl rfl)
theorem dX1_init_3_208 : decode cX1_init_3 208 = .ok (.iconst 0, 1) := dk_3 (dk_at dksX1_init_3_8 22 rfl rfl)
theorem dX1_init_3_209 : decode cX1_init_3 209 = .ok (.aload_n 0, 1) := dk_42 (dk_at dksX1_init_3_8 23 rfl rfl)
theorem dX1_init_3_210 : decode cX1_init_3 210 = .ok (.getfield 46, 3) := dk_180 0 46 (dk_at dksX1_init_3_9 0 rfl rfl)
theorem dX1_init_3_213 : decode cX1_init_3 213 = .ok (.iconst 0, 1) := dk_3 (dk_at dksX1_init_3_9 3 rfl rfl)
theorem dX1_init_3_214 : decode cX1_init_3 214 = .ok (.bipush 8, 2) := dk_16 8 (dk_at dksX1_init_3_9 4 rfl rfl)
theorem dX1_init_3_216 : decode cX1_init_3 216 = .ok (.invokestatic 132, 3) := dk_184 0 132 (dk_at dksX1_init_3_9 6 rfl rfl)
theorem dX1_init_3_219 : decode cX1_init_3 219 = .ok (.aload_n 1, 1) := dk_43 (dk_at dksX1_init_3_9 9 rfl rfl)
theorem dX1_init_3_220 : decode cX1_init_3 220 = .ok (.getfield 50, 3) := dk_180 0 50 (dk_at dksX1_init_3_9 10 rfl rfl)
theorem dX1_init_3_223 : decode cX1_init_3 223 = .ok (.iconst 0, 1) := dk_3 (dk_at dksX1_init_3_9 13 rfl rfl)
theorem dX1_init_3_224 : decode cX1_init_3 224 = .ok (.aload_n 0, 1) := dk_42 (dk_at dksX1_init_3_9 14 rfl rfl)
theorem dX1_init_3_225 : decode cX1_init_3 225 = .ok (.getfield 50, 3) := dk_180 0 50 (dk_at dksX1_init_3_9 15 rfl rfl)
theorem dX1_init_3_228 : decode cX1_init_3 228 = .ok (.iconst 0, 1) := dk_3 (dk_at dksX1_init_3_9 18 rfl rfl)
theorem dX1_init_3_229 : decode cX1_init_3 229 = .ok (.iconst 3, 1) := dk_6 (dk_at dksX1_init_3_9 19 rfl rfl)
theorem dX1_init_3_230 : decode cX1_init_3 230 = .ok (.invokestatic 132, 3) := dk_184 0 132 (dk_at dksX1_init_3_9 20 rfl rfl)
theorem dX1_init_3_233 : decode cX1_init_3 233 = .ok (.aload_n 0, 1) := dk_42 (dk_at dksX1_init_3_9 23 rfl rfl)
theorem dX1_init_3_234 : decode cX1_init_3 234 = .ok (.aload_n 1, 1) := dk_43 (dk_at dksX1_init_3_10 0 rfl rfl)
theorem dX1_init_3_235 : decode cX1_init_3 235 = .ok (.getfield 151, 3) := dk_180 0 151 (dk_at dksX1_init_3_10 1 rfl rfl)
theorem dX1_init_3_238 : decode cX1_init_3 238 = .ok (.putfield 151, 3) := dk_181 0 151 (dk_at dksX1_init_3_10 4 rfl rfl)
theorem dX1_init_3_241 : decode cX1_init_3 241 = .ok (.aload_n 0, 1) := dk_42 (dk_at dksX1_init_3_10 7 rfl rfl)
theorem dX1_init_3_242 : decode cX1_init_3 242 = .ok (.aload_n 1, 1) := dk_43 (dk_at dksX1_init_3_10 8 rfl rfl)
theorem dX1_init_3_243 : decode cX1_init_3 243 = .ok (.getfield 154, 3) := dk_180 0 154 (dk_at dksX1_init_3_10 9 rfl rfl)
theorem dX1_init_3_246 : decode cX1_init_3 246 = .ok (.putfield 154, 3) := dk_181 0 154 (dk_at dksX1_init_3_10 12 rfl rfl)
theorem dX1_init_3_249 : decode cX1_init_3 249 = .ok (.aload_n 0, 1) := dk_42 (dk_at dksX1_init_3_10 15 rfl rfl)
theorem dX1_init_3_250 : decode cX1_init_3 250 = .ok (.aload_n 1, 1) := dk_43 (dk_at dksX1_init_3_10 16 rfl rfl)
theorem dX1_init_3_251 : decode cX1_init_3 251 = .ok (.getfield 157, 3) := dk_180 0 157 (dk_at dksX1_init_3_10 17 rfl rfl)
theorem dX1_init_3_254 : decode cX1_init_3 254 = .ok (.putfield 157, 3) := dk_181 0 157 (dk_at dksX1_init_3_10 20 rfl rfl)
theorem dX1_init_3_257 : decode cX1_init_3 257 = .ok (.aload_n 0, 1) := dk_42 (dk_at dksX1_init_3_10 23 rfl rfl)
theorem dX1_init_3_258 : decode cX1_init_3 258 = .ok (.aload_n 1, 1) := dk_43 (dk_at dksX1_init_3_11 0 rfl rfl)
theorem dX1_init_3_259 : decode cX1_init_3 259 = .ok (.getfield 87, 3) := dk_180 0 87 (dk_at dksX1_init_3_11 1 rfl rfl)
theorem dX1_init_3_262 : decode cX1_init_3 262 = .ok (.putfield 87, 3) := dk_181 0 87 (dk_at dksX1_init_3_11 4 rfl rfl)
theorem dX1_init_3_265 : decode cX1_init_3 265 = .ok (.aload_n 0, 1) := dk_42 (dk_at dksX1_init_3_11 7 rfl rfl)
theorem dX1_init_3_266 : decode cX1_init_3 266 = .ok (.aload_n 1, 1) := dk_43 (dk_at dksX1_init_3_11 8 rfl rfl)
theorem dX1_init_3_267 : decode cX1_init_3 267 = .ok (.getfield 160, 3) := dk_180 0 160 (dk_at dksX1_init_3_11 9 rfl rfl)
theorem dX1_init_3_270 : decode cX1_init_3 270 = .ok (.putfield 160, 3) := dk_181 0 160 (dk_at dksX1_init_3_11 12 rfl rfl)
theorem dX1_init_3_273 : decode cX1_init_3 273 = .ok (.aload_n 0, 1) := dk_42 (dk_at dksX1_init_3_11 15 rfl rfl)
theorem dX1_init_3_274 : decode cX1_init_3 274 = .ok (.aload_n 1, 1) := dk_43 (dk_at dksX1_init_3_11 16 rfl rfl)
theorem dX1_init_3_275 : decode cX1_init_3 275 = .ok (.getfield 83, 3) := dk_180 0 83 (dk_at dksX1_init_3_11 17 rfl rfl)
theorem dX1_init_3_278 : decode cX1_init_3 278 = .ok (.putfield 83, 3) := dk_181 0 83 (dk_at dksX1_init_3_11 20 rfl rfl)
theorem dX1_init_3_281 : decode cX1_init_3 281 = .ok (.aload_n 0, 1) := dk_42 (dk_at dksX1_init_3_11 23 rfl rfl)
theorem dX1_init_3_282 : decode cX1_init_3 282 = .ok (.aload_n 1, 1) := dk_43 (dk_at dksX1_init_3_12 0 rfl rfl)
theorem dX1_init_3_283 : decode cX1_init_3 283 = .ok (.getfield 163, 3) := dk_180 0 163 (dk_at dksX1_init_3_12 1 rfl rfl)
theorem dX1_init_3_286 : decode cX1_init_3 286 = .ok (.putfield 163, 3) := dk_181 0 163 (dk_at dksX1_init_3_12 4 rfl rfl)
theorem dX1_init_3_289 : decode cX1_init_3 289 = .ok (.aload_n 0, 1) := dk_42 (dk_at dksX1_init_3_12 7 rfl rfl)
theorem dX1_init_3_290 : decode cX1_init_3 290 = .ok (.aload_n 1, 1) := dk_43 (dk_at dksX1_init_3_12 8 rfl rfl)
theorem dX1_init_3_291 : decode cX1_init_3 291 = .ok (.getfield 166, 3) := dk_180 0 166 (dk_at dksX1_init_3_12 9 rfl rfl)
theorem dX1_init_3_294 : decode cX1_init_3 294 = .ok (.putfield 166, 3) := dk_181 0 166 (dk_at dksX1_init_3_12 12 rfl rfl)
theorem dX1_init_3_297 : decode cX1_init_3 297 = .ok (.aload_n 0, 1) := dk_42 (dk_at dksX1_init_3_12 15 rfl rfl)
theorem dX1_init_3_298 : decode cX1_init_3 298 = .ok (.aload_n 1, 1) := dk_43 (dk_at dksX1_init_3_12 16 rfl rfl)
theorem dX1_init_3_299 : decode cX1_init_3 299 = .ok (.getfield 169, 3) := dk_180 0 169 (dk_at dksX1_init_3_12 17 rfl rfl)
theorem dX1_init_3_302 : decode cX1_init_3 302 = .ok (.putfield 169, 3) := dk_181 0 169 (dk_at dksX1_init_3_12 20 rfl rfl)
theorem dX1_init_3_305 : decode cX1_init_3 305 = .ok (.aload_n 0, 1) := dk_42 (dk_at dksX1_init_3_12 23 rfl rfl)
theorem dX1_init_3_306 : decode cX1_init_3 306 = .ok (.aload_n 1, 1) := dk_43 (dk_at dksX1_init_3_13 0 rfl rfl)
theorem dX1_init_3_307 : decode cX1_init_3 307 = .ok (.getfield 172, 3) := dk_180 0 172 (dk_at dksX1_init_3_13 1 rfl rfl)
theorem dX1_init_3_310 : decode cX1_init_3 310 = .ok (.putfield 172, 3) := dk_181 0 172 (dk_at dksX1_init_3_13 4 rfl rfl)
theorem dX1_init_3_313 : decode cX1_init_3 313 = .ok (.aload_n 0, 1) := dk_42 (dk_at dksX1_init_3_13 7 rfl rfl)
theorem dX1_init_3_314 : decode cX1_init_3 314 = .ok (.aload_n 1, 1) := dk_43 (dk_at dksX1_init_3_13 8 rfl rfl)
theorem dX1_init_3_315 : decode cX1_init_3 315 = .ok (.getfield 175, 3) := dk_180 0 175 (dk_at dksX1_init_3_13 9 rfl rfl)
theorem dX1_init_3_318 : decode cX1_init_3 318 = .ok (.putfield 175, 3) := dk_181 0 175 (dk_at dksX1_init_3_13 12 rfl rfl)
theorem dX1_init_3_321 : decode cX1_init_3 321 = .ok (.aload_n 0, 1) := dk_42 (dk_at dksX1_init_3_13 15 rfl rfl)
theorem dX1_init_3_322 : decode cX1_init_3 322 = .ok (.aload_n 1, 1) := dk_43 (dk_at dksX1_init_3_13 16 rfl rfl)
theorem dX1_init_3_323 : decode cX1_init_3 323 = .ok (.getfield 178, 3) := dk_180 0 178 (dk_at dksX1_init_3_13 17 rfl rfl)
theorem dX1_init_3_326 : decode cX1_init_3 326 = .ok (.putfield 178, 3) := dk_181 0 178 (dk_at dksX1_init_3_13 20 rfl rfl)
theorem dX1_init_3_329 : decode cX1_init_3 329 = .ok (.aload_n 0, 1) := dk_42 (dk_at dksX1_init_3_13 23 rfl rfl)
theorem dX1_init_3_330 : decode cX1_init_3 330 = .ok (.aload_n 1, 1) := dk_43 (dk_at dksX1_init_3_14 0 rfl rfl)
theorem dX1_init_3_331 : decode cX1_init_3 331 = .ok (.getfield 181, 3) := dk_180 0 181 (dk_at dksX1_init_3_14 1 rfl rfl)
theorem dX1_init_3_334 : decode cX1_init_3 334 = .ok (.putfield 181, 3) := dk_181 0 181 (dk_at dksX1_init_3_14 4 rfl rfl)
theorem dX1_init_3_337 : decode cX1_init_3 337 = .ok (.return_, 1) := dk_177 (dk_at dksX1_init_3_14 7 rfl rfl)
abbrev cX1_add : ByteArray := prog_15_method_4_code
def yX1_add : MethodName := ⟨RX1, "add", "(LFieldPumps$Pump;)V"⟩
def dkwX1_add_1 : List UInt8 := [186, 0, 194, 0, 0, 83, 42, 180, 0, 17, 43, 182, 0, 129, 87, 177]
abbrev dktX1_add_1 : List UInt8 := dkwX1_add_1 ++ []
def dkwX1_add_0 : List UInt8 := [43, 180, 0, 185, 61, 43, 180, 0, 188, 62, 42, 180, 0, 39, 43, 180, 0, 191, 28, 29]
abbrev dktX1_add_0 : List UInt8 := dkwX1_add_0 ++ dktX1_add_1
theorem dksX1_add_0 : cX1_add.data.toList.drop 0 = dktX1_add_0 := by decide +kernel
theorem dksX1_add_1 : cX1_add.data.toList.drop 20 = dktX1_add_1 := dk_seg dksX1_add_0 20 rfl rfl
theorem dX1_add_0 : decode cX1_add 0 = .ok (.aload_n 1, 1) := dk_43 (dk_at dksX1_add_0 0 rfl rfl)
theorem dX1_add_1 : decode cX1_add 1 = .ok (.getfield 185, 3) := dk_180 0 185 (dk_at dksX1_add_0 1 rfl rfl)
theorem dX1_add_4 : decode cX1_add 4 = .ok (.istore_n 2, 1) := dk_61 (dk_at dksX1_add_0 4 rfl rfl)
theorem dX1_add_5 : decode cX1_add 5 = .ok (.aload_n 1, 1) := dk_43 (dk_at dksX1_add_0 5 rfl rfl)
theorem dX1_add_6 : decode cX1_add 6 = .ok (.getfield 188, 3) := dk_180 0 188 (dk_at dksX1_add_0 6 rfl rfl)
theorem dX1_add_9 : decode cX1_add 9 = .ok (.istore_n 3, 1) := dk_62 (dk_at dksX1_add_0 9 rfl rfl)
theorem dX1_add_10 : decode cX1_add 10 = .ok (.aload_n 0, 1) := dk_42 (dk_at dksX1_add_0 10 rfl rfl)
theorem dX1_add_11 : decode cX1_add 11 = .ok (.getfield 39, 3) := dk_180 0 39 (dk_at dksX1_add_0 11 rfl rfl)
theorem dX1_add_14 : decode cX1_add 14 = .ok (.aload_n 1, 1) := dk_43 (dk_at dksX1_add_0 14 rfl rfl)
theorem dX1_add_15 : decode cX1_add 15 = .ok (.getfield 191, 3) := dk_180 0 191 (dk_at dksX1_add_0 15 rfl rfl)
theorem dX1_add_18 : decode cX1_add 18 = .ok (.iload_n 2, 1) := dk_28 (dk_at dksX1_add_0 18 rfl rfl)
theorem dX1_add_19 : decode cX1_add 19 = .ok (.iload_n 3, 1) := dk_29 (dk_at dksX1_add_0 19 rfl rfl)
theorem dX1_add_20 : decode cX1_add 20 = .ok (.invokedynamic 194, 5) := by decide +kernel
theorem dX1_add_25 : decode cX1_add 25 = .ok (.aastore, 1) := dk_83 (dk_at dksX1_add_1 5 rfl rfl)
theorem dX1_add_26 : decode cX1_add 26 = .ok (.aload_n 0, 1) := dk_42 (dk_at dksX1_add_1 6 rfl rfl)
theorem dX1_add_27 : decode cX1_add 27 = .ok (.getfield 17, 3) := dk_180 0 17 (dk_at dksX1_add_1 7 rfl rfl)
theorem dX1_add_30 : decode cX1_add 30 = .ok (.aload_n 1, 1) := dk_43 (dk_at dksX1_add_1 10 rfl rfl)
theorem dX1_add_31 : decode cX1_add 31 = .ok (.invokevirtual 129, 3) := dk_182 0 129 (dk_at dksX1_add_1 11 rfl rfl)
theorem dX1_add_34 : decode cX1_add 34 = .ok (.pop, 1) := dk_87 (dk_at dksX1_add_1 14 rfl rfl)
theorem dX1_add_35 : decode cX1_add 35 = .ok (.return_, 1) := dk_177 (dk_at dksX1_add_1 15 rfl rfl)
abbrev cX1_lambda_add_3 : ByteArray := prog_15_method_41_code
def yX1_lambda_add_3 : MethodName := ⟨RX1, "lambda$add$3", "(IIII)I"⟩
def dkwX1_lambda_add_3_1 : List UInt8 := [100, 17, 3, 232, 104, 27, 108, 184, 1, 129, 172]
abbrev dktX1_lambda_add_3_1 : List UInt8 := dkwX1_lambda_add_3_1 ++ []
def dkwX1_lambda_add_3_0 : List UInt8 := [26, 28, 104, 28, 104, 19, 1, 128, 108, 54, 4, 21, 4, 29, 163, 0, 7, 3, 167, 0, 16, 21, 4, 29]
abbrev dktX1_lambda_add_3_0 : List UInt8 := dkwX1_lambda_add_3_0 ++ dktX1_lambda_add_3_1
theorem dksX1_lambda_add_3_0 : cX1_lambda_add_3.data.toList.drop 0 = dktX1_lambda_add_3_0 := by decide +kernel
theorem dksX1_lambda_add_3_1 : cX1_lambda_add_3.data.toList.drop 24 = dktX1_lambda_add_3_1 := dk_seg dksX1_lambda_add_3_0 24 rfl rfl
theorem dX1_lambda_add_3_0 : decode cX1_lambda_add_3 0 = .ok (.iload_n 0, 1) := dk_26 (dk_at dksX1_lambda_add_3_0 0 rfl rfl)
theorem dX1_lambda_add_3_1 : decode cX1_lambda_add_3 1 = .ok (.iload_n 2, 1) := dk_28 (dk_at dksX1_lambda_add_3_0 1 rfl rfl)
theorem dX1_lambda_add_3_2 : decode cX1_lambda_add_3 2 = .ok (.imul, 1) := dk_104 (dk_at dksX1_lambda_add_3_0 2 rfl rfl)
theorem dX1_lambda_add_3_3 : decode cX1_lambda_add_3 3 = .ok (.iload_n 2, 1) := dk_28 (dk_at dksX1_lambda_add_3_0 3 rfl rfl)
theorem dX1_lambda_add_3_4 : decode cX1_lambda_add_3 4 = .ok (.imul, 1) := dk_104 (dk_at dksX1_lambda_add_3_0 4 rfl rfl)
theorem dX1_lambda_add_3_5 : decode cX1_lambda_add_3 5 = .ok (.ldc_w 384, 3) := dk_19 1 128 (dk_at dksX1_lambda_add_3_0 5 rfl rfl)
theorem dX1_lambda_add_3_8 : decode cX1_lambda_add_3 8 = .ok (.idiv, 1) := dk_108 (dk_at dksX1_lambda_add_3_0 8 rfl rfl)
theorem dX1_lambda_add_3_9 : decode cX1_lambda_add_3 9 = .ok (.istore 4, 2) := dk_54 4 (dk_at dksX1_lambda_add_3_0 9 rfl rfl)
theorem dX1_lambda_add_3_11 : decode cX1_lambda_add_3 11 = .ok (.iload 4, 2) := dk_21 4 (dk_at dksX1_lambda_add_3_0 11 rfl rfl)
theorem dX1_lambda_add_3_13 : decode cX1_lambda_add_3 13 = .ok (.iload_n 3, 1) := dk_29 (dk_at dksX1_lambda_add_3_0 13 rfl rfl)
theorem dX1_lambda_add_3_14 : decode cX1_lambda_add_3 14 = .ok (.if_icmp .gt 7, 3) := dk_163 0 7 (dk_at dksX1_lambda_add_3_0 14 rfl rfl)
theorem dX1_lambda_add_3_17 : decode cX1_lambda_add_3 17 = .ok (.iconst 0, 1) := dk_3 (dk_at dksX1_lambda_add_3_0 17 rfl rfl)
theorem dX1_lambda_add_3_18 : decode cX1_lambda_add_3 18 = .ok (.goto 16, 3) := dk_167 0 16 (dk_at dksX1_lambda_add_3_0 18 rfl rfl)
theorem dX1_lambda_add_3_21 : decode cX1_lambda_add_3 21 = .ok (.iload 4, 2) := dk_21 4 (dk_at dksX1_lambda_add_3_0 21 rfl rfl)
theorem dX1_lambda_add_3_23 : decode cX1_lambda_add_3 23 = .ok (.iload_n 3, 1) := dk_29 (dk_at dksX1_lambda_add_3_0 23 rfl rfl)
theorem dX1_lambda_add_3_24 : decode cX1_lambda_add_3 24 = .ok (.isub, 1) := dk_100 (dk_at dksX1_lambda_add_3_1 0 rfl rfl)
theorem dX1_lambda_add_3_25 : decode cX1_lambda_add_3 25 = .ok (.sipush 1000, 3) := dk_17 3 232 (dk_at dksX1_lambda_add_3_1 1 rfl rfl)
theorem dX1_lambda_add_3_28 : decode cX1_lambda_add_3 28 = .ok (.imul, 1) := dk_104 (dk_at dksX1_lambda_add_3_1 4 rfl rfl)
theorem dX1_lambda_add_3_29 : decode cX1_lambda_add_3 29 = .ok (.iload_n 1, 1) := dk_27 (dk_at dksX1_lambda_add_3_1 5 rfl rfl)
theorem dX1_lambda_add_3_30 : decode cX1_lambda_add_3 30 = .ok (.idiv, 1) := dk_108 (dk_at dksX1_lambda_add_3_1 6 rfl rfl)
theorem dX1_lambda_add_3_31 : decode cX1_lambda_add_3 31 = .ok (.invokestatic 385, 3) := dk_184 1 129 (dk_at dksX1_lambda_add_3_1 7 rfl rfl)
theorem dX1_lambda_add_3_34 : decode cX1_lambda_add_3 34 = .ok (.ireturn, 1) := dk_172 (dk_at dksX1_lambda_add_3_1 10 rfl rfl)
abbrev cX1_isPump : ByteArray := prog_15_method_5_code
def yX1_isPump : MethodName := ⟨RX1, "isPump", "(I)Z"⟩
def dkwX1_isPump_0 : List UInt8 := [27, 133, 9, 42, 180, 0, 17, 182, 0, 198, 4, 100, 133, 184, 0, 201, 172]
abbrev dktX1_isPump_0 : List UInt8 := dkwX1_isPump_0 ++ []
theorem dksX1_isPump_0 : cX1_isPump.data.toList.drop 0 = dktX1_isPump_0 := by decide +kernel
theorem dX1_isPump_0 : decode cX1_isPump 0 = .ok (.iload_n 1, 1) := dk_27 (dk_at dksX1_isPump_0 0 rfl rfl)
theorem dX1_isPump_1 : decode cX1_isPump 1 = .ok (.i2l, 1) := dk_133 (dk_at dksX1_isPump_0 1 rfl rfl)
theorem dX1_isPump_2 : decode cX1_isPump 2 = .ok (.lconst 0, 1) := dk_9 (dk_at dksX1_isPump_0 2 rfl rfl)
theorem dX1_isPump_3 : decode cX1_isPump 3 = .ok (.aload_n 0, 1) := dk_42 (dk_at dksX1_isPump_0 3 rfl rfl)
theorem dX1_isPump_4 : decode cX1_isPump 4 = .ok (.getfield 17, 3) := dk_180 0 17 (dk_at dksX1_isPump_0 4 rfl rfl)
theorem dX1_isPump_7 : decode cX1_isPump 7 = .ok (.invokevirtual 198, 3) := dk_182 0 198 (dk_at dksX1_isPump_0 7 rfl rfl)
theorem dX1_isPump_10 : decode cX1_isPump 10 = .ok (.iconst 1, 1) := dk_4 (dk_at dksX1_isPump_0 10 rfl rfl)
theorem dX1_isPump_11 : decode cX1_isPump 11 = .ok (.isub, 1) := dk_100 (dk_at dksX1_isPump_0 11 rfl rfl)
theorem dX1_isPump_12 : decode cX1_isPump 12 = .ok (.i2l, 1) := dk_133 (dk_at dksX1_isPump_0 12 rfl rfl)
theorem dX1_isPump_13 : decode cX1_isPump 13 = .ok (.invokestatic 201, 3) := dk_184 0 201 (dk_at dksX1_isPump_0 13 rfl rfl)
theorem dX1_isPump_16 : decode cX1_isPump 16 = .ok (.ireturn, 1) := dk_172 (dk_at dksX1_isPump_0 16 rfl rfl)
abbrev cX1_make : ByteArray := prog_15_method_40_code
def yX1_make : MethodName := ⟨RX1, "make", "(II)I"⟩
def dkwX1_make_6 : List UInt8 := [42, 182, 1, 125, 21, 5, 172]
abbrev dktX1_make_6 : List UInt8 := dkwX1_make_6 ++ []
def dkwX1_make_5 : List UInt8 := [162, 0, 13, 42, 182, 1, 122, 132, 5, 1, 167, 255, 243, 42, 180, 0, 154, 172, 42, 180, 0, 178, 54, 5]
abbrev dktX1_make_5 : List UInt8 := dkwX1_make_5 ++ dktX1_make_6
def dkwX1_make_4 : List UInt8 := [42, 45, 182, 1, 103, 21, 4, 153, 0, 7, 4, 167, 0, 4, 3, 172, 3, 54, 5, 21, 5, 28]
abbrev dktX1_make_4 : List UInt8 := dkwX1_make_4 ++ dktX1_make_5
def dkwX1_make_3 : List UInt8 := [28, 182, 0, 226, 192, 0, 117, 78, 45, 182, 0, 218, 54, 4, 45, 4, 181, 1, 114, 21, 4, 153, 0, 8]
abbrev dktX1_make_3 : List UInt8 := dkwX1_make_3 ++ dktX1_make_4
def dkwX1_make_2 : List UInt8 := [42, 180, 0, 46, 28, 27, 154, 0, 7, 4, 167, 0, 4, 3, 84, 42, 182, 1, 119, 172, 42, 180, 0, 17]
abbrev dktX1_make_2 : List UInt8 := dkwX1_make_2 ++ dktX1_make_3
def dkwX1_make_1 : List UInt8 := [170, 0, 0, 0, 0, 0, 119, 0, 0, 0, 0, 0, 0, 0, 3, 0, 0, 0, 31, 0, 0, 0, 31, 0, 0, 0, 51, 0, 0, 0, 95]
abbrev dktX1_make_1 : List UInt8 := dkwX1_make_1 ++ dktX1_make_2
def dkwX1_make_0 : List UInt8 := [27]
abbrev dktX1_make_0 : List UInt8 := dkwX1_make_0 ++ dktX1_make_1
theorem dksX1_make_0 : cX1_make.data.toList.drop 0 = dktX1_make_0 := by decide +kernel
theorem dksX1_make_1 : cX1_make.data.toList.drop 1 = dktX1_make_1 := dk_seg dksX1_make_0 1 rfl rfl
theorem dksX1_make_2 : cX1_make.data.toList.drop 32 = dktX1_make_2 := dk_seg dksX1_make_1 31 rfl rfl
theorem dksX1_make_3 : cX1_make.data.toList.drop 56 = dktX1_make_3 := dk_seg dksX1_make_2 24 rfl rfl
theorem dksX1_make_4 : cX1_make.data.toList.drop 80 = dktX1_make_4 := dk_seg dksX1_make_3 24 rfl rfl
theorem dksX1_make_5 : cX1_make.data.toList.drop 102 = dktX1_make_5 := dk_seg dksX1_make_4 22 rfl rfl
theorem dksX1_make_6 : cX1_make.data.toList.drop 126 = dktX1_make_6 := dk_seg dksX1_make_5 24 rfl rfl
theorem dX1_make_0 : decode cX1_make 0 = .ok (.iload_n 1, 1) := dk_27 (dk_at dksX1_make_0 0 rfl rfl)
theorem dX1_make_1 : decode cX1_make 1 = .ok (.tableswitch 119 0 3 #[31, 31, 51, 95], 31) := by decide +kernel
theorem dX1_make_32 : decode cX1_make 32 = .ok (.aload_n 0, 1) := dk_42 (dk_at dksX1_make_2 0 rfl rfl)
theorem dX1_make_33 : decode cX1_make 33 = .ok (.getfield 46, 3) := dk_180 0 46 (dk_at dksX1_make_2 1 rfl rfl)
theorem dX1_make_36 : decode cX1_make 36 = .ok (.iload_n 2, 1) := dk_28 (dk_at dksX1_make_2 4 rfl rfl)
theorem dX1_make_37 : decode cX1_make 37 = .ok (.iload_n 1, 1) := dk_27 (dk_at dksX1_make_2 5 rfl rfl)
theorem dX1_make_38 : decode cX1_make 38 = .ok (.ifCond .ne 7, 3) := dk_154 0 7 (dk_at dksX1_make_2 6 rfl rfl)
theorem dX1_make_41 : decode cX1_make 41 = .ok (.iconst 1, 1) := dk_4 (dk_at dksX1_make_2 9 rfl rfl)
theorem dX1_make_42 : decode cX1_make 42 = .ok (.goto 4, 3) := dk_167 0 4 (dk_at dksX1_make_2 10 rfl rfl)
theorem dX1_make_45 : decode cX1_make 45 = .ok (.iconst 0, 1) := dk_3 (dk_at dksX1_make_2 13 rfl rfl)
theorem dX1_make_46 : decode cX1_make 46 = .ok (.bastore, 1) := dk_84 (dk_at dksX1_make_2 14 rfl rfl)
theorem dX1_make_47 : decode cX1_make 47 = .ok (.aload_n 0, 1) := dk_42 (dk_at dksX1_make_2 15 rfl rfl)
theorem dX1_make_48 : decode cX1_make 48 = .ok (.invokevirtual 375, 3) := dk_182 1 119 (dk_at dksX1_make_2 16 rfl rfl)
theorem dX1_make_51 : decode cX1_make 51 = .ok (.ireturn, 1) := dk_172 (dk_at dksX1_make_2 19 rfl rfl)
theorem dX1_make_52 : decode cX1_make 52 = .ok (.aload_n 0, 1) := dk_42 (dk_at dksX1_make_2 20 rfl rfl)
theorem dX1_make_53 : decode cX1_make 53 = .ok (.getfield 17, 3) := dk_180 0 17 (dk_at dksX1_make_2 21 rfl rfl)
theorem dX1_make_56 : decode cX1_make 56 = .ok (.iload_n 2, 1) := dk_28 (dk_at dksX1_make_3 0 rfl rfl)
theorem dX1_make_57 : decode cX1_make 57 = .ok (.invokevirtual 226, 3) := dk_182 0 226 (dk_at dksX1_make_3 1 rfl rfl)
theorem dX1_make_60 : decode cX1_make 60 = .ok (.checkcast 117, 3) := dk_192 0 117 (dk_at dksX1_make_3 4 rfl rfl)
theorem dX1_make_63 : decode cX1_make 63 = .ok (.astore_n 3, 1) := dk_78 (dk_at dksX1_make_3 7 rfl rfl)
theorem dX1_make_64 : decode cX1_make 64 = .ok (.aload_n 3, 1) := dk_45 (dk_at dksX1_make_3 8 rfl rfl)
theorem dX1_make_65 : decode cX1_make 65 = .ok (.invokevirtual 218, 3) := dk_182 0 218 (dk_at dksX1_make_3 9 rfl rfl)
theorem dX1_make_68 : decode cX1_make 68 = .ok (.istore 4, 2) := dk_54 4 (dk_at dksX1_make_3 12 rfl rfl)
theorem dX1_make_70 : decode cX1_make 70 = .ok (.aload_n 3, 1) := dk_45 (dk_at dksX1_make_3 14 rfl rfl)
theorem dX1_make_71 : decode cX1_make 71 = .ok (.iconst 1, 1) := dk_4 (dk_at dksX1_make_3 15 rfl rfl)
theorem dX1_make_72 : decode cX1_make 72 = .ok (.putfield 370, 3) := dk_181 1 114 (dk_at dksX1_make_3 16 rfl rfl)
theorem dX1_make_75 : decode cX1_make 75 = .ok (.iload 4, 2) := dk_21 4 (dk_at dksX1_make_3 19 rfl rfl)
theorem dX1_make_77 : decode cX1_make 77 = .ok (.ifCond .eq 8, 3) := dk_153 0 8 (dk_at dksX1_make_3 21 rfl rfl)
theorem dX1_make_80 : decode cX1_make 80 = .ok (.aload_n 0, 1) := dk_42 (dk_at dksX1_make_4 0 rfl rfl)
theorem dX1_make_81 : decode cX1_make 81 = .ok (.aload_n 3, 1) := dk_45 (dk_at dksX1_make_4 1 rfl rfl)
theorem dX1_make_82 : decode cX1_make 82 = .ok (.invokevirtual 359, 3) := dk_182 1 103 (dk_at dksX1_make_4 2 rfl rfl)
theorem dX1_make_85 : decode cX1_make 85 = .ok (.iload 4, 2) := dk_21 4 (dk_at dksX1_make_4 5 rfl rfl)
theorem dX1_make_87 : decode cX1_make 87 = .ok (.ifCond .eq 7, 3) := dk_153 0 7 (dk_at dksX1_make_4 7 rfl rfl)
theorem dX1_make_90 : decode cX1_make 90 = .ok (.iconst 1, 1) := dk_4 (dk_at dksX1_make_4 10 rfl rfl)
theorem dX1_make_91 : decode cX1_make 91 = .ok (.goto 4, 3) := dk_167 0 4 (dk_at dksX1_make_4 11 rfl rfl)
theorem dX1_make_94 : decode cX1_make 94 = .ok (.iconst 0, 1) := dk_3 (dk_at dksX1_make_4 14 rfl rfl)
theorem dX1_make_95 : decode cX1_make 95 = .ok (.ireturn, 1) := dk_172 (dk_at dksX1_make_4 15 rfl rfl)
theorem dX1_make_96 : decode cX1_make 96 = .ok (.iconst 0, 1) := dk_3 (dk_at dksX1_make_4 16 rfl rfl)
theorem dX1_make_97 : decode cX1_make 97 = .ok (.istore 5, 2) := dk_54 5 (dk_at dksX1_make_4 17 rfl rfl)
theorem dX1_make_99 : decode cX1_make 99 = .ok (.iload 5, 2) := dk_21 5 (dk_at dksX1_make_4 19 rfl rfl)
theorem dX1_make_101 : decode cX1_make 101 = .ok (.iload_n 2, 1) := dk_28 (dk_at dksX1_make_4 21 rfl rfl)
theorem dX1_make_102 : decode cX1_make 102 = .ok (.if_icmp .ge 13, 3) := dk_162 0 13 (dk_at dksX1_make_5 0 rfl rfl)
theorem dX1_make_105 : decode cX1_make 105 = .ok (.aload_n 0, 1) := dk_42 (dk_at dksX1_make_5 3 rfl rfl)
theorem dX1_make_106 : decode cX1_make 106 = .ok (.invokevirtual 378, 3) := dk_182 1 122 (dk_at dksX1_make_5 4 rfl rfl)
theorem dX1_make_109 : decode cX1_make 109 = .ok (.iinc 5 1, 3) := dk_132 5 1 (dk_at dksX1_make_5 7 rfl rfl)
theorem dX1_make_112 : decode cX1_make 112 = .ok (.goto (-13), 3) := dk_167 255 243 (dk_at dksX1_make_5 10 rfl rfl)
theorem dX1_make_115 : decode cX1_make 115 = .ok (.aload_n 0, 1) := dk_42 (dk_at dksX1_make_5 13 rfl rfl)
theorem dX1_make_116 : decode cX1_make 116 = .ok (.getfield 154, 3) := dk_180 0 154 (dk_at dksX1_make_5 14 rfl rfl)
theorem dX1_make_119 : decode cX1_make 119 = .ok (.ireturn, 1) := dk_172 (dk_at dksX1_make_5 17 rfl rfl)
theorem dX1_make_120 : decode cX1_make 120 = .ok (.aload_n 0, 1) := dk_42 (dk_at dksX1_make_5 18 rfl rfl)
theorem dX1_make_121 : decode cX1_make 121 = .ok (.getfield 178, 3) := dk_180 0 178 (dk_at dksX1_make_5 19 rfl rfl)
theorem dX1_make_124 : decode cX1_make 124 = .ok (.istore 5, 2) := dk_54 5 (dk_at dksX1_make_5 22 rfl rfl)
theorem dX1_make_126 : decode cX1_make 126 = .ok (.aload_n 0, 1) := dk_42 (dk_at dksX1_make_6 0 rfl rfl)
theorem dX1_make_127 : decode cX1_make 127 = .ok (.invokevirtual 381, 3) := dk_182 1 125 (dk_at dksX1_make_6 1 rfl rfl)
theorem dX1_make_130 : decode cX1_make 130 = .ok (.iload 5, 2) := dk_21 5 (dk_at dksX1_make_6 4 rfl rfl)
theorem dX1_make_132 : decode cX1_make 132 = .ok (.ireturn, 1) := dk_172 (dk_at dksX1_make_6 6 rfl rfl)
abbrev cX1_openZones : ByteArray := prog_15_method_19_code
def yX1_openZones : MethodName := ⟨RX1, "openZones", "()I"⟩
def dkwX1_openZones_1 : List UInt8 := [167, 0, 4, 3, 96, 60, 132, 2, 1, 167, 255, 228, 27, 172]
abbrev dktX1_openZones_1 : List UInt8 := dkwX1_openZones_1 ++ []
def dkwX1_openZones_0 : List UInt8 := [3, 60, 3, 61, 28, 42, 180, 0, 151, 162, 0, 26, 27, 42, 180, 0, 46, 28, 51, 153, 0, 7, 4]
abbrev dktX1_openZones_0 : List UInt8 := dkwX1_openZones_0 ++ dktX1_openZones_1
theorem dksX1_openZones_0 : cX1_openZones.data.toList.drop 0 = dktX1_openZones_0 := by decide +kernel
theorem dksX1_openZones_1 : cX1_openZones.data.toList.drop 23 = dktX1_openZones_1 := dk_seg dksX1_openZones_0 23 rfl rfl
theorem dX1_openZones_0 : decode cX1_openZones 0 = .ok (.iconst 0, 1) := dk_3 (dk_at dksX1_openZones_0 0 rfl rfl)
theorem dX1_openZones_1 : decode cX1_openZones 1 = .ok (.istore_n 1, 1) := dk_60 (dk_at dksX1_openZones_0 1 rfl rfl)
theorem dX1_openZones_2 : decode cX1_openZones 2 = .ok (.iconst 0, 1) := dk_3 (dk_at dksX1_openZones_0 2 rfl rfl)
theorem dX1_openZones_3 : decode cX1_openZones 3 = .ok (.istore_n 2, 1) := dk_61 (dk_at dksX1_openZones_0 3 rfl rfl)
theorem dX1_openZones_4 : decode cX1_openZones 4 = .ok (.iload_n 2, 1) := dk_28 (dk_at dksX1_openZones_0 4 rfl rfl)
theorem dX1_openZones_5 : decode cX1_openZones 5 = .ok (.aload_n 0, 1) := dk_42 (dk_at dksX1_openZones_0 5 rfl rfl)
theorem dX1_openZones_6 : decode cX1_openZones 6 = .ok (.getfield 151, 3) := dk_180 0 151 (dk_at dksX1_openZones_0 6 rfl rfl)
theorem dX1_openZones_9 : decode cX1_openZones 9 = .ok (.if_icmp .ge 26, 3) := dk_162 0 26 (dk_at dksX1_openZones_0 9 rfl rfl)
theorem dX1_openZones_12 : decode cX1_openZones 12 = .ok (.iload_n 1, 1) := dk_27 (dk_at dksX1_openZones_0 12 rfl rfl)
theorem dX1_openZones_13 : decode cX1_openZones 13 = .ok (.aload_n 0, 1) := dk_42 (dk_at dksX1_openZones_0 13 rfl rfl)
theorem dX1_openZones_14 : decode cX1_openZones 14 = .ok (.getfield 46, 3) := dk_180 0 46 (dk_at dksX1_openZones_0 14 rfl rfl)
theorem dX1_openZones_17 : decode cX1_openZones 17 = .ok (.iload_n 2, 1) := dk_28 (dk_at dksX1_openZones_0 17 rfl rfl)
theorem dX1_openZones_18 : decode cX1_openZones 18 = .ok (.baload, 1) := dk_51 (dk_at dksX1_openZones_0 18 rfl rfl)
theorem dX1_openZones_19 : decode cX1_openZones 19 = .ok (.ifCond .eq 7, 3) := dk_153 0 7 (dk_at dksX1_openZones_0 19 rfl rfl)
theorem dX1_openZones_22 : decode cX1_openZones 22 = .ok (.iconst 1, 1) := dk_4 (dk_at dksX1_openZones_0 22 rfl rfl)
theorem dX1_openZones_23 : decode cX1_openZones 23 = .ok (.goto 4, 3) := dk_167 0 4 (dk_at dksX1_openZones_1 0 rfl rfl)
theorem dX1_openZones_26 : decode cX1_openZones 26 = .ok (.iconst 0, 1) := dk_3 (dk_at dksX1_openZones_1 3 rfl rfl)
theorem dX1_openZones_27 : decode cX1_openZones 27 = .ok (.iadd, 1) := dk_96 (dk_at dksX1_openZones_1 4 rfl rfl)
theorem dX1_openZones_28 : decode cX1_openZones 28 = .ok (.istore_n 1, 1) := dk_60 (dk_at dksX1_openZones_1 5 rfl rfl)
theorem dX1_openZones_29 : decode cX1_openZones 29 = .ok (.iinc 2 1, 3) := dk_132 2 1 (dk_at dksX1_openZones_1 6 rfl rfl)
theorem dX1_openZones_32 : decode cX1_openZones 32 = .ok (.goto (-28), 3) := dk_167 255 228 (dk_at dksX1_openZones_1 9 rfl rfl)
theorem dX1_openZones_35 : decode cX1_openZones 35 = .ok (.iload_n 1, 1) := dk_27 (dk_at dksX1_openZones_1 12 rfl rfl)
theorem dX1_openZones_36 : decode cX1_openZones 36 = .ok (.ireturn, 1) := dk_172 (dk_at dksX1_openZones_1 13 rfl rfl)
abbrev cX1_stop : ByteArray := prog_15_method_16_code
def yX1_stop : MethodName := ⟨RX1, "stop", "(LFieldPumps$Pump;)V"⟩
def dkwX1_stop_5 : List UInt8 := [167, 0, 7, 44, 180, 0, 191, 181, 0, 83, 177]
abbrev dktX1_stop_5 : List UInt8 := dkwX1_stop_5 ++ []
def dkwX1_stop_4 : List UInt8 := [162, 0, 8, 25, 4, 167, 0, 4, 44, 77, 132, 3, 1, 167, 255, 178, 42, 44, 199, 0, 7, 2]
abbrev dktX1_stop_4 : List UInt8 := dkwX1_stop_4 ++ dktX1_stop_5
def dkwX1_stop_3 : List UInt8 := [167, 0, 4, 3, 54, 5, 21, 5, 153, 0, 24, 44, 198, 0, 15, 25, 4, 180, 1, 10, 44, 180, 1, 10]
abbrev dktX1_stop_3 : List UInt8 := dkwX1_stop_3 ++ dktX1_stop_4
def dkwX1_stop_2 : List UInt8 := [192, 0, 117, 58, 4, 25, 4, 182, 0, 218, 153, 0, 15, 25, 4, 193, 1, 1, 153, 0, 7, 4]
abbrev dktX1_stop_2 : List UInt8 := dkwX1_stop_2 ++ dktX1_stop_3
def dkwX1_stop_1 : List UInt8 := [1, 77, 3, 62, 29, 42, 180, 0, 17, 182, 0, 198, 162, 0, 73, 42, 180, 0, 17, 29, 182, 0, 226]
abbrev dktX1_stop_1 : List UInt8 := dkwX1_stop_1 ++ dktX1_stop_2
def dkwX1_stop_0 : List UInt8 := [43, 182, 1, 7, 42, 4, 43, 180, 0, 191, 182, 0, 205, 42, 180, 0, 83, 43, 180, 0, 191, 160, 0, 104]
abbrev dktX1_stop_0 : List UInt8 := dkwX1_stop_0 ++ dktX1_stop_1
theorem dksX1_stop_0 : cX1_stop.data.toList.drop 0 = dktX1_stop_0 := by decide +kernel
theorem dksX1_stop_1 : cX1_stop.data.toList.drop 24 = dktX1_stop_1 := dk_seg dksX1_stop_0 24 rfl rfl
theorem dksX1_stop_2 : cX1_stop.data.toList.drop 47 = dktX1_stop_2 := dk_seg dksX1_stop_1 23 rfl rfl
theorem dksX1_stop_3 : cX1_stop.data.toList.drop 69 = dktX1_stop_3 := dk_seg dksX1_stop_2 22 rfl rfl
theorem dksX1_stop_4 : cX1_stop.data.toList.drop 93 = dktX1_stop_4 := dk_seg dksX1_stop_3 24 rfl rfl
theorem dksX1_stop_5 : cX1_stop.data.toList.drop 115 = dktX1_stop_5 := dk_seg dksX1_stop_4 22 rfl rfl
theorem dX1_stop_0 : decode cX1_stop 0 = .ok (.aload_n 1, 1) := dk_43 (dk_at dksX1_stop_0 0 rfl rfl)
theorem dX1_stop_1 : decode cX1_stop 1 = .ok (.invokevirtual 263, 3) := dk_182 1 7 (dk_at dksX1_stop_0 1 rfl rfl)
theorem dX1_stop_4 : decode cX1_stop 4 = .ok (.aload_n 0, 1) := dk_42 (dk_at dksX1_stop_0 4 rfl rfl)
theorem dX1_stop_5 : decode cX1_stop 5 = .ok (.iconst 1, 1) := dk_4 (dk_at dksX1_stop_0 5 rfl rfl)
theorem dX1_stop_6 : decode cX1_stop 6 = .ok (.aload_n 1, 1) := dk_43 (dk_at dksX1_stop_0 6 rfl rfl)
theorem dX1_stop_7 : decode cX1_stop 7 = .ok (.getfield 191, 3) := dk_180 0 191 (dk_at dksX1_stop_0 7 rfl rfl)
theorem dX1_stop_10 : decode cX1_stop 10 = .ok (.invokevirtual 205, 3) := dk_182 0 205 (dk_at dksX1_stop_0 10 rfl rfl)
theorem dX1_stop_13 : decode cX1_stop 13 = .ok (.aload_n 0, 1) := dk_42 (dk_at dksX1_stop_0 13 rfl rfl)
theorem dX1_stop_14 : decode cX1_stop 14 = .ok (.getfield 83, 3) := dk_180 0 83 (dk_at dksX1_stop_0 14 rfl rfl)
theorem dX1_stop_17 : decode cX1_stop 17 = .ok (.aload_n 1, 1) := dk_43 (dk_at dksX1_stop_0 17 rfl rfl)
theorem dX1_stop_18 : decode cX1_stop 18 = .ok (.getfield 191, 3) := dk_180 0 191 (dk_at dksX1_stop_0 18 rfl rfl)
theorem dX1_stop_21 : decode cX1_stop 21 = .ok (.if_icmp .ne 104, 3) := dk_160 0 104 (dk_at dksX1_stop_0 21 rfl rfl)
theorem dX1_stop_24 : decode cX1_stop 24 = .ok (.aconst_null, 1) := dk_1 (dk_at dksX1_stop_1 0 rfl rfl)
theorem dX1_stop_25 : decode cX1_stop 25 = .ok (.astore_n 2, 1) := dk_77 (dk_at dksX1_stop_1 1 rfl rfl)
theorem dX1_stop_26 : decode cX1_stop 26 = .ok (.iconst 0, 1) := dk_3 (dk_at dksX1_stop_1 2 rfl rfl)
theorem dX1_stop_27 : decode cX1_stop 27 = .ok (.istore_n 3, 1) := dk_62 (dk_at dksX1_stop_1 3 rfl rfl)
theorem dX1_stop_28 : decode cX1_stop 28 = .ok (.iload_n 3, 1) := dk_29 (dk_at dksX1_stop_1 4 rfl rfl)
theorem dX1_stop_29 : decode cX1_stop 29 = .ok (.aload_n 0, 1) := dk_42 (dk_at dksX1_stop_1 5 rfl rfl)
theorem dX1_stop_30 : decode cX1_stop 30 = .ok (.getfield 17, 3) := dk_180 0 17 (dk_at dksX1_stop_1 6 rfl rfl)
theorem dX1_stop_33 : decode cX1_stop 33 = .ok (.invokevirtual 198, 3) := dk_182 0 198 (dk_at dksX1_stop_1 9 rfl rfl)
theorem dX1_stop_36 : decode cX1_stop 36 = .ok (.if_icmp .ge 73, 3) := dk_162 0 73 (dk_at dksX1_stop_1 12 rfl rfl)
theorem dX1_stop_39 : decode cX1_stop 39 = .ok (.aload_n 0, 1) := dk_42 (dk_at dksX1_stop_1 15 rfl rfl)
theorem dX1_stop_40 : decode cX1_stop 40 = .ok (.getfield 17, 3) := dk_180 0 17 (dk_at dksX1_stop_1 16 rfl rfl)
theorem dX1_stop_43 : decode cX1_stop 43 = .ok (.iload_n 3, 1) := dk_29 (dk_at dksX1_stop_1 19 rfl rfl)
theorem dX1_stop_44 : decode cX1_stop 44 = .ok (.invokevirtual 226, 3) := dk_182 0 226 (dk_at dksX1_stop_1 20 rfl rfl)
theorem dX1_stop_47 : decode cX1_stop 47 = .ok (.checkcast 117, 3) := dk_192 0 117 (dk_at dksX1_stop_2 0 rfl rfl)
theorem dX1_stop_50 : decode cX1_stop 50 = .ok (.astore 4, 2) := dk_58 4 (dk_at dksX1_stop_2 3 rfl rfl)
theorem dX1_stop_52 : decode cX1_stop 52 = .ok (.aload 4, 2) := dk_25 4 (dk_at dksX1_stop_2 5 rfl rfl)
theorem dX1_stop_54 : decode cX1_stop 54 = .ok (.invokevirtual 218, 3) := dk_182 0 218 (dk_at dksX1_stop_2 7 rfl rfl)
theorem dX1_stop_57 : decode cX1_stop 57 = .ok (.ifCond .eq 15, 3) := dk_153 0 15 (dk_at dksX1_stop_2 10 rfl rfl)
theorem dX1_stop_60 : decode cX1_stop 60 = .ok (.aload 4, 2) := dk_25 4 (dk_at dksX1_stop_2 13 rfl rfl)
theorem dX1_stop_62 : decode cX1_stop 62 = .ok (.instanceof 257, 3) := dk_193 1 1 (dk_at dksX1_stop_2 15 rfl rfl)
theorem dX1_stop_65 : decode cX1_stop 65 = .ok (.ifCond .eq 7, 3) := dk_153 0 7 (dk_at dksX1_stop_2 18 rfl rfl)
theorem dX1_stop_68 : decode cX1_stop 68 = .ok (.iconst 1, 1) := dk_4 (dk_at dksX1_stop_2 21 rfl rfl)
theorem dX1_stop_69 : decode cX1_stop 69 = .ok (.goto 4, 3) := dk_167 0 4 (dk_at dksX1_stop_3 0 rfl rfl)
theorem dX1_stop_72 : decode cX1_stop 72 = .ok (.iconst 0, 1) := dk_3 (dk_at dksX1_stop_3 3 rfl rfl)
theorem dX1_stop_73 : decode cX1_stop 73 = .ok (.istore 5, 2) := dk_54 5 (dk_at dksX1_stop_3 4 rfl rfl)
theorem dX1_stop_75 : decode cX1_stop 75 = .ok (.iload 5, 2) := dk_21 5 (dk_at dksX1_stop_3 6 rfl rfl)
theorem dX1_stop_77 : decode cX1_stop 77 = .ok (.ifCond .eq 24, 3) := dk_153 0 24 (dk_at dksX1_stop_3 8 rfl rfl)
theorem dX1_stop_80 : decode cX1_stop 80 = .ok (.aload_n 2, 1) := dk_44 (dk_at dksX1_stop_3 11 rfl rfl)
theorem dX1_stop_81 : decode cX1_stop 81 = .ok (.ifnull 15, 3) := dk_198 0 15 (dk_at dksX1_stop_3 12 rfl rfl)
theorem dX1_stop_84 : decode cX1_stop 84 = .ok (.aload 4, 2) := dk_25 4 (dk_at dksX1_stop_3 15 rfl rfl)
theorem dX1_stop_86 : decode cX1_stop 86 = .ok (.getfield 266, 3) := dk_180 1 10 (dk_at dksX1_stop_3 17 rfl rfl)
theorem dX1_stop_89 : decode cX1_stop 89 = .ok (.aload_n 2, 1) := dk_44 (dk_at dksX1_stop_3 20 rfl rfl)
theorem dX1_stop_90 : decode cX1_stop 90 = .ok (.getfield 266, 3) := dk_180 1 10 (dk_at dksX1_stop_3 21 rfl rfl)
theorem dX1_stop_93 : decode cX1_stop 93 = .ok (.if_icmp .ge 8, 3) := dk_162 0 8 (dk_at dksX1_stop_4 0 rfl rfl)
theorem dX1_stop_96 : decode cX1_stop 96 = .ok (.aload 4, 2) := dk_25 4 (dk_at dksX1_stop_4 3 rfl rfl)
theorem dX1_stop_98 : decode cX1_stop 98 = .ok (.goto 4, 3) := dk_167 0 4 (dk_at dksX1_stop_4 5 rfl rfl)
theorem dX1_stop_101 : decode cX1_stop 101 = .ok (.aload_n 2, 1) := dk_44 (dk_at dksX1_stop_4 8 rfl rfl)
theorem dX1_stop_102 : decode cX1_stop 102 = .ok (.astore_n 2, 1) := dk_77 (dk_at dksX1_stop_4 9 rfl rfl)
theorem dX1_stop_103 : decode cX1_stop 103 = .ok (.iinc 3 1, 3) := dk_132 3 1 (dk_at dksX1_stop_4 10 rfl rfl)
theorem dX1_stop_106 : decode cX1_stop 106 = .ok (.goto (-78), 3) := dk_167 255 178 (dk_at dksX1_stop_4 13 rfl rfl)
theorem dX1_stop_109 : decode cX1_stop 109 = .ok (.aload_n 0, 1) := dk_42 (dk_at dksX1_stop_4 16 rfl rfl)
theorem dX1_stop_110 : decode cX1_stop 110 = .ok (.aload_n 2, 1) := dk_44 (dk_at dksX1_stop_4 17 rfl rfl)
theorem dX1_stop_111 : decode cX1_stop 111 = .ok (.ifnonnull 7, 3) := dk_199 0 7 (dk_at dksX1_stop_4 18 rfl rfl)
theorem dX1_stop_114 : decode cX1_stop 114 = .ok (.iconst (-1), 1) := dk_2 (dk_at dksX1_stop_4 21 rfl rfl)
theorem dX1_stop_115 : decode cX1_stop 115 = .ok (.goto 7, 3) := dk_167 0 7 (dk_at dksX1_stop_5 0 rfl rfl)
theorem dX1_stop_118 : decode cX1_stop 118 = .ok (.aload_n 2, 1) := dk_44 (dk_at dksX1_stop_5 3 rfl rfl)
theorem dX1_stop_119 : decode cX1_stop 119 = .ok (.getfield 191, 3) := dk_180 0 191 (dk_at dksX1_stop_5 4 rfl rfl)
theorem dX1_stop_122 : decode cX1_stop 122 = .ok (.putfield 83, 3) := dk_181 0 83 (dk_at dksX1_stop_5 7 rfl rfl)
theorem dX1_stop_125 : decode cX1_stop 125 = .ok (.return_, 1) := dk_177 (dk_at dksX1_stop_5 10 rfl rfl)
abbrev cX1_tell : ByteArray := prog_15_method_8_code
def yX1_tell : MethodName := ⟨RX1, "tell", "(II)V"⟩
def dkwX1_tell_4 : List UInt8 := [180, 0, 28, 3, 42, 180, 0, 154, 79, 42, 180, 0, 31, 3, 28, 79, 177]
abbrev dktX1_tell_4 : List UInt8 := dkwX1_tell_4 ++ []
def dkwX1_tell_3 : List UInt8 := [180, 0, 31, 29, 4, 100, 46, 79, 132, 3, 255, 167, 255, 207, 42, 180, 0, 24, 3, 27, 79, 42]
abbrev dktX1_tell_3 : List UInt8 := dkwX1_tell_3 ++ dktX1_tell_4
def dkwX1_tell_2 : List UInt8 := [4, 100, 46, 79, 42, 180, 0, 28, 29, 42, 180, 0, 28, 29, 4, 100, 46, 79, 42, 180, 0, 31, 29, 42]
abbrev dktX1_tell_2 : List UInt8 := dkwX1_tell_2 ++ dktX1_tell_3
def dkwX1_tell_1 : List UInt8 := [181, 0, 138, 42, 180, 0, 138, 4, 100, 62, 29, 158, 0, 51, 42, 180, 0, 24, 29, 42, 180, 0, 24, 29]
abbrev dktX1_tell_1 : List UInt8 := dkwX1_tell_1 ++ dktX1_tell_2
def dkwX1_tell_0 : List UInt8 := [42, 89, 180, 0, 209, 4, 27, 120, 128, 181, 0, 209, 42, 16, 12, 42, 180, 0, 138, 4, 96, 184, 0, 212]
abbrev dktX1_tell_0 : List UInt8 := dkwX1_tell_0 ++ dktX1_tell_1
theorem dksX1_tell_0 : cX1_tell.data.toList.drop 0 = dktX1_tell_0 := by decide +kernel
theorem dksX1_tell_1 : cX1_tell.data.toList.drop 24 = dktX1_tell_1 := dk_seg dksX1_tell_0 24 rfl rfl
theorem dksX1_tell_2 : cX1_tell.data.toList.drop 48 = dktX1_tell_2 := dk_seg dksX1_tell_1 24 rfl rfl
theorem dksX1_tell_3 : cX1_tell.data.toList.drop 72 = dktX1_tell_3 := dk_seg dksX1_tell_2 24 rfl rfl
theorem dksX1_tell_4 : cX1_tell.data.toList.drop 94 = dktX1_tell_4 := dk_seg dksX1_tell_3 22 rfl rfl
theorem dX1_tell_0 : decode cX1_tell 0 = .ok (.aload_n 0, 1) := dk_42 (dk_at dksX1_tell_0 0 rfl rfl)
theorem dX1_tell_1 : decode cX1_tell 1 = .ok (.dup, 1) := dk_89 (dk_at dksX1_tell_0 1 rfl rfl)
theorem dX1_tell_2 : decode cX1_tell 2 = .ok (.getfield 209, 3) := dk_180 0 209 (dk_at dksX1_tell_0 2 rfl rfl)
theorem dX1_tell_5 : decode cX1_tell 5 = .ok (.iconst 1, 1) := dk_4 (dk_at dksX1_tell_0 5 rfl rfl)
theorem dX1_tell_6 : decode cX1_tell 6 = .ok (.iload_n 1, 1) := dk_27 (dk_at dksX1_tell_0 6 rfl rfl)
theorem dX1_tell_7 : decode cX1_tell 7 = .ok (.ishl, 1) := dk_120 (dk_at dksX1_tell_0 7 rfl rfl)
theorem dX1_tell_8 : decode cX1_tell 8 = .ok (.ior, 1) := dk_128 (dk_at dksX1_tell_0 8 rfl rfl)
theorem dX1_tell_9 : decode cX1_tell 9 = .ok (.putfield 209, 3) := dk_181 0 209 (dk_at dksX1_tell_0 9 rfl rfl)
theorem dX1_tell_12 : decode cX1_tell 12 = .ok (.aload_n 0, 1) := dk_42 (dk_at dksX1_tell_0 12 rfl rfl)
theorem dX1_tell_13 : decode cX1_tell 13 = .ok (.bipush 12, 2) := dk_16 12 (dk_at dksX1_tell_0 13 rfl rfl)
theorem dX1_tell_15 : decode cX1_tell 15 = .ok (.aload_n 0, 1) := dk_42 (dk_at dksX1_tell_0 15 rfl rfl)
theorem dX1_tell_16 : decode cX1_tell 16 = .ok (.getfield 138, 3) := dk_180 0 138 (dk_at dksX1_tell_0 16 rfl rfl)
theorem dX1_tell_19 : decode cX1_tell 19 = .ok (.iconst 1, 1) := dk_4 (dk_at dksX1_tell_0 19 rfl rfl)
theorem dX1_tell_20 : decode cX1_tell 20 = .ok (.iadd, 1) := dk_96 (dk_at dksX1_tell_0 20 rfl rfl)
theorem dX1_tell_21 : decode cX1_tell 21 = .ok (.invokestatic 212, 3) := dk_184 0 212 (dk_at dksX1_tell_0 21 rfl rfl)
theorem dX1_tell_24 : decode cX1_tell 24 = .ok (.putfield 138, 3) := dk_181 0 138 (dk_at dksX1_tell_1 0 rfl rfl)
theorem dX1_tell_27 : decode cX1_tell 27 = .ok (.aload_n 0, 1) := dk_42 (dk_at dksX1_tell_1 3 rfl rfl)
theorem dX1_tell_28 : decode cX1_tell 28 = .ok (.getfield 138, 3) := dk_180 0 138 (dk_at dksX1_tell_1 4 rfl rfl)
theorem dX1_tell_31 : decode cX1_tell 31 = .ok (.iconst 1, 1) := dk_4 (dk_at dksX1_tell_1 7 rfl rfl)
theorem dX1_tell_32 : decode cX1_tell 32 = .ok (.isub, 1) := dk_100 (dk_at dksX1_tell_1 8 rfl rfl)
theorem dX1_tell_33 : decode cX1_tell 33 = .ok (.istore_n 3, 1) := dk_62 (dk_at dksX1_tell_1 9 rfl rfl)
theorem dX1_tell_34 : decode cX1_tell 34 = .ok (.iload_n 3, 1) := dk_29 (dk_at dksX1_tell_1 10 rfl rfl)
theorem dX1_tell_35 : decode cX1_tell 35 = .ok (.ifCond .le 51, 3) := dk_158 0 51 (dk_at dksX1_tell_1 11 rfl rfl)
theorem dX1_tell_38 : decode cX1_tell 38 = .ok (.aload_n 0, 1) := dk_42 (dk_at dksX1_tell_1 14 rfl rfl)
theorem dX1_tell_39 : decode cX1_tell 39 = .ok (.getfield 24, 3) := dk_180 0 24 (dk_at dksX1_tell_1 15 rfl rfl)
theorem dX1_tell_42 : decode cX1_tell 42 = .ok (.iload_n 3, 1) := dk_29 (dk_at dksX1_tell_1 18 rfl rfl)
theorem dX1_tell_43 : decode cX1_tell 43 = .ok (.aload_n 0, 1) := dk_42 (dk_at dksX1_tell_1 19 rfl rfl)
theorem dX1_tell_44 : decode cX1_tell 44 = .ok (.getfield 24, 3) := dk_180 0 24 (dk_at dksX1_tell_1 20 rfl rfl)
theorem dX1_tell_47 : decode cX1_tell 47 = .ok (.iload_n 3, 1) := dk_29 (dk_at dksX1_tell_1 23 rfl rfl)
theorem dX1_tell_48 : decode cX1_tell 48 = .ok (.iconst 1, 1) := dk_4 (dk_at dksX1_tell_2 0 rfl rfl)
theorem dX1_tell_49 : decode cX1_tell 49 = .ok (.isub, 1) := dk_100 (dk_at dksX1_tell_2 1 rfl rfl)
theorem dX1_tell_50 : decode cX1_tell 50 = .ok (.iaload, 1) := dk_46 (dk_at dksX1_tell_2 2 rfl rfl)
theorem dX1_tell_51 : decode cX1_tell 51 = .ok (.iastore, 1) := dk_79 (dk_at dksX1_tell_2 3 rfl rfl)
theorem dX1_tell_52 : decode cX1_tell 52 = .ok (.aload_n 0, 1) := dk_42 (dk_at dksX1_tell_2 4 rfl rfl)
theorem dX1_tell_53 : decode cX1_tell 53 = .ok (.getfield 28, 3) := dk_180 0 28 (dk_at dksX1_tell_2 5 rfl rfl)
theorem dX1_tell_56 : decode cX1_tell 56 = .ok (.iload_n 3, 1) := dk_29 (dk_at dksX1_tell_2 8 rfl rfl)
theorem dX1_tell_57 : decode cX1_tell 57 = .ok (.aload_n 0, 1) := dk_42 (dk_at dksX1_tell_2 9 rfl rfl)
theorem dX1_tell_58 : decode cX1_tell 58 = .ok (.getfield 28, 3) := dk_180 0 28 (dk_at dksX1_tell_2 10 rfl rfl)
theorem dX1_tell_61 : decode cX1_tell 61 = .ok (.iload_n 3, 1) := dk_29 (dk_at dksX1_tell_2 13 rfl rfl)
theorem dX1_tell_62 : decode cX1_tell 62 = .ok (.iconst 1, 1) := dk_4 (dk_at dksX1_tell_2 14 rfl rfl)
theorem dX1_tell_63 : decode cX1_tell 63 = .ok (.isub, 1) := dk_100 (dk_at dksX1_tell_2 15 rfl rfl)
theorem dX1_tell_64 : decode cX1_tell 64 = .ok (.iaload, 1) := dk_46 (dk_at dksX1_tell_2 16 rfl rfl)
theorem dX1_tell_65 : decode cX1_tell 65 = .ok (.iastore, 1) := dk_79 (dk_at dksX1_tell_2 17 rfl rfl)
theorem dX1_tell_66 : decode cX1_tell 66 = .ok (.aload_n 0, 1) := dk_42 (dk_at dksX1_tell_2 18 rfl rfl)
theorem dX1_tell_67 : decode cX1_tell 67 = .ok (.getfield 31, 3) := dk_180 0 31 (dk_at dksX1_tell_2 19 rfl rfl)
theorem dX1_tell_70 : decode cX1_tell 70 = .ok (.iload_n 3, 1) := dk_29 (dk_at dksX1_tell_2 22 rfl rfl)
theorem dX1_tell_71 : decode cX1_tell 71 = .ok (.aload_n 0, 1) := dk_42 (dk_at dksX1_tell_2 23 rfl rfl)
theorem dX1_tell_72 : decode cX1_tell 72 = .ok (.getfield 31, 3) := dk_180 0 31 (dk_at dksX1_tell_3 0 rfl rfl)
theorem dX1_tell_75 : decode cX1_tell 75 = .ok (.iload_n 3, 1) := dk_29 (dk_at dksX1_tell_3 3 rfl rfl)
theorem dX1_tell_76 : decode cX1_tell 76 = .ok (.iconst 1, 1) := dk_4 (dk_at dksX1_tell_3 4 rfl rfl)
theorem dX1_tell_77 : decode cX1_tell 77 = .ok (.isub, 1) := dk_100 (dk_at dksX1_tell_3 5 rfl rfl)
theorem dX1_tell_78 : decode cX1_tell 78 = .ok (.iaload, 1) := dk_46 (dk_at dksX1_tell_3 6 rfl rfl)
theorem dX1_tell_79 : decode cX1_tell 79 = .ok (.iastore, 1) := dk_79 (dk_at dksX1_tell_3 7 rfl rfl)
theorem dX1_tell_80 : decode cX1_tell 80 = .ok (.iinc 3 (-1), 3) := dk_132 3 255 (dk_at dksX1_tell_3 8 rfl rfl)
theorem dX1_tell_83 : decode cX1_tell 83 = .ok (.goto (-49), 3) := dk_167 255 207 (dk_at dksX1_tell_3 11 rfl rfl)
theorem dX1_tell_86 : decode cX1_tell 86 = .ok (.aload_n 0, 1) := dk_42 (dk_at dksX1_tell_3 14 rfl rfl)
theorem dX1_tell_87 : decode cX1_tell 87 = .ok (.getfield 24, 3) := dk_180 0 24 (dk_at dksX1_tell_3 15 rfl rfl)
theorem dX1_tell_90 : decode cX1_tell 90 = .ok (.iconst 0, 1) := dk_3 (dk_at dksX1_tell_3 18 rfl rfl)
theorem dX1_tell_91 : decode cX1_tell 91 = .ok (.iload_n 1, 1) := dk_27 (dk_at dksX1_tell_3 19 rfl rfl)
theorem dX1_tell_92 : decode cX1_tell 92 = .ok (.iastore, 1) := dk_79 (dk_at dksX1_tell_3 20 rfl rfl)
theorem dX1_tell_93 : decode cX1_tell 93 = .ok (.aload_n 0, 1) := dk_42 (dk_at dksX1_tell_3 21 rfl rfl)
theorem dX1_tell_94 : decode cX1_tell 94 = .ok (.getfield 28, 3) := dk_180 0 28 (dk_at dksX1_tell_4 0 rfl rfl)
theorem dX1_tell_97 : decode cX1_tell 97 = .ok (.iconst 0, 1) := dk_3 (dk_at dksX1_tell_4 3 rfl rfl)
theorem dX1_tell_98 : decode cX1_tell 98 = .ok (.aload_n 0, 1) := dk_42 (dk_at dksX1_tell_4 4 rfl rfl)
theorem dX1_tell_99 : decode cX1_tell 99 = .ok (.getfield 154, 3) := dk_180 0 154 (dk_at dksX1_tell_4 5 rfl rfl)
theorem dX1_tell_102 : decode cX1_tell 102 = .ok (.iastore, 1) := dk_79 (dk_at dksX1_tell_4 8 rfl rfl)
theorem dX1_tell_103 : decode cX1_tell 103 = .ok (.aload_n 0, 1) := dk_42 (dk_at dksX1_tell_4 9 rfl rfl)
theorem dX1_tell_104 : decode cX1_tell 104 = .ok (.getfield 31, 3) := dk_180 0 31 (dk_at dksX1_tell_4 10 rfl rfl)
theorem dX1_tell_107 : decode cX1_tell 107 = .ok (.iconst 0, 1) := dk_3 (dk_at dksX1_tell_4 13 rfl rfl)
theorem dX1_tell_108 : decode cX1_tell 108 = .ok (.iload_n 2, 1) := dk_28 (dk_at dksX1_tell_4 14 rfl rfl)
theorem dX1_tell_109 : decode cX1_tell 109 = .ok (.iastore, 1) := dk_79 (dk_at dksX1_tell_4 15 rfl rfl)
theorem dX1_tell_110 : decode cX1_tell 110 = .ok (.return_, 1) := dk_177 (dk_at dksX1_tell_4 16 rfl rfl)
abbrev cX1_goMinute : ByteArray := prog_15_method_38_code
def yX1_goMinute : MethodName := ⟨RX1, "goMinute", "()V"⟩
def dkwX1_goMinute_1 : List UInt8 := [182, 1, 111, 132, 1, 1, 167, 255, 234, 177]
abbrev dktX1_goMinute_1 : List UInt8 := dkwX1_goMinute_1 ++ []
def dkwX1_goMinute_0 : List UInt8 := [42, 3, 181, 0, 209, 3, 60, 27, 42, 180, 0, 65, 190, 162, 0, 19, 42, 180, 0, 65, 27, 50, 42]
abbrev dktX1_goMinute_0 : List UInt8 := dkwX1_goMinute_0 ++ dktX1_goMinute_1
theorem dksX1_goMinute_0 : cX1_goMinute.data.toList.drop 0 = dktX1_goMinute_0 := by decide +kernel
theorem dksX1_goMinute_1 : cX1_goMinute.data.toList.drop 23 = dktX1_goMinute_1 := dk_seg dksX1_goMinute_0 23 rfl rfl
theorem dX1_goMinute_0 : decode cX1_goMinute 0 = .ok (.aload_n 0, 1) := dk_42 (dk_at dksX1_goMinute_0 0 rfl rfl)
theorem dX1_goMinute_1 : decode cX1_goMinute 1 = .ok (.iconst 0, 1) := dk_3 (dk_at dksX1_goMinute_0 1 rfl rfl)
theorem dX1_goMinute_2 : decode cX1_goMinute 2 = .ok (.putfield 209, 3) := dk_181 0 209 (dk_at dksX1_goMinute_0 2 rfl rfl)
theorem dX1_goMinute_5 : decode cX1_goMinute 5 = .ok (.iconst 0, 1) := dk_3 (dk_at dksX1_goMinute_0 5 rfl rfl)
theorem dX1_goMinute_6 : decode cX1_goMinute 6 = .ok (.istore_n 1, 1) := dk_60 (dk_at dksX1_goMinute_0 6 rfl rfl)
theorem dX1_goMinute_7 : decode cX1_goMinute 7 = .ok (.iload_n 1, 1) := dk_27 (dk_at dksX1_goMinute_0 7 rfl rfl)
theorem dX1_goMinute_8 : decode cX1_goMinute 8 = .ok (.aload_n 0, 1) := dk_42 (dk_at dksX1_goMinute_0 8 rfl rfl)
theorem dX1_goMinute_9 : decode cX1_goMinute 9 = .ok (.getfield 65, 3) := dk_180 0 65 (dk_at dksX1_goMinute_0 9 rfl rfl)
theorem dX1_goMinute_12 : decode cX1_goMinute 12 = .ok (.arraylength, 1) := dk_190 (dk_at dksX1_goMinute_0 12 rfl rfl)
theorem dX1_goMinute_13 : decode cX1_goMinute 13 = .ok (.if_icmp .ge 19, 3) := dk_162 0 19 (dk_at dksX1_goMinute_0 13 rfl rfl)
theorem dX1_goMinute_16 : decode cX1_goMinute 16 = .ok (.aload_n 0, 1) := dk_42 (dk_at dksX1_goMinute_0 16 rfl rfl)
theorem dX1_goMinute_17 : decode cX1_goMinute 17 = .ok (.getfield 65, 3) := dk_180 0 65 (dk_at dksX1_goMinute_0 17 rfl rfl)
theorem dX1_goMinute_20 : decode cX1_goMinute 20 = .ok (.iload_n 1, 1) := dk_27 (dk_at dksX1_goMinute_0 20 rfl rfl)
theorem dX1_goMinute_21 : decode cX1_goMinute 21 = .ok (.aaload, 1) := dk_50 (dk_at dksX1_goMinute_0 21 rfl rfl)
theorem dX1_goMinute_22 : decode cX1_goMinute 22 = .ok (.aload_n 0, 1) := dk_42 (dk_at dksX1_goMinute_0 22 rfl rfl)
theorem dX1_goMinute_23 : decode cX1_goMinute 23 = .ok (.invokevirtual 367, 3) := dk_182 1 111 (dk_at dksX1_goMinute_1 0 rfl rfl)
theorem dX1_goMinute_26 : decode cX1_goMinute 26 = .ok (.iinc 1 1, 3) := dk_132 1 1 (dk_at dksX1_goMinute_1 3 rfl rfl)
theorem dX1_goMinute_29 : decode cX1_goMinute 29 = .ok (.goto (-22), 3) := dk_167 255 234 (dk_at dksX1_goMinute_1 6 rfl rfl)
theorem dX1_goMinute_32 : decode cX1_goMinute 32 = .ok (.return_, 1) := dk_177 (dk_at dksX1_goMinute_1 9 rfl rfl)
abbrev cX1_flow : ByteArray := prog_15_method_10_code
def yX1_flow : MethodName := ⟨RX1, "flow", "()I"⟩
def dkwX1_flow_1 : List UInt8 := [182, 0, 226, 192, 0, 117, 182, 0, 230, 96, 60, 132, 2, 1, 167, 255, 224, 27, 172]
abbrev dktX1_flow_1 : List UInt8 := dkwX1_flow_1 ++ []
def dkwX1_flow_0 : List UInt8 := [3, 60, 3, 61, 28, 42, 180, 0, 17, 182, 0, 198, 162, 0, 27, 27, 42, 42, 180, 0, 17, 28]
abbrev dktX1_flow_0 : List UInt8 := dkwX1_flow_0 ++ dktX1_flow_1
theorem dksX1_flow_0 : cX1_flow.data.toList.drop 0 = dktX1_flow_0 := by decide +kernel
theorem dksX1_flow_1 : cX1_flow.data.toList.drop 22 = dktX1_flow_1 := dk_seg dksX1_flow_0 22 rfl rfl
theorem dX1_flow_0 : decode cX1_flow 0 = .ok (.iconst 0, 1) := dk_3 (dk_at dksX1_flow_0 0 rfl rfl)
theorem dX1_flow_1 : decode cX1_flow 1 = .ok (.istore_n 1, 1) := dk_60 (dk_at dksX1_flow_0 1 rfl rfl)
theorem dX1_flow_2 : decode cX1_flow 2 = .ok (.iconst 0, 1) := dk_3 (dk_at dksX1_flow_0 2 rfl rfl)
theorem dX1_flow_3 : decode cX1_flow 3 = .ok (.istore_n 2, 1) := dk_61 (dk_at dksX1_flow_0 3 rfl rfl)
theorem dX1_flow_4 : decode cX1_flow 4 = .ok (.iload_n 2, 1) := dk_28 (dk_at dksX1_flow_0 4 rfl rfl)
theorem dX1_flow_5 : decode cX1_flow 5 = .ok (.aload_n 0, 1) := dk_42 (dk_at dksX1_flow_0 5 rfl rfl)
theorem dX1_flow_6 : decode cX1_flow 6 = .ok (.getfield 17, 3) := dk_180 0 17 (dk_at dksX1_flow_0 6 rfl rfl)
theorem dX1_flow_9 : decode cX1_flow 9 = .ok (.invokevirtual 198, 3) := dk_182 0 198 (dk_at dksX1_flow_0 9 rfl rfl)
theorem dX1_flow_12 : decode cX1_flow 12 = .ok (.if_icmp .ge 27, 3) := dk_162 0 27 (dk_at dksX1_flow_0 12 rfl rfl)
theorem dX1_flow_15 : decode cX1_flow 15 = .ok (.iload_n 1, 1) := dk_27 (dk_at dksX1_flow_0 15 rfl rfl)
theorem dX1_flow_16 : decode cX1_flow 16 = .ok (.aload_n 0, 1) := dk_42 (dk_at dksX1_flow_0 16 rfl rfl)
theorem dX1_flow_17 : decode cX1_flow 17 = .ok (.aload_n 0, 1) := dk_42 (dk_at dksX1_flow_0 17 rfl rfl)
theorem dX1_flow_18 : decode cX1_flow 18 = .ok (.getfield 17, 3) := dk_180 0 17 (dk_at dksX1_flow_0 18 rfl rfl)
theorem dX1_flow_21 : decode cX1_flow 21 = .ok (.iload_n 2, 1) := dk_28 (dk_at dksX1_flow_0 21 rfl rfl)
theorem dX1_flow_22 : decode cX1_flow 22 = .ok (.invokevirtual 226, 3) := dk_182 0 226 (dk_at dksX1_flow_1 0 rfl rfl)
theorem dX1_flow_25 : decode cX1_flow 25 = .ok (.checkcast 117, 3) := dk_192 0 117 (dk_at dksX1_flow_1 3 rfl rfl)
theorem dX1_flow_28 : decode cX1_flow 28 = .ok (.invokevirtual 230, 3) := dk_182 0 230 (dk_at dksX1_flow_1 6 rfl rfl)
theorem dX1_flow_31 : decode cX1_flow 31 = .ok (.iadd, 1) := dk_96 (dk_at dksX1_flow_1 9 rfl rfl)
theorem dX1_flow_32 : decode cX1_flow 32 = .ok (.istore_n 1, 1) := dk_60 (dk_at dksX1_flow_1 10 rfl rfl)
theorem dX1_flow_33 : decode cX1_flow 33 = .ok (.iinc 2 1, 3) := dk_132 2 1 (dk_at dksX1_flow_1 11 rfl rfl)
theorem dX1_flow_36 : decode cX1_flow 36 = .ok (.goto (-32), 3) := dk_167 255 224 (dk_at dksX1_flow_1 14 rfl rfl)
theorem dX1_flow_39 : decode cX1_flow 39 = .ok (.iload_n 1, 1) := dk_27 (dk_at dksX1_flow_1 17 rfl rfl)
theorem dX1_flow_40 : decode cX1_flow 40 = .ok (.ireturn, 1) := dk_172 (dk_at dksX1_flow_1 18 rfl rfl)
abbrev cX1_flowOf : ByteArray := prog_15_method_9_code
def yX1_flowOf : MethodName := ⟨RX1, "flowOf", "(LFieldPumps$Pump;)I"⟩
def dkwX1_flowOf_1 : List UInt8 := [185, 0, 224, 3, 0, 167, 0, 4, 3, 172]
abbrev dktX1_flowOf_1 : List UInt8 := dkwX1_flowOf_1 ++ []
def dkwX1_flowOf_0 : List UInt8 := [43, 182, 0, 218, 153, 0, 28, 42, 180, 0, 39, 43, 180, 0, 191, 50, 43, 180, 0, 221, 42, 180, 0, 157]
abbrev dktX1_flowOf_0 : List UInt8 := dkwX1_flowOf_0 ++ dktX1_flowOf_1
theorem dksX1_flowOf_0 : cX1_flowOf.data.toList.drop 0 = dktX1_flowOf_0 := by decide +kernel
theorem dksX1_flowOf_1 : cX1_flowOf.data.toList.drop 24 = dktX1_flowOf_1 := dk_seg dksX1_flowOf_0 24 rfl rfl
theorem dX1_flowOf_0 : decode cX1_flowOf 0 = .ok (.aload_n 1, 1) := dk_43 (dk_at dksX1_flowOf_0 0 rfl rfl)
theorem dX1_flowOf_1 : decode cX1_flowOf 1 = .ok (.invokevirtual 218, 3) := dk_182 0 218 (dk_at dksX1_flowOf_0 1 rfl rfl)
theorem dX1_flowOf_4 : decode cX1_flowOf 4 = .ok (.ifCond .eq 28, 3) := dk_153 0 28 (dk_at dksX1_flowOf_0 4 rfl rfl)
theorem dX1_flowOf_7 : decode cX1_flowOf 7 = .ok (.aload_n 0, 1) := dk_42 (dk_at dksX1_flowOf_0 7 rfl rfl)
theorem dX1_flowOf_8 : decode cX1_flowOf 8 = .ok (.getfield 39, 3) := dk_180 0 39 (dk_at dksX1_flowOf_0 8 rfl rfl)
theorem dX1_flowOf_11 : decode cX1_flowOf 11 = .ok (.aload_n 1, 1) := dk_43 (dk_at dksX1_flowOf_0 11 rfl rfl)
theorem dX1_flowOf_12 : decode cX1_flowOf 12 = .ok (.getfield 191, 3) := dk_180 0 191 (dk_at dksX1_flowOf_0 12 rfl rfl)
theorem dX1_flowOf_15 : decode cX1_flowOf 15 = .ok (.aaload, 1) := dk_50 (dk_at dksX1_flowOf_0 15 rfl rfl)
theorem dX1_flowOf_16 : decode cX1_flowOf 16 = .ok (.aload_n 1, 1) := dk_43 (dk_at dksX1_flowOf_0 16 rfl rfl)
theorem dX1_flowOf_17 : decode cX1_flowOf 17 = .ok (.getfield 221, 3) := dk_180 0 221 (dk_at dksX1_flowOf_0 17 rfl rfl)
theorem dX1_flowOf_20 : decode cX1_flowOf 20 = .ok (.aload_n 0, 1) := dk_42 (dk_at dksX1_flowOf_0 20 rfl rfl)
theorem dX1_flowOf_21 : decode cX1_flowOf 21 = .ok (.getfield 157, 3) := dk_180 0 157 (dk_at dksX1_flowOf_0 21 rfl rfl)
theorem dX1_flowOf_24 : decode cX1_flowOf 24 = .ok (.invokeinterface 224 3, 5) := by decide +kernel
theorem dX1_flowOf_29 : decode cX1_flowOf 29 = .ok (.goto 4, 3) := dk_167 0 4 (dk_at dksX1_flowOf_1 5 rfl rfl)
theorem dX1_flowOf_32 : decode cX1_flowOf 32 = .ok (.iconst 0, 1) := dk_3 (dk_at dksX1_flowOf_1 8 rfl rfl)
theorem dX1_flowOf_33 : decode cX1_flowOf 33 = .ok (.ireturn, 1) := dk_172 (dk_at dksX1_flowOf_1 9 rfl rfl)
abbrev cX1_demand : ByteArray := prog_15_method_18_code
def yX1_demand : MethodName := ⟨RX1, "demand", "(I)I"⟩
def dkwX1_demand_1 : List UInt8 := [27, 182, 1, 13, 96, 61, 132, 3, 1, 167, 255, 236, 28, 172]
abbrev dktX1_demand_1 : List UInt8 := dkwX1_demand_1 ++ []
def dkwX1_demand_0 : List UInt8 := [42, 180, 0, 160, 27, 104, 17, 3, 232, 108, 61, 3, 62, 29, 42, 180, 0, 151, 162, 0, 18, 28, 42, 29]
abbrev dktX1_demand_0 : List UInt8 := dkwX1_demand_0 ++ dktX1_demand_1
theorem dksX1_demand_0 : cX1_demand.data.toList.drop 0 = dktX1_demand_0 := by decide +kernel
theorem dksX1_demand_1 : cX1_demand.data.toList.drop 24 = dktX1_demand_1 := dk_seg dksX1_demand_0 24 rfl rfl
theorem dX1_demand_0 : decode cX1_demand 0 = .ok (.aload_n 0, 1) := dk_42 (dk_at dksX1_demand_0 0 rfl rfl)
theorem dX1_demand_1 : decode cX1_demand 1 = .ok (.getfield 160, 3) := dk_180 0 160 (dk_at dksX1_demand_0 1 rfl rfl)
theorem dX1_demand_4 : decode cX1_demand 4 = .ok (.iload_n 1, 1) := dk_27 (dk_at dksX1_demand_0 4 rfl rfl)
theorem dX1_demand_5 : decode cX1_demand 5 = .ok (.imul, 1) := dk_104 (dk_at dksX1_demand_0 5 rfl rfl)
theorem dX1_demand_6 : decode cX1_demand 6 = .ok (.sipush 1000, 3) := dk_17 3 232 (dk_at dksX1_demand_0 6 rfl rfl)
theorem dX1_demand_9 : decode cX1_demand 9 = .ok (.idiv, 1) := dk_108 (dk_at dksX1_demand_0 9 rfl rfl)
theorem dX1_demand_10 : decode cX1_demand 10 = .ok (.istore_n 2, 1) := dk_61 (dk_at dksX1_demand_0 10 rfl rfl)
theorem dX1_demand_11 : decode cX1_demand 11 = .ok (.iconst 0, 1) := dk_3 (dk_at dksX1_demand_0 11 rfl rfl)
theorem dX1_demand_12 : decode cX1_demand 12 = .ok (.istore_n 3, 1) := dk_62 (dk_at dksX1_demand_0 12 rfl rfl)
theorem dX1_demand_13 : decode cX1_demand 13 = .ok (.iload_n 3, 1) := dk_29 (dk_at dksX1_demand_0 13 rfl rfl)
theorem dX1_demand_14 : decode cX1_demand 14 = .ok (.aload_n 0, 1) := dk_42 (dk_at dksX1_demand_0 14 rfl rfl)
theorem dX1_demand_15 : decode cX1_demand 15 = .ok (.getfield 151, 3) := dk_180 0 151 (dk_at dksX1_demand_0 15 rfl rfl)
theorem dX1_demand_18 : decode cX1_demand 18 = .ok (.if_icmp .ge 18, 3) := dk_162 0 18 (dk_at dksX1_demand_0 18 rfl rfl)
theorem dX1_demand_21 : decode cX1_demand 21 = .ok (.iload_n 2, 1) := dk_28 (dk_at dksX1_demand_0 21 rfl rfl)
theorem dX1_demand_22 : decode cX1_demand 22 = .ok (.aload_n 0, 1) := dk_42 (dk_at dksX1_demand_0 22 rfl rfl)
theorem dX1_demand_23 : decode cX1_demand 23 = .ok (.iload_n 3, 1) := dk_29 (dk_at dksX1_demand_0 23 rfl rfl)
theorem dX1_demand_24 : decode cX1_demand 24 = .ok (.iload_n 1, 1) := dk_27 (dk_at dksX1_demand_1 0 rfl rfl)
theorem dX1_demand_25 : decode cX1_demand 25 = .ok (.invokevirtual 269, 3) := dk_182 1 13 (dk_at dksX1_demand_1 1 rfl rfl)
theorem dX1_demand_28 : decode cX1_demand 28 = .ok (.iadd, 1) := dk_96 (dk_at dksX1_demand_1 4 rfl rfl)
theorem dX1_demand_29 : decode cX1_demand 29 = .ok (.istore_n 2, 1) := dk_61 (dk_at dksX1_demand_1 5 rfl rfl)
theorem dX1_demand_30 : decode cX1_demand 30 = .ok (.iinc 3 1, 3) := dk_132 3 1 (dk_at dksX1_demand_1 6 rfl rfl)
theorem dX1_demand_33 : decode cX1_demand 33 = .ok (.goto (-20), 3) := dk_167 255 236 (dk_at dksX1_demand_1 9 rfl rfl)
theorem dX1_demand_36 : decode cX1_demand 36 = .ok (.iload_n 2, 1) := dk_28 (dk_at dksX1_demand_1 12 rfl rfl)
theorem dX1_demand_37 : decode cX1_demand 37 = .ok (.ireturn, 1) := dk_172 (dk_at dksX1_demand_1 13 rfl rfl)
abbrev cX1_demandOf : ByteArray := prog_15_method_17_code
def yX1_demandOf : MethodName := ⟨RX1, "demandOf", "(II)I"⟩
def dkwX1_demandOf_1 : List UInt8 := [3, 172]
abbrev dktX1_demandOf_1 : List UInt8 := dkwX1_demandOf_1 ++ []
def dkwX1_demandOf_0 : List UInt8 := [42, 180, 0, 46, 27, 51, 153, 0, 18, 42, 180, 0, 43, 27, 46, 28, 104, 17, 1, 144, 108, 167, 0, 4]
abbrev dktX1_demandOf_0 : List UInt8 := dkwX1_demandOf_0 ++ dktX1_demandOf_1
theorem dksX1_demandOf_0 : cX1_demandOf.data.toList.drop 0 = dktX1_demandOf_0 := by decide +kernel
theorem dksX1_demandOf_1 : cX1_demandOf.data.toList.drop 24 = dktX1_demandOf_1 := dk_seg dksX1_demandOf_0 24 rfl rfl
theorem dX1_demandOf_0 : decode cX1_demandOf 0 = .ok (.aload_n 0, 1) := dk_42 (dk_at dksX1_demandOf_0 0 rfl rfl)
theorem dX1_demandOf_1 : decode cX1_demandOf 1 = .ok (.getfield 46, 3) := dk_180 0 46 (dk_at dksX1_demandOf_0 1 rfl rfl)
theorem dX1_demandOf_4 : decode cX1_demandOf 4 = .ok (.iload_n 1, 1) := dk_27 (dk_at dksX1_demandOf_0 4 rfl rfl)
theorem dX1_demandOf_5 : decode cX1_demandOf 5 = .ok (.baload, 1) := dk_51 (dk_at dksX1_demandOf_0 5 rfl rfl)
theorem dX1_demandOf_6 : decode cX1_demandOf 6 = .ok (.ifCond .eq 18, 3) := dk_153 0 18 (dk_at dksX1_demandOf_0 6 rfl rfl)
theorem dX1_demandOf_9 : decode cX1_demandOf 9 = .ok (.aload_n 0, 1) := dk_42 (dk_at dksX1_demandOf_0 9 rfl rfl)
theorem dX1_demandOf_10 : decode cX1_demandOf 10 = .ok (.getfield 43, 3) := dk_180 0 43 (dk_at dksX1_demandOf_0 10 rfl rfl)
theorem dX1_demandOf_13 : decode cX1_demandOf 13 = .ok (.iload_n 1, 1) := dk_27 (dk_at dksX1_demandOf_0 13 rfl rfl)
theorem dX1_demandOf_14 : decode cX1_demandOf 14 = .ok (.iaload, 1) := dk_46 (dk_at dksX1_demandOf_0 14 rfl rfl)
theorem dX1_demandOf_15 : decode cX1_demandOf 15 = .ok (.iload_n 2, 1) := dk_28 (dk_at dksX1_demandOf_0 15 rfl rfl)
theorem dX1_demandOf_16 : decode cX1_demandOf 16 = .ok (.imul, 1) := dk_104 (dk_at dksX1_demandOf_0 16 rfl rfl)
theorem dX1_demandOf_17 : decode cX1_demandOf 17 = .ok (.sipush 400, 3) := dk_17 1 144 (dk_at dksX1_demandOf_0 17 rfl rfl)
theorem dX1_demandOf_20 : decode cX1_demandOf 20 = .ok (.idiv, 1) := dk_108 (dk_at dksX1_demandOf_0 20 rfl rfl)
theorem dX1_demandOf_21 : decode cX1_demandOf 21 = .ok (.goto 4, 3) := dk_167 0 4 (dk_at dksX1_demandOf_0 21 rfl rfl)
theorem dX1_demandOf_24 : decode cX1_demandOf 24 = .ok (.iconst 0, 1) := dk_3 (dk_at dksX1_demandOf_1 0 rfl rfl)
theorem dX1_demandOf_25 : decode cX1_demandOf 25 = .ok (.ireturn, 1) := dk_172 (dk_at dksX1_demandOf_1 1 rfl rfl)
abbrev cX1_noteNight : ByteArray := prog_15_method_21_code
def yX1_noteNight : MethodName := ⟨RX1, "noteNight", "()V"⟩
def dkwX1_noteNight_3 : List UInt8 := [164, 0, 18, 42, 180, 0, 34, 3, 182, 1, 46, 192, 0, 141, 182, 0, 143, 60, 42, 3, 181, 0, 169, 177]
abbrev dktX1_noteNight_3 : List UInt8 := dkwX1_noteNight_3 ++ []
def dkwX1_noteNight_2 : List UInt8 := [180, 0, 34, 42, 180, 0, 169, 184, 0, 147, 182, 0, 129, 87, 42, 180, 0, 34, 182, 0, 198, 16, 7]
abbrev dktX1_noteNight_2 : List UInt8 := dkwX1_noteNight_2 ++ dktX1_noteNight_3
def dkwX1_noteNight_1 : List UInt8 := [16, 17, 46, 96, 164, 0, 19, 42, 89, 180, 0, 172, 4, 96, 181, 0, 172, 42, 16, 6, 182, 1, 44, 42]
abbrev dktX1_noteNight_1 : List UInt8 := dkwX1_noteNight_1 ++ dktX1_noteNight_2
def dkwX1_noteNight_0 : List UInt8 := [42, 180, 0, 34, 182, 0, 198, 6, 161, 0, 38, 42, 180, 0, 169, 42, 182, 1, 41, 42, 180, 0, 96]
abbrev dktX1_noteNight_0 : List UInt8 := dkwX1_noteNight_0 ++ dktX1_noteNight_1
theorem dksX1_noteNight_0 : cX1_noteNight.data.toList.drop 0 = dktX1_noteNight_0 := by decide +kernel
theorem dksX1_noteNight_1 : cX1_noteNight.data.toList.drop 23 = dktX1_noteNight_1 := dk_seg dksX1_noteNight_0 23 rfl rfl
theorem dksX1_noteNight_2 : cX1_noteNight.data.toList.drop 47 = dktX1_noteNight_2 := dk_seg dksX1_noteNight_1 24 rfl rfl
theorem dksX1_noteNight_3 : cX1_noteNight.data.toList.drop 70 = dktX1_noteNight_3 := dk_seg dksX1_noteNight_2 23 rfl rfl
theorem dX1_noteNight_0 : decode cX1_noteNight 0 = .ok (.aload_n 0, 1) := dk_42 (dk_at dksX1_noteNight_0 0 rfl rfl)
theorem dX1_noteNight_1 : decode cX1_noteNight 1 = .ok (.getfield 34, 3) := dk_180 0 34 (dk_at dksX1_noteNight_0 1 rfl rfl)
theorem dX1_noteNight_4 : decode cX1_noteNight 4 = .ok (.invokevirtual 198, 3) := dk_182 0 198 (dk_at dksX1_noteNight_0 4 rfl rfl)
theorem dX1_noteNight_7 : decode cX1_noteNight 7 = .ok (.iconst 3, 1) := dk_6 (dk_at dksX1_noteNight_0 7 rfl rfl)
theorem dX1_noteNight_8 : decode cX1_noteNight 8 = .ok (.if_icmp .lt 38, 3) := dk_161 0 38 (dk_at dksX1_noteNight_0 8 rfl rfl)
theorem dX1_noteNight_11 : decode cX1_noteNight 11 = .ok (.aload_n 0, 1) := dk_42 (dk_at dksX1_noteNight_0 11 rfl rfl)
theorem dX1_noteNight_12 : decode cX1_noteNight 12 = .ok (.getfield 169, 3) := dk_180 0 169 (dk_at dksX1_noteNight_0 12 rfl rfl)
theorem dX1_noteNight_15 : decode cX1_noteNight 15 = .ok (.aload_n 0, 1) := dk_42 (dk_at dksX1_noteNight_0 15 rfl rfl)
theorem dX1_noteNight_16 : decode cX1_noteNight 16 = .ok (.invokevirtual 297, 3) := dk_182 1 41 (dk_at dksX1_noteNight_0 16 rfl rfl)
theorem dX1_noteNight_19 : decode cX1_noteNight 19 = .ok (.aload_n 0, 1) := dk_42 (dk_at dksX1_noteNight_0 19 rfl rfl)
theorem dX1_noteNight_20 : decode cX1_noteNight 20 = .ok (.getfield 96, 3) := dk_180 0 96 (dk_at dksX1_noteNight_0 20 rfl rfl)
theorem dX1_noteNight_23 : decode cX1_noteNight 23 = .ok (.bipush 17, 2) := dk_16 17 (dk_at dksX1_noteNight_1 0 rfl rfl)
theorem dX1_noteNight_25 : decode cX1_noteNight 25 = .ok (.iaload, 1) := dk_46 (dk_at dksX1_noteNight_1 2 rfl rfl)
theorem dX1_noteNight_26 : decode cX1_noteNight 26 = .ok (.iadd, 1) := dk_96 (dk_at dksX1_noteNight_1 3 rfl rfl)
theorem dX1_noteNight_27 : decode cX1_noteNight 27 = .ok (.if_icmp .le 19, 3) := dk_164 0 19 (dk_at dksX1_noteNight_1 4 rfl rfl)
theorem dX1_noteNight_30 : decode cX1_noteNight 30 = .ok (.aload_n 0, 1) := dk_42 (dk_at dksX1_noteNight_1 7 rfl rfl)
theorem dX1_noteNight_31 : decode cX1_noteNight 31 = .ok (.dup, 1) := dk_89 (dk_at dksX1_noteNight_1 8 rfl rfl)
theorem dX1_noteNight_32 : decode cX1_noteNight 32 = .ok (.getfield 172, 3) := dk_180 0 172 (dk_at dksX1_noteNight_1 9 rfl rfl)
theorem dX1_noteNight_35 : decode cX1_noteNight 35 = .ok (.iconst 1, 1) := dk_4 (dk_at dksX1_noteNight_1 12 rfl rfl)
theorem dX1_noteNight_36 : decode cX1_noteNight 36 = .ok (.iadd, 1) := dk_96 (dk_at dksX1_noteNight_1 13 rfl rfl)
theorem dX1_noteNight_37 : decode cX1_noteNight 37 = .ok (.putfield 172, 3) := dk_181 0 172 (dk_at dksX1_noteNight_1 14 rfl rfl)
theorem dX1_noteNight_40 : decode cX1_noteNight 40 = .ok (.aload_n 0, 1) := dk_42 (dk_at dksX1_noteNight_1 17 rfl rfl)
theorem dX1_noteNight_41 : decode cX1_noteNight 41 = .ok (.bipush 6, 2) := dk_16 6 (dk_at dksX1_noteNight_1 18 rfl rfl)
theorem dX1_noteNight_43 : decode cX1_noteNight 43 = .ok (.invokevirtual 300, 3) := dk_182 1 44 (dk_at dksX1_noteNight_1 20 rfl rfl)
theorem dX1_noteNight_46 : decode cX1_noteNight 46 = .ok (.aload_n 0, 1) := dk_42 (dk_at dksX1_noteNight_1 23 rfl rfl)
theorem dX1_noteNight_47 : decode cX1_noteNight 47 = .ok (.getfield 34, 3) := dk_180 0 34 (dk_at dksX1_noteNight_2 0 rfl rfl)
theorem dX1_noteNight_50 : decode cX1_noteNight 50 = .ok (.aload_n 0, 1) := dk_42 (dk_at dksX1_noteNight_2 3 rfl rfl)
theorem dX1_noteNight_51 : decode cX1_noteNight 51 = .ok (.getfield 169, 3) := dk_180 0 169 (dk_at dksX1_noteNight_2 4 rfl rfl)
theorem dX1_noteNight_54 : decode cX1_noteNight 54 = .ok (.invokestatic 147, 3) := dk_184 0 147 (dk_at dksX1_noteNight_2 7 rfl rfl)
theorem dX1_noteNight_57 : decode cX1_noteNight 57 = .ok (.invokevirtual 129, 3) := dk_182 0 129 (dk_at dksX1_noteNight_2 10 rfl rfl)
theorem dX1_noteNight_60 : decode cX1_noteNight 60 = .ok (.pop, 1) := dk_87 (dk_at dksX1_noteNight_2 13 rfl rfl)
theorem dX1_noteNight_61 : decode cX1_noteNight 61 = .ok (.aload_n 0, 1) := dk_42 (dk_at dksX1_noteNight_2 14 rfl rfl)
theorem dX1_noteNight_62 : decode cX1_noteNight 62 = .ok (.getfield 34, 3) := dk_180 0 34 (dk_at dksX1_noteNight_2 15 rfl rfl)
theorem dX1_noteNight_65 : decode cX1_noteNight 65 = .ok (.invokevirtual 198, 3) := dk_182 0 198 (dk_at dksX1_noteNight_2 18 rfl rfl)
theorem dX1_noteNight_68 : decode cX1_noteNight 68 = .ok (.bipush 7, 2) := dk_16 7 (dk_at dksX1_noteNight_2 21 rfl rfl)
theorem dX1_noteNight_70 : decode cX1_noteNight 70 = .ok (.if_icmp .le 18, 3) := dk_164 0 18 (dk_at dksX1_noteNight_3 0 rfl rfl)
theorem dX1_noteNight_73 : decode cX1_noteNight 73 = .ok (.aload_n 0, 1) := dk_42 (dk_at dksX1_noteNight_3 3 rfl rfl)
theorem dX1_noteNight_74 : decode cX1_noteNight 74 = .ok (.getfield 34, 3) := dk_180 0 34 (dk_at dksX1_noteNight_3 4 rfl rfl)
theorem dX1_noteNight_77 : decode cX1_noteNight 77 = .ok (.iconst 0, 1) := dk_3 (dk_at dksX1_noteNight_3 7 rfl rfl)
theorem dX1_noteNight_78 : decode cX1_noteNight 78 = .ok (.invokevirtual 302, 3) := dk_182 1 46 (dk_at dksX1_noteNight_3 8 rfl rfl)
theorem dX1_noteNight_81 : decode cX1_noteNight 81 = .ok (.checkcast 141, 3) := dk_192 0 141 (dk_at dksX1_noteNight_3 11 rfl rfl)
theorem dX1_noteNight_84 : decode cX1_noteNight 84 = .ok (.invokevirtual 143, 3) := dk_182 0 143 (dk_at dksX1_noteNight_3 14 rfl rfl)
theorem dX1_noteNight_87 : decode cX1_noteNight 87 = .ok (.istore_n 1, 1) := dk_60 (dk_at dksX1_noteNight_3 17 rfl rfl)
theorem dX1_noteNight_88 : decode cX1_noteNight 88 = .ok (.aload_n 0, 1) := dk_42 (dk_at dksX1_noteNight_3 18 rfl rfl)
theorem dX1_noteNight_89 : decode cX1_noteNight 89 = .ok (.iconst 0, 1) := dk_3 (dk_at dksX1_noteNight_3 19 rfl rfl)
theorem dX1_noteNight_90 : decode cX1_noteNight 90 = .ok (.putfield 169, 3) := dk_181 0 169 (dk_at dksX1_noteNight_3 20 rfl rfl)
theorem dX1_noteNight_93 : decode cX1_noteNight 93 = .ok (.return_, 1) := dk_177 (dk_at dksX1_noteNight_3 23 rfl rfl)
abbrev cX1_middle : ByteArray := prog_15_method_20_code
def yX1_middle : MethodName := ⟨RX1, "middle", "()I"⟩
def dkwX1_middle_6 : List UInt8 := [192, 0, 141, 182, 0, 143, 172]
abbrev dktX1_middle_6 : List UInt8 := dkwX1_middle_6 ++ []
def dkwX1_middle_5 : List UInt8 := [43, 182, 1, 35, 185, 1, 30, 1, 0, 192, 0, 141, 182, 0, 143, 100, 61, 167, 255, 219, 43, 182, 1, 38]
abbrev dktX1_middle_5 : List UInt8 := dkwX1_middle_5 ++ dktX1_middle_6
def dkwX1_middle_4 : List UInt8 := [100, 5, 108, 61, 43, 182, 1, 26, 185, 1, 30, 1, 0, 192, 0, 141, 182, 0, 143, 28, 163, 0, 24, 28]
abbrev dktX1_middle_4 : List UInt8 := dkwX1_middle_4 ++ dktX1_middle_5
def dkwX1_middle_3 : List UInt8 := [4, 96, 184, 0, 147, 182, 1, 22, 192, 0, 141, 58, 4, 167, 255, 189, 42, 180, 0, 34, 182, 0, 198, 4]
abbrev dktX1_middle_3 : List UInt8 := dkwX1_middle_3 ++ dktX1_middle_4
def dkwX1_middle_2 : List UInt8 := [192, 0, 141, 58, 4, 43, 29, 184, 0, 147, 25, 4, 199, 0, 7, 4, 167, 0, 10, 25, 4, 182, 0, 143]
abbrev dktX1_middle_2 : List UInt8 := dkwX1_middle_2 ++ dktX1_middle_3
def dkwX1_middle_1 : List UInt8 := [153, 0, 64, 44, 185, 0, 114, 1, 0, 192, 0, 141, 182, 0, 143, 62, 43, 29, 184, 0, 147, 182, 1, 19]
abbrev dktX1_middle_1 : List UInt8 := dkwX1_middle_1 ++ dktX1_middle_2
def dkwX1_middle_0 : List UInt8 := [187, 1, 16, 89, 183, 1, 18, 76, 42, 180, 0, 34, 182, 0, 104, 77, 44, 185, 0, 108, 1, 0]
abbrev dktX1_middle_0 : List UInt8 := dkwX1_middle_0 ++ dktX1_middle_1
theorem dksX1_middle_0 : cX1_middle.data.toList.drop 0 = dktX1_middle_0 := by decide +kernel
theorem dksX1_middle_1 : cX1_middle.data.toList.drop 22 = dktX1_middle_1 := dk_seg dksX1_middle_0 22 rfl rfl
theorem dksX1_middle_2 : cX1_middle.data.toList.drop 46 = dktX1_middle_2 := dk_seg dksX1_middle_1 24 rfl rfl
theorem dksX1_middle_3 : cX1_middle.data.toList.drop 70 = dktX1_middle_3 := dk_seg dksX1_middle_2 24 rfl rfl
theorem dksX1_middle_4 : cX1_middle.data.toList.drop 94 = dktX1_middle_4 := dk_seg dksX1_middle_3 24 rfl rfl
theorem dksX1_middle_5 : cX1_middle.data.toList.drop 118 = dktX1_middle_5 := dk_seg dksX1_middle_4 24 rfl rfl
theorem dksX1_middle_6 : cX1_middle.data.toList.drop 142 = dktX1_middle_6 := dk_seg dksX1_middle_5 24 rfl rfl
theorem dX1_middle_0 : decode cX1_middle 0 = .ok (.new 272, 3) := dk_187 1 16 (dk_at dksX1_middle_0 0 rfl rfl)
theorem dX1_middle_3 : decode cX1_middle 3 = .ok (.dup, 1) := dk_89 (dk_at dksX1_middle_0 3 rfl rfl)
theorem dX1_middle_4 : decode cX1_middle 4 = .ok (.invokespecial 274, 3) := dk_183 1 18 (dk_at dksX1_middle_0 4 rfl rfl)
theorem dX1_middle_7 : decode cX1_middle 7 = .ok (.astore_n 1, 1) := dk_76 (dk_at dksX1_middle_0 7 rfl rfl)
theorem dX1_middle_8 : decode cX1_middle 8 = .ok (.aload_n 0, 1) := dk_42 (dk_at dksX1_middle_0 8 rfl rfl)
theorem dX1_middle_9 : decode cX1_middle 9 = .ok (.getfield 34, 3) := dk_180 0 34 (dk_at dksX1_middle_0 9 rfl rfl)
theorem dX1_middle_12 : decode cX1_middle 12 = .ok (.invokevirtual 104, 3) := dk_182 0 104 (dk_at dksX1_middle_0 12 rfl rfl)
theorem dX1_middle_15 : decode cX1_middle 15 = .ok (.astore_n 2, 1) := dk_77 (dk_at dksX1_middle_0 15 rfl rfl)
theorem dX1_middle_16 : decode cX1_middle 16 = .ok (.aload_n 2, 1) := dk_44 (dk_at dksX1_middle_0 16 rfl rfl)
theorem dX1_middle_17 : decode cX1_middle 17 = .ok (.invokeinterface 108 1, 5) := by decide +kernel
theorem dX1_middle_22 : decode cX1_middle 22 = .ok (.ifCond .eq 64, 3) := dk_153 0 64 (dk_at dksX1_middle_1 0 rfl rfl)
theorem dX1_middle_25 : decode cX1_middle 25 = .ok (.aload_n 2, 1) := dk_44 (dk_at dksX1_middle_1 3 rfl rfl)
theorem dX1_middle_26 : decode cX1_middle 26 = .ok (.invokeinterface 114 1, 5) := by decide +kernel
theorem dX1_middle_31 : decode cX1_middle 31 = .ok (.checkcast 141, 3) := dk_192 0 141 (dk_at dksX1_middle_1 9 rfl rfl)
theorem dX1_middle_34 : decode cX1_middle 34 = .ok (.invokevirtual 143, 3) := dk_182 0 143 (dk_at dksX1_middle_1 12 rfl rfl)
theorem dX1_middle_37 : decode cX1_middle 37 = .ok (.istore_n 3, 1) := dk_62 (dk_at dksX1_middle_1 15 rfl rfl)
theorem dX1_middle_38 : decode cX1_middle 38 = .ok (.aload_n 1, 1) := dk_43 (dk_at dksX1_middle_1 16 rfl rfl)
theorem dX1_middle_39 : decode cX1_middle 39 = .ok (.iload_n 3, 1) := dk_29 (dk_at dksX1_middle_1 17 rfl rfl)
theorem dX1_middle_40 : decode cX1_middle 40 = .ok (.invokestatic 147, 3) := dk_184 0 147 (dk_at dksX1_middle_1 18 rfl rfl)
theorem dX1_middle_43 : decode cX1_middle 43 = .ok (.invokevirtual 275, 3) := dk_182 1 19 (dk_at dksX1_middle_1 21 rfl rfl)
theorem dX1_middle_46 : decode cX1_middle 46 = .ok (.checkcast 141, 3) := dk_192 0 141 (dk_at dksX1_middle_2 0 rfl rfl)
theorem dX1_middle_49 : decode cX1_middle 49 = .ok (.astore 4, 2) := dk_58 4 (dk_at dksX1_middle_2 3 rfl rfl)
theorem dX1_middle_51 : decode cX1_middle 51 = .ok (.aload_n 1, 1) := dk_43 (dk_at dksX1_middle_2 5 rfl rfl)
theorem dX1_middle_52 : decode cX1_middle 52 = .ok (.iload_n 3, 1) := dk_29 (dk_at dksX1_middle_2 6 rfl rfl)
theorem dX1_middle_53 : decode cX1_middle 53 = .ok (.invokestatic 147, 3) := dk_184 0 147 (dk_at dksX1_middle_2 7 rfl rfl)
theorem dX1_middle_56 : decode cX1_middle 56 = .ok (.aload 4, 2) := dk_25 4 (dk_at dksX1_middle_2 10 rfl rfl)
theorem dX1_middle_58 : decode cX1_middle 58 = .ok (.ifnonnull 7, 3) := dk_199 0 7 (dk_at dksX1_middle_2 12 rfl rfl)
theorem dX1_middle_61 : decode cX1_middle 61 = .ok (.iconst 1, 1) := dk_4 (dk_at dksX1_middle_2 15 rfl rfl)
theorem dX1_middle_62 : decode cX1_middle 62 = .ok (.goto 10, 3) := dk_167 0 10 (dk_at dksX1_middle_2 16 rfl rfl)
theorem dX1_middle_65 : decode cX1_middle 65 = .ok (.aload 4, 2) := dk_25 4 (dk_at dksX1_middle_2 19 rfl rfl)
theorem dX1_middle_67 : decode cX1_middle 67 = .ok (.invokevirtual 143, 3) := dk_182 0 143 (dk_at dksX1_middle_2 21 rfl rfl)
theorem dX1_middle_70 : decode cX1_middle 70 = .ok (.iconst 1, 1) := dk_4 (dk_at dksX1_middle_3 0 rfl rfl)
theorem dX1_middle_71 : decode cX1_middle 71 = .ok (.iadd, 1) := dk_96 (dk_at dksX1_middle_3 1 rfl rfl)
theorem dX1_middle_72 : decode cX1_middle 72 = .ok (.invokestatic 147, 3) := dk_184 0 147 (dk_at dksX1_middle_3 2 rfl rfl)
theorem dX1_middle_75 : decode cX1_middle 75 = .ok (.invokevirtual 278, 3) := dk_182 1 22 (dk_at dksX1_middle_3 5 rfl rfl)
theorem dX1_middle_78 : decode cX1_middle 78 = .ok (.checkcast 141, 3) := dk_192 0 141 (dk_at dksX1_middle_3 8 rfl rfl)
theorem dX1_middle_81 : decode cX1_middle 81 = .ok (.astore 4, 2) := dk_58 4 (dk_at dksX1_middle_3 11 rfl rfl)
theorem dX1_middle_83 : decode cX1_middle 83 = .ok (.goto (-67), 3) := dk_167 255 189 (dk_at dksX1_middle_3 13 rfl rfl)
theorem dX1_middle_86 : decode cX1_middle 86 = .ok (.aload_n 0, 1) := dk_42 (dk_at dksX1_middle_3 16 rfl rfl)
theorem dX1_middle_87 : decode cX1_middle 87 = .ok (.getfield 34, 3) := dk_180 0 34 (dk_at dksX1_middle_3 17 rfl rfl)
theorem dX1_middle_90 : decode cX1_middle 90 = .ok (.invokevirtual 198, 3) := dk_182 0 198 (dk_at dksX1_middle_3 20 rfl rfl)
theorem dX1_middle_93 : decode cX1_middle 93 = .ok (.iconst 1, 1) := dk_4 (dk_at dksX1_middle_3 23 rfl rfl)
theorem dX1_middle_94 : decode cX1_middle 94 = .ok (.isub, 1) := dk_100 (dk_at dksX1_middle_4 0 rfl rfl)
theorem dX1_middle_95 : decode cX1_middle 95 = .ok (.iconst 2, 1) := dk_5 (dk_at dksX1_middle_4 1 rfl rfl)
theorem dX1_middle_96 : decode cX1_middle 96 = .ok (.idiv, 1) := dk_108 (dk_at dksX1_middle_4 2 rfl rfl)
theorem dX1_middle_97 : decode cX1_middle 97 = .ok (.istore_n 2, 1) := dk_61 (dk_at dksX1_middle_4 3 rfl rfl)
theorem dX1_middle_98 : decode cX1_middle 98 = .ok (.aload_n 1, 1) := dk_43 (dk_at dksX1_middle_4 4 rfl rfl)
theorem dX1_middle_99 : decode cX1_middle 99 = .ok (.invokevirtual 282, 3) := dk_182 1 26 (dk_at dksX1_middle_4 5 rfl rfl)
theorem dX1_middle_102 : decode cX1_middle 102 = .ok (.invokeinterface 286 1, 5) := by decide +kernel
theorem dX1_middle_107 : decode cX1_middle 107 = .ok (.checkcast 141, 3) := dk_192 0 141 (dk_at dksX1_middle_4 13 rfl rfl)
theorem dX1_middle_110 : decode cX1_middle 110 = .ok (.invokevirtual 143, 3) := dk_182 0 143 (dk_at dksX1_middle_4 16 rfl rfl)
theorem dX1_middle_113 : decode cX1_middle 113 = .ok (.iload_n 2, 1) := dk_28 (dk_at dksX1_middle_4 19 rfl rfl)
theorem dX1_middle_114 : decode cX1_middle 114 = .ok (.if_icmp .gt 24, 3) := dk_163 0 24 (dk_at dksX1_middle_4 20 rfl rfl)
theorem dX1_middle_117 : decode cX1_middle 117 = .ok (.iload_n 2, 1) := dk_28 (dk_at dksX1_middle_4 23 rfl rfl)
theorem dX1_middle_118 : decode cX1_middle 118 = .ok (.aload_n 1, 1) := dk_43 (dk_at dksX1_middle_5 0 rfl rfl)
theorem dX1_middle_119 : decode cX1_middle 119 = .ok (.invokevirtual 291, 3) := dk_182 1 35 (dk_at dksX1_middle_5 1 rfl rfl)
theorem dX1_middle_122 : decode cX1_middle 122 = .ok (.invokeinterface 286 1, 5) := by decide +kernel
theorem dX1_middle_127 : decode cX1_middle 127 = .ok (.checkcast 141, 3) := dk_192 0 141 (dk_at dksX1_middle_5 9 rfl rfl)
theorem dX1_middle_130 : decode cX1_middle 130 = .ok (.invokevirtual 143, 3) := dk_182 0 143 (dk_at dksX1_middle_5 12 rfl rfl)
theorem dX1_middle_133 : decode cX1_middle 133 = .ok (.isub, 1) := dk_100 (dk_at dksX1_middle_5 15 rfl rfl)
theorem dX1_middle_134 : decode cX1_middle 134 = .ok (.istore_n 2, 1) := dk_61 (dk_at dksX1_middle_5 16 rfl rfl)
theorem dX1_middle_135 : decode cX1_middle 135 = .ok (.goto (-37), 3) := dk_167 255 219 (dk_at dksX1_middle_5 17 rfl rfl)
theorem dX1_middle_138 : decode cX1_middle 138 = .ok (.aload_n 1, 1) := dk_43 (dk_at dksX1_middle_5 20 rfl rfl)
theorem dX1_middle_139 : decode cX1_middle 139 = .ok (.invokevirtual 294, 3) := dk_182 1 38 (dk_at dksX1_middle_5 21 rfl rfl)
theorem dX1_middle_142 : decode cX1_middle 142 = .ok (.checkcast 141, 3) := dk_192 0 141 (dk_at dksX1_middle_6 0 rfl rfl)
theorem dX1_middle_145 : decode cX1_middle 145 = .ok (.invokevirtual 143, 3) := dk_182 0 143 (dk_at dksX1_middle_6 3 rfl rfl)
theorem dX1_middle_148 : decode cX1_middle 148 = .ok (.ireturn, 1) := dk_172 (dk_at dksX1_middle_6 6 rfl rfl)
abbrev cX1_tell_2 : ByteArray := prog_15_method_7_code
def yX1_tell_2 : MethodName := ⟨RX1, "tell", "(I)V"⟩
def dkwX1_tell_2_0 : List UInt8 := [42, 27, 2, 182, 0, 205, 177]
abbrev dktX1_tell_2_0 : List UInt8 := dkwX1_tell_2_0 ++ []
theorem dksX1_tell_2_0 : cX1_tell_2.data.toList.drop 0 = dktX1_tell_2_0 := by decide +kernel
theorem dX1_tell_2_0 : decode cX1_tell_2 0 = .ok (.aload_n 0, 1) := dk_42 (dk_at dksX1_tell_2_0 0 rfl rfl)
theorem dX1_tell_2_1 : decode cX1_tell_2 1 = .ok (.iload_n 1, 1) := dk_27 (dk_at dksX1_tell_2_0 1 rfl rfl)
theorem dX1_tell_2_2 : decode cX1_tell_2 2 = .ok (.iconst (-1), 1) := dk_2 (dk_at dksX1_tell_2_0 2 rfl rfl)
theorem dX1_tell_2_3 : decode cX1_tell_2 3 = .ok (.invokevirtual 205, 3) := dk_182 0 205 (dk_at dksX1_tell_2_0 3 rfl rfl)
theorem dX1_tell_2_6 : decode cX1_tell_2 6 = .ok (.return_, 1) := dk_177 (dk_at dksX1_tell_2_0 6 rfl rfl)
abbrev cX1_trip : ByteArray := prog_15_method_22_code
def yX1_trip : MethodName := ⟨RX1, "trip", "()V"⟩
def dkwX1_trip_3 : List UInt8 := [4, 96, 181, 0, 178, 42, 7, 182, 1, 44, 177]
abbrev dktX1_trip_3 : List UInt8 := dkwX1_trip_3 ++ []
def dkwX1_trip_2 : List UInt8 := [182, 0, 205, 132, 1, 1, 167, 255, 205, 42, 2, 181, 0, 83, 42, 4, 181, 0, 181, 42, 89, 180, 0, 178]
abbrev dktX1_trip_2 : List UInt8 := dkwX1_trip_2 ++ dktX1_trip_3
def dkwX1_trip_1 : List UInt8 := [182, 0, 218, 153, 0, 23, 42, 180, 0, 17, 27, 182, 0, 226, 192, 0, 117, 182, 1, 7, 42, 4, 27]
abbrev dktX1_trip_1 : List UInt8 := dkwX1_trip_1 ++ dktX1_trip_2
def dkwX1_trip_0 : List UInt8 := [3, 60, 27, 42, 180, 0, 17, 182, 0, 198, 162, 0, 46, 42, 180, 0, 17, 27, 182, 0, 226, 192, 0, 117]
abbrev dktX1_trip_0 : List UInt8 := dkwX1_trip_0 ++ dktX1_trip_1
theorem dksX1_trip_0 : cX1_trip.data.toList.drop 0 = dktX1_trip_0 := by decide +kernel
theorem dksX1_trip_1 : cX1_trip.data.toList.drop 24 = dktX1_trip_1 := dk_seg dksX1_trip_0 24 rfl rfl
theorem dksX1_trip_2 : cX1_trip.data.toList.drop 47 = dktX1_trip_2 := dk_seg dksX1_trip_1 23 rfl rfl
theorem dksX1_trip_3 : cX1_trip.data.toList.drop 71 = dktX1_trip_3 := dk_seg dksX1_trip_2 24 rfl rfl
theorem dX1_trip_0 : decode cX1_trip 0 = .ok (.iconst 0, 1) := dk_3 (dk_at dksX1_trip_0 0 rfl rfl)
theorem dX1_trip_1 : decode cX1_trip 1 = .ok (.istore_n 1, 1) := dk_60 (dk_at dksX1_trip_0 1 rfl rfl)
theorem dX1_trip_2 : decode cX1_trip 2 = .ok (.iload_n 1, 1) := dk_27 (dk_at dksX1_trip_0 2 rfl rfl)
theorem dX1_trip_3 : decode cX1_trip 3 = .ok (.aload_n 0, 1) := dk_42 (dk_at dksX1_trip_0 3 rfl rfl)
theorem dX1_trip_4 : decode cX1_trip 4 = .ok (.getfield 17, 3) := dk_180 0 17 (dk_at dksX1_trip_0 4 rfl rfl)
theorem dX1_trip_7 : decode cX1_trip 7 = .ok (.invokevirtual 198, 3) := dk_182 0 198 (dk_at dksX1_trip_0 7 rfl rfl)
theorem dX1_trip_10 : decode cX1_trip 10 = .ok (.if_icmp .ge 46, 3) := dk_162 0 46 (dk_at dksX1_trip_0 10 rfl rfl)
theorem dX1_trip_13 : decode cX1_trip 13 = .ok (.aload_n 0, 1) := dk_42 (dk_at dksX1_trip_0 13 rfl rfl)
theorem dX1_trip_14 : decode cX1_trip 14 = .ok (.getfield 17, 3) := dk_180 0 17 (dk_at dksX1_trip_0 14 rfl rfl)
theorem dX1_trip_17 : decode cX1_trip 17 = .ok (.iload_n 1, 1) := dk_27 (dk_at dksX1_trip_0 17 rfl rfl)
theorem dX1_trip_18 : decode cX1_trip 18 = .ok (.invokevirtual 226, 3) := dk_182 0 226 (dk_at dksX1_trip_0 18 rfl rfl)
theorem dX1_trip_21 : decode cX1_trip 21 = .ok (.checkcast 117, 3) := dk_192 0 117 (dk_at dksX1_trip_0 21 rfl rfl)
theorem dX1_trip_24 : decode cX1_trip 24 = .ok (.invokevirtual 218, 3) := dk_182 0 218 (dk_at dksX1_trip_1 0 rfl rfl)
theorem dX1_trip_27 : decode cX1_trip 27 = .ok (.ifCond .eq 23, 3) := dk_153 0 23 (dk_at dksX1_trip_1 3 rfl rfl)
theorem dX1_trip_30 : decode cX1_trip 30 = .ok (.aload_n 0, 1) := dk_42 (dk_at dksX1_trip_1 6 rfl rfl)
theorem dX1_trip_31 : decode cX1_trip 31 = .ok (.getfield 17, 3) := dk_180 0 17 (dk_at dksX1_trip_1 7 rfl rfl)
theorem dX1_trip_34 : decode cX1_trip 34 = .ok (.iload_n 1, 1) := dk_27 (dk_at dksX1_trip_1 10 rfl rfl)
theorem dX1_trip_35 : decode cX1_trip 35 = .ok (.invokevirtual 226, 3) := dk_182 0 226 (dk_at dksX1_trip_1 11 rfl rfl)
theorem dX1_trip_38 : decode cX1_trip 38 = .ok (.checkcast 117, 3) := dk_192 0 117 (dk_at dksX1_trip_1 14 rfl rfl)
theorem dX1_trip_41 : decode cX1_trip 41 = .ok (.invokevirtual 263, 3) := dk_182 1 7 (dk_at dksX1_trip_1 17 rfl rfl)
theorem dX1_trip_44 : decode cX1_trip 44 = .ok (.aload_n 0, 1) := dk_42 (dk_at dksX1_trip_1 20 rfl rfl)
theorem dX1_trip_45 : decode cX1_trip 45 = .ok (.iconst 1, 1) := dk_4 (dk_at dksX1_trip_1 21 rfl rfl)
theorem dX1_trip_46 : decode cX1_trip 46 = .ok (.iload_n 1, 1) := dk_27 (dk_at dksX1_trip_1 22 rfl rfl)
theorem dX1_trip_47 : decode cX1_trip 47 = .ok (.invokevirtual 205, 3) := dk_182 0 205 (dk_at dksX1_trip_2 0 rfl rfl)
theorem dX1_trip_50 : decode cX1_trip 50 = .ok (.iinc 1 1, 3) := dk_132 1 1 (dk_at dksX1_trip_2 3 rfl rfl)
theorem dX1_trip_53 : decode cX1_trip 53 = .ok (.goto (-51), 3) := dk_167 255 205 (dk_at dksX1_trip_2 6 rfl rfl)
theorem dX1_trip_56 : decode cX1_trip 56 = .ok (.aload_n 0, 1) := dk_42 (dk_at dksX1_trip_2 9 rfl rfl)
theorem dX1_trip_57 : decode cX1_trip 57 = .ok (.iconst (-1), 1) := dk_2 (dk_at dksX1_trip_2 10 rfl rfl)
theorem dX1_trip_58 : decode cX1_trip 58 = .ok (.putfield 83, 3) := dk_181 0 83 (dk_at dksX1_trip_2 11 rfl rfl)
theorem dX1_trip_61 : decode cX1_trip 61 = .ok (.aload_n 0, 1) := dk_42 (dk_at dksX1_trip_2 14 rfl rfl)
theorem dX1_trip_62 : decode cX1_trip 62 = .ok (.iconst 1, 1) := dk_4 (dk_at dksX1_trip_2 15 rfl rfl)
theorem dX1_trip_63 : decode cX1_trip 63 = .ok (.putfield 181, 3) := dk_181 0 181 (dk_at dksX1_trip_2 16 rfl rfl)
theorem dX1_trip_66 : decode cX1_trip 66 = .ok (.aload_n 0, 1) := dk_42 (dk_at dksX1_trip_2 19 rfl rfl)
theorem dX1_trip_67 : decode cX1_trip 67 = .ok (.dup, 1) := dk_89 (dk_at dksX1_trip_2 20 rfl rfl)
theorem dX1_trip_68 : decode cX1_trip 68 = .ok (.getfield 178, 3) := dk_180 0 178 (dk_at dksX1_trip_2 21 rfl rfl)
theorem dX1_trip_71 : decode cX1_trip 71 = .ok (.iconst 1, 1) := dk_4 (dk_at dksX1_trip_3 0 rfl rfl)
theorem dX1_trip_72 : decode cX1_trip 72 = .ok (.iadd, 1) := dk_96 (dk_at dksX1_trip_3 1 rfl rfl)
theorem dX1_trip_73 : decode cX1_trip 73 = .ok (.putfield 178, 3) := dk_181 0 178 (dk_at dksX1_trip_3 2 rfl rfl)
theorem dX1_trip_76 : decode cX1_trip 76 = .ok (.aload_n 0, 1) := dk_42 (dk_at dksX1_trip_3 5 rfl rfl)
theorem dX1_trip_77 : decode cX1_trip 77 = .ok (.iconst 4, 1) := dk_7 (dk_at dksX1_trip_3 6 rfl rfl)
theorem dX1_trip_78 : decode cX1_trip 78 = .ok (.invokevirtual 300, 3) := dk_182 1 44 (dk_at dksX1_trip_3 7 rfl rfl)
theorem dX1_trip_81 : decode cX1_trip 81 = .ok (.return_, 1) := dk_177 (dk_at dksX1_trip_3 10 rfl rfl)
abbrev cX1_canGoOn : ByteArray := prog_15_method_23_code
def yX1_canGoOn : MethodName := ⟨RX1, "canGoOn", "()Z"⟩
def dkwX1_canGoOn_1 : List UInt8 := [167, 0, 4, 3, 172]
abbrev dktX1_canGoOn_1 : List UInt8 := dkwX1_canGoOn_1 ++ []
def dkwX1_canGoOn_0 : List UInt8 := [42, 180, 0, 181, 153, 0, 21, 42, 180, 0, 87, 42, 180, 0, 96, 16, 12, 46, 161, 0, 7, 4]
abbrev dktX1_canGoOn_0 : List UInt8 := dkwX1_canGoOn_0 ++ dktX1_canGoOn_1
theorem dksX1_canGoOn_0 : cX1_canGoOn.data.toList.drop 0 = dktX1_canGoOn_0 := by decide +kernel
theorem dksX1_canGoOn_1 : cX1_canGoOn.data.toList.drop 22 = dktX1_canGoOn_1 := dk_seg dksX1_canGoOn_0 22 rfl rfl
theorem dX1_canGoOn_0 : decode cX1_canGoOn 0 = .ok (.aload_n 0, 1) := dk_42 (dk_at dksX1_canGoOn_0 0 rfl rfl)
theorem dX1_canGoOn_1 : decode cX1_canGoOn 1 = .ok (.getfield 181, 3) := dk_180 0 181 (dk_at dksX1_canGoOn_0 1 rfl rfl)
theorem dX1_canGoOn_4 : decode cX1_canGoOn 4 = .ok (.ifCond .eq 21, 3) := dk_153 0 21 (dk_at dksX1_canGoOn_0 4 rfl rfl)
theorem dX1_canGoOn_7 : decode cX1_canGoOn 7 = .ok (.aload_n 0, 1) := dk_42 (dk_at dksX1_canGoOn_0 7 rfl rfl)
theorem dX1_canGoOn_8 : decode cX1_canGoOn 8 = .ok (.getfield 87, 3) := dk_180 0 87 (dk_at dksX1_canGoOn_0 8 rfl rfl)
theorem dX1_canGoOn_11 : decode cX1_canGoOn 11 = .ok (.aload_n 0, 1) := dk_42 (dk_at dksX1_canGoOn_0 11 rfl rfl)
theorem dX1_canGoOn_12 : decode cX1_canGoOn 12 = .ok (.getfield 96, 3) := dk_180 0 96 (dk_at dksX1_canGoOn_0 12 rfl rfl)
theorem dX1_canGoOn_15 : decode cX1_canGoOn 15 = .ok (.bipush 12, 2) := dk_16 12 (dk_at dksX1_canGoOn_0 15 rfl rfl)
theorem dX1_canGoOn_17 : decode cX1_canGoOn 17 = .ok (.iaload, 1) := dk_46 (dk_at dksX1_canGoOn_0 17 rfl rfl)
theorem dX1_canGoOn_18 : decode cX1_canGoOn 18 = .ok (.if_icmp .lt 7, 3) := dk_161 0 7 (dk_at dksX1_canGoOn_0 18 rfl rfl)
theorem dX1_canGoOn_21 : decode cX1_canGoOn 21 = .ok (.iconst 1, 1) := dk_4 (dk_at dksX1_canGoOn_0 21 rfl rfl)
theorem dX1_canGoOn_22 : decode cX1_canGoOn 22 = .ok (.goto 4, 3) := dk_167 0 4 (dk_at dksX1_canGoOn_1 0 rfl rfl)
theorem dX1_canGoOn_25 : decode cX1_canGoOn 25 = .ok (.iconst 0, 1) := dk_3 (dk_at dksX1_canGoOn_1 3 rfl rfl)
theorem dX1_canGoOn_26 : decode cX1_canGoOn 26 = .ok (.ireturn, 1) := dk_172 (dk_at dksX1_canGoOn_1 4 rfl rfl)
abbrev cX1_goOn : ByteArray := prog_15_method_24_code
def yX1_goOn : MethodName := ⟨RX1, "goOn", "()V"⟩
def dkwX1_goOn_0 : List UInt8 := [42, 3, 181, 0, 181, 42, 8, 182, 1, 44, 177]
abbrev dktX1_goOn_0 : List UInt8 := dkwX1_goOn_0 ++ []
theorem dksX1_goOn_0 : cX1_goOn.data.toList.drop 0 = dktX1_goOn_0 := by decide +kernel
theorem dX1_goOn_0 : decode cX1_goOn 0 = .ok (.aload_n 0, 1) := dk_42 (dk_at dksX1_goOn_0 0 rfl rfl)
theorem dX1_goOn_1 : decode cX1_goOn 1 = .ok (.iconst 0, 1) := dk_3 (dk_at dksX1_goOn_0 1 rfl rfl)
theorem dX1_goOn_2 : decode cX1_goOn 2 = .ok (.putfield 181, 3) := dk_181 0 181 (dk_at dksX1_goOn_0 2 rfl rfl)
theorem dX1_goOn_5 : decode cX1_goOn 5 = .ok (.aload_n 0, 1) := dk_42 (dk_at dksX1_goOn_0 5 rfl rfl)
theorem dX1_goOn_6 : decode cX1_goOn 6 = .ok (.iconst 5, 1) := dk_8 (dk_at dksX1_goOn_0 6 rfl rfl)
theorem dX1_goOn_7 : decode cX1_goOn 7 = .ok (.invokevirtual 300, 3) := dk_182 1 44 (dk_at dksX1_goOn_0 7 rfl rfl)
theorem dX1_goOn_10 : decode cX1_goOn 10 = .ok (.return_, 1) := dk_177 (dk_at dksX1_goOn_0 10 rfl rfl)
abbrev cX1_forget : ByteArray := prog_15_method_26_code
def yX1_forget : MethodName := ⟨RX1, "forget", "()V"⟩
def dkwX1_forget_1 : List UInt8 := [177]
abbrev dktX1_forget_1 : List UInt8 := dkwX1_forget_1 ++ []
def dkwX1_forget_0 : List UInt8 := [3, 60, 27, 42, 180, 0, 50, 190, 162, 0, 16, 42, 180, 0, 50, 27, 3, 79, 132, 1, 1, 167, 255, 237]
abbrev dktX1_forget_0 : List UInt8 := dkwX1_forget_0 ++ dktX1_forget_1
theorem dksX1_forget_0 : cX1_forget.data.toList.drop 0 = dktX1_forget_0 := by decide +kernel
theorem dksX1_forget_1 : cX1_forget.data.toList.drop 24 = dktX1_forget_1 := dk_seg dksX1_forget_0 24 rfl rfl
theorem dX1_forget_0 : decode cX1_forget 0 = .ok (.iconst 0, 1) := dk_3 (dk_at dksX1_forget_0 0 rfl rfl)
theorem dX1_forget_1 : decode cX1_forget 1 = .ok (.istore_n 1, 1) := dk_60 (dk_at dksX1_forget_0 1 rfl rfl)
theorem dX1_forget_2 : decode cX1_forget 2 = .ok (.iload_n 1, 1) := dk_27 (dk_at dksX1_forget_0 2 rfl rfl)
theorem dX1_forget_3 : decode cX1_forget 3 = .ok (.aload_n 0, 1) := dk_42 (dk_at dksX1_forget_0 3 rfl rfl)
theorem dX1_forget_4 : decode cX1_forget 4 = .ok (.getfield 50, 3) := dk_180 0 50 (dk_at dksX1_forget_0 4 rfl rfl)
theorem dX1_forget_7 : decode cX1_forget 7 = .ok (.arraylength, 1) := dk_190 (dk_at dksX1_forget_0 7 rfl rfl)
theorem dX1_forget_8 : decode cX1_forget 8 = .ok (.if_icmp .ge 16, 3) := dk_162 0 16 (dk_at dksX1_forget_0 8 rfl rfl)
theorem dX1_forget_11 : decode cX1_forget 11 = .ok (.aload_n 0, 1) := dk_42 (dk_at dksX1_forget_0 11 rfl rfl)
theorem dX1_forget_12 : decode cX1_forget 12 = .ok (.getfield 50, 3) := dk_180 0 50 (dk_at dksX1_forget_0 12 rfl rfl)
theorem dX1_forget_15 : decode cX1_forget 15 = .ok (.iload_n 1, 1) := dk_27 (dk_at dksX1_forget_0 15 rfl rfl)
theorem dX1_forget_16 : decode cX1_forget 16 = .ok (.iconst 0, 1) := dk_3 (dk_at dksX1_forget_0 16 rfl rfl)
theorem dX1_forget_17 : decode cX1_forget 17 = .ok (.iastore, 1) := dk_79 (dk_at dksX1_forget_0 17 rfl rfl)
theorem dX1_forget_18 : decode cX1_forget 18 = .ok (.iinc 1 1, 3) := dk_132 1 1 (dk_at dksX1_forget_0 18 rfl rfl)
theorem dX1_forget_21 : decode cX1_forget 21 = .ok (.goto (-19), 3) := dk_167 255 237 (dk_at dksX1_forget_0 21 rfl rfl)
theorem dX1_forget_24 : decode cX1_forget 24 = .ok (.return_, 1) := dk_177 (dk_at dksX1_forget_1 0 rfl rfl)
abbrev cX1_control : ByteArray := prog_15_method_31_code
def yX1_control : MethodName := ⟨RX1, "control", "()V"⟩
def dkwX1_control_4 : List UInt8 := [182, 1, 86, 42, 182, 1, 89, 177]
abbrev dktX1_control_4 : List UInt8 := dkwX1_control_4 ++ []
def dkwX1_control_3 : List UInt8 := [42, 6, 182, 1, 44, 42, 182, 0, 237, 154, 0, 10, 42, 182, 1, 80, 167, 0, 7, 42, 182, 1, 83, 42]
abbrev dktX1_control_3 : List UInt8 := dkwX1_control_3 ++ dktX1_control_4
def dkwX1_control_2 : List UInt8 := [162, 0, 29, 42, 182, 1, 68, 153, 0, 22, 42, 42, 182, 1, 71, 182, 1, 75, 192, 0, 117, 182, 1, 78]
abbrev dktX1_control_2 : List UInt8 := dkwX1_control_2 ++ dktX1_control_3
def dkwX1_control_1 : List UInt8 := [182, 1, 65, 42, 182, 0, 237, 154, 0, 44, 42, 182, 1, 59, 42, 180, 0, 96, 16, 9, 46, 116]
abbrev dktX1_control_1 : List UInt8 := dkwX1_control_1 ++ dktX1_control_2
def dkwX1_control_0 : List UInt8 := [42, 180, 0, 83, 2, 159, 0, 21, 42, 42, 180, 0, 17, 42, 180, 0, 83, 182, 0, 226, 192, 0, 117]
abbrev dktX1_control_0 : List UInt8 := dkwX1_control_0 ++ dktX1_control_1
theorem dksX1_control_0 : cX1_control.data.toList.drop 0 = dktX1_control_0 := by decide +kernel
theorem dksX1_control_1 : cX1_control.data.toList.drop 23 = dktX1_control_1 := dk_seg dksX1_control_0 23 rfl rfl
theorem dksX1_control_2 : cX1_control.data.toList.drop 45 = dktX1_control_2 := dk_seg dksX1_control_1 22 rfl rfl
theorem dksX1_control_3 : cX1_control.data.toList.drop 69 = dktX1_control_3 := dk_seg dksX1_control_2 24 rfl rfl
theorem dksX1_control_4 : cX1_control.data.toList.drop 93 = dktX1_control_4 := dk_seg dksX1_control_3 24 rfl rfl
theorem dX1_control_0 : decode cX1_control 0 = .ok (.aload_n 0, 1) := dk_42 (dk_at dksX1_control_0 0 rfl rfl)
theorem dX1_control_1 : decode cX1_control 1 = .ok (.getfield 83, 3) := dk_180 0 83 (dk_at dksX1_control_0 1 rfl rfl)
theorem dX1_control_4 : decode cX1_control 4 = .ok (.iconst (-1), 1) := dk_2 (dk_at dksX1_control_0 4 rfl rfl)
theorem dX1_control_5 : decode cX1_control 5 = .ok (.if_icmp .eq 21, 3) := dk_159 0 21 (dk_at dksX1_control_0 5 rfl rfl)
theorem dX1_control_8 : decode cX1_control 8 = .ok (.aload_n 0, 1) := dk_42 (dk_at dksX1_control_0 8 rfl rfl)
theorem dX1_control_9 : decode cX1_control 9 = .ok (.aload_n 0, 1) := dk_42 (dk_at dksX1_control_0 9 rfl rfl)
theorem dX1_control_10 : decode cX1_control 10 = .ok (.getfield 17, 3) := dk_180 0 17 (dk_at dksX1_control_0 10 rfl rfl)
theorem dX1_control_13 : decode cX1_control 13 = .ok (.aload_n 0, 1) := dk_42 (dk_at dksX1_control_0 13 rfl rfl)
theorem dX1_control_14 : decode cX1_control 14 = .ok (.getfield 83, 3) := dk_180 0 83 (dk_at dksX1_control_0 14 rfl rfl)
theorem dX1_control_17 : decode cX1_control 17 = .ok (.invokevirtual 226, 3) := dk_182 0 226 (dk_at dksX1_control_0 17 rfl rfl)
theorem dX1_control_20 : decode cX1_control 20 = .ok (.checkcast 117, 3) := dk_192 0 117 (dk_at dksX1_control_0 20 rfl rfl)
theorem dX1_control_23 : decode cX1_control 23 = .ok (.invokevirtual 321, 3) := dk_182 1 65 (dk_at dksX1_control_1 0 rfl rfl)
theorem dX1_control_26 : decode cX1_control 26 = .ok (.aload_n 0, 1) := dk_42 (dk_at dksX1_control_1 3 rfl rfl)
theorem dX1_control_27 : decode cX1_control 27 = .ok (.invokevirtual 237, 3) := dk_182 0 237 (dk_at dksX1_control_1 4 rfl rfl)
theorem dX1_control_30 : decode cX1_control 30 = .ok (.ifCond .ne 44, 3) := dk_154 0 44 (dk_at dksX1_control_1 7 rfl rfl)
theorem dX1_control_33 : decode cX1_control 33 = .ok (.aload_n 0, 1) := dk_42 (dk_at dksX1_control_1 10 rfl rfl)
theorem dX1_control_34 : decode cX1_control 34 = .ok (.invokevirtual 315, 3) := dk_182 1 59 (dk_at dksX1_control_1 11 rfl rfl)
theorem dX1_control_37 : decode cX1_control 37 = .ok (.aload_n 0, 1) := dk_42 (dk_at dksX1_control_1 14 rfl rfl)
theorem dX1_control_38 : decode cX1_control 38 = .ok (.getfield 96, 3) := dk_180 0 96 (dk_at dksX1_control_1 15 rfl rfl)
theorem dX1_control_41 : decode cX1_control 41 = .ok (.bipush 9, 2) := dk_16 9 (dk_at dksX1_control_1 18 rfl rfl)
theorem dX1_control_43 : decode cX1_control 43 = .ok (.iaload, 1) := dk_46 (dk_at dksX1_control_1 20 rfl rfl)
theorem dX1_control_44 : decode cX1_control 44 = .ok (.ineg, 1) := dk_116 (dk_at dksX1_control_1 21 rfl rfl)
theorem dX1_control_45 : decode cX1_control 45 = .ok (.if_icmp .ge 29, 3) := dk_162 0 29 (dk_at dksX1_control_2 0 rfl rfl)
theorem dX1_control_48 : decode cX1_control 48 = .ok (.aload_n 0, 1) := dk_42 (dk_at dksX1_control_2 3 rfl rfl)
theorem dX1_control_49 : decode cX1_control 49 = .ok (.invokevirtual 324, 3) := dk_182 1 68 (dk_at dksX1_control_2 4 rfl rfl)
theorem dX1_control_52 : decode cX1_control 52 = .ok (.ifCond .eq 22, 3) := dk_153 0 22 (dk_at dksX1_control_2 7 rfl rfl)
theorem dX1_control_55 : decode cX1_control 55 = .ok (.aload_n 0, 1) := dk_42 (dk_at dksX1_control_2 10 rfl rfl)
theorem dX1_control_56 : decode cX1_control 56 = .ok (.aload_n 0, 1) := dk_42 (dk_at dksX1_control_2 11 rfl rfl)
theorem dX1_control_57 : decode cX1_control 57 = .ok (.invokevirtual 327, 3) := dk_182 1 71 (dk_at dksX1_control_2 12 rfl rfl)
theorem dX1_control_60 : decode cX1_control 60 = .ok (.invokevirtual 331, 3) := dk_182 1 75 (dk_at dksX1_control_2 15 rfl rfl)
theorem dX1_control_63 : decode cX1_control 63 = .ok (.checkcast 117, 3) := dk_192 0 117 (dk_at dksX1_control_2 18 rfl rfl)
theorem dX1_control_66 : decode cX1_control 66 = .ok (.invokevirtual 334, 3) := dk_182 1 78 (dk_at dksX1_control_2 21 rfl rfl)
theorem dX1_control_69 : decode cX1_control 69 = .ok (.aload_n 0, 1) := dk_42 (dk_at dksX1_control_3 0 rfl rfl)
theorem dX1_control_70 : decode cX1_control 70 = .ok (.iconst 3, 1) := dk_6 (dk_at dksX1_control_3 1 rfl rfl)
theorem dX1_control_71 : decode cX1_control 71 = .ok (.invokevirtual 300, 3) := dk_182 1 44 (dk_at dksX1_control_3 2 rfl rfl)
theorem dX1_control_74 : decode cX1_control 74 = .ok (.aload_n 0, 1) := dk_42 (dk_at dksX1_control_3 5 rfl rfl)
theorem dX1_control_75 : decode cX1_control 75 = .ok (.invokevirtual 237, 3) := dk_182 0 237 (dk_at dksX1_control_3 6 rfl rfl)
theorem dX1_control_78 : decode cX1_control 78 = .ok (.ifCond .ne 10, 3) := dk_154 0 10 (dk_at dksX1_control_3 9 rfl rfl)
theorem dX1_control_81 : decode cX1_control 81 = .ok (.aload_n 0, 1) := dk_42 (dk_at dksX1_control_3 12 rfl rfl)
theorem dX1_control_82 : decode cX1_control 82 = .ok (.invokevirtual 336, 3) := dk_182 1 80 (dk_at dksX1_control_3 13 rfl rfl)
theorem dX1_control_85 : decode cX1_control 85 = .ok (.goto 7, 3) := dk_167 0 7 (dk_at dksX1_control_3 16 rfl rfl)
theorem dX1_control_88 : decode cX1_control 88 = .ok (.aload_n 0, 1) := dk_42 (dk_at dksX1_control_3 19 rfl rfl)
theorem dX1_control_89 : decode cX1_control 89 = .ok (.invokevirtual 339, 3) := dk_182 1 83 (dk_at dksX1_control_3 20 rfl rfl)
theorem dX1_control_92 : decode cX1_control 92 = .ok (.aload_n 0, 1) := dk_42 (dk_at dksX1_control_3 23 rfl rfl)
theorem dX1_control_93 : decode cX1_control 93 = .ok (.invokevirtual 342, 3) := dk_182 1 86 (dk_at dksX1_control_4 0 rfl rfl)
theorem dX1_control_96 : decode cX1_control 96 = .ok (.aload_n 0, 1) := dk_42 (dk_at dksX1_control_4 3 rfl rfl)
theorem dX1_control_97 : decode cX1_control 97 = .ok (.invokevirtual 345, 3) := dk_182 1 89 (dk_at dksX1_control_4 4 rfl rfl)
theorem dX1_control_100 : decode cX1_control 100 = .ok (.return_, 1) := dk_177 (dk_at dksX1_control_4 7 rfl rfl)
abbrev cX1_regulate : ByteArray := prog_15_method_30_code
def yX1_regulate : MethodName := ⟨RX1, "regulate", "(LFieldPumps$Pump;)V"⟩
def dkwX1_regulate_2 : List UInt8 := [180, 0, 221, 29, 96, 184, 0, 212, 184, 1, 62, 181, 0, 221, 177]
abbrev dktX1_regulate_2 : List UInt8 := dkwX1_regulate_2 ++ []
def dkwX1_regulate_1 : List UInt8 := [180, 0, 96, 6, 46, 28, 184, 0, 212, 184, 1, 62, 62, 43, 42, 180, 0, 96, 7, 46, 17, 3, 232, 43]
abbrev dktX1_regulate_1 : List UInt8 := dkwX1_regulate_1 ++ dktX1_regulate_2
def dkwX1_regulate_0 : List UInt8 := [42, 182, 1, 59, 116, 42, 180, 0, 96, 5, 46, 104, 16, 100, 108, 61, 42, 180, 0, 96, 6, 46, 116, 42]
abbrev dktX1_regulate_0 : List UInt8 := dkwX1_regulate_0 ++ dktX1_regulate_1
theorem dksX1_regulate_0 : cX1_regulate.data.toList.drop 0 = dktX1_regulate_0 := by decide +kernel
theorem dksX1_regulate_1 : cX1_regulate.data.toList.drop 24 = dktX1_regulate_1 := dk_seg dksX1_regulate_0 24 rfl rfl
theorem dksX1_regulate_2 : cX1_regulate.data.toList.drop 48 = dktX1_regulate_2 := dk_seg dksX1_regulate_1 24 rfl rfl
theorem dX1_regulate_0 : decode cX1_regulate 0 = .ok (.aload_n 0, 1) := dk_42 (dk_at dksX1_regulate_0 0 rfl rfl)
theorem dX1_regulate_1 : decode cX1_regulate 1 = .ok (.invokevirtual 315, 3) := dk_182 1 59 (dk_at dksX1_regulate_0 1 rfl rfl)
theorem dX1_regulate_4 : decode cX1_regulate 4 = .ok (.ineg, 1) := dk_116 (dk_at dksX1_regulate_0 4 rfl rfl)
theorem dX1_regulate_5 : decode cX1_regulate 5 = .ok (.aload_n 0, 1) := dk_42 (dk_at dksX1_regulate_0 5 rfl rfl)
theorem dX1_regulate_6 : decode cX1_regulate 6 = .ok (.getfield 96, 3) := dk_180 0 96 (dk_at dksX1_regulate_0 6 rfl rfl)
theorem dX1_regulate_9 : decode cX1_regulate 9 = .ok (.iconst 2, 1) := dk_5 (dk_at dksX1_regulate_0 9 rfl rfl)
theorem dX1_regulate_10 : decode cX1_regulate 10 = .ok (.iaload, 1) := dk_46 (dk_at dksX1_regulate_0 10 rfl rfl)
theorem dX1_regulate_11 : decode cX1_regulate 11 = .ok (.imul, 1) := dk_104 (dk_at dksX1_regulate_0 11 rfl rfl)
theorem dX1_regulate_12 : decode cX1_regulate 12 = .ok (.bipush 100, 2) := dk_16 100 (dk_at dksX1_regulate_0 12 rfl rfl)
theorem dX1_regulate_14 : decode cX1_regulate 14 = .ok (.idiv, 1) := dk_108 (dk_at dksX1_regulate_0 14 rfl rfl)
theorem dX1_regulate_15 : decode cX1_regulate 15 = .ok (.istore_n 2, 1) := dk_61 (dk_at dksX1_regulate_0 15 rfl rfl)
theorem dX1_regulate_16 : decode cX1_regulate 16 = .ok (.aload_n 0, 1) := dk_42 (dk_at dksX1_regulate_0 16 rfl rfl)
theorem dX1_regulate_17 : decode cX1_regulate 17 = .ok (.getfield 96, 3) := dk_180 0 96 (dk_at dksX1_regulate_0 17 rfl rfl)
theorem dX1_regulate_20 : decode cX1_regulate 20 = .ok (.iconst 3, 1) := dk_6 (dk_at dksX1_regulate_0 20 rfl rfl)
theorem dX1_regulate_21 : decode cX1_regulate 21 = .ok (.iaload, 1) := dk_46 (dk_at dksX1_regulate_0 21 rfl rfl)
theorem dX1_regulate_22 : decode cX1_regulate 22 = .ok (.ineg, 1) := dk_116 (dk_at dksX1_regulate_0 22 rfl rfl)
theorem dX1_regulate_23 : decode cX1_regulate 23 = .ok (.aload_n 0, 1) := dk_42 (dk_at dksX1_regulate_0 23 rfl rfl)
theorem dX1_regulate_24 : decode cX1_regulate 24 = .ok (.getfield 96, 3) := dk_180 0 96 (dk_at dksX1_regulate_1 0 rfl rfl)
theorem dX1_regulate_27 : decode cX1_regulate 27 = .ok (.iconst 3, 1) := dk_6 (dk_at dksX1_regulate_1 3 rfl rfl)
theorem dX1_regulate_28 : decode cX1_regulate 28 = .ok (.iaload, 1) := dk_46 (dk_at dksX1_regulate_1 4 rfl rfl)
theorem dX1_regulate_29 : decode cX1_regulate 29 = .ok (.iload_n 2, 1) := dk_28 (dk_at dksX1_regulate_1 5 rfl rfl)
theorem dX1_regulate_30 : decode cX1_regulate 30 = .ok (.invokestatic 212, 3) := dk_184 0 212 (dk_at dksX1_regulate_1 6 rfl rfl)
theorem dX1_regulate_33 : decode cX1_regulate 33 = .ok (.invokestatic 318, 3) := dk_184 1 62 (dk_at dksX1_regulate_1 9 rfl rfl)
theorem dX1_regulate_36 : decode cX1_regulate 36 = .ok (.istore_n 3, 1) := dk_62 (dk_at dksX1_regulate_1 12 rfl rfl)
theorem dX1_regulate_37 : decode cX1_regulate 37 = .ok (.aload_n 1, 1) := dk_43 (dk_at dksX1_regulate_1 13 rfl rfl)
theorem dX1_regulate_38 : decode cX1_regulate 38 = .ok (.aload_n 0, 1) := dk_42 (dk_at dksX1_regulate_1 14 rfl rfl)
theorem dX1_regulate_39 : decode cX1_regulate 39 = .ok (.getfield 96, 3) := dk_180 0 96 (dk_at dksX1_regulate_1 15 rfl rfl)
theorem dX1_regulate_42 : decode cX1_regulate 42 = .ok (.iconst 4, 1) := dk_7 (dk_at dksX1_regulate_1 18 rfl rfl)
theorem dX1_regulate_43 : decode cX1_regulate 43 = .ok (.iaload, 1) := dk_46 (dk_at dksX1_regulate_1 19 rfl rfl)
theorem dX1_regulate_44 : decode cX1_regulate 44 = .ok (.sipush 1000, 3) := dk_17 3 232 (dk_at dksX1_regulate_1 20 rfl rfl)
theorem dX1_regulate_47 : decode cX1_regulate 47 = .ok (.aload_n 1, 1) := dk_43 (dk_at dksX1_regulate_1 23 rfl rfl)
theorem dX1_regulate_48 : decode cX1_regulate 48 = .ok (.getfield 221, 3) := dk_180 0 221 (dk_at dksX1_regulate_2 0 rfl rfl)
theorem dX1_regulate_51 : decode cX1_regulate 51 = .ok (.iload_n 3, 1) := dk_29 (dk_at dksX1_regulate_2 3 rfl rfl)
theorem dX1_regulate_52 : decode cX1_regulate 52 = .ok (.iadd, 1) := dk_96 (dk_at dksX1_regulate_2 4 rfl rfl)
theorem dX1_regulate_53 : decode cX1_regulate 53 = .ok (.invokestatic 212, 3) := dk_184 0 212 (dk_at dksX1_regulate_2 5 rfl rfl)
theorem dX1_regulate_56 : decode cX1_regulate 56 = .ok (.invokestatic 318, 3) := dk_184 1 62 (dk_at dksX1_regulate_2 8 rfl rfl)
theorem dX1_regulate_59 : decode cX1_regulate 59 = .ok (.putfield 221, 3) := dk_181 0 221 (dk_at dksX1_regulate_2 11 rfl rfl)
theorem dX1_regulate_62 : decode cX1_regulate 62 = .ok (.return_, 1) := dk_177 (dk_at dksX1_regulate_2 14 rfl rfl)
abbrev cX1_hasReady : ByteArray := prog_15_method_12_code
def yX1_hasReady : MethodName := ⟨RX1, "hasReady", "()Z"⟩
def dkwX1_hasReady_1 : List UInt8 := [192, 0, 117, 182, 0, 234, 128, 60, 132, 2, 1, 167, 255, 225, 27, 172]
abbrev dktX1_hasReady_1 : List UInt8 := dkwX1_hasReady_1 ++ []
def dkwX1_hasReady_0 : List UInt8 := [3, 60, 3, 61, 28, 42, 180, 0, 17, 182, 0, 198, 162, 0, 26, 27, 42, 180, 0, 17, 28, 182, 0, 226]
abbrev dktX1_hasReady_0 : List UInt8 := dkwX1_hasReady_0 ++ dktX1_hasReady_1
theorem dksX1_hasReady_0 : cX1_hasReady.data.toList.drop 0 = dktX1_hasReady_0 := by decide +kernel
theorem dksX1_hasReady_1 : cX1_hasReady.data.toList.drop 24 = dktX1_hasReady_1 := dk_seg dksX1_hasReady_0 24 rfl rfl
theorem dX1_hasReady_0 : decode cX1_hasReady 0 = .ok (.iconst 0, 1) := dk_3 (dk_at dksX1_hasReady_0 0 rfl rfl)
theorem dX1_hasReady_1 : decode cX1_hasReady 1 = .ok (.istore_n 1, 1) := dk_60 (dk_at dksX1_hasReady_0 1 rfl rfl)
theorem dX1_hasReady_2 : decode cX1_hasReady 2 = .ok (.iconst 0, 1) := dk_3 (dk_at dksX1_hasReady_0 2 rfl rfl)
theorem dX1_hasReady_3 : decode cX1_hasReady 3 = .ok (.istore_n 2, 1) := dk_61 (dk_at dksX1_hasReady_0 3 rfl rfl)
theorem dX1_hasReady_4 : decode cX1_hasReady 4 = .ok (.iload_n 2, 1) := dk_28 (dk_at dksX1_hasReady_0 4 rfl rfl)
theorem dX1_hasReady_5 : decode cX1_hasReady 5 = .ok (.aload_n 0, 1) := dk_42 (dk_at dksX1_hasReady_0 5 rfl rfl)
theorem dX1_hasReady_6 : decode cX1_hasReady 6 = .ok (.getfield 17, 3) := dk_180 0 17 (dk_at dksX1_hasReady_0 6 rfl rfl)
theorem dX1_hasReady_9 : decode cX1_hasReady 9 = .ok (.invokevirtual 198, 3) := dk_182 0 198 (dk_at dksX1_hasReady_0 9 rfl rfl)
theorem dX1_hasReady_12 : decode cX1_hasReady 12 = .ok (.if_icmp .ge 26, 3) := dk_162 0 26 (dk_at dksX1_hasReady_0 12 rfl rfl)
theorem dX1_hasReady_15 : decode cX1_hasReady 15 = .ok (.iload_n 1, 1) := dk_27 (dk_at dksX1_hasReady_0 15 rfl rfl)
theorem dX1_hasReady_16 : decode cX1_hasReady 16 = .ok (.aload_n 0, 1) := dk_42 (dk_at dksX1_hasReady_0 16 rfl rfl)
theorem dX1_hasReady_17 : decode cX1_hasReady 17 = .ok (.getfield 17, 3) := dk_180 0 17 (dk_at dksX1_hasReady_0 17 rfl rfl)
theorem dX1_hasReady_20 : decode cX1_hasReady 20 = .ok (.iload_n 2, 1) := dk_28 (dk_at dksX1_hasReady_0 20 rfl rfl)
theorem dX1_hasReady_21 : decode cX1_hasReady 21 = .ok (.invokevirtual 226, 3) := dk_182 0 226 (dk_at dksX1_hasReady_0 21 rfl rfl)
theorem dX1_hasReady_24 : decode cX1_hasReady 24 = .ok (.checkcast 117, 3) := dk_192 0 117 (dk_at dksX1_hasReady_1 0 rfl rfl)
theorem dX1_hasReady_27 : decode cX1_hasReady 27 = .ok (.invokevirtual 234, 3) := dk_182 0 234 (dk_at dksX1_hasReady_1 3 rfl rfl)
theorem dX1_hasReady_30 : decode cX1_hasReady 30 = .ok (.ior, 1) := dk_128 (dk_at dksX1_hasReady_1 6 rfl rfl)
theorem dX1_hasReady_31 : decode cX1_hasReady 31 = .ok (.istore_n 1, 1) := dk_60 (dk_at dksX1_hasReady_1 7 rfl rfl)
theorem dX1_hasReady_32 : decode cX1_hasReady 32 = .ok (.iinc 2 1, 3) := dk_132 2 1 (dk_at dksX1_hasReady_1 8 rfl rfl)
theorem dX1_hasReady_35 : decode cX1_hasReady 35 = .ok (.goto (-31), 3) := dk_167 255 225 (dk_at dksX1_hasReady_1 11 rfl rfl)
theorem dX1_hasReady_38 : decode cX1_hasReady 38 = .ok (.iload_n 1, 1) := dk_27 (dk_at dksX1_hasReady_1 14 rfl rfl)
theorem dX1_hasReady_39 : decode cX1_hasReady 39 = .ok (.ireturn, 1) := dk_172 (dk_at dksX1_hasReady_1 15 rfl rfl)
abbrev cX1_ready : ByteArray := prog_15_method_13_code
def yX1_ready : MethodName := ⟨RX1, "ready", "()Ljava/util/PriorityQueue;"⟩
def dkwX1_ready_3 : List UInt8 := [153, 0, 7, 4, 167, 0, 4, 3, 61, 132, 1, 1, 167, 255, 198, 42, 180, 0, 79, 176]
abbrev dktX1_ready_3 : List UInt8 := dkwX1_ready_3 ++ []
def dkwX1_ready_2 : List UInt8 := [182, 0, 234, 153, 0, 28, 42, 180, 0, 79, 42, 180, 0, 17, 27, 182, 0, 226, 192, 0, 117, 182, 0, 246]
abbrev dktX1_ready_2 : List UInt8 := dkwX1_ready_2 ++ dktX1_ready_3
def dkwX1_ready_1 : List UInt8 := [60, 27, 42, 180, 0, 17, 182, 0, 198, 162, 0, 53, 42, 180, 0, 17, 27, 182, 0, 226, 192, 0, 117]
abbrev dktX1_ready_1 : List UInt8 := dkwX1_ready_1 ++ dktX1_ready_2
def dkwX1_ready_0 : List UInt8 := [42, 42, 182, 0, 237, 154, 0, 7, 4, 167, 0, 4, 3, 181, 0, 240, 42, 180, 0, 79, 182, 0, 243, 3]
abbrev dktX1_ready_0 : List UInt8 := dkwX1_ready_0 ++ dktX1_ready_1
theorem dksX1_ready_0 : cX1_ready.data.toList.drop 0 = dktX1_ready_0 := by decide +kernel
theorem dksX1_ready_1 : cX1_ready.data.toList.drop 24 = dktX1_ready_1 := dk_seg dksX1_ready_0 24 rfl rfl
theorem dksX1_ready_2 : cX1_ready.data.toList.drop 47 = dktX1_ready_2 := dk_seg dksX1_ready_1 23 rfl rfl
theorem dksX1_ready_3 : cX1_ready.data.toList.drop 71 = dktX1_ready_3 := dk_seg dksX1_ready_2 24 rfl rfl
theorem dX1_ready_0 : decode cX1_ready 0 = .ok (.aload_n 0, 1) := dk_42 (dk_at dksX1_ready_0 0 rfl rfl)
theorem dX1_ready_1 : decode cX1_ready 1 = .ok (.aload_n 0, 1) := dk_42 (dk_at dksX1_ready_0 1 rfl rfl)
theorem dX1_ready_2 : decode cX1_ready 2 = .ok (.invokevirtual 237, 3) := dk_182 0 237 (dk_at dksX1_ready_0 2 rfl rfl)
theorem dX1_ready_5 : decode cX1_ready 5 = .ok (.ifCond .ne 7, 3) := dk_154 0 7 (dk_at dksX1_ready_0 5 rfl rfl)
theorem dX1_ready_8 : decode cX1_ready 8 = .ok (.iconst 1, 1) := dk_4 (dk_at dksX1_ready_0 8 rfl rfl)
theorem dX1_ready_9 : decode cX1_ready 9 = .ok (.goto 4, 3) := dk_167 0 4 (dk_at dksX1_ready_0 9 rfl rfl)
theorem dX1_ready_12 : decode cX1_ready 12 = .ok (.iconst 0, 1) := dk_3 (dk_at dksX1_ready_0 12 rfl rfl)
theorem dX1_ready_13 : decode cX1_ready 13 = .ok (.putfield 240, 3) := dk_181 0 240 (dk_at dksX1_ready_0 13 rfl rfl)
theorem dX1_ready_16 : decode cX1_ready 16 = .ok (.aload_n 0, 1) := dk_42 (dk_at dksX1_ready_0 16 rfl rfl)
theorem dX1_ready_17 : decode cX1_ready 17 = .ok (.getfield 79, 3) := dk_180 0 79 (dk_at dksX1_ready_0 17 rfl rfl)
theorem dX1_ready_20 : decode cX1_ready 20 = .ok (.invokevirtual 243, 3) := dk_182 0 243 (dk_at dksX1_ready_0 20 rfl rfl)
theorem dX1_ready_23 : decode cX1_ready 23 = .ok (.iconst 0, 1) := dk_3 (dk_at dksX1_ready_0 23 rfl rfl)
theorem dX1_ready_24 : decode cX1_ready 24 = .ok (.istore_n 1, 1) := dk_60 (dk_at dksX1_ready_1 0 rfl rfl)
theorem dX1_ready_25 : decode cX1_ready 25 = .ok (.iload_n 1, 1) := dk_27 (dk_at dksX1_ready_1 1 rfl rfl)
theorem dX1_ready_26 : decode cX1_ready 26 = .ok (.aload_n 0, 1) := dk_42 (dk_at dksX1_ready_1 2 rfl rfl)
theorem dX1_ready_27 : decode cX1_ready 27 = .ok (.getfield 17, 3) := dk_180 0 17 (dk_at dksX1_ready_1 3 rfl rfl)
theorem dX1_ready_30 : decode cX1_ready 30 = .ok (.invokevirtual 198, 3) := dk_182 0 198 (dk_at dksX1_ready_1 6 rfl rfl)
theorem dX1_ready_33 : decode cX1_ready 33 = .ok (.if_icmp .ge 53, 3) := dk_162 0 53 (dk_at dksX1_ready_1 9 rfl rfl)
theorem dX1_ready_36 : decode cX1_ready 36 = .ok (.aload_n 0, 1) := dk_42 (dk_at dksX1_ready_1 12 rfl rfl)
theorem dX1_ready_37 : decode cX1_ready 37 = .ok (.getfield 17, 3) := dk_180 0 17 (dk_at dksX1_ready_1 13 rfl rfl)
theorem dX1_ready_40 : decode cX1_ready 40 = .ok (.iload_n 1, 1) := dk_27 (dk_at dksX1_ready_1 16 rfl rfl)
theorem dX1_ready_41 : decode cX1_ready 41 = .ok (.invokevirtual 226, 3) := dk_182 0 226 (dk_at dksX1_ready_1 17 rfl rfl)
theorem dX1_ready_44 : decode cX1_ready 44 = .ok (.checkcast 117, 3) := dk_192 0 117 (dk_at dksX1_ready_1 20 rfl rfl)
theorem dX1_ready_47 : decode cX1_ready 47 = .ok (.invokevirtual 234, 3) := dk_182 0 234 (dk_at dksX1_ready_2 0 rfl rfl)
theorem dX1_ready_50 : decode cX1_ready 50 = .ok (.ifCond .eq 28, 3) := dk_153 0 28 (dk_at dksX1_ready_2 3 rfl rfl)
theorem dX1_ready_53 : decode cX1_ready 53 = .ok (.aload_n 0, 1) := dk_42 (dk_at dksX1_ready_2 6 rfl rfl)
theorem dX1_ready_54 : decode cX1_ready 54 = .ok (.getfield 79, 3) := dk_180 0 79 (dk_at dksX1_ready_2 7 rfl rfl)
theorem dX1_ready_57 : decode cX1_ready 57 = .ok (.aload_n 0, 1) := dk_42 (dk_at dksX1_ready_2 10 rfl rfl)
theorem dX1_ready_58 : decode cX1_ready 58 = .ok (.getfield 17, 3) := dk_180 0 17 (dk_at dksX1_ready_2 11 rfl rfl)
theorem dX1_ready_61 : decode cX1_ready 61 = .ok (.iload_n 1, 1) := dk_27 (dk_at dksX1_ready_2 14 rfl rfl)
theorem dX1_ready_62 : decode cX1_ready 62 = .ok (.invokevirtual 226, 3) := dk_182 0 226 (dk_at dksX1_ready_2 15 rfl rfl)
theorem dX1_ready_65 : decode cX1_ready 65 = .ok (.checkcast 117, 3) := dk_192 0 117 (dk_at dksX1_ready_2 18 rfl rfl)
theorem dX1_ready_68 : decode cX1_ready 68 = .ok (.invokevirtual 246, 3) := dk_182 0 246 (dk_at dksX1_ready_2 21 rfl rfl)
theorem dX1_ready_71 : decode cX1_ready 71 = .ok (.ifCond .eq 7, 3) := dk_153 0 7 (dk_at dksX1_ready_3 0 rfl rfl)
theorem dX1_ready_74 : decode cX1_ready 74 = .ok (.iconst 1, 1) := dk_4 (dk_at dksX1_ready_3 3 rfl rfl)
theorem dX1_ready_75 : decode cX1_ready 75 = .ok (.goto 4, 3) := dk_167 0 4 (dk_at dksX1_ready_3 4 rfl rfl)
theorem dX1_ready_78 : decode cX1_ready 78 = .ok (.iconst 0, 1) := dk_3 (dk_at dksX1_ready_3 7 rfl rfl)
theorem dX1_ready_79 : decode cX1_ready 79 = .ok (.istore_n 2, 1) := dk_61 (dk_at dksX1_ready_3 8 rfl rfl)
theorem dX1_ready_80 : decode cX1_ready 80 = .ok (.iinc 1 1, 3) := dk_132 1 1 (dk_at dksX1_ready_3 9 rfl rfl)
theorem dX1_ready_83 : decode cX1_ready 83 = .ok (.goto (-58), 3) := dk_167 255 198 (dk_at dksX1_ready_3 12 rfl rfl)
theorem dX1_ready_86 : decode cX1_ready 86 = .ok (.aload_n 0, 1) := dk_42 (dk_at dksX1_ready_3 15 rfl rfl)
theorem dX1_ready_87 : decode cX1_ready 87 = .ok (.getfield 79, 3) := dk_180 0 79 (dk_at dksX1_ready_3 16 rfl rfl)
theorem dX1_ready_90 : decode cX1_ready 90 = .ok (.areturn, 1) := dk_176 (dk_at dksX1_ready_3 19 rfl rfl)
abbrev cX1_start : ByteArray := prog_15_method_15_code
def yX1_start : MethodName := ⟨RX1, "start", "(LFieldPumps$Pump;)V"⟩
def dkwX1_start_3 : List UInt8 := [182, 0, 205, 177]
abbrev dktX1_start_3 : List UInt8 := dkwX1_start_3 ++ []
def dkwX1_start_2 : List UInt8 := [180, 0, 96, 7, 46, 182, 1, 3, 167, 0, 10, 43, 17, 3, 232, 182, 1, 3, 42, 3, 43, 180, 0, 191]
abbrev dktX1_start_2 : List UInt8 := dkwX1_start_2 ++ dktX1_start_3
def dkwX1_start_1 : List UInt8 := [182, 0, 226, 192, 0, 117, 17, 3, 232, 181, 0, 221, 42, 43, 180, 0, 191, 181, 0, 83, 43, 42]
abbrev dktX1_start_1 : List UInt8 := dkwX1_start_1 ++ dktX1_start_2
def dkwX1_start_0 : List UInt8 := [43, 193, 1, 1, 153, 0, 52, 42, 180, 0, 83, 2, 159, 0, 23, 42, 180, 0, 17, 42, 180, 0, 83]
abbrev dktX1_start_0 : List UInt8 := dkwX1_start_0 ++ dktX1_start_1
theorem dksX1_start_0 : cX1_start.data.toList.drop 0 = dktX1_start_0 := by decide +kernel
theorem dksX1_start_1 : cX1_start.data.toList.drop 23 = dktX1_start_1 := dk_seg dksX1_start_0 23 rfl rfl
theorem dksX1_start_2 : cX1_start.data.toList.drop 45 = dktX1_start_2 := dk_seg dksX1_start_1 22 rfl rfl
theorem dksX1_start_3 : cX1_start.data.toList.drop 69 = dktX1_start_3 := dk_seg dksX1_start_2 24 rfl rfl
theorem dX1_start_0 : decode cX1_start 0 = .ok (.aload_n 1, 1) := dk_43 (dk_at dksX1_start_0 0 rfl rfl)
theorem dX1_start_1 : decode cX1_start 1 = .ok (.instanceof 257, 3) := dk_193 1 1 (dk_at dksX1_start_0 1 rfl rfl)
theorem dX1_start_4 : decode cX1_start 4 = .ok (.ifCond .eq 52, 3) := dk_153 0 52 (dk_at dksX1_start_0 4 rfl rfl)
theorem dX1_start_7 : decode cX1_start 7 = .ok (.aload_n 0, 1) := dk_42 (dk_at dksX1_start_0 7 rfl rfl)
theorem dX1_start_8 : decode cX1_start 8 = .ok (.getfield 83, 3) := dk_180 0 83 (dk_at dksX1_start_0 8 rfl rfl)
theorem dX1_start_11 : decode cX1_start 11 = .ok (.iconst (-1), 1) := dk_2 (dk_at dksX1_start_0 11 rfl rfl)
theorem dX1_start_12 : decode cX1_start 12 = .ok (.if_icmp .eq 23, 3) := dk_159 0 23 (dk_at dksX1_start_0 12 rfl rfl)
theorem dX1_start_15 : decode cX1_start 15 = .ok (.aload_n 0, 1) := dk_42 (dk_at dksX1_start_0 15 rfl rfl)
theorem dX1_start_16 : decode cX1_start 16 = .ok (.getfield 17, 3) := dk_180 0 17 (dk_at dksX1_start_0 16 rfl rfl)
theorem dX1_start_19 : decode cX1_start 19 = .ok (.aload_n 0, 1) := dk_42 (dk_at dksX1_start_0 19 rfl rfl)
theorem dX1_start_20 : decode cX1_start 20 = .ok (.getfield 83, 3) := dk_180 0 83 (dk_at dksX1_start_0 20 rfl rfl)
theorem dX1_start_23 : decode cX1_start 23 = .ok (.invokevirtual 226, 3) := dk_182 0 226 (dk_at dksX1_start_1 0 rfl rfl)
theorem dX1_start_26 : decode cX1_start 26 = .ok (.checkcast 117, 3) := dk_192 0 117 (dk_at dksX1_start_1 3 rfl rfl)
theorem dX1_start_29 : decode cX1_start 29 = .ok (.sipush 1000, 3) := dk_17 3 232 (dk_at dksX1_start_1 6 rfl rfl)
theorem dX1_start_32 : decode cX1_start 32 = .ok (.putfield 221, 3) := dk_181 0 221 (dk_at dksX1_start_1 9 rfl rfl)
theorem dX1_start_35 : decode cX1_start 35 = .ok (.aload_n 0, 1) := dk_42 (dk_at dksX1_start_1 12 rfl rfl)
theorem dX1_start_36 : decode cX1_start 36 = .ok (.aload_n 1, 1) := dk_43 (dk_at dksX1_start_1 13 rfl rfl)
theorem dX1_start_37 : decode cX1_start 37 = .ok (.getfield 191, 3) := dk_180 0 191 (dk_at dksX1_start_1 14 rfl rfl)
theorem dX1_start_40 : decode cX1_start 40 = .ok (.putfield 83, 3) := dk_181 0 83 (dk_at dksX1_start_1 17 rfl rfl)
theorem dX1_start_43 : decode cX1_start 43 = .ok (.aload_n 1, 1) := dk_43 (dk_at dksX1_start_1 20 rfl rfl)
theorem dX1_start_44 : decode cX1_start 44 = .ok (.aload_n 0, 1) := dk_42 (dk_at dksX1_start_1 21 rfl rfl)
theorem dX1_start_45 : decode cX1_start 45 = .ok (.getfield 96, 3) := dk_180 0 96 (dk_at dksX1_start_2 0 rfl rfl)
theorem dX1_start_48 : decode cX1_start 48 = .ok (.iconst 4, 1) := dk_7 (dk_at dksX1_start_2 3 rfl rfl)
theorem dX1_start_49 : decode cX1_start 49 = .ok (.iaload, 1) := dk_46 (dk_at dksX1_start_2 4 rfl rfl)
theorem dX1_start_50 : decode cX1_start 50 = .ok (.invokevirtual 259, 3) := dk_182 1 3 (dk_at dksX1_start_2 5 rfl rfl)
theorem dX1_start_53 : decode cX1_start 53 = .ok (.goto 10, 3) := dk_167 0 10 (dk_at dksX1_start_2 8 rfl rfl)
theorem dX1_start_56 : decode cX1_start 56 = .ok (.aload_n 1, 1) := dk_43 (dk_at dksX1_start_2 11 rfl rfl)
theorem dX1_start_57 : decode cX1_start 57 = .ok (.sipush 1000, 3) := dk_17 3 232 (dk_at dksX1_start_2 12 rfl rfl)
theorem dX1_start_60 : decode cX1_start 60 = .ok (.invokevirtual 259, 3) := dk_182 1 3 (dk_at dksX1_start_2 15 rfl rfl)
theorem dX1_start_63 : decode cX1_start 63 = .ok (.aload_n 0, 1) := dk_42 (dk_at dksX1_start_2 18 rfl rfl)
theorem dX1_start_64 : decode cX1_start 64 = .ok (.iconst 0, 1) := dk_3 (dk_at dksX1_start_2 19 rfl rfl)
theorem dX1_start_65 : decode cX1_start 65 = .ok (.aload_n 1, 1) := dk_43 (dk_at dksX1_start_2 20 rfl rfl)
theorem dX1_start_66 : decode cX1_start 66 = .ok (.getfield 191, 3) := dk_180 0 191 (dk_at dksX1_start_2 21 rfl rfl)
theorem dX1_start_69 : decode cX1_start 69 = .ok (.invokevirtual 205, 3) := dk_182 0 205 (dk_at dksX1_start_3 0 rfl rfl)
theorem dX1_start_72 : decode cX1_start 72 = .ok (.return_, 1) := dk_177 (dk_at dksX1_start_3 3 rfl rfl)
abbrev cX1_watch : ByteArray := prog_15_method_32_code
def yX1_watch : MethodName := ⟨RX1, "watch", "()V"⟩
def dkwX1_watch_2 : List UInt8 := [167, 255, 211, 177]
abbrev dktX1_watch_2 : List UInt8 := dkwX1_watch_2 ++ []
def dkwX1_watch_1 : List UInt8 := [185, 1, 92, 2, 0, 153, 0, 14, 42, 180, 0, 50, 27, 46, 4, 96, 167, 0, 4, 3, 79, 132, 1, 1]
abbrev dktX1_watch_1 : List UInt8 := dkwX1_watch_1 ++ dktX1_watch_2
def dkwX1_watch_0 : List UInt8 := [3, 60, 27, 42, 180, 0, 50, 190, 162, 0, 42, 42, 180, 0, 50, 27, 42, 180, 0, 55, 27, 50, 42]
abbrev dktX1_watch_0 : List UInt8 := dkwX1_watch_0 ++ dktX1_watch_1
theorem dksX1_watch_0 : cX1_watch.data.toList.drop 0 = dktX1_watch_0 := by decide +kernel
theorem dksX1_watch_1 : cX1_watch.data.toList.drop 23 = dktX1_watch_1 := dk_seg dksX1_watch_0 23 rfl rfl
theorem dksX1_watch_2 : cX1_watch.data.toList.drop 47 = dktX1_watch_2 := dk_seg dksX1_watch_1 24 rfl rfl
theorem dX1_watch_0 : decode cX1_watch 0 = .ok (.iconst 0, 1) := dk_3 (dk_at dksX1_watch_0 0 rfl rfl)
theorem dX1_watch_1 : decode cX1_watch 1 = .ok (.istore_n 1, 1) := dk_60 (dk_at dksX1_watch_0 1 rfl rfl)
theorem dX1_watch_2 : decode cX1_watch 2 = .ok (.iload_n 1, 1) := dk_27 (dk_at dksX1_watch_0 2 rfl rfl)
theorem dX1_watch_3 : decode cX1_watch 3 = .ok (.aload_n 0, 1) := dk_42 (dk_at dksX1_watch_0 3 rfl rfl)
theorem dX1_watch_4 : decode cX1_watch 4 = .ok (.getfield 50, 3) := dk_180 0 50 (dk_at dksX1_watch_0 4 rfl rfl)
theorem dX1_watch_7 : decode cX1_watch 7 = .ok (.arraylength, 1) := dk_190 (dk_at dksX1_watch_0 7 rfl rfl)
theorem dX1_watch_8 : decode cX1_watch 8 = .ok (.if_icmp .ge 42, 3) := dk_162 0 42 (dk_at dksX1_watch_0 8 rfl rfl)
theorem dX1_watch_11 : decode cX1_watch 11 = .ok (.aload_n 0, 1) := dk_42 (dk_at dksX1_watch_0 11 rfl rfl)
theorem dX1_watch_12 : decode cX1_watch 12 = .ok (.getfield 50, 3) := dk_180 0 50 (dk_at dksX1_watch_0 12 rfl rfl)
theorem dX1_watch_15 : decode cX1_watch 15 = .ok (.iload_n 1, 1) := dk_27 (dk_at dksX1_watch_0 15 rfl rfl)
theorem dX1_watch_16 : decode cX1_watch 16 = .ok (.aload_n 0, 1) := dk_42 (dk_at dksX1_watch_0 16 rfl rfl)
theorem dX1_watch_17 : decode cX1_watch 17 = .ok (.getfield 55, 3) := dk_180 0 55 (dk_at dksX1_watch_0 17 rfl rfl)
theorem dX1_watch_20 : decode cX1_watch 20 = .ok (.iload_n 1, 1) := dk_27 (dk_at dksX1_watch_0 20 rfl rfl)
theorem dX1_watch_21 : decode cX1_watch 21 = .ok (.aaload, 1) := dk_50 (dk_at dksX1_watch_0 21 rfl rfl)
theorem dX1_watch_22 : decode cX1_watch 22 = .ok (.aload_n 0, 1) := dk_42 (dk_at dksX1_watch_0 22 rfl rfl)
theorem dX1_watch_23 : decode cX1_watch 23 = .ok (.invokeinterface 348 2, 5) := by decide +kernel
theorem dX1_watch_28 : decode cX1_watch 28 = .ok (.ifCond .eq 14, 3) := dk_153 0 14 (dk_at dksX1_watch_1 5 rfl rfl)
theorem dX1_watch_31 : decode cX1_watch 31 = .ok (.aload_n 0, 1) := dk_42 (dk_at dksX1_watch_1 8 rfl rfl)
theorem dX1_watch_32 : decode cX1_watch 32 = .ok (.getfield 50, 3) := dk_180 0 50 (dk_at dksX1_watch_1 9 rfl rfl)
theorem dX1_watch_35 : decode cX1_watch 35 = .ok (.iload_n 1, 1) := dk_27 (dk_at dksX1_watch_1 12 rfl rfl)
theorem dX1_watch_36 : decode cX1_watch 36 = .ok (.iaload, 1) := dk_46 (dk_at dksX1_watch_1 13 rfl rfl)
theorem dX1_watch_37 : decode cX1_watch 37 = .ok (.iconst 1, 1) := dk_4 (dk_at dksX1_watch_1 14 rfl rfl)
theorem dX1_watch_38 : decode cX1_watch 38 = .ok (.iadd, 1) := dk_96 (dk_at dksX1_watch_1 15 rfl rfl)
theorem dX1_watch_39 : decode cX1_watch 39 = .ok (.goto 4, 3) := dk_167 0 4 (dk_at dksX1_watch_1 16 rfl rfl)
theorem dX1_watch_42 : decode cX1_watch 42 = .ok (.iconst 0, 1) := dk_3 (dk_at dksX1_watch_1 19 rfl rfl)
theorem dX1_watch_43 : decode cX1_watch 43 = .ok (.iastore, 1) := dk_79 (dk_at dksX1_watch_1 20 rfl rfl)
theorem dX1_watch_44 : decode cX1_watch 44 = .ok (.iinc 1 1, 3) := dk_132 1 1 (dk_at dksX1_watch_1 21 rfl rfl)
theorem dX1_watch_47 : decode cX1_watch 47 = .ok (.goto (-45), 3) := dk_167 255 211 (dk_at dksX1_watch_2 0 rfl rfl)
theorem dX1_watch_50 : decode cX1_watch 50 = .ok (.return_, 1) := dk_177 (dk_at dksX1_watch_2 3 rfl rfl)
abbrev cX1_stage : ByteArray := prog_15_method_34_code
def yX1_stage : MethodName := ⟨RX1, "stage", "()V"⟩
def dkwX1_stage_4 : List UInt8 := [180, 0, 83, 182, 0, 226, 192, 0, 117, 182, 1, 103, 42, 5, 182, 1, 44, 42, 182, 1, 80, 177]
abbrev dktX1_stage_4 : List UInt8 := dkwX1_stage_4 ++ []
def dkwX1_stage_3 : List UInt8 := [182, 1, 80, 167, 0, 40, 42, 5, 16, 8, 182, 1, 95, 153, 0, 30, 42, 42, 180, 0, 17, 42]
abbrev dktX1_stage_3 : List UInt8 := dkwX1_stage_3 ++ dktX1_stage_4
def dkwX1_stage_2 : List UInt8 := [182, 0, 237, 4, 163, 0, 11, 42, 180, 0, 83, 2, 160, 0, 18, 42, 42, 182, 1, 99, 182, 1, 103, 42]
abbrev dktX1_stage_2 : List UInt8 := dkwX1_stage_2 ++ dktX1_stage_3
def dkwX1_stage_1 : List UInt8 := [192, 0, 117, 182, 1, 78, 42, 182, 1, 80, 167, 0, 81, 42, 4, 16, 6, 182, 1, 95, 153, 0, 34, 42]
abbrev dktX1_stage_1 : List UInt8 := dkwX1_stage_1 ++ dktX1_stage_2
def dkwX1_stage_0 : List UInt8 := [42, 3, 8, 182, 1, 95, 153, 0, 31, 42, 182, 1, 68, 153, 0, 24, 42, 42, 182, 1, 71, 182, 1, 75]
abbrev dktX1_stage_0 : List UInt8 := dkwX1_stage_0 ++ dktX1_stage_1
theorem dksX1_stage_0 : cX1_stage.data.toList.drop 0 = dktX1_stage_0 := by decide +kernel
theorem dksX1_stage_1 : cX1_stage.data.toList.drop 24 = dktX1_stage_1 := dk_seg dksX1_stage_0 24 rfl rfl
theorem dksX1_stage_2 : cX1_stage.data.toList.drop 48 = dktX1_stage_2 := dk_seg dksX1_stage_1 24 rfl rfl
theorem dksX1_stage_3 : cX1_stage.data.toList.drop 72 = dktX1_stage_3 := dk_seg dksX1_stage_2 24 rfl rfl
theorem dksX1_stage_4 : cX1_stage.data.toList.drop 94 = dktX1_stage_4 := dk_seg dksX1_stage_3 22 rfl rfl
theorem dX1_stage_0 : decode cX1_stage 0 = .ok (.aload_n 0, 1) := dk_42 (dk_at dksX1_stage_0 0 rfl rfl)
theorem dX1_stage_1 : decode cX1_stage 1 = .ok (.iconst 0, 1) := dk_3 (dk_at dksX1_stage_0 1 rfl rfl)
theorem dX1_stage_2 : decode cX1_stage 2 = .ok (.iconst 5, 1) := dk_8 (dk_at dksX1_stage_0 2 rfl rfl)
theorem dX1_stage_3 : decode cX1_stage 3 = .ok (.invokevirtual 351, 3) := dk_182 1 95 (dk_at dksX1_stage_0 3 rfl rfl)
theorem dX1_stage_6 : decode cX1_stage 6 = .ok (.ifCond .eq 31, 3) := dk_153 0 31 (dk_at dksX1_stage_0 6 rfl rfl)
theorem dX1_stage_9 : decode cX1_stage 9 = .ok (.aload_n 0, 1) := dk_42 (dk_at dksX1_stage_0 9 rfl rfl)
theorem dX1_stage_10 : decode cX1_stage 10 = .ok (.invokevirtual 324, 3) := dk_182 1 68 (dk_at dksX1_stage_0 10 rfl rfl)
theorem dX1_stage_13 : decode cX1_stage 13 = .ok (.ifCond .eq 24, 3) := dk_153 0 24 (dk_at dksX1_stage_0 13 rfl rfl)
theorem dX1_stage_16 : decode cX1_stage 16 = .ok (.aload_n 0, 1) := dk_42 (dk_at dksX1_stage_0 16 rfl rfl)
theorem dX1_stage_17 : decode cX1_stage 17 = .ok (.aload_n 0, 1) := dk_42 (dk_at dksX1_stage_0 17 rfl rfl)
theorem dX1_stage_18 : decode cX1_stage 18 = .ok (.invokevirtual 327, 3) := dk_182 1 71 (dk_at dksX1_stage_0 18 rfl rfl)
theorem dX1_stage_21 : decode cX1_stage 21 = .ok (.invokevirtual 331, 3) := dk_182 1 75 (dk_at dksX1_stage_0 21 rfl rfl)
theorem dX1_stage_24 : decode cX1_stage 24 = .ok (.checkcast 117, 3) := dk_192 0 117 (dk_at dksX1_stage_1 0 rfl rfl)
theorem dX1_stage_27 : decode cX1_stage 27 = .ok (.invokevirtual 334, 3) := dk_182 1 78 (dk_at dksX1_stage_1 3 rfl rfl)
theorem dX1_stage_30 : decode cX1_stage 30 = .ok (.aload_n 0, 1) := dk_42 (dk_at dksX1_stage_1 6 rfl rfl)
theorem dX1_stage_31 : decode cX1_stage 31 = .ok (.invokevirtual 336, 3) := dk_182 1 80 (dk_at dksX1_stage_1 7 rfl rfl)
theorem dX1_stage_34 : decode cX1_stage 34 = .ok (.goto 81, 3) := dk_167 0 81 (dk_at dksX1_stage_1 10 rfl rfl)
theorem dX1_stage_37 : decode cX1_stage 37 = .ok (.aload_n 0, 1) := dk_42 (dk_at dksX1_stage_1 13 rfl rfl)
theorem dX1_stage_38 : decode cX1_stage 38 = .ok (.iconst 1, 1) := dk_4 (dk_at dksX1_stage_1 14 rfl rfl)
theorem dX1_stage_39 : decode cX1_stage 39 = .ok (.bipush 6, 2) := dk_16 6 (dk_at dksX1_stage_1 15 rfl rfl)
theorem dX1_stage_41 : decode cX1_stage 41 = .ok (.invokevirtual 351, 3) := dk_182 1 95 (dk_at dksX1_stage_1 17 rfl rfl)
theorem dX1_stage_44 : decode cX1_stage 44 = .ok (.ifCond .eq 34, 3) := dk_153 0 34 (dk_at dksX1_stage_1 20 rfl rfl)
theorem dX1_stage_47 : decode cX1_stage 47 = .ok (.aload_n 0, 1) := dk_42 (dk_at dksX1_stage_1 23 rfl rfl)
theorem dX1_stage_48 : decode cX1_stage 48 = .ok (.invokevirtual 237, 3) := dk_182 0 237 (dk_at dksX1_stage_2 0 rfl rfl)
theorem dX1_stage_51 : decode cX1_stage 51 = .ok (.iconst 1, 1) := dk_4 (dk_at dksX1_stage_2 3 rfl rfl)
theorem dX1_stage_52 : decode cX1_stage 52 = .ok (.if_icmp .gt 11, 3) := dk_163 0 11 (dk_at dksX1_stage_2 4 rfl rfl)
theorem dX1_stage_55 : decode cX1_stage 55 = .ok (.aload_n 0, 1) := dk_42 (dk_at dksX1_stage_2 7 rfl rfl)
theorem dX1_stage_56 : decode cX1_stage 56 = .ok (.getfield 83, 3) := dk_180 0 83 (dk_at dksX1_stage_2 8 rfl rfl)
theorem dX1_stage_59 : decode cX1_stage 59 = .ok (.iconst (-1), 1) := dk_2 (dk_at dksX1_stage_2 11 rfl rfl)
theorem dX1_stage_60 : decode cX1_stage 60 = .ok (.if_icmp .ne 18, 3) := dk_160 0 18 (dk_at dksX1_stage_2 12 rfl rfl)
theorem dX1_stage_63 : decode cX1_stage 63 = .ok (.aload_n 0, 1) := dk_42 (dk_at dksX1_stage_2 15 rfl rfl)
theorem dX1_stage_64 : decode cX1_stage 64 = .ok (.aload_n 0, 1) := dk_42 (dk_at dksX1_stage_2 16 rfl rfl)
theorem dX1_stage_65 : decode cX1_stage 65 = .ok (.invokevirtual 355, 3) := dk_182 1 99 (dk_at dksX1_stage_2 17 rfl rfl)
theorem dX1_stage_68 : decode cX1_stage 68 = .ok (.invokevirtual 359, 3) := dk_182 1 103 (dk_at dksX1_stage_2 20 rfl rfl)
theorem dX1_stage_71 : decode cX1_stage 71 = .ok (.aload_n 0, 1) := dk_42 (dk_at dksX1_stage_2 23 rfl rfl)
theorem dX1_stage_72 : decode cX1_stage 72 = .ok (.invokevirtual 336, 3) := dk_182 1 80 (dk_at dksX1_stage_3 0 rfl rfl)
theorem dX1_stage_75 : decode cX1_stage 75 = .ok (.goto 40, 3) := dk_167 0 40 (dk_at dksX1_stage_3 3 rfl rfl)
theorem dX1_stage_78 : decode cX1_stage 78 = .ok (.aload_n 0, 1) := dk_42 (dk_at dksX1_stage_3 6 rfl rfl)
theorem dX1_stage_79 : decode cX1_stage 79 = .ok (.iconst 2, 1) := dk_5 (dk_at dksX1_stage_3 7 rfl rfl)
theorem dX1_stage_80 : decode cX1_stage 80 = .ok (.bipush 8, 2) := dk_16 8 (dk_at dksX1_stage_3 8 rfl rfl)
theorem dX1_stage_82 : decode cX1_stage 82 = .ok (.invokevirtual 351, 3) := dk_182 1 95 (dk_at dksX1_stage_3 10 rfl rfl)
theorem dX1_stage_85 : decode cX1_stage 85 = .ok (.ifCond .eq 30, 3) := dk_153 0 30 (dk_at dksX1_stage_3 13 rfl rfl)
theorem dX1_stage_88 : decode cX1_stage 88 = .ok (.aload_n 0, 1) := dk_42 (dk_at dksX1_stage_3 16 rfl rfl)
theorem dX1_stage_89 : decode cX1_stage 89 = .ok (.aload_n 0, 1) := dk_42 (dk_at dksX1_stage_3 17 rfl rfl)
theorem dX1_stage_90 : decode cX1_stage 90 = .ok (.getfield 17, 3) := dk_180 0 17 (dk_at dksX1_stage_3 18 rfl rfl)
theorem dX1_stage_93 : decode cX1_stage 93 = .ok (.aload_n 0, 1) := dk_42 (dk_at dksX1_stage_3 21 rfl rfl)
theorem dX1_stage_94 : decode cX1_stage 94 = .ok (.getfield 83, 3) := dk_180 0 83 (dk_at dksX1_stage_4 0 rfl rfl)
theorem dX1_stage_97 : decode cX1_stage 97 = .ok (.invokevirtual 226, 3) := dk_182 0 226 (dk_at dksX1_stage_4 3 rfl rfl)
theorem dX1_stage_100 : decode cX1_stage 100 = .ok (.checkcast 117, 3) := dk_192 0 117 (dk_at dksX1_stage_4 6 rfl rfl)
theorem dX1_stage_103 : decode cX1_stage 103 = .ok (.invokevirtual 359, 3) := dk_182 1 103 (dk_at dksX1_stage_4 9 rfl rfl)
theorem dX1_stage_106 : decode cX1_stage 106 = .ok (.aload_n 0, 1) := dk_42 (dk_at dksX1_stage_4 12 rfl rfl)
theorem dX1_stage_107 : decode cX1_stage 107 = .ok (.iconst 2, 1) := dk_5 (dk_at dksX1_stage_4 13 rfl rfl)
theorem dX1_stage_108 : decode cX1_stage 108 = .ok (.invokevirtual 300, 3) := dk_182 1 44 (dk_at dksX1_stage_4 14 rfl rfl)
theorem dX1_stage_111 : decode cX1_stage 111 = .ok (.aload_n 0, 1) := dk_42 (dk_at dksX1_stage_4 17 rfl rfl)
theorem dX1_stage_112 : decode cX1_stage 112 = .ok (.invokevirtual 336, 3) := dk_182 1 80 (dk_at dksX1_stage_4 18 rfl rfl)
theorem dX1_stage_115 : decode cX1_stage 115 = .ok (.return_, 1) := dk_177 (dk_at dksX1_stage_4 21 rfl rfl)
abbrev cX1_isDue : ByteArray := prog_15_method_33_code
def yX1_isDue : MethodName := ⟨RX1, "isDue", "(II)Z"⟩
def dkwX1_isDue_0 : List UInt8 := [42, 180, 0, 50, 27, 46, 42, 180, 0, 96, 28, 46, 161, 0, 7, 4, 167, 0, 4, 3, 172]
abbrev dktX1_isDue_0 : List UInt8 := dkwX1_isDue_0 ++ []
theorem dksX1_isDue_0 : cX1_isDue.data.toList.drop 0 = dktX1_isDue_0 := by decide +kernel
theorem dX1_isDue_0 : decode cX1_isDue 0 = .ok (.aload_n 0, 1) := dk_42 (dk_at dksX1_isDue_0 0 rfl rfl)
theorem dX1_isDue_1 : decode cX1_isDue 1 = .ok (.getfield 50, 3) := dk_180 0 50 (dk_at dksX1_isDue_0 1 rfl rfl)
theorem dX1_isDue_4 : decode cX1_isDue 4 = .ok (.iload_n 1, 1) := dk_27 (dk_at dksX1_isDue_0 4 rfl rfl)
theorem dX1_isDue_5 : decode cX1_isDue 5 = .ok (.iaload, 1) := dk_46 (dk_at dksX1_isDue_0 5 rfl rfl)
theorem dX1_isDue_6 : decode cX1_isDue 6 = .ok (.aload_n 0, 1) := dk_42 (dk_at dksX1_isDue_0 6 rfl rfl)
theorem dX1_isDue_7 : decode cX1_isDue 7 = .ok (.getfield 96, 3) := dk_180 0 96 (dk_at dksX1_isDue_0 7 rfl rfl)
theorem dX1_isDue_10 : decode cX1_isDue 10 = .ok (.iload_n 2, 1) := dk_28 (dk_at dksX1_isDue_0 10 rfl rfl)
theorem dX1_isDue_11 : decode cX1_isDue 11 = .ok (.iaload, 1) := dk_46 (dk_at dksX1_isDue_0 11 rfl rfl)
theorem dX1_isDue_12 : decode cX1_isDue 12 = .ok (.if_icmp .lt 7, 3) := dk_161 0 7 (dk_at dksX1_isDue_0 12 rfl rfl)
theorem dX1_isDue_15 : decode cX1_isDue 15 = .ok (.iconst 1, 1) := dk_4 (dk_at dksX1_isDue_0 15 rfl rfl)
theorem dX1_isDue_16 : decode cX1_isDue 16 = .ok (.goto 4, 3) := dk_167 0 4 (dk_at dksX1_isDue_0 16 rfl rfl)
theorem dX1_isDue_19 : decode cX1_isDue 19 = .ok (.iconst 0, 1) := dk_3 (dk_at dksX1_isDue_0 19 rfl rfl)
theorem dX1_isDue_20 : decode cX1_isDue 20 = .ok (.ireturn, 1) := dk_172 (dk_at dksX1_isDue_0 20 rfl rfl)
abbrev cX1_mostRun : ByteArray := prog_15_method_35_code
def yX1_mostRun : MethodName := ⟨RX1, "mostRun", "()LFieldPumps$Pump;"⟩
def dkwX1_mostRun_3 : List UInt8 := [167, 0, 4, 43, 76, 132, 2, 1, 167, 255, 182, 43, 176]
abbrev dktX1_mostRun_3 : List UInt8 := dkwX1_mostRun_3 ++ []
def dkwX1_mostRun_2 : List UInt8 := [54, 4, 21, 4, 153, 0, 22, 43, 198, 0, 14, 45, 180, 1, 10, 43, 180, 1, 10, 164, 0, 7, 45]
abbrev dktX1_mostRun_2 : List UInt8 := dkwX1_mostRun_2 ++ dktX1_mostRun_3
def dkwX1_mostRun_1 : List UInt8 := [192, 0, 117, 78, 45, 182, 0, 218, 153, 0, 15, 28, 42, 180, 0, 83, 159, 0, 7, 4, 167, 0, 4, 3]
abbrev dktX1_mostRun_1 : List UInt8 := dkwX1_mostRun_1 ++ dktX1_mostRun_2
def dkwX1_mostRun_0 : List UInt8 := [1, 76, 3, 61, 28, 42, 180, 0, 17, 182, 0, 198, 162, 0, 69, 42, 180, 0, 17, 28, 182, 0, 226]
abbrev dktX1_mostRun_0 : List UInt8 := dkwX1_mostRun_0 ++ dktX1_mostRun_1
theorem dksX1_mostRun_0 : cX1_mostRun.data.toList.drop 0 = dktX1_mostRun_0 := by decide +kernel
theorem dksX1_mostRun_1 : cX1_mostRun.data.toList.drop 23 = dktX1_mostRun_1 := dk_seg dksX1_mostRun_0 23 rfl rfl
theorem dksX1_mostRun_2 : cX1_mostRun.data.toList.drop 47 = dktX1_mostRun_2 := dk_seg dksX1_mostRun_1 24 rfl rfl
theorem dksX1_mostRun_3 : cX1_mostRun.data.toList.drop 70 = dktX1_mostRun_3 := dk_seg dksX1_mostRun_2 23 rfl rfl
theorem dX1_mostRun_0 : decode cX1_mostRun 0 = .ok (.aconst_null, 1) := dk_1 (dk_at dksX1_mostRun_0 0 rfl rfl)
theorem dX1_mostRun_1 : decode cX1_mostRun 1 = .ok (.astore_n 1, 1) := dk_76 (dk_at dksX1_mostRun_0 1 rfl rfl)
theorem dX1_mostRun_2 : decode cX1_mostRun 2 = .ok (.iconst 0, 1) := dk_3 (dk_at dksX1_mostRun_0 2 rfl rfl)
theorem dX1_mostRun_3 : decode cX1_mostRun 3 = .ok (.istore_n 2, 1) := dk_61 (dk_at dksX1_mostRun_0 3 rfl rfl)
theorem dX1_mostRun_4 : decode cX1_mostRun 4 = .ok (.iload_n 2, 1) := dk_28 (dk_at dksX1_mostRun_0 4 rfl rfl)
theorem dX1_mostRun_5 : decode cX1_mostRun 5 = .ok (.aload_n 0, 1) := dk_42 (dk_at dksX1_mostRun_0 5 rfl rfl)
theorem dX1_mostRun_6 : decode cX1_mostRun 6 = .ok (.getfield 17, 3) := dk_180 0 17 (dk_at dksX1_mostRun_0 6 rfl rfl)
theorem dX1_mostRun_9 : decode cX1_mostRun 9 = .ok (.invokevirtual 198, 3) := dk_182 0 198 (dk_at dksX1_mostRun_0 9 rfl rfl)
theorem dX1_mostRun_12 : decode cX1_mostRun 12 = .ok (.if_icmp .ge 69, 3) := dk_162 0 69 (dk_at dksX1_mostRun_0 12 rfl rfl)
theorem dX1_mostRun_15 : decode cX1_mostRun 15 = .ok (.aload_n 0, 1) := dk_42 (dk_at dksX1_mostRun_0 15 rfl rfl)
theorem dX1_mostRun_16 : decode cX1_mostRun 16 = .ok (.getfield 17, 3) := dk_180 0 17 (dk_at dksX1_mostRun_0 16 rfl rfl)
theorem dX1_mostRun_19 : decode cX1_mostRun 19 = .ok (.iload_n 2, 1) := dk_28 (dk_at dksX1_mostRun_0 19 rfl rfl)
theorem dX1_mostRun_20 : decode cX1_mostRun 20 = .ok (.invokevirtual 226, 3) := dk_182 0 226 (dk_at dksX1_mostRun_0 20 rfl rfl)
theorem dX1_mostRun_23 : decode cX1_mostRun 23 = .ok (.checkcast 117, 3) := dk_192 0 117 (dk_at dksX1_mostRun_1 0 rfl rfl)
theorem dX1_mostRun_26 : decode cX1_mostRun 26 = .ok (.astore_n 3, 1) := dk_78 (dk_at dksX1_mostRun_1 3 rfl rfl)
theorem dX1_mostRun_27 : decode cX1_mostRun 27 = .ok (.aload_n 3, 1) := dk_45 (dk_at dksX1_mostRun_1 4 rfl rfl)
theorem dX1_mostRun_28 : decode cX1_mostRun 28 = .ok (.invokevirtual 218, 3) := dk_182 0 218 (dk_at dksX1_mostRun_1 5 rfl rfl)
theorem dX1_mostRun_31 : decode cX1_mostRun 31 = .ok (.ifCond .eq 15, 3) := dk_153 0 15 (dk_at dksX1_mostRun_1 8 rfl rfl)
theorem dX1_mostRun_34 : decode cX1_mostRun 34 = .ok (.iload_n 2, 1) := dk_28 (dk_at dksX1_mostRun_1 11 rfl rfl)
theorem dX1_mostRun_35 : decode cX1_mostRun 35 = .ok (.aload_n 0, 1) := dk_42 (dk_at dksX1_mostRun_1 12 rfl rfl)
theorem dX1_mostRun_36 : decode cX1_mostRun 36 = .ok (.getfield 83, 3) := dk_180 0 83 (dk_at dksX1_mostRun_1 13 rfl rfl)
theorem dX1_mostRun_39 : decode cX1_mostRun 39 = .ok (.if_icmp .eq 7, 3) := dk_159 0 7 (dk_at dksX1_mostRun_1 16 rfl rfl)
theorem dX1_mostRun_42 : decode cX1_mostRun 42 = .ok (.iconst 1, 1) := dk_4 (dk_at dksX1_mostRun_1 19 rfl rfl)
theorem dX1_mostRun_43 : decode cX1_mostRun 43 = .ok (.goto 4, 3) := dk_167 0 4 (dk_at dksX1_mostRun_1 20 rfl rfl)
theorem dX1_mostRun_46 : decode cX1_mostRun 46 = .ok (.iconst 0, 1) := dk_3 (dk_at dksX1_mostRun_1 23 rfl rfl)
theorem dX1_mostRun_47 : decode cX1_mostRun 47 = .ok (.istore 4, 2) := dk_54 4 (dk_at dksX1_mostRun_2 0 rfl rfl)
theorem dX1_mostRun_49 : decode cX1_mostRun 49 = .ok (.iload 4, 2) := dk_21 4 (dk_at dksX1_mostRun_2 2 rfl rfl)
theorem dX1_mostRun_51 : decode cX1_mostRun 51 = .ok (.ifCond .eq 22, 3) := dk_153 0 22 (dk_at dksX1_mostRun_2 4 rfl rfl)
theorem dX1_mostRun_54 : decode cX1_mostRun 54 = .ok (.aload_n 1, 1) := dk_43 (dk_at dksX1_mostRun_2 7 rfl rfl)
theorem dX1_mostRun_55 : decode cX1_mostRun 55 = .ok (.ifnull 14, 3) := dk_198 0 14 (dk_at dksX1_mostRun_2 8 rfl rfl)
theorem dX1_mostRun_58 : decode cX1_mostRun 58 = .ok (.aload_n 3, 1) := dk_45 (dk_at dksX1_mostRun_2 11 rfl rfl)
theorem dX1_mostRun_59 : decode cX1_mostRun 59 = .ok (.getfield 266, 3) := dk_180 1 10 (dk_at dksX1_mostRun_2 12 rfl rfl)
theorem dX1_mostRun_62 : decode cX1_mostRun 62 = .ok (.aload_n 1, 1) := dk_43 (dk_at dksX1_mostRun_2 15 rfl rfl)
theorem dX1_mostRun_63 : decode cX1_mostRun 63 = .ok (.getfield 266, 3) := dk_180 1 10 (dk_at dksX1_mostRun_2 16 rfl rfl)
theorem dX1_mostRun_66 : decode cX1_mostRun 66 = .ok (.if_icmp .le 7, 3) := dk_164 0 7 (dk_at dksX1_mostRun_2 19 rfl rfl)
theorem dX1_mostRun_69 : decode cX1_mostRun 69 = .ok (.aload_n 3, 1) := dk_45 (dk_at dksX1_mostRun_2 22 rfl rfl)
theorem dX1_mostRun_70 : decode cX1_mostRun 70 = .ok (.goto 4, 3) := dk_167 0 4 (dk_at dksX1_mostRun_3 0 rfl rfl)
theorem dX1_mostRun_73 : decode cX1_mostRun 73 = .ok (.aload_n 1, 1) := dk_43 (dk_at dksX1_mostRun_3 3 rfl rfl)
theorem dX1_mostRun_74 : decode cX1_mostRun 74 = .ok (.astore_n 1, 1) := dk_76 (dk_at dksX1_mostRun_3 4 rfl rfl)
theorem dX1_mostRun_75 : decode cX1_mostRun 75 = .ok (.iinc 2 1, 3) := dk_132 2 1 (dk_at dksX1_mostRun_3 5 rfl rfl)
theorem dX1_mostRun_78 : decode cX1_mostRun 78 = .ok (.goto (-74), 3) := dk_167 255 182 (dk_at dksX1_mostRun_3 8 rfl rfl)
theorem dX1_mostRun_81 : decode cX1_mostRun 81 = .ok (.aload_n 1, 1) := dk_43 (dk_at dksX1_mostRun_3 11 rfl rfl)
theorem dX1_mostRun_82 : decode cX1_mostRun 82 = .ok (.areturn, 1) := dk_176 (dk_at dksX1_mostRun_3 12 rfl rfl)
abbrev cX1_rotate : ByteArray := prog_15_method_37_code
def yX1_rotate : MethodName := ⟨RX1, "rotate", "()V"⟩
def dkwX1_rotate_4 : List UInt8 := [182, 0, 205, 42, 16, 7, 44, 180, 0, 191, 182, 0, 205, 42, 43, 182, 1, 103, 177]
abbrev dktX1_rotate_4 : List UInt8 := dkwX1_rotate_4 ++ []
def dkwX1_rotate_3 : List UInt8 := [44, 43, 180, 0, 221, 182, 1, 3, 42, 44, 180, 0, 191, 181, 0, 83, 42, 3, 44, 180, 0, 191]
abbrev dktX1_rotate_3 : List UInt8 := dkwX1_rotate_3 ++ dktX1_rotate_4
def dkwX1_rotate_2 : List UInt8 := [180, 0, 17, 42, 180, 0, 83, 182, 0, 226, 192, 0, 117, 76, 42, 43, 182, 1, 108, 77, 44, 198, 0, 43]
abbrev dktX1_rotate_2 : List UInt8 := dkwX1_rotate_2 ++ dktX1_rotate_3
def dkwX1_rotate_1 : List UInt8 := [180, 0, 83, 182, 0, 226, 192, 0, 117, 180, 1, 105, 42, 180, 0, 96, 16, 18, 46, 162, 0, 4, 177, 42]
abbrev dktX1_rotate_1 : List UInt8 := dkwX1_rotate_1 ++ dktX1_rotate_2
def dkwX1_rotate_0 : List UInt8 := [42, 180, 0, 96, 16, 18, 46, 153, 0, 38, 42, 180, 0, 83, 2, 159, 0, 30, 42, 180, 0, 17, 42]
abbrev dktX1_rotate_0 : List UInt8 := dkwX1_rotate_0 ++ dktX1_rotate_1
theorem dksX1_rotate_0 : cX1_rotate.data.toList.drop 0 = dktX1_rotate_0 := by decide +kernel
theorem dksX1_rotate_1 : cX1_rotate.data.toList.drop 23 = dktX1_rotate_1 := dk_seg dksX1_rotate_0 23 rfl rfl
theorem dksX1_rotate_2 : cX1_rotate.data.toList.drop 47 = dktX1_rotate_2 := dk_seg dksX1_rotate_1 24 rfl rfl
theorem dksX1_rotate_3 : cX1_rotate.data.toList.drop 71 = dktX1_rotate_3 := dk_seg dksX1_rotate_2 24 rfl rfl
theorem dksX1_rotate_4 : cX1_rotate.data.toList.drop 93 = dktX1_rotate_4 := dk_seg dksX1_rotate_3 22 rfl rfl
theorem dX1_rotate_0 : decode cX1_rotate 0 = .ok (.aload_n 0, 1) := dk_42 (dk_at dksX1_rotate_0 0 rfl rfl)
theorem dX1_rotate_1 : decode cX1_rotate 1 = .ok (.getfield 96, 3) := dk_180 0 96 (dk_at dksX1_rotate_0 1 rfl rfl)
theorem dX1_rotate_4 : decode cX1_rotate 4 = .ok (.bipush 18, 2) := dk_16 18 (dk_at dksX1_rotate_0 4 rfl rfl)
theorem dX1_rotate_6 : decode cX1_rotate 6 = .ok (.iaload, 1) := dk_46 (dk_at dksX1_rotate_0 6 rfl rfl)
theorem dX1_rotate_7 : decode cX1_rotate 7 = .ok (.ifCond .eq 38, 3) := dk_153 0 38 (dk_at dksX1_rotate_0 7 rfl rfl)
theorem dX1_rotate_10 : decode cX1_rotate 10 = .ok (.aload_n 0, 1) := dk_42 (dk_at dksX1_rotate_0 10 rfl rfl)
theorem dX1_rotate_11 : decode cX1_rotate 11 = .ok (.getfield 83, 3) := dk_180 0 83 (dk_at dksX1_rotate_0 11 rfl rfl)
theorem dX1_rotate_14 : decode cX1_rotate 14 = .ok (.iconst (-1), 1) := dk_2 (dk_at dksX1_rotate_0 14 rfl rfl)
theorem dX1_rotate_15 : decode cX1_rotate 15 = .ok (.if_icmp .eq 30, 3) := dk_159 0 30 (dk_at dksX1_rotate_0 15 rfl rfl)
theorem dX1_rotate_18 : decode cX1_rotate 18 = .ok (.aload_n 0, 1) := dk_42 (dk_at dksX1_rotate_0 18 rfl rfl)
theorem dX1_rotate_19 : decode cX1_rotate 19 = .ok (.getfield 17, 3) := dk_180 0 17 (dk_at dksX1_rotate_0 19 rfl rfl)
theorem dX1_rotate_22 : decode cX1_rotate 22 = .ok (.aload_n 0, 1) := dk_42 (dk_at dksX1_rotate_0 22 rfl rfl)
theorem dX1_rotate_23 : decode cX1_rotate 23 = .ok (.getfield 83, 3) := dk_180 0 83 (dk_at dksX1_rotate_1 0 rfl rfl)
theorem dX1_rotate_26 : decode cX1_rotate 26 = .ok (.invokevirtual 226, 3) := dk_182 0 226 (dk_at dksX1_rotate_1 3 rfl rfl)
theorem dX1_rotate_29 : decode cX1_rotate 29 = .ok (.checkcast 117, 3) := dk_192 0 117 (dk_at dksX1_rotate_1 6 rfl rfl)
theorem dX1_rotate_32 : decode cX1_rotate 32 = .ok (.getfield 361, 3) := dk_180 1 105 (dk_at dksX1_rotate_1 9 rfl rfl)
theorem dX1_rotate_35 : decode cX1_rotate 35 = .ok (.aload_n 0, 1) := dk_42 (dk_at dksX1_rotate_1 12 rfl rfl)
theorem dX1_rotate_36 : decode cX1_rotate 36 = .ok (.getfield 96, 3) := dk_180 0 96 (dk_at dksX1_rotate_1 13 rfl rfl)
theorem dX1_rotate_39 : decode cX1_rotate 39 = .ok (.bipush 18, 2) := dk_16 18 (dk_at dksX1_rotate_1 16 rfl rfl)
theorem dX1_rotate_41 : decode cX1_rotate 41 = .ok (.iaload, 1) := dk_46 (dk_at dksX1_rotate_1 18 rfl rfl)
theorem dX1_rotate_42 : decode cX1_rotate 42 = .ok (.if_icmp .ge 4, 3) := dk_162 0 4 (dk_at dksX1_rotate_1 19 rfl rfl)
theorem dX1_rotate_45 : decode cX1_rotate 45 = .ok (.return_, 1) := dk_177 (dk_at dksX1_rotate_1 22 rfl rfl)
theorem dX1_rotate_46 : decode cX1_rotate 46 = .ok (.aload_n 0, 1) := dk_42 (dk_at dksX1_rotate_1 23 rfl rfl)
theorem dX1_rotate_47 : decode cX1_rotate 47 = .ok (.getfield 17, 3) := dk_180 0 17 (dk_at dksX1_rotate_2 0 rfl rfl)
theorem dX1_rotate_50 : decode cX1_rotate 50 = .ok (.aload_n 0, 1) := dk_42 (dk_at dksX1_rotate_2 3 rfl rfl)
theorem dX1_rotate_51 : decode cX1_rotate 51 = .ok (.getfield 83, 3) := dk_180 0 83 (dk_at dksX1_rotate_2 4 rfl rfl)
theorem dX1_rotate_54 : decode cX1_rotate 54 = .ok (.invokevirtual 226, 3) := dk_182 0 226 (dk_at dksX1_rotate_2 7 rfl rfl)
theorem dX1_rotate_57 : decode cX1_rotate 57 = .ok (.checkcast 117, 3) := dk_192 0 117 (dk_at dksX1_rotate_2 10 rfl rfl)
theorem dX1_rotate_60 : decode cX1_rotate 60 = .ok (.astore_n 1, 1) := dk_76 (dk_at dksX1_rotate_2 13 rfl rfl)
theorem dX1_rotate_61 : decode cX1_rotate 61 = .ok (.aload_n 0, 1) := dk_42 (dk_at dksX1_rotate_2 14 rfl rfl)
theorem dX1_rotate_62 : decode cX1_rotate 62 = .ok (.aload_n 1, 1) := dk_43 (dk_at dksX1_rotate_2 15 rfl rfl)
theorem dX1_rotate_63 : decode cX1_rotate 63 = .ok (.invokevirtual 364, 3) := dk_182 1 108 (dk_at dksX1_rotate_2 16 rfl rfl)
theorem dX1_rotate_66 : decode cX1_rotate 66 = .ok (.astore_n 2, 1) := dk_77 (dk_at dksX1_rotate_2 19 rfl rfl)
theorem dX1_rotate_67 : decode cX1_rotate 67 = .ok (.aload_n 2, 1) := dk_44 (dk_at dksX1_rotate_2 20 rfl rfl)
theorem dX1_rotate_68 : decode cX1_rotate 68 = .ok (.ifnull 43, 3) := dk_198 0 43 (dk_at dksX1_rotate_2 21 rfl rfl)
theorem dX1_rotate_71 : decode cX1_rotate 71 = .ok (.aload_n 2, 1) := dk_44 (dk_at dksX1_rotate_3 0 rfl rfl)
theorem dX1_rotate_72 : decode cX1_rotate 72 = .ok (.aload_n 1, 1) := dk_43 (dk_at dksX1_rotate_3 1 rfl rfl)
theorem dX1_rotate_73 : decode cX1_rotate 73 = .ok (.getfield 221, 3) := dk_180 0 221 (dk_at dksX1_rotate_3 2 rfl rfl)
theorem dX1_rotate_76 : decode cX1_rotate 76 = .ok (.invokevirtual 259, 3) := dk_182 1 3 (dk_at dksX1_rotate_3 5 rfl rfl)
theorem dX1_rotate_79 : decode cX1_rotate 79 = .ok (.aload_n 0, 1) := dk_42 (dk_at dksX1_rotate_3 8 rfl rfl)
theorem dX1_rotate_80 : decode cX1_rotate 80 = .ok (.aload_n 2, 1) := dk_44 (dk_at dksX1_rotate_3 9 rfl rfl)
theorem dX1_rotate_81 : decode cX1_rotate 81 = .ok (.getfield 191, 3) := dk_180 0 191 (dk_at dksX1_rotate_3 10 rfl rfl)
theorem dX1_rotate_84 : decode cX1_rotate 84 = .ok (.putfield 83, 3) := dk_181 0 83 (dk_at dksX1_rotate_3 13 rfl rfl)
theorem dX1_rotate_87 : decode cX1_rotate 87 = .ok (.aload_n 0, 1) := dk_42 (dk_at dksX1_rotate_3 16 rfl rfl)
theorem dX1_rotate_88 : decode cX1_rotate 88 = .ok (.iconst 0, 1) := dk_3 (dk_at dksX1_rotate_3 17 rfl rfl)
theorem dX1_rotate_89 : decode cX1_rotate 89 = .ok (.aload_n 2, 1) := dk_44 (dk_at dksX1_rotate_3 18 rfl rfl)
theorem dX1_rotate_90 : decode cX1_rotate 90 = .ok (.getfield 191, 3) := dk_180 0 191 (dk_at dksX1_rotate_3 19 rfl rfl)
theorem dX1_rotate_93 : decode cX1_rotate 93 = .ok (.invokevirtual 205, 3) := dk_182 0 205 (dk_at dksX1_rotate_4 0 rfl rfl)
theorem dX1_rotate_96 : decode cX1_rotate 96 = .ok (.aload_n 0, 1) := dk_42 (dk_at dksX1_rotate_4 3 rfl rfl)
theorem dX1_rotate_97 : decode cX1_rotate 97 = .ok (.bipush 7, 2) := dk_16 7 (dk_at dksX1_rotate_4 4 rfl rfl)
theorem dX1_rotate_99 : decode cX1_rotate 99 = .ok (.aload_n 2, 1) := dk_44 (dk_at dksX1_rotate_4 6 rfl rfl)
theorem dX1_rotate_100 : decode cX1_rotate 100 = .ok (.getfield 191, 3) := dk_180 0 191 (dk_at dksX1_rotate_4 7 rfl rfl)
theorem dX1_rotate_103 : decode cX1_rotate 103 = .ok (.invokevirtual 205, 3) := dk_182 0 205 (dk_at dksX1_rotate_4 10 rfl rfl)
theorem dX1_rotate_106 : decode cX1_rotate 106 = .ok (.aload_n 0, 1) := dk_42 (dk_at dksX1_rotate_4 13 rfl rfl)
theorem dX1_rotate_107 : decode cX1_rotate 107 = .ok (.aload_n 1, 1) := dk_43 (dk_at dksX1_rotate_4 14 rfl rfl)
theorem dX1_rotate_108 : decode cX1_rotate 108 = .ok (.invokevirtual 359, 3) := dk_182 1 103 (dk_at dksX1_rotate_4 15 rfl rfl)
theorem dX1_rotate_111 : decode cX1_rotate 111 = .ok (.return_, 1) := dk_177 (dk_at dksX1_rotate_4 18 rfl rfl)
abbrev cX1_fresh : ByteArray := prog_15_method_36_code
def yX1_fresh : MethodName := ⟨RX1, "fresh", "(LFieldPumps$Pump;)LFieldPumps$Pump;"⟩
def dkwX1_fresh_4 : List UInt8 := [132, 3, 1, 167, 255, 166, 44, 176]
abbrev dktX1_fresh_4 : List UInt8 := dkwX1_fresh_4 ++ []
def dkwX1_fresh_3 : List UInt8 := [198, 0, 15, 25, 4, 180, 1, 10, 44, 180, 1, 10, 162, 0, 8, 25, 4, 167, 0, 4, 44, 77]
abbrev dktX1_fresh_3 : List UInt8 := dkwX1_fresh_3 ++ dktX1_fresh_4
def dkwX1_fresh_2 : List UInt8 := [180, 1, 10, 43, 180, 1, 10, 162, 0, 7, 4, 167, 0, 4, 3, 54, 5, 21, 5, 153, 0, 24, 44]
abbrev dktX1_fresh_2 : List UInt8 := dkwX1_fresh_2 ++ dktX1_fresh_3
def dkwX1_fresh_1 : List UInt8 := [192, 0, 117, 58, 4, 25, 4, 182, 0, 234, 153, 0, 27, 25, 4, 193, 1, 1, 153, 0, 19, 25, 4]
abbrev dktX1_fresh_1 : List UInt8 := dkwX1_fresh_1 ++ dktX1_fresh_2
def dkwX1_fresh_0 : List UInt8 := [1, 77, 3, 62, 29, 42, 180, 0, 17, 182, 0, 198, 162, 0, 85, 42, 180, 0, 17, 29, 182, 0, 226]
abbrev dktX1_fresh_0 : List UInt8 := dkwX1_fresh_0 ++ dktX1_fresh_1
theorem dksX1_fresh_0 : cX1_fresh.data.toList.drop 0 = dktX1_fresh_0 := by decide +kernel
theorem dksX1_fresh_1 : cX1_fresh.data.toList.drop 23 = dktX1_fresh_1 := dk_seg dksX1_fresh_0 23 rfl rfl
theorem dksX1_fresh_2 : cX1_fresh.data.toList.drop 46 = dktX1_fresh_2 := dk_seg dksX1_fresh_1 23 rfl rfl
theorem dksX1_fresh_3 : cX1_fresh.data.toList.drop 69 = dktX1_fresh_3 := dk_seg dksX1_fresh_2 23 rfl rfl
theorem dksX1_fresh_4 : cX1_fresh.data.toList.drop 91 = dktX1_fresh_4 := dk_seg dksX1_fresh_3 22 rfl rfl
theorem dX1_fresh_0 : decode cX1_fresh 0 = .ok (.aconst_null, 1) := dk_1 (dk_at dksX1_fresh_0 0 rfl rfl)
theorem dX1_fresh_1 : decode cX1_fresh 1 = .ok (.astore_n 2, 1) := dk_77 (dk_at dksX1_fresh_0 1 rfl rfl)
theorem dX1_fresh_2 : decode cX1_fresh 2 = .ok (.iconst 0, 1) := dk_3 (dk_at dksX1_fresh_0 2 rfl rfl)
theorem dX1_fresh_3 : decode cX1_fresh 3 = .ok (.istore_n 3, 1) := dk_62 (dk_at dksX1_fresh_0 3 rfl rfl)
theorem dX1_fresh_4 : decode cX1_fresh 4 = .ok (.iload_n 3, 1) := dk_29 (dk_at dksX1_fresh_0 4 rfl rfl)
theorem dX1_fresh_5 : decode cX1_fresh 5 = .ok (.aload_n 0, 1) := dk_42 (dk_at dksX1_fresh_0 5 rfl rfl)
theorem dX1_fresh_6 : decode cX1_fresh 6 = .ok (.getfield 17, 3) := dk_180 0 17 (dk_at dksX1_fresh_0 6 rfl rfl)
theorem dX1_fresh_9 : decode cX1_fresh 9 = .ok (.invokevirtual 198, 3) := dk_182 0 198 (dk_at dksX1_fresh_0 9 rfl rfl)
theorem dX1_fresh_12 : decode cX1_fresh 12 = .ok (.if_icmp .ge 85, 3) := dk_162 0 85 (dk_at dksX1_fresh_0 12 rfl rfl)
theorem dX1_fresh_15 : decode cX1_fresh 15 = .ok (.aload_n 0, 1) := dk_42 (dk_at dksX1_fresh_0 15 rfl rfl)
theorem dX1_fresh_16 : decode cX1_fresh 16 = .ok (.getfield 17, 3) := dk_180 0 17 (dk_at dksX1_fresh_0 16 rfl rfl)
theorem dX1_fresh_19 : decode cX1_fresh 19 = .ok (.iload_n 3, 1) := dk_29 (dk_at dksX1_fresh_0 19 rfl rfl)
theorem dX1_fresh_20 : decode cX1_fresh 20 = .ok (.invokevirtual 226, 3) := dk_182 0 226 (dk_at dksX1_fresh_0 20 rfl rfl)
theorem dX1_fresh_23 : decode cX1_fresh 23 = .ok (.checkcast 117, 3) := dk_192 0 117 (dk_at dksX1_fresh_1 0 rfl rfl)
theorem dX1_fresh_26 : decode cX1_fresh 26 = .ok (.astore 4, 2) := dk_58 4 (dk_at dksX1_fresh_1 3 rfl rfl)
theorem dX1_fresh_28 : decode cX1_fresh 28 = .ok (.aload 4, 2) := dk_25 4 (dk_at dksX1_fresh_1 5 rfl rfl)
theorem dX1_fresh_30 : decode cX1_fresh 30 = .ok (.invokevirtual 234, 3) := dk_182 0 234 (dk_at dksX1_fresh_1 7 rfl rfl)
theorem dX1_fresh_33 : decode cX1_fresh 33 = .ok (.ifCond .eq 27, 3) := dk_153 0 27 (dk_at dksX1_fresh_1 10 rfl rfl)
theorem dX1_fresh_36 : decode cX1_fresh 36 = .ok (.aload 4, 2) := dk_25 4 (dk_at dksX1_fresh_1 13 rfl rfl)
theorem dX1_fresh_38 : decode cX1_fresh 38 = .ok (.instanceof 257, 3) := dk_193 1 1 (dk_at dksX1_fresh_1 15 rfl rfl)
theorem dX1_fresh_41 : decode cX1_fresh 41 = .ok (.ifCond .eq 19, 3) := dk_153 0 19 (dk_at dksX1_fresh_1 18 rfl rfl)
theorem dX1_fresh_44 : decode cX1_fresh 44 = .ok (.aload 4, 2) := dk_25 4 (dk_at dksX1_fresh_1 21 rfl rfl)
theorem dX1_fresh_46 : decode cX1_fresh 46 = .ok (.getfield 266, 3) := dk_180 1 10 (dk_at dksX1_fresh_2 0 rfl rfl)
theorem dX1_fresh_49 : decode cX1_fresh 49 = .ok (.aload_n 1, 1) := dk_43 (dk_at dksX1_fresh_2 3 rfl rfl)
theorem dX1_fresh_50 : decode cX1_fresh 50 = .ok (.getfield 266, 3) := dk_180 1 10 (dk_at dksX1_fresh_2 4 rfl rfl)
theorem dX1_fresh_53 : decode cX1_fresh 53 = .ok (.if_icmp .ge 7, 3) := dk_162 0 7 (dk_at dksX1_fresh_2 7 rfl rfl)
theorem dX1_fresh_56 : decode cX1_fresh 56 = .ok (.iconst 1, 1) := dk_4 (dk_at dksX1_fresh_2 10 rfl rfl)
theorem dX1_fresh_57 : decode cX1_fresh 57 = .ok (.goto 4, 3) := dk_167 0 4 (dk_at dksX1_fresh_2 11 rfl rfl)
theorem dX1_fresh_60 : decode cX1_fresh 60 = .ok (.iconst 0, 1) := dk_3 (dk_at dksX1_fresh_2 14 rfl rfl)
theorem dX1_fresh_61 : decode cX1_fresh 61 = .ok (.istore 5, 2) := dk_54 5 (dk_at dksX1_fresh_2 15 rfl rfl)
theorem dX1_fresh_63 : decode cX1_fresh 63 = .ok (.iload 5, 2) := dk_21 5 (dk_at dksX1_fresh_2 17 rfl rfl)
theorem dX1_fresh_65 : decode cX1_fresh 65 = .ok (.ifCond .eq 24, 3) := dk_153 0 24 (dk_at dksX1_fresh_2 19 rfl rfl)
theorem dX1_fresh_68 : decode cX1_fresh 68 = .ok (.aload_n 2, 1) := dk_44 (dk_at dksX1_fresh_2 22 rfl rfl)
theorem dX1_fresh_69 : decode cX1_fresh 69 = .ok (.ifnull 15, 3) := dk_198 0 15 (dk_at dksX1_fresh_3 0 rfl rfl)
theorem dX1_fresh_72 : decode cX1_fresh 72 = .ok (.aload 4, 2) := dk_25 4 (dk_at dksX1_fresh_3 3 rfl rfl)
theorem dX1_fresh_74 : decode cX1_fresh 74 = .ok (.getfield 266, 3) := dk_180 1 10 (dk_at dksX1_fresh_3 5 rfl rfl)
theorem dX1_fresh_77 : decode cX1_fresh 77 = .ok (.aload_n 2, 1) := dk_44 (dk_at dksX1_fresh_3 8 rfl rfl)
theorem dX1_fresh_78 : decode cX1_fresh 78 = .ok (.getfield 266, 3) := dk_180 1 10 (dk_at dksX1_fresh_3 9 rfl rfl)
theorem dX1_fresh_81 : decode cX1_fresh 81 = .ok (.if_icmp .ge 8, 3) := dk_162 0 8 (dk_at dksX1_fresh_3 12 rfl rfl)
theorem dX1_fresh_84 : decode cX1_fresh 84 = .ok (.aload 4, 2) := dk_25 4 (dk_at dksX1_fresh_3 15 rfl rfl)
theorem dX1_fresh_86 : decode cX1_fresh 86 = .ok (.goto 4, 3) := dk_167 0 4 (dk_at dksX1_fresh_3 17 rfl rfl)
theorem dX1_fresh_89 : decode cX1_fresh 89 = .ok (.aload_n 2, 1) := dk_44 (dk_at dksX1_fresh_3 20 rfl rfl)
theorem dX1_fresh_90 : decode cX1_fresh 90 = .ok (.astore_n 2, 1) := dk_77 (dk_at dksX1_fresh_3 21 rfl rfl)
theorem dX1_fresh_91 : decode cX1_fresh 91 = .ok (.iinc 3 1, 3) := dk_132 3 1 (dk_at dksX1_fresh_4 0 rfl rfl)
theorem dX1_fresh_94 : decode cX1_fresh 94 = .ok (.goto (-90), 3) := dk_167 255 166 (dk_at dksX1_fresh_4 3 rfl rfl)
theorem dX1_fresh_97 : decode cX1_fresh 97 = .ok (.aload_n 2, 1) := dk_44 (dk_at dksX1_fresh_4 6 rfl rfl)
theorem dX1_fresh_98 : decode cX1_fresh 98 = .ok (.areturn, 1) := dk_176 (dk_at dksX1_fresh_4 7 rfl rfl)
abbrev cX1_clearTrips : ByteArray := prog_15_method_25_code
def yX1_clearTrips : MethodName := ⟨RX1, "clearTrips", "()V"⟩
def dkwX1_clearTrips_0 : List UInt8 := [42, 3, 181, 0, 178, 42, 182, 1, 49, 153, 0, 7, 42, 182, 1, 52, 177]
abbrev dktX1_clearTrips_0 : List UInt8 := dkwX1_clearTrips_0 ++ []
theorem dksX1_clearTrips_0 : cX1_clearTrips.data.toList.drop 0 = dktX1_clearTrips_0 := by decide +kernel
theorem dX1_clearTrips_0 : decode cX1_clearTrips 0 = .ok (.aload_n 0, 1) := dk_42 (dk_at dksX1_clearTrips_0 0 rfl rfl)
theorem dX1_clearTrips_1 : decode cX1_clearTrips 1 = .ok (.iconst 0, 1) := dk_3 (dk_at dksX1_clearTrips_0 1 rfl rfl)
theorem dX1_clearTrips_2 : decode cX1_clearTrips 2 = .ok (.putfield 178, 3) := dk_181 0 178 (dk_at dksX1_clearTrips_0 2 rfl rfl)
theorem dX1_clearTrips_5 : decode cX1_clearTrips 5 = .ok (.aload_n 0, 1) := dk_42 (dk_at dksX1_clearTrips_0 5 rfl rfl)
theorem dX1_clearTrips_6 : decode cX1_clearTrips 6 = .ok (.invokevirtual 305, 3) := dk_182 1 49 (dk_at dksX1_clearTrips_0 6 rfl rfl)
theorem dX1_clearTrips_9 : decode cX1_clearTrips 9 = .ok (.ifCond .eq 7, 3) := dk_153 0 7 (dk_at dksX1_clearTrips_0 9 rfl rfl)
theorem dX1_clearTrips_12 : decode cX1_clearTrips 12 = .ok (.aload_n 0, 1) := dk_42 (dk_at dksX1_clearTrips_0 12 rfl rfl)
theorem dX1_clearTrips_13 : decode cX1_clearTrips 13 = .ok (.invokevirtual 308, 3) := dk_182 1 52 (dk_at dksX1_clearTrips_0 13 rfl rfl)
theorem dX1_clearTrips_16 : decode cX1_clearTrips 16 = .ok (.return_, 1) := dk_177 (dk_at dksX1_clearTrips_0 16 rfl rfl)
abbrev cX1_isZone : ByteArray := prog_15_method_6_code
def yX1_isZone : MethodName := ⟨RX1, "isZone", "(I)Z"⟩
def dkwX1_isZone_0 : List UInt8 := [27, 133, 9, 42, 180, 0, 151, 4, 100, 133, 184, 0, 201, 172]
abbrev dktX1_isZone_0 : List UInt8 := dkwX1_isZone_0 ++ []
theorem dksX1_isZone_0 : cX1_isZone.data.toList.drop 0 = dktX1_isZone_0 := by decide +kernel
theorem dX1_isZone_0 : decode cX1_isZone 0 = .ok (.iload_n 1, 1) := dk_27 (dk_at dksX1_isZone_0 0 rfl rfl)
theorem dX1_isZone_1 : decode cX1_isZone 1 = .ok (.i2l, 1) := dk_133 (dk_at dksX1_isZone_0 1 rfl rfl)
theorem dX1_isZone_2 : decode cX1_isZone 2 = .ok (.lconst 0, 1) := dk_9 (dk_at dksX1_isZone_0 2 rfl rfl)
theorem dX1_isZone_3 : decode cX1_isZone 3 = .ok (.aload_n 0, 1) := dk_42 (dk_at dksX1_isZone_0 3 rfl rfl)
theorem dX1_isZone_4 : decode cX1_isZone 4 = .ok (.getfield 151, 3) := dk_180 0 151 (dk_at dksX1_isZone_0 4 rfl rfl)
theorem dX1_isZone_7 : decode cX1_isZone 7 = .ok (.iconst 1, 1) := dk_4 (dk_at dksX1_isZone_0 7 rfl rfl)
theorem dX1_isZone_8 : decode cX1_isZone 8 = .ok (.isub, 1) := dk_100 (dk_at dksX1_isZone_0 8 rfl rfl)
theorem dX1_isZone_9 : decode cX1_isZone 9 = .ok (.i2l, 1) := dk_133 (dk_at dksX1_isZone_0 9 rfl rfl)
theorem dX1_isZone_10 : decode cX1_isZone 10 = .ok (.invokestatic 201, 3) := dk_184 0 201 (dk_at dksX1_isZone_0 10 rfl rfl)
theorem dX1_isZone_13 : decode cX1_isZone 13 = .ok (.ireturn, 1) := dk_172 (dk_at dksX1_isZone_0 13 rfl rfl)
abbrev cX1_can : ByteArray := prog_15_method_39_code
def yX1_can : MethodName := ⟨RX1, "can", "(II)Z"⟩
def dkwX1_can_5 : List UInt8 := [167, 0, 4, 3, 172, 42, 180, 0, 178, 158, 0, 7, 4, 167, 0, 4, 3, 172]
abbrev dktX1_can_5 : List UInt8 := dkwX1_can_5 ++ []
def dkwX1_can_4 : List UInt8 := [10, 20, 1, 117, 184, 0, 201, 153, 0, 19, 42, 180, 0, 154, 28, 96, 17, 78, 32, 163, 0, 7, 4]
abbrev dktX1_can_4 : List UInt8 := dkwX1_can_4 ++ dktX1_can_5
def dkwX1_can_3 : List UInt8 := [180, 0, 17, 28, 182, 0, 226, 192, 0, 117, 180, 1, 114, 154, 0, 7, 4, 167, 0, 4, 3, 172, 28, 133]
abbrev dktX1_can_3 : List UInt8 := dkwX1_can_3 ++ dktX1_can_4
def dkwX1_can_2 : List UInt8 := [42, 180, 0, 46, 28, 51, 154, 0, 7, 4, 167, 0, 4, 3, 172, 42, 180, 0, 46, 28, 51, 172, 42]
abbrev dktX1_can_2 : List UInt8 := dkwX1_can_2 ++ dktX1_can_3
def dkwX1_can_1 : List UInt8 := [170, 0, 0, 0, 0, 0, 106, 0, 0, 0, 0, 0, 0, 0, 3, 0, 0, 0, 31, 0, 0, 0, 46, 0, 0, 0, 53, 0, 0, 0, 76]
abbrev dktX1_can_1 : List UInt8 := dkwX1_can_1 ++ dktX1_can_2
def dkwX1_can_0 : List UInt8 := [27]
abbrev dktX1_can_0 : List UInt8 := dkwX1_can_0 ++ dktX1_can_1
theorem dksX1_can_0 : cX1_can.data.toList.drop 0 = dktX1_can_0 := by decide +kernel
theorem dksX1_can_1 : cX1_can.data.toList.drop 1 = dktX1_can_1 := dk_seg dksX1_can_0 1 rfl rfl
theorem dksX1_can_2 : cX1_can.data.toList.drop 32 = dktX1_can_2 := dk_seg dksX1_can_1 31 rfl rfl
theorem dksX1_can_3 : cX1_can.data.toList.drop 55 = dktX1_can_3 := dk_seg dksX1_can_2 23 rfl rfl
theorem dksX1_can_4 : cX1_can.data.toList.drop 79 = dktX1_can_4 := dk_seg dksX1_can_3 24 rfl rfl
theorem dksX1_can_5 : cX1_can.data.toList.drop 102 = dktX1_can_5 := dk_seg dksX1_can_4 23 rfl rfl
theorem dX1_can_0 : decode cX1_can 0 = .ok (.iload_n 1, 1) := dk_27 (dk_at dksX1_can_0 0 rfl rfl)
theorem dX1_can_1 : decode cX1_can 1 = .ok (.tableswitch 106 0 3 #[31, 46, 53, 76], 31) := by decide +kernel
theorem dX1_can_32 : decode cX1_can 32 = .ok (.aload_n 0, 1) := dk_42 (dk_at dksX1_can_2 0 rfl rfl)
theorem dX1_can_33 : decode cX1_can 33 = .ok (.getfield 46, 3) := dk_180 0 46 (dk_at dksX1_can_2 1 rfl rfl)
theorem dX1_can_36 : decode cX1_can 36 = .ok (.iload_n 2, 1) := dk_28 (dk_at dksX1_can_2 4 rfl rfl)
theorem dX1_can_37 : decode cX1_can 37 = .ok (.baload, 1) := dk_51 (dk_at dksX1_can_2 5 rfl rfl)
theorem dX1_can_38 : decode cX1_can 38 = .ok (.ifCond .ne 7, 3) := dk_154 0 7 (dk_at dksX1_can_2 6 rfl rfl)
theorem dX1_can_41 : decode cX1_can 41 = .ok (.iconst 1, 1) := dk_4 (dk_at dksX1_can_2 9 rfl rfl)
theorem dX1_can_42 : decode cX1_can 42 = .ok (.goto 4, 3) := dk_167 0 4 (dk_at dksX1_can_2 10 rfl rfl)
theorem dX1_can_45 : decode cX1_can 45 = .ok (.iconst 0, 1) := dk_3 (dk_at dksX1_can_2 13 rfl rfl)
theorem dX1_can_46 : decode cX1_can 46 = .ok (.ireturn, 1) := dk_172 (dk_at dksX1_can_2 14 rfl rfl)
theorem dX1_can_47 : decode cX1_can 47 = .ok (.aload_n 0, 1) := dk_42 (dk_at dksX1_can_2 15 rfl rfl)
theorem dX1_can_48 : decode cX1_can 48 = .ok (.getfield 46, 3) := dk_180 0 46 (dk_at dksX1_can_2 16 rfl rfl)
theorem dX1_can_51 : decode cX1_can 51 = .ok (.iload_n 2, 1) := dk_28 (dk_at dksX1_can_2 19 rfl rfl)
theorem dX1_can_52 : decode cX1_can 52 = .ok (.baload, 1) := dk_51 (dk_at dksX1_can_2 20 rfl rfl)
theorem dX1_can_53 : decode cX1_can 53 = .ok (.ireturn, 1) := dk_172 (dk_at dksX1_can_2 21 rfl rfl)
theorem dX1_can_54 : decode cX1_can 54 = .ok (.aload_n 0, 1) := dk_42 (dk_at dksX1_can_2 22 rfl rfl)
theorem dX1_can_55 : decode cX1_can 55 = .ok (.getfield 17, 3) := dk_180 0 17 (dk_at dksX1_can_3 0 rfl rfl)
theorem dX1_can_58 : decode cX1_can 58 = .ok (.iload_n 2, 1) := dk_28 (dk_at dksX1_can_3 3 rfl rfl)
theorem dX1_can_59 : decode cX1_can 59 = .ok (.invokevirtual 226, 3) := dk_182 0 226 (dk_at dksX1_can_3 4 rfl rfl)
theorem dX1_can_62 : decode cX1_can 62 = .ok (.checkcast 117, 3) := dk_192 0 117 (dk_at dksX1_can_3 7 rfl rfl)
theorem dX1_can_65 : decode cX1_can 65 = .ok (.getfield 370, 3) := dk_180 1 114 (dk_at dksX1_can_3 10 rfl rfl)
theorem dX1_can_68 : decode cX1_can 68 = .ok (.ifCond .ne 7, 3) := dk_154 0 7 (dk_at dksX1_can_3 13 rfl rfl)
theorem dX1_can_71 : decode cX1_can 71 = .ok (.iconst 1, 1) := dk_4 (dk_at dksX1_can_3 16 rfl rfl)
theorem dX1_can_72 : decode cX1_can 72 = .ok (.goto 4, 3) := dk_167 0 4 (dk_at dksX1_can_3 17 rfl rfl)
theorem dX1_can_75 : decode cX1_can 75 = .ok (.iconst 0, 1) := dk_3 (dk_at dksX1_can_3 20 rfl rfl)
theorem dX1_can_76 : decode cX1_can 76 = .ok (.ireturn, 1) := dk_172 (dk_at dksX1_can_3 21 rfl rfl)
theorem dX1_can_77 : decode cX1_can 77 = .ok (.iload_n 2, 1) := dk_28 (dk_at dksX1_can_3 22 rfl rfl)
theorem dX1_can_78 : decode cX1_can 78 = .ok (.i2l, 1) := dk_133 (dk_at dksX1_can_3 23 rfl rfl)
theorem dX1_can_79 : decode cX1_can 79 = .ok (.lconst 1, 1) := dk_10 (dk_at dksX1_can_4 0 rfl rfl)
theorem dX1_can_80 : decode cX1_can 80 = .ok (.ldc2_w 373, 3) := dk_20 1 117 (dk_at dksX1_can_4 1 rfl rfl)
theorem dX1_can_83 : decode cX1_can 83 = .ok (.invokestatic 201, 3) := dk_184 0 201 (dk_at dksX1_can_4 4 rfl rfl)
theorem dX1_can_86 : decode cX1_can 86 = .ok (.ifCond .eq 19, 3) := dk_153 0 19 (dk_at dksX1_can_4 7 rfl rfl)
theorem dX1_can_89 : decode cX1_can 89 = .ok (.aload_n 0, 1) := dk_42 (dk_at dksX1_can_4 10 rfl rfl)
theorem dX1_can_90 : decode cX1_can 90 = .ok (.getfield 154, 3) := dk_180 0 154 (dk_at dksX1_can_4 11 rfl rfl)
theorem dX1_can_93 : decode cX1_can 93 = .ok (.iload_n 2, 1) := dk_28 (dk_at dksX1_can_4 14 rfl rfl)
theorem dX1_can_94 : decode cX1_can 94 = .ok (.iadd, 1) := dk_96 (dk_at dksX1_can_4 15 rfl rfl)
theorem dX1_can_95 : decode cX1_can 95 = .ok (.sipush 20000, 3) := dk_17 78 32 (dk_at dksX1_can_4 16 rfl rfl)
theorem dX1_can_98 : decode cX1_can 98 = .ok (.if_icmp .gt 7, 3) := dk_163 0 7 (dk_at dksX1_can_4 19 rfl rfl)
theorem dX1_can_101 : decode cX1_can 101 = .ok (.iconst 1, 1) := dk_4 (dk_at dksX1_can_4 22 rfl rfl)
theorem dX1_can_102 : decode cX1_can 102 = .ok (.goto 4, 3) := dk_167 0 4 (dk_at dksX1_can_5 0 rfl rfl)
theorem dX1_can_105 : decode cX1_can 105 = .ok (.iconst 0, 1) := dk_3 (dk_at dksX1_can_5 3 rfl rfl)
theorem dX1_can_106 : decode cX1_can 106 = .ok (.ireturn, 1) := dk_172 (dk_at dksX1_can_5 4 rfl rfl)
theorem dX1_can_107 : decode cX1_can 107 = .ok (.aload_n 0, 1) := dk_42 (dk_at dksX1_can_5 5 rfl rfl)
theorem dX1_can_108 : decode cX1_can 108 = .ok (.getfield 178, 3) := dk_180 0 178 (dk_at dksX1_can_5 6 rfl rfl)
theorem dX1_can_111 : decode cX1_can 111 = .ok (.ifCond .le 7, 3) := dk_158 0 7 (dk_at dksX1_can_5 9 rfl rfl)
theorem dX1_can_114 : decode cX1_can 114 = .ok (.iconst 1, 1) := dk_4 (dk_at dksX1_can_5 12 rfl rfl)
theorem dX1_can_115 : decode cX1_can 115 = .ok (.goto 4, 3) := dk_167 0 4 (dk_at dksX1_can_5 13 rfl rfl)
theorem dX1_can_118 : decode cX1_can 118 = .ok (.iconst 0, 1) := dk_3 (dk_at dksX1_can_5 16 rfl rfl)
theorem dX1_can_119 : decode cX1_can 119 = .ok (.ireturn, 1) := dk_172 (dk_at dksX1_can_5 17 rfl rfl)
abbrev cX1_leader : ByteArray := prog_15_method_14_code
def yX1_leader : MethodName := ⟨RX1, "leader", "()Ljava/util/Optional;"⟩
def dkwX1_leader_1 : List UInt8 := [182, 0, 226, 192, 0, 117, 184, 0, 253, 176]
abbrev dktX1_leader_1 : List UInt8 := dkwX1_leader_1 ++ []
def dkwX1_leader_0 : List UInt8 := [42, 180, 0, 83, 2, 160, 0, 9, 184, 0, 247, 167, 0, 20, 42, 180, 0, 17, 42, 180, 0, 83]
abbrev dktX1_leader_0 : List UInt8 := dkwX1_leader_0 ++ dktX1_leader_1
theorem dksX1_leader_0 : cX1_leader.data.toList.drop 0 = dktX1_leader_0 := by decide +kernel
theorem dksX1_leader_1 : cX1_leader.data.toList.drop 22 = dktX1_leader_1 := dk_seg dksX1_leader_0 22 rfl rfl
theorem dX1_leader_0 : decode cX1_leader 0 = .ok (.aload_n 0, 1) := dk_42 (dk_at dksX1_leader_0 0 rfl rfl)
theorem dX1_leader_1 : decode cX1_leader 1 = .ok (.getfield 83, 3) := dk_180 0 83 (dk_at dksX1_leader_0 1 rfl rfl)
theorem dX1_leader_4 : decode cX1_leader 4 = .ok (.iconst (-1), 1) := dk_2 (dk_at dksX1_leader_0 4 rfl rfl)
theorem dX1_leader_5 : decode cX1_leader 5 = .ok (.if_icmp .ne 9, 3) := dk_160 0 9 (dk_at dksX1_leader_0 5 rfl rfl)
theorem dX1_leader_8 : decode cX1_leader 8 = .ok (.invokestatic 247, 3) := dk_184 0 247 (dk_at dksX1_leader_0 8 rfl rfl)
theorem dX1_leader_11 : decode cX1_leader 11 = .ok (.goto 20, 3) := dk_167 0 20 (dk_at dksX1_leader_0 11 rfl rfl)
theorem dX1_leader_14 : decode cX1_leader 14 = .ok (.aload_n 0, 1) := dk_42 (dk_at dksX1_leader_0 14 rfl rfl)
theorem dX1_leader_15 : decode cX1_leader 15 = .ok (.getfield 17, 3) := dk_180 0 17 (dk_at dksX1_leader_0 15 rfl rfl)
theorem dX1_leader_18 : decode cX1_leader 18 = .ok (.aload_n 0, 1) := dk_42 (dk_at dksX1_leader_0 18 rfl rfl)
theorem dX1_leader_19 : decode cX1_leader 19 = .ok (.getfield 83, 3) := dk_180 0 83 (dk_at dksX1_leader_0 19 rfl rfl)
theorem dX1_leader_22 : decode cX1_leader 22 = .ok (.invokevirtual 226, 3) := dk_182 0 226 (dk_at dksX1_leader_1 0 rfl rfl)
theorem dX1_leader_25 : decode cX1_leader 25 = .ok (.checkcast 117, 3) := dk_192 0 117 (dk_at dksX1_leader_1 3 rfl rfl)
theorem dX1_leader_28 : decode cX1_leader 28 = .ok (.invokestatic 253, 3) := dk_184 0 253 (dk_at dksX1_leader_1 6 rfl rfl)
theorem dX1_leader_31 : decode cX1_leader 31 = .ok (.areturn, 1) := dk_176 (dk_at dksX1_leader_1 9 rfl rfl)
theorem q97 : (Jvm.Cond.initialized "FieldPumps$Station") ∈ lw_all := lw_g (lw_at lw_m1 2 rfl) rfl
theorem q147 : (Jvm.Cond.instantiable "FieldPumps$Station" (30 : Nat)) ∈ lw_all := lw_g (lw_at lw_m1 52 rfl) rfl
theorem q149 : (Jvm.Cond.instanceMethod ({ cls := "FieldPumps$Station", name := "<init>", desc := "()V" } : Jvm.MethodName)) ∈ lw_all := lw_g (lw_at lw_m1 54 rfl) rfl
theorem q150 : (Jvm.Cond.code ({ cls := "FieldPumps$Station", name := "<init>", desc := "()V" } : Jvm.MethodName) prog_15_method_1_code (1 : Nat) (Option.none : Option Jvm.ClassFile.FieldType)) ∈ lw_all := lw_g (lw_at lw_m1 55 rfl) rfl
theorem q151 : (Jvm.Cond.methodLink "FieldPumps$Station" (3 : Nat) ({ cls := "FieldPumps$Station", name := "<init>", desc := "([I)V" } : Jvm.MethodName)) ∈ lw_all := lw_g (lw_at lw_m1 56 rfl) rfl
theorem q152 : (Jvm.Cond.instanceMethod ({ cls := "FieldPumps$Station", name := "<init>", desc := "([I)V" } : Jvm.MethodName)) ∈ lw_all := lw_g (lw_at lw_m1 57 rfl) rfl
theorem q153 : (Jvm.Cond.code ({ cls := "FieldPumps$Station", name := "<init>", desc := "([I)V" } : Jvm.MethodName) prog_15_method_2_code (2 : Nat) (Option.none : Option Jvm.ClassFile.FieldType)) ∈ lw_all := lw_g (lw_at lw_m1 58 rfl) rfl
theorem q154 : (Jvm.Cond.methodLink "FieldPumps$Station" (9 : Nat) ({ cls := "java/lang/Object", name := "<init>", desc := "()V" } : Jvm.MethodName)) ∈ lw_all := lw_g (lw_at lw_m1 59 rfl) rfl
theorem q155 : (Jvm.Cond.classLink "FieldPumps$Station" (14 : Nat) "java/util/ArrayList") ∈ lw_all := lw_g (lw_at lw_m1 60 rfl) rfl
theorem q157 : (Jvm.Cond.methodLink "FieldPumps$Station" (16 : Nat) ({ cls := "java/util/ArrayList", name := "<init>", desc := "()V" } : Jvm.MethodName)) ∈ lw_all := lw_g (lw_at lw_m1 62 rfl) rfl
theorem q185 : (Jvm.Cond.classLink "FieldPumps$Station" (37 : Nat) "FieldPumps$Curve") ∈ lw_all := lw_g (lw_at lw_m1 90 rfl) rfl
theorem q187 : (Jvm.Cond.classLink "FieldPumps$Station" (53 : Nat) "FieldPumps$Watch") ∈ lw_all := lw_g (lw_at lw_m1 92 rfl) rfl
theorem q189 : (Jvm.Cond.methodLink "FieldPumps$Station" (59 : Nat) ({ cls := "FieldPumps$Stage", name := "values", desc := "()[LFieldPumps$Stage;" } : Jvm.MethodName)) ∈ lw_all := lw_g (lw_at lw_m1 94 rfl) rfl
theorem q202 : (Jvm.Cond.classLink "FieldPumps$Station" (69 : Nat) "java/util/PriorityQueue") ∈ lw_all := lw_g (lw_at lw_m1 107 rfl) rfl
theorem q204 : (Jvm.Cond.classLink "FieldPumps$Station" (71 : Nat) "FieldPumps$Station$1") ∈ lw_all := lw_g (lw_at lw_m1 109 rfl) rfl
theorem q206 : (Jvm.Cond.methodLink "FieldPumps$Station" (73 : Nat) ({ cls := "FieldPumps$Station$1", name := "<init>", desc := "(LFieldPumps$Station;)V" } : Jvm.MethodName)) ∈ lw_all := lw_g (lw_at lw_m1 111 rfl) rfl
theorem q215 : (Jvm.Cond.methodLink "FieldPumps$Station" (76 : Nat) ({ cls := "java/util/PriorityQueue", name := "<init>", desc := "(ILjava/util/Comparator;)V" } : Jvm.MethodName)) ∈ lw_all := lw_g (lw_at lw_m1 120 rfl) rfl
theorem q237 : (Jvm.Cond.static ({ cls := "FieldPumps$Station", name := "lambda$new$0", desc := "(LFieldPumps$Station;)Z" } : Jvm.MethodName)) ∈ lw_all := lw_g (lw_at lw_m1 142 rfl) rfl
theorem q238 : (Jvm.Cond.code ({ cls := "FieldPumps$Station", name := "lambda$new$0", desc := "(LFieldPumps$Station;)Z" } : Jvm.MethodName) prog_15_method_44_code (1 : Nat) (Option.some Jvm.ClassFile.FieldType.boolean)) ∈ lw_all := lw_g (lw_at lw_m1 143 rfl) rfl
theorem q239 : (Jvm.Cond.methodLink "FieldPumps$Station" (315 : Nat) ({ cls := "FieldPumps$Station", name := "off", desc := "()I" } : Jvm.MethodName)) ∈ lw_all := lw_g (lw_at lw_m1 144 rfl) rfl
theorem q240 : (Jvm.Cond.privateMethod ({ cls := "FieldPumps$Station", name := "off", desc := "()I" } : Jvm.MethodName)) ∈ lw_tbl := lw_at lw_m1 145 rfl
theorem q241 : (Jvm.Cond.instanceMethod ({ cls := "FieldPumps$Station", name := "off", desc := "()I" } : Jvm.MethodName)) ∈ lw_all := lw_g (lw_at lw_m1 146 rfl) rfl
theorem q242 : (Jvm.Cond.code ({ cls := "FieldPumps$Station", name := "off", desc := "()I" } : Jvm.MethodName) prog_15_method_29_code (1 : Nat) (Option.some Jvm.ClassFile.FieldType.int)) ∈ lw_all := lw_g (lw_at lw_m1 147 rfl) rfl
theorem q243 : (Jvm.Cond.methodLink "FieldPumps$Station" (311 : Nat) ({ cls := "FieldPumps$Station", name := "isAtSpeed", desc := "(I)Z" } : Jvm.MethodName)) ∈ lw_all := lw_g (lw_at lw_m1 148 rfl) rfl
theorem q244 : (Jvm.Cond.privateMethod ({ cls := "FieldPumps$Station", name := "isAtSpeed", desc := "(I)Z" } : Jvm.MethodName)) ∈ lw_tbl := lw_at lw_m1 149 rfl
theorem q245 : (Jvm.Cond.instanceMethod ({ cls := "FieldPumps$Station", name := "isAtSpeed", desc := "(I)Z" } : Jvm.MethodName)) ∈ lw_all := lw_g (lw_at lw_m1 150 rfl) rfl
theorem q246 : (Jvm.Cond.code ({ cls := "FieldPumps$Station", name := "isAtSpeed", desc := "(I)Z" } : Jvm.MethodName) prog_15_method_27_code (2 : Nat) (Option.some Jvm.ClassFile.FieldType.boolean)) ∈ lw_all := lw_g (lw_at lw_m1 151 rfl) rfl
theorem q247 : (Jvm.Cond.methodLink "FieldPumps$Station" (226 : Nat) ({ cls := "java/util/ArrayList", name := "get", desc := "(I)Ljava/lang/Object;" } : Jvm.MethodName)) ∈ lw_all := lw_g (lw_at lw_m1 152 rfl) rfl
theorem q261 : (Jvm.Cond.classLink "FieldPumps$Station" (117 : Nat) "FieldPumps$Pump") ∈ lw_all := lw_g (lw_at lw_m1 166 rfl) rfl
theorem q262 : (Jvm.Cond.static ({ cls := "FieldPumps$Station", name := "lambda$new$1", desc := "(LFieldPumps$Station;)Z" } : Jvm.MethodName)) ∈ lw_all := lw_g (lw_at lw_m1 167 rfl) rfl
theorem q263 : (Jvm.Cond.code ({ cls := "FieldPumps$Station", name := "lambda$new$1", desc := "(LFieldPumps$Station;)Z" } : Jvm.MethodName) prog_15_method_43_code (1 : Nat) (Option.some Jvm.ClassFile.FieldType.boolean)) ∈ lw_all := lw_g (lw_at lw_m1 168 rfl) rfl
theorem q264 : (Jvm.Cond.static ({ cls := "FieldPumps$Station", name := "lambda$new$2", desc := "(LFieldPumps$Station;)Z" } : Jvm.MethodName)) ∈ lw_all := lw_g (lw_at lw_m1 169 rfl) rfl
theorem q265 : (Jvm.Cond.code ({ cls := "FieldPumps$Station", name := "lambda$new$2", desc := "(LFieldPumps$Station;)Z" } : Jvm.MethodName) prog_15_method_42_code (1 : Nat) (Option.some Jvm.ClassFile.FieldType.boolean)) ∈ lw_all := lw_g (lw_at lw_m1 170 rfl) rfl
theorem q266 : (Jvm.Cond.methodLink "FieldPumps$Station" (389 : Nat) ({ cls := "FieldPumps$Station", name := "isAlone", desc := "()Z" } : Jvm.MethodName)) ∈ lw_all := lw_g (lw_at lw_m1 171 rfl) rfl
theorem q267 : (Jvm.Cond.privateMethod ({ cls := "FieldPumps$Station", name := "isAlone", desc := "()Z" } : Jvm.MethodName)) ∈ lw_tbl := lw_at lw_m1 172 rfl
theorem q268 : (Jvm.Cond.instanceMethod ({ cls := "FieldPumps$Station", name := "isAlone", desc := "()Z" } : Jvm.MethodName)) ∈ lw_all := lw_g (lw_at lw_m1 173 rfl) rfl
theorem q269 : (Jvm.Cond.code ({ cls := "FieldPumps$Station", name := "isAlone", desc := "()Z" } : Jvm.MethodName) prog_15_method_28_code (1 : Nat) (Option.some Jvm.ClassFile.FieldType.boolean)) ∈ lw_all := lw_g (lw_at lw_m1 174 rfl) rfl
theorem q270 : (Jvm.Cond.methodLink "FieldPumps$Station" (237 : Nat) ({ cls := "FieldPumps$Station", name := "running", desc := "()I" } : Jvm.MethodName)) ∈ lw_all := lw_g (lw_at lw_m1 175 rfl) rfl
theorem q271 : (Jvm.Cond.instanceMethod ({ cls := "FieldPumps$Station", name := "running", desc := "()I" } : Jvm.MethodName)) ∈ lw_all := lw_g (lw_at lw_m1 176 rfl) rfl
theorem q272 : (Jvm.Cond.selects "FieldPumps$Station" ({ cls := "FieldPumps$Station", name := "running", desc := "()I" } : Jvm.MethodName) ({ cls := "FieldPumps$Station", name := "running", desc := "()I" } : Jvm.MethodName)) ∈ lw_all := lw_g (lw_at lw_m1 177 rfl) rfl
theorem q273 : (Jvm.Cond.code ({ cls := "FieldPumps$Station", name := "running", desc := "()I" } : Jvm.MethodName) prog_15_method_11_code (3 : Nat) (Option.some Jvm.ClassFile.FieldType.int)) ∈ lw_all := lw_g (lw_at lw_m1 178 rfl) rfl
theorem q274 : (Jvm.Cond.methodLink "FieldPumps$Station" (198 : Nat) ({ cls := "java/util/ArrayList", name := "size", desc := "()I" } : Jvm.MethodName)) ∈ lw_all := lw_g (lw_at lw_m1 179 rfl) rfl
theorem q278 : (Jvm.Cond.methodLink "FieldPumps$Station" (218 : Nat) ({ cls := "FieldPumps$Pump", name := "runs", desc := "()Z" } : Jvm.MethodName)) ∈ lw_all := lw_g (lw_at lw_m1 183 rfl) rfl
theorem q286 : (Jvm.Cond.fieldLink "FieldPumps$Station" (17 : Nat) "FieldPumps$Station" "pumps" "Ljava/util/ArrayList;") ∈ lw_all := lw_g (lw_at lw_m1 191 rfl) rfl
theorem q288 : (Jvm.Cond.fieldLink "FieldPumps$Station" (21 : Nat) "FieldPumps$Station" "programmes" "Ljava/util/ArrayList;") ∈ lw_all := lw_g (lw_at lw_m1 193 rfl) rfl
theorem q291 : (Jvm.Cond.fieldLink "FieldPumps$Station" (24 : Nat) "FieldPumps$Station" "eventKinds" "[I") ∈ lw_all := lw_g (lw_at lw_m1 196 rfl) rfl
theorem q293 : (Jvm.Cond.fieldLink "FieldPumps$Station" (28 : Nat) "FieldPumps$Station" "eventTimes" "[I") ∈ lw_all := lw_g (lw_at lw_m1 198 rfl) rfl
theorem q295 : (Jvm.Cond.fieldLink "FieldPumps$Station" (31 : Nat) "FieldPumps$Station" "eventPumps" "[I") ∈ lw_all := lw_g (lw_at lw_m1 200 rfl) rfl
theorem q297 : (Jvm.Cond.fieldLink "FieldPumps$Station" (138 : Nat) "FieldPumps$Station" "eventMany" "I") ∈ lw_all := lw_g (lw_at lw_m1 202 rfl) rfl
theorem q299 : (Jvm.Cond.fieldLink "FieldPumps$Station" (34 : Nat) "FieldPumps$Station" "nights" "Ljava/util/ArrayList;") ∈ lw_all := lw_g (lw_at lw_m1 204 rfl) rfl
theorem q301 : (Jvm.Cond.fieldLink "FieldPumps$Station" (39 : Nat) "FieldPumps$Station" "curves" "[LFieldPumps$Curve;") ∈ lw_all := lw_g (lw_at lw_m1 206 rfl) rfl
theorem q303 : (Jvm.Cond.fieldLink "FieldPumps$Station" (43 : Nat) "FieldPumps$Station" "demands" "[I") ∈ lw_all := lw_g (lw_at lw_m1 208 rfl) rfl
theorem q306 : (Jvm.Cond.fieldLink "FieldPumps$Station" (46 : Nat) "FieldPumps$Station" "isOpen" "[Z") ∈ lw_all := lw_g (lw_at lw_m1 211 rfl) rfl
theorem q311 : (Jvm.Cond.fieldLink "FieldPumps$Station" (96 : Nat) "FieldPumps$Station" "settings" "[I") ∈ lw_all := lw_g (lw_at lw_m1 216 rfl) rfl
theorem q313 : (Jvm.Cond.fieldLink "FieldPumps$Station" (50 : Nat) "FieldPumps$Station" "counts" "[I") ∈ lw_all := lw_g (lw_at lw_m1 218 rfl) rfl
theorem q315 : (Jvm.Cond.fieldLink "FieldPumps$Station" (55 : Nat) "FieldPumps$Station" "watches" "[LFieldPumps$Watch;") ∈ lw_all := lw_g (lw_at lw_m1 220 rfl) rfl
theorem q316 : (Jvm.Cond.fieldLink "FieldPumps$Station" (65 : Nat) "FieldPumps$Station" "stages" "[LFieldPumps$Stage;") ∈ lw_all := lw_g (lw_at lw_m1 221 rfl) rfl
theorem q318 : (Jvm.Cond.fieldLink "FieldPumps$Station" (240 : Nat) "FieldPumps$Station" "rests" "Z") ∈ lw_all := lw_g (lw_at lw_m1 223 rfl) rfl
theorem q319 : (Jvm.Cond.fieldLink "FieldPumps$Station" (79 : Nat) "FieldPumps$Station" "queue" "Ljava/util/PriorityQueue;") ∈ lw_all := lw_g (lw_at lw_m1 224 rfl) rfl
theorem q320 : (Jvm.Cond.fieldLink "FieldPumps$Station" (209 : Nat) "FieldPumps$Station" "told" "I") ∈ lw_all := lw_g (lw_at lw_m1 225 rfl) rfl
theorem q322 : (Jvm.Cond.fieldLink "FieldPumps$Station" (151 : Nat) "FieldPumps$Station" "zones" "I") ∈ lw_all := lw_g (lw_at lw_m1 227 rfl) rfl
theorem q326 : (Jvm.Cond.fieldLink "FieldPumps$Station" (154 : Nat) "FieldPumps$Station" "time" "I") ∈ lw_all := lw_g (lw_at lw_m1 231 rfl) rfl
theorem q329 : (Jvm.Cond.fieldLink "FieldPumps$Station" (157 : Nat) "FieldPumps$Station" "pressure" "I") ∈ lw_all := lw_g (lw_at lw_m1 234 rfl) rfl
theorem q333 : (Jvm.Cond.fieldLink "FieldPumps$Station" (87 : Nat) "FieldPumps$Station" "level" "I") ∈ lw_all := lw_g (lw_at lw_m1 238 rfl) rfl
theorem q335 : (Jvm.Cond.fieldLink "FieldPumps$Station" (160 : Nat) "FieldPumps$Station" "leak" "I") ∈ lw_all := lw_g (lw_at lw_m2 0 rfl) rfl
theorem q337 : (Jvm.Cond.fieldLink "FieldPumps$Station" (83 : Nat) "FieldPumps$Station" "variable" "I") ∈ lw_all := lw_g (lw_at lw_m2 2 rfl) rfl
theorem q341 : (Jvm.Cond.fieldLink "FieldPumps$Station" (163 : Nat) "FieldPumps$Station" "supply" "I") ∈ lw_all := lw_g (lw_at lw_m2 6 rfl) rfl
theorem q344 : (Jvm.Cond.fieldLink "FieldPumps$Station" (166 : Nat) "FieldPumps$Station" "supplied" "I") ∈ lw_all := lw_g (lw_at lw_m2 9 rfl) rfl
theorem q347 : (Jvm.Cond.fieldLink "FieldPumps$Station" (169 : Nat) "FieldPumps$Station" "nightFlow" "I") ∈ lw_all := lw_g (lw_at lw_m2 12 rfl) rfl
theorem q349 : (Jvm.Cond.fieldLink "FieldPumps$Station" (172 : Nat) "FieldPumps$Station" "alarms" "I") ∈ lw_all := lw_g (lw_at lw_m2 14 rfl) rfl
theorem q352 : (Jvm.Cond.fieldLink "FieldPumps$Station" (175 : Nat) "FieldPumps$Station" "dryMinutes" "I") ∈ lw_all := lw_g (lw_at lw_m2 17 rfl) rfl
theorem q355 : (Jvm.Cond.fieldLink "FieldPumps$Station" (178 : Nat) "FieldPumps$Station" "trips" "I") ∈ lw_all := lw_g (lw_at lw_m2 20 rfl) rfl
theorem q359 : (Jvm.Cond.fieldLink "FieldPumps$Station" (181 : Nat) "FieldPumps$Station" "isDry" "Z") ∈ lw_all := lw_g (lw_at lw_m2 24 rfl) rfl
theorem q361 : (Jvm.Cond.laysFinal "FieldPumps$Station" "FieldPumps$Station" "pumps" "Ljava/util/ArrayList;") ∈ lw_all := lw_g (lw_at lw_m2 26 rfl) rfl
theorem q362 : (Jvm.Cond.soleField "FieldPumps$Station" "pumps") ∈ lw_all := lw_g (lw_at lw_m2 27 rfl) rfl
theorem q363 : (Jvm.Cond.laysFinal "FieldPumps$Station" "FieldPumps$Station" "programmes" "Ljava/util/ArrayList;") ∈ lw_all := lw_g (lw_at lw_m2 28 rfl) rfl
theorem q364 : (Jvm.Cond.soleField "FieldPumps$Station" "programmes") ∈ lw_all := lw_g (lw_at lw_m2 29 rfl) rfl
theorem q365 : (Jvm.Cond.laysFinal "FieldPumps$Station" "FieldPumps$Station" "eventKinds" "[I") ∈ lw_all := lw_g (lw_at lw_m2 30 rfl) rfl
theorem q366 : (Jvm.Cond.soleField "FieldPumps$Station" "eventKinds") ∈ lw_all := lw_g (lw_at lw_m2 31 rfl) rfl
theorem q367 : (Jvm.Cond.laysFinal "FieldPumps$Station" "FieldPumps$Station" "eventTimes" "[I") ∈ lw_all := lw_g (lw_at lw_m2 32 rfl) rfl
theorem q368 : (Jvm.Cond.soleField "FieldPumps$Station" "eventTimes") ∈ lw_all := lw_g (lw_at lw_m2 33 rfl) rfl
theorem q369 : (Jvm.Cond.laysFinal "FieldPumps$Station" "FieldPumps$Station" "eventPumps" "[I") ∈ lw_all := lw_g (lw_at lw_m2 34 rfl) rfl
theorem q370 : (Jvm.Cond.soleField "FieldPumps$Station" "eventPumps") ∈ lw_all := lw_g (lw_at lw_m2 35 rfl) rfl
theorem q371 : (Jvm.Cond.lays "FieldPumps$Station" "FieldPumps$Station" "eventMany" "I") ∈ lw_all := lw_g (lw_at lw_m2 36 rfl) rfl
theorem q372 : (Jvm.Cond.soleField "FieldPumps$Station" "eventMany") ∈ lw_all := lw_g (lw_at lw_m2 37 rfl) rfl
theorem q373 : (Jvm.Cond.laysFinal "FieldPumps$Station" "FieldPumps$Station" "nights" "Ljava/util/ArrayList;") ∈ lw_all := lw_g (lw_at lw_m2 38 rfl) rfl
theorem q374 : (Jvm.Cond.soleField "FieldPumps$Station" "nights") ∈ lw_all := lw_g (lw_at lw_m2 39 rfl) rfl
theorem q375 : (Jvm.Cond.laysFinal "FieldPumps$Station" "FieldPumps$Station" "curves" "[LFieldPumps$Curve;") ∈ lw_all := lw_g (lw_at lw_m2 40 rfl) rfl
theorem q376 : (Jvm.Cond.soleField "FieldPumps$Station" "curves") ∈ lw_all := lw_g (lw_at lw_m2 41 rfl) rfl
theorem q377 : (Jvm.Cond.laysFinal "FieldPumps$Station" "FieldPumps$Station" "demands" "[I") ∈ lw_all := lw_g (lw_at lw_m2 42 rfl) rfl
theorem q378 : (Jvm.Cond.soleField "FieldPumps$Station" "demands") ∈ lw_all := lw_g (lw_at lw_m2 43 rfl) rfl
theorem q379 : (Jvm.Cond.laysFinal "FieldPumps$Station" "FieldPumps$Station" "isOpen" "[Z") ∈ lw_all := lw_g (lw_at lw_m2 44 rfl) rfl
theorem q380 : (Jvm.Cond.soleField "FieldPumps$Station" "isOpen") ∈ lw_all := lw_g (lw_at lw_m2 45 rfl) rfl
theorem q381 : (Jvm.Cond.laysFinal "FieldPumps$Station" "FieldPumps$Station" "settings" "[I") ∈ lw_all := lw_g (lw_at lw_m2 46 rfl) rfl
theorem q382 : (Jvm.Cond.soleField "FieldPumps$Station" "settings") ∈ lw_all := lw_g (lw_at lw_m2 47 rfl) rfl
theorem q383 : (Jvm.Cond.laysFinal "FieldPumps$Station" "FieldPumps$Station" "counts" "[I") ∈ lw_all := lw_g (lw_at lw_m2 48 rfl) rfl
theorem q384 : (Jvm.Cond.soleField "FieldPumps$Station" "counts") ∈ lw_all := lw_g (lw_at lw_m2 49 rfl) rfl
theorem q385 : (Jvm.Cond.laysFinal "FieldPumps$Station" "FieldPumps$Station" "watches" "[LFieldPumps$Watch;") ∈ lw_all := lw_g (lw_at lw_m2 50 rfl) rfl
theorem q386 : (Jvm.Cond.soleField "FieldPumps$Station" "watches") ∈ lw_all := lw_g (lw_at lw_m2 51 rfl) rfl
theorem q387 : (Jvm.Cond.laysFinal "FieldPumps$Station" "FieldPumps$Station" "stages" "[LFieldPumps$Stage;") ∈ lw_all := lw_g (lw_at lw_m2 52 rfl) rfl
theorem q388 : (Jvm.Cond.soleField "FieldPumps$Station" "stages") ∈ lw_all := lw_g (lw_at lw_m2 53 rfl) rfl
theorem q389 : (Jvm.Cond.lays "FieldPumps$Station" "FieldPumps$Station" "rests" "Z") ∈ lw_all := lw_g (lw_at lw_m2 54 rfl) rfl
theorem q390 : (Jvm.Cond.soleField "FieldPumps$Station" "rests") ∈ lw_all := lw_g (lw_at lw_m2 55 rfl) rfl
theorem q391 : (Jvm.Cond.laysFinal "FieldPumps$Station" "FieldPumps$Station" "queue" "Ljava/util/PriorityQueue;") ∈ lw_all := lw_g (lw_at lw_m2 56 rfl) rfl
theorem q392 : (Jvm.Cond.soleField "FieldPumps$Station" "queue") ∈ lw_all := lw_g (lw_at lw_m2 57 rfl) rfl
theorem q393 : (Jvm.Cond.lays "FieldPumps$Station" "FieldPumps$Station" "told" "I") ∈ lw_all := lw_g (lw_at lw_m2 58 rfl) rfl
theorem q394 : (Jvm.Cond.soleField "FieldPumps$Station" "told") ∈ lw_all := lw_g (lw_at lw_m2 59 rfl) rfl
theorem q395 : (Jvm.Cond.lays "FieldPumps$Station" "FieldPumps$Station" "zones" "I") ∈ lw_all := lw_g (lw_at lw_m2 60 rfl) rfl
theorem q396 : (Jvm.Cond.soleField "FieldPumps$Station" "zones") ∈ lw_all := lw_g (lw_at lw_m2 61 rfl) rfl
theorem q397 : (Jvm.Cond.lays "FieldPumps$Station" "FieldPumps$Station" "time" "I") ∈ lw_all := lw_g (lw_at lw_m2 62 rfl) rfl
theorem q398 : (Jvm.Cond.soleField "FieldPumps$Station" "time") ∈ lw_all := lw_g (lw_at lw_m2 63 rfl) rfl
theorem q399 : (Jvm.Cond.lays "FieldPumps$Station" "FieldPumps$Station" "pressure" "I") ∈ lw_all := lw_g (lw_at lw_m2 64 rfl) rfl
theorem q400 : (Jvm.Cond.soleField "FieldPumps$Station" "pressure") ∈ lw_all := lw_g (lw_at lw_m2 65 rfl) rfl
theorem q401 : (Jvm.Cond.lays "FieldPumps$Station" "FieldPumps$Station" "level" "I") ∈ lw_all := lw_g (lw_at lw_m2 66 rfl) rfl
theorem q402 : (Jvm.Cond.soleField "FieldPumps$Station" "level") ∈ lw_all := lw_g (lw_at lw_m2 67 rfl) rfl
theorem q403 : (Jvm.Cond.lays "FieldPumps$Station" "FieldPumps$Station" "leak" "I") ∈ lw_all := lw_g (lw_at lw_m2 68 rfl) rfl
theorem q404 : (Jvm.Cond.soleField "FieldPumps$Station" "leak") ∈ lw_all := lw_g (lw_at lw_m2 69 rfl) rfl
theorem q405 : (Jvm.Cond.lays "FieldPumps$Station" "FieldPumps$Station" "variable" "I") ∈ lw_all := lw_g (lw_at lw_m2 70 rfl) rfl
theorem q406 : (Jvm.Cond.soleField "FieldPumps$Station" "variable") ∈ lw_all := lw_g (lw_at lw_m2 71 rfl) rfl
theorem q407 : (Jvm.Cond.lays "FieldPumps$Station" "FieldPumps$Station" "supply" "I") ∈ lw_all := lw_g (lw_at lw_m2 72 rfl) rfl
theorem q408 : (Jvm.Cond.soleField "FieldPumps$Station" "supply") ∈ lw_all := lw_g (lw_at lw_m2 73 rfl) rfl
theorem q409 : (Jvm.Cond.lays "FieldPumps$Station" "FieldPumps$Station" "supplied" "I") ∈ lw_all := lw_g (lw_at lw_m2 74 rfl) rfl
theorem q410 : (Jvm.Cond.soleField "FieldPumps$Station" "supplied") ∈ lw_all := lw_g (lw_at lw_m2 75 rfl) rfl
theorem q411 : (Jvm.Cond.lays "FieldPumps$Station" "FieldPumps$Station" "nightFlow" "I") ∈ lw_all := lw_g (lw_at lw_m2 76 rfl) rfl
theorem q412 : (Jvm.Cond.soleField "FieldPumps$Station" "nightFlow") ∈ lw_all := lw_g (lw_at lw_m2 77 rfl) rfl
theorem q413 : (Jvm.Cond.lays "FieldPumps$Station" "FieldPumps$Station" "alarms" "I") ∈ lw_all := lw_g (lw_at lw_m2 78 rfl) rfl
theorem q414 : (Jvm.Cond.soleField "FieldPumps$Station" "alarms") ∈ lw_all := lw_g (lw_at lw_m2 79 rfl) rfl
theorem q415 : (Jvm.Cond.lays "FieldPumps$Station" "FieldPumps$Station" "dryMinutes" "I") ∈ lw_all := lw_g (lw_at lw_m2 80 rfl) rfl
theorem q416 : (Jvm.Cond.soleField "FieldPumps$Station" "dryMinutes") ∈ lw_all := lw_g (lw_at lw_m2 81 rfl) rfl
theorem q417 : (Jvm.Cond.lays "FieldPumps$Station" "FieldPumps$Station" "trips" "I") ∈ lw_all := lw_g (lw_at lw_m2 82 rfl) rfl
theorem q418 : (Jvm.Cond.soleField "FieldPumps$Station" "trips") ∈ lw_all := lw_g (lw_at lw_m2 83 rfl) rfl
theorem q419 : (Jvm.Cond.lays "FieldPumps$Station" "FieldPumps$Station" "isDry" "Z") ∈ lw_all := lw_g (lw_at lw_m2 84 rfl) rfl
theorem q420 : (Jvm.Cond.soleField "FieldPumps$Station" "isDry") ∈ lw_all := lw_g (lw_at lw_m2 85 rfl) rfl
theorem q421 : (Jvm.Cond.superclass "FieldPumps$Station" "java/lang/Object") ∈ lw_all := lw_g (lw_at lw_m2 86 rfl) rfl
theorem q511 : (Jvm.Cond.instanceMethod ({ cls := "FieldPumps$Station", name := "<init>", desc := "(LFieldPumps$Station;)V" } : Jvm.MethodName)) ∈ lw_all := lw_g (lw_at lw_m2 176 rfl) rfl
theorem q512 : (Jvm.Cond.code ({ cls := "FieldPumps$Station", name := "<init>", desc := "(LFieldPumps$Station;)V" } : Jvm.MethodName) prog_15_method_3_code (4 : Nat) (Option.none : Option Jvm.ClassFile.FieldType)) ∈ lw_all := lw_g (lw_at lw_m2 177 rfl) rfl
theorem q513 : (Jvm.Cond.methodLink "FieldPumps$Station" (99 : Nat) ({ cls := "[I", name := "clone", desc := "()Ljava/lang/Object;" } : Jvm.MethodName)) ∈ lw_all := lw_g (lw_at lw_m2 178 rfl) rfl
theorem q517 : (Jvm.Cond.classLink "FieldPumps$Station" (100 : Nat) "[I") ∈ lw_all := lw_g (lw_at lw_m2 182 rfl) rfl
theorem q518 : (Jvm.Cond.methodLink "FieldPumps$Station" (104 : Nat) ({ cls := "java/util/ArrayList", name := "iterator", desc := "()Ljava/util/Iterator;" } : Jvm.MethodName)) ∈ lw_all := lw_g (lw_at lw_m2 183 rfl) rfl
theorem q541 : (Jvm.Cond.interfaceEntry "FieldPumps$Station" (108 : Nat)) ∈ lw_tbl := lw_at lw_m2 206 rfl
theorem q542 : (Jvm.Cond.methodLink "FieldPumps$Station" (108 : Nat) ({ cls := "java/util/Iterator", name := "hasNext", desc := "()Z" } : Jvm.MethodName)) ∈ lw_all := lw_g (lw_at lw_m2 207 rfl) rfl
theorem q551 : (Jvm.Cond.interfaceEntry "FieldPumps$Station" (114 : Nat)) ∈ lw_tbl := lw_at lw_m2 216 rfl
theorem q552 : (Jvm.Cond.methodLink "FieldPumps$Station" (114 : Nat) ({ cls := "java/util/Iterator", name := "next", desc := "()Ljava/lang/Object;" } : Jvm.MethodName)) ∈ lw_all := lw_g (lw_at lw_m2 217 rfl) rfl
theorem q564 : (Jvm.Cond.methodLinkNest "FieldPumps$Station" (119 : Nat) ({ cls := "FieldPumps", name := "copyOf", desc := "(LFieldPumps$Pump;)LFieldPumps$Pump;" } : Jvm.MethodName) "FieldPumps") ∈ lw_tbl := lw_at lw_m2 229 rfl
theorem q584 : (Jvm.Cond.fieldLinkNest "FieldPumps$Station" (191 : Nat) "FieldPumps$Pump" "number" "I" "FieldPumps") ∈ lw_tbl := lw_at lw_m3 9 rfl
theorem q587 : (Jvm.Cond.fieldLinkNest "FieldPumps$Station" (185 : Nat) "FieldPumps$Pump" "shutoff" "I" "FieldPumps") ∈ lw_tbl := lw_at lw_m3 12 rfl
theorem q590 : (Jvm.Cond.fieldLinkNest "FieldPumps$Station" (188 : Nat) "FieldPumps$Pump" "steep" "I" "FieldPumps") ∈ lw_tbl := lw_at lw_m3 15 rfl
theorem q594 : (Jvm.Cond.fieldLinkNest "FieldPumps$Station" (370 : Nat) "FieldPumps$Pump" "isOut" "Z" "FieldPumps") ∈ lw_tbl := lw_at lw_m3 19 rfl
theorem q596 : (Jvm.Cond.fieldLinkNest "FieldPumps$Station" (221 : Nat) "FieldPumps$Pump" "speed" "I" "FieldPumps") ∈ lw_tbl := lw_at lw_m3 21 rfl
theorem q602 : (Jvm.Cond.fieldLinkNest "FieldPumps$Station" (266 : Nat) "FieldPumps$Pump" "run" "I" "FieldPumps") ∈ lw_tbl := lw_at lw_m3 27 rfl
theorem q606 : (Jvm.Cond.fieldLinkNest "FieldPumps$Station" (361 : Nat) "FieldPumps$Pump" "runNow" "I" "FieldPumps") ∈ lw_tbl := lw_at lw_m3 31 rfl
theorem q653 : (Jvm.Cond.methodLink "FieldPumps$Station" (123 : Nat) ({ cls := "FieldPumps$Station", name := "add", desc := "(LFieldPumps$Pump;)V" } : Jvm.MethodName)) ∈ lw_all := lw_g (lw_at lw_m3 78 rfl) rfl
theorem q654 : (Jvm.Cond.instanceMethod ({ cls := "FieldPumps$Station", name := "add", desc := "(LFieldPumps$Pump;)V" } : Jvm.MethodName)) ∈ lw_all := lw_g (lw_at lw_m3 79 rfl) rfl
theorem q655 : (Jvm.Cond.selects "FieldPumps$Station" ({ cls := "FieldPumps$Station", name := "add", desc := "(LFieldPumps$Pump;)V" } : Jvm.MethodName) ({ cls := "FieldPumps$Station", name := "add", desc := "(LFieldPumps$Pump;)V" } : Jvm.MethodName)) ∈ lw_all := lw_g (lw_at lw_m3 80 rfl) rfl
theorem q656 : (Jvm.Cond.code ({ cls := "FieldPumps$Station", name := "add", desc := "(LFieldPumps$Pump;)V" } : Jvm.MethodName) prog_15_method_4_code (4 : Nat) (Option.none : Option Jvm.ClassFile.FieldType)) ∈ lw_all := lw_g (lw_at lw_m3 81 rfl) rfl
theorem q657 : (Jvm.Cond.static ({ cls := "FieldPumps$Station", name := "lambda$add$3", desc := "(IIII)I" } : Jvm.MethodName)) ∈ lw_all := lw_g (lw_at lw_m3 82 rfl) rfl
theorem q658 : (Jvm.Cond.code ({ cls := "FieldPumps$Station", name := "lambda$add$3", desc := "(IIII)I" } : Jvm.MethodName) prog_15_method_41_code (5 : Nat) (Option.some Jvm.ClassFile.FieldType.int)) ∈ lw_all := lw_g (lw_at lw_m3 83 rfl) rfl
theorem q659 : (Jvm.Cond.constant "FieldPumps$Station" (384 : Nat) (1000000 : Int32)) ∈ lw_all := lw_g (lw_at lw_m3 84 rfl) rfl
theorem q660 : (Jvm.Cond.methodLinkNest "FieldPumps$Station" (385 : Nat) ({ cls := "FieldPumps", name := "root", desc := "(I)I" } : Jvm.MethodName) "FieldPumps") ∈ lw_tbl := lw_at lw_m3 85 rfl
theorem q664 : (Jvm.Cond.methodLink "FieldPumps$Station" (129 : Nat) ({ cls := "java/util/ArrayList", name := "add", desc := "(Ljava/lang/Object;)Z" } : Jvm.MethodName)) ∈ lw_all := lw_g (lw_at lw_m3 89 rfl) rfl
theorem q707 : (Jvm.Cond.selects "FieldPumps$Station" ({ cls := "java/lang/Object", name := "getClass", desc := "()Ljava/lang/Class;" } : Jvm.MethodName) ({ cls := "java/lang/Object", name := "getClass", desc := "()Ljava/lang/Class;" } : Jvm.MethodName)) ∈ lw_all := lw_g (lw_at lw_m3 132 rfl) rfl
theorem q736 : (Jvm.Cond.classLink "FieldPumps$Station" (127 : Nat) "FieldPumps$Programme") ∈ lw_all := lw_g (lw_at lw_m3 161 rfl) rfl
theorem q737 : (Jvm.Cond.methodLink "FieldPumps$Station" (132 : Nat) ({ cls := "java/lang/System", name := "arraycopy", desc := "(Ljava/lang/Object;ILjava/lang/Object;II)V" } : Jvm.MethodName)) ∈ lw_all := lw_g (lw_at lw_m3 162 rfl) rfl
theorem q738 : (Jvm.Cond.classLink "FieldPumps$Station" (141 : Nat) "java/lang/Integer") ∈ lw_all := lw_g (lw_at lw_m3 163 rfl) rfl
theorem q739 : (Jvm.Cond.methodLink "FieldPumps$Station" (143 : Nat) ({ cls := "java/lang/Integer", name := "intValue", desc := "()I" } : Jvm.MethodName)) ∈ lw_all := lw_g (lw_at lw_m3 164 rfl) rfl
theorem q743 : (Jvm.Cond.methodLink "FieldPumps$Station" (147 : Nat) ({ cls := "java/lang/Integer", name := "valueOf", desc := "(I)Ljava/lang/Integer;" } : Jvm.MethodName)) ∈ lw_all := lw_g (lw_at lw_m3 168 rfl) rfl
theorem q829 : (Jvm.Cond.instanceMethod ({ cls := "FieldPumps$Station", name := "isPump", desc := "(I)Z" } : Jvm.MethodName)) ∈ lw_all := lw_g (lw_at lw_m4 14 rfl) rfl
theorem q830 : (Jvm.Cond.selects "FieldPumps$Station" ({ cls := "FieldPumps$Station", name := "isPump", desc := "(I)Z" } : Jvm.MethodName) ({ cls := "FieldPumps$Station", name := "isPump", desc := "(I)Z" } : Jvm.MethodName)) ∈ lw_all := lw_g (lw_at lw_m4 15 rfl) rfl
theorem q831 : (Jvm.Cond.code ({ cls := "FieldPumps$Station", name := "isPump", desc := "(I)Z" } : Jvm.MethodName) prog_15_method_5_code (2 : Nat) (Option.some Jvm.ClassFile.FieldType.boolean)) ∈ lw_all := lw_g (lw_at lw_m4 16 rfl) rfl
theorem q832 : (Jvm.Cond.methodLinkNest "FieldPumps$Station" (201 : Nat) ({ cls := "FieldPumps", name := "isBetween", desc := "(JJJ)Z" } : Jvm.MethodName) "FieldPumps") ∈ lw_tbl := lw_at lw_m4 17 rfl
theorem q837 : (Jvm.Cond.instanceMethod ({ cls := "FieldPumps$Station", name := "make", desc := "(II)I" } : Jvm.MethodName)) ∈ lw_all := lw_g (lw_at lw_m4 22 rfl) rfl
theorem q838 : (Jvm.Cond.selects "FieldPumps$Station" ({ cls := "FieldPumps$Station", name := "make", desc := "(II)I" } : Jvm.MethodName) ({ cls := "FieldPumps$Station", name := "make", desc := "(II)I" } : Jvm.MethodName)) ∈ lw_all := lw_g (lw_at lw_m4 23 rfl) rfl
theorem q839 : (Jvm.Cond.code ({ cls := "FieldPumps$Station", name := "make", desc := "(II)I" } : Jvm.MethodName) prog_15_method_40_code (6 : Nat) (Option.some Jvm.ClassFile.FieldType.int)) ∈ lw_all := lw_g (lw_at lw_m4 24 rfl) rfl
theorem q840 : (Jvm.Cond.methodLink "FieldPumps$Station" (375 : Nat) ({ cls := "FieldPumps$Station", name := "openZones", desc := "()I" } : Jvm.MethodName)) ∈ lw_all := lw_g (lw_at lw_m4 25 rfl) rfl
theorem q841 : (Jvm.Cond.instanceMethod ({ cls := "FieldPumps$Station", name := "openZones", desc := "()I" } : Jvm.MethodName)) ∈ lw_all := lw_g (lw_at lw_m4 26 rfl) rfl
theorem q842 : (Jvm.Cond.selects "FieldPumps$Station" ({ cls := "FieldPumps$Station", name := "openZones", desc := "()I" } : Jvm.MethodName) ({ cls := "FieldPumps$Station", name := "openZones", desc := "()I" } : Jvm.MethodName)) ∈ lw_all := lw_g (lw_at lw_m4 27 rfl) rfl
theorem q843 : (Jvm.Cond.code ({ cls := "FieldPumps$Station", name := "openZones", desc := "()I" } : Jvm.MethodName) prog_15_method_19_code (3 : Nat) (Option.some Jvm.ClassFile.FieldType.int)) ∈ lw_all := lw_g (lw_at lw_m4 28 rfl) rfl
theorem q844 : (Jvm.Cond.methodLink "FieldPumps$Station" (359 : Nat) ({ cls := "FieldPumps$Station", name := "stop", desc := "(LFieldPumps$Pump;)V" } : Jvm.MethodName)) ∈ lw_all := lw_g (lw_at lw_m4 29 rfl) rfl
theorem q845 : (Jvm.Cond.instanceMethod ({ cls := "FieldPumps$Station", name := "stop", desc := "(LFieldPumps$Pump;)V" } : Jvm.MethodName)) ∈ lw_all := lw_g (lw_at lw_m4 30 rfl) rfl
theorem q846 : (Jvm.Cond.selects "FieldPumps$Station" ({ cls := "FieldPumps$Station", name := "stop", desc := "(LFieldPumps$Pump;)V" } : Jvm.MethodName) ({ cls := "FieldPumps$Station", name := "stop", desc := "(LFieldPumps$Pump;)V" } : Jvm.MethodName)) ∈ lw_all := lw_g (lw_at lw_m4 31 rfl) rfl
theorem q847 : (Jvm.Cond.code ({ cls := "FieldPumps$Station", name := "stop", desc := "(LFieldPumps$Pump;)V" } : Jvm.MethodName) prog_15_method_16_code (6 : Nat) (Option.none : Option Jvm.ClassFile.FieldType)) ∈ lw_all := lw_g (lw_at lw_m4 32 rfl) rfl
theorem q848 : (Jvm.Cond.methodLink "FieldPumps$Station" (263 : Nat) ({ cls := "FieldPumps$Pump", name := "stop", desc := "()V" } : Jvm.MethodName)) ∈ lw_all := lw_g (lw_at lw_m4 33 rfl) rfl
theorem q855 : (Jvm.Cond.methodLink "FieldPumps$Station" (205 : Nat) ({ cls := "FieldPumps$Station", name := "tell", desc := "(II)V" } : Jvm.MethodName)) ∈ lw_all := lw_g (lw_at lw_m4 40 rfl) rfl
theorem q856 : (Jvm.Cond.privateMethod ({ cls := "FieldPumps$Station", name := "tell", desc := "(II)V" } : Jvm.MethodName)) ∈ lw_tbl := lw_at lw_m4 41 rfl
theorem q857 : (Jvm.Cond.instanceMethod ({ cls := "FieldPumps$Station", name := "tell", desc := "(II)V" } : Jvm.MethodName)) ∈ lw_all := lw_g (lw_at lw_m4 42 rfl) rfl
theorem q858 : (Jvm.Cond.code ({ cls := "FieldPumps$Station", name := "tell", desc := "(II)V" } : Jvm.MethodName) prog_15_method_8_code (4 : Nat) (Option.none : Option Jvm.ClassFile.FieldType)) ∈ lw_all := lw_g (lw_at lw_m4 43 rfl) rfl
theorem q859 : (Jvm.Cond.methodLink "FieldPumps$Station" (212 : Nat) ({ cls := "java/lang/Math", name := "min", desc := "(II)I" } : Jvm.MethodName)) ∈ lw_all := lw_g (lw_at lw_m4 44 rfl) rfl
theorem q860 : (Jvm.Cond.classLink "FieldPumps$Station" (257 : Nat) "FieldPumps$Variable") ∈ lw_all := lw_g (lw_at lw_m4 45 rfl) rfl
theorem q861 : (Jvm.Cond.methodLink "FieldPumps$Station" (378 : Nat) ({ cls := "FieldPumps$Station", name := "goMinute", desc := "()V" } : Jvm.MethodName)) ∈ lw_all := lw_g (lw_at lw_m4 46 rfl) rfl
theorem q862 : (Jvm.Cond.instanceMethod ({ cls := "FieldPumps$Station", name := "goMinute", desc := "()V" } : Jvm.MethodName)) ∈ lw_all := lw_g (lw_at lw_m4 47 rfl) rfl
theorem q863 : (Jvm.Cond.selects "FieldPumps$Station" ({ cls := "FieldPumps$Station", name := "goMinute", desc := "()V" } : Jvm.MethodName) ({ cls := "FieldPumps$Station", name := "goMinute", desc := "()V" } : Jvm.MethodName)) ∈ lw_all := lw_g (lw_at lw_m4 48 rfl) rfl
theorem q864 : (Jvm.Cond.code ({ cls := "FieldPumps$Station", name := "goMinute", desc := "()V" } : Jvm.MethodName) prog_15_method_38_code (2 : Nat) (Option.none : Option Jvm.ClassFile.FieldType)) ∈ lw_all := lw_g (lw_at lw_m4 49 rfl) rfl
theorem q865 : (Jvm.Cond.methodLink "FieldPumps$Station" (367 : Nat) ({ cls := "FieldPumps$Stage", name := "go", desc := "(LFieldPumps$Station;)V" } : Jvm.MethodName)) ∈ lw_all := lw_g (lw_at lw_m4 50 rfl) rfl
theorem q878 : (Jvm.Cond.privateMethod ({ cls := "FieldPumps$Station", name := "flow", desc := "()I" } : Jvm.MethodName)) ∈ lw_tbl := lw_at lw_m4 63 rfl
theorem q879 : (Jvm.Cond.instanceMethod ({ cls := "FieldPumps$Station", name := "flow", desc := "()I" } : Jvm.MethodName)) ∈ lw_all := lw_g (lw_at lw_m4 64 rfl) rfl
theorem q880 : (Jvm.Cond.code ({ cls := "FieldPumps$Station", name := "flow", desc := "()I" } : Jvm.MethodName) prog_15_method_10_code (3 : Nat) (Option.some Jvm.ClassFile.FieldType.int)) ∈ lw_all := lw_g (lw_at lw_m4 65 rfl) rfl
theorem q881 : (Jvm.Cond.methodLink "FieldPumps$Station" (230 : Nat) ({ cls := "FieldPumps$Station", name := "flowOf", desc := "(LFieldPumps$Pump;)I" } : Jvm.MethodName)) ∈ lw_all := lw_g (lw_at lw_m4 66 rfl) rfl
theorem q882 : (Jvm.Cond.instanceMethod ({ cls := "FieldPumps$Station", name := "flowOf", desc := "(LFieldPumps$Pump;)I" } : Jvm.MethodName)) ∈ lw_all := lw_g (lw_at lw_m4 67 rfl) rfl
theorem q883 : (Jvm.Cond.selects "FieldPumps$Station" ({ cls := "FieldPumps$Station", name := "flowOf", desc := "(LFieldPumps$Pump;)I" } : Jvm.MethodName) ({ cls := "FieldPumps$Station", name := "flowOf", desc := "(LFieldPumps$Pump;)I" } : Jvm.MethodName)) ∈ lw_all := lw_g (lw_at lw_m4 68 rfl) rfl
theorem q884 : (Jvm.Cond.code ({ cls := "FieldPumps$Station", name := "flowOf", desc := "(LFieldPumps$Pump;)I" } : Jvm.MethodName) prog_15_method_9_code (2 : Nat) (Option.some Jvm.ClassFile.FieldType.int)) ∈ lw_all := lw_g (lw_at lw_m4 69 rfl) rfl
theorem q885 : (Jvm.Cond.interfaceEntry "FieldPumps$Station" (224 : Nat)) ∈ lw_tbl := lw_at lw_m4 70 rfl
theorem q886 : (Jvm.Cond.methodLink "FieldPumps$Station" (224 : Nat) ({ cls := "FieldPumps$Curve", name := "flow", desc := "(II)I" } : Jvm.MethodName)) ∈ lw_all := lw_g (lw_at lw_m4 71 rfl) rfl
theorem q891 : (Jvm.Cond.instanceMethod ({ cls := "FieldPumps$Station", name := "demand", desc := "(I)I" } : Jvm.MethodName)) ∈ lw_all := lw_g (lw_at lw_m4 76 rfl) rfl
theorem q892 : (Jvm.Cond.selects "FieldPumps$Station" ({ cls := "FieldPumps$Station", name := "demand", desc := "(I)I" } : Jvm.MethodName) ({ cls := "FieldPumps$Station", name := "demand", desc := "(I)I" } : Jvm.MethodName)) ∈ lw_all := lw_g (lw_at lw_m4 77 rfl) rfl
theorem q893 : (Jvm.Cond.code ({ cls := "FieldPumps$Station", name := "demand", desc := "(I)I" } : Jvm.MethodName) prog_15_method_18_code (4 : Nat) (Option.some Jvm.ClassFile.FieldType.int)) ∈ lw_all := lw_g (lw_at lw_m4 78 rfl) rfl
theorem q894 : (Jvm.Cond.methodLink "FieldPumps$Station" (269 : Nat) ({ cls := "FieldPumps$Station", name := "demandOf", desc := "(II)I" } : Jvm.MethodName)) ∈ lw_all := lw_g (lw_at lw_m4 79 rfl) rfl
theorem q895 : (Jvm.Cond.instanceMethod ({ cls := "FieldPumps$Station", name := "demandOf", desc := "(II)I" } : Jvm.MethodName)) ∈ lw_all := lw_g (lw_at lw_m4 80 rfl) rfl
theorem q896 : (Jvm.Cond.selects "FieldPumps$Station" ({ cls := "FieldPumps$Station", name := "demandOf", desc := "(II)I" } : Jvm.MethodName) ({ cls := "FieldPumps$Station", name := "demandOf", desc := "(II)I" } : Jvm.MethodName)) ∈ lw_all := lw_g (lw_at lw_m4 81 rfl) rfl
theorem q897 : (Jvm.Cond.code ({ cls := "FieldPumps$Station", name := "demandOf", desc := "(II)I" } : Jvm.MethodName) prog_15_method_17_code (3 : Nat) (Option.some Jvm.ClassFile.FieldType.int)) ∈ lw_all := lw_g (lw_at lw_m4 82 rfl) rfl
theorem q910 : (Jvm.Cond.privateMethod ({ cls := "FieldPumps$Station", name := "noteNight", desc := "()V" } : Jvm.MethodName)) ∈ lw_tbl := lw_at lw_m4 95 rfl
theorem q911 : (Jvm.Cond.instanceMethod ({ cls := "FieldPumps$Station", name := "noteNight", desc := "()V" } : Jvm.MethodName)) ∈ lw_all := lw_g (lw_at lw_m4 96 rfl) rfl
theorem q912 : (Jvm.Cond.code ({ cls := "FieldPumps$Station", name := "noteNight", desc := "()V" } : Jvm.MethodName) prog_15_method_21_code (2 : Nat) (Option.none : Option Jvm.ClassFile.FieldType)) ∈ lw_all := lw_g (lw_at lw_m4 97 rfl) rfl
theorem q913 : (Jvm.Cond.methodLink "FieldPumps$Station" (297 : Nat) ({ cls := "FieldPumps$Station", name := "middle", desc := "()I" } : Jvm.MethodName)) ∈ lw_all := lw_g (lw_at lw_m4 98 rfl) rfl
theorem q914 : (Jvm.Cond.privateMethod ({ cls := "FieldPumps$Station", name := "middle", desc := "()I" } : Jvm.MethodName)) ∈ lw_tbl := lw_at lw_m4 99 rfl
theorem q915 : (Jvm.Cond.instanceMethod ({ cls := "FieldPumps$Station", name := "middle", desc := "()I" } : Jvm.MethodName)) ∈ lw_all := lw_g (lw_at lw_m4 100 rfl) rfl
theorem q916 : (Jvm.Cond.code ({ cls := "FieldPumps$Station", name := "middle", desc := "()I" } : Jvm.MethodName) prog_15_method_20_code (5 : Nat) (Option.some Jvm.ClassFile.FieldType.int)) ∈ lw_all := lw_g (lw_at lw_m4 101 rfl) rfl
theorem q917 : (Jvm.Cond.classLink "FieldPumps$Station" (272 : Nat) "java/util/TreeMap") ∈ lw_all := lw_g (lw_at lw_m4 102 rfl) rfl
theorem q919 : (Jvm.Cond.methodLink "FieldPumps$Station" (274 : Nat) ({ cls := "java/util/TreeMap", name := "<init>", desc := "()V" } : Jvm.MethodName)) ∈ lw_all := lw_g (lw_at lw_m4 104 rfl) rfl
theorem q949 : (Jvm.Cond.methodLink "FieldPumps$Station" (275 : Nat) ({ cls := "java/util/TreeMap", name := "get", desc := "(Ljava/lang/Object;)Ljava/lang/Object;" } : Jvm.MethodName)) ∈ lw_all := lw_g (lw_at lw_m4 134 rfl) rfl
theorem q1251 : (Jvm.Cond.methodLink "FieldPumps$Station" (278 : Nat) ({ cls := "java/util/TreeMap", name := "put", desc := "(Ljava/lang/Object;Ljava/lang/Object;)Ljava/lang/Object;" } : Jvm.MethodName)) ∈ lw_all := lw_g (lw_at lw_m5 196 rfl) rfl
theorem q1327 : (Jvm.Cond.methodLink "FieldPumps$Station" (282 : Nat) ({ cls := "java/util/TreeMap", name := "firstEntry", desc := "()Ljava/util/Map$Entry;" } : Jvm.MethodName)) ∈ lw_all := lw_g (lw_at lw_m6 32 rfl) rfl
theorem q1381 : (Jvm.Cond.interfaceEntry "FieldPumps$Station" (286 : Nat)) ∈ lw_tbl := lw_at lw_m6 86 rfl
theorem q1382 : (Jvm.Cond.methodLink "FieldPumps$Station" (286 : Nat) ({ cls := "java/util/Map$Entry", name := "getValue", desc := "()Ljava/lang/Object;" } : Jvm.MethodName)) ∈ lw_all := lw_g (lw_at lw_m6 87 rfl) rfl
theorem q1383 : (Jvm.Cond.methodLink "FieldPumps$Station" (291 : Nat) ({ cls := "java/util/TreeMap", name := "pollFirstEntry", desc := "()Ljava/util/Map$Entry;" } : Jvm.MethodName)) ∈ lw_all := lw_g (lw_at lw_m6 88 rfl) rfl
theorem q1398 : (Jvm.Cond.methodLink "FieldPumps$Station" (294 : Nat) ({ cls := "java/util/TreeMap", name := "firstKey", desc := "()Ljava/lang/Object;" } : Jvm.MethodName)) ∈ lw_all := lw_g (lw_at lw_m6 103 rfl) rfl
theorem q1405 : (Jvm.Cond.methodLink "FieldPumps$Station" (300 : Nat) ({ cls := "FieldPumps$Station", name := "tell", desc := "(I)V" } : Jvm.MethodName)) ∈ lw_all := lw_g (lw_at lw_m6 110 rfl) rfl
theorem q1406 : (Jvm.Cond.privateMethod ({ cls := "FieldPumps$Station", name := "tell", desc := "(I)V" } : Jvm.MethodName)) ∈ lw_tbl := lw_at lw_m6 111 rfl
theorem q1407 : (Jvm.Cond.instanceMethod ({ cls := "FieldPumps$Station", name := "tell", desc := "(I)V" } : Jvm.MethodName)) ∈ lw_all := lw_g (lw_at lw_m6 112 rfl) rfl
theorem q1408 : (Jvm.Cond.code ({ cls := "FieldPumps$Station", name := "tell", desc := "(I)V" } : Jvm.MethodName) prog_15_method_7_code (2 : Nat) (Option.none : Option Jvm.ClassFile.FieldType)) ∈ lw_all := lw_g (lw_at lw_m6 113 rfl) rfl
theorem q1409 : (Jvm.Cond.methodLink "FieldPumps$Station" (302 : Nat) ({ cls := "java/util/ArrayList", name := "remove", desc := "(I)Ljava/lang/Object;" } : Jvm.MethodName)) ∈ lw_all := lw_g (lw_at lw_m6 114 rfl) rfl
theorem q1422 : (Jvm.Cond.privateMethod ({ cls := "FieldPumps$Station", name := "trip", desc := "()V" } : Jvm.MethodName)) ∈ lw_tbl := lw_at lw_m6 127 rfl
theorem q1423 : (Jvm.Cond.instanceMethod ({ cls := "FieldPumps$Station", name := "trip", desc := "()V" } : Jvm.MethodName)) ∈ lw_all := lw_g (lw_at lw_m6 128 rfl) rfl
theorem q1424 : (Jvm.Cond.code ({ cls := "FieldPumps$Station", name := "trip", desc := "()V" } : Jvm.MethodName) prog_15_method_22_code (2 : Nat) (Option.none : Option Jvm.ClassFile.FieldType)) ∈ lw_all := lw_g (lw_at lw_m6 129 rfl) rfl
theorem q1426 : (Jvm.Cond.privateMethod ({ cls := "FieldPumps$Station", name := "canGoOn", desc := "()Z" } : Jvm.MethodName)) ∈ lw_tbl := lw_at lw_m6 131 rfl
theorem q1427 : (Jvm.Cond.instanceMethod ({ cls := "FieldPumps$Station", name := "canGoOn", desc := "()Z" } : Jvm.MethodName)) ∈ lw_all := lw_g (lw_at lw_m6 132 rfl) rfl
theorem q1428 : (Jvm.Cond.code ({ cls := "FieldPumps$Station", name := "canGoOn", desc := "()Z" } : Jvm.MethodName) prog_15_method_23_code (1 : Nat) (Option.some Jvm.ClassFile.FieldType.boolean)) ∈ lw_all := lw_g (lw_at lw_m6 133 rfl) rfl
theorem q1430 : (Jvm.Cond.privateMethod ({ cls := "FieldPumps$Station", name := "goOn", desc := "()V" } : Jvm.MethodName)) ∈ lw_tbl := lw_at lw_m6 135 rfl
theorem q1431 : (Jvm.Cond.instanceMethod ({ cls := "FieldPumps$Station", name := "goOn", desc := "()V" } : Jvm.MethodName)) ∈ lw_all := lw_g (lw_at lw_m6 136 rfl) rfl
theorem q1432 : (Jvm.Cond.code ({ cls := "FieldPumps$Station", name := "goOn", desc := "()V" } : Jvm.MethodName) prog_15_method_24_code (1 : Nat) (Option.none : Option Jvm.ClassFile.FieldType)) ∈ lw_all := lw_g (lw_at lw_m6 137 rfl) rfl
theorem q1437 : (Jvm.Cond.privateMethod ({ cls := "FieldPumps$Station", name := "forget", desc := "()V" } : Jvm.MethodName)) ∈ lw_tbl := lw_at lw_m6 142 rfl
theorem q1438 : (Jvm.Cond.instanceMethod ({ cls := "FieldPumps$Station", name := "forget", desc := "()V" } : Jvm.MethodName)) ∈ lw_all := lw_g (lw_at lw_m6 143 rfl) rfl
theorem q1439 : (Jvm.Cond.code ({ cls := "FieldPumps$Station", name := "forget", desc := "()V" } : Jvm.MethodName) prog_15_method_26_code (2 : Nat) (Option.none : Option Jvm.ClassFile.FieldType)) ∈ lw_all := lw_g (lw_at lw_m6 144 rfl) rfl
theorem q1441 : (Jvm.Cond.privateMethod ({ cls := "FieldPumps$Station", name := "control", desc := "()V" } : Jvm.MethodName)) ∈ lw_tbl := lw_at lw_m6 146 rfl
theorem q1442 : (Jvm.Cond.instanceMethod ({ cls := "FieldPumps$Station", name := "control", desc := "()V" } : Jvm.MethodName)) ∈ lw_all := lw_g (lw_at lw_m6 147 rfl) rfl
theorem q1443 : (Jvm.Cond.code ({ cls := "FieldPumps$Station", name := "control", desc := "()V" } : Jvm.MethodName) prog_15_method_31_code (1 : Nat) (Option.none : Option Jvm.ClassFile.FieldType)) ∈ lw_all := lw_g (lw_at lw_m6 148 rfl) rfl
theorem q1444 : (Jvm.Cond.methodLink "FieldPumps$Station" (321 : Nat) ({ cls := "FieldPumps$Station", name := "regulate", desc := "(LFieldPumps$Pump;)V" } : Jvm.MethodName)) ∈ lw_all := lw_g (lw_at lw_m6 149 rfl) rfl
theorem q1445 : (Jvm.Cond.privateMethod ({ cls := "FieldPumps$Station", name := "regulate", desc := "(LFieldPumps$Pump;)V" } : Jvm.MethodName)) ∈ lw_tbl := lw_at lw_m6 150 rfl
theorem q1446 : (Jvm.Cond.instanceMethod ({ cls := "FieldPumps$Station", name := "regulate", desc := "(LFieldPumps$Pump;)V" } : Jvm.MethodName)) ∈ lw_all := lw_g (lw_at lw_m6 151 rfl) rfl
theorem q1447 : (Jvm.Cond.code ({ cls := "FieldPumps$Station", name := "regulate", desc := "(LFieldPumps$Pump;)V" } : Jvm.MethodName) prog_15_method_30_code (4 : Nat) (Option.none : Option Jvm.ClassFile.FieldType)) ∈ lw_all := lw_g (lw_at lw_m6 152 rfl) rfl
theorem q1448 : (Jvm.Cond.methodLink "FieldPumps$Station" (318 : Nat) ({ cls := "java/lang/Math", name := "max", desc := "(II)I" } : Jvm.MethodName)) ∈ lw_all := lw_g (lw_at lw_m6 153 rfl) rfl
theorem q1449 : (Jvm.Cond.methodLink "FieldPumps$Station" (324 : Nat) ({ cls := "FieldPumps$Station", name := "hasReady", desc := "()Z" } : Jvm.MethodName)) ∈ lw_all := lw_g (lw_at lw_m6 154 rfl) rfl
theorem q1450 : (Jvm.Cond.instanceMethod ({ cls := "FieldPumps$Station", name := "hasReady", desc := "()Z" } : Jvm.MethodName)) ∈ lw_all := lw_g (lw_at lw_m6 155 rfl) rfl
theorem q1451 : (Jvm.Cond.selects "FieldPumps$Station" ({ cls := "FieldPumps$Station", name := "hasReady", desc := "()Z" } : Jvm.MethodName) ({ cls := "FieldPumps$Station", name := "hasReady", desc := "()Z" } : Jvm.MethodName)) ∈ lw_all := lw_g (lw_at lw_m6 156 rfl) rfl
theorem q1452 : (Jvm.Cond.code ({ cls := "FieldPumps$Station", name := "hasReady", desc := "()Z" } : Jvm.MethodName) prog_15_method_12_code (3 : Nat) (Option.some Jvm.ClassFile.FieldType.boolean)) ∈ lw_all := lw_g (lw_at lw_m6 157 rfl) rfl
theorem q1453 : (Jvm.Cond.methodLink "FieldPumps$Station" (234 : Nat) ({ cls := "FieldPumps$Pump", name := "isReady", desc := "()Z" } : Jvm.MethodName)) ∈ lw_all := lw_g (lw_at lw_m6 158 rfl) rfl
theorem q1461 : (Jvm.Cond.methodLink "FieldPumps$Station" (327 : Nat) ({ cls := "FieldPumps$Station", name := "ready", desc := "()Ljava/util/PriorityQueue;" } : Jvm.MethodName)) ∈ lw_all := lw_g (lw_at lw_m6 166 rfl) rfl
theorem q1462 : (Jvm.Cond.instanceMethod ({ cls := "FieldPumps$Station", name := "ready", desc := "()Ljava/util/PriorityQueue;" } : Jvm.MethodName)) ∈ lw_all := lw_g (lw_at lw_m6 167 rfl) rfl
theorem q1463 : (Jvm.Cond.selects "FieldPumps$Station" ({ cls := "FieldPumps$Station", name := "ready", desc := "()Ljava/util/PriorityQueue;" } : Jvm.MethodName) ({ cls := "FieldPumps$Station", name := "ready", desc := "()Ljava/util/PriorityQueue;" } : Jvm.MethodName)) ∈ lw_all := lw_g (lw_at lw_m6 168 rfl) rfl
theorem q1464 : (Jvm.Cond.code ({ cls := "FieldPumps$Station", name := "ready", desc := "()Ljava/util/PriorityQueue;" } : Jvm.MethodName) prog_15_method_13_code (3 : Nat) (Option.some (Jvm.ClassFile.FieldType.object "java/util/PriorityQueue"))) ∈ lw_all := lw_g (lw_at lw_m6 169 rfl) rfl
theorem q1465 : (Jvm.Cond.methodLink "FieldPumps$Station" (243 : Nat) ({ cls := "java/util/PriorityQueue", name := "clear", desc := "()V" } : Jvm.MethodName)) ∈ lw_all := lw_g (lw_at lw_m6 170 rfl) rfl
theorem q1469 : (Jvm.Cond.methodLink "FieldPumps$Station" (246 : Nat) ({ cls := "java/util/PriorityQueue", name := "add", desc := "(Ljava/lang/Object;)Z" } : Jvm.MethodName)) ∈ lw_all := lw_g (lw_at lw_m6 174 rfl) rfl
theorem q1498 : (Jvm.Cond.methodLink "FieldPumps$Station" (331 : Nat) ({ cls := "java/util/PriorityQueue", name := "peek", desc := "()Ljava/lang/Object;" } : Jvm.MethodName)) ∈ lw_all := lw_g (lw_at lw_m6 203 rfl) rfl
theorem q1502 : (Jvm.Cond.methodLink "FieldPumps$Station" (334 : Nat) ({ cls := "FieldPumps$Station", name := "start", desc := "(LFieldPumps$Pump;)V" } : Jvm.MethodName)) ∈ lw_all := lw_g (lw_at lw_m6 207 rfl) rfl
theorem q1503 : (Jvm.Cond.privateMethod ({ cls := "FieldPumps$Station", name := "start", desc := "(LFieldPumps$Pump;)V" } : Jvm.MethodName)) ∈ lw_tbl := lw_at lw_m6 208 rfl
theorem q1504 : (Jvm.Cond.instanceMethod ({ cls := "FieldPumps$Station", name := "start", desc := "(LFieldPumps$Pump;)V" } : Jvm.MethodName)) ∈ lw_all := lw_g (lw_at lw_m6 209 rfl) rfl
theorem q1505 : (Jvm.Cond.code ({ cls := "FieldPumps$Station", name := "start", desc := "(LFieldPumps$Pump;)V" } : Jvm.MethodName) prog_15_method_15_code (2 : Nat) (Option.none : Option Jvm.ClassFile.FieldType)) ∈ lw_all := lw_g (lw_at lw_m6 210 rfl) rfl
theorem q1506 : (Jvm.Cond.methodLink "FieldPumps$Station" (259 : Nat) ({ cls := "FieldPumps$Pump", name := "start", desc := "(I)V" } : Jvm.MethodName)) ∈ lw_all := lw_g (lw_at lw_m6 211 rfl) rfl
theorem q1513 : (Jvm.Cond.methodLink "FieldPumps$Station" (336 : Nat) ({ cls := "FieldPumps$Station", name := "forget", desc := "()V" } : Jvm.MethodName)) ∈ lw_all := lw_g (lw_at lw_m6 218 rfl) rfl
theorem q1514 : (Jvm.Cond.methodLink "FieldPumps$Station" (339 : Nat) ({ cls := "FieldPumps$Station", name := "watch", desc := "()V" } : Jvm.MethodName)) ∈ lw_all := lw_g (lw_at lw_m6 219 rfl) rfl
theorem q1515 : (Jvm.Cond.privateMethod ({ cls := "FieldPumps$Station", name := "watch", desc := "()V" } : Jvm.MethodName)) ∈ lw_tbl := lw_at lw_m6 220 rfl
theorem q1516 : (Jvm.Cond.instanceMethod ({ cls := "FieldPumps$Station", name := "watch", desc := "()V" } : Jvm.MethodName)) ∈ lw_all := lw_g (lw_at lw_m6 221 rfl) rfl
theorem q1517 : (Jvm.Cond.code ({ cls := "FieldPumps$Station", name := "watch", desc := "()V" } : Jvm.MethodName) prog_15_method_32_code (2 : Nat) (Option.none : Option Jvm.ClassFile.FieldType)) ∈ lw_all := lw_g (lw_at lw_m6 222 rfl) rfl
theorem q1518 : (Jvm.Cond.interfaceEntry "FieldPumps$Station" (348 : Nat)) ∈ lw_tbl := lw_at lw_m6 223 rfl
theorem q1519 : (Jvm.Cond.methodLink "FieldPumps$Station" (348 : Nat) ({ cls := "FieldPumps$Watch", name := "holds", desc := "(LFieldPumps$Station;)Z" } : Jvm.MethodName)) ∈ lw_all := lw_g (lw_at lw_m6 224 rfl) rfl
theorem q1522 : (Jvm.Cond.methodLink "FieldPumps$Station" (342 : Nat) ({ cls := "FieldPumps$Station", name := "stage", desc := "()V" } : Jvm.MethodName)) ∈ lw_all := lw_g (lw_at lw_m6 227 rfl) rfl
theorem q1523 : (Jvm.Cond.privateMethod ({ cls := "FieldPumps$Station", name := "stage", desc := "()V" } : Jvm.MethodName)) ∈ lw_tbl := lw_at lw_m6 228 rfl
theorem q1524 : (Jvm.Cond.instanceMethod ({ cls := "FieldPumps$Station", name := "stage", desc := "()V" } : Jvm.MethodName)) ∈ lw_all := lw_g (lw_at lw_m6 229 rfl) rfl
theorem q1525 : (Jvm.Cond.code ({ cls := "FieldPumps$Station", name := "stage", desc := "()V" } : Jvm.MethodName) prog_15_method_34_code (1 : Nat) (Option.none : Option Jvm.ClassFile.FieldType)) ∈ lw_all := lw_g (lw_at lw_m6 230 rfl) rfl
theorem q1526 : (Jvm.Cond.methodLink "FieldPumps$Station" (351 : Nat) ({ cls := "FieldPumps$Station", name := "isDue", desc := "(II)Z" } : Jvm.MethodName)) ∈ lw_all := lw_g (lw_at lw_m6 231 rfl) rfl
theorem q1527 : (Jvm.Cond.privateMethod ({ cls := "FieldPumps$Station", name := "isDue", desc := "(II)Z" } : Jvm.MethodName)) ∈ lw_tbl := lw_at lw_m6 232 rfl
theorem q1528 : (Jvm.Cond.instanceMethod ({ cls := "FieldPumps$Station", name := "isDue", desc := "(II)Z" } : Jvm.MethodName)) ∈ lw_all := lw_g (lw_at lw_m6 233 rfl) rfl
theorem q1529 : (Jvm.Cond.code ({ cls := "FieldPumps$Station", name := "isDue", desc := "(II)Z" } : Jvm.MethodName) prog_15_method_33_code (3 : Nat) (Option.some Jvm.ClassFile.FieldType.boolean)) ∈ lw_all := lw_g (lw_at lw_m6 234 rfl) rfl
theorem q1530 : (Jvm.Cond.methodLink "FieldPumps$Station" (355 : Nat) ({ cls := "FieldPumps$Station", name := "mostRun", desc := "()LFieldPumps$Pump;" } : Jvm.MethodName)) ∈ lw_all := lw_g (lw_at lw_m6 235 rfl) rfl
theorem q1531 : (Jvm.Cond.privateMethod ({ cls := "FieldPumps$Station", name := "mostRun", desc := "()LFieldPumps$Pump;" } : Jvm.MethodName)) ∈ lw_tbl := lw_at lw_m6 236 rfl
theorem q1532 : (Jvm.Cond.instanceMethod ({ cls := "FieldPumps$Station", name := "mostRun", desc := "()LFieldPumps$Pump;" } : Jvm.MethodName)) ∈ lw_all := lw_g (lw_at lw_m6 237 rfl) rfl
theorem q1533 : (Jvm.Cond.code ({ cls := "FieldPumps$Station", name := "mostRun", desc := "()LFieldPumps$Pump;" } : Jvm.MethodName) prog_15_method_35_code (5 : Nat) (Option.some (Jvm.ClassFile.FieldType.object "FieldPumps$Pump"))) ∈ lw_all := lw_g (lw_at lw_m6 238 rfl) rfl
theorem q1534 : (Jvm.Cond.methodLink "FieldPumps$Station" (345 : Nat) ({ cls := "FieldPumps$Station", name := "rotate", desc := "()V" } : Jvm.MethodName)) ∈ lw_all := lw_g (lw_at lw_m6 239 rfl) rfl
theorem q1535 : (Jvm.Cond.privateMethod ({ cls := "FieldPumps$Station", name := "rotate", desc := "()V" } : Jvm.MethodName)) ∈ lw_tbl := lw_at lw_m7 0 rfl
theorem q1536 : (Jvm.Cond.instanceMethod ({ cls := "FieldPumps$Station", name := "rotate", desc := "()V" } : Jvm.MethodName)) ∈ lw_all := lw_g (lw_at lw_m7 1 rfl) rfl
theorem q1537 : (Jvm.Cond.code ({ cls := "FieldPumps$Station", name := "rotate", desc := "()V" } : Jvm.MethodName) prog_15_method_37_code (3 : Nat) (Option.none : Option Jvm.ClassFile.FieldType)) ∈ lw_all := lw_g (lw_at lw_m7 2 rfl) rfl
theorem q1538 : (Jvm.Cond.methodLink "FieldPumps$Station" (364 : Nat) ({ cls := "FieldPumps$Station", name := "fresh", desc := "(LFieldPumps$Pump;)LFieldPumps$Pump;" } : Jvm.MethodName)) ∈ lw_all := lw_g (lw_at lw_m7 3 rfl) rfl
theorem q1539 : (Jvm.Cond.privateMethod ({ cls := "FieldPumps$Station", name := "fresh", desc := "(LFieldPumps$Pump;)LFieldPumps$Pump;" } : Jvm.MethodName)) ∈ lw_tbl := lw_at lw_m7 4 rfl
theorem q1540 : (Jvm.Cond.instanceMethod ({ cls := "FieldPumps$Station", name := "fresh", desc := "(LFieldPumps$Pump;)LFieldPumps$Pump;" } : Jvm.MethodName)) ∈ lw_all := lw_g (lw_at lw_m7 5 rfl) rfl
theorem q1541 : (Jvm.Cond.code ({ cls := "FieldPumps$Station", name := "fresh", desc := "(LFieldPumps$Pump;)LFieldPumps$Pump;" } : Jvm.MethodName) prog_15_method_36_code (6 : Nat) (Option.some (Jvm.ClassFile.FieldType.object "FieldPumps$Pump"))) ∈ lw_all := lw_g (lw_at lw_m7 6 rfl) rfl
theorem q1542 : (Jvm.Cond.methodLink "FieldPumps$Station" (381 : Nat) ({ cls := "FieldPumps$Station", name := "clearTrips", desc := "()V" } : Jvm.MethodName)) ∈ lw_all := lw_g (lw_at lw_m7 7 rfl) rfl
theorem q1543 : (Jvm.Cond.instanceMethod ({ cls := "FieldPumps$Station", name := "clearTrips", desc := "()V" } : Jvm.MethodName)) ∈ lw_all := lw_g (lw_at lw_m7 8 rfl) rfl
theorem q1544 : (Jvm.Cond.selects "FieldPumps$Station" ({ cls := "FieldPumps$Station", name := "clearTrips", desc := "()V" } : Jvm.MethodName) ({ cls := "FieldPumps$Station", name := "clearTrips", desc := "()V" } : Jvm.MethodName)) ∈ lw_all := lw_g (lw_at lw_m7 9 rfl) rfl
theorem q1545 : (Jvm.Cond.code ({ cls := "FieldPumps$Station", name := "clearTrips", desc := "()V" } : Jvm.MethodName) prog_15_method_25_code (1 : Nat) (Option.none : Option Jvm.ClassFile.FieldType)) ∈ lw_all := lw_g (lw_at lw_m7 10 rfl) rfl
theorem q1546 : (Jvm.Cond.methodLink "FieldPumps$Station" (305 : Nat) ({ cls := "FieldPumps$Station", name := "canGoOn", desc := "()Z" } : Jvm.MethodName)) ∈ lw_all := lw_g (lw_at lw_m7 11 rfl) rfl
theorem q1547 : (Jvm.Cond.methodLink "FieldPumps$Station" (308 : Nat) ({ cls := "FieldPumps$Station", name := "goOn", desc := "()V" } : Jvm.MethodName)) ∈ lw_all := lw_g (lw_at lw_m7 12 rfl) rfl
theorem q1617 : (Jvm.Cond.instanceMethod ({ cls := "FieldPumps$Station", name := "isZone", desc := "(I)Z" } : Jvm.MethodName)) ∈ lw_all := lw_g (lw_at lw_m7 82 rfl) rfl
theorem q1618 : (Jvm.Cond.selects "FieldPumps$Station" ({ cls := "FieldPumps$Station", name := "isZone", desc := "(I)Z" } : Jvm.MethodName) ({ cls := "FieldPumps$Station", name := "isZone", desc := "(I)Z" } : Jvm.MethodName)) ∈ lw_all := lw_g (lw_at lw_m7 83 rfl) rfl
theorem q1619 : (Jvm.Cond.code ({ cls := "FieldPumps$Station", name := "isZone", desc := "(I)Z" } : Jvm.MethodName) prog_15_method_6_code (2 : Nat) (Option.some Jvm.ClassFile.FieldType.boolean)) ∈ lw_all := lw_g (lw_at lw_m7 84 rfl) rfl
theorem q1621 : (Jvm.Cond.instanceMethod ({ cls := "FieldPumps$Station", name := "can", desc := "(II)Z" } : Jvm.MethodName)) ∈ lw_all := lw_g (lw_at lw_m7 86 rfl) rfl
theorem q1622 : (Jvm.Cond.selects "FieldPumps$Station" ({ cls := "FieldPumps$Station", name := "can", desc := "(II)Z" } : Jvm.MethodName) ({ cls := "FieldPumps$Station", name := "can", desc := "(II)Z" } : Jvm.MethodName)) ∈ lw_all := lw_g (lw_at lw_m7 87 rfl) rfl
theorem q1623 : (Jvm.Cond.code ({ cls := "FieldPumps$Station", name := "can", desc := "(II)Z" } : Jvm.MethodName) prog_15_method_39_code (3 : Nat) (Option.some Jvm.ClassFile.FieldType.boolean)) ∈ lw_all := lw_g (lw_at lw_m7 88 rfl) rfl
theorem q1624 : (Jvm.Cond.constantLong "FieldPumps$Station" (373 : Nat) (240 : Int64)) ∈ lw_all := lw_g (lw_at lw_m7 89 rfl) rfl
theorem q1700 : (Jvm.Cond.instanceMethod ({ cls := "FieldPumps$Station", name := "leader", desc := "()Ljava/util/Optional;" } : Jvm.MethodName)) ∈ lw_all := lw_g (lw_at lw_m7 165 rfl) rfl
theorem q1701 : (Jvm.Cond.selects "FieldPumps$Station" ({ cls := "FieldPumps$Station", name := "leader", desc := "()Ljava/util/Optional;" } : Jvm.MethodName) ({ cls := "FieldPumps$Station", name := "leader", desc := "()Ljava/util/Optional;" } : Jvm.MethodName)) ∈ lw_all := lw_g (lw_at lw_m7 166 rfl) rfl
theorem q1702 : (Jvm.Cond.code ({ cls := "FieldPumps$Station", name := "leader", desc := "()Ljava/util/Optional;" } : Jvm.MethodName) prog_15_method_14_code (1 : Nat) (Option.some (Jvm.ClassFile.FieldType.object "java/util/Optional"))) ∈ lw_all := lw_g (lw_at lw_m7 167 rfl) rfl
theorem q1703 : (Jvm.Cond.methodLink "FieldPumps$Station" (247 : Nat) ({ cls := "java/util/Optional", name := "empty", desc := "()Ljava/util/Optional;" } : Jvm.MethodName)) ∈ lw_all := lw_g (lw_at lw_m7 168 rfl) rfl
theorem q1708 : (Jvm.Cond.methodLink "FieldPumps$Station" (253 : Nat) ({ cls := "java/util/Optional", name := "of", desc := "(Ljava/lang/Object;)Ljava/util/Optional;" } : Jvm.MethodName)) ∈ lw_all := lw_g (lw_at lw_m7 173 rfl) rfl
theorem q2419 : (Jvm.Cond.castable "FieldPumps$Station" "java/lang/Object") ∈ lw_tbl := lw_at lw_m10 164 rfl
theorem in_X1 : ∀ w ∈ wsX10, w ∈ lw_all := lw_in wsX10 [361, 363, 365, 367, 369, 371, 373, 375, 377, 379, 381, 383, 385, 387, 389, 391, 393, 395, 397, 399, 401, 403, 405, 407, 409, 411, 413, 415, 417, 419] (by decide +kernel) (by decide +kernel)
