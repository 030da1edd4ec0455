set_option maxRecDepth 100000
abbrev cX4_init : ByteArray := prog_20_method_1_code
def yX4_init : MethodName := ⟨RX4, "<init>", "()V"⟩
def dkwX4_init_3 : List UInt8 := [27, 184, 0, 22, 79, 132, 1, 1, 167, 255, 234, 177]
abbrev dktX4_init_3 : List UInt8 := dkwX4_init_3 ++ []
def dkwX4_init_2 : List UInt8 := [79, 42, 180, 0, 7, 7, 2, 79, 3, 60, 27, 16, 19, 162, 0, 22, 42, 180, 0, 7, 16, 20, 27, 96]
abbrev dktX4_init_2 : List UInt8 := dkwX4_init_2 ++ dktX4_init_3
def dkwX4_init_1 : List UInt8 := [17, 0, 170, 188, 10, 181, 0, 16, 42, 16, 60, 188, 10, 181, 0, 19, 42, 180, 0, 7, 5, 17, 39, 16]
abbrev dktX4_init_1 : List UInt8 := dkwX4_init_1 ++ dktX4_init_2
def dkwX4_init_0 : List UInt8 := [42, 183, 0, 1, 42, 17, 0, 170, 188, 10, 181, 0, 7, 42, 17, 2, 168, 188, 10, 181, 0, 13, 42]
abbrev dktX4_init_0 : List UInt8 := dkwX4_init_0 ++ dktX4_init_1
theorem dksX4_init_0 : cX4_init.data.toList.drop 0 = dktX4_init_0 := by decide +kernel
theorem dksX4_init_1 : cX4_init.data.toList.drop 23 = dktX4_init_1 := dk_seg dksX4_init_0 23 rfl rfl
theorem dksX4_init_2 : cX4_init.data.toList.drop 47 = dktX4_init_2 := dk_seg dksX4_init_1 24 rfl rfl
theorem dksX4_init_3 : cX4_init.data.toList.drop 71 = dktX4_init_3 := dk_seg dksX4_init_2 24 rfl rfl
theorem dX4_init_0 : decode cX4_init 0 = .ok (.aload_n 0, 1) := dk_42 (dk_at dksX4_init_0 0 rfl rfl)
theorem dX4_init_1 : decode cX4_init 1 = .ok (.invokespecial 1, 3) := dk_183 0 1 (dk_at dksX4_init_0 1 rfl rfl)
theorem dX4_init_4 : decode cX4_init 4 = .ok (.aload_n 0, 1) := dk_42 (dk_at dksX4_init_0 4 rfl rfl)
theorem dX4_init_5 : decode cX4_init 5 = .ok (.sipush 170, 3) := dk_17 0 170 (dk_at dksX4_init_0 5 rfl rfl)
theorem dX4_init_8 : decode cX4_init 8 = .ok (.newarray .int, 2) := dk_188_10 (dk_at dksX4_init_0 8 rfl rfl)
theorem dX4_init_10 : decode cX4_init 10 = .ok (.putfield 7, 3) := dk_181 0 7 (dk_at dksX4_init_0 10 rfl rfl)
theorem dX4_init_13 : decode cX4_init 13 = .ok (.aload_n 0, 1) := dk_42 (dk_at dksX4_init_0 13 rfl rfl)
theorem dX4_init_14 : decode cX4_init 14 = .ok (.sipush 680, 3) := dk_17 2 168 (dk_at dksX4_init_0 14 rfl rfl)
theorem dX4_init_17 : decode cX4_init 17 = .ok (.newarray .int, 2) := dk_188_10 (dk_at dksX4_init_0 17 rfl rfl)
theorem dX4_init_19 : decode cX4_init 19 = .ok (.putfield 13, 3) := dk_181 0 13 (dk_at dksX4_init_0 19 rfl rfl)
theorem dX4_init_22 : decode cX4_init 22 = .ok (.aload_n 0, 1) := dk_42 (dk_at dksX4_init_0 22 rfl rfl)
theorem dX4_init_23 : decode cX4_init 23 = .ok (.sipush 170, 3) := dk_17 0 170 (dk_at dksX4_init_1 0 rfl rfl)
theorem dX4_init_26 : decode cX4_init 26 = .ok (.newarray .int, 2) := dk_188_10 (dk_at dksX4_init_1 3 rfl rfl)
theorem dX4_init_28 : decode cX4_init 28 = .ok (.putfield 16, 3) := dk_181 0 16 (dk_at dksX4_init_1 5 rfl rfl)
theorem dX4_init_31 : decode cX4_init 31 = .ok (.aload_n 0, 1) := dk_42 (dk_at dksX4_init_1 8 rfl rfl)
theorem dX4_init_32 : decode cX4_init 32 = .ok (.bipush 60, 2) := dk_16 60 (dk_at dksX4_init_1 9 rfl rfl)
theorem dX4_init_34 : decode cX4_init 34 = .ok (.newarray .int, 2) := dk_188_10 (dk_at dksX4_init_1 11 rfl rfl)
theorem dX4_init_36 : decode cX4_init 36 = .ok (.putfield 19, 3) := dk_181 0 19 (dk_at dksX4_init_1 13 rfl rfl)
theorem dX4_init_39 : decode cX4_init 39 = .ok (.aload_n 0, 1) := dk_42 (dk_at dksX4_init_1 16 rfl rfl)
theorem dX4_init_40 : decode cX4_init 40 = .ok (.getfield 7, 3) := dk_180 0 7 (dk_at dksX4_init_1 17 rfl rfl)
theorem dX4_init_43 : decode cX4_init 43 = .ok (.iconst 2, 1) := dk_5 (dk_at dksX4_init_1 20 rfl rfl)
theorem dX4_init_44 : decode cX4_init 44 = .ok (.sipush 10000, 3) := dk_17 39 16 (dk_at dksX4_init_1 21 rfl rfl)
theorem dX4_init_47 : decode cX4_init 47 = .ok (.iastore, 1) := dk_79 (dk_at dksX4_init_2 0 rfl rfl)
theorem dX4_init_48 : decode cX4_init 48 = .ok (.aload_n 0, 1) := dk_42 (dk_at dksX4_init_2 1 rfl rfl)
theorem dX4_init_49 : decode cX4_init 49 = .ok (.getfield 7, 3) := dk_180 0 7 (dk_at dksX4_init_2 2 rfl rfl)
theorem dX4_init_52 : decode cX4_init 52 = .ok (.iconst 4, 1) := dk_7 (dk_at dksX4_init_2 5 rfl rfl)
theorem dX4_init_53 : decode cX4_init 53 = .ok (.iconst (-1), 1) := dk_2 (dk_at dksX4_init_2 6 rfl rfl)
theorem dX4_init_54 : decode cX4_init 54 = .ok (.iastore, 1) := dk_79 (dk_at dksX4_init_2 7 rfl rfl)
theorem dX4_init_55 : decode cX4_init 55 = .ok (.iconst 0, 1) := dk_3 (dk_at dksX4_init_2 8 rfl rfl)
theorem dX4_init_56 : decode cX4_init 56 = .ok (.istore_n 1, 1) := dk_60 (dk_at dksX4_init_2 9 rfl rfl)
theorem dX4_init_57 : decode cX4_init 57 = .ok (.iload_n 1, 1) := dk_27 (dk_at dksX4_init_2 10 rfl rfl)
theorem dX4_init_58 : decode cX4_init 58 = .ok (.bipush 19, 2) := dk_16 19 (dk_at dksX4_init_2 11 rfl rfl)
theorem dX4_init_60 : decode cX4_init 60 = .ok (.if_icmp .ge 22, 3) := dk_162 0 22 (dk_at dksX4_init_2 13 rfl rfl)
theorem dX4_init_63 : decode cX4_init 63 = .ok (.aload_n 0, 1) := dk_42 (dk_at dksX4_init_2 16 rfl rfl)
theorem dX4_init_64 : decode cX4_init 64 = .ok (.getfield 7, 3) := dk_180 0 7 (dk_at dksX4_init_2 17 rfl rfl)
theorem dX4_init_67 : decode cX4_init 67 = .ok (.bipush 20, 2) := dk_16 20 (dk_at dksX4_init_2 20 rfl rfl)
theorem dX4_init_69 : decode cX4_init 69 = .ok (.iload_n 1, 1) := dk_27 (dk_at dksX4_init_2 22 rfl rfl)
theorem dX4_init_70 : decode cX4_init 70 = .ok (.iadd, 1) := dk_96 (dk_at dksX4_init_2 23 rfl rfl)
theorem dX4_init_71 : decode cX4_init 71 = .ok (.iload_n 1, 1) := dk_27 (dk_at dksX4_init_3 0 rfl rfl)
theorem dX4_init_72 : decode cX4_init 72 = .ok (.invokestatic 22, 3) := dk_184 0 22 (dk_at dksX4_init_3 1 rfl rfl)
theorem dX4_init_75 : decode cX4_init 75 = .ok (.iastore, 1) := dk_79 (dk_at dksX4_init_3 4 rfl rfl)
theorem dX4_init_76 : decode cX4_init 76 = .ok (.iinc 1 1, 3) := dk_132 1 1 (dk_at dksX4_init_3 5 rfl rfl)
theorem dX4_init_79 : decode cX4_init 79 = .ok (.goto (-22), 3) := dk_167 255 234 (dk_at dksX4_init_3 8 rfl rfl)
theorem dX4_init_82 : decode cX4_init 82 = .ok (.return_, 1) := dk_177 (dk_at dksX4_init_3 11 rfl rfl)
abbrev cX4_firstOf : ByteArray := prog_20_method_4_code
def yX4_firstOf : MethodName := ⟨RX4, "firstOf", "(I)I"⟩
def dkwX4_firstOf_3 : List UInt8 := [17, 7, 208, 172, 5, 172, 17, 1, 44, 172, 17, 0, 180, 172, 17, 11, 184, 172, 3, 172]
abbrev dktX4_firstOf_3 : List UInt8 := dkwX4_firstOf_3 ++ []
def dkwX4_firstOf_2 : List UInt8 := [17, 1, 144, 172, 16, 20, 172, 16, 100, 172, 17, 1, 244, 172, 6, 172, 8, 172, 16, 60, 172, 7, 172]
abbrev dktX4_firstOf_2 : List UInt8 := dkwX4_firstOf_2 ++ dktX4_firstOf_3
def dkwX4_firstOf_1 : List UInt8 := [170, 0, 0, 0, 0, 0, 128, 0, 0, 0, 0, 0, 0, 0, 17, 0, 0, 0, 87, 0, 0, 0, 91, 0, 0, 0, 91, 0, 0, 0, 94, 0, 0, 0, 97, 0, 0, 0, 101, 0, 0, 0, 103, 0, 0, 0, 105, 0, 0, 0, 108, 0, 0, 0, 105, 0, 0, 0, 91, 0, 0, 0, 97, 0, 0, 0, 110, 0, 0, 0, 114, 0, 0, 0, 116, 0, 0, 0, 105, 0, 0, 0, 120, 0, 0, 0, 124]
abbrev dktX4_firstOf_1 : List UInt8 := dkwX4_firstOf_1 ++ dktX4_firstOf_2
def dkwX4_firstOf_0 : List UInt8 := [26]
abbrev dktX4_firstOf_0 : List UInt8 := dkwX4_firstOf_0 ++ dktX4_firstOf_1
theorem dksX4_firstOf_0 : cX4_firstOf.data.toList.drop 0 = dktX4_firstOf_0 := by decide +kernel
theorem dksX4_firstOf_1 : cX4_firstOf.data.toList.drop 1 = dktX4_firstOf_1 := dk_seg dksX4_firstOf_0 1 rfl rfl
theorem dksX4_firstOf_2 : cX4_firstOf.data.toList.drop 88 = dktX4_firstOf_2 := dk_seg dksX4_firstOf_1 87 rfl rfl
theorem dksX4_firstOf_3 : cX4_firstOf.data.toList.drop 111 = dktX4_firstOf_3 := dk_seg dksX4_firstOf_2 23 rfl rfl
theorem dX4_firstOf_0 : decode cX4_firstOf 0 = .ok (.iload_n 0, 1) := dk_26 (dk_at dksX4_firstOf_0 0 rfl rfl)
theorem dX4_firstOf_1 : decode cX4_firstOf 1 = .ok (.tableswitch 128 0 17 #[87, 91, 91, 94, 97, 101, 103, 105, 108, 105, 91, 97, 110, 114, 116, 105, 120, 124], 87) := by decide +kernel
theorem dX4_firstOf_88 : decode cX4_firstOf 88 = .ok (.sipush 400, 3) := dk_17 1 144 (dk_at dksX4_firstOf_2 0 rfl rfl)
theorem dX4_firstOf_91 : decode cX4_firstOf 91 = .ok (.ireturn, 1) := dk_172 (dk_at dksX4_firstOf_2 3 rfl rfl)
theorem dX4_firstOf_92 : decode cX4_firstOf 92 = .ok (.bipush 20, 2) := dk_16 20 (dk_at dksX4_firstOf_2 4 rfl rfl)
theorem dX4_firstOf_94 : decode cX4_firstOf 94 = .ok (.ireturn, 1) := dk_172 (dk_at dksX4_firstOf_2 6 rfl rfl)
theorem dX4_firstOf_95 : decode cX4_firstOf 95 = .ok (.bipush 100, 2) := dk_16 100 (dk_at dksX4_firstOf_2 7 rfl rfl)
theorem dX4_firstOf_97 : decode cX4_firstOf 97 = .ok (.ireturn, 1) := dk_172 (dk_at dksX4_firstOf_2 9 rfl rfl)
theorem dX4_firstOf_98 : decode cX4_firstOf 98 = .ok (.sipush 500, 3) := dk_17 1 244 (dk_at dksX4_firstOf_2 10 rfl rfl)
theorem dX4_firstOf_101 : decode cX4_firstOf 101 = .ok (.ireturn, 1) := dk_172 (dk_at dksX4_firstOf_2 13 rfl rfl)
theorem dX4_firstOf_102 : decode cX4_firstOf 102 = .ok (.iconst 3, 1) := dk_6 (dk_at dksX4_firstOf_2 14 rfl rfl)
theorem dX4_firstOf_103 : decode cX4_firstOf 103 = .ok (.ireturn, 1) := dk_172 (dk_at dksX4_firstOf_2 15 rfl rfl)
theorem dX4_firstOf_104 : decode cX4_firstOf 104 = .ok (.iconst 5, 1) := dk_8 (dk_at dksX4_firstOf_2 16 rfl rfl)
theorem dX4_firstOf_105 : decode cX4_firstOf 105 = .ok (.ireturn, 1) := dk_172 (dk_at dksX4_firstOf_2 17 rfl rfl)
theorem dX4_firstOf_106 : decode cX4_firstOf 106 = .ok (.bipush 60, 2) := dk_16 60 (dk_at dksX4_firstOf_2 18 rfl rfl)
theorem dX4_firstOf_108 : decode cX4_firstOf 108 = .ok (.ireturn, 1) := dk_172 (dk_at dksX4_firstOf_2 20 rfl rfl)
theorem dX4_firstOf_109 : decode cX4_firstOf 109 = .ok (.iconst 4, 1) := dk_7 (dk_at dksX4_firstOf_2 21 rfl rfl)
theorem dX4_firstOf_110 : decode cX4_firstOf 110 = .ok (.ireturn, 1) := dk_172 (dk_at dksX4_firstOf_2 22 rfl rfl)
theorem dX4_firstOf_111 : decode cX4_firstOf 111 = .ok (.sipush 2000, 3) := dk_17 7 208 (dk_at dksX4_firstOf_3 0 rfl rfl)
theorem dX4_firstOf_114 : decode cX4_firstOf 114 = .ok (.ireturn, 1) := dk_172 (dk_at dksX4_firstOf_3 3 rfl rfl)
theorem dX4_firstOf_115 : decode cX4_firstOf 115 = .ok (.iconst 2, 1) := dk_5 (dk_at dksX4_firstOf_3 4 rfl rfl)
theorem dX4_firstOf_116 : decode cX4_firstOf 116 = .ok (.ireturn, 1) := dk_172 (dk_at dksX4_firstOf_3 5 rfl rfl)
theorem dX4_firstOf_117 : decode cX4_firstOf 117 = .ok (.sipush 300, 3) := dk_17 1 44 (dk_at dksX4_firstOf_3 6 rfl rfl)
theorem dX4_firstOf_120 : decode cX4_firstOf 120 = .ok (.ireturn, 1) := dk_172 (dk_at dksX4_firstOf_3 9 rfl rfl)
theorem dX4_firstOf_121 : decode cX4_firstOf 121 = .ok (.sipush 180, 3) := dk_17 0 180 (dk_at dksX4_firstOf_3 10 rfl rfl)
theorem dX4_firstOf_124 : decode cX4_firstOf 124 = .ok (.ireturn, 1) := dk_172 (dk_at dksX4_firstOf_3 13 rfl rfl)
theorem dX4_firstOf_125 : decode cX4_firstOf 125 = .ok (.sipush 3000, 3) := dk_17 11 184 (dk_at dksX4_firstOf_3 14 rfl rfl)
theorem dX4_firstOf_128 : decode cX4_firstOf 128 = .ok (.ireturn, 1) := dk_172 (dk_at dksX4_firstOf_3 17 rfl rfl)
theorem dX4_firstOf_129 : decode cX4_firstOf 129 = .ok (.iconst 0, 1) := dk_3 (dk_at dksX4_firstOf_3 18 rfl rfl)
theorem dX4_firstOf_130 : decode cX4_firstOf 130 = .ok (.ireturn, 1) := dk_172 (dk_at dksX4_firstOf_3 19 rfl rfl)
abbrev cX4_set : ByteArray := prog_20_method_8_code
def yX4_set : MethodName := ⟨RX4, "set", "(II)I"⟩
def dkwX4_set_1 : List UInt8 := [180, 0, 7, 16, 20, 27, 96, 28, 79, 29, 172]
abbrev dktX4_set_1 : List UInt8 := dkwX4_set_1 ++ []
def dkwX4_set_0 : List UInt8 := [27, 28, 184, 0, 58, 154, 0, 6, 18, 62, 172, 42, 182, 0, 63, 42, 27, 182, 0, 66, 62, 42]
abbrev dktX4_set_0 : List UInt8 := dkwX4_set_0 ++ dktX4_set_1
theorem dksX4_set_0 : cX4_set.data.toList.drop 0 = dktX4_set_0 := by decide +kernel
theorem dksX4_set_1 : cX4_set.data.toList.drop 22 = dktX4_set_1 := dk_seg dksX4_set_0 22 rfl rfl
theorem dX4_set_0 : decode cX4_set 0 = .ok (.iload_n 1, 1) := dk_27 (dk_at dksX4_set_0 0 rfl rfl)
theorem dX4_set_1 : decode cX4_set 1 = .ok (.iload_n 2, 1) := dk_28 (dk_at dksX4_set_0 1 rfl rfl)
theorem dX4_set_2 : decode cX4_set 2 = .ok (.invokestatic 58, 3) := dk_184 0 58 (dk_at dksX4_set_0 2 rfl rfl)
theorem dX4_set_5 : decode cX4_set 5 = .ok (.ifCond .ne 6, 3) := dk_154 0 6 (dk_at dksX4_set_0 5 rfl rfl)
theorem dX4_set_8 : decode cX4_set 8 = .ok (.ldc 62, 2) := dk_18 62 (dk_at dksX4_set_0 8 rfl rfl)
theorem dX4_set_10 : decode cX4_set 10 = .ok (.ireturn, 1) := dk_172 (dk_at dksX4_set_0 10 rfl rfl)
theorem dX4_set_11 : decode cX4_set 11 = .ok (.aload_n 0, 1) := dk_42 (dk_at dksX4_set_0 11 rfl rfl)
theorem dX4_set_12 : decode cX4_set 12 = .ok (.invokevirtual 63, 3) := dk_182 0 63 (dk_at dksX4_set_0 12 rfl rfl)
theorem dX4_set_15 : decode cX4_set 15 = .ok (.aload_n 0, 1) := dk_42 (dk_at dksX4_set_0 15 rfl rfl)
theorem dX4_set_16 : decode cX4_set 16 = .ok (.iload_n 1, 1) := dk_27 (dk_at dksX4_set_0 16 rfl rfl)
theorem dX4_set_17 : decode cX4_set 17 = .ok (.invokevirtual 66, 3) := dk_182 0 66 (dk_at dksX4_set_0 17 rfl rfl)
theorem dX4_set_20 : decode cX4_set 20 = .ok (.istore_n 3, 1) := dk_62 (dk_at dksX4_set_0 20 rfl rfl)
theorem dX4_set_21 : decode cX4_set 21 = .ok (.aload_n 0, 1) := dk_42 (dk_at dksX4_set_0 21 rfl rfl)
theorem dX4_set_22 : decode cX4_set 22 = .ok (.getfield 7, 3) := dk_180 0 7 (dk_at dksX4_set_1 0 rfl rfl)
theorem dX4_set_25 : decode cX4_set 25 = .ok (.bipush 20, 2) := dk_16 20 (dk_at dksX4_set_1 3 rfl rfl)
theorem dX4_set_27 : decode cX4_set 27 = .ok (.iload_n 1, 1) := dk_27 (dk_at dksX4_set_1 5 rfl rfl)
theorem dX4_set_28 : decode cX4_set 28 = .ok (.iadd, 1) := dk_96 (dk_at dksX4_set_1 6 rfl rfl)
theorem dX4_set_29 : decode cX4_set 29 = .ok (.iload_n 2, 1) := dk_28 (dk_at dksX4_set_1 7 rfl rfl)
theorem dX4_set_30 : decode cX4_set 30 = .ok (.iastore, 1) := dk_79 (dk_at dksX4_set_1 8 rfl rfl)
theorem dX4_set_31 : decode cX4_set 31 = .ok (.iload_n 3, 1) := dk_29 (dk_at dksX4_set_1 9 rfl rfl)
theorem dX4_set_32 : decode cX4_set 32 = .ok (.ireturn, 1) := dk_172 (dk_at dksX4_set_1 10 rfl rfl)
abbrev cX4_isSetting : ByteArray := prog_20_method_5_code
def yX4_isSetting : MethodName := ⟨RX4, "isSetting", "(II)Z"⟩
def dkwX4_isSetting_8 : List UInt8 := [133, 9, 20, 0, 52, 184, 0, 30, 153, 0, 7, 4, 167, 0, 4, 3, 172]
abbrev dktX4_isSetting_8 : List UInt8 := dkwX4_isSetting_8 ++ []
def dkwX4_isSetting_7 : List UInt8 := [20, 0, 48, 184, 0, 30, 172, 27, 133, 9, 20, 0, 50, 184, 0, 30, 172, 26, 16, 18, 160, 0, 19, 27]
abbrev dktX4_isSetting_7 : List UInt8 := dkwX4_isSetting_7 ++ dktX4_isSetting_8
def dkwX4_isSetting_6 : List UInt8 := [27, 133, 9, 20, 0, 44, 184, 0, 30, 172, 27, 133, 9, 20, 0, 46, 184, 0, 30, 172, 27, 133, 10]
abbrev dktX4_isSetting_6 : List UInt8 := dkwX4_isSetting_6 ++ dktX4_isSetting_7
def dkwX4_isSetting_5 : List UInt8 := [184, 0, 30, 172, 27, 133, 10, 20, 0, 36, 184, 0, 30, 172, 27, 133, 10, 20, 0, 42, 184, 0, 30, 172]
abbrev dktX4_isSetting_5 : List UInt8 := dkwX4_isSetting_5 ++ dktX4_isSetting_6
def dkwX4_isSetting_4 : List UInt8 := [20, 0, 28, 184, 0, 30, 172, 27, 133, 10, 20, 0, 38, 184, 0, 30, 172, 27, 133, 9, 20, 0, 40]
abbrev dktX4_isSetting_4 : List UInt8 := dkwX4_isSetting_4 ++ dktX4_isSetting_5
def dkwX4_isSetting_3 : List UInt8 := [9, 20, 0, 26, 184, 0, 30, 172, 27, 133, 10, 20, 0, 34, 184, 0, 30, 172, 27, 133, 20, 0, 36]
abbrev dktX4_isSetting_3 : List UInt8 := dkwX4_isSetting_3 ++ dktX4_isSetting_4
def dkwX4_isSetting_2 : List UInt8 := [27, 133, 20, 0, 26, 20, 0, 28, 184, 0, 30, 172, 27, 133, 10, 20, 0, 26, 184, 0, 30, 172, 27, 133]
abbrev dktX4_isSetting_2 : List UInt8 := dkwX4_isSetting_2 ++ dktX4_isSetting_3
def dkwX4_isSetting_1 : List UInt8 := [170, 0, 0, 0, 0, 0, 221, 0, 0, 0, 0, 0, 0, 0, 17, 0, 0, 0, 87, 0, 0, 0, 99, 0, 0, 0, 109, 0, 0, 0, 119, 0, 0, 0, 129, 0, 0, 0, 141, 0, 0, 0, 141, 0, 0, 0, 151, 0, 0, 0, 141, 0, 0, 0, 161, 0, 0, 0, 171, 0, 0, 0, 181, 0, 0, 0, 181, 0, 0, 0, 141, 0, 0, 0, 151, 0, 0, 0, 191, 0, 0, 0, 201, 0, 0, 0, 211]
abbrev dktX4_isSetting_1 : List UInt8 := dkwX4_isSetting_1 ++ dktX4_isSetting_2
def dkwX4_isSetting_0 : List UInt8 := [26]
abbrev dktX4_isSetting_0 : List UInt8 := dkwX4_isSetting_0 ++ dktX4_isSetting_1
theorem dksX4_isSetting_0 : cX4_isSetting.data.toList.drop 0 = dktX4_isSetting_0 := by decide +kernel
theorem dksX4_isSetting_1 : cX4_isSetting.data.toList.drop 1 = dktX4_isSetting_1 := dk_seg dksX4_isSetting_0 1 rfl rfl
theorem dksX4_isSetting_2 : cX4_isSetting.data.toList.drop 88 = dktX4_isSetting_2 := dk_seg dksX4_isSetting_1 87 rfl rfl
theorem dksX4_isSetting_3 : cX4_isSetting.data.toList.drop 112 = dktX4_isSetting_3 := dk_seg dksX4_isSetting_2 24 rfl rfl
theorem dksX4_isSetting_4 : cX4_isSetting.data.toList.drop 135 = dktX4_isSetting_4 := dk_seg dksX4_isSetting_3 23 rfl rfl
theorem dksX4_isSetting_5 : cX4_isSetting.data.toList.drop 158 = dktX4_isSetting_5 := dk_seg dksX4_isSetting_4 23 rfl rfl
theorem dksX4_isSetting_6 : cX4_isSetting.data.toList.drop 182 = dktX4_isSetting_6 := dk_seg dksX4_isSetting_5 24 rfl rfl
theorem dksX4_isSetting_7 : cX4_isSetting.data.toList.drop 205 = dktX4_isSetting_7 := dk_seg dksX4_isSetting_6 23 rfl rfl
theorem dksX4_isSetting_8 : cX4_isSetting.data.toList.drop 229 = dktX4_isSetting_8 := dk_seg dksX4_isSetting_7 24 rfl rfl
theorem dX4_isSetting_0 : decode cX4_isSetting 0 = .ok (.iload_n 0, 1) := dk_26 (dk_at dksX4_isSetting_0 0 rfl rfl)
theorem dX4_isSetting_1 : decode cX4_isSetting 1 = .ok (.tableswitch 221 0 17 #[87, 99, 109, 119, 129, 141, 141, 151, 141, 161, 171, 181, 181, 141, 151, 191, 201, 211], 87) := by decide +kernel
theorem dX4_isSetting_88 : decode cX4_isSetting 88 = .ok (.iload_n 1, 1) := dk_27 (dk_at dksX4_isSetting_2 0 rfl rfl)
theorem dX4_isSetting_89 : decode cX4_isSetting 89 = .ok (.i2l, 1) := dk_133 (dk_at dksX4_isSetting_2 1 rfl rfl)
theorem dX4_isSetting_90 : decode cX4_isSetting 90 = .ok (.ldc2_w 26, 3) := dk_20 0 26 (dk_at dksX4_isSetting_2 2 rfl rfl)
theorem dX4_isSetting_93 : decode cX4_isSetting 93 = .ok (.ldc2_w 28, 3) := dk_20 0 28 (dk_at dksX4_isSetting_2 5 rfl rfl)
theorem dX4_isSetting_96 : decode cX4_isSetting 96 = .ok (.invokestatic 30, 3) := dk_184 0 30 (dk_at dksX4_isSetting_2 8 rfl rfl)
theorem dX4_isSetting_99 : decode cX4_isSetting 99 = .ok (.ireturn, 1) := dk_172 (dk_at dksX4_isSetting_2 11 rfl rfl)
theorem dX4_isSetting_100 : decode cX4_isSetting 100 = .ok (.iload_n 1, 1) := dk_27 (dk_at dksX4_isSetting_2 12 rfl rfl)
theorem dX4_isSetting_101 : decode cX4_isSetting 101 = .ok (.i2l, 1) := dk_133 (dk_at dksX4_isSetting_2 13 rfl rfl)
theorem dX4_isSetting_102 : decode cX4_isSetting 102 = .ok (.lconst 1, 1) := dk_10 (dk_at dksX4_isSetting_2 14 rfl rfl)
theorem dX4_isSetting_103 : decode cX4_isSetting 103 = .ok (.ldc2_w 26, 3) := dk_20 0 26 (dk_at dksX4_isSetting_2 15 rfl rfl)
theorem dX4_isSetting_106 : decode cX4_isSetting 106 = .ok (.invokestatic 30, 3) := dk_184 0 30 (dk_at dksX4_isSetting_2 18 rfl rfl)
theorem dX4_isSetting_109 : decode cX4_isSetting 109 = .ok (.ireturn, 1) := dk_172 (dk_at dksX4_isSetting_2 21 rfl rfl)
theorem dX4_isSetting_110 : decode cX4_isSetting 110 = .ok (.iload_n 1, 1) := dk_27 (dk_at dksX4_isSetting_2 22 rfl rfl)
theorem dX4_isSetting_111 : decode cX4_isSetting 111 = .ok (.i2l, 1) := dk_133 (dk_at dksX4_isSetting_2 23 rfl rfl)
theorem dX4_isSetting_112 : decode cX4_isSetting 112 = .ok (.lconst 0, 1) := dk_9 (dk_at dksX4_isSetting_3 0 rfl rfl)
theorem dX4_isSetting_113 : decode cX4_isSetting 113 = .ok (.ldc2_w 26, 3) := dk_20 0 26 (dk_at dksX4_isSetting_3 1 rfl rfl)
theorem dX4_isSetting_116 : decode cX4_isSetting 116 = .ok (.invokestatic 30, 3) := dk_184 0 30 (dk_at dksX4_isSetting_3 4 rfl rfl)
theorem dX4_isSetting_119 : decode cX4_isSetting 119 = .ok (.ireturn, 1) := dk_172 (dk_at dksX4_isSetting_3 7 rfl rfl)
theorem dX4_isSetting_120 : decode cX4_isSetting 120 = .ok (.iload_n 1, 1) := dk_27 (dk_at dksX4_isSetting_3 8 rfl rfl)
theorem dX4_isSetting_121 : decode cX4_isSetting 121 = .ok (.i2l, 1) := dk_133 (dk_at dksX4_isSetting_3 9 rfl rfl)
theorem dX4_isSetting_122 : decode cX4_isSetting 122 = .ok (.lconst 1, 1) := dk_10 (dk_at dksX4_isSetting_3 10 rfl rfl)
theorem dX4_isSetting_123 : decode cX4_isSetting 123 = .ok (.ldc2_w 34, 3) := dk_20 0 34 (dk_at dksX4_isSetting_3 11 rfl rfl)
theorem dX4_isSetting_126 : decode cX4_isSetting 126 = .ok (.invokestatic 30, 3) := dk_184 0 30 (dk_at dksX4_isSetting_3 14 rfl rfl)
theorem dX4_isSetting_129 : decode cX4_isSetting 129 = .ok (.ireturn, 1) := dk_172 (dk_at dksX4_isSetting_3 17 rfl rfl)
theorem dX4_isSetting_130 : decode cX4_isSetting 130 = .ok (.iload_n 1, 1) := dk_27 (dk_at dksX4_isSetting_3 18 rfl rfl)
theorem dX4_isSetting_131 : decode cX4_isSetting 131 = .ok (.i2l, 1) := dk_133 (dk_at dksX4_isSetting_3 19 rfl rfl)
theorem dX4_isSetting_132 : decode cX4_isSetting 132 = .ok (.ldc2_w 36, 3) := dk_20 0 36 (dk_at dksX4_isSetting_3 20 rfl rfl)
theorem dX4_isSetting_135 : decode cX4_isSetting 135 = .ok (.ldc2_w 28, 3) := dk_20 0 28 (dk_at dksX4_isSetting_4 0 rfl rfl)
theorem dX4_isSetting_138 : decode cX4_isSetting 138 = .ok (.invokestatic 30, 3) := dk_184 0 30 (dk_at dksX4_isSetting_4 3 rfl rfl)
theorem dX4_isSetting_141 : decode cX4_isSetting 141 = .ok (.ireturn, 1) := dk_172 (dk_at dksX4_isSetting_4 6 rfl rfl)
theorem dX4_isSetting_142 : decode cX4_isSetting 142 = .ok (.iload_n 1, 1) := dk_27 (dk_at dksX4_isSetting_4 7 rfl rfl)
theorem dX4_isSetting_143 : decode cX4_isSetting 143 = .ok (.i2l, 1) := dk_133 (dk_at dksX4_isSetting_4 8 rfl rfl)
theorem dX4_isSetting_144 : decode cX4_isSetting 144 = .ok (.lconst 1, 1) := dk_10 (dk_at dksX4_isSetting_4 9 rfl rfl)
theorem dX4_isSetting_145 : decode cX4_isSetting 145 = .ok (.ldc2_w 38, 3) := dk_20 0 38 (dk_at dksX4_isSetting_4 10 rfl rfl)
theorem dX4_isSetting_148 : decode cX4_isSetting 148 = .ok (.invokestatic 30, 3) := dk_184 0 30 (dk_at dksX4_isSetting_4 13 rfl rfl)
theorem dX4_isSetting_151 : decode cX4_isSetting 151 = .ok (.ireturn, 1) := dk_172 (dk_at dksX4_isSetting_4 16 rfl rfl)
theorem dX4_isSetting_152 : decode cX4_isSetting 152 = .ok (.iload_n 1, 1) := dk_27 (dk_at dksX4_isSetting_4 17 rfl rfl)
theorem dX4_isSetting_153 : decode cX4_isSetting 153 = .ok (.i2l, 1) := dk_133 (dk_at dksX4_isSetting_4 18 rfl rfl)
theorem dX4_isSetting_154 : decode cX4_isSetting 154 = .ok (.lconst 0, 1) := dk_9 (dk_at dksX4_isSetting_4 19 rfl rfl)
theorem dX4_isSetting_155 : decode cX4_isSetting 155 = .ok (.ldc2_w 40, 3) := dk_20 0 40 (dk_at dksX4_isSetting_4 20 rfl rfl)
theorem dX4_isSetting_158 : decode cX4_isSetting 158 = .ok (.invokestatic 30, 3) := dk_184 0 30 (dk_at dksX4_isSetting_5 0 rfl rfl)
theorem dX4_isSetting_161 : decode cX4_isSetting 161 = .ok (.ireturn, 1) := dk_172 (dk_at dksX4_isSetting_5 3 rfl rfl)
theorem dX4_isSetting_162 : decode cX4_isSetting 162 = .ok (.iload_n 1, 1) := dk_27 (dk_at dksX4_isSetting_5 4 rfl rfl)
theorem dX4_isSetting_163 : decode cX4_isSetting 163 = .ok (.i2l, 1) := dk_133 (dk_at dksX4_isSetting_5 5 rfl rfl)
theorem dX4_isSetting_164 : decode cX4_isSetting 164 = .ok (.lconst 1, 1) := dk_10 (dk_at dksX4_isSetting_5 6 rfl rfl)
theorem dX4_isSetting_165 : decode cX4_isSetting 165 = .ok (.ldc2_w 36, 3) := dk_20 0 36 (dk_at dksX4_isSetting_5 7 rfl rfl)
theorem dX4_isSetting_168 : decode cX4_isSetting 168 = .ok (.invokestatic 30, 3) := dk_184 0 30 (dk_at dksX4_isSetting_5 10 rfl rfl)
theorem dX4_isSetting_171 : decode cX4_isSetting 171 = .ok (.ireturn, 1) := dk_172 (dk_at dksX4_isSetting_5 13 rfl rfl)
theorem dX4_isSetting_172 : decode cX4_isSetting 172 = .ok (.iload_n 1, 1) := dk_27 (dk_at dksX4_isSetting_5 14 rfl rfl)
theorem dX4_isSetting_173 : decode cX4_isSetting 173 = .ok (.i2l, 1) := dk_133 (dk_at dksX4_isSetting_5 15 rfl rfl)
theorem dX4_isSetting_174 : decode cX4_isSetting 174 = .ok (.lconst 1, 1) := dk_10 (dk_at dksX4_isSetting_5 16 rfl rfl)
theorem dX4_isSetting_175 : decode cX4_isSetting 175 = .ok (.ldc2_w 42, 3) := dk_20 0 42 (dk_at dksX4_isSetting_5 17 rfl rfl)
theorem dX4_isSetting_178 : decode cX4_isSetting 178 = .ok (.invokestatic 30, 3) := dk_184 0 30 (dk_at dksX4_isSetting_5 20 rfl rfl)
theorem dX4_isSetting_181 : decode cX4_isSetting 181 = .ok (.ireturn, 1) := dk_172 (dk_at dksX4_isSetting_5 23 rfl rfl)
theorem dX4_isSetting_182 : decode cX4_isSetting 182 = .ok (.iload_n 1, 1) := dk_27 (dk_at dksX4_isSetting_6 0 rfl rfl)
theorem dX4_isSetting_183 : decode cX4_isSetting 183 = .ok (.i2l, 1) := dk_133 (dk_at dksX4_isSetting_6 1 rfl rfl)
theorem dX4_isSetting_184 : decode cX4_isSetting 184 = .ok (.lconst 0, 1) := dk_9 (dk_at dksX4_isSetting_6 2 rfl rfl)
theorem dX4_isSetting_185 : decode cX4_isSetting 185 = .ok (.ldc2_w 44, 3) := dk_20 0 44 (dk_at dksX4_isSetting_6 3 rfl rfl)
theorem dX4_isSetting_188 : decode cX4_isSetting 188 = .ok (.invokestatic 30, 3) := dk_184 0 30 (dk_at dksX4_isSetting_6 6 rfl rfl)
theorem dX4_isSetting_191 : decode cX4_isSetting 191 = .ok (.ireturn, 1) := dk_172 (dk_at dksX4_isSetting_6 9 rfl rfl)
theorem dX4_isSetting_192 : decode cX4_isSetting 192 = .ok (.iload_n 1, 1) := dk_27 (dk_at dksX4_isSetting_6 10 rfl rfl)
theorem dX4_isSetting_193 : decode cX4_isSetting 193 = .ok (.i2l, 1) := dk_133 (dk_at dksX4_isSetting_6 11 rfl rfl)
theorem dX4_isSetting_194 : decode cX4_isSetting 194 = .ok (.lconst 0, 1) := dk_9 (dk_at dksX4_isSetting_6 12 rfl rfl)
theorem dX4_isSetting_195 : decode cX4_isSetting 195 = .ok (.ldc2_w 46, 3) := dk_20 0 46 (dk_at dksX4_isSetting_6 13 rfl rfl)
theorem dX4_isSetting_198 : decode cX4_isSetting 198 = .ok (.invokestatic 30, 3) := dk_184 0 30 (dk_at dksX4_isSetting_6 16 rfl rfl)
theorem dX4_isSetting_201 : decode cX4_isSetting 201 = .ok (.ireturn, 1) := dk_172 (dk_at dksX4_isSetting_6 19 rfl rfl)
theorem dX4_isSetting_202 : decode cX4_isSetting 202 = .ok (.iload_n 1, 1) := dk_27 (dk_at dksX4_isSetting_6 20 rfl rfl)
theorem dX4_isSetting_203 : decode cX4_isSetting 203 = .ok (.i2l, 1) := dk_133 (dk_at dksX4_isSetting_6 21 rfl rfl)
theorem dX4_isSetting_204 : decode cX4_isSetting 204 = .ok (.lconst 1, 1) := dk_10 (dk_at dksX4_isSetting_6 22 rfl rfl)
theorem dX4_isSetting_205 : decode cX4_isSetting 205 = .ok (.ldc2_w 48, 3) := dk_20 0 48 (dk_at dksX4_isSetting_7 0 rfl rfl)
theorem dX4_isSetting_208 : decode cX4_isSetting 208 = .ok (.invokestatic 30, 3) := dk_184 0 30 (dk_at dksX4_isSetting_7 3 rfl rfl)
theorem dX4_isSetting_211 : decode cX4_isSetting 211 = .ok (.ireturn, 1) := dk_172 (dk_at dksX4_isSetting_7 6 rfl rfl)
theorem dX4_isSetting_212 : decode cX4_isSetting 212 = .ok (.iload_n 1, 1) := dk_27 (dk_at dksX4_isSetting_7 7 rfl rfl)
theorem dX4_isSetting_213 : decode cX4_isSetting 213 = .ok (.i2l, 1) := dk_133 (dk_at dksX4_isSetting_7 8 rfl rfl)
theorem dX4_isSetting_214 : decode cX4_isSetting 214 = .ok (.lconst 0, 1) := dk_9 (dk_at dksX4_isSetting_7 9 rfl rfl)
theorem dX4_isSetting_215 : decode cX4_isSetting 215 = .ok (.ldc2_w 50, 3) := dk_20 0 50 (dk_at dksX4_isSetting_7 10 rfl rfl)
theorem dX4_isSetting_218 : decode cX4_isSetting 218 = .ok (.invokestatic 30, 3) := dk_184 0 30 (dk_at dksX4_isSetting_7 13 rfl rfl)
theorem dX4_isSetting_221 : decode cX4_isSetting 221 = .ok (.ireturn, 1) := dk_172 (dk_at dksX4_isSetting_7 16 rfl rfl)
theorem dX4_isSetting_222 : decode cX4_isSetting 222 = .ok (.iload_n 0, 1) := dk_26 (dk_at dksX4_isSetting_7 17 rfl rfl)
theorem dX4_isSetting_223 : decode cX4_isSetting 223 = .ok (.bipush 18, 2) := dk_16 18 (dk_at dksX4_isSetting_7 18 rfl rfl)
theorem dX4_isSetting_225 : decode cX4_isSetting 225 = .ok (.if_icmp .ne 19, 3) := dk_160 0 19 (dk_at dksX4_isSetting_7 20 rfl rfl)
theorem dX4_isSetting_228 : decode cX4_isSetting 228 = .ok (.iload_n 1, 1) := dk_27 (dk_at dksX4_isSetting_7 23 rfl rfl)
theorem dX4_isSetting_229 : decode cX4_isSetting 229 = .ok (.i2l, 1) := dk_133 (dk_at dksX4_isSetting_8 0 rfl rfl)
theorem dX4_isSetting_230 : decode cX4_isSetting 230 = .ok (.lconst 0, 1) := dk_9 (dk_at dksX4_isSetting_8 1 rfl rfl)
theorem dX4_isSetting_231 : decode cX4_isSetting 231 = .ok (.ldc2_w 52, 3) := dk_20 0 52 (dk_at dksX4_isSetting_8 2 rfl rfl)
theorem dX4_isSetting_234 : decode cX4_isSetting 234 = .ok (.invokestatic 30, 3) := dk_184 0 30 (dk_at dksX4_isSetting_8 5 rfl rfl)
theorem dX4_isSetting_237 : decode cX4_isSetting 237 = .ok (.ifCond .eq 7, 3) := dk_153 0 7 (dk_at dksX4_isSetting_8 8 rfl rfl)
theorem dX4_isSetting_240 : decode cX4_isSetting 240 = .ok (.iconst 1, 1) := dk_4 (dk_at dksX4_isSetting_8 11 rfl rfl)
theorem dX4_isSetting_241 : decode cX4_isSetting 241 = .ok (.goto 4, 3) := dk_167 0 4 (dk_at dksX4_isSetting_8 12 rfl rfl)
theorem dX4_isSetting_244 : decode cX4_isSetting 244 = .ok (.iconst 0, 1) := dk_3 (dk_at dksX4_isSetting_8 15 rfl rfl)
theorem dX4_isSetting_245 : decode cX4_isSetting 245 = .ok (.ireturn, 1) := dk_172 (dk_at dksX4_isSetting_8 16 rfl rfl)
abbrev cX4_in : ByteArray := prog_20_method_3_code
def yX4_in : MethodName := ⟨RX4, "in", "(JJJ)Z"⟩
def dkwX4_in_0 : List UInt8 := [30, 32, 148, 155, 0, 14, 30, 22, 4, 148, 157, 0, 7, 4, 167, 0, 4, 3, 172]
abbrev dktX4_in_0 : List UInt8 := dkwX4_in_0 ++ []
theorem dksX4_in_0 : cX4_in.data.toList.drop 0 = dktX4_in_0 := by decide +kernel
theorem dX4_in_0 : decode cX4_in 0 = .ok (.lload_n 0, 1) := dk_30 (dk_at dksX4_in_0 0 rfl rfl)
theorem dX4_in_1 : decode cX4_in 1 = .ok (.lload_n 2, 1) := dk_32 (dk_at dksX4_in_0 1 rfl rfl)
theorem dX4_in_2 : decode cX4_in 2 = .ok (.lcmp, 1) := dk_148 (dk_at dksX4_in_0 2 rfl rfl)
theorem dX4_in_3 : decode cX4_in 3 = .ok (.ifCond .lt 14, 3) := dk_155 0 14 (dk_at dksX4_in_0 3 rfl rfl)
theorem dX4_in_6 : decode cX4_in 6 = .ok (.lload_n 0, 1) := dk_30 (dk_at dksX4_in_0 6 rfl rfl)
theorem dX4_in_7 : decode cX4_in 7 = .ok (.lload 4, 2) := dk_22 4 (dk_at dksX4_in_0 7 rfl rfl)
theorem dX4_in_9 : decode cX4_in 9 = .ok (.lcmp, 1) := dk_148 (dk_at dksX4_in_0 9 rfl rfl)
theorem dX4_in_10 : decode cX4_in 10 = .ok (.ifCond .gt 7, 3) := dk_157 0 7 (dk_at dksX4_in_0 10 rfl rfl)
theorem dX4_in_13 : decode cX4_in 13 = .ok (.iconst 1, 1) := dk_4 (dk_at dksX4_in_0 13 rfl rfl)
theorem dX4_in_14 : decode cX4_in 14 = .ok (.goto 4, 3) := dk_167 0 4 (dk_at dksX4_in_0 14 rfl rfl)
theorem dX4_in_17 : decode cX4_in 17 = .ok (.iconst 0, 1) := dk_3 (dk_at dksX4_in_0 17 rfl rfl)
theorem dX4_in_18 : decode cX4_in 18 = .ok (.ireturn, 1) := dk_172 (dk_at dksX4_in_0 18 rfl rfl)
abbrev cX4_save : ByteArray := prog_20_method_7_code
def yX4_save : MethodName := ⟨RX4, "save", "()V"⟩
def dkwX4_save_4 : List UInt8 := [181, 0, 54, 177]
abbrev dktX4_save_4 : List UInt8 := dkwX4_save_4 ++ []
def dkwX4_save_3 : List UInt8 := [27, 96, 42, 180, 0, 7, 27, 46, 79, 132, 1, 1, 167, 255, 225, 42, 89, 180, 0, 54, 4, 96]
abbrev dktX4_save_3 : List UInt8 := dkwX4_save_3 ++ dktX4_save_4
def dkwX4_save_2 : List UInt8 := [181, 0, 54, 3, 60, 27, 17, 0, 170, 162, 0, 30, 42, 180, 0, 13, 17, 0, 170, 42, 180, 0, 54, 104]
abbrev dktX4_save_2 : List UInt8 := dkwX4_save_2 ++ dktX4_save_3
def dkwX4_save_1 : List UInt8 := [180, 0, 13, 27, 17, 0, 170, 96, 46, 79, 132, 1, 1, 167, 255, 230, 42, 89, 180, 0, 54, 4, 100]
abbrev dktX4_save_1 : List UInt8 := dkwX4_save_1 ++ dktX4_save_2
def dkwX4_save_0 : List UInt8 := [42, 180, 0, 54, 7, 160, 0, 44, 3, 60, 27, 17, 1, 254, 162, 0, 25, 42, 180, 0, 13, 27, 42]
abbrev dktX4_save_0 : List UInt8 := dkwX4_save_0 ++ dktX4_save_1
theorem dksX4_save_0 : cX4_save.data.toList.drop 0 = dktX4_save_0 := by decide +kernel
theorem dksX4_save_1 : cX4_save.data.toList.drop 23 = dktX4_save_1 := dk_seg dksX4_save_0 23 rfl rfl
theorem dksX4_save_2 : cX4_save.data.toList.drop 46 = dktX4_save_2 := dk_seg dksX4_save_1 23 rfl rfl
theorem dksX4_save_3 : cX4_save.data.toList.drop 70 = dktX4_save_3 := dk_seg dksX4_save_2 24 rfl rfl
theorem dksX4_save_4 : cX4_save.data.toList.drop 92 = dktX4_save_4 := dk_seg dksX4_save_3 22 rfl rfl
theorem dX4_save_0 : decode cX4_save 0 = .ok (.aload_n 0, 1) := dk_42 (dk_at dksX4_save_0 0 rfl rfl)
theorem dX4_save_1 : decode cX4_save 1 = .ok (.getfield 54, 3) := dk_180 0 54 (dk_at dksX4_save_0 1 rfl rfl)
theorem dX4_save_4 : decode cX4_save 4 = .ok (.iconst 4, 1) := dk_7 (dk_at dksX4_save_0 4 rfl rfl)
theorem dX4_save_5 : decode cX4_save 5 = .ok (.if_icmp .ne 44, 3) := dk_160 0 44 (dk_at dksX4_save_0 5 rfl rfl)
theorem dX4_save_8 : decode cX4_save 8 = .ok (.iconst 0, 1) := dk_3 (dk_at dksX4_save_0 8 rfl rfl)
theorem dX4_save_9 : decode cX4_save 9 = .ok (.istore_n 1, 1) := dk_60 (dk_at dksX4_save_0 9 rfl rfl)
theorem dX4_save_10 : decode cX4_save 10 = .ok (.iload_n 1, 1) := dk_27 (dk_at dksX4_save_0 10 rfl rfl)
theorem dX4_save_11 : decode cX4_save 11 = .ok (.sipush 510, 3) := dk_17 1 254 (dk_at dksX4_save_0 11 rfl rfl)
theorem dX4_save_14 : decode cX4_save 14 = .ok (.if_icmp .ge 25, 3) := dk_162 0 25 (dk_at dksX4_save_0 14 rfl rfl)
theorem dX4_save_17 : decode cX4_save 17 = .ok (.aload_n 0, 1) := dk_42 (dk_at dksX4_save_0 17 rfl rfl)
theorem dX4_save_18 : decode cX4_save 18 = .ok (.getfield 13, 3) := dk_180 0 13 (dk_at dksX4_save_0 18 rfl rfl)
theorem dX4_save_21 : decode cX4_save 21 = .ok (.iload_n 1, 1) := dk_27 (dk_at dksX4_save_0 21 rfl rfl)
theorem dX4_save_22 : decode cX4_save 22 = .ok (.aload_n 0, 1) := dk_42 (dk_at dksX4_save_0 22 rfl rfl)
theorem dX4_save_23 : decode cX4_save 23 = .ok (.getfield 13, 3) := dk_180 0 13 (dk_at dksX4_save_1 0 rfl rfl)
theorem dX4_save_26 : decode cX4_save 26 = .ok (.iload_n 1, 1) := dk_27 (dk_at dksX4_save_1 3 rfl rfl)
theorem dX4_save_27 : decode cX4_save 27 = .ok (.sipush 170, 3) := dk_17 0 170 (dk_at dksX4_save_1 4 rfl rfl)
theorem dX4_save_30 : decode cX4_save 30 = .ok (.iadd, 1) := dk_96 (dk_at dksX4_save_1 7 rfl rfl)
theorem dX4_save_31 : decode cX4_save 31 = .ok (.iaload, 1) := dk_46 (dk_at dksX4_save_1 8 rfl rfl)
theorem dX4_save_32 : decode cX4_save 32 = .ok (.iastore, 1) := dk_79 (dk_at dksX4_save_1 9 rfl rfl)
theorem dX4_save_33 : decode cX4_save 33 = .ok (.iinc 1 1, 3) := dk_132 1 1 (dk_at dksX4_save_1 10 rfl rfl)
theorem dX4_save_36 : decode cX4_save 36 = .ok (.goto (-26), 3) := dk_167 255 230 (dk_at dksX4_save_1 13 rfl rfl)
theorem dX4_save_39 : decode cX4_save 39 = .ok (.aload_n 0, 1) := dk_42 (dk_at dksX4_save_1 16 rfl rfl)
theorem dX4_save_40 : decode cX4_save 40 = .ok (.dup, 1) := dk_89 (dk_at dksX4_save_1 17 rfl rfl)
theorem dX4_save_41 : decode cX4_save 41 = .ok (.getfield 54, 3) := dk_180 0 54 (dk_at dksX4_save_1 18 rfl rfl)
theorem dX4_save_44 : decode cX4_save 44 = .ok (.iconst 1, 1) := dk_4 (dk_at dksX4_save_1 21 rfl rfl)
theorem dX4_save_45 : decode cX4_save 45 = .ok (.isub, 1) := dk_100 (dk_at dksX4_save_1 22 rfl rfl)
theorem dX4_save_46 : decode cX4_save 46 = .ok (.putfield 54, 3) := dk_181 0 54 (dk_at dksX4_save_2 0 rfl rfl)
theorem dX4_save_49 : decode cX4_save 49 = .ok (.iconst 0, 1) := dk_3 (dk_at dksX4_save_2 3 rfl rfl)
theorem dX4_save_50 : decode cX4_save 50 = .ok (.istore_n 1, 1) := dk_60 (dk_at dksX4_save_2 4 rfl rfl)
theorem dX4_save_51 : decode cX4_save 51 = .ok (.iload_n 1, 1) := dk_27 (dk_at dksX4_save_2 5 rfl rfl)
theorem dX4_save_52 : decode cX4_save 52 = .ok (.sipush 170, 3) := dk_17 0 170 (dk_at dksX4_save_2 6 rfl rfl)
theorem dX4_save_55 : decode cX4_save 55 = .ok (.if_icmp .ge 30, 3) := dk_162 0 30 (dk_at dksX4_save_2 9 rfl rfl)
theorem dX4_save_58 : decode cX4_save 58 = .ok (.aload_n 0, 1) := dk_42 (dk_at dksX4_save_2 12 rfl rfl)
theorem dX4_save_59 : decode cX4_save 59 = .ok (.getfield 13, 3) := dk_180 0 13 (dk_at dksX4_save_2 13 rfl rfl)
theorem dX4_save_62 : decode cX4_save 62 = .ok (.sipush 170, 3) := dk_17 0 170 (dk_at dksX4_save_2 16 rfl rfl)
theorem dX4_save_65 : decode cX4_save 65 = .ok (.aload_n 0, 1) := dk_42 (dk_at dksX4_save_2 19 rfl rfl)
theorem dX4_save_66 : decode cX4_save 66 = .ok (.getfield 54, 3) := dk_180 0 54 (dk_at dksX4_save_2 20 rfl rfl)
theorem dX4_save_69 : decode cX4_save 69 = .ok (.imul, 1) := dk_104 (dk_at dksX4_save_2 23 rfl rfl)
theorem dX4_save_70 : decode cX4_save 70 = .ok (.iload_n 1, 1) := dk_27 (dk_at dksX4_save_3 0 rfl rfl)
theorem dX4_save_71 : decode cX4_save 71 = .ok (.iadd, 1) := dk_96 (dk_at dksX4_save_3 1 rfl rfl)
theorem dX4_save_72 : decode cX4_save 72 = .ok (.aload_n 0, 1) := dk_42 (dk_at dksX4_save_3 2 rfl rfl)
theorem dX4_save_73 : decode cX4_save 73 = .ok (.getfield 7, 3) := dk_180 0 7 (dk_at dksX4_save_3 3 rfl rfl)
theorem dX4_save_76 : decode cX4_save 76 = .ok (.iload_n 1, 1) := dk_27 (dk_at dksX4_save_3 6 rfl rfl)
theorem dX4_save_77 : decode cX4_save 77 = .ok (.iaload, 1) := dk_46 (dk_at dksX4_save_3 7 rfl rfl)
theorem dX4_save_78 : decode cX4_save 78 = .ok (.iastore, 1) := dk_79 (dk_at dksX4_save_3 8 rfl rfl)
theorem dX4_save_79 : decode cX4_save 79 = .ok (.iinc 1 1, 3) := dk_132 1 1 (dk_at dksX4_save_3 9 rfl rfl)
theorem dX4_save_82 : decode cX4_save 82 = .ok (.goto (-31), 3) := dk_167 255 225 (dk_at dksX4_save_3 12 rfl rfl)
theorem dX4_save_85 : decode cX4_save 85 = .ok (.aload_n 0, 1) := dk_42 (dk_at dksX4_save_3 15 rfl rfl)
theorem dX4_save_86 : decode cX4_save 86 = .ok (.dup, 1) := dk_89 (dk_at dksX4_save_3 16 rfl rfl)
theorem dX4_save_87 : decode cX4_save 87 = .ok (.getfield 54, 3) := dk_180 0 54 (dk_at dksX4_save_3 17 rfl rfl)
theorem dX4_save_90 : decode cX4_save 90 = .ok (.iconst 1, 1) := dk_4 (dk_at dksX4_save_3 20 rfl rfl)
theorem dX4_save_91 : decode cX4_save 91 = .ok (.iadd, 1) := dk_96 (dk_at dksX4_save_3 21 rfl rfl)
theorem dX4_save_92 : decode cX4_save 92 = .ok (.putfield 54, 3) := dk_181 0 54 (dk_at dksX4_save_4 0 rfl rfl)
theorem dX4_save_95 : decode cX4_save 95 = .ok (.return_, 1) := dk_177 (dk_at dksX4_save_4 3 rfl rfl)
abbrev cX4_setting : ByteArray := prog_20_method_6_code
def yX4_setting : MethodName := ⟨RX4, "setting", "(I)I"⟩
def dkwX4_setting_0 : List UInt8 := [42, 180, 0, 7, 16, 20, 27, 96, 46, 172]
abbrev dktX4_setting_0 : List UInt8 := dkwX4_setting_0 ++ []
theorem dksX4_setting_0 : cX4_setting.data.toList.drop 0 = dktX4_setting_0 := by decide +kernel
theorem dX4_setting_0 : decode cX4_setting 0 = .ok (.aload_n 0, 1) := dk_42 (dk_at dksX4_setting_0 0 rfl rfl)
theorem dX4_setting_1 : decode cX4_setting 1 = .ok (.getfield 7, 3) := dk_180 0 7 (dk_at dksX4_setting_0 1 rfl rfl)
theorem dX4_setting_4 : decode cX4_setting 4 = .ok (.bipush 20, 2) := dk_16 20 (dk_at dksX4_setting_0 4 rfl rfl)
theorem dX4_setting_6 : decode cX4_setting 6 = .ok (.iload_n 1, 1) := dk_27 (dk_at dksX4_setting_0 6 rfl rfl)
theorem dX4_setting_7 : decode cX4_setting 7 = .ok (.iadd, 1) := dk_96 (dk_at dksX4_setting_0 7 rfl rfl)
theorem dX4_setting_8 : decode cX4_setting 8 = .ok (.iaload, 1) := dk_46 (dk_at dksX4_setting_0 8 rfl rfl)
theorem dX4_setting_9 : decode cX4_setting 9 = .ok (.ireturn, 1) := dk_172 (dk_at dksX4_setting_0 9 rfl rfl)
abbrev cX4_pump : ByteArray := prog_20_method_12_code
def yX4_pump : MethodName := ⟨RX4, "pump", "(III)I"⟩
def dkwX4_pump_5 : List UInt8 := [42, 21, 4, 6, 4, 182, 0, 74, 42, 180, 0, 7, 16, 14, 92, 46, 4, 96, 79, 21, 4, 172]
abbrev dktX4_pump_5 : List UInt8 := dkwX4_pump_5 ++ []
def dkwX4_pump_4 : List UInt8 := [42, 21, 4, 3, 27, 182, 0, 74, 42, 21, 4, 4, 28, 182, 0, 74, 42, 21, 4, 5, 29, 182, 0, 74]
abbrev dktX4_pump_4 : List UInt8 := dkwX4_pump_4 ++ dktX4_pump_5
def dkwX4_pump_3 : List UInt8 := [54, 5, 21, 5, 16, 8, 162, 0, 18, 42, 21, 4, 21, 5, 3, 182, 0, 74, 132, 5, 1, 167, 255, 237]
abbrev dktX4_pump_3 : List UInt8 := dkwX4_pump_3 ++ dktX4_pump_4
def dkwX4_pump_2 : List UInt8 := [46, 16, 6, 160, 0, 6, 18, 73, 172, 42, 182, 0, 63, 42, 180, 0, 7, 16, 14, 46, 54, 4, 3]
abbrev dktX4_pump_2 : List UInt8 := dkwX4_pump_2 ++ dktX4_pump_3
def dkwX4_pump_1 : List UInt8 := [153, 0, 15, 29, 133, 10, 20, 0, 40, 184, 0, 30, 154, 0, 6, 18, 62, 172, 42, 180, 0, 7, 16, 14]
abbrev dktX4_pump_1 : List UInt8 := dkwX4_pump_1 ++ dktX4_pump_2
def dkwX4_pump_0 : List UInt8 := [27, 133, 9, 20, 0, 69, 184, 0, 30, 153, 0, 29, 28, 133, 20, 0, 26, 20, 0, 71, 184, 0, 30]
abbrev dktX4_pump_0 : List UInt8 := dkwX4_pump_0 ++ dktX4_pump_1
theorem dksX4_pump_0 : cX4_pump.data.toList.drop 0 = dktX4_pump_0 := by decide +kernel
theorem dksX4_pump_1 : cX4_pump.data.toList.drop 23 = dktX4_pump_1 := dk_seg dksX4_pump_0 23 rfl rfl
theorem dksX4_pump_2 : cX4_pump.data.toList.drop 47 = dktX4_pump_2 := dk_seg dksX4_pump_1 24 rfl rfl
theorem dksX4_pump_3 : cX4_pump.data.toList.drop 70 = dktX4_pump_3 := dk_seg dksX4_pump_2 23 rfl rfl
theorem dksX4_pump_4 : cX4_pump.data.toList.drop 94 = dktX4_pump_4 := dk_seg dksX4_pump_3 24 rfl rfl
theorem dksX4_pump_5 : cX4_pump.data.toList.drop 118 = dktX4_pump_5 := dk_seg dksX4_pump_4 24 rfl rfl
theorem dX4_pump_0 : decode cX4_pump 0 = .ok (.iload_n 1, 1) := dk_27 (dk_at dksX4_pump_0 0 rfl rfl)
theorem dX4_pump_1 : decode cX4_pump 1 = .ok (.i2l, 1) := dk_133 (dk_at dksX4_pump_0 1 rfl rfl)
theorem dX4_pump_2 : decode cX4_pump 2 = .ok (.lconst 0, 1) := dk_9 (dk_at dksX4_pump_0 2 rfl rfl)
theorem dX4_pump_3 : decode cX4_pump 3 = .ok (.ldc2_w 69, 3) := dk_20 0 69 (dk_at dksX4_pump_0 3 rfl rfl)
theorem dX4_pump_6 : decode cX4_pump 6 = .ok (.invokestatic 30, 3) := dk_184 0 30 (dk_at dksX4_pump_0 6 rfl rfl)
theorem dX4_pump_9 : decode cX4_pump 9 = .ok (.ifCond .eq 29, 3) := dk_153 0 29 (dk_at dksX4_pump_0 9 rfl rfl)
theorem dX4_pump_12 : decode cX4_pump 12 = .ok (.iload_n 2, 1) := dk_28 (dk_at dksX4_pump_0 12 rfl rfl)
theorem dX4_pump_13 : decode cX4_pump 13 = .ok (.i2l, 1) := dk_133 (dk_at dksX4_pump_0 13 rfl rfl)
theorem dX4_pump_14 : decode cX4_pump 14 = .ok (.ldc2_w 26, 3) := dk_20 0 26 (dk_at dksX4_pump_0 14 rfl rfl)
theorem dX4_pump_17 : decode cX4_pump 17 = .ok (.ldc2_w 71, 3) := dk_20 0 71 (dk_at dksX4_pump_0 17 rfl rfl)
theorem dX4_pump_20 : decode cX4_pump 20 = .ok (.invokestatic 30, 3) := dk_184 0 30 (dk_at dksX4_pump_0 20 rfl rfl)
theorem dX4_pump_23 : decode cX4_pump 23 = .ok (.ifCond .eq 15, 3) := dk_153 0 15 (dk_at dksX4_pump_1 0 rfl rfl)
theorem dX4_pump_26 : decode cX4_pump 26 = .ok (.iload_n 3, 1) := dk_29 (dk_at dksX4_pump_1 3 rfl rfl)
theorem dX4_pump_27 : decode cX4_pump 27 = .ok (.i2l, 1) := dk_133 (dk_at dksX4_pump_1 4 rfl rfl)
theorem dX4_pump_28 : decode cX4_pump 28 = .ok (.lconst 1, 1) := dk_10 (dk_at dksX4_pump_1 5 rfl rfl)
theorem dX4_pump_29 : decode cX4_pump 29 = .ok (.ldc2_w 40, 3) := dk_20 0 40 (dk_at dksX4_pump_1 6 rfl rfl)
theorem dX4_pump_32 : decode cX4_pump 32 = .ok (.invokestatic 30, 3) := dk_184 0 30 (dk_at dksX4_pump_1 9 rfl rfl)
theorem dX4_pump_35 : decode cX4_pump 35 = .ok (.ifCond .ne 6, 3) := dk_154 0 6 (dk_at dksX4_pump_1 12 rfl rfl)
theorem dX4_pump_38 : decode cX4_pump 38 = .ok (.ldc 62, 2) := dk_18 62 (dk_at dksX4_pump_1 15 rfl rfl)
theorem dX4_pump_40 : decode cX4_pump 40 = .ok (.ireturn, 1) := dk_172 (dk_at dksX4_pump_1 17 rfl rfl)
theorem dX4_pump_41 : decode cX4_pump 41 = .ok (.aload_n 0, 1) := dk_42 (dk_at dksX4_pump_1 18 rfl rfl)
theorem dX4_pump_42 : decode cX4_pump 42 = .ok (.getfield 7, 3) := dk_180 0 7 (dk_at dksX4_pump_1 19 rfl rfl)
theorem dX4_pump_45 : decode cX4_pump 45 = .ok (.bipush 14, 2) := dk_16 14 (dk_at dksX4_pump_1 22 rfl rfl)
theorem dX4_pump_47 : decode cX4_pump 47 = .ok (.iaload, 1) := dk_46 (dk_at dksX4_pump_2 0 rfl rfl)
theorem dX4_pump_48 : decode cX4_pump 48 = .ok (.bipush 6, 2) := dk_16 6 (dk_at dksX4_pump_2 1 rfl rfl)
theorem dX4_pump_50 : decode cX4_pump 50 = .ok (.if_icmp .ne 6, 3) := dk_160 0 6 (dk_at dksX4_pump_2 3 rfl rfl)
theorem dX4_pump_53 : decode cX4_pump 53 = .ok (.ldc 73, 2) := dk_18 73 (dk_at dksX4_pump_2 6 rfl rfl)
theorem dX4_pump_55 : decode cX4_pump 55 = .ok (.ireturn, 1) := dk_172 (dk_at dksX4_pump_2 8 rfl rfl)
theorem dX4_pump_56 : decode cX4_pump 56 = .ok (.aload_n 0, 1) := dk_42 (dk_at dksX4_pump_2 9 rfl rfl)
theorem dX4_pump_57 : decode cX4_pump 57 = .ok (.invokevirtual 63, 3) := dk_182 0 63 (dk_at dksX4_pump_2 10 rfl rfl)
theorem dX4_pump_60 : decode cX4_pump 60 = .ok (.aload_n 0, 1) := dk_42 (dk_at dksX4_pump_2 13 rfl rfl)
theorem dX4_pump_61 : decode cX4_pump 61 = .ok (.getfield 7, 3) := dk_180 0 7 (dk_at dksX4_pump_2 14 rfl rfl)
theorem dX4_pump_64 : decode cX4_pump 64 = .ok (.bipush 14, 2) := dk_16 14 (dk_at dksX4_pump_2 17 rfl rfl)
theorem dX4_pump_66 : decode cX4_pump 66 = .ok (.iaload, 1) := dk_46 (dk_at dksX4_pump_2 19 rfl rfl)
theorem dX4_pump_67 : decode cX4_pump 67 = .ok (.istore 4, 2) := dk_54 4 (dk_at dksX4_pump_2 20 rfl rfl)
theorem dX4_pump_69 : decode cX4_pump 69 = .ok (.iconst 0, 1) := dk_3 (dk_at dksX4_pump_2 22 rfl rfl)
theorem dX4_pump_70 : decode cX4_pump 70 = .ok (.istore 5, 2) := dk_54 5 (dk_at dksX4_pump_3 0 rfl rfl)
theorem dX4_pump_72 : decode cX4_pump 72 = .ok (.iload 5, 2) := dk_21 5 (dk_at dksX4_pump_3 2 rfl rfl)
theorem dX4_pump_74 : decode cX4_pump 74 = .ok (.bipush 8, 2) := dk_16 8 (dk_at dksX4_pump_3 4 rfl rfl)
theorem dX4_pump_76 : decode cX4_pump 76 = .ok (.if_icmp .ge 18, 3) := dk_162 0 18 (dk_at dksX4_pump_3 6 rfl rfl)
theorem dX4_pump_79 : decode cX4_pump 79 = .ok (.aload_n 0, 1) := dk_42 (dk_at dksX4_pump_3 9 rfl rfl)
theorem dX4_pump_80 : decode cX4_pump 80 = .ok (.iload 4, 2) := dk_21 4 (dk_at dksX4_pump_3 10 rfl rfl)
theorem dX4_pump_82 : decode cX4_pump 82 = .ok (.iload 5, 2) := dk_21 5 (dk_at dksX4_pump_3 12 rfl rfl)
theorem dX4_pump_84 : decode cX4_pump 84 = .ok (.iconst 0, 1) := dk_3 (dk_at dksX4_pump_3 14 rfl rfl)
theorem dX4_pump_85 : decode cX4_pump 85 = .ok (.invokevirtual 74, 3) := dk_182 0 74 (dk_at dksX4_pump_3 15 rfl rfl)
theorem dX4_pump_88 : decode cX4_pump 88 = .ok (.iinc 5 1, 3) := dk_132 5 1 (dk_at dksX4_pump_3 18 rfl rfl)
theorem dX4_pump_91 : decode cX4_pump 91 = .ok (.goto (-19), 3) := dk_167 255 237 (dk_at dksX4_pump_3 21 rfl rfl)
theorem dX4_pump_94 : decode cX4_pump 94 = .ok (.aload_n 0, 1) := dk_42 (dk_at dksX4_pump_4 0 rfl rfl)
theorem dX4_pump_95 : decode cX4_pump 95 = .ok (.iload 4, 2) := dk_21 4 (dk_at dksX4_pump_4 1 rfl rfl)
theorem dX4_pump_97 : decode cX4_pump 97 = .ok (.iconst 0, 1) := dk_3 (dk_at dksX4_pump_4 3 rfl rfl)
theorem dX4_pump_98 : decode cX4_pump 98 = .ok (.iload_n 1, 1) := dk_27 (dk_at dksX4_pump_4 4 rfl rfl)
theorem dX4_pump_99 : decode cX4_pump 99 = .ok (.invokevirtual 74, 3) := dk_182 0 74 (dk_at dksX4_pump_4 5 rfl rfl)
theorem dX4_pump_102 : decode cX4_pump 102 = .ok (.aload_n 0, 1) := dk_42 (dk_at dksX4_pump_4 8 rfl rfl)
theorem dX4_pump_103 : decode cX4_pump 103 = .ok (.iload 4, 2) := dk_21 4 (dk_at dksX4_pump_4 9 rfl rfl)
theorem dX4_pump_105 : decode cX4_pump 105 = .ok (.iconst 1, 1) := dk_4 (dk_at dksX4_pump_4 11 rfl rfl)
theorem dX4_pump_106 : decode cX4_pump 106 = .ok (.iload_n 2, 1) := dk_28 (dk_at dksX4_pump_4 12 rfl rfl)
theorem dX4_pump_107 : decode cX4_pump 107 = .ok (.invokevirtual 74, 3) := dk_182 0 74 (dk_at dksX4_pump_4 13 rfl rfl)
theorem dX4_pump_110 : decode cX4_pump 110 = .ok (.aload_n 0, 1) := dk_42 (dk_at dksX4_pump_4 16 rfl rfl)
theorem dX4_pump_111 : decode cX4_pump 111 = .ok (.iload 4, 2) := dk_21 4 (dk_at dksX4_pump_4 17 rfl rfl)
theorem dX4_pump_113 : decode cX4_pump 113 = .ok (.iconst 2, 1) := dk_5 (dk_at dksX4_pump_4 19 rfl rfl)
theorem dX4_pump_114 : decode cX4_pump 114 = .ok (.iload_n 3, 1) := dk_29 (dk_at dksX4_pump_4 20 rfl rfl)
theorem dX4_pump_115 : decode cX4_pump 115 = .ok (.invokevirtual 74, 3) := dk_182 0 74 (dk_at dksX4_pump_4 21 rfl rfl)
theorem dX4_pump_118 : decode cX4_pump 118 = .ok (.aload_n 0, 1) := dk_42 (dk_at dksX4_pump_5 0 rfl rfl)
theorem dX4_pump_119 : decode cX4_pump 119 = .ok (.iload 4, 2) := dk_21 4 (dk_at dksX4_pump_5 1 rfl rfl)
theorem dX4_pump_121 : decode cX4_pump 121 = .ok (.iconst 3, 1) := dk_6 (dk_at dksX4_pump_5 3 rfl rfl)
theorem dX4_pump_122 : decode cX4_pump 122 = .ok (.iconst 1, 1) := dk_4 (dk_at dksX4_pump_5 4 rfl rfl)
theorem dX4_pump_123 : decode cX4_pump 123 = .ok (.invokevirtual 74, 3) := dk_182 0 74 (dk_at dksX4_pump_5 5 rfl rfl)
theorem dX4_pump_126 : decode cX4_pump 126 = .ok (.aload_n 0, 1) := dk_42 (dk_at dksX4_pump_5 8 rfl rfl)
theorem dX4_pump_127 : decode cX4_pump 127 = .ok (.getfield 7, 3) := dk_180 0 7 (dk_at dksX4_pump_5 9 rfl rfl)
theorem dX4_pump_130 : decode cX4_pump 130 = .ok (.bipush 14, 2) := dk_16 14 (dk_at dksX4_pump_5 12 rfl rfl)
theorem dX4_pump_132 : decode cX4_pump 132 = .ok (.dup2, 1) := dk_92 (dk_at dksX4_pump_5 14 rfl rfl)
theorem dX4_pump_133 : decode cX4_pump 133 = .ok (.iaload, 1) := dk_46 (dk_at dksX4_pump_5 15 rfl rfl)
theorem dX4_pump_134 : decode cX4_pump 134 = .ok (.iconst 1, 1) := dk_4 (dk_at dksX4_pump_5 16 rfl rfl)
theorem dX4_pump_135 : decode cX4_pump 135 = .ok (.iadd, 1) := dk_96 (dk_at dksX4_pump_5 17 rfl rfl)
theorem dX4_pump_136 : decode cX4_pump 136 = .ok (.iastore, 1) := dk_79 (dk_at dksX4_pump_5 18 rfl rfl)
theorem dX4_pump_137 : decode cX4_pump 137 = .ok (.iload 4, 2) := dk_21 4 (dk_at dksX4_pump_5 19 rfl rfl)
theorem dX4_pump_139 : decode cX4_pump 139 = .ok (.ireturn, 1) := dk_172 (dk_at dksX4_pump_5 21 rfl rfl)
abbrev cX4_put : ByteArray := prog_20_method_10_code
def yX4_put : MethodName := ⟨RX4, "put", "(III)V"⟩
def dkwX4_put_0 : List UInt8 := [42, 180, 0, 7, 16, 39, 16, 8, 27, 104, 96, 28, 96, 29, 79, 177]
abbrev dktX4_put_0 : List UInt8 := dkwX4_put_0 ++ []
theorem dksX4_put_0 : cX4_put.data.toList.drop 0 = dktX4_put_0 := by decide +kernel
theorem dX4_put_0 : decode cX4_put 0 = .ok (.aload_n 0, 1) := dk_42 (dk_at dksX4_put_0 0 rfl rfl)
theorem dX4_put_1 : decode cX4_put 1 = .ok (.getfield 7, 3) := dk_180 0 7 (dk_at dksX4_put_0 1 rfl rfl)
theorem dX4_put_4 : decode cX4_put 4 = .ok (.bipush 39, 2) := dk_16 39 (dk_at dksX4_put_0 4 rfl rfl)
theorem dX4_put_6 : decode cX4_put 6 = .ok (.bipush 8, 2) := dk_16 8 (dk_at dksX4_put_0 6 rfl rfl)
theorem dX4_put_8 : decode cX4_put 8 = .ok (.iload_n 1, 1) := dk_27 (dk_at dksX4_put_0 8 rfl rfl)
theorem dX4_put_9 : decode cX4_put 9 = .ok (.imul, 1) := dk_104 (dk_at dksX4_put_0 9 rfl rfl)
theorem dX4_put_10 : decode cX4_put 10 = .ok (.iadd, 1) := dk_96 (dk_at dksX4_put_0 10 rfl rfl)
theorem dX4_put_11 : decode cX4_put 11 = .ok (.iload_n 2, 1) := dk_28 (dk_at dksX4_put_0 11 rfl rfl)
theorem dX4_put_12 : decode cX4_put 12 = .ok (.iadd, 1) := dk_96 (dk_at dksX4_put_0 12 rfl rfl)
theorem dX4_put_13 : decode cX4_put 13 = .ok (.iload_n 3, 1) := dk_29 (dk_at dksX4_put_0 13 rfl rfl)
theorem dX4_put_14 : decode cX4_put 14 = .ok (.iastore, 1) := dk_79 (dk_at dksX4_put_0 14 rfl rfl)
theorem dX4_put_15 : decode cX4_put 15 = .ok (.return_, 1) := dk_177 (dk_at dksX4_put_0 15 rfl rfl)
abbrev cX4_service : ByteArray := prog_20_method_26_code
def yX4_service : MethodName := ⟨RX4, "service", "(II)I"⟩
def dkwX4_service_1 : List UInt8 := [182, 0, 78, 28, 160, 0, 6, 18, 123, 172, 42, 182, 0, 63, 42, 27, 28, 182, 0, 124, 172]
abbrev dktX4_service_1 : List UInt8 := dkwX4_service_1 ++ []
def dkwX4_service_0 : List UInt8 := [42, 27, 182, 0, 120, 153, 0, 13, 28, 133, 9, 10, 184, 0, 30, 154, 0, 6, 18, 62, 172, 42, 27, 6]
abbrev dktX4_service_0 : List UInt8 := dkwX4_service_0 ++ dktX4_service_1
theorem dksX4_service_0 : cX4_service.data.toList.drop 0 = dktX4_service_0 := by decide +kernel
theorem dksX4_service_1 : cX4_service.data.toList.drop 24 = dktX4_service_1 := dk_seg dksX4_service_0 24 rfl rfl
theorem dX4_service_0 : decode cX4_service 0 = .ok (.aload_n 0, 1) := dk_42 (dk_at dksX4_service_0 0 rfl rfl)
theorem dX4_service_1 : decode cX4_service 1 = .ok (.iload_n 1, 1) := dk_27 (dk_at dksX4_service_0 1 rfl rfl)
theorem dX4_service_2 : decode cX4_service 2 = .ok (.invokevirtual 120, 3) := dk_182 0 120 (dk_at dksX4_service_0 2 rfl rfl)
theorem dX4_service_5 : decode cX4_service 5 = .ok (.ifCond .eq 13, 3) := dk_153 0 13 (dk_at dksX4_service_0 5 rfl rfl)
theorem dX4_service_8 : decode cX4_service 8 = .ok (.iload_n 2, 1) := dk_28 (dk_at dksX4_service_0 8 rfl rfl)
theorem dX4_service_9 : decode cX4_service 9 = .ok (.i2l, 1) := dk_133 (dk_at dksX4_service_0 9 rfl rfl)
theorem dX4_service_10 : decode cX4_service 10 = .ok (.lconst 0, 1) := dk_9 (dk_at dksX4_service_0 10 rfl rfl)
theorem dX4_service_11 : decode cX4_service 11 = .ok (.lconst 1, 1) := dk_10 (dk_at dksX4_service_0 11 rfl rfl)
theorem dX4_service_12 : decode cX4_service 12 = .ok (.invokestatic 30, 3) := dk_184 0 30 (dk_at dksX4_service_0 12 rfl rfl)
theorem dX4_service_15 : decode cX4_service 15 = .ok (.ifCond .ne 6, 3) := dk_154 0 6 (dk_at dksX4_service_0 15 rfl rfl)
theorem dX4_service_18 : decode cX4_service 18 = .ok (.ldc 62, 2) := dk_18 62 (dk_at dksX4_service_0 18 rfl rfl)
theorem dX4_service_20 : decode cX4_service 20 = .ok (.ireturn, 1) := dk_172 (dk_at dksX4_service_0 20 rfl rfl)
theorem dX4_service_21 : decode cX4_service 21 = .ok (.aload_n 0, 1) := dk_42 (dk_at dksX4_service_0 21 rfl rfl)
theorem dX4_service_22 : decode cX4_service 22 = .ok (.iload_n 1, 1) := dk_27 (dk_at dksX4_service_0 22 rfl rfl)
theorem dX4_service_23 : decode cX4_service 23 = .ok (.iconst 3, 1) := dk_6 (dk_at dksX4_service_0 23 rfl rfl)
theorem dX4_service_24 : decode cX4_service 24 = .ok (.invokevirtual 78, 3) := dk_182 0 78 (dk_at dksX4_service_1 0 rfl rfl)
theorem dX4_service_27 : decode cX4_service 27 = .ok (.iload_n 2, 1) := dk_28 (dk_at dksX4_service_1 3 rfl rfl)
theorem dX4_service_28 : decode cX4_service 28 = .ok (.if_icmp .ne 6, 3) := dk_160 0 6 (dk_at dksX4_service_1 4 rfl rfl)
theorem dX4_service_31 : decode cX4_service 31 = .ok (.ldc 123, 2) := dk_18 123 (dk_at dksX4_service_1 7 rfl rfl)
theorem dX4_service_33 : decode cX4_service 33 = .ok (.ireturn, 1) := dk_172 (dk_at dksX4_service_1 9 rfl rfl)
theorem dX4_service_34 : decode cX4_service 34 = .ok (.aload_n 0, 1) := dk_42 (dk_at dksX4_service_1 10 rfl rfl)
theorem dX4_service_35 : decode cX4_service 35 = .ok (.invokevirtual 63, 3) := dk_182 0 63 (dk_at dksX4_service_1 11 rfl rfl)
theorem dX4_service_38 : decode cX4_service 38 = .ok (.aload_n 0, 1) := dk_42 (dk_at dksX4_service_1 14 rfl rfl)
theorem dX4_service_39 : decode cX4_service 39 = .ok (.iload_n 1, 1) := dk_27 (dk_at dksX4_service_1 15 rfl rfl)
theorem dX4_service_40 : decode cX4_service 40 = .ok (.iload_n 2, 1) := dk_28 (dk_at dksX4_service_1 16 rfl rfl)
theorem dX4_service_41 : decode cX4_service 41 = .ok (.invokevirtual 124, 3) := dk_182 0 124 (dk_at dksX4_service_1 17 rfl rfl)
theorem dX4_service_44 : decode cX4_service 44 = .ok (.ireturn, 1) := dk_172 (dk_at dksX4_service_1 20 rfl rfl)
abbrev cX4_isPump : ByteArray := prog_20_method_11_code
def yX4_isPump : MethodName := ⟨RX4, "isPump", "(I)Z"⟩
def dkwX4_isPump_0 : List UInt8 := [27, 133, 9, 42, 180, 0, 7, 16, 14, 46, 133, 10, 101, 184, 0, 30, 172]
abbrev dktX4_isPump_0 : List UInt8 := dkwX4_isPump_0 ++ []
theorem dksX4_isPump_0 : cX4_isPump.data.toList.drop 0 = dktX4_isPump_0 := by decide +kernel
theorem dX4_isPump_0 : decode cX4_isPump 0 = .ok (.iload_n 1, 1) := dk_27 (dk_at dksX4_isPump_0 0 rfl rfl)
theorem dX4_isPump_1 : decode cX4_isPump 1 = .ok (.i2l, 1) := dk_133 (dk_at dksX4_isPump_0 1 rfl rfl)
theorem dX4_isPump_2 : decode cX4_isPump 2 = .ok (.lconst 0, 1) := dk_9 (dk_at dksX4_isPump_0 2 rfl rfl)
theorem dX4_isPump_3 : decode cX4_isPump 3 = .ok (.aload_n 0, 1) := dk_42 (dk_at dksX4_isPump_0 3 rfl rfl)
theorem dX4_isPump_4 : decode cX4_isPump 4 = .ok (.getfield 7, 3) := dk_180 0 7 (dk_at dksX4_isPump_0 4 rfl rfl)
theorem dX4_isPump_7 : decode cX4_isPump 7 = .ok (.bipush 14, 2) := dk_16 14 (dk_at dksX4_isPump_0 7 rfl rfl)
theorem dX4_isPump_9 : decode cX4_isPump 9 = .ok (.iaload, 1) := dk_46 (dk_at dksX4_isPump_0 9 rfl rfl)
theorem dX4_isPump_10 : decode cX4_isPump 10 = .ok (.i2l, 1) := dk_133 (dk_at dksX4_isPump_0 10 rfl rfl)
theorem dX4_isPump_11 : decode cX4_isPump 11 = .ok (.lconst 1, 1) := dk_10 (dk_at dksX4_isPump_0 11 rfl rfl)
theorem dX4_isPump_12 : decode cX4_isPump 12 = .ok (.lsub, 1) := dk_101 (dk_at dksX4_isPump_0 12 rfl rfl)
theorem dX4_isPump_13 : decode cX4_isPump 13 = .ok (.invokestatic 30, 3) := dk_184 0 30 (dk_at dksX4_isPump_0 13 rfl rfl)
theorem dX4_isPump_16 : decode cX4_isPump 16 = .ok (.ireturn, 1) := dk_172 (dk_at dksX4_isPump_0 16 rfl rfl)
abbrev cX4_of : ByteArray := prog_20_method_9_code
def yX4_of : MethodName := ⟨RX4, "of", "(II)I"⟩
def dkwX4_of_0 : List UInt8 := [42, 180, 0, 7, 16, 39, 16, 8, 27, 104, 96, 28, 96, 46, 172]
abbrev dktX4_of_0 : List UInt8 := dkwX4_of_0 ++ []
theorem dksX4_of_0 : cX4_of.data.toList.drop 0 = dktX4_of_0 := by decide +kernel
theorem dX4_of_0 : decode cX4_of 0 = .ok (.aload_n 0, 1) := dk_42 (dk_at dksX4_of_0 0 rfl rfl)
theorem dX4_of_1 : decode cX4_of 1 = .ok (.getfield 7, 3) := dk_180 0 7 (dk_at dksX4_of_0 1 rfl rfl)
theorem dX4_of_4 : decode cX4_of 4 = .ok (.bipush 39, 2) := dk_16 39 (dk_at dksX4_of_0 4 rfl rfl)
theorem dX4_of_6 : decode cX4_of 6 = .ok (.bipush 8, 2) := dk_16 8 (dk_at dksX4_of_0 6 rfl rfl)
theorem dX4_of_8 : decode cX4_of 8 = .ok (.iload_n 1, 1) := dk_27 (dk_at dksX4_of_0 8 rfl rfl)
theorem dX4_of_9 : decode cX4_of 9 = .ok (.imul, 1) := dk_104 (dk_at dksX4_of_0 9 rfl rfl)
theorem dX4_of_10 : decode cX4_of 10 = .ok (.iadd, 1) := dk_96 (dk_at dksX4_of_0 10 rfl rfl)
theorem dX4_of_11 : decode cX4_of 11 = .ok (.iload_n 2, 1) := dk_28 (dk_at dksX4_of_0 11 rfl rfl)
theorem dX4_of_12 : decode cX4_of 12 = .ok (.iadd, 1) := dk_96 (dk_at dksX4_of_0 12 rfl rfl)
theorem dX4_of_13 : decode cX4_of 13 = .ok (.iaload, 1) := dk_46 (dk_at dksX4_of_0 13 rfl rfl)
theorem dX4_of_14 : decode cX4_of 14 = .ok (.ireturn, 1) := dk_172 (dk_at dksX4_of_0 14 rfl rfl)
abbrev cX4_serves : ByteArray := prog_20_method_25_code
def yX4_serves : MethodName := ⟨RX4, "serves", "(II)I"⟩
def dkwX4_serves_1 : List UInt8 := [182, 0, 74, 29, 153, 0, 8, 42, 27, 182, 0, 116, 29, 153, 0, 7, 4, 167, 0, 4, 3, 172]
abbrev dktX4_serves_1 : List UInt8 := dkwX4_serves_1 ++ []
def dkwX4_serves_0 : List UInt8 := [28, 154, 0, 15, 42, 27, 182, 0, 82, 153, 0, 7, 4, 167, 0, 4, 3, 62, 42, 27, 6, 28]
abbrev dktX4_serves_0 : List UInt8 := dkwX4_serves_0 ++ dktX4_serves_1
theorem dksX4_serves_0 : cX4_serves.data.toList.drop 0 = dktX4_serves_0 := by decide +kernel
theorem dksX4_serves_1 : cX4_serves.data.toList.drop 22 = dktX4_serves_1 := dk_seg dksX4_serves_0 22 rfl rfl
theorem dX4_serves_0 : decode cX4_serves 0 = .ok (.iload_n 2, 1) := dk_28 (dk_at dksX4_serves_0 0 rfl rfl)
theorem dX4_serves_1 : decode cX4_serves 1 = .ok (.ifCond .ne 15, 3) := dk_154 0 15 (dk_at dksX4_serves_0 1 rfl rfl)
theorem dX4_serves_4 : decode cX4_serves 4 = .ok (.aload_n 0, 1) := dk_42 (dk_at dksX4_serves_0 4 rfl rfl)
theorem dX4_serves_5 : decode cX4_serves 5 = .ok (.iload_n 1, 1) := dk_27 (dk_at dksX4_serves_0 5 rfl rfl)
theorem dX4_serves_6 : decode cX4_serves 6 = .ok (.invokevirtual 82, 3) := dk_182 0 82 (dk_at dksX4_serves_0 6 rfl rfl)
theorem dX4_serves_9 : decode cX4_serves 9 = .ok (.ifCond .eq 7, 3) := dk_153 0 7 (dk_at dksX4_serves_0 9 rfl rfl)
theorem dX4_serves_12 : decode cX4_serves 12 = .ok (.iconst 1, 1) := dk_4 (dk_at dksX4_serves_0 12 rfl rfl)
theorem dX4_serves_13 : decode cX4_serves 13 = .ok (.goto 4, 3) := dk_167 0 4 (dk_at dksX4_serves_0 13 rfl rfl)
theorem dX4_serves_16 : decode cX4_serves 16 = .ok (.iconst 0, 1) := dk_3 (dk_at dksX4_serves_0 16 rfl rfl)
theorem dX4_serves_17 : decode cX4_serves 17 = .ok (.istore_n 3, 1) := dk_62 (dk_at dksX4_serves_0 17 rfl rfl)
theorem dX4_serves_18 : decode cX4_serves 18 = .ok (.aload_n 0, 1) := dk_42 (dk_at dksX4_serves_0 18 rfl rfl)
theorem dX4_serves_19 : decode cX4_serves 19 = .ok (.iload_n 1, 1) := dk_27 (dk_at dksX4_serves_0 19 rfl rfl)
theorem dX4_serves_20 : decode cX4_serves 20 = .ok (.iconst 3, 1) := dk_6 (dk_at dksX4_serves_0 20 rfl rfl)
theorem dX4_serves_21 : decode cX4_serves 21 = .ok (.iload_n 2, 1) := dk_28 (dk_at dksX4_serves_0 21 rfl rfl)
theorem dX4_serves_22 : decode cX4_serves 22 = .ok (.invokevirtual 74, 3) := dk_182 0 74 (dk_at dksX4_serves_1 0 rfl rfl)
theorem dX4_serves_25 : decode cX4_serves 25 = .ok (.iload_n 3, 1) := dk_29 (dk_at dksX4_serves_1 3 rfl rfl)
theorem dX4_serves_26 : decode cX4_serves 26 = .ok (.ifCond .eq 8, 3) := dk_153 0 8 (dk_at dksX4_serves_1 4 rfl rfl)
theorem dX4_serves_29 : decode cX4_serves 29 = .ok (.aload_n 0, 1) := dk_42 (dk_at dksX4_serves_1 7 rfl rfl)
theorem dX4_serves_30 : decode cX4_serves 30 = .ok (.iload_n 1, 1) := dk_27 (dk_at dksX4_serves_1 8 rfl rfl)
theorem dX4_serves_31 : decode cX4_serves 31 = .ok (.invokevirtual 116, 3) := dk_182 0 116 (dk_at dksX4_serves_1 9 rfl rfl)
theorem dX4_serves_34 : decode cX4_serves 34 = .ok (.iload_n 3, 1) := dk_29 (dk_at dksX4_serves_1 12 rfl rfl)
theorem dX4_serves_35 : decode cX4_serves 35 = .ok (.ifCond .eq 7, 3) := dk_153 0 7 (dk_at dksX4_serves_1 13 rfl rfl)
theorem dX4_serves_38 : decode cX4_serves 38 = .ok (.iconst 1, 1) := dk_4 (dk_at dksX4_serves_1 16 rfl rfl)
theorem dX4_serves_39 : decode cX4_serves 39 = .ok (.goto 4, 3) := dk_167 0 4 (dk_at dksX4_serves_1 17 rfl rfl)
theorem dX4_serves_42 : decode cX4_serves 42 = .ok (.iconst 0, 1) := dk_3 (dk_at dksX4_serves_1 20 rfl rfl)
theorem dX4_serves_43 : decode cX4_serves 43 = .ok (.ireturn, 1) := dk_172 (dk_at dksX4_serves_1 21 rfl rfl)
abbrev cX4_runs : ByteArray := prog_20_method_13_code
def yX4_runs : MethodName := ⟨RX4, "runs", "(I)Z"⟩
def dkwX4_runs_0 : List UInt8 := [42, 27, 7, 182, 0, 78, 158, 0, 7, 4, 167, 0, 4, 3, 172]
abbrev dktX4_runs_0 : List UInt8 := dkwX4_runs_0 ++ []
theorem dksX4_runs_0 : cX4_runs.data.toList.drop 0 = dktX4_runs_0 := by decide +kernel
theorem dX4_runs_0 : decode cX4_runs 0 = .ok (.aload_n 0, 1) := dk_42 (dk_at dksX4_runs_0 0 rfl rfl)
theorem dX4_runs_1 : decode cX4_runs 1 = .ok (.iload_n 1, 1) := dk_27 (dk_at dksX4_runs_0 1 rfl rfl)
theorem dX4_runs_2 : decode cX4_runs 2 = .ok (.iconst 4, 1) := dk_7 (dk_at dksX4_runs_0 2 rfl rfl)
theorem dX4_runs_3 : decode cX4_runs 3 = .ok (.invokevirtual 78, 3) := dk_182 0 78 (dk_at dksX4_runs_0 3 rfl rfl)
theorem dX4_runs_6 : decode cX4_runs 6 = .ok (.ifCond .le 7, 3) := dk_158 0 7 (dk_at dksX4_runs_0 6 rfl rfl)
theorem dX4_runs_9 : decode cX4_runs 9 = .ok (.iconst 1, 1) := dk_4 (dk_at dksX4_runs_0 9 rfl rfl)
theorem dX4_runs_10 : decode cX4_runs 10 = .ok (.goto 4, 3) := dk_167 0 4 (dk_at dksX4_runs_0 10 rfl rfl)
theorem dX4_runs_13 : decode cX4_runs 13 = .ok (.iconst 0, 1) := dk_3 (dk_at dksX4_runs_0 13 rfl rfl)
theorem dX4_runs_14 : decode cX4_runs 14 = .ok (.ireturn, 1) := dk_172 (dk_at dksX4_runs_0 14 rfl rfl)
abbrev cX4_stop : ByteArray := prog_20_method_24_code
def yX4_stop : MethodName := ⟨RX4, "stop", "(I)V"⟩
def dkwX4_stop_2 : List UInt8 := [182, 0, 105, 177]
abbrev dktX4_stop_2 : List UInt8 := dkwX4_stop_2 ++ []
def dkwX4_stop_1 : List UInt8 := [7, 46, 27, 160, 0, 10, 42, 182, 0, 113, 167, 0, 9, 42, 180, 0, 7, 7, 46, 79, 42, 4, 27]
abbrev dktX4_stop_1 : List UInt8 := dkwX4_stop_1 ++ dktX4_stop_2
def dkwX4_stop_0 : List UInt8 := [42, 27, 7, 3, 182, 0, 74, 42, 27, 16, 6, 3, 182, 0, 74, 42, 180, 0, 7, 7, 42, 180, 0, 7]
abbrev dktX4_stop_0 : List UInt8 := dkwX4_stop_0 ++ dktX4_stop_1
theorem dksX4_stop_0 : cX4_stop.data.toList.drop 0 = dktX4_stop_0 := by decide +kernel
theorem dksX4_stop_1 : cX4_stop.data.toList.drop 24 = dktX4_stop_1 := dk_seg dksX4_stop_0 24 rfl rfl
theorem dksX4_stop_2 : cX4_stop.data.toList.drop 47 = dktX4_stop_2 := dk_seg dksX4_stop_1 23 rfl rfl
theorem dX4_stop_0 : decode cX4_stop 0 = .ok (.aload_n 0, 1) := dk_42 (dk_at dksX4_stop_0 0 rfl rfl)
theorem dX4_stop_1 : decode cX4_stop 1 = .ok (.iload_n 1, 1) := dk_27 (dk_at dksX4_stop_0 1 rfl rfl)
theorem dX4_stop_2 : decode cX4_stop 2 = .ok (.iconst 4, 1) := dk_7 (dk_at dksX4_stop_0 2 rfl rfl)
theorem dX4_stop_3 : decode cX4_stop 3 = .ok (.iconst 0, 1) := dk_3 (dk_at dksX4_stop_0 3 rfl rfl)
theorem dX4_stop_4 : decode cX4_stop 4 = .ok (.invokevirtual 74, 3) := dk_182 0 74 (dk_at dksX4_stop_0 4 rfl rfl)
theorem dX4_stop_7 : decode cX4_stop 7 = .ok (.aload_n 0, 1) := dk_42 (dk_at dksX4_stop_0 7 rfl rfl)
theorem dX4_stop_8 : decode cX4_stop 8 = .ok (.iload_n 1, 1) := dk_27 (dk_at dksX4_stop_0 8 rfl rfl)
theorem dX4_stop_9 : decode cX4_stop 9 = .ok (.bipush 6, 2) := dk_16 6 (dk_at dksX4_stop_0 9 rfl rfl)
theorem dX4_stop_11 : decode cX4_stop 11 = .ok (.iconst 0, 1) := dk_3 (dk_at dksX4_stop_0 11 rfl rfl)
theorem dX4_stop_12 : decode cX4_stop 12 = .ok (.invokevirtual 74, 3) := dk_182 0 74 (dk_at dksX4_stop_0 12 rfl rfl)
theorem dX4_stop_15 : decode cX4_stop 15 = .ok (.aload_n 0, 1) := dk_42 (dk_at dksX4_stop_0 15 rfl rfl)
theorem dX4_stop_16 : decode cX4_stop 16 = .ok (.getfield 7, 3) := dk_180 0 7 (dk_at dksX4_stop_0 16 rfl rfl)
theorem dX4_stop_19 : decode cX4_stop 19 = .ok (.iconst 4, 1) := dk_7 (dk_at dksX4_stop_0 19 rfl rfl)
theorem dX4_stop_20 : decode cX4_stop 20 = .ok (.aload_n 0, 1) := dk_42 (dk_at dksX4_stop_0 20 rfl rfl)
theorem dX4_stop_21 : decode cX4_stop 21 = .ok (.getfield 7, 3) := dk_180 0 7 (dk_at dksX4_stop_0 21 rfl rfl)
theorem dX4_stop_24 : decode cX4_stop 24 = .ok (.iconst 4, 1) := dk_7 (dk_at dksX4_stop_1 0 rfl rfl)
theorem dX4_stop_25 : decode cX4_stop 25 = .ok (.iaload, 1) := dk_46 (dk_at dksX4_stop_1 1 rfl rfl)
theorem dX4_stop_26 : decode cX4_stop 26 = .ok (.iload_n 1, 1) := dk_27 (dk_at dksX4_stop_1 2 rfl rfl)
theorem dX4_stop_27 : decode cX4_stop 27 = .ok (.if_icmp .ne 10, 3) := dk_160 0 10 (dk_at dksX4_stop_1 3 rfl rfl)
theorem dX4_stop_30 : decode cX4_stop 30 = .ok (.aload_n 0, 1) := dk_42 (dk_at dksX4_stop_1 6 rfl rfl)
theorem dX4_stop_31 : decode cX4_stop 31 = .ok (.invokevirtual 113, 3) := dk_182 0 113 (dk_at dksX4_stop_1 7 rfl rfl)
theorem dX4_stop_34 : decode cX4_stop 34 = .ok (.goto 9, 3) := dk_167 0 9 (dk_at dksX4_stop_1 10 rfl rfl)
theorem dX4_stop_37 : decode cX4_stop 37 = .ok (.aload_n 0, 1) := dk_42 (dk_at dksX4_stop_1 13 rfl rfl)
theorem dX4_stop_38 : decode cX4_stop 38 = .ok (.getfield 7, 3) := dk_180 0 7 (dk_at dksX4_stop_1 14 rfl rfl)
theorem dX4_stop_41 : decode cX4_stop 41 = .ok (.iconst 4, 1) := dk_7 (dk_at dksX4_stop_1 17 rfl rfl)
theorem dX4_stop_42 : decode cX4_stop 42 = .ok (.iaload, 1) := dk_46 (dk_at dksX4_stop_1 18 rfl rfl)
theorem dX4_stop_43 : decode cX4_stop 43 = .ok (.iastore, 1) := dk_79 (dk_at dksX4_stop_1 19 rfl rfl)
theorem dX4_stop_44 : decode cX4_stop 44 = .ok (.aload_n 0, 1) := dk_42 (dk_at dksX4_stop_1 20 rfl rfl)
theorem dX4_stop_45 : decode cX4_stop 45 = .ok (.iconst 1, 1) := dk_4 (dk_at dksX4_stop_1 21 rfl rfl)
theorem dX4_stop_46 : decode cX4_stop 46 = .ok (.iload_n 1, 1) := dk_27 (dk_at dksX4_stop_1 22 rfl rfl)
theorem dX4_stop_47 : decode cX4_stop 47 = .ok (.invokevirtual 105, 3) := dk_182 0 105 (dk_at dksX4_stop_2 0 rfl rfl)
theorem dX4_stop_50 : decode cX4_stop 50 = .ok (.return_, 1) := dk_177 (dk_at dksX4_stop_2 3 rfl rfl)
abbrev cX4_nextVariable : ByteArray := prog_20_method_23_code
def yX4_nextVariable : MethodName := ⟨RX4, "nextVariable", "()I"⟩
def dkwX4_nextVariable_3 : List UInt8 := [167, 255, 189, 27, 172]
abbrev dktX4_nextVariable_3 : List UInt8 := dkwX4_nextVariable_3 ++ []
def dkwX4_nextVariable_2 : List UInt8 := [28, 8, 182, 0, 78, 42, 27, 8, 182, 0, 78, 162, 0, 7, 28, 167, 0, 4, 27, 60, 132, 2, 1]
abbrev dktX4_nextVariable_2 : List UInt8 := dkwX4_nextVariable_2 ++ dktX4_nextVariable_3
def dkwX4_nextVariable_1 : List UInt8 := [28, 3, 182, 0, 78, 153, 0, 7, 4, 167, 0, 4, 3, 62, 29, 153, 0, 27, 27, 2, 159, 0, 18, 42]
abbrev dktX4_nextVariable_1 : List UInt8 := dkwX4_nextVariable_1 ++ dktX4_nextVariable_2
def dkwX4_nextVariable_0 : List UInt8 := [2, 60, 3, 61, 28, 42, 180, 0, 7, 16, 14, 46, 162, 0, 62, 42, 28, 182, 0, 82, 153, 0, 16, 42]
abbrev dktX4_nextVariable_0 : List UInt8 := dkwX4_nextVariable_0 ++ dktX4_nextVariable_1
theorem dksX4_nextVariable_0 : cX4_nextVariable.data.toList.drop 0 = dktX4_nextVariable_0 := by decide +kernel
theorem dksX4_nextVariable_1 : cX4_nextVariable.data.toList.drop 24 = dktX4_nextVariable_1 := dk_seg dksX4_nextVariable_0 24 rfl rfl
theorem dksX4_nextVariable_2 : cX4_nextVariable.data.toList.drop 48 = dktX4_nextVariable_2 := dk_seg dksX4_nextVariable_1 24 rfl rfl
theorem dksX4_nextVariable_3 : cX4_nextVariable.data.toList.drop 71 = dktX4_nextVariable_3 := dk_seg dksX4_nextVariable_2 23 rfl rfl
theorem dX4_nextVariable_0 : decode cX4_nextVariable 0 = .ok (.iconst (-1), 1) := dk_2 (dk_at dksX4_nextVariable_0 0 rfl rfl)
theorem dX4_nextVariable_1 : decode cX4_nextVariable 1 = .ok (.istore_n 1, 1) := dk_60 (dk_at dksX4_nextVariable_0 1 rfl rfl)
theorem dX4_nextVariable_2 : decode cX4_nextVariable 2 = .ok (.iconst 0, 1) := dk_3 (dk_at dksX4_nextVariable_0 2 rfl rfl)
theorem dX4_nextVariable_3 : decode cX4_nextVariable 3 = .ok (.istore_n 2, 1) := dk_61 (dk_at dksX4_nextVariable_0 3 rfl rfl)
theorem dX4_nextVariable_4 : decode cX4_nextVariable 4 = .ok (.iload_n 2, 1) := dk_28 (dk_at dksX4_nextVariable_0 4 rfl rfl)
theorem dX4_nextVariable_5 : decode cX4_nextVariable 5 = .ok (.aload_n 0, 1) := dk_42 (dk_at dksX4_nextVariable_0 5 rfl rfl)
theorem dX4_nextVariable_6 : decode cX4_nextVariable 6 = .ok (.getfield 7, 3) := dk_180 0 7 (dk_at dksX4_nextVariable_0 6 rfl rfl)
theorem dX4_nextVariable_9 : decode cX4_nextVariable 9 = .ok (.bipush 14, 2) := dk_16 14 (dk_at dksX4_nextVariable_0 9 rfl rfl)
theorem dX4_nextVariable_11 : decode cX4_nextVariable 11 = .ok (.iaload, 1) := dk_46 (dk_at dksX4_nextVariable_0 11 rfl rfl)
theorem dX4_nextVariable_12 : decode cX4_nextVariable 12 = .ok (.if_icmp .ge 62, 3) := dk_162 0 62 (dk_at dksX4_nextVariable_0 12 rfl rfl)
theorem dX4_nextVariable_15 : decode cX4_nextVariable 15 = .ok (.aload_n 0, 1) := dk_42 (dk_at dksX4_nextVariable_0 15 rfl rfl)
theorem dX4_nextVariable_16 : decode cX4_nextVariable 16 = .ok (.iload_n 2, 1) := dk_28 (dk_at dksX4_nextVariable_0 16 rfl rfl)
theorem dX4_nextVariable_17 : decode cX4_nextVariable 17 = .ok (.invokevirtual 82, 3) := dk_182 0 82 (dk_at dksX4_nextVariable_0 17 rfl rfl)
theorem dX4_nextVariable_20 : decode cX4_nextVariable 20 = .ok (.ifCond .eq 16, 3) := dk_153 0 16 (dk_at dksX4_nextVariable_0 20 rfl rfl)
theorem dX4_nextVariable_23 : decode cX4_nextVariable 23 = .ok (.aload_n 0, 1) := dk_42 (dk_at dksX4_nextVariable_0 23 rfl rfl)
theorem dX4_nextVariable_24 : decode cX4_nextVariable 24 = .ok (.iload_n 2, 1) := dk_28 (dk_at dksX4_nextVariable_1 0 rfl rfl)
theorem dX4_nextVariable_25 : decode cX4_nextVariable 25 = .ok (.iconst 0, 1) := dk_3 (dk_at dksX4_nextVariable_1 1 rfl rfl)
theorem dX4_nextVariable_26 : decode cX4_nextVariable 26 = .ok (.invokevirtual 78, 3) := dk_182 0 78 (dk_at dksX4_nextVariable_1 2 rfl rfl)
theorem dX4_nextVariable_29 : decode cX4_nextVariable 29 = .ok (.ifCond .eq 7, 3) := dk_153 0 7 (dk_at dksX4_nextVariable_1 5 rfl rfl)
theorem dX4_nextVariable_32 : decode cX4_nextVariable 32 = .ok (.iconst 1, 1) := dk_4 (dk_at dksX4_nextVariable_1 8 rfl rfl)
theorem dX4_nextVariable_33 : decode cX4_nextVariable 33 = .ok (.goto 4, 3) := dk_167 0 4 (dk_at dksX4_nextVariable_1 9 rfl rfl)
theorem dX4_nextVariable_36 : decode cX4_nextVariable 36 = .ok (.iconst 0, 1) := dk_3 (dk_at dksX4_nextVariable_1 12 rfl rfl)
theorem dX4_nextVariable_37 : decode cX4_nextVariable 37 = .ok (.istore_n 3, 1) := dk_62 (dk_at dksX4_nextVariable_1 13 rfl rfl)
theorem dX4_nextVariable_38 : decode cX4_nextVariable 38 = .ok (.iload_n 3, 1) := dk_29 (dk_at dksX4_nextVariable_1 14 rfl rfl)
theorem dX4_nextVariable_39 : decode cX4_nextVariable 39 = .ok (.ifCond .eq 27, 3) := dk_153 0 27 (dk_at dksX4_nextVariable_1 15 rfl rfl)
theorem dX4_nextVariable_42 : decode cX4_nextVariable 42 = .ok (.iload_n 1, 1) := dk_27 (dk_at dksX4_nextVariable_1 18 rfl rfl)
theorem dX4_nextVariable_43 : decode cX4_nextVariable 43 = .ok (.iconst (-1), 1) := dk_2 (dk_at dksX4_nextVariable_1 19 rfl rfl)
theorem dX4_nextVariable_44 : decode cX4_nextVariable 44 = .ok (.if_icmp .eq 18, 3) := dk_159 0 18 (dk_at dksX4_nextVariable_1 20 rfl rfl)
theorem dX4_nextVariable_47 : decode cX4_nextVariable 47 = .ok (.aload_n 0, 1) := dk_42 (dk_at dksX4_nextVariable_1 23 rfl rfl)
theorem dX4_nextVariable_48 : decode cX4_nextVariable 48 = .ok (.iload_n 2, 1) := dk_28 (dk_at dksX4_nextVariable_2 0 rfl rfl)
theorem dX4_nextVariable_49 : decode cX4_nextVariable 49 = .ok (.iconst 5, 1) := dk_8 (dk_at dksX4_nextVariable_2 1 rfl rfl)
theorem dX4_nextVariable_50 : decode cX4_nextVariable 50 = .ok (.invokevirtual 78, 3) := dk_182 0 78 (dk_at dksX4_nextVariable_2 2 rfl rfl)
theorem dX4_nextVariable_53 : decode cX4_nextVariable 53 = .ok (.aload_n 0, 1) := dk_42 (dk_at dksX4_nextVariable_2 5 rfl rfl)
theorem dX4_nextVariable_54 : decode cX4_nextVariable 54 = .ok (.iload_n 1, 1) := dk_27 (dk_at dksX4_nextVariable_2 6 rfl rfl)
theorem dX4_nextVariable_55 : decode cX4_nextVariable 55 = .ok (.iconst 5, 1) := dk_8 (dk_at dksX4_nextVariable_2 7 rfl rfl)
theorem dX4_nextVariable_56 : decode cX4_nextVariable 56 = .ok (.invokevirtual 78, 3) := dk_182 0 78 (dk_at dksX4_nextVariable_2 8 rfl rfl)
theorem dX4_nextVariable_59 : decode cX4_nextVariable 59 = .ok (.if_icmp .ge 7, 3) := dk_162 0 7 (dk_at dksX4_nextVariable_2 11 rfl rfl)
theorem dX4_nextVariable_62 : decode cX4_nextVariable 62 = .ok (.iload_n 2, 1) := dk_28 (dk_at dksX4_nextVariable_2 14 rfl rfl)
theorem dX4_nextVariable_63 : decode cX4_nextVariable 63 = .ok (.goto 4, 3) := dk_167 0 4 (dk_at dksX4_nextVariable_2 15 rfl rfl)
theorem dX4_nextVariable_66 : decode cX4_nextVariable 66 = .ok (.iload_n 1, 1) := dk_27 (dk_at dksX4_nextVariable_2 18 rfl rfl)
theorem dX4_nextVariable_67 : decode cX4_nextVariable 67 = .ok (.istore_n 1, 1) := dk_60 (dk_at dksX4_nextVariable_2 19 rfl rfl)
theorem dX4_nextVariable_68 : decode cX4_nextVariable 68 = .ok (.iinc 2 1, 3) := dk_132 2 1 (dk_at dksX4_nextVariable_2 20 rfl rfl)
theorem dX4_nextVariable_71 : decode cX4_nextVariable 71 = .ok (.goto (-67), 3) := dk_167 255 189 (dk_at dksX4_nextVariable_3 0 rfl rfl)
theorem dX4_nextVariable_74 : decode cX4_nextVariable 74 = .ok (.iload_n 1, 1) := dk_27 (dk_at dksX4_nextVariable_3 3 rfl rfl)
theorem dX4_nextVariable_75 : decode cX4_nextVariable 75 = .ok (.ireturn, 1) := dk_172 (dk_at dksX4_nextVariable_3 4 rfl rfl)
abbrev cX4_event : ByteArray := prog_20_method_20_code
def yX4_event : MethodName := ⟨RX4, "event", "(II)V"⟩
def dkwX4_event_4 : List UInt8 := [96, 79, 42, 89, 180, 0, 102, 4, 27, 120, 128, 181, 0, 102, 177]
abbrev dktX4_event_4 : List UInt8 := dkwX4_event_4 ++ []
def dkwX4_event_3 : List UInt8 := [180, 0, 7, 16, 19, 92, 46, 42, 180, 0, 7, 16, 19, 46, 16, 12, 162, 0, 7, 4, 167, 0, 4, 3]
abbrev dktX4_event_3 : List UInt8 := dkwX4_event_3 ++ dktX4_event_4
def dkwX4_event_2 : List UInt8 := [180, 0, 7, 17, 0, 135, 42, 180, 0, 7, 3, 46, 79, 42, 180, 0, 7, 17, 0, 136, 28, 79, 42]
abbrev dktX4_event_2 : List UInt8 := dkwX4_event_2 ++ dktX4_event_3
def dkwX4_event_1 : List UInt8 := [29, 96, 6, 100, 46, 79, 132, 3, 255, 167, 255, 226, 42, 180, 0, 7, 17, 0, 134, 27, 79, 42]
abbrev dktX4_event_1 : List UInt8 := dkwX4_event_1 ++ dktX4_event_2
def dkwX4_event_0 : List UInt8 := [16, 35, 62, 29, 6, 161, 0, 31, 42, 180, 0, 7, 17, 0, 134, 29, 96, 42, 180, 0, 7, 17, 0, 134]
abbrev dktX4_event_0 : List UInt8 := dkwX4_event_0 ++ dktX4_event_1
theorem dksX4_event_0 : cX4_event.data.toList.drop 0 = dktX4_event_0 := by decide +kernel
theorem dksX4_event_1 : cX4_event.data.toList.drop 24 = dktX4_event_1 := dk_seg dksX4_event_0 24 rfl rfl
theorem dksX4_event_2 : cX4_event.data.toList.drop 46 = dktX4_event_2 := dk_seg dksX4_event_1 22 rfl rfl
theorem dksX4_event_3 : cX4_event.data.toList.drop 69 = dktX4_event_3 := dk_seg dksX4_event_2 23 rfl rfl
theorem dksX4_event_4 : cX4_event.data.toList.drop 93 = dktX4_event_4 := dk_seg dksX4_event_3 24 rfl rfl
theorem dX4_event_0 : decode cX4_event 0 = .ok (.bipush 35, 2) := dk_16 35 (dk_at dksX4_event_0 0 rfl rfl)
theorem dX4_event_2 : decode cX4_event 2 = .ok (.istore_n 3, 1) := dk_62 (dk_at dksX4_event_0 2 rfl rfl)
theorem dX4_event_3 : decode cX4_event 3 = .ok (.iload_n 3, 1) := dk_29 (dk_at dksX4_event_0 3 rfl rfl)
theorem dX4_event_4 : decode cX4_event 4 = .ok (.iconst 3, 1) := dk_6 (dk_at dksX4_event_0 4 rfl rfl)
theorem dX4_event_5 : decode cX4_event 5 = .ok (.if_icmp .lt 31, 3) := dk_161 0 31 (dk_at dksX4_event_0 5 rfl rfl)
theorem dX4_event_8 : decode cX4_event 8 = .ok (.aload_n 0, 1) := dk_42 (dk_at dksX4_event_0 8 rfl rfl)
theorem dX4_event_9 : decode cX4_event 9 = .ok (.getfield 7, 3) := dk_180 0 7 (dk_at dksX4_event_0 9 rfl rfl)
theorem dX4_event_12 : decode cX4_event 12 = .ok (.sipush 134, 3) := dk_17 0 134 (dk_at dksX4_event_0 12 rfl rfl)
theorem dX4_event_15 : decode cX4_event 15 = .ok (.iload_n 3, 1) := dk_29 (dk_at dksX4_event_0 15 rfl rfl)
theorem dX4_event_16 : decode cX4_event 16 = .ok (.iadd, 1) := dk_96 (dk_at dksX4_event_0 16 rfl rfl)
theorem dX4_event_17 : decode cX4_event 17 = .ok (.aload_n 0, 1) := dk_42 (dk_at dksX4_event_0 17 rfl rfl)
theorem dX4_event_18 : decode cX4_event 18 = .ok (.getfield 7, 3) := dk_180 0 7 (dk_at dksX4_event_0 18 rfl rfl)
theorem dX4_event_21 : decode cX4_event 21 = .ok (.sipush 134, 3) := dk_17 0 134 (dk_at dksX4_event_0 21 rfl rfl)
theorem dX4_event_24 : decode cX4_event 24 = .ok (.iload_n 3, 1) := dk_29 (dk_at dksX4_event_1 0 rfl rfl)
theorem dX4_event_25 : decode cX4_event 25 = .ok (.iadd, 1) := dk_96 (dk_at dksX4_event_1 1 rfl rfl)
theorem dX4_event_26 : decode cX4_event 26 = .ok (.iconst 3, 1) := dk_6 (dk_at dksX4_event_1 2 rfl rfl)
theorem dX4_event_27 : decode cX4_event 27 = .ok (.isub, 1) := dk_100 (dk_at dksX4_event_1 3 rfl rfl)
theorem dX4_event_28 : decode cX4_event 28 = .ok (.iaload, 1) := dk_46 (dk_at dksX4_event_1 4 rfl rfl)
theorem dX4_event_29 : decode cX4_event 29 = .ok (.iastore, 1) := dk_79 (dk_at dksX4_event_1 5 rfl rfl)
theorem dX4_event_30 : decode cX4_event 30 = .ok (.iinc 3 (-1), 3) := dk_132 3 255 (dk_at dksX4_event_1 6 rfl rfl)
theorem dX4_event_33 : decode cX4_event 33 = .ok (.goto (-30), 3) := dk_167 255 226 (dk_at dksX4_event_1 9 rfl rfl)
theorem dX4_event_36 : decode cX4_event 36 = .ok (.aload_n 0, 1) := dk_42 (dk_at dksX4_event_1 12 rfl rfl)
theorem dX4_event_37 : decode cX4_event 37 = .ok (.getfield 7, 3) := dk_180 0 7 (dk_at dksX4_event_1 13 rfl rfl)
theorem dX4_event_40 : decode cX4_event 40 = .ok (.sipush 134, 3) := dk_17 0 134 (dk_at dksX4_event_1 16 rfl rfl)
theorem dX4_event_43 : decode cX4_event 43 = .ok (.iload_n 1, 1) := dk_27 (dk_at dksX4_event_1 19 rfl rfl)
theorem dX4_event_44 : decode cX4_event 44 = .ok (.iastore, 1) := dk_79 (dk_at dksX4_event_1 20 rfl rfl)
theorem dX4_event_45 : decode cX4_event 45 = .ok (.aload_n 0, 1) := dk_42 (dk_at dksX4_event_1 21 rfl rfl)
theorem dX4_event_46 : decode cX4_event 46 = .ok (.getfield 7, 3) := dk_180 0 7 (dk_at dksX4_event_2 0 rfl rfl)
theorem dX4_event_49 : decode cX4_event 49 = .ok (.sipush 135, 3) := dk_17 0 135 (dk_at dksX4_event_2 3 rfl rfl)
theorem dX4_event_52 : decode cX4_event 52 = .ok (.aload_n 0, 1) := dk_42 (dk_at dksX4_event_2 6 rfl rfl)
theorem dX4_event_53 : decode cX4_event 53 = .ok (.getfield 7, 3) := dk_180 0 7 (dk_at dksX4_event_2 7 rfl rfl)
theorem dX4_event_56 : decode cX4_event 56 = .ok (.iconst 0, 1) := dk_3 (dk_at dksX4_event_2 10 rfl rfl)
theorem dX4_event_57 : decode cX4_event 57 = .ok (.iaload, 1) := dk_46 (dk_at dksX4_event_2 11 rfl rfl)
theorem dX4_event_58 : decode cX4_event 58 = .ok (.iastore, 1) := dk_79 (dk_at dksX4_event_2 12 rfl rfl)
theorem dX4_event_59 : decode cX4_event 59 = .ok (.aload_n 0, 1) := dk_42 (dk_at dksX4_event_2 13 rfl rfl)
theorem dX4_event_60 : decode cX4_event 60 = .ok (.getfield 7, 3) := dk_180 0 7 (dk_at dksX4_event_2 14 rfl rfl)
theorem dX4_event_63 : decode cX4_event 63 = .ok (.sipush 136, 3) := dk_17 0 136 (dk_at dksX4_event_2 17 rfl rfl)
theorem dX4_event_66 : decode cX4_event 66 = .ok (.iload_n 2, 1) := dk_28 (dk_at dksX4_event_2 20 rfl rfl)
theorem dX4_event_67 : decode cX4_event 67 = .ok (.iastore, 1) := dk_79 (dk_at dksX4_event_2 21 rfl rfl)
theorem dX4_event_68 : decode cX4_event 68 = .ok (.aload_n 0, 1) := dk_42 (dk_at dksX4_event_2 22 rfl rfl)
theorem dX4_event_69 : decode cX4_event 69 = .ok (.getfield 7, 3) := dk_180 0 7 (dk_at dksX4_event_3 0 rfl rfl)
theorem dX4_event_72 : decode cX4_event 72 = .ok (.bipush 19, 2) := dk_16 19 (dk_at dksX4_event_3 3 rfl rfl)
theorem dX4_event_74 : decode cX4_event 74 = .ok (.dup2, 1) := dk_92 (dk_at dksX4_event_3 5 rfl rfl)
theorem dX4_event_75 : decode cX4_event 75 = .ok (.iaload, 1) := dk_46 (dk_at dksX4_event_3 6 rfl rfl)
theorem dX4_event_76 : decode cX4_event 76 = .ok (.aload_n 0, 1) := dk_42 (dk_at dksX4_event_3 7 rfl rfl)
theorem dX4_event_77 : decode cX4_event 77 = .ok (.getfield 7, 3) := dk_180 0 7 (dk_at dksX4_event_3 8 rfl rfl)
theorem dX4_event_80 : decode cX4_event 80 = .ok (.bipush 19, 2) := dk_16 19 (dk_at dksX4_event_3 11 rfl rfl)
theorem dX4_event_82 : decode cX4_event 82 = .ok (.iaload, 1) := dk_46 (dk_at dksX4_event_3 13 rfl rfl)
theorem dX4_event_83 : decode cX4_event 83 = .ok (.bipush 12, 2) := dk_16 12 (dk_at dksX4_event_3 14 rfl rfl)
theorem dX4_event_85 : decode cX4_event 85 = .ok (.if_icmp .ge 7, 3) := dk_162 0 7 (dk_at dksX4_event_3 16 rfl rfl)
theorem dX4_event_88 : decode cX4_event 88 = .ok (.iconst 1, 1) := dk_4 (dk_at dksX4_event_3 19 rfl rfl)
theorem dX4_event_89 : decode cX4_event 89 = .ok (.goto 4, 3) := dk_167 0 4 (dk_at dksX4_event_3 20 rfl rfl)
theorem dX4_event_92 : decode cX4_event 92 = .ok (.iconst 0, 1) := dk_3 (dk_at dksX4_event_3 23 rfl rfl)
theorem dX4_event_93 : decode cX4_event 93 = .ok (.iadd, 1) := dk_96 (dk_at dksX4_event_4 0 rfl rfl)
theorem dX4_event_94 : decode cX4_event 94 = .ok (.iastore, 1) := dk_79 (dk_at dksX4_event_4 1 rfl rfl)
theorem dX4_event_95 : decode cX4_event 95 = .ok (.aload_n 0, 1) := dk_42 (dk_at dksX4_event_4 2 rfl rfl)
theorem dX4_event_96 : decode cX4_event 96 = .ok (.dup, 1) := dk_89 (dk_at dksX4_event_4 3 rfl rfl)
theorem dX4_event_97 : decode cX4_event 97 = .ok (.getfield 102, 3) := dk_180 0 102 (dk_at dksX4_event_4 4 rfl rfl)
theorem dX4_event_100 : decode cX4_event 100 = .ok (.iconst 1, 1) := dk_4 (dk_at dksX4_event_4 7 rfl rfl)
theorem dX4_event_101 : decode cX4_event 101 = .ok (.iload_n 1, 1) := dk_27 (dk_at dksX4_event_4 8 rfl rfl)
theorem dX4_event_102 : decode cX4_event 102 = .ok (.ishl, 1) := dk_120 (dk_at dksX4_event_4 9 rfl rfl)
theorem dX4_event_103 : decode cX4_event 103 = .ok (.ior, 1) := dk_128 (dk_at dksX4_event_4 10 rfl rfl)
theorem dX4_event_104 : decode cX4_event 104 = .ok (.putfield 102, 3) := dk_181 0 102 (dk_at dksX4_event_4 11 rfl rfl)
theorem dX4_event_107 : decode cX4_event 107 = .ok (.return_, 1) := dk_177 (dk_at dksX4_event_4 14 rfl rfl)
abbrev cX4_pumpOf : ByteArray := prog_20_method_27_code
def yX4_pumpOf : MethodName := ⟨RX4, "pumpOf", "(II)I"⟩
def dkwX4_pumpOf_4 : List UInt8 := [182, 0, 129, 167, 0, 4, 3, 172, 42, 27, 28, 182, 0, 78, 172]
abbrev dktX4_pumpOf_4 : List UInt8 := dkwX4_pumpOf_4 ++ []
def dkwX4_pumpOf_3 : List UInt8 := [172, 42, 27, 182, 0, 82, 153, 0, 23, 42, 27, 42, 27, 7, 182, 0, 78, 42, 180, 0, 7, 4, 46]
abbrev dktX4_pumpOf_3 : List UInt8 := dkwX4_pumpOf_3 ++ dktX4_pumpOf_4
def dkwX4_pumpOf_2 : List UInt8 := [42, 180, 0, 7, 7, 46, 27, 160, 0, 7, 4, 167, 0, 4, 3, 172, 42, 27, 28, 4, 100, 182, 0, 78]
abbrev dktX4_pumpOf_2 : List UInt8 := dkwX4_pumpOf_2 ++ dktX4_pumpOf_3
def dkwX4_pumpOf_1 : List UInt8 := [170, 0, 0, 0, 0, 0, 0, 91, 0, 0, 0, 5, 0, 0, 0, 9, 0, 0, 0, 36, 0, 0, 0, 52, 0, 0, 0, 52, 0, 0, 0, 52, 0, 0, 0, 61]
abbrev dktX4_pumpOf_1 : List UInt8 := dkwX4_pumpOf_1 ++ dktX4_pumpOf_2
def dkwX4_pumpOf_0 : List UInt8 := [42, 27, 182, 0, 120, 153, 0, 15, 28, 133, 9, 20, 0, 127, 184, 0, 30, 154, 0, 6, 18, 62, 172, 28]
abbrev dktX4_pumpOf_0 : List UInt8 := dkwX4_pumpOf_0 ++ dktX4_pumpOf_1
theorem dksX4_pumpOf_0 : cX4_pumpOf.data.toList.drop 0 = dktX4_pumpOf_0 := by decide +kernel
theorem dksX4_pumpOf_1 : cX4_pumpOf.data.toList.drop 24 = dktX4_pumpOf_1 := dk_seg dksX4_pumpOf_0 24 rfl rfl
theorem dksX4_pumpOf_2 : cX4_pumpOf.data.toList.drop 60 = dktX4_pumpOf_2 := dk_seg dksX4_pumpOf_1 36 rfl rfl
theorem dksX4_pumpOf_3 : cX4_pumpOf.data.toList.drop 84 = dktX4_pumpOf_3 := dk_seg dksX4_pumpOf_2 24 rfl rfl
theorem dksX4_pumpOf_4 : cX4_pumpOf.data.toList.drop 107 = dktX4_pumpOf_4 := dk_seg dksX4_pumpOf_3 23 rfl rfl
theorem dX4_pumpOf_0 : decode cX4_pumpOf 0 = .ok (.aload_n 0, 1) := dk_42 (dk_at dksX4_pumpOf_0 0 rfl rfl)
theorem dX4_pumpOf_1 : decode cX4_pumpOf 1 = .ok (.iload_n 1, 1) := dk_27 (dk_at dksX4_pumpOf_0 1 rfl rfl)
theorem dX4_pumpOf_2 : decode cX4_pumpOf 2 = .ok (.invokevirtual 120, 3) := dk_182 0 120 (dk_at dksX4_pumpOf_0 2 rfl rfl)
theorem dX4_pumpOf_5 : decode cX4_pumpOf 5 = .ok (.ifCond .eq 15, 3) := dk_153 0 15 (dk_at dksX4_pumpOf_0 5 rfl rfl)
theorem dX4_pumpOf_8 : decode cX4_pumpOf 8 = .ok (.iload_n 2, 1) := dk_28 (dk_at dksX4_pumpOf_0 8 rfl rfl)
theorem dX4_pumpOf_9 : decode cX4_pumpOf 9 = .ok (.i2l, 1) := dk_133 (dk_at dksX4_pumpOf_0 9 rfl rfl)
theorem dX4_pumpOf_10 : decode cX4_pumpOf 10 = .ok (.lconst 0, 1) := dk_9 (dk_at dksX4_pumpOf_0 10 rfl rfl)
theorem dX4_pumpOf_11 : decode cX4_pumpOf 11 = .ok (.ldc2_w 127, 3) := dk_20 0 127 (dk_at dksX4_pumpOf_0 11 rfl rfl)
theorem dX4_pumpOf_14 : decode cX4_pumpOf 14 = .ok (.invokestatic 30, 3) := dk_184 0 30 (dk_at dksX4_pumpOf_0 14 rfl rfl)
theorem dX4_pumpOf_17 : decode cX4_pumpOf 17 = .ok (.ifCond .ne 6, 3) := dk_154 0 6 (dk_at dksX4_pumpOf_0 17 rfl rfl)
theorem dX4_pumpOf_20 : decode cX4_pumpOf 20 = .ok (.ldc 62, 2) := dk_18 62 (dk_at dksX4_pumpOf_0 20 rfl rfl)
theorem dX4_pumpOf_22 : decode cX4_pumpOf 22 = .ok (.ireturn, 1) := dk_172 (dk_at dksX4_pumpOf_0 22 rfl rfl)
theorem dX4_pumpOf_23 : decode cX4_pumpOf 23 = .ok (.iload_n 2, 1) := dk_28 (dk_at dksX4_pumpOf_0 23 rfl rfl)
theorem dX4_pumpOf_24 : decode cX4_pumpOf 24 = .ok (.tableswitch 91 5 9 #[36, 52, 52, 52, 61], 36) := by decide +kernel
theorem dX4_pumpOf_60 : decode cX4_pumpOf 60 = .ok (.aload_n 0, 1) := dk_42 (dk_at dksX4_pumpOf_2 0 rfl rfl)
theorem dX4_pumpOf_61 : decode cX4_pumpOf 61 = .ok (.getfield 7, 3) := dk_180 0 7 (dk_at dksX4_pumpOf_2 1 rfl rfl)
theorem dX4_pumpOf_64 : decode cX4_pumpOf 64 = .ok (.iconst 4, 1) := dk_7 (dk_at dksX4_pumpOf_2 4 rfl rfl)
theorem dX4_pumpOf_65 : decode cX4_pumpOf 65 = .ok (.iaload, 1) := dk_46 (dk_at dksX4_pumpOf_2 5 rfl rfl)
theorem dX4_pumpOf_66 : decode cX4_pumpOf 66 = .ok (.iload_n 1, 1) := dk_27 (dk_at dksX4_pumpOf_2 6 rfl rfl)
theorem dX4_pumpOf_67 : decode cX4_pumpOf 67 = .ok (.if_icmp .ne 7, 3) := dk_160 0 7 (dk_at dksX4_pumpOf_2 7 rfl rfl)
theorem dX4_pumpOf_70 : decode cX4_pumpOf 70 = .ok (.iconst 1, 1) := dk_4 (dk_at dksX4_pumpOf_2 10 rfl rfl)
theorem dX4_pumpOf_71 : decode cX4_pumpOf 71 = .ok (.goto 4, 3) := dk_167 0 4 (dk_at dksX4_pumpOf_2 11 rfl rfl)
theorem dX4_pumpOf_74 : decode cX4_pumpOf 74 = .ok (.iconst 0, 1) := dk_3 (dk_at dksX4_pumpOf_2 14 rfl rfl)
theorem dX4_pumpOf_75 : decode cX4_pumpOf 75 = .ok (.ireturn, 1) := dk_172 (dk_at dksX4_pumpOf_2 15 rfl rfl)
theorem dX4_pumpOf_76 : decode cX4_pumpOf 76 = .ok (.aload_n 0, 1) := dk_42 (dk_at dksX4_pumpOf_2 16 rfl rfl)
theorem dX4_pumpOf_77 : decode cX4_pumpOf 77 = .ok (.iload_n 1, 1) := dk_27 (dk_at dksX4_pumpOf_2 17 rfl rfl)
theorem dX4_pumpOf_78 : decode cX4_pumpOf 78 = .ok (.iload_n 2, 1) := dk_28 (dk_at dksX4_pumpOf_2 18 rfl rfl)
theorem dX4_pumpOf_79 : decode cX4_pumpOf 79 = .ok (.iconst 1, 1) := dk_4 (dk_at dksX4_pumpOf_2 19 rfl rfl)
theorem dX4_pumpOf_80 : decode cX4_pumpOf 80 = .ok (.isub, 1) := dk_100 (dk_at dksX4_pumpOf_2 20 rfl rfl)
theorem dX4_pumpOf_81 : decode cX4_pumpOf 81 = .ok (.invokevirtual 78, 3) := dk_182 0 78 (dk_at dksX4_pumpOf_2 21 rfl rfl)
theorem dX4_pumpOf_84 : decode cX4_pumpOf 84 = .ok (.ireturn, 1) := dk_172 (dk_at dksX4_pumpOf_3 0 rfl rfl)
theorem dX4_pumpOf_85 : decode cX4_pumpOf 85 = .ok (.aload_n 0, 1) := dk_42 (dk_at dksX4_pumpOf_3 1 rfl rfl)
theorem dX4_pumpOf_86 : decode cX4_pumpOf 86 = .ok (.iload_n 1, 1) := dk_27 (dk_at dksX4_pumpOf_3 2 rfl rfl)
theorem dX4_pumpOf_87 : decode cX4_pumpOf 87 = .ok (.invokevirtual 82, 3) := dk_182 0 82 (dk_at dksX4_pumpOf_3 3 rfl rfl)
theorem dX4_pumpOf_90 : decode cX4_pumpOf 90 = .ok (.ifCond .eq 23, 3) := dk_153 0 23 (dk_at dksX4_pumpOf_3 6 rfl rfl)
theorem dX4_pumpOf_93 : decode cX4_pumpOf 93 = .ok (.aload_n 0, 1) := dk_42 (dk_at dksX4_pumpOf_3 9 rfl rfl)
theorem dX4_pumpOf_94 : decode cX4_pumpOf 94 = .ok (.iload_n 1, 1) := dk_27 (dk_at dksX4_pumpOf_3 10 rfl rfl)
theorem dX4_pumpOf_95 : decode cX4_pumpOf 95 = .ok (.aload_n 0, 1) := dk_42 (dk_at dksX4_pumpOf_3 11 rfl rfl)
theorem dX4_pumpOf_96 : decode cX4_pumpOf 96 = .ok (.iload_n 1, 1) := dk_27 (dk_at dksX4_pumpOf_3 12 rfl rfl)
theorem dX4_pumpOf_97 : decode cX4_pumpOf 97 = .ok (.iconst 4, 1) := dk_7 (dk_at dksX4_pumpOf_3 13 rfl rfl)
theorem dX4_pumpOf_98 : decode cX4_pumpOf 98 = .ok (.invokevirtual 78, 3) := dk_182 0 78 (dk_at dksX4_pumpOf_3 14 rfl rfl)
theorem dX4_pumpOf_101 : decode cX4_pumpOf 101 = .ok (.aload_n 0, 1) := dk_42 (dk_at dksX4_pumpOf_3 17 rfl rfl)
theorem dX4_pumpOf_102 : decode cX4_pumpOf 102 = .ok (.getfield 7, 3) := dk_180 0 7 (dk_at dksX4_pumpOf_3 18 rfl rfl)
theorem dX4_pumpOf_105 : decode cX4_pumpOf 105 = .ok (.iconst 1, 1) := dk_4 (dk_at dksX4_pumpOf_3 21 rfl rfl)
theorem dX4_pumpOf_106 : decode cX4_pumpOf 106 = .ok (.iaload, 1) := dk_46 (dk_at dksX4_pumpOf_3 22 rfl rfl)
theorem dX4_pumpOf_107 : decode cX4_pumpOf 107 = .ok (.invokevirtual 129, 3) := dk_182 0 129 (dk_at dksX4_pumpOf_4 0 rfl rfl)
theorem dX4_pumpOf_110 : decode cX4_pumpOf 110 = .ok (.goto 4, 3) := dk_167 0 4 (dk_at dksX4_pumpOf_4 3 rfl rfl)
theorem dX4_pumpOf_113 : decode cX4_pumpOf 113 = .ok (.iconst 0, 1) := dk_3 (dk_at dksX4_pumpOf_4 6 rfl rfl)
theorem dX4_pumpOf_114 : decode cX4_pumpOf 114 = .ok (.ireturn, 1) := dk_172 (dk_at dksX4_pumpOf_4 7 rfl rfl)
theorem dX4_pumpOf_115 : decode cX4_pumpOf 115 = .ok (.aload_n 0, 1) := dk_42 (dk_at dksX4_pumpOf_4 8 rfl rfl)
theorem dX4_pumpOf_116 : decode cX4_pumpOf 116 = .ok (.iload_n 1, 1) := dk_27 (dk_at dksX4_pumpOf_4 9 rfl rfl)
theorem dX4_pumpOf_117 : decode cX4_pumpOf 117 = .ok (.iload_n 2, 1) := dk_28 (dk_at dksX4_pumpOf_4 10 rfl rfl)
theorem dX4_pumpOf_118 : decode cX4_pumpOf 118 = .ok (.invokevirtual 78, 3) := dk_182 0 78 (dk_at dksX4_pumpOf_4 11 rfl rfl)
theorem dX4_pumpOf_121 : decode cX4_pumpOf 121 = .ok (.ireturn, 1) := dk_172 (dk_at dksX4_pumpOf_4 14 rfl rfl)
abbrev cX4_flow : ByteArray := prog_20_method_17_code
def yX4_flow : MethodName := ⟨RX4, "flow", "(III)I"⟩
def dkwX4_flow_2 : List UInt8 := [184, 0, 88, 172]
abbrev dktX4_flow_2 : List UInt8 := dkwX4_flow_2 ++ []
def dkwX4_flow_1 : List UInt8 := [157, 0, 7, 3, 167, 0, 23, 22, 4, 29, 133, 101, 20, 0, 40, 105, 42, 27, 5, 182, 0, 78, 133, 109]
abbrev dktX4_flow_1 : List UInt8 := dkwX4_flow_1 ++ dktX4_flow_2
def dkwX4_flow_0 : List UInt8 := [42, 27, 4, 182, 0, 78, 133, 28, 133, 105, 28, 133, 105, 20, 0, 86, 109, 55, 4, 22, 4, 29, 133, 148]
abbrev dktX4_flow_0 : List UInt8 := dkwX4_flow_0 ++ dktX4_flow_1
theorem dksX4_flow_0 : cX4_flow.data.toList.drop 0 = dktX4_flow_0 := by decide +kernel
theorem dksX4_flow_1 : cX4_flow.data.toList.drop 24 = dktX4_flow_1 := dk_seg dksX4_flow_0 24 rfl rfl
theorem dksX4_flow_2 : cX4_flow.data.toList.drop 48 = dktX4_flow_2 := dk_seg dksX4_flow_1 24 rfl rfl
theorem dX4_flow_0 : decode cX4_flow 0 = .ok (.aload_n 0, 1) := dk_42 (dk_at dksX4_flow_0 0 rfl rfl)
theorem dX4_flow_1 : decode cX4_flow 1 = .ok (.iload_n 1, 1) := dk_27 (dk_at dksX4_flow_0 1 rfl rfl)
theorem dX4_flow_2 : decode cX4_flow 2 = .ok (.iconst 1, 1) := dk_4 (dk_at dksX4_flow_0 2 rfl rfl)
theorem dX4_flow_3 : decode cX4_flow 3 = .ok (.invokevirtual 78, 3) := dk_182 0 78 (dk_at dksX4_flow_0 3 rfl rfl)
theorem dX4_flow_6 : decode cX4_flow 6 = .ok (.i2l, 1) := dk_133 (dk_at dksX4_flow_0 6 rfl rfl)
theorem dX4_flow_7 : decode cX4_flow 7 = .ok (.iload_n 2, 1) := dk_28 (dk_at dksX4_flow_0 7 rfl rfl)
theorem dX4_flow_8 : decode cX4_flow 8 = .ok (.i2l, 1) := dk_133 (dk_at dksX4_flow_0 8 rfl rfl)
theorem dX4_flow_9 : decode cX4_flow 9 = .ok (.lmul, 1) := dk_105 (dk_at dksX4_flow_0 9 rfl rfl)
theorem dX4_flow_10 : decode cX4_flow 10 = .ok (.iload_n 2, 1) := dk_28 (dk_at dksX4_flow_0 10 rfl rfl)
theorem dX4_flow_11 : decode cX4_flow 11 = .ok (.i2l, 1) := dk_133 (dk_at dksX4_flow_0 11 rfl rfl)
theorem dX4_flow_12 : decode cX4_flow 12 = .ok (.lmul, 1) := dk_105 (dk_at dksX4_flow_0 12 rfl rfl)
theorem dX4_flow_13 : decode cX4_flow 13 = .ok (.ldc2_w 86, 3) := dk_20 0 86 (dk_at dksX4_flow_0 13 rfl rfl)
theorem dX4_flow_16 : decode cX4_flow 16 = .ok (.ldiv, 1) := dk_109 (dk_at dksX4_flow_0 16 rfl rfl)
theorem dX4_flow_17 : decode cX4_flow 17 = .ok (.lstore 4, 2) := dk_55 4 (dk_at dksX4_flow_0 17 rfl rfl)
theorem dX4_flow_19 : decode cX4_flow 19 = .ok (.lload 4, 2) := dk_22 4 (dk_at dksX4_flow_0 19 rfl rfl)
theorem dX4_flow_21 : decode cX4_flow 21 = .ok (.iload_n 3, 1) := dk_29 (dk_at dksX4_flow_0 21 rfl rfl)
theorem dX4_flow_22 : decode cX4_flow 22 = .ok (.i2l, 1) := dk_133 (dk_at dksX4_flow_0 22 rfl rfl)
theorem dX4_flow_23 : decode cX4_flow 23 = .ok (.lcmp, 1) := dk_148 (dk_at dksX4_flow_0 23 rfl rfl)
theorem dX4_flow_24 : decode cX4_flow 24 = .ok (.ifCond .gt 7, 3) := dk_157 0 7 (dk_at dksX4_flow_1 0 rfl rfl)
theorem dX4_flow_27 : decode cX4_flow 27 = .ok (.iconst 0, 1) := dk_3 (dk_at dksX4_flow_1 3 rfl rfl)
theorem dX4_flow_28 : decode cX4_flow 28 = .ok (.goto 23, 3) := dk_167 0 23 (dk_at dksX4_flow_1 4 rfl rfl)
theorem dX4_flow_31 : decode cX4_flow 31 = .ok (.lload 4, 2) := dk_22 4 (dk_at dksX4_flow_1 7 rfl rfl)
theorem dX4_flow_33 : decode cX4_flow 33 = .ok (.iload_n 3, 1) := dk_29 (dk_at dksX4_flow_1 9 rfl rfl)
theorem dX4_flow_34 : decode cX4_flow 34 = .ok (.i2l, 1) := dk_133 (dk_at dksX4_flow_1 10 rfl rfl)
theorem dX4_flow_35 : decode cX4_flow 35 = .ok (.lsub, 1) := dk_101 (dk_at dksX4_flow_1 11 rfl rfl)
theorem dX4_flow_36 : decode cX4_flow 36 = .ok (.ldc2_w 40, 3) := dk_20 0 40 (dk_at dksX4_flow_1 12 rfl rfl)
theorem dX4_flow_39 : decode cX4_flow 39 = .ok (.lmul, 1) := dk_105 (dk_at dksX4_flow_1 15 rfl rfl)
theorem dX4_flow_40 : decode cX4_flow 40 = .ok (.aload_n 0, 1) := dk_42 (dk_at dksX4_flow_1 16 rfl rfl)
theorem dX4_flow_41 : decode cX4_flow 41 = .ok (.iload_n 1, 1) := dk_27 (dk_at dksX4_flow_1 17 rfl rfl)
theorem dX4_flow_42 : decode cX4_flow 42 = .ok (.iconst 2, 1) := dk_5 (dk_at dksX4_flow_1 18 rfl rfl)
theorem dX4_flow_43 : decode cX4_flow 43 = .ok (.invokevirtual 78, 3) := dk_182 0 78 (dk_at dksX4_flow_1 19 rfl rfl)
theorem dX4_flow_46 : decode cX4_flow 46 = .ok (.i2l, 1) := dk_133 (dk_at dksX4_flow_1 22 rfl rfl)
theorem dX4_flow_47 : decode cX4_flow 47 = .ok (.ldiv, 1) := dk_109 (dk_at dksX4_flow_1 23 rfl rfl)
theorem dX4_flow_48 : decode cX4_flow 48 = .ok (.invokestatic 88, 3) := dk_184 0 88 (dk_at dksX4_flow_2 0 rfl rfl)
theorem dX4_flow_51 : decode cX4_flow 51 = .ok (.ireturn, 1) := dk_172 (dk_at dksX4_flow_2 3 rfl rfl)
abbrev cX4_root : ByteArray := prog_20_method_16_code
def yX4_root : MethodName := ⟨RX4, "root", "(J)I"⟩
def dkwX4_root_0 : List UInt8 := [9, 65, 32, 10, 97, 32, 10, 97, 105, 30, 148, 157, 0, 10, 32, 10, 97, 65, 167, 255, 240, 32, 136, 172]
abbrev dktX4_root_0 : List UInt8 := dkwX4_root_0 ++ []
theorem dksX4_root_0 : cX4_root.data.toList.drop 0 = dktX4_root_0 := by decide +kernel
theorem dX4_root_0 : decode cX4_root 0 = .ok (.lconst 0, 1) := dk_9 (dk_at dksX4_root_0 0 rfl rfl)
theorem dX4_root_1 : decode cX4_root 1 = .ok (.lstore_n 2, 1) := dk_65 (dk_at dksX4_root_0 1 rfl rfl)
theorem dX4_root_2 : decode cX4_root 2 = .ok (.lload_n 2, 1) := dk_32 (dk_at dksX4_root_0 2 rfl rfl)
theorem dX4_root_3 : decode cX4_root 3 = .ok (.lconst 1, 1) := dk_10 (dk_at dksX4_root_0 3 rfl rfl)
theorem dX4_root_4 : decode cX4_root 4 = .ok (.ladd, 1) := dk_97 (dk_at dksX4_root_0 4 rfl rfl)
theorem dX4_root_5 : decode cX4_root 5 = .ok (.lload_n 2, 1) := dk_32 (dk_at dksX4_root_0 5 rfl rfl)
theorem dX4_root_6 : decode cX4_root 6 = .ok (.lconst 1, 1) := dk_10 (dk_at dksX4_root_0 6 rfl rfl)
theorem dX4_root_7 : decode cX4_root 7 = .ok (.ladd, 1) := dk_97 (dk_at dksX4_root_0 7 rfl rfl)
theorem dX4_root_8 : decode cX4_root 8 = .ok (.lmul, 1) := dk_105 (dk_at dksX4_root_0 8 rfl rfl)
theorem dX4_root_9 : decode cX4_root 9 = .ok (.lload_n 0, 1) := dk_30 (dk_at dksX4_root_0 9 rfl rfl)
theorem dX4_root_10 : decode cX4_root 10 = .ok (.lcmp, 1) := dk_148 (dk_at dksX4_root_0 10 rfl rfl)
theorem dX4_root_11 : decode cX4_root 11 = .ok (.ifCond .gt 10, 3) := dk_157 0 10 (dk_at dksX4_root_0 11 rfl rfl)
theorem dX4_root_14 : decode cX4_root 14 = .ok (.lload_n 2, 1) := dk_32 (dk_at dksX4_root_0 14 rfl rfl)
theorem dX4_root_15 : decode cX4_root 15 = .ok (.lconst 1, 1) := dk_10 (dk_at dksX4_root_0 15 rfl rfl)
theorem dX4_root_16 : decode cX4_root 16 = .ok (.ladd, 1) := dk_97 (dk_at dksX4_root_0 16 rfl rfl)
theorem dX4_root_17 : decode cX4_root 17 = .ok (.lstore_n 2, 1) := dk_65 (dk_at dksX4_root_0 17 rfl rfl)
theorem dX4_root_18 : decode cX4_root 18 = .ok (.goto (-16), 3) := dk_167 255 240 (dk_at dksX4_root_0 18 rfl rfl)
theorem dX4_root_21 : decode cX4_root 21 = .ok (.lload_n 2, 1) := dk_32 (dk_at dksX4_root_0 21 rfl rfl)
theorem dX4_root_22 : decode cX4_root 22 = .ok (.l2i, 1) := dk_136 (dk_at dksX4_root_0 22 rfl rfl)
theorem dX4_root_23 : decode cX4_root 23 = .ok (.ireturn, 1) := dk_172 (dk_at dksX4_root_0 23 rfl rfl)
abbrev cX4_curve : ByteArray := prog_20_method_28_code
def yX4_curve : MethodName := ⟨RX4, "curve", "(III)I"⟩
def dkwX4_curve_1 : List UInt8 := [9, 20, 0, 71, 184, 0, 30, 153, 0, 13, 42, 27, 28, 29, 182, 0, 129, 167, 0, 5, 18, 62, 172]
abbrev dktX4_curve_1 : List UInt8 := dkwX4_curve_1 ++ []
def dkwX4_curve_0 : List UInt8 := [42, 27, 182, 0, 120, 153, 0, 39, 28, 133, 20, 0, 36, 20, 0, 40, 184, 0, 30, 153, 0, 25, 29, 133]
abbrev dktX4_curve_0 : List UInt8 := dkwX4_curve_0 ++ dktX4_curve_1
theorem dksX4_curve_0 : cX4_curve.data.toList.drop 0 = dktX4_curve_0 := by decide +kernel
theorem dksX4_curve_1 : cX4_curve.data.toList.drop 24 = dktX4_curve_1 := dk_seg dksX4_curve_0 24 rfl rfl
theorem dX4_curve_0 : decode cX4_curve 0 = .ok (.aload_n 0, 1) := dk_42 (dk_at dksX4_curve_0 0 rfl rfl)
theorem dX4_curve_1 : decode cX4_curve 1 = .ok (.iload_n 1, 1) := dk_27 (dk_at dksX4_curve_0 1 rfl rfl)
theorem dX4_curve_2 : decode cX4_curve 2 = .ok (.invokevirtual 120, 3) := dk_182 0 120 (dk_at dksX4_curve_0 2 rfl rfl)
theorem dX4_curve_5 : decode cX4_curve 5 = .ok (.ifCond .eq 39, 3) := dk_153 0 39 (dk_at dksX4_curve_0 5 rfl rfl)
theorem dX4_curve_8 : decode cX4_curve 8 = .ok (.iload_n 2, 1) := dk_28 (dk_at dksX4_curve_0 8 rfl rfl)
theorem dX4_curve_9 : decode cX4_curve 9 = .ok (.i2l, 1) := dk_133 (dk_at dksX4_curve_0 9 rfl rfl)
theorem dX4_curve_10 : decode cX4_curve 10 = .ok (.ldc2_w 36, 3) := dk_20 0 36 (dk_at dksX4_curve_0 10 rfl rfl)
theorem dX4_curve_13 : decode cX4_curve 13 = .ok (.ldc2_w 40, 3) := dk_20 0 40 (dk_at dksX4_curve_0 13 rfl rfl)
theorem dX4_curve_16 : decode cX4_curve 16 = .ok (.invokestatic 30, 3) := dk_184 0 30 (dk_at dksX4_curve_0 16 rfl rfl)
theorem dX4_curve_19 : decode cX4_curve 19 = .ok (.ifCond .eq 25, 3) := dk_153 0 25 (dk_at dksX4_curve_0 19 rfl rfl)
theorem dX4_curve_22 : decode cX4_curve 22 = .ok (.iload_n 3, 1) := dk_29 (dk_at dksX4_curve_0 22 rfl rfl)
theorem dX4_curve_23 : decode cX4_curve 23 = .ok (.i2l, 1) := dk_133 (dk_at dksX4_curve_0 23 rfl rfl)
theorem dX4_curve_24 : decode cX4_curve 24 = .ok (.lconst 0, 1) := dk_9 (dk_at dksX4_curve_1 0 rfl rfl)
theorem dX4_curve_25 : decode cX4_curve 25 = .ok (.ldc2_w 71, 3) := dk_20 0 71 (dk_at dksX4_curve_1 1 rfl rfl)
theorem dX4_curve_28 : decode cX4_curve 28 = .ok (.invokestatic 30, 3) := dk_184 0 30 (dk_at dksX4_curve_1 4 rfl rfl)
theorem dX4_curve_31 : decode cX4_curve 31 = .ok (.ifCond .eq 13, 3) := dk_153 0 13 (dk_at dksX4_curve_1 7 rfl rfl)
theorem dX4_curve_34 : decode cX4_curve 34 = .ok (.aload_n 0, 1) := dk_42 (dk_at dksX4_curve_1 10 rfl rfl)
theorem dX4_curve_35 : decode cX4_curve 35 = .ok (.iload_n 1, 1) := dk_27 (dk_at dksX4_curve_1 11 rfl rfl)
theorem dX4_curve_36 : decode cX4_curve 36 = .ok (.iload_n 2, 1) := dk_28 (dk_at dksX4_curve_1 12 rfl rfl)
theorem dX4_curve_37 : decode cX4_curve 37 = .ok (.iload_n 3, 1) := dk_29 (dk_at dksX4_curve_1 13 rfl rfl)
theorem dX4_curve_38 : decode cX4_curve 38 = .ok (.invokevirtual 129, 3) := dk_182 0 129 (dk_at dksX4_curve_1 14 rfl rfl)
theorem dX4_curve_41 : decode cX4_curve 41 = .ok (.goto 5, 3) := dk_167 0 5 (dk_at dksX4_curve_1 17 rfl rfl)
theorem dX4_curve_44 : decode cX4_curve 44 = .ok (.ldc 62, 2) := dk_18 62 (dk_at dksX4_curve_1 20 rfl rfl)
theorem dX4_curve_46 : decode cX4_curve 46 = .ok (.ireturn, 1) := dk_172 (dk_at dksX4_curve_1 22 rfl rfl)
abbrev cX4_readyAt : ByteArray := prog_20_method_29_code
def yX4_readyAt : MethodName := ⟨RX4, "readyAt", "(I)I"⟩
def dkwX4_readyAt_1 : List UInt8 := [172]
abbrev dktX4_readyAt_1 : List UInt8 := dkwX4_readyAt_1 ++ []
def dkwX4_readyAt_0 : List UInt8 := [27, 156, 0, 6, 18, 62, 172, 42, 27, 182, 0, 133, 61, 28, 2, 160, 0, 8, 18, 136, 167, 0, 4, 28]
abbrev dktX4_readyAt_0 : List UInt8 := dkwX4_readyAt_0 ++ dktX4_readyAt_1
theorem dksX4_readyAt_0 : cX4_readyAt.data.toList.drop 0 = dktX4_readyAt_0 := by decide +kernel
theorem dksX4_readyAt_1 : cX4_readyAt.data.toList.drop 24 = dktX4_readyAt_1 := dk_seg dksX4_readyAt_0 24 rfl rfl
theorem dX4_readyAt_0 : decode cX4_readyAt 0 = .ok (.iload_n 1, 1) := dk_27 (dk_at dksX4_readyAt_0 0 rfl rfl)
theorem dX4_readyAt_1 : decode cX4_readyAt 1 = .ok (.ifCond .ge 6, 3) := dk_156 0 6 (dk_at dksX4_readyAt_0 1 rfl rfl)
theorem dX4_readyAt_4 : decode cX4_readyAt 4 = .ok (.ldc 62, 2) := dk_18 62 (dk_at dksX4_readyAt_0 4 rfl rfl)
theorem dX4_readyAt_6 : decode cX4_readyAt 6 = .ok (.ireturn, 1) := dk_172 (dk_at dksX4_readyAt_0 6 rfl rfl)
theorem dX4_readyAt_7 : decode cX4_readyAt 7 = .ok (.aload_n 0, 1) := dk_42 (dk_at dksX4_readyAt_0 7 rfl rfl)
theorem dX4_readyAt_8 : decode cX4_readyAt 8 = .ok (.iload_n 1, 1) := dk_27 (dk_at dksX4_readyAt_0 8 rfl rfl)
theorem dX4_readyAt_9 : decode cX4_readyAt 9 = .ok (.invokevirtual 133, 3) := dk_182 0 133 (dk_at dksX4_readyAt_0 9 rfl rfl)
theorem dX4_readyAt_12 : decode cX4_readyAt 12 = .ok (.istore_n 2, 1) := dk_61 (dk_at dksX4_readyAt_0 12 rfl rfl)
theorem dX4_readyAt_13 : decode cX4_readyAt 13 = .ok (.iload_n 2, 1) := dk_28 (dk_at dksX4_readyAt_0 13 rfl rfl)
theorem dX4_readyAt_14 : decode cX4_readyAt 14 = .ok (.iconst (-1), 1) := dk_2 (dk_at dksX4_readyAt_0 14 rfl rfl)
theorem dX4_readyAt_15 : decode cX4_readyAt 15 = .ok (.if_icmp .ne 8, 3) := dk_160 0 8 (dk_at dksX4_readyAt_0 15 rfl rfl)
theorem dX4_readyAt_18 : decode cX4_readyAt 18 = .ok (.ldc 136, 2) := dk_18 136 (dk_at dksX4_readyAt_0 18 rfl rfl)
theorem dX4_readyAt_20 : decode cX4_readyAt 20 = .ok (.goto 4, 3) := dk_167 0 4 (dk_at dksX4_readyAt_0 20 rfl rfl)
theorem dX4_readyAt_23 : decode cX4_readyAt 23 = .ok (.iload_n 2, 1) := dk_28 (dk_at dksX4_readyAt_0 23 rfl rfl)
theorem dX4_readyAt_24 : decode cX4_readyAt 24 = .ok (.ireturn, 1) := dk_172 (dk_at dksX4_readyAt_1 0 rfl rfl)
abbrev cX4_ready : ByteArray := prog_20_method_19_code
def yX4_ready : MethodName := ⟨RX4, "ready", "(I)I"⟩
def dkwX4_ready_3 : List UInt8 := [182, 0, 96, 153, 0, 10, 29, 27, 160, 0, 5, 28, 172, 132, 2, 1, 167, 255, 171, 2, 172]
abbrev dktX4_ready_3 : List UInt8 := dkwX4_ready_3 ++ []
def dkwX4_ready_2 : List UInt8 := [21, 4, 28, 182, 0, 99, 153, 0, 7, 4, 167, 0, 4, 3, 96, 62, 132, 4, 1, 167, 255, 208, 42, 28]
abbrev dktX4_ready_2 : List UInt8 := dkwX4_ready_2 ++ dktX4_ready_3
def dkwX4_ready_1 : List UInt8 := [16, 14, 46, 162, 0, 42, 29, 21, 4, 28, 159, 0, 26, 42, 21, 4, 182, 0, 96, 153, 0, 17, 42]
abbrev dktX4_ready_1 : List UInt8 := dkwX4_ready_1 ++ dktX4_ready_2
def dkwX4_ready_0 : List UInt8 := [3, 61, 28, 42, 180, 0, 7, 16, 14, 46, 162, 0, 80, 3, 62, 3, 54, 4, 21, 4, 42, 180, 0, 7]
abbrev dktX4_ready_0 : List UInt8 := dkwX4_ready_0 ++ dktX4_ready_1
theorem dksX4_ready_0 : cX4_ready.data.toList.drop 0 = dktX4_ready_0 := by decide +kernel
theorem dksX4_ready_1 : cX4_ready.data.toList.drop 24 = dktX4_ready_1 := dk_seg dksX4_ready_0 24 rfl rfl
theorem dksX4_ready_2 : cX4_ready.data.toList.drop 47 = dktX4_ready_2 := dk_seg dksX4_ready_1 23 rfl rfl
theorem dksX4_ready_3 : cX4_ready.data.toList.drop 71 = dktX4_ready_3 := dk_seg dksX4_ready_2 24 rfl rfl
theorem dX4_ready_0 : decode cX4_ready 0 = .ok (.iconst 0, 1) := dk_3 (dk_at dksX4_ready_0 0 rfl rfl)
theorem dX4_ready_1 : decode cX4_ready 1 = .ok (.istore_n 2, 1) := dk_61 (dk_at dksX4_ready_0 1 rfl rfl)
theorem dX4_ready_2 : decode cX4_ready 2 = .ok (.iload_n 2, 1) := dk_28 (dk_at dksX4_ready_0 2 rfl rfl)
theorem dX4_ready_3 : decode cX4_ready 3 = .ok (.aload_n 0, 1) := dk_42 (dk_at dksX4_ready_0 3 rfl rfl)
theorem dX4_ready_4 : decode cX4_ready 4 = .ok (.getfield 7, 3) := dk_180 0 7 (dk_at dksX4_ready_0 4 rfl rfl)
theorem dX4_ready_7 : decode cX4_ready 7 = .ok (.bipush 14, 2) := dk_16 14 (dk_at dksX4_ready_0 7 rfl rfl)
theorem dX4_ready_9 : decode cX4_ready 9 = .ok (.iaload, 1) := dk_46 (dk_at dksX4_ready_0 9 rfl rfl)
theorem dX4_ready_10 : decode cX4_ready 10 = .ok (.if_icmp .ge 80, 3) := dk_162 0 80 (dk_at dksX4_ready_0 10 rfl rfl)
theorem dX4_ready_13 : decode cX4_ready 13 = .ok (.iconst 0, 1) := dk_3 (dk_at dksX4_ready_0 13 rfl rfl)
theorem dX4_ready_14 : decode cX4_ready 14 = .ok (.istore_n 3, 1) := dk_62 (dk_at dksX4_ready_0 14 rfl rfl)
theorem dX4_ready_15 : decode cX4_ready 15 = .ok (.iconst 0, 1) := dk_3 (dk_at dksX4_ready_0 15 rfl rfl)
theorem dX4_ready_16 : decode cX4_ready 16 = .ok (.istore 4, 2) := dk_54 4 (dk_at dksX4_ready_0 16 rfl rfl)
theorem dX4_ready_18 : decode cX4_ready 18 = .ok (.iload 4, 2) := dk_21 4 (dk_at dksX4_ready_0 18 rfl rfl)
theorem dX4_ready_20 : decode cX4_ready 20 = .ok (.aload_n 0, 1) := dk_42 (dk_at dksX4_ready_0 20 rfl rfl)
theorem dX4_ready_21 : decode cX4_ready 21 = .ok (.getfield 7, 3) := dk_180 0 7 (dk_at dksX4_ready_0 21 rfl rfl)
theorem dX4_ready_24 : decode cX4_ready 24 = .ok (.bipush 14, 2) := dk_16 14 (dk_at dksX4_ready_1 0 rfl rfl)
theorem dX4_ready_26 : decode cX4_ready 26 = .ok (.iaload, 1) := dk_46 (dk_at dksX4_ready_1 2 rfl rfl)
theorem dX4_ready_27 : decode cX4_ready 27 = .ok (.if_icmp .ge 42, 3) := dk_162 0 42 (dk_at dksX4_ready_1 3 rfl rfl)
theorem dX4_ready_30 : decode cX4_ready 30 = .ok (.iload_n 3, 1) := dk_29 (dk_at dksX4_ready_1 6 rfl rfl)
theorem dX4_ready_31 : decode cX4_ready 31 = .ok (.iload 4, 2) := dk_21 4 (dk_at dksX4_ready_1 7 rfl rfl)
theorem dX4_ready_33 : decode cX4_ready 33 = .ok (.iload_n 2, 1) := dk_28 (dk_at dksX4_ready_1 9 rfl rfl)
theorem dX4_ready_34 : decode cX4_ready 34 = .ok (.if_icmp .eq 26, 3) := dk_159 0 26 (dk_at dksX4_ready_1 10 rfl rfl)
theorem dX4_ready_37 : decode cX4_ready 37 = .ok (.aload_n 0, 1) := dk_42 (dk_at dksX4_ready_1 13 rfl rfl)
theorem dX4_ready_38 : decode cX4_ready 38 = .ok (.iload 4, 2) := dk_21 4 (dk_at dksX4_ready_1 14 rfl rfl)
theorem dX4_ready_40 : decode cX4_ready 40 = .ok (.invokevirtual 96, 3) := dk_182 0 96 (dk_at dksX4_ready_1 16 rfl rfl)
theorem dX4_ready_43 : decode cX4_ready 43 = .ok (.ifCond .eq 17, 3) := dk_153 0 17 (dk_at dksX4_ready_1 19 rfl rfl)
theorem dX4_ready_46 : decode cX4_ready 46 = .ok (.aload_n 0, 1) := dk_42 (dk_at dksX4_ready_1 22 rfl rfl)
theorem dX4_ready_47 : decode cX4_ready 47 = .ok (.iload 4, 2) := dk_21 4 (dk_at dksX4_ready_2 0 rfl rfl)
theorem dX4_ready_49 : decode cX4_ready 49 = .ok (.iload_n 2, 1) := dk_28 (dk_at dksX4_ready_2 2 rfl rfl)
theorem dX4_ready_50 : decode cX4_ready 50 = .ok (.invokevirtual 99, 3) := dk_182 0 99 (dk_at dksX4_ready_2 3 rfl rfl)
theorem dX4_ready_53 : decode cX4_ready 53 = .ok (.ifCond .eq 7, 3) := dk_153 0 7 (dk_at dksX4_ready_2 6 rfl rfl)
theorem dX4_ready_56 : decode cX4_ready 56 = .ok (.iconst 1, 1) := dk_4 (dk_at dksX4_ready_2 9 rfl rfl)
theorem dX4_ready_57 : decode cX4_ready 57 = .ok (.goto 4, 3) := dk_167 0 4 (dk_at dksX4_ready_2 10 rfl rfl)
theorem dX4_ready_60 : decode cX4_ready 60 = .ok (.iconst 0, 1) := dk_3 (dk_at dksX4_ready_2 13 rfl rfl)
theorem dX4_ready_61 : decode cX4_ready 61 = .ok (.iadd, 1) := dk_96 (dk_at dksX4_ready_2 14 rfl rfl)
theorem dX4_ready_62 : decode cX4_ready 62 = .ok (.istore_n 3, 1) := dk_62 (dk_at dksX4_ready_2 15 rfl rfl)
theorem dX4_ready_63 : decode cX4_ready 63 = .ok (.iinc 4 1, 3) := dk_132 4 1 (dk_at dksX4_ready_2 16 rfl rfl)
theorem dX4_ready_66 : decode cX4_ready 66 = .ok (.goto (-48), 3) := dk_167 255 208 (dk_at dksX4_ready_2 19 rfl rfl)
theorem dX4_ready_69 : decode cX4_ready 69 = .ok (.aload_n 0, 1) := dk_42 (dk_at dksX4_ready_2 22 rfl rfl)
theorem dX4_ready_70 : decode cX4_ready 70 = .ok (.iload_n 2, 1) := dk_28 (dk_at dksX4_ready_2 23 rfl rfl)
theorem dX4_ready_71 : decode cX4_ready 71 = .ok (.invokevirtual 96, 3) := dk_182 0 96 (dk_at dksX4_ready_3 0 rfl rfl)
theorem dX4_ready_74 : decode cX4_ready 74 = .ok (.ifCond .eq 10, 3) := dk_153 0 10 (dk_at dksX4_ready_3 3 rfl rfl)
theorem dX4_ready_77 : decode cX4_ready 77 = .ok (.iload_n 3, 1) := dk_29 (dk_at dksX4_ready_3 6 rfl rfl)
theorem dX4_ready_78 : decode cX4_ready 78 = .ok (.iload_n 1, 1) := dk_27 (dk_at dksX4_ready_3 7 rfl rfl)
theorem dX4_ready_79 : decode cX4_ready 79 = .ok (.if_icmp .ne 5, 3) := dk_160 0 5 (dk_at dksX4_ready_3 8 rfl rfl)
theorem dX4_ready_82 : decode cX4_ready 82 = .ok (.iload_n 2, 1) := dk_28 (dk_at dksX4_ready_3 11 rfl rfl)
theorem dX4_ready_83 : decode cX4_ready 83 = .ok (.ireturn, 1) := dk_172 (dk_at dksX4_ready_3 12 rfl rfl)
theorem dX4_ready_84 : decode cX4_ready 84 = .ok (.iinc 2 1, 3) := dk_132 2 1 (dk_at dksX4_ready_3 13 rfl rfl)
theorem dX4_ready_87 : decode cX4_ready 87 = .ok (.goto (-85), 3) := dk_167 255 171 (dk_at dksX4_ready_3 16 rfl rfl)
theorem dX4_ready_90 : decode cX4_ready 90 = .ok (.iconst (-1), 1) := dk_2 (dk_at dksX4_ready_3 19 rfl rfl)
theorem dX4_ready_91 : decode cX4_ready 91 = .ok (.ireturn, 1) := dk_172 (dk_at dksX4_ready_3 20 rfl rfl)
abbrev cX4_isReady : ByteArray := prog_20_method_15_code
def yX4_isReady : MethodName := ⟨RX4, "isReady", "(I)Z"⟩
def dkwX4_isReady_0 : List UInt8 := [42, 27, 6, 182, 0, 78, 4, 160, 0, 15, 42, 27, 182, 0, 82, 154, 0, 7, 4, 167, 0, 4, 3, 172]
abbrev dktX4_isReady_0 : List UInt8 := dkwX4_isReady_0 ++ []
theorem dksX4_isReady_0 : cX4_isReady.data.toList.drop 0 = dktX4_isReady_0 := by decide +kernel
theorem dX4_isReady_0 : decode cX4_isReady 0 = .ok (.aload_n 0, 1) := dk_42 (dk_at dksX4_isReady_0 0 rfl rfl)
theorem dX4_isReady_1 : decode cX4_isReady 1 = .ok (.iload_n 1, 1) := dk_27 (dk_at dksX4_isReady_0 1 rfl rfl)
theorem dX4_isReady_2 : decode cX4_isReady 2 = .ok (.iconst 3, 1) := dk_6 (dk_at dksX4_isReady_0 2 rfl rfl)
theorem dX4_isReady_3 : decode cX4_isReady 3 = .ok (.invokevirtual 78, 3) := dk_182 0 78 (dk_at dksX4_isReady_0 3 rfl rfl)
theorem dX4_isReady_6 : decode cX4_isReady 6 = .ok (.iconst 1, 1) := dk_4 (dk_at dksX4_isReady_0 6 rfl rfl)
theorem dX4_isReady_7 : decode cX4_isReady 7 = .ok (.if_icmp .ne 15, 3) := dk_160 0 15 (dk_at dksX4_isReady_0 7 rfl rfl)
theorem dX4_isReady_10 : decode cX4_isReady 10 = .ok (.aload_n 0, 1) := dk_42 (dk_at dksX4_isReady_0 10 rfl rfl)
theorem dX4_isReady_11 : decode cX4_isReady 11 = .ok (.iload_n 1, 1) := dk_27 (dk_at dksX4_isReady_0 11 rfl rfl)
theorem dX4_isReady_12 : decode cX4_isReady 12 = .ok (.invokevirtual 82, 3) := dk_182 0 82 (dk_at dksX4_isReady_0 12 rfl rfl)
theorem dX4_isReady_15 : decode cX4_isReady 15 = .ok (.ifCond .ne 7, 3) := dk_154 0 7 (dk_at dksX4_isReady_0 15 rfl rfl)
theorem dX4_isReady_18 : decode cX4_isReady 18 = .ok (.iconst 1, 1) := dk_4 (dk_at dksX4_isReady_0 18 rfl rfl)
theorem dX4_isReady_19 : decode cX4_isReady 19 = .ok (.goto 4, 3) := dk_167 0 4 (dk_at dksX4_isReady_0 19 rfl rfl)
theorem dX4_isReady_22 : decode cX4_isReady 22 = .ok (.iconst 0, 1) := dk_3 (dk_at dksX4_isReady_0 22 rfl rfl)
theorem dX4_isReady_23 : decode cX4_isReady 23 = .ok (.ireturn, 1) := dk_172 (dk_at dksX4_isReady_0 23 rfl rfl)
abbrev cX4_isAhead : ByteArray := prog_20_method_18_code
def yX4_isAhead : MethodName := ⟨RX4, "isAhead", "(II)Z"⟩
def dkwX4_isAhead_4 : List UInt8 := [162, 0, 7, 4, 167, 0, 4, 3, 172]
abbrev dktX4_isAhead_4 : List UInt8 := dkwX4_isAhead_4 ++ []
def dkwX4_isAhead_3 : List UInt8 := [182, 0, 78, 161, 0, 23, 42, 27, 8, 182, 0, 78, 42, 28, 8, 182, 0, 78, 160, 0, 12, 27, 28]
abbrev dktX4_isAhead_3 : List UInt8 := dkwX4_isAhead_3 ++ dktX4_isAhead_4
def dkwX4_isAhead_2 : List UInt8 := [4, 167, 0, 4, 3, 160, 0, 7, 4, 167, 0, 4, 3, 172, 42, 27, 8, 182, 0, 78, 42, 28, 8]
abbrev dktX4_isAhead_2 : List UInt8 := dkwX4_isAhead_2 ++ dktX4_isAhead_3
def dkwX4_isAhead_1 : List UInt8 := [160, 0, 7, 4, 167, 0, 4, 3, 54, 4, 29, 21, 4, 159, 0, 25, 29, 42, 182, 0, 92, 154, 0, 7]
abbrev dktX4_isAhead_1 : List UInt8 := dkwX4_isAhead_1 ++ dktX4_isAhead_2
def dkwX4_isAhead_0 : List UInt8 := [42, 27, 3, 182, 0, 78, 5, 160, 0, 7, 4, 167, 0, 4, 3, 62, 42, 28, 3, 182, 0, 78, 5]
abbrev dktX4_isAhead_0 : List UInt8 := dkwX4_isAhead_0 ++ dktX4_isAhead_1
theorem dksX4_isAhead_0 : cX4_isAhead.data.toList.drop 0 = dktX4_isAhead_0 := by decide +kernel
theorem dksX4_isAhead_1 : cX4_isAhead.data.toList.drop 23 = dktX4_isAhead_1 := dk_seg dksX4_isAhead_0 23 rfl rfl
theorem dksX4_isAhead_2 : cX4_isAhead.data.toList.drop 47 = dktX4_isAhead_2 := dk_seg dksX4_isAhead_1 24 rfl rfl
theorem dksX4_isAhead_3 : cX4_isAhead.data.toList.drop 70 = dktX4_isAhead_3 := dk_seg dksX4_isAhead_2 23 rfl rfl
theorem dksX4_isAhead_4 : cX4_isAhead.data.toList.drop 93 = dktX4_isAhead_4 := dk_seg dksX4_isAhead_3 23 rfl rfl
theorem dX4_isAhead_0 : decode cX4_isAhead 0 = .ok (.aload_n 0, 1) := dk_42 (dk_at dksX4_isAhead_0 0 rfl rfl)
theorem dX4_isAhead_1 : decode cX4_isAhead 1 = .ok (.iload_n 1, 1) := dk_27 (dk_at dksX4_isAhead_0 1 rfl rfl)
theorem dX4_isAhead_2 : decode cX4_isAhead 2 = .ok (.iconst 0, 1) := dk_3 (dk_at dksX4_isAhead_0 2 rfl rfl)
theorem dX4_isAhead_3 : decode cX4_isAhead 3 = .ok (.invokevirtual 78, 3) := dk_182 0 78 (dk_at dksX4_isAhead_0 3 rfl rfl)
theorem dX4_isAhead_6 : decode cX4_isAhead 6 = .ok (.iconst 2, 1) := dk_5 (dk_at dksX4_isAhead_0 6 rfl rfl)
theorem dX4_isAhead_7 : decode cX4_isAhead 7 = .ok (.if_icmp .ne 7, 3) := dk_160 0 7 (dk_at dksX4_isAhead_0 7 rfl rfl)
theorem dX4_isAhead_10 : decode cX4_isAhead 10 = .ok (.iconst 1, 1) := dk_4 (dk_at dksX4_isAhead_0 10 rfl rfl)
theorem dX4_isAhead_11 : decode cX4_isAhead 11 = .ok (.goto 4, 3) := dk_167 0 4 (dk_at dksX4_isAhead_0 11 rfl rfl)
theorem dX4_isAhead_14 : decode cX4_isAhead 14 = .ok (.iconst 0, 1) := dk_3 (dk_at dksX4_isAhead_0 14 rfl rfl)
theorem dX4_isAhead_15 : decode cX4_isAhead 15 = .ok (.istore_n 3, 1) := dk_62 (dk_at dksX4_isAhead_0 15 rfl rfl)
theorem dX4_isAhead_16 : decode cX4_isAhead 16 = .ok (.aload_n 0, 1) := dk_42 (dk_at dksX4_isAhead_0 16 rfl rfl)
theorem dX4_isAhead_17 : decode cX4_isAhead 17 = .ok (.iload_n 2, 1) := dk_28 (dk_at dksX4_isAhead_0 17 rfl rfl)
theorem dX4_isAhead_18 : decode cX4_isAhead 18 = .ok (.iconst 0, 1) := dk_3 (dk_at dksX4_isAhead_0 18 rfl rfl)
theorem dX4_isAhead_19 : decode cX4_isAhead 19 = .ok (.invokevirtual 78, 3) := dk_182 0 78 (dk_at dksX4_isAhead_0 19 rfl rfl)
theorem dX4_isAhead_22 : decode cX4_isAhead 22 = .ok (.iconst 2, 1) := dk_5 (dk_at dksX4_isAhead_0 22 rfl rfl)
theorem dX4_isAhead_23 : decode cX4_isAhead 23 = .ok (.if_icmp .ne 7, 3) := dk_160 0 7 (dk_at dksX4_isAhead_1 0 rfl rfl)
theorem dX4_isAhead_26 : decode cX4_isAhead 26 = .ok (.iconst 1, 1) := dk_4 (dk_at dksX4_isAhead_1 3 rfl rfl)
theorem dX4_isAhead_27 : decode cX4_isAhead 27 = .ok (.goto 4, 3) := dk_167 0 4 (dk_at dksX4_isAhead_1 4 rfl rfl)
theorem dX4_isAhead_30 : decode cX4_isAhead 30 = .ok (.iconst 0, 1) := dk_3 (dk_at dksX4_isAhead_1 7 rfl rfl)
theorem dX4_isAhead_31 : decode cX4_isAhead 31 = .ok (.istore 4, 2) := dk_54 4 (dk_at dksX4_isAhead_1 8 rfl rfl)
theorem dX4_isAhead_33 : decode cX4_isAhead 33 = .ok (.iload_n 3, 1) := dk_29 (dk_at dksX4_isAhead_1 10 rfl rfl)
theorem dX4_isAhead_34 : decode cX4_isAhead 34 = .ok (.iload 4, 2) := dk_21 4 (dk_at dksX4_isAhead_1 11 rfl rfl)
theorem dX4_isAhead_36 : decode cX4_isAhead 36 = .ok (.if_icmp .eq 25, 3) := dk_159 0 25 (dk_at dksX4_isAhead_1 13 rfl rfl)
theorem dX4_isAhead_39 : decode cX4_isAhead 39 = .ok (.iload_n 3, 1) := dk_29 (dk_at dksX4_isAhead_1 16 rfl rfl)
theorem dX4_isAhead_40 : decode cX4_isAhead 40 = .ok (.aload_n 0, 1) := dk_42 (dk_at dksX4_isAhead_1 17 rfl rfl)
theorem dX4_isAhead_41 : decode cX4_isAhead 41 = .ok (.invokevirtual 92, 3) := dk_182 0 92 (dk_at dksX4_isAhead_1 18 rfl rfl)
theorem dX4_isAhead_44 : decode cX4_isAhead 44 = .ok (.ifCond .ne 7, 3) := dk_154 0 7 (dk_at dksX4_isAhead_1 21 rfl rfl)
theorem dX4_isAhead_47 : decode cX4_isAhead 47 = .ok (.iconst 1, 1) := dk_4 (dk_at dksX4_isAhead_2 0 rfl rfl)
theorem dX4_isAhead_48 : decode cX4_isAhead 48 = .ok (.goto 4, 3) := dk_167 0 4 (dk_at dksX4_isAhead_2 1 rfl rfl)
theorem dX4_isAhead_51 : decode cX4_isAhead 51 = .ok (.iconst 0, 1) := dk_3 (dk_at dksX4_isAhead_2 4 rfl rfl)
theorem dX4_isAhead_52 : decode cX4_isAhead 52 = .ok (.if_icmp .ne 7, 3) := dk_160 0 7 (dk_at dksX4_isAhead_2 5 rfl rfl)
theorem dX4_isAhead_55 : decode cX4_isAhead 55 = .ok (.iconst 1, 1) := dk_4 (dk_at dksX4_isAhead_2 8 rfl rfl)
theorem dX4_isAhead_56 : decode cX4_isAhead 56 = .ok (.goto 4, 3) := dk_167 0 4 (dk_at dksX4_isAhead_2 9 rfl rfl)
theorem dX4_isAhead_59 : decode cX4_isAhead 59 = .ok (.iconst 0, 1) := dk_3 (dk_at dksX4_isAhead_2 12 rfl rfl)
theorem dX4_isAhead_60 : decode cX4_isAhead 60 = .ok (.ireturn, 1) := dk_172 (dk_at dksX4_isAhead_2 13 rfl rfl)
theorem dX4_isAhead_61 : decode cX4_isAhead 61 = .ok (.aload_n 0, 1) := dk_42 (dk_at dksX4_isAhead_2 14 rfl rfl)
theorem dX4_isAhead_62 : decode cX4_isAhead 62 = .ok (.iload_n 1, 1) := dk_27 (dk_at dksX4_isAhead_2 15 rfl rfl)
theorem dX4_isAhead_63 : decode cX4_isAhead 63 = .ok (.iconst 5, 1) := dk_8 (dk_at dksX4_isAhead_2 16 rfl rfl)
theorem dX4_isAhead_64 : decode cX4_isAhead 64 = .ok (.invokevirtual 78, 3) := dk_182 0 78 (dk_at dksX4_isAhead_2 17 rfl rfl)
theorem dX4_isAhead_67 : decode cX4_isAhead 67 = .ok (.aload_n 0, 1) := dk_42 (dk_at dksX4_isAhead_2 20 rfl rfl)
theorem dX4_isAhead_68 : decode cX4_isAhead 68 = .ok (.iload_n 2, 1) := dk_28 (dk_at dksX4_isAhead_2 21 rfl rfl)
theorem dX4_isAhead_69 : decode cX4_isAhead 69 = .ok (.iconst 5, 1) := dk_8 (dk_at dksX4_isAhead_2 22 rfl rfl)
theorem dX4_isAhead_70 : decode cX4_isAhead 70 = .ok (.invokevirtual 78, 3) := dk_182 0 78 (dk_at dksX4_isAhead_3 0 rfl rfl)
theorem dX4_isAhead_73 : decode cX4_isAhead 73 = .ok (.if_icmp .lt 23, 3) := dk_161 0 23 (dk_at dksX4_isAhead_3 3 rfl rfl)
theorem dX4_isAhead_76 : decode cX4_isAhead 76 = .ok (.aload_n 0, 1) := dk_42 (dk_at dksX4_isAhead_3 6 rfl rfl)
theorem dX4_isAhead_77 : decode cX4_isAhead 77 = .ok (.iload_n 1, 1) := dk_27 (dk_at dksX4_isAhead_3 7 rfl rfl)
theorem dX4_isAhead_78 : decode cX4_isAhead 78 = .ok (.iconst 5, 1) := dk_8 (dk_at dksX4_isAhead_3 8 rfl rfl)
theorem dX4_isAhead_79 : decode cX4_isAhead 79 = .ok (.invokevirtual 78, 3) := dk_182 0 78 (dk_at dksX4_isAhead_3 9 rfl rfl)
theorem dX4_isAhead_82 : decode cX4_isAhead 82 = .ok (.aload_n 0, 1) := dk_42 (dk_at dksX4_isAhead_3 12 rfl rfl)
theorem dX4_isAhead_83 : decode cX4_isAhead 83 = .ok (.iload_n 2, 1) := dk_28 (dk_at dksX4_isAhead_3 13 rfl rfl)
theorem dX4_isAhead_84 : decode cX4_isAhead 84 = .ok (.iconst 5, 1) := dk_8 (dk_at dksX4_isAhead_3 14 rfl rfl)
theorem dX4_isAhead_85 : decode cX4_isAhead 85 = .ok (.invokevirtual 78, 3) := dk_182 0 78 (dk_at dksX4_isAhead_3 15 rfl rfl)
theorem dX4_isAhead_88 : decode cX4_isAhead 88 = .ok (.if_icmp .ne 12, 3) := dk_160 0 12 (dk_at dksX4_isAhead_3 18 rfl rfl)
theorem dX4_isAhead_91 : decode cX4_isAhead 91 = .ok (.iload_n 1, 1) := dk_27 (dk_at dksX4_isAhead_3 21 rfl rfl)
theorem dX4_isAhead_92 : decode cX4_isAhead 92 = .ok (.iload_n 2, 1) := dk_28 (dk_at dksX4_isAhead_3 22 rfl rfl)
theorem dX4_isAhead_93 : decode cX4_isAhead 93 = .ok (.if_icmp .ge 7, 3) := dk_162 0 7 (dk_at dksX4_isAhead_4 0 rfl rfl)
theorem dX4_isAhead_96 : decode cX4_isAhead 96 = .ok (.iconst 1, 1) := dk_4 (dk_at dksX4_isAhead_4 3 rfl rfl)
theorem dX4_isAhead_97 : decode cX4_isAhead 97 = .ok (.goto 4, 3) := dk_167 0 4 (dk_at dksX4_isAhead_4 4 rfl rfl)
theorem dX4_isAhead_100 : decode cX4_isAhead 100 = .ok (.iconst 0, 1) := dk_3 (dk_at dksX4_isAhead_4 7 rfl rfl)
theorem dX4_isAhead_101 : decode cX4_isAhead 101 = .ok (.ireturn, 1) := dk_172 (dk_at dksX4_isAhead_4 8 rfl rfl)
abbrev cX4_running : ByteArray := prog_20_method_14_code
def yX4_running : MethodName := ⟨RX4, "running", "()I"⟩
def dkwX4_running_1 : List UInt8 := [4, 167, 0, 4, 3, 96, 60, 132, 2, 1, 167, 255, 226, 27, 172]
abbrev dktX4_running_1 : List UInt8 := dkwX4_running_1 ++ []
def dkwX4_running_0 : List UInt8 := [3, 60, 3, 61, 28, 42, 180, 0, 7, 16, 14, 46, 162, 0, 25, 27, 42, 28, 182, 0, 82, 153, 0, 7]
abbrev dktX4_running_0 : List UInt8 := dkwX4_running_0 ++ dktX4_running_1
theorem dksX4_running_0 : cX4_running.data.toList.drop 0 = dktX4_running_0 := by decide +kernel
theorem dksX4_running_1 : cX4_running.data.toList.drop 24 = dktX4_running_1 := dk_seg dksX4_running_0 24 rfl rfl
theorem dX4_running_0 : decode cX4_running 0 = .ok (.iconst 0, 1) := dk_3 (dk_at dksX4_running_0 0 rfl rfl)
theorem dX4_running_1 : decode cX4_running 1 = .ok (.istore_n 1, 1) := dk_60 (dk_at dksX4_running_0 1 rfl rfl)
theorem dX4_running_2 : decode cX4_running 2 = .ok (.iconst 0, 1) := dk_3 (dk_at dksX4_running_0 2 rfl rfl)
theorem dX4_running_3 : decode cX4_running 3 = .ok (.istore_n 2, 1) := dk_61 (dk_at dksX4_running_0 3 rfl rfl)
theorem dX4_running_4 : decode cX4_running 4 = .ok (.iload_n 2, 1) := dk_28 (dk_at dksX4_running_0 4 rfl rfl)
theorem dX4_running_5 : decode cX4_running 5 = .ok (.aload_n 0, 1) := dk_42 (dk_at dksX4_running_0 5 rfl rfl)
theorem dX4_running_6 : decode cX4_running 6 = .ok (.getfield 7, 3) := dk_180 0 7 (dk_at dksX4_running_0 6 rfl rfl)
theorem dX4_running_9 : decode cX4_running 9 = .ok (.bipush 14, 2) := dk_16 14 (dk_at dksX4_running_0 9 rfl rfl)
theorem dX4_running_11 : decode cX4_running 11 = .ok (.iaload, 1) := dk_46 (dk_at dksX4_running_0 11 rfl rfl)
theorem dX4_running_12 : decode cX4_running 12 = .ok (.if_icmp .ge 25, 3) := dk_162 0 25 (dk_at dksX4_running_0 12 rfl rfl)
theorem dX4_running_15 : decode cX4_running 15 = .ok (.iload_n 1, 1) := dk_27 (dk_at dksX4_running_0 15 rfl rfl)
theorem dX4_running_16 : decode cX4_running 16 = .ok (.aload_n 0, 1) := dk_42 (dk_at dksX4_running_0 16 rfl rfl)
theorem dX4_running_17 : decode cX4_running 17 = .ok (.iload_n 2, 1) := dk_28 (dk_at dksX4_running_0 17 rfl rfl)
theorem dX4_running_18 : decode cX4_running 18 = .ok (.invokevirtual 82, 3) := dk_182 0 82 (dk_at dksX4_running_0 18 rfl rfl)
theorem dX4_running_21 : decode cX4_running 21 = .ok (.ifCond .eq 7, 3) := dk_153 0 7 (dk_at dksX4_running_0 21 rfl rfl)
theorem dX4_running_24 : decode cX4_running 24 = .ok (.iconst 1, 1) := dk_4 (dk_at dksX4_running_1 0 rfl rfl)
theorem dX4_running_25 : decode cX4_running 25 = .ok (.goto 4, 3) := dk_167 0 4 (dk_at dksX4_running_1 1 rfl rfl)
theorem dX4_running_28 : decode cX4_running 28 = .ok (.iconst 0, 1) := dk_3 (dk_at dksX4_running_1 4 rfl rfl)
theorem dX4_running_29 : decode cX4_running 29 = .ok (.iadd, 1) := dk_96 (dk_at dksX4_running_1 5 rfl rfl)
theorem dX4_running_30 : decode cX4_running 30 = .ok (.istore_n 1, 1) := dk_60 (dk_at dksX4_running_1 6 rfl rfl)
theorem dX4_running_31 : decode cX4_running 31 = .ok (.iinc 2 1, 3) := dk_132 2 1 (dk_at dksX4_running_1 7 rfl rfl)
theorem dX4_running_34 : decode cX4_running 34 = .ok (.goto (-30), 3) := dk_167 255 226 (dk_at dksX4_running_1 10 rfl rfl)
theorem dX4_running_37 : decode cX4_running 37 = .ok (.iload_n 1, 1) := dk_27 (dk_at dksX4_running_1 13 rfl rfl)
theorem dX4_running_38 : decode cX4_running 38 = .ok (.ireturn, 1) := dk_172 (dk_at dksX4_running_1 14 rfl rfl)
abbrev cX4_balance : ByteArray := prog_20_method_30_code
def yX4_balance : MethodName := ⟨RX4, "balance", "()I"⟩
def dkwX4_balance_3 : List UInt8 := [42, 29, 8, 182, 0, 78, 167, 0, 4, 28, 61, 132, 3, 1, 167, 255, 200, 27, 28, 100, 172]
abbrev dktX4_balance_3 : List UInt8 := dkwX4_balance_3 ++ []
def dkwX4_balance_2 : List UInt8 := [164, 0, 12, 42, 29, 8, 182, 0, 78, 167, 0, 4, 27, 60, 42, 29, 8, 182, 0, 78, 28, 162, 0, 12]
abbrev dktX4_balance_2 : List UInt8 := dkwX4_balance_2 ++ dktX4_balance_3
def dkwX4_balance_1 : List UInt8 := [182, 0, 78, 61, 4, 62, 29, 42, 180, 0, 7, 16, 14, 46, 162, 0, 51, 42, 29, 8, 182, 0, 78, 27]
abbrev dktX4_balance_1 : List UInt8 := dkwX4_balance_1 ++ dktX4_balance_2
def dkwX4_balance_0 : List UInt8 := [42, 180, 0, 7, 16, 14, 46, 154, 0, 6, 18, 136, 172, 42, 3, 8, 182, 0, 78, 60, 42, 3, 8]
abbrev dktX4_balance_0 : List UInt8 := dkwX4_balance_0 ++ dktX4_balance_1
theorem dksX4_balance_0 : cX4_balance.data.toList.drop 0 = dktX4_balance_0 := by decide +kernel
theorem dksX4_balance_1 : cX4_balance.data.toList.drop 23 = dktX4_balance_1 := dk_seg dksX4_balance_0 23 rfl rfl
theorem dksX4_balance_2 : cX4_balance.data.toList.drop 47 = dktX4_balance_2 := dk_seg dksX4_balance_1 24 rfl rfl
theorem dksX4_balance_3 : cX4_balance.data.toList.drop 71 = dktX4_balance_3 := dk_seg dksX4_balance_2 24 rfl rfl
theorem dX4_balance_0 : decode cX4_balance 0 = .ok (.aload_n 0, 1) := dk_42 (dk_at dksX4_balance_0 0 rfl rfl)
theorem dX4_balance_1 : decode cX4_balance 1 = .ok (.getfield 7, 3) := dk_180 0 7 (dk_at dksX4_balance_0 1 rfl rfl)
theorem dX4_balance_4 : decode cX4_balance 4 = .ok (.bipush 14, 2) := dk_16 14 (dk_at dksX4_balance_0 4 rfl rfl)
theorem dX4_balance_6 : decode cX4_balance 6 = .ok (.iaload, 1) := dk_46 (dk_at dksX4_balance_0 6 rfl rfl)
theorem dX4_balance_7 : decode cX4_balance 7 = .ok (.ifCond .ne 6, 3) := dk_154 0 6 (dk_at dksX4_balance_0 7 rfl rfl)
theorem dX4_balance_10 : decode cX4_balance 10 = .ok (.ldc 136, 2) := dk_18 136 (dk_at dksX4_balance_0 10 rfl rfl)
theorem dX4_balance_12 : decode cX4_balance 12 = .ok (.ireturn, 1) := dk_172 (dk_at dksX4_balance_0 12 rfl rfl)
theorem dX4_balance_13 : decode cX4_balance 13 = .ok (.aload_n 0, 1) := dk_42 (dk_at dksX4_balance_0 13 rfl rfl)
theorem dX4_balance_14 : decode cX4_balance 14 = .ok (.iconst 0, 1) := dk_3 (dk_at dksX4_balance_0 14 rfl rfl)
theorem dX4_balance_15 : decode cX4_balance 15 = .ok (.iconst 5, 1) := dk_8 (dk_at dksX4_balance_0 15 rfl rfl)
theorem dX4_balance_16 : decode cX4_balance 16 = .ok (.invokevirtual 78, 3) := dk_182 0 78 (dk_at dksX4_balance_0 16 rfl rfl)
theorem dX4_balance_19 : decode cX4_balance 19 = .ok (.istore_n 1, 1) := dk_60 (dk_at dksX4_balance_0 19 rfl rfl)
theorem dX4_balance_20 : decode cX4_balance 20 = .ok (.aload_n 0, 1) := dk_42 (dk_at dksX4_balance_0 20 rfl rfl)
theorem dX4_balance_21 : decode cX4_balance 21 = .ok (.iconst 0, 1) := dk_3 (dk_at dksX4_balance_0 21 rfl rfl)
theorem dX4_balance_22 : decode cX4_balance 22 = .ok (.iconst 5, 1) := dk_8 (dk_at dksX4_balance_0 22 rfl rfl)
theorem dX4_balance_23 : decode cX4_balance 23 = .ok (.invokevirtual 78, 3) := dk_182 0 78 (dk_at dksX4_balance_1 0 rfl rfl)
theorem dX4_balance_26 : decode cX4_balance 26 = .ok (.istore_n 2, 1) := dk_61 (dk_at dksX4_balance_1 3 rfl rfl)
theorem dX4_balance_27 : decode cX4_balance 27 = .ok (.iconst 1, 1) := dk_4 (dk_at dksX4_balance_1 4 rfl rfl)
theorem dX4_balance_28 : decode cX4_balance 28 = .ok (.istore_n 3, 1) := dk_62 (dk_at dksX4_balance_1 5 rfl rfl)
theorem dX4_balance_29 : decode cX4_balance 29 = .ok (.iload_n 3, 1) := dk_29 (dk_at dksX4_balance_1 6 rfl rfl)
theorem dX4_balance_30 : decode cX4_balance 30 = .ok (.aload_n 0, 1) := dk_42 (dk_at dksX4_balance_1 7 rfl rfl)
theorem dX4_balance_31 : decode cX4_balance 31 = .ok (.getfield 7, 3) := dk_180 0 7 (dk_at dksX4_balance_1 8 rfl rfl)
theorem dX4_balance_34 : decode cX4_balance 34 = .ok (.bipush 14, 2) := dk_16 14 (dk_at dksX4_balance_1 11 rfl rfl)
theorem dX4_balance_36 : decode cX4_balance 36 = .ok (.iaload, 1) := dk_46 (dk_at dksX4_balance_1 13 rfl rfl)
theorem dX4_balance_37 : decode cX4_balance 37 = .ok (.if_icmp .ge 51, 3) := dk_162 0 51 (dk_at dksX4_balance_1 14 rfl rfl)
theorem dX4_balance_40 : decode cX4_balance 40 = .ok (.aload_n 0, 1) := dk_42 (dk_at dksX4_balance_1 17 rfl rfl)
theorem dX4_balance_41 : decode cX4_balance 41 = .ok (.iload_n 3, 1) := dk_29 (dk_at dksX4_balance_1 18 rfl rfl)
theorem dX4_balance_42 : decode cX4_balance 42 = .ok (.iconst 5, 1) := dk_8 (dk_at dksX4_balance_1 19 rfl rfl)
theorem dX4_balance_43 : decode cX4_balance 43 = .ok (.invokevirtual 78, 3) := dk_182 0 78 (dk_at dksX4_balance_1 20 rfl rfl)
theorem dX4_balance_46 : decode cX4_balance 46 = .ok (.iload_n 1, 1) := dk_27 (dk_at dksX4_balance_1 23 rfl rfl)
theorem dX4_balance_47 : decode cX4_balance 47 = .ok (.if_icmp .le 12, 3) := dk_164 0 12 (dk_at dksX4_balance_2 0 rfl rfl)
theorem dX4_balance_50 : decode cX4_balance 50 = .ok (.aload_n 0, 1) := dk_42 (dk_at dksX4_balance_2 3 rfl rfl)
theorem dX4_balance_51 : decode cX4_balance 51 = .ok (.iload_n 3, 1) := dk_29 (dk_at dksX4_balance_2 4 rfl rfl)
theorem dX4_balance_52 : decode cX4_balance 52 = .ok (.iconst 5, 1) := dk_8 (dk_at dksX4_balance_2 5 rfl rfl)
theorem dX4_balance_53 : decode cX4_balance 53 = .ok (.invokevirtual 78, 3) := dk_182 0 78 (dk_at dksX4_balance_2 6 rfl rfl)
theorem dX4_balance_56 : decode cX4_balance 56 = .ok (.goto 4, 3) := dk_167 0 4 (dk_at dksX4_balance_2 9 rfl rfl)
theorem dX4_balance_59 : decode cX4_balance 59 = .ok (.iload_n 1, 1) := dk_27 (dk_at dksX4_balance_2 12 rfl rfl)
theorem dX4_balance_60 : decode cX4_balance 60 = .ok (.istore_n 1, 1) := dk_60 (dk_at dksX4_balance_2 13 rfl rfl)
theorem dX4_balance_61 : decode cX4_balance 61 = .ok (.aload_n 0, 1) := dk_42 (dk_at dksX4_balance_2 14 rfl rfl)
theorem dX4_balance_62 : decode cX4_balance 62 = .ok (.iload_n 3, 1) := dk_29 (dk_at dksX4_balance_2 15 rfl rfl)
theorem dX4_balance_63 : decode cX4_balance 63 = .ok (.iconst 5, 1) := dk_8 (dk_at dksX4_balance_2 16 rfl rfl)
theorem dX4_balance_64 : decode cX4_balance 64 = .ok (.invokevirtual 78, 3) := dk_182 0 78 (dk_at dksX4_balance_2 17 rfl rfl)
theorem dX4_balance_67 : decode cX4_balance 67 = .ok (.iload_n 2, 1) := dk_28 (dk_at dksX4_balance_2 20 rfl rfl)
theorem dX4_balance_68 : decode cX4_balance 68 = .ok (.if_icmp .ge 12, 3) := dk_162 0 12 (dk_at dksX4_balance_2 21 rfl rfl)
theorem dX4_balance_71 : decode cX4_balance 71 = .ok (.aload_n 0, 1) := dk_42 (dk_at dksX4_balance_3 0 rfl rfl)
theorem dX4_balance_72 : decode cX4_balance 72 = .ok (.iload_n 3, 1) := dk_29 (dk_at dksX4_balance_3 1 rfl rfl)
theorem dX4_balance_73 : decode cX4_balance 73 = .ok (.iconst 5, 1) := dk_8 (dk_at dksX4_balance_3 2 rfl rfl)
theorem dX4_balance_74 : decode cX4_balance 74 = .ok (.invokevirtual 78, 3) := dk_182 0 78 (dk_at dksX4_balance_3 3 rfl rfl)
theorem dX4_balance_77 : decode cX4_balance 77 = .ok (.goto 4, 3) := dk_167 0 4 (dk_at dksX4_balance_3 6 rfl rfl)
theorem dX4_balance_80 : decode cX4_balance 80 = .ok (.iload_n 2, 1) := dk_28 (dk_at dksX4_balance_3 9 rfl rfl)
theorem dX4_balance_81 : decode cX4_balance 81 = .ok (.istore_n 2, 1) := dk_61 (dk_at dksX4_balance_3 10 rfl rfl)
theorem dX4_balance_82 : decode cX4_balance 82 = .ok (.iinc 3 1, 3) := dk_132 3 1 (dk_at dksX4_balance_3 11 rfl rfl)
theorem dX4_balance_85 : decode cX4_balance 85 = .ok (.goto (-56), 3) := dk_167 255 200 (dk_at dksX4_balance_3 14 rfl rfl)
theorem dX4_balance_88 : decode cX4_balance 88 = .ok (.iload_n 1, 1) := dk_27 (dk_at dksX4_balance_3 17 rfl rfl)
theorem dX4_balance_89 : decode cX4_balance 89 = .ok (.iload_n 2, 1) := dk_28 (dk_at dksX4_balance_3 18 rfl rfl)
theorem dX4_balance_90 : decode cX4_balance 90 = .ok (.isub, 1) := dk_100 (dk_at dksX4_balance_3 19 rfl rfl)
theorem dX4_balance_91 : decode cX4_balance 91 = .ok (.ireturn, 1) := dk_172 (dk_at dksX4_balance_3 20 rfl rfl)
abbrev cX4_zone : ByteArray := prog_20_method_33_code
def yX4_zone : MethodName := ⟨RX4, "zone", "(I)I"⟩
def dkwX4_zone_3 : List UInt8 := [16, 15, 92, 46, 4, 96, 79, 28, 172]
abbrev dktX4_zone_3 : List UInt8 := dkwX4_zone_3 ++ []
def dkwX4_zone_2 : List UInt8 := [5, 28, 104, 96, 27, 79, 42, 180, 0, 7, 16, 87, 5, 28, 104, 96, 4, 96, 3, 79, 42, 180, 0, 7]
abbrev dktX4_zone_2 : List UInt8 := dkwX4_zone_2 ++ dktX4_zone_3
def dkwX4_zone_1 : List UInt8 := [160, 0, 6, 18, 73, 172, 42, 182, 0, 63, 42, 180, 0, 7, 16, 15, 46, 61, 42, 180, 0, 7, 16, 87]
abbrev dktX4_zone_1 : List UInt8 := dkwX4_zone_1 ++ dktX4_zone_2
def dkwX4_zone_0 : List UInt8 := [27, 133, 10, 20, 0, 40, 184, 0, 30, 154, 0, 6, 18, 62, 172, 42, 180, 0, 7, 16, 15, 46, 16, 8]
abbrev dktX4_zone_0 : List UInt8 := dkwX4_zone_0 ++ dktX4_zone_1
theorem dksX4_zone_0 : cX4_zone.data.toList.drop 0 = dktX4_zone_0 := by decide +kernel
theorem dksX4_zone_1 : cX4_zone.data.toList.drop 24 = dktX4_zone_1 := dk_seg dksX4_zone_0 24 rfl rfl
theorem dksX4_zone_2 : cX4_zone.data.toList.drop 48 = dktX4_zone_2 := dk_seg dksX4_zone_1 24 rfl rfl
theorem dksX4_zone_3 : cX4_zone.data.toList.drop 72 = dktX4_zone_3 := dk_seg dksX4_zone_2 24 rfl rfl
theorem dX4_zone_0 : decode cX4_zone 0 = .ok (.iload_n 1, 1) := dk_27 (dk_at dksX4_zone_0 0 rfl rfl)
theorem dX4_zone_1 : decode cX4_zone 1 = .ok (.i2l, 1) := dk_133 (dk_at dksX4_zone_0 1 rfl rfl)
theorem dX4_zone_2 : decode cX4_zone 2 = .ok (.lconst 1, 1) := dk_10 (dk_at dksX4_zone_0 2 rfl rfl)
theorem dX4_zone_3 : decode cX4_zone 3 = .ok (.ldc2_w 40, 3) := dk_20 0 40 (dk_at dksX4_zone_0 3 rfl rfl)
theorem dX4_zone_6 : decode cX4_zone 6 = .ok (.invokestatic 30, 3) := dk_184 0 30 (dk_at dksX4_zone_0 6 rfl rfl)
theorem dX4_zone_9 : decode cX4_zone 9 = .ok (.ifCond .ne 6, 3) := dk_154 0 6 (dk_at dksX4_zone_0 9 rfl rfl)
theorem dX4_zone_12 : decode cX4_zone 12 = .ok (.ldc 62, 2) := dk_18 62 (dk_at dksX4_zone_0 12 rfl rfl)
theorem dX4_zone_14 : decode cX4_zone 14 = .ok (.ireturn, 1) := dk_172 (dk_at dksX4_zone_0 14 rfl rfl)
theorem dX4_zone_15 : decode cX4_zone 15 = .ok (.aload_n 0, 1) := dk_42 (dk_at dksX4_zone_0 15 rfl rfl)
theorem dX4_zone_16 : decode cX4_zone 16 = .ok (.getfield 7, 3) := dk_180 0 7 (dk_at dksX4_zone_0 16 rfl rfl)
theorem dX4_zone_19 : decode cX4_zone 19 = .ok (.bipush 15, 2) := dk_16 15 (dk_at dksX4_zone_0 19 rfl rfl)
theorem dX4_zone_21 : decode cX4_zone 21 = .ok (.iaload, 1) := dk_46 (dk_at dksX4_zone_0 21 rfl rfl)
theorem dX4_zone_22 : decode cX4_zone 22 = .ok (.bipush 8, 2) := dk_16 8 (dk_at dksX4_zone_0 22 rfl rfl)
theorem dX4_zone_24 : decode cX4_zone 24 = .ok (.if_icmp .ne 6, 3) := dk_160 0 6 (dk_at dksX4_zone_1 0 rfl rfl)
theorem dX4_zone_27 : decode cX4_zone 27 = .ok (.ldc 73, 2) := dk_18 73 (dk_at dksX4_zone_1 3 rfl rfl)
theorem dX4_zone_29 : decode cX4_zone 29 = .ok (.ireturn, 1) := dk_172 (dk_at dksX4_zone_1 5 rfl rfl)
theorem dX4_zone_30 : decode cX4_zone 30 = .ok (.aload_n 0, 1) := dk_42 (dk_at dksX4_zone_1 6 rfl rfl)
theorem dX4_zone_31 : decode cX4_zone 31 = .ok (.invokevirtual 63, 3) := dk_182 0 63 (dk_at dksX4_zone_1 7 rfl rfl)
theorem dX4_zone_34 : decode cX4_zone 34 = .ok (.aload_n 0, 1) := dk_42 (dk_at dksX4_zone_1 10 rfl rfl)
theorem dX4_zone_35 : decode cX4_zone 35 = .ok (.getfield 7, 3) := dk_180 0 7 (dk_at dksX4_zone_1 11 rfl rfl)
theorem dX4_zone_38 : decode cX4_zone 38 = .ok (.bipush 15, 2) := dk_16 15 (dk_at dksX4_zone_1 14 rfl rfl)
theorem dX4_zone_40 : decode cX4_zone 40 = .ok (.iaload, 1) := dk_46 (dk_at dksX4_zone_1 16 rfl rfl)
theorem dX4_zone_41 : decode cX4_zone 41 = .ok (.istore_n 2, 1) := dk_61 (dk_at dksX4_zone_1 17 rfl rfl)
theorem dX4_zone_42 : decode cX4_zone 42 = .ok (.aload_n 0, 1) := dk_42 (dk_at dksX4_zone_1 18 rfl rfl)
theorem dX4_zone_43 : decode cX4_zone 43 = .ok (.getfield 7, 3) := dk_180 0 7 (dk_at dksX4_zone_1 19 rfl rfl)
theorem dX4_zone_46 : decode cX4_zone 46 = .ok (.bipush 87, 2) := dk_16 87 (dk_at dksX4_zone_1 22 rfl rfl)
theorem dX4_zone_48 : decode cX4_zone 48 = .ok (.iconst 2, 1) := dk_5 (dk_at dksX4_zone_2 0 rfl rfl)
theorem dX4_zone_49 : decode cX4_zone 49 = .ok (.iload_n 2, 1) := dk_28 (dk_at dksX4_zone_2 1 rfl rfl)
theorem dX4_zone_50 : decode cX4_zone 50 = .ok (.imul, 1) := dk_104 (dk_at dksX4_zone_2 2 rfl rfl)
theorem dX4_zone_51 : decode cX4_zone 51 = .ok (.iadd, 1) := dk_96 (dk_at dksX4_zone_2 3 rfl rfl)
theorem dX4_zone_52 : decode cX4_zone 52 = .ok (.iload_n 1, 1) := dk_27 (dk_at dksX4_zone_2 4 rfl rfl)
theorem dX4_zone_53 : decode cX4_zone 53 = .ok (.iastore, 1) := dk_79 (dk_at dksX4_zone_2 5 rfl rfl)
theorem dX4_zone_54 : decode cX4_zone 54 = .ok (.aload_n 0, 1) := dk_42 (dk_at dksX4_zone_2 6 rfl rfl)
theorem dX4_zone_55 : decode cX4_zone 55 = .ok (.getfield 7, 3) := dk_180 0 7 (dk_at dksX4_zone_2 7 rfl rfl)
theorem dX4_zone_58 : decode cX4_zone 58 = .ok (.bipush 87, 2) := dk_16 87 (dk_at dksX4_zone_2 10 rfl rfl)
theorem dX4_zone_60 : decode cX4_zone 60 = .ok (.iconst 2, 1) := dk_5 (dk_at dksX4_zone_2 12 rfl rfl)
theorem dX4_zone_61 : decode cX4_zone 61 = .ok (.iload_n 2, 1) := dk_28 (dk_at dksX4_zone_2 13 rfl rfl)
theorem dX4_zone_62 : decode cX4_zone 62 = .ok (.imul, 1) := dk_104 (dk_at dksX4_zone_2 14 rfl rfl)
theorem dX4_zone_63 : decode cX4_zone 63 = .ok (.iadd, 1) := dk_96 (dk_at dksX4_zone_2 15 rfl rfl)
theorem dX4_zone_64 : decode cX4_zone 64 = .ok (.iconst 1, 1) := dk_4 (dk_at dksX4_zone_2 16 rfl rfl)
theorem dX4_zone_65 : decode cX4_zone 65 = .ok (.iadd, 1) := dk_96 (dk_at dksX4_zone_2 17 rfl rfl)
theorem dX4_zone_66 : decode cX4_zone 66 = .ok (.iconst 0, 1) := dk_3 (dk_at dksX4_zone_2 18 rfl rfl)
theorem dX4_zone_67 : decode cX4_zone 67 = .ok (.iastore, 1) := dk_79 (dk_at dksX4_zone_2 19 rfl rfl)
theorem dX4_zone_68 : decode cX4_zone 68 = .ok (.aload_n 0, 1) := dk_42 (dk_at dksX4_zone_2 20 rfl rfl)
theorem dX4_zone_69 : decode cX4_zone 69 = .ok (.getfield 7, 3) := dk_180 0 7 (dk_at dksX4_zone_2 21 rfl rfl)
theorem dX4_zone_72 : decode cX4_zone 72 = .ok (.bipush 15, 2) := dk_16 15 (dk_at dksX4_zone_3 0 rfl rfl)
theorem dX4_zone_74 : decode cX4_zone 74 = .ok (.dup2, 1) := dk_92 (dk_at dksX4_zone_3 2 rfl rfl)
theorem dX4_zone_75 : decode cX4_zone 75 = .ok (.iaload, 1) := dk_46 (dk_at dksX4_zone_3 3 rfl rfl)
theorem dX4_zone_76 : decode cX4_zone 76 = .ok (.iconst 1, 1) := dk_4 (dk_at dksX4_zone_3 4 rfl rfl)
theorem dX4_zone_77 : decode cX4_zone 77 = .ok (.iadd, 1) := dk_96 (dk_at dksX4_zone_3 5 rfl rfl)
theorem dX4_zone_78 : decode cX4_zone 78 = .ok (.iastore, 1) := dk_79 (dk_at dksX4_zone_3 6 rfl rfl)
theorem dX4_zone_79 : decode cX4_zone 79 = .ok (.iload_n 2, 1) := dk_28 (dk_at dksX4_zone_3 7 rfl rfl)
theorem dX4_zone_80 : decode cX4_zone 80 = .ok (.ireturn, 1) := dk_172 (dk_at dksX4_zone_3 8 rfl rfl)
abbrev cX4_open : ByteArray := prog_20_method_35_code
def yX4_open : MethodName := ⟨RX4, "open", "(II)I"⟩
def dkwX4_open_2 : List UInt8 := [180, 0, 7, 16, 87, 5, 27, 104, 96, 4, 96, 28, 79, 42, 182, 0, 143, 172]
abbrev dktX4_open_2 : List UInt8 := dkwX4_open_2 ++ []
def dkwX4_open_1 : List UInt8 := [182, 0, 137, 28, 4, 160, 0, 7, 4, 167, 0, 4, 3, 160, 0, 6, 18, 123, 172, 42, 182, 0, 63, 42]
abbrev dktX4_open_1 : List UInt8 := dkwX4_open_1 ++ dktX4_open_2
def dkwX4_open_0 : List UInt8 := [42, 27, 182, 0, 140, 153, 0, 13, 28, 133, 9, 10, 184, 0, 30, 154, 0, 6, 18, 62, 172, 42, 27]
abbrev dktX4_open_0 : List UInt8 := dkwX4_open_0 ++ dktX4_open_1
theorem dksX4_open_0 : cX4_open.data.toList.drop 0 = dktX4_open_0 := by decide +kernel
theorem dksX4_open_1 : cX4_open.data.toList.drop 23 = dktX4_open_1 := dk_seg dksX4_open_0 23 rfl rfl
theorem dksX4_open_2 : cX4_open.data.toList.drop 47 = dktX4_open_2 := dk_seg dksX4_open_1 24 rfl rfl
theorem dX4_open_0 : decode cX4_open 0 = .ok (.aload_n 0, 1) := dk_42 (dk_at dksX4_open_0 0 rfl rfl)
theorem dX4_open_1 : decode cX4_open 1 = .ok (.iload_n 1, 1) := dk_27 (dk_at dksX4_open_0 1 rfl rfl)
theorem dX4_open_2 : decode cX4_open 2 = .ok (.invokevirtual 140, 3) := dk_182 0 140 (dk_at dksX4_open_0 2 rfl rfl)
theorem dX4_open_5 : decode cX4_open 5 = .ok (.ifCond .eq 13, 3) := dk_153 0 13 (dk_at dksX4_open_0 5 rfl rfl)
theorem dX4_open_8 : decode cX4_open 8 = .ok (.iload_n 2, 1) := dk_28 (dk_at dksX4_open_0 8 rfl rfl)
theorem dX4_open_9 : decode cX4_open 9 = .ok (.i2l, 1) := dk_133 (dk_at dksX4_open_0 9 rfl rfl)
theorem dX4_open_10 : decode cX4_open 10 = .ok (.lconst 0, 1) := dk_9 (dk_at dksX4_open_0 10 rfl rfl)
theorem dX4_open_11 : decode cX4_open 11 = .ok (.lconst 1, 1) := dk_10 (dk_at dksX4_open_0 11 rfl rfl)
theorem dX4_open_12 : decode cX4_open 12 = .ok (.invokestatic 30, 3) := dk_184 0 30 (dk_at dksX4_open_0 12 rfl rfl)
theorem dX4_open_15 : decode cX4_open 15 = .ok (.ifCond .ne 6, 3) := dk_154 0 6 (dk_at dksX4_open_0 15 rfl rfl)
theorem dX4_open_18 : decode cX4_open 18 = .ok (.ldc 62, 2) := dk_18 62 (dk_at dksX4_open_0 18 rfl rfl)
theorem dX4_open_20 : decode cX4_open 20 = .ok (.ireturn, 1) := dk_172 (dk_at dksX4_open_0 20 rfl rfl)
theorem dX4_open_21 : decode cX4_open 21 = .ok (.aload_n 0, 1) := dk_42 (dk_at dksX4_open_0 21 rfl rfl)
theorem dX4_open_22 : decode cX4_open 22 = .ok (.iload_n 1, 1) := dk_27 (dk_at dksX4_open_0 22 rfl rfl)
theorem dX4_open_23 : decode cX4_open 23 = .ok (.invokevirtual 137, 3) := dk_182 0 137 (dk_at dksX4_open_1 0 rfl rfl)
theorem dX4_open_26 : decode cX4_open 26 = .ok (.iload_n 2, 1) := dk_28 (dk_at dksX4_open_1 3 rfl rfl)
theorem dX4_open_27 : decode cX4_open 27 = .ok (.iconst 1, 1) := dk_4 (dk_at dksX4_open_1 4 rfl rfl)
theorem dX4_open_28 : decode cX4_open 28 = .ok (.if_icmp .ne 7, 3) := dk_160 0 7 (dk_at dksX4_open_1 5 rfl rfl)
theorem dX4_open_31 : decode cX4_open 31 = .ok (.iconst 1, 1) := dk_4 (dk_at dksX4_open_1 8 rfl rfl)
theorem dX4_open_32 : decode cX4_open 32 = .ok (.goto 4, 3) := dk_167 0 4 (dk_at dksX4_open_1 9 rfl rfl)
theorem dX4_open_35 : decode cX4_open 35 = .ok (.iconst 0, 1) := dk_3 (dk_at dksX4_open_1 12 rfl rfl)
theorem dX4_open_36 : decode cX4_open 36 = .ok (.if_icmp .ne 6, 3) := dk_160 0 6 (dk_at dksX4_open_1 13 rfl rfl)
theorem dX4_open_39 : decode cX4_open 39 = .ok (.ldc 123, 2) := dk_18 123 (dk_at dksX4_open_1 16 rfl rfl)
theorem dX4_open_41 : decode cX4_open 41 = .ok (.ireturn, 1) := dk_172 (dk_at dksX4_open_1 18 rfl rfl)
theorem dX4_open_42 : decode cX4_open 42 = .ok (.aload_n 0, 1) := dk_42 (dk_at dksX4_open_1 19 rfl rfl)
theorem dX4_open_43 : decode cX4_open 43 = .ok (.invokevirtual 63, 3) := dk_182 0 63 (dk_at dksX4_open_1 20 rfl rfl)
theorem dX4_open_46 : decode cX4_open 46 = .ok (.aload_n 0, 1) := dk_42 (dk_at dksX4_open_1 23 rfl rfl)
theorem dX4_open_47 : decode cX4_open 47 = .ok (.getfield 7, 3) := dk_180 0 7 (dk_at dksX4_open_2 0 rfl rfl)
theorem dX4_open_50 : decode cX4_open 50 = .ok (.bipush 87, 2) := dk_16 87 (dk_at dksX4_open_2 3 rfl rfl)
theorem dX4_open_52 : decode cX4_open 52 = .ok (.iconst 2, 1) := dk_5 (dk_at dksX4_open_2 5 rfl rfl)
theorem dX4_open_53 : decode cX4_open 53 = .ok (.iload_n 1, 1) := dk_27 (dk_at dksX4_open_2 6 rfl rfl)
theorem dX4_open_54 : decode cX4_open 54 = .ok (.imul, 1) := dk_104 (dk_at dksX4_open_2 7 rfl rfl)
theorem dX4_open_55 : decode cX4_open 55 = .ok (.iadd, 1) := dk_96 (dk_at dksX4_open_2 8 rfl rfl)
theorem dX4_open_56 : decode cX4_open 56 = .ok (.iconst 1, 1) := dk_4 (dk_at dksX4_open_2 9 rfl rfl)
theorem dX4_open_57 : decode cX4_open 57 = .ok (.iadd, 1) := dk_96 (dk_at dksX4_open_2 10 rfl rfl)
theorem dX4_open_58 : decode cX4_open 58 = .ok (.iload_n 2, 1) := dk_28 (dk_at dksX4_open_2 11 rfl rfl)
theorem dX4_open_59 : decode cX4_open 59 = .ok (.iastore, 1) := dk_79 (dk_at dksX4_open_2 12 rfl rfl)
theorem dX4_open_60 : decode cX4_open 60 = .ok (.aload_n 0, 1) := dk_42 (dk_at dksX4_open_2 13 rfl rfl)
theorem dX4_open_61 : decode cX4_open 61 = .ok (.invokevirtual 143, 3) := dk_182 0 143 (dk_at dksX4_open_2 14 rfl rfl)
theorem dX4_open_64 : decode cX4_open 64 = .ok (.ireturn, 1) := dk_172 (dk_at dksX4_open_2 17 rfl rfl)
abbrev cX4_isZone : ByteArray := prog_20_method_31_code
def yX4_isZone : MethodName := ⟨RX4, "isZone", "(I)Z"⟩
def dkwX4_isZone_0 : List UInt8 := [27, 133, 9, 42, 180, 0, 7, 16, 15, 46, 133, 10, 101, 184, 0, 30, 172]
abbrev dktX4_isZone_0 : List UInt8 := dkwX4_isZone_0 ++ []
theorem dksX4_isZone_0 : cX4_isZone.data.toList.drop 0 = dktX4_isZone_0 := by decide +kernel
theorem dX4_isZone_0 : decode cX4_isZone 0 = .ok (.iload_n 1, 1) := dk_27 (dk_at dksX4_isZone_0 0 rfl rfl)
theorem dX4_isZone_1 : decode cX4_isZone 1 = .ok (.i2l, 1) := dk_133 (dk_at dksX4_isZone_0 1 rfl rfl)
theorem dX4_isZone_2 : decode cX4_isZone 2 = .ok (.lconst 0, 1) := dk_9 (dk_at dksX4_isZone_0 2 rfl rfl)
theorem dX4_isZone_3 : decode cX4_isZone 3 = .ok (.aload_n 0, 1) := dk_42 (dk_at dksX4_isZone_0 3 rfl rfl)
theorem dX4_isZone_4 : decode cX4_isZone 4 = .ok (.getfield 7, 3) := dk_180 0 7 (dk_at dksX4_isZone_0 4 rfl rfl)
theorem dX4_isZone_7 : decode cX4_isZone 7 = .ok (.bipush 15, 2) := dk_16 15 (dk_at dksX4_isZone_0 7 rfl rfl)
theorem dX4_isZone_9 : decode cX4_isZone 9 = .ok (.iaload, 1) := dk_46 (dk_at dksX4_isZone_0 9 rfl rfl)
theorem dX4_isZone_10 : decode cX4_isZone 10 = .ok (.i2l, 1) := dk_133 (dk_at dksX4_isZone_0 10 rfl rfl)
theorem dX4_isZone_11 : decode cX4_isZone 11 = .ok (.lconst 1, 1) := dk_10 (dk_at dksX4_isZone_0 11 rfl rfl)
theorem dX4_isZone_12 : decode cX4_isZone 12 = .ok (.lsub, 1) := dk_101 (dk_at dksX4_isZone_0 12 rfl rfl)
theorem dX4_isZone_13 : decode cX4_isZone 13 = .ok (.invokestatic 30, 3) := dk_184 0 30 (dk_at dksX4_isZone_0 13 rfl rfl)
theorem dX4_isZone_16 : decode cX4_isZone 16 = .ok (.ireturn, 1) := dk_172 (dk_at dksX4_isZone_0 16 rfl rfl)
abbrev cX4_isOpen : ByteArray := prog_20_method_32_code
def yX4_isOpen : MethodName := ⟨RX4, "isOpen", "(I)Z"⟩
def dkwX4_isOpen_0 : List UInt8 := [42, 180, 0, 7, 16, 87, 5, 27, 104, 96, 4, 96, 46, 4, 160, 0, 7, 4, 167, 0, 4, 3, 172]
abbrev dktX4_isOpen_0 : List UInt8 := dkwX4_isOpen_0 ++ []
theorem dksX4_isOpen_0 : cX4_isOpen.data.toList.drop 0 = dktX4_isOpen_0 := by decide +kernel
theorem dX4_isOpen_0 : decode cX4_isOpen 0 = .ok (.aload_n 0, 1) := dk_42 (dk_at dksX4_isOpen_0 0 rfl rfl)
theorem dX4_isOpen_1 : decode cX4_isOpen 1 = .ok (.getfield 7, 3) := dk_180 0 7 (dk_at dksX4_isOpen_0 1 rfl rfl)
theorem dX4_isOpen_4 : decode cX4_isOpen 4 = .ok (.bipush 87, 2) := dk_16 87 (dk_at dksX4_isOpen_0 4 rfl rfl)
theorem dX4_isOpen_6 : decode cX4_isOpen 6 = .ok (.iconst 2, 1) := dk_5 (dk_at dksX4_isOpen_0 6 rfl rfl)
theorem dX4_isOpen_7 : decode cX4_isOpen 7 = .ok (.iload_n 1, 1) := dk_27 (dk_at dksX4_isOpen_0 7 rfl rfl)
theorem dX4_isOpen_8 : decode cX4_isOpen 8 = .ok (.imul, 1) := dk_104 (dk_at dksX4_isOpen_0 8 rfl rfl)
theorem dX4_isOpen_9 : decode cX4_isOpen 9 = .ok (.iadd, 1) := dk_96 (dk_at dksX4_isOpen_0 9 rfl rfl)
theorem dX4_isOpen_10 : decode cX4_isOpen 10 = .ok (.iconst 1, 1) := dk_4 (dk_at dksX4_isOpen_0 10 rfl rfl)
theorem dX4_isOpen_11 : decode cX4_isOpen 11 = .ok (.iadd, 1) := dk_96 (dk_at dksX4_isOpen_0 11 rfl rfl)
theorem dX4_isOpen_12 : decode cX4_isOpen 12 = .ok (.iaload, 1) := dk_46 (dk_at dksX4_isOpen_0 12 rfl rfl)
theorem dX4_isOpen_13 : decode cX4_isOpen 13 = .ok (.iconst 1, 1) := dk_4 (dk_at dksX4_isOpen_0 13 rfl rfl)
theorem dX4_isOpen_14 : decode cX4_isOpen 14 = .ok (.if_icmp .ne 7, 3) := dk_160 0 7 (dk_at dksX4_isOpen_0 14 rfl rfl)
theorem dX4_isOpen_17 : decode cX4_isOpen 17 = .ok (.iconst 1, 1) := dk_4 (dk_at dksX4_isOpen_0 17 rfl rfl)
theorem dX4_isOpen_18 : decode cX4_isOpen 18 = .ok (.goto 4, 3) := dk_167 0 4 (dk_at dksX4_isOpen_0 18 rfl rfl)
theorem dX4_isOpen_21 : decode cX4_isOpen 21 = .ok (.iconst 0, 1) := dk_3 (dk_at dksX4_isOpen_0 21 rfl rfl)
theorem dX4_isOpen_22 : decode cX4_isOpen 22 = .ok (.ireturn, 1) := dk_172 (dk_at dksX4_isOpen_0 22 rfl rfl)
abbrev cX4_openZones : ByteArray := prog_20_method_34_code
def yX4_openZones : MethodName := ⟨RX4, "openZones", "()I"⟩
def dkwX4_openZones_1 : List UInt8 := [4, 167, 0, 4, 3, 96, 60, 132, 2, 1, 167, 255, 226, 27, 172]
abbrev dktX4_openZones_1 : List UInt8 := dkwX4_openZones_1 ++ []
def dkwX4_openZones_0 : List UInt8 := [3, 60, 3, 61, 28, 42, 180, 0, 7, 16, 15, 46, 162, 0, 25, 27, 42, 28, 182, 0, 137, 153, 0, 7]
abbrev dktX4_openZones_0 : List UInt8 := dkwX4_openZones_0 ++ dktX4_openZones_1
theorem dksX4_openZones_0 : cX4_openZones.data.toList.drop 0 = dktX4_openZones_0 := by decide +kernel
theorem dksX4_openZones_1 : cX4_openZones.data.toList.drop 24 = dktX4_openZones_1 := dk_seg dksX4_openZones_0 24 rfl rfl
theorem dX4_openZones_0 : decode cX4_openZones 0 = .ok (.iconst 0, 1) := dk_3 (dk_at dksX4_openZones_0 0 rfl rfl)
theorem dX4_openZones_1 : decode cX4_openZones 1 = .ok (.istore_n 1, 1) := dk_60 (dk_at dksX4_openZones_0 1 rfl rfl)
theorem dX4_openZones_2 : decode cX4_openZones 2 = .ok (.iconst 0, 1) := dk_3 (dk_at dksX4_openZones_0 2 rfl rfl)
theorem dX4_openZones_3 : decode cX4_openZones 3 = .ok (.istore_n 2, 1) := dk_61 (dk_at dksX4_openZones_0 3 rfl rfl)
theorem dX4_openZones_4 : decode cX4_openZones 4 = .ok (.iload_n 2, 1) := dk_28 (dk_at dksX4_openZones_0 4 rfl rfl)
theorem dX4_openZones_5 : decode cX4_openZones 5 = .ok (.aload_n 0, 1) := dk_42 (dk_at dksX4_openZones_0 5 rfl rfl)
theorem dX4_openZones_6 : decode cX4_openZones 6 = .ok (.getfield 7, 3) := dk_180 0 7 (dk_at dksX4_openZones_0 6 rfl rfl)
theorem dX4_openZones_9 : decode cX4_openZones 9 = .ok (.bipush 15, 2) := dk_16 15 (dk_at dksX4_openZones_0 9 rfl rfl)
theorem dX4_openZones_11 : decode cX4_openZones 11 = .ok (.iaload, 1) := dk_46 (dk_at dksX4_openZones_0 11 rfl rfl)
theorem dX4_openZones_12 : decode cX4_openZones 12 = .ok (.if_icmp .ge 25, 3) := dk_162 0 25 (dk_at dksX4_openZones_0 12 rfl rfl)
theorem dX4_openZones_15 : decode cX4_openZones 15 = .ok (.iload_n 1, 1) := dk_27 (dk_at dksX4_openZones_0 15 rfl rfl)
theorem dX4_openZones_16 : decode cX4_openZones 16 = .ok (.aload_n 0, 1) := dk_42 (dk_at dksX4_openZones_0 16 rfl rfl)
theorem dX4_openZones_17 : decode cX4_openZones 17 = .ok (.iload_n 2, 1) := dk_28 (dk_at dksX4_openZones_0 17 rfl rfl)
theorem dX4_openZones_18 : decode cX4_openZones 18 = .ok (.invokevirtual 137, 3) := dk_182 0 137 (dk_at dksX4_openZones_0 18 rfl rfl)
theorem dX4_openZones_21 : decode cX4_openZones 21 = .ok (.ifCond .eq 7, 3) := dk_153 0 7 (dk_at dksX4_openZones_0 21 rfl rfl)
theorem dX4_openZones_24 : decode cX4_openZones 24 = .ok (.iconst 1, 1) := dk_4 (dk_at dksX4_openZones_1 0 rfl rfl)
theorem dX4_openZones_25 : decode cX4_openZones 25 = .ok (.goto 4, 3) := dk_167 0 4 (dk_at dksX4_openZones_1 1 rfl rfl)
theorem dX4_openZones_28 : decode cX4_openZones 28 = .ok (.iconst 0, 1) := dk_3 (dk_at dksX4_openZones_1 4 rfl rfl)
theorem dX4_openZones_29 : decode cX4_openZones 29 = .ok (.iadd, 1) := dk_96 (dk_at dksX4_openZones_1 5 rfl rfl)
theorem dX4_openZones_30 : decode cX4_openZones 30 = .ok (.istore_n 1, 1) := dk_60 (dk_at dksX4_openZones_1 6 rfl rfl)
theorem dX4_openZones_31 : decode cX4_openZones 31 = .ok (.iinc 2 1, 3) := dk_132 2 1 (dk_at dksX4_openZones_1 7 rfl rfl)
theorem dX4_openZones_34 : decode cX4_openZones 34 = .ok (.goto (-30), 3) := dk_167 255 226 (dk_at dksX4_openZones_1 10 rfl rfl)
theorem dX4_openZones_37 : decode cX4_openZones 37 = .ok (.iload_n 1, 1) := dk_27 (dk_at dksX4_openZones_1 13 rfl rfl)
theorem dX4_openZones_38 : decode cX4_openZones 38 = .ok (.ireturn, 1) := dk_172 (dk_at dksX4_openZones_1 14 rfl rfl)
abbrev cX4_leak : ByteArray := prog_20_method_36_code
def yX4_leak : MethodName := ⟨RX4, "leak", "(I)I"⟩
def dkwX4_leak_1 : List UInt8 := [16, 17, 46, 61, 42, 180, 0, 7, 16, 17, 27, 79, 28, 172]
abbrev dktX4_leak_1 : List UInt8 := dkwX4_leak_1 ++ []
def dkwX4_leak_0 : List UInt8 := [27, 133, 9, 20, 0, 40, 184, 0, 30, 154, 0, 6, 18, 62, 172, 42, 182, 0, 63, 42, 180, 0, 7]
abbrev dktX4_leak_0 : List UInt8 := dkwX4_leak_0 ++ dktX4_leak_1
theorem dksX4_leak_0 : cX4_leak.data.toList.drop 0 = dktX4_leak_0 := by decide +kernel
theorem dksX4_leak_1 : cX4_leak.data.toList.drop 23 = dktX4_leak_1 := dk_seg dksX4_leak_0 23 rfl rfl
theorem dX4_leak_0 : decode cX4_leak 0 = .ok (.iload_n 1, 1) := dk_27 (dk_at dksX4_leak_0 0 rfl rfl)
theorem dX4_leak_1 : decode cX4_leak 1 = .ok (.i2l, 1) := dk_133 (dk_at dksX4_leak_0 1 rfl rfl)
theorem dX4_leak_2 : decode cX4_leak 2 = .ok (.lconst 0, 1) := dk_9 (dk_at dksX4_leak_0 2 rfl rfl)
theorem dX4_leak_3 : decode cX4_leak 3 = .ok (.ldc2_w 40, 3) := dk_20 0 40 (dk_at dksX4_leak_0 3 rfl rfl)
theorem dX4_leak_6 : decode cX4_leak 6 = .ok (.invokestatic 30, 3) := dk_184 0 30 (dk_at dksX4_leak_0 6 rfl rfl)
theorem dX4_leak_9 : decode cX4_leak 9 = .ok (.ifCond .ne 6, 3) := dk_154 0 6 (dk_at dksX4_leak_0 9 rfl rfl)
theorem dX4_leak_12 : decode cX4_leak 12 = .ok (.ldc 62, 2) := dk_18 62 (dk_at dksX4_leak_0 12 rfl rfl)
theorem dX4_leak_14 : decode cX4_leak 14 = .ok (.ireturn, 1) := dk_172 (dk_at dksX4_leak_0 14 rfl rfl)
theorem dX4_leak_15 : decode cX4_leak 15 = .ok (.aload_n 0, 1) := dk_42 (dk_at dksX4_leak_0 15 rfl rfl)
theorem dX4_leak_16 : decode cX4_leak 16 = .ok (.invokevirtual 63, 3) := dk_182 0 63 (dk_at dksX4_leak_0 16 rfl rfl)
theorem dX4_leak_19 : decode cX4_leak 19 = .ok (.aload_n 0, 1) := dk_42 (dk_at dksX4_leak_0 19 rfl rfl)
theorem dX4_leak_20 : decode cX4_leak 20 = .ok (.getfield 7, 3) := dk_180 0 7 (dk_at dksX4_leak_0 20 rfl rfl)
theorem dX4_leak_23 : decode cX4_leak 23 = .ok (.bipush 17, 2) := dk_16 17 (dk_at dksX4_leak_1 0 rfl rfl)
theorem dX4_leak_25 : decode cX4_leak 25 = .ok (.iaload, 1) := dk_46 (dk_at dksX4_leak_1 2 rfl rfl)
theorem dX4_leak_26 : decode cX4_leak 26 = .ok (.istore_n 2, 1) := dk_61 (dk_at dksX4_leak_1 3 rfl rfl)
theorem dX4_leak_27 : decode cX4_leak 27 = .ok (.aload_n 0, 1) := dk_42 (dk_at dksX4_leak_1 4 rfl rfl)
theorem dX4_leak_28 : decode cX4_leak 28 = .ok (.getfield 7, 3) := dk_180 0 7 (dk_at dksX4_leak_1 5 rfl rfl)
theorem dX4_leak_31 : decode cX4_leak 31 = .ok (.bipush 17, 2) := dk_16 17 (dk_at dksX4_leak_1 8 rfl rfl)
theorem dX4_leak_33 : decode cX4_leak 33 = .ok (.iload_n 1, 1) := dk_27 (dk_at dksX4_leak_1 10 rfl rfl)
theorem dX4_leak_34 : decode cX4_leak 34 = .ok (.iastore, 1) := dk_79 (dk_at dksX4_leak_1 11 rfl rfl)
theorem dX4_leak_35 : decode cX4_leak 35 = .ok (.iload_n 2, 1) := dk_28 (dk_at dksX4_leak_1 12 rfl rfl)
theorem dX4_leak_36 : decode cX4_leak 36 = .ok (.ireturn, 1) := dk_172 (dk_at dksX4_leak_1 13 rfl rfl)
abbrev cX4_programme : ByteArray := prog_20_method_37_code
def yX4_programme : MethodName := ⟨RX4, "programme", "(III)I"⟩
def dkwX4_programme_5 : List UInt8 := [172]
abbrev dktX4_programme_5 : List UInt8 := dkwX4_programme_5 ++ []
def dkwX4_programme_4 : List UInt8 := [21, 4, 5, 96, 29, 79, 42, 180, 0, 7, 16, 16, 92, 46, 4, 96, 79, 42, 180, 0, 7, 16, 16, 46]
abbrev dktX4_programme_4 : List UInt8 := dkwX4_programme_4 ++ dktX4_programme_5
def dkwX4_programme_3 : List UInt8 := [54, 4, 42, 180, 0, 7, 21, 4, 27, 79, 42, 180, 0, 7, 21, 4, 4, 96, 28, 79, 42, 180, 0, 7]
abbrev dktX4_programme_3 : List UInt8 := dkwX4_programme_3 ++ dktX4_programme_4
def dkwX4_programme_2 : List UInt8 := [16, 8, 160, 0, 6, 18, 73, 172, 42, 182, 0, 63, 16, 103, 6, 42, 180, 0, 7, 16, 16, 46, 104, 96]
abbrev dktX4_programme_2 : List UInt8 := dkwX4_programme_2 ++ dktX4_programme_3
def dkwX4_programme_1 : List UInt8 := [20, 0, 46, 184, 0, 30, 153, 0, 8, 28, 29, 160, 0, 6, 18, 62, 172, 42, 180, 0, 7, 16, 16, 46]
abbrev dktX4_programme_1 : List UInt8 := dkwX4_programme_1 ++ dktX4_programme_2
def dkwX4_programme_0 : List UInt8 := [42, 27, 182, 0, 140, 153, 0, 32, 28, 133, 9, 20, 0, 46, 184, 0, 30, 153, 0, 20, 29, 133, 9]
abbrev dktX4_programme_0 : List UInt8 := dkwX4_programme_0 ++ dktX4_programme_1
theorem dksX4_programme_0 : cX4_programme.data.toList.drop 0 = dktX4_programme_0 := by decide +kernel
theorem dksX4_programme_1 : cX4_programme.data.toList.drop 23 = dktX4_programme_1 := dk_seg dksX4_programme_0 23 rfl rfl
theorem dksX4_programme_2 : cX4_programme.data.toList.drop 47 = dktX4_programme_2 := dk_seg dksX4_programme_1 24 rfl rfl
theorem dksX4_programme_3 : cX4_programme.data.toList.drop 71 = dktX4_programme_3 := dk_seg dksX4_programme_2 24 rfl rfl
theorem dksX4_programme_4 : cX4_programme.data.toList.drop 95 = dktX4_programme_4 := dk_seg dksX4_programme_3 24 rfl rfl
theorem dksX4_programme_5 : cX4_programme.data.toList.drop 119 = dktX4_programme_5 := dk_seg dksX4_programme_4 24 rfl rfl
theorem dX4_programme_0 : decode cX4_programme 0 = .ok (.aload_n 0, 1) := dk_42 (dk_at dksX4_programme_0 0 rfl rfl)
theorem dX4_programme_1 : decode cX4_programme 1 = .ok (.iload_n 1, 1) := dk_27 (dk_at dksX4_programme_0 1 rfl rfl)
theorem dX4_programme_2 : decode cX4_programme 2 = .ok (.invokevirtual 140, 3) := dk_182 0 140 (dk_at dksX4_programme_0 2 rfl rfl)
theorem dX4_programme_5 : decode cX4_programme 5 = .ok (.ifCond .eq 32, 3) := dk_153 0 32 (dk_at dksX4_programme_0 5 rfl rfl)
theorem dX4_programme_8 : decode cX4_programme 8 = .ok (.iload_n 2, 1) := dk_28 (dk_at dksX4_programme_0 8 rfl rfl)
theorem dX4_programme_9 : decode cX4_programme 9 = .ok (.i2l, 1) := dk_133 (dk_at dksX4_programme_0 9 rfl rfl)
theorem dX4_programme_10 : decode cX4_programme 10 = .ok (.lconst 0, 1) := dk_9 (dk_at dksX4_programme_0 10 rfl rfl)
theorem dX4_programme_11 : decode cX4_programme 11 = .ok (.ldc2_w 46, 3) := dk_20 0 46 (dk_at dksX4_programme_0 11 rfl rfl)
theorem dX4_programme_14 : decode cX4_programme 14 = .ok (.invokestatic 30, 3) := dk_184 0 30 (dk_at dksX4_programme_0 14 rfl rfl)
theorem dX4_programme_17 : decode cX4_programme 17 = .ok (.ifCond .eq 20, 3) := dk_153 0 20 (dk_at dksX4_programme_0 17 rfl rfl)
theorem dX4_programme_20 : decode cX4_programme 20 = .ok (.iload_n 3, 1) := dk_29 (dk_at dksX4_programme_0 20 rfl rfl)
theorem dX4_programme_21 : decode cX4_programme 21 = .ok (.i2l, 1) := dk_133 (dk_at dksX4_programme_0 21 rfl rfl)
theorem dX4_programme_22 : decode cX4_programme 22 = .ok (.lconst 0, 1) := dk_9 (dk_at dksX4_programme_0 22 rfl rfl)
theorem dX4_programme_23 : decode cX4_programme 23 = .ok (.ldc2_w 46, 3) := dk_20 0 46 (dk_at dksX4_programme_1 0 rfl rfl)
theorem dX4_programme_26 : decode cX4_programme 26 = .ok (.invokestatic 30, 3) := dk_184 0 30 (dk_at dksX4_programme_1 3 rfl rfl)
theorem dX4_programme_29 : decode cX4_programme 29 = .ok (.ifCond .eq 8, 3) := dk_153 0 8 (dk_at dksX4_programme_1 6 rfl rfl)
theorem dX4_programme_32 : decode cX4_programme 32 = .ok (.iload_n 2, 1) := dk_28 (dk_at dksX4_programme_1 9 rfl rfl)
theorem dX4_programme_33 : decode cX4_programme 33 = .ok (.iload_n 3, 1) := dk_29 (dk_at dksX4_programme_1 10 rfl rfl)
theorem dX4_programme_34 : decode cX4_programme 34 = .ok (.if_icmp .ne 6, 3) := dk_160 0 6 (dk_at dksX4_programme_1 11 rfl rfl)
theorem dX4_programme_37 : decode cX4_programme 37 = .ok (.ldc 62, 2) := dk_18 62 (dk_at dksX4_programme_1 14 rfl rfl)
theorem dX4_programme_39 : decode cX4_programme 39 = .ok (.ireturn, 1) := dk_172 (dk_at dksX4_programme_1 16 rfl rfl)
theorem dX4_programme_40 : decode cX4_programme 40 = .ok (.aload_n 0, 1) := dk_42 (dk_at dksX4_programme_1 17 rfl rfl)
theorem dX4_programme_41 : decode cX4_programme 41 = .ok (.getfield 7, 3) := dk_180 0 7 (dk_at dksX4_programme_1 18 rfl rfl)
theorem dX4_programme_44 : decode cX4_programme 44 = .ok (.bipush 16, 2) := dk_16 16 (dk_at dksX4_programme_1 21 rfl rfl)
theorem dX4_programme_46 : decode cX4_programme 46 = .ok (.iaload, 1) := dk_46 (dk_at dksX4_programme_1 23 rfl rfl)
theorem dX4_programme_47 : decode cX4_programme 47 = .ok (.bipush 8, 2) := dk_16 8 (dk_at dksX4_programme_2 0 rfl rfl)
theorem dX4_programme_49 : decode cX4_programme 49 = .ok (.if_icmp .ne 6, 3) := dk_160 0 6 (dk_at dksX4_programme_2 2 rfl rfl)
theorem dX4_programme_52 : decode cX4_programme 52 = .ok (.ldc 73, 2) := dk_18 73 (dk_at dksX4_programme_2 5 rfl rfl)
theorem dX4_programme_54 : decode cX4_programme 54 = .ok (.ireturn, 1) := dk_172 (dk_at dksX4_programme_2 7 rfl rfl)
theorem dX4_programme_55 : decode cX4_programme 55 = .ok (.aload_n 0, 1) := dk_42 (dk_at dksX4_programme_2 8 rfl rfl)
theorem dX4_programme_56 : decode cX4_programme 56 = .ok (.invokevirtual 63, 3) := dk_182 0 63 (dk_at dksX4_programme_2 9 rfl rfl)
theorem dX4_programme_59 : decode cX4_programme 59 = .ok (.bipush 103, 2) := dk_16 103 (dk_at dksX4_programme_2 12 rfl rfl)
theorem dX4_programme_61 : decode cX4_programme 61 = .ok (.iconst 3, 1) := dk_6 (dk_at dksX4_programme_2 14 rfl rfl)
theorem dX4_programme_62 : decode cX4_programme 62 = .ok (.aload_n 0, 1) := dk_42 (dk_at dksX4_programme_2 15 rfl rfl)
theorem dX4_programme_63 : decode cX4_programme 63 = .ok (.getfield 7, 3) := dk_180 0 7 (dk_at dksX4_programme_2 16 rfl rfl)
theorem dX4_programme_66 : decode cX4_programme 66 = .ok (.bipush 16, 2) := dk_16 16 (dk_at dksX4_programme_2 19 rfl rfl)
theorem dX4_programme_68 : decode cX4_programme 68 = .ok (.iaload, 1) := dk_46 (dk_at dksX4_programme_2 21 rfl rfl)
theorem dX4_programme_69 : decode cX4_programme 69 = .ok (.imul, 1) := dk_104 (dk_at dksX4_programme_2 22 rfl rfl)
theorem dX4_programme_70 : decode cX4_programme 70 = .ok (.iadd, 1) := dk_96 (dk_at dksX4_programme_2 23 rfl rfl)
theorem dX4_programme_71 : decode cX4_programme 71 = .ok (.istore 4, 2) := dk_54 4 (dk_at dksX4_programme_3 0 rfl rfl)
theorem dX4_programme_73 : decode cX4_programme 73 = .ok (.aload_n 0, 1) := dk_42 (dk_at dksX4_programme_3 2 rfl rfl)
theorem dX4_programme_74 : decode cX4_programme 74 = .ok (.getfield 7, 3) := dk_180 0 7 (dk_at dksX4_programme_3 3 rfl rfl)
theorem dX4_programme_77 : decode cX4_programme 77 = .ok (.iload 4, 2) := dk_21 4 (dk_at dksX4_programme_3 6 rfl rfl)
theorem dX4_programme_79 : decode cX4_programme 79 = .ok (.iload_n 1, 1) := dk_27 (dk_at dksX4_programme_3 8 rfl rfl)
theorem dX4_programme_80 : decode cX4_programme 80 = .ok (.iastore, 1) := dk_79 (dk_at dksX4_programme_3 9 rfl rfl)
theorem dX4_programme_81 : decode cX4_programme 81 = .ok (.aload_n 0, 1) := dk_42 (dk_at dksX4_programme_3 10 rfl rfl)
theorem dX4_programme_82 : decode cX4_programme 82 = .ok (.getfield 7, 3) := dk_180 0 7 (dk_at dksX4_programme_3 11 rfl rfl)
theorem dX4_programme_85 : decode cX4_programme 85 = .ok (.iload 4, 2) := dk_21 4 (dk_at dksX4_programme_3 14 rfl rfl)
theorem dX4_programme_87 : decode cX4_programme 87 = .ok (.iconst 1, 1) := dk_4 (dk_at dksX4_programme_3 16 rfl rfl)
theorem dX4_programme_88 : decode cX4_programme 88 = .ok (.iadd, 1) := dk_96 (dk_at dksX4_programme_3 17 rfl rfl)
theorem dX4_programme_89 : decode cX4_programme 89 = .ok (.iload_n 2, 1) := dk_28 (dk_at dksX4_programme_3 18 rfl rfl)
theorem dX4_programme_90 : decode cX4_programme 90 = .ok (.iastore, 1) := dk_79 (dk_at dksX4_programme_3 19 rfl rfl)
theorem dX4_programme_91 : decode cX4_programme 91 = .ok (.aload_n 0, 1) := dk_42 (dk_at dksX4_programme_3 20 rfl rfl)
theorem dX4_programme_92 : decode cX4_programme 92 = .ok (.getfield 7, 3) := dk_180 0 7 (dk_at dksX4_programme_3 21 rfl rfl)
theorem dX4_programme_95 : decode cX4_programme 95 = .ok (.iload 4, 2) := dk_21 4 (dk_at dksX4_programme_4 0 rfl rfl)
theorem dX4_programme_97 : decode cX4_programme 97 = .ok (.iconst 2, 1) := dk_5 (dk_at dksX4_programme_4 2 rfl rfl)
theorem dX4_programme_98 : decode cX4_programme 98 = .ok (.iadd, 1) := dk_96 (dk_at dksX4_programme_4 3 rfl rfl)
theorem dX4_programme_99 : decode cX4_programme 99 = .ok (.iload_n 3, 1) := dk_29 (dk_at dksX4_programme_4 4 rfl rfl)
theorem dX4_programme_100 : decode cX4_programme 100 = .ok (.iastore, 1) := dk_79 (dk_at dksX4_programme_4 5 rfl rfl)
theorem dX4_programme_101 : decode cX4_programme 101 = .ok (.aload_n 0, 1) := dk_42 (dk_at dksX4_programme_4 6 rfl rfl)
theorem dX4_programme_102 : decode cX4_programme 102 = .ok (.getfield 7, 3) := dk_180 0 7 (dk_at dksX4_programme_4 7 rfl rfl)
theorem dX4_programme_105 : decode cX4_programme 105 = .ok (.bipush 16, 2) := dk_16 16 (dk_at dksX4_programme_4 10 rfl rfl)
theorem dX4_programme_107 : decode cX4_programme 107 = .ok (.dup2, 1) := dk_92 (dk_at dksX4_programme_4 12 rfl rfl)
theorem dX4_programme_108 : decode cX4_programme 108 = .ok (.iaload, 1) := dk_46 (dk_at dksX4_programme_4 13 rfl rfl)
theorem dX4_programme_109 : decode cX4_programme 109 = .ok (.iconst 1, 1) := dk_4 (dk_at dksX4_programme_4 14 rfl rfl)
theorem dX4_programme_110 : decode cX4_programme 110 = .ok (.iadd, 1) := dk_96 (dk_at dksX4_programme_4 15 rfl rfl)
theorem dX4_programme_111 : decode cX4_programme 111 = .ok (.iastore, 1) := dk_79 (dk_at dksX4_programme_4 16 rfl rfl)
theorem dX4_programme_112 : decode cX4_programme 112 = .ok (.aload_n 0, 1) := dk_42 (dk_at dksX4_programme_4 17 rfl rfl)
theorem dX4_programme_113 : decode cX4_programme 113 = .ok (.getfield 7, 3) := dk_180 0 7 (dk_at dksX4_programme_4 18 rfl rfl)
theorem dX4_programme_116 : decode cX4_programme 116 = .ok (.bipush 16, 2) := dk_16 16 (dk_at dksX4_programme_4 21 rfl rfl)
theorem dX4_programme_118 : decode cX4_programme 118 = .ok (.iaload, 1) := dk_46 (dk_at dksX4_programme_4 23 rfl rfl)
theorem dX4_programme_119 : decode cX4_programme 119 = .ok (.ireturn, 1) := dk_172 (dk_at dksX4_programme_5 0 rfl rfl)
abbrev cX4_zoneOf : ByteArray := prog_20_method_39_code
def yX4_zoneOf : MethodName := ⟨RX4, "zoneOf", "(II)I"⟩
def dkwX4_zoneOf_4 : List UInt8 := [42, 27, 182, 0, 148, 167, 0, 4, 29, 172]
abbrev dktX4_zoneOf_4 : List UInt8 := dkwX4_zoneOf_4 ++ []
def dkwX4_zoneOf_3 : List UInt8 := [162, 0, 19, 42, 180, 0, 7, 16, 87, 5, 27, 104, 96, 28, 96, 46, 167, 0, 17, 28, 5, 160, 0, 11]
abbrev dktX4_zoneOf_3 : List UInt8 := dkwX4_zoneOf_3 ++ dktX4_zoneOf_4
def dkwX4_zoneOf_2 : List UInt8 := [21, 4, 104, 96, 46, 27, 160, 0, 7, 4, 167, 0, 4, 3, 96, 62, 132, 4, 1, 167, 255, 217, 28, 5]
abbrev dktX4_zoneOf_2 : List UInt8 := dkwX4_zoneOf_2 ++ dktX4_zoneOf_3
def dkwX4_zoneOf_1 : List UInt8 := [62, 3, 54, 4, 21, 4, 42, 180, 0, 7, 16, 16, 46, 162, 0, 33, 29, 42, 180, 0, 7, 16, 103, 6]
abbrev dktX4_zoneOf_1 : List UInt8 := dkwX4_zoneOf_1 ++ dktX4_zoneOf_2
def dkwX4_zoneOf_0 : List UInt8 := [42, 27, 182, 0, 140, 153, 0, 15, 28, 133, 9, 20, 0, 146, 184, 0, 30, 154, 0, 6, 18, 62, 172, 3]
abbrev dktX4_zoneOf_0 : List UInt8 := dkwX4_zoneOf_0 ++ dktX4_zoneOf_1
theorem dksX4_zoneOf_0 : cX4_zoneOf.data.toList.drop 0 = dktX4_zoneOf_0 := by decide +kernel
theorem dksX4_zoneOf_1 : cX4_zoneOf.data.toList.drop 24 = dktX4_zoneOf_1 := dk_seg dksX4_zoneOf_0 24 rfl rfl
theorem dksX4_zoneOf_2 : cX4_zoneOf.data.toList.drop 48 = dktX4_zoneOf_2 := dk_seg dksX4_zoneOf_1 24 rfl rfl
theorem dksX4_zoneOf_3 : cX4_zoneOf.data.toList.drop 72 = dktX4_zoneOf_3 := dk_seg dksX4_zoneOf_2 24 rfl rfl
theorem dksX4_zoneOf_4 : cX4_zoneOf.data.toList.drop 96 = dktX4_zoneOf_4 := dk_seg dksX4_zoneOf_3 24 rfl rfl
theorem dX4_zoneOf_0 : decode cX4_zoneOf 0 = .ok (.aload_n 0, 1) := dk_42 (dk_at dksX4_zoneOf_0 0 rfl rfl)
theorem dX4_zoneOf_1 : decode cX4_zoneOf 1 = .ok (.iload_n 1, 1) := dk_27 (dk_at dksX4_zoneOf_0 1 rfl rfl)
theorem dX4_zoneOf_2 : decode cX4_zoneOf 2 = .ok (.invokevirtual 140, 3) := dk_182 0 140 (dk_at dksX4_zoneOf_0 2 rfl rfl)
theorem dX4_zoneOf_5 : decode cX4_zoneOf 5 = .ok (.ifCond .eq 15, 3) := dk_153 0 15 (dk_at dksX4_zoneOf_0 5 rfl rfl)
theorem dX4_zoneOf_8 : decode cX4_zoneOf 8 = .ok (.iload_n 2, 1) := dk_28 (dk_at dksX4_zoneOf_0 8 rfl rfl)
theorem dX4_zoneOf_9 : decode cX4_zoneOf 9 = .ok (.i2l, 1) := dk_133 (dk_at dksX4_zoneOf_0 9 rfl rfl)
theorem dX4_zoneOf_10 : decode cX4_zoneOf 10 = .ok (.lconst 0, 1) := dk_9 (dk_at dksX4_zoneOf_0 10 rfl rfl)
theorem dX4_zoneOf_11 : decode cX4_zoneOf 11 = .ok (.ldc2_w 146, 3) := dk_20 0 146 (dk_at dksX4_zoneOf_0 11 rfl rfl)
theorem dX4_zoneOf_14 : decode cX4_zoneOf 14 = .ok (.invokestatic 30, 3) := dk_184 0 30 (dk_at dksX4_zoneOf_0 14 rfl rfl)
theorem dX4_zoneOf_17 : decode cX4_zoneOf 17 = .ok (.ifCond .ne 6, 3) := dk_154 0 6 (dk_at dksX4_zoneOf_0 17 rfl rfl)
theorem dX4_zoneOf_20 : decode cX4_zoneOf 20 = .ok (.ldc 62, 2) := dk_18 62 (dk_at dksX4_zoneOf_0 20 rfl rfl)
theorem dX4_zoneOf_22 : decode cX4_zoneOf 22 = .ok (.ireturn, 1) := dk_172 (dk_at dksX4_zoneOf_0 22 rfl rfl)
theorem dX4_zoneOf_23 : decode cX4_zoneOf 23 = .ok (.iconst 0, 1) := dk_3 (dk_at dksX4_zoneOf_0 23 rfl rfl)
theorem dX4_zoneOf_24 : decode cX4_zoneOf 24 = .ok (.istore_n 3, 1) := dk_62 (dk_at dksX4_zoneOf_1 0 rfl rfl)
theorem dX4_zoneOf_25 : decode cX4_zoneOf 25 = .ok (.iconst 0, 1) := dk_3 (dk_at dksX4_zoneOf_1 1 rfl rfl)
theorem dX4_zoneOf_26 : decode cX4_zoneOf 26 = .ok (.istore 4, 2) := dk_54 4 (dk_at dksX4_zoneOf_1 2 rfl rfl)
theorem dX4_zoneOf_28 : decode cX4_zoneOf 28 = .ok (.iload 4, 2) := dk_21 4 (dk_at dksX4_zoneOf_1 4 rfl rfl)
theorem dX4_zoneOf_30 : decode cX4_zoneOf 30 = .ok (.aload_n 0, 1) := dk_42 (dk_at dksX4_zoneOf_1 6 rfl rfl)
theorem dX4_zoneOf_31 : decode cX4_zoneOf 31 = .ok (.getfield 7, 3) := dk_180 0 7 (dk_at dksX4_zoneOf_1 7 rfl rfl)
theorem dX4_zoneOf_34 : decode cX4_zoneOf 34 = .ok (.bipush 16, 2) := dk_16 16 (dk_at dksX4_zoneOf_1 10 rfl rfl)
theorem dX4_zoneOf_36 : decode cX4_zoneOf 36 = .ok (.iaload, 1) := dk_46 (dk_at dksX4_zoneOf_1 12 rfl rfl)
theorem dX4_zoneOf_37 : decode cX4_zoneOf 37 = .ok (.if_icmp .ge 33, 3) := dk_162 0 33 (dk_at dksX4_zoneOf_1 13 rfl rfl)
theorem dX4_zoneOf_40 : decode cX4_zoneOf 40 = .ok (.iload_n 3, 1) := dk_29 (dk_at dksX4_zoneOf_1 16 rfl rfl)
theorem dX4_zoneOf_41 : decode cX4_zoneOf 41 = .ok (.aload_n 0, 1) := dk_42 (dk_at dksX4_zoneOf_1 17 rfl rfl)
theorem dX4_zoneOf_42 : decode cX4_zoneOf 42 = .ok (.getfield 7, 3) := dk_180 0 7 (dk_at dksX4_zoneOf_1 18 rfl rfl)
theorem dX4_zoneOf_45 : decode cX4_zoneOf 45 = .ok (.bipush 103, 2) := dk_16 103 (dk_at dksX4_zoneOf_1 21 rfl rfl)
theorem dX4_zoneOf_47 : decode cX4_zoneOf 47 = .ok (.iconst 3, 1) := dk_6 (dk_at dksX4_zoneOf_1 23 rfl rfl)
theorem dX4_zoneOf_48 : decode cX4_zoneOf 48 = .ok (.iload 4, 2) := dk_21 4 (dk_at dksX4_zoneOf_2 0 rfl rfl)
theorem dX4_zoneOf_50 : decode cX4_zoneOf 50 = .ok (.imul, 1) := dk_104 (dk_at dksX4_zoneOf_2 2 rfl rfl)
theorem dX4_zoneOf_51 : decode cX4_zoneOf 51 = .ok (.iadd, 1) := dk_96 (dk_at dksX4_zoneOf_2 3 rfl rfl)
theorem dX4_zoneOf_52 : decode cX4_zoneOf 52 = .ok (.iaload, 1) := dk_46 (dk_at dksX4_zoneOf_2 4 rfl rfl)
theorem dX4_zoneOf_53 : decode cX4_zoneOf 53 = .ok (.iload_n 1, 1) := dk_27 (dk_at dksX4_zoneOf_2 5 rfl rfl)
theorem dX4_zoneOf_54 : decode cX4_zoneOf 54 = .ok (.if_icmp .ne 7, 3) := dk_160 0 7 (dk_at dksX4_zoneOf_2 6 rfl rfl)
theorem dX4_zoneOf_57 : decode cX4_zoneOf 57 = .ok (.iconst 1, 1) := dk_4 (dk_at dksX4_zoneOf_2 9 rfl rfl)
theorem dX4_zoneOf_58 : decode cX4_zoneOf 58 = .ok (.goto 4, 3) := dk_167 0 4 (dk_at dksX4_zoneOf_2 10 rfl rfl)
theorem dX4_zoneOf_61 : decode cX4_zoneOf 61 = .ok (.iconst 0, 1) := dk_3 (dk_at dksX4_zoneOf_2 13 rfl rfl)
theorem dX4_zoneOf_62 : decode cX4_zoneOf 62 = .ok (.iadd, 1) := dk_96 (dk_at dksX4_zoneOf_2 14 rfl rfl)
theorem dX4_zoneOf_63 : decode cX4_zoneOf 63 = .ok (.istore_n 3, 1) := dk_62 (dk_at dksX4_zoneOf_2 15 rfl rfl)
theorem dX4_zoneOf_64 : decode cX4_zoneOf 64 = .ok (.iinc 4 1, 3) := dk_132 4 1 (dk_at dksX4_zoneOf_2 16 rfl rfl)
theorem dX4_zoneOf_67 : decode cX4_zoneOf 67 = .ok (.goto (-39), 3) := dk_167 255 217 (dk_at dksX4_zoneOf_2 19 rfl rfl)
theorem dX4_zoneOf_70 : decode cX4_zoneOf 70 = .ok (.iload_n 2, 1) := dk_28 (dk_at dksX4_zoneOf_2 22 rfl rfl)
theorem dX4_zoneOf_71 : decode cX4_zoneOf 71 = .ok (.iconst 2, 1) := dk_5 (dk_at dksX4_zoneOf_2 23 rfl rfl)
theorem dX4_zoneOf_72 : decode cX4_zoneOf 72 = .ok (.if_icmp .ge 19, 3) := dk_162 0 19 (dk_at dksX4_zoneOf_3 0 rfl rfl)
theorem dX4_zoneOf_75 : decode cX4_zoneOf 75 = .ok (.aload_n 0, 1) := dk_42 (dk_at dksX4_zoneOf_3 3 rfl rfl)
theorem dX4_zoneOf_76 : decode cX4_zoneOf 76 = .ok (.getfield 7, 3) := dk_180 0 7 (dk_at dksX4_zoneOf_3 4 rfl rfl)
theorem dX4_zoneOf_79 : decode cX4_zoneOf 79 = .ok (.bipush 87, 2) := dk_16 87 (dk_at dksX4_zoneOf_3 7 rfl rfl)
theorem dX4_zoneOf_81 : decode cX4_zoneOf 81 = .ok (.iconst 2, 1) := dk_5 (dk_at dksX4_zoneOf_3 9 rfl rfl)
theorem dX4_zoneOf_82 : decode cX4_zoneOf 82 = .ok (.iload_n 1, 1) := dk_27 (dk_at dksX4_zoneOf_3 10 rfl rfl)
theorem dX4_zoneOf_83 : decode cX4_zoneOf 83 = .ok (.imul, 1) := dk_104 (dk_at dksX4_zoneOf_3 11 rfl rfl)
theorem dX4_zoneOf_84 : decode cX4_zoneOf 84 = .ok (.iadd, 1) := dk_96 (dk_at dksX4_zoneOf_3 12 rfl rfl)
theorem dX4_zoneOf_85 : decode cX4_zoneOf 85 = .ok (.iload_n 2, 1) := dk_28 (dk_at dksX4_zoneOf_3 13 rfl rfl)
theorem dX4_zoneOf_86 : decode cX4_zoneOf 86 = .ok (.iadd, 1) := dk_96 (dk_at dksX4_zoneOf_3 14 rfl rfl)
theorem dX4_zoneOf_87 : decode cX4_zoneOf 87 = .ok (.iaload, 1) := dk_46 (dk_at dksX4_zoneOf_3 15 rfl rfl)
theorem dX4_zoneOf_88 : decode cX4_zoneOf 88 = .ok (.goto 17, 3) := dk_167 0 17 (dk_at dksX4_zoneOf_3 16 rfl rfl)
theorem dX4_zoneOf_91 : decode cX4_zoneOf 91 = .ok (.iload_n 2, 1) := dk_28 (dk_at dksX4_zoneOf_3 19 rfl rfl)
theorem dX4_zoneOf_92 : decode cX4_zoneOf 92 = .ok (.iconst 2, 1) := dk_5 (dk_at dksX4_zoneOf_3 20 rfl rfl)
theorem dX4_zoneOf_93 : decode cX4_zoneOf 93 = .ok (.if_icmp .ne 11, 3) := dk_160 0 11 (dk_at dksX4_zoneOf_3 21 rfl rfl)
theorem dX4_zoneOf_96 : decode cX4_zoneOf 96 = .ok (.aload_n 0, 1) := dk_42 (dk_at dksX4_zoneOf_4 0 rfl rfl)
theorem dX4_zoneOf_97 : decode cX4_zoneOf 97 = .ok (.iload_n 1, 1) := dk_27 (dk_at dksX4_zoneOf_4 1 rfl rfl)
theorem dX4_zoneOf_98 : decode cX4_zoneOf 98 = .ok (.invokevirtual 148, 3) := dk_182 0 148 (dk_at dksX4_zoneOf_4 2 rfl rfl)
theorem dX4_zoneOf_101 : decode cX4_zoneOf 101 = .ok (.goto 4, 3) := dk_167 0 4 (dk_at dksX4_zoneOf_4 5 rfl rfl)
theorem dX4_zoneOf_104 : decode cX4_zoneOf 104 = .ok (.iload_n 3, 1) := dk_29 (dk_at dksX4_zoneOf_4 8 rfl rfl)
theorem dX4_zoneOf_105 : decode cX4_zoneOf 105 = .ok (.ireturn, 1) := dk_172 (dk_at dksX4_zoneOf_4 9 rfl rfl)
abbrev cX4_takes : ByteArray := prog_20_method_38_code
def yX4_takes : MethodName := ⟨RX4, "takes", "(I)I"⟩
def dkwX4_takes_1 : List UInt8 := [46, 104, 17, 1, 144, 108, 167, 0, 4, 3, 172]
abbrev dktX4_takes_1 : List UInt8 := dkwX4_takes_1 ++ []
def dkwX4_takes_0 : List UInt8 := [42, 27, 182, 0, 137, 153, 0, 28, 42, 180, 0, 7, 16, 87, 5, 27, 104, 96, 46, 42, 180, 0, 7, 4]
abbrev dktX4_takes_0 : List UInt8 := dkwX4_takes_0 ++ dktX4_takes_1
theorem dksX4_takes_0 : cX4_takes.data.toList.drop 0 = dktX4_takes_0 := by decide +kernel
theorem dksX4_takes_1 : cX4_takes.data.toList.drop 24 = dktX4_takes_1 := dk_seg dksX4_takes_0 24 rfl rfl
theorem dX4_takes_0 : decode cX4_takes 0 = .ok (.aload_n 0, 1) := dk_42 (dk_at dksX4_takes_0 0 rfl rfl)
theorem dX4_takes_1 : decode cX4_takes 1 = .ok (.iload_n 1, 1) := dk_27 (dk_at dksX4_takes_0 1 rfl rfl)
theorem dX4_takes_2 : decode cX4_takes 2 = .ok (.invokevirtual 137, 3) := dk_182 0 137 (dk_at dksX4_takes_0 2 rfl rfl)
theorem dX4_takes_5 : decode cX4_takes 5 = .ok (.ifCond .eq 28, 3) := dk_153 0 28 (dk_at dksX4_takes_0 5 rfl rfl)
theorem dX4_takes_8 : decode cX4_takes 8 = .ok (.aload_n 0, 1) := dk_42 (dk_at dksX4_takes_0 8 rfl rfl)
theorem dX4_takes_9 : decode cX4_takes 9 = .ok (.getfield 7, 3) := dk_180 0 7 (dk_at dksX4_takes_0 9 rfl rfl)
theorem dX4_takes_12 : decode cX4_takes 12 = .ok (.bipush 87, 2) := dk_16 87 (dk_at dksX4_takes_0 12 rfl rfl)
theorem dX4_takes_14 : decode cX4_takes 14 = .ok (.iconst 2, 1) := dk_5 (dk_at dksX4_takes_0 14 rfl rfl)
theorem dX4_takes_15 : decode cX4_takes 15 = .ok (.iload_n 1, 1) := dk_27 (dk_at dksX4_takes_0 15 rfl rfl)
theorem dX4_takes_16 : decode cX4_takes 16 = .ok (.imul, 1) := dk_104 (dk_at dksX4_takes_0 16 rfl rfl)
theorem dX4_takes_17 : decode cX4_takes 17 = .ok (.iadd, 1) := dk_96 (dk_at dksX4_takes_0 17 rfl rfl)
theorem dX4_takes_18 : decode cX4_takes 18 = .ok (.iaload, 1) := dk_46 (dk_at dksX4_takes_0 18 rfl rfl)
theorem dX4_takes_19 : decode cX4_takes 19 = .ok (.aload_n 0, 1) := dk_42 (dk_at dksX4_takes_0 19 rfl rfl)
theorem dX4_takes_20 : decode cX4_takes 20 = .ok (.getfield 7, 3) := dk_180 0 7 (dk_at dksX4_takes_0 20 rfl rfl)
theorem dX4_takes_23 : decode cX4_takes 23 = .ok (.iconst 1, 1) := dk_4 (dk_at dksX4_takes_0 23 rfl rfl)
theorem dX4_takes_24 : decode cX4_takes 24 = .ok (.iaload, 1) := dk_46 (dk_at dksX4_takes_1 0 rfl rfl)
theorem dX4_takes_25 : decode cX4_takes 25 = .ok (.imul, 1) := dk_104 (dk_at dksX4_takes_1 1 rfl rfl)
theorem dX4_takes_26 : decode cX4_takes 26 = .ok (.sipush 400, 3) := dk_17 1 144 (dk_at dksX4_takes_1 2 rfl rfl)
theorem dX4_takes_29 : decode cX4_takes 29 = .ok (.idiv, 1) := dk_108 (dk_at dksX4_takes_1 5 rfl rfl)
theorem dX4_takes_30 : decode cX4_takes 30 = .ok (.goto 4, 3) := dk_167 0 4 (dk_at dksX4_takes_1 6 rfl rfl)
theorem dX4_takes_33 : decode cX4_takes 33 = .ok (.iconst 0, 1) := dk_3 (dk_at dksX4_takes_1 9 rfl rfl)
theorem dX4_takes_34 : decode cX4_takes 34 = .ok (.ireturn, 1) := dk_172 (dk_at dksX4_takes_1 10 rfl rfl)
abbrev cX4_fill : ByteArray := prog_20_method_40_code
def yX4_fill : MethodName := ⟨RX4, "fill", "(I)I"⟩
def dkwX4_fill_1 : List UInt8 := [46, 61, 42, 180, 0, 7, 5, 27, 79, 28, 172]
abbrev dktX4_fill_1 : List UInt8 := dkwX4_fill_1 ++ []
def dkwX4_fill_0 : List UInt8 := [27, 133, 9, 20, 0, 151, 184, 0, 30, 154, 0, 6, 18, 62, 172, 42, 182, 0, 63, 42, 180, 0, 7, 5]
abbrev dktX4_fill_0 : List UInt8 := dkwX4_fill_0 ++ dktX4_fill_1
theorem dksX4_fill_0 : cX4_fill.data.toList.drop 0 = dktX4_fill_0 := by decide +kernel
theorem dksX4_fill_1 : cX4_fill.data.toList.drop 24 = dktX4_fill_1 := dk_seg dksX4_fill_0 24 rfl rfl
theorem dX4_fill_0 : decode cX4_fill 0 = .ok (.iload_n 1, 1) := dk_27 (dk_at dksX4_fill_0 0 rfl rfl)
theorem dX4_fill_1 : decode cX4_fill 1 = .ok (.i2l, 1) := dk_133 (dk_at dksX4_fill_0 1 rfl rfl)
theorem dX4_fill_2 : decode cX4_fill 2 = .ok (.lconst 0, 1) := dk_9 (dk_at dksX4_fill_0 2 rfl rfl)
theorem dX4_fill_3 : decode cX4_fill 3 = .ok (.ldc2_w 151, 3) := dk_20 0 151 (dk_at dksX4_fill_0 3 rfl rfl)
theorem dX4_fill_6 : decode cX4_fill 6 = .ok (.invokestatic 30, 3) := dk_184 0 30 (dk_at dksX4_fill_0 6 rfl rfl)
theorem dX4_fill_9 : decode cX4_fill 9 = .ok (.ifCond .ne 6, 3) := dk_154 0 6 (dk_at dksX4_fill_0 9 rfl rfl)
theorem dX4_fill_12 : decode cX4_fill 12 = .ok (.ldc 62, 2) := dk_18 62 (dk_at dksX4_fill_0 12 rfl rfl)
theorem dX4_fill_14 : decode cX4_fill 14 = .ok (.ireturn, 1) := dk_172 (dk_at dksX4_fill_0 14 rfl rfl)
theorem dX4_fill_15 : decode cX4_fill 15 = .ok (.aload_n 0, 1) := dk_42 (dk_at dksX4_fill_0 15 rfl rfl)
theorem dX4_fill_16 : decode cX4_fill 16 = .ok (.invokevirtual 63, 3) := dk_182 0 63 (dk_at dksX4_fill_0 16 rfl rfl)
theorem dX4_fill_19 : decode cX4_fill 19 = .ok (.aload_n 0, 1) := dk_42 (dk_at dksX4_fill_0 19 rfl rfl)
theorem dX4_fill_20 : decode cX4_fill 20 = .ok (.getfield 7, 3) := dk_180 0 7 (dk_at dksX4_fill_0 20 rfl rfl)
theorem dX4_fill_23 : decode cX4_fill 23 = .ok (.iconst 2, 1) := dk_5 (dk_at dksX4_fill_0 23 rfl rfl)
theorem dX4_fill_24 : decode cX4_fill 24 = .ok (.iaload, 1) := dk_46 (dk_at dksX4_fill_1 0 rfl rfl)
theorem dX4_fill_25 : decode cX4_fill 25 = .ok (.istore_n 2, 1) := dk_61 (dk_at dksX4_fill_1 1 rfl rfl)
theorem dX4_fill_26 : decode cX4_fill 26 = .ok (.aload_n 0, 1) := dk_42 (dk_at dksX4_fill_1 2 rfl rfl)
theorem dX4_fill_27 : decode cX4_fill 27 = .ok (.getfield 7, 3) := dk_180 0 7 (dk_at dksX4_fill_1 3 rfl rfl)
theorem dX4_fill_30 : decode cX4_fill 30 = .ok (.iconst 2, 1) := dk_5 (dk_at dksX4_fill_1 6 rfl rfl)
theorem dX4_fill_31 : decode cX4_fill 31 = .ok (.iload_n 1, 1) := dk_27 (dk_at dksX4_fill_1 7 rfl rfl)
theorem dX4_fill_32 : decode cX4_fill 32 = .ok (.iastore, 1) := dk_79 (dk_at dksX4_fill_1 8 rfl rfl)
theorem dX4_fill_33 : decode cX4_fill 33 = .ok (.iload_n 2, 1) := dk_28 (dk_at dksX4_fill_1 9 rfl rfl)
theorem dX4_fill_34 : decode cX4_fill 34 = .ok (.ireturn, 1) := dk_172 (dk_at dksX4_fill_1 10 rfl rfl)
abbrev cX4_reset : ByteArray := prog_20_method_42_code
def yX4_reset : MethodName := ⟨RX4, "reset", "()I"⟩
def dkwX4_reset_0 : List UInt8 := [42, 180, 0, 7, 16, 6, 46, 154, 0, 6, 18, 123, 172, 42, 182, 0, 63, 42, 182, 0, 153, 172]
abbrev dktX4_reset_0 : List UInt8 := dkwX4_reset_0 ++ []
theorem dksX4_reset_0 : cX4_reset.data.toList.drop 0 = dktX4_reset_0 := by decide +kernel
theorem dX4_reset_0 : decode cX4_reset 0 = .ok (.aload_n 0, 1) := dk_42 (dk_at dksX4_reset_0 0 rfl rfl)
theorem dX4_reset_1 : decode cX4_reset 1 = .ok (.getfield 7, 3) := dk_180 0 7 (dk_at dksX4_reset_0 1 rfl rfl)
theorem dX4_reset_4 : decode cX4_reset 4 = .ok (.bipush 6, 2) := dk_16 6 (dk_at dksX4_reset_0 4 rfl rfl)
theorem dX4_reset_6 : decode cX4_reset 6 = .ok (.iaload, 1) := dk_46 (dk_at dksX4_reset_0 6 rfl rfl)
theorem dX4_reset_7 : decode cX4_reset 7 = .ok (.ifCond .ne 6, 3) := dk_154 0 6 (dk_at dksX4_reset_0 7 rfl rfl)
theorem dX4_reset_10 : decode cX4_reset 10 = .ok (.ldc 123, 2) := dk_18 123 (dk_at dksX4_reset_0 10 rfl rfl)
theorem dX4_reset_12 : decode cX4_reset 12 = .ok (.ireturn, 1) := dk_172 (dk_at dksX4_reset_0 12 rfl rfl)
theorem dX4_reset_13 : decode cX4_reset 13 = .ok (.aload_n 0, 1) := dk_42 (dk_at dksX4_reset_0 13 rfl rfl)
theorem dX4_reset_14 : decode cX4_reset 14 = .ok (.invokevirtual 63, 3) := dk_182 0 63 (dk_at dksX4_reset_0 14 rfl rfl)
theorem dX4_reset_17 : decode cX4_reset 17 = .ok (.aload_n 0, 1) := dk_42 (dk_at dksX4_reset_0 17 rfl rfl)
theorem dX4_reset_18 : decode cX4_reset 18 = .ok (.invokevirtual 153, 3) := dk_182 0 153 (dk_at dksX4_reset_0 18 rfl rfl)
theorem dX4_reset_21 : decode cX4_reset 21 = .ok (.ireturn, 1) := dk_172 (dk_at dksX4_reset_0 21 rfl rfl)
abbrev cX4_resets : ByteArray := prog_20_method_41_code
def yX4_resets : MethodName := ⟨RX4, "resets", "()I"⟩
def dkwX4_resets_2 : List UInt8 := [79, 42, 8, 2, 182, 0, 105, 27, 172]
abbrev dktX4_resets_2 : List UInt8 := dkwX4_resets_2 ++ []
def dkwX4_resets_1 : List UInt8 := [160, 0, 31, 42, 180, 0, 7, 5, 46, 42, 16, 12, 182, 0, 66, 161, 0, 16, 42, 180, 0, 7, 8, 3]
abbrev dktX4_resets_1 : List UInt8 := dkwX4_resets_1 ++ dktX4_resets_2
def dkwX4_resets_0 : List UInt8 := [42, 180, 0, 7, 16, 6, 46, 60, 42, 180, 0, 7, 16, 6, 3, 79, 42, 180, 0, 7, 8, 46, 4]
abbrev dktX4_resets_0 : List UInt8 := dkwX4_resets_0 ++ dktX4_resets_1
theorem dksX4_resets_0 : cX4_resets.data.toList.drop 0 = dktX4_resets_0 := by decide +kernel
theorem dksX4_resets_1 : cX4_resets.data.toList.drop 23 = dktX4_resets_1 := dk_seg dksX4_resets_0 23 rfl rfl
theorem dksX4_resets_2 : cX4_resets.data.toList.drop 47 = dktX4_resets_2 := dk_seg dksX4_resets_1 24 rfl rfl
theorem dX4_resets_0 : decode cX4_resets 0 = .ok (.aload_n 0, 1) := dk_42 (dk_at dksX4_resets_0 0 rfl rfl)
theorem dX4_resets_1 : decode cX4_resets 1 = .ok (.getfield 7, 3) := dk_180 0 7 (dk_at dksX4_resets_0 1 rfl rfl)
theorem dX4_resets_4 : decode cX4_resets 4 = .ok (.bipush 6, 2) := dk_16 6 (dk_at dksX4_resets_0 4 rfl rfl)
theorem dX4_resets_6 : decode cX4_resets 6 = .ok (.iaload, 1) := dk_46 (dk_at dksX4_resets_0 6 rfl rfl)
theorem dX4_resets_7 : decode cX4_resets 7 = .ok (.istore_n 1, 1) := dk_60 (dk_at dksX4_resets_0 7 rfl rfl)
theorem dX4_resets_8 : decode cX4_resets 8 = .ok (.aload_n 0, 1) := dk_42 (dk_at dksX4_resets_0 8 rfl rfl)
theorem dX4_resets_9 : decode cX4_resets 9 = .ok (.getfield 7, 3) := dk_180 0 7 (dk_at dksX4_resets_0 9 rfl rfl)
theorem dX4_resets_12 : decode cX4_resets 12 = .ok (.bipush 6, 2) := dk_16 6 (dk_at dksX4_resets_0 12 rfl rfl)
theorem dX4_resets_14 : decode cX4_resets 14 = .ok (.iconst 0, 1) := dk_3 (dk_at dksX4_resets_0 14 rfl rfl)
theorem dX4_resets_15 : decode cX4_resets 15 = .ok (.iastore, 1) := dk_79 (dk_at dksX4_resets_0 15 rfl rfl)
theorem dX4_resets_16 : decode cX4_resets 16 = .ok (.aload_n 0, 1) := dk_42 (dk_at dksX4_resets_0 16 rfl rfl)
theorem dX4_resets_17 : decode cX4_resets 17 = .ok (.getfield 7, 3) := dk_180 0 7 (dk_at dksX4_resets_0 17 rfl rfl)
theorem dX4_resets_20 : decode cX4_resets 20 = .ok (.iconst 5, 1) := dk_8 (dk_at dksX4_resets_0 20 rfl rfl)
theorem dX4_resets_21 : decode cX4_resets 21 = .ok (.iaload, 1) := dk_46 (dk_at dksX4_resets_0 21 rfl rfl)
theorem dX4_resets_22 : decode cX4_resets 22 = .ok (.iconst 1, 1) := dk_4 (dk_at dksX4_resets_0 22 rfl rfl)
theorem dX4_resets_23 : decode cX4_resets 23 = .ok (.if_icmp .ne 31, 3) := dk_160 0 31 (dk_at dksX4_resets_1 0 rfl rfl)
theorem dX4_resets_26 : decode cX4_resets 26 = .ok (.aload_n 0, 1) := dk_42 (dk_at dksX4_resets_1 3 rfl rfl)
theorem dX4_resets_27 : decode cX4_resets 27 = .ok (.getfield 7, 3) := dk_180 0 7 (dk_at dksX4_resets_1 4 rfl rfl)
theorem dX4_resets_30 : decode cX4_resets 30 = .ok (.iconst 2, 1) := dk_5 (dk_at dksX4_resets_1 7 rfl rfl)
theorem dX4_resets_31 : decode cX4_resets 31 = .ok (.iaload, 1) := dk_46 (dk_at dksX4_resets_1 8 rfl rfl)
theorem dX4_resets_32 : decode cX4_resets 32 = .ok (.aload_n 0, 1) := dk_42 (dk_at dksX4_resets_1 9 rfl rfl)
theorem dX4_resets_33 : decode cX4_resets 33 = .ok (.bipush 12, 2) := dk_16 12 (dk_at dksX4_resets_1 10 rfl rfl)
theorem dX4_resets_35 : decode cX4_resets 35 = .ok (.invokevirtual 66, 3) := dk_182 0 66 (dk_at dksX4_resets_1 12 rfl rfl)
theorem dX4_resets_38 : decode cX4_resets 38 = .ok (.if_icmp .lt 16, 3) := dk_161 0 16 (dk_at dksX4_resets_1 15 rfl rfl)
theorem dX4_resets_41 : decode cX4_resets 41 = .ok (.aload_n 0, 1) := dk_42 (dk_at dksX4_resets_1 18 rfl rfl)
theorem dX4_resets_42 : decode cX4_resets 42 = .ok (.getfield 7, 3) := dk_180 0 7 (dk_at dksX4_resets_1 19 rfl rfl)
theorem dX4_resets_45 : decode cX4_resets 45 = .ok (.iconst 5, 1) := dk_8 (dk_at dksX4_resets_1 22 rfl rfl)
theorem dX4_resets_46 : decode cX4_resets 46 = .ok (.iconst 0, 1) := dk_3 (dk_at dksX4_resets_1 23 rfl rfl)
theorem dX4_resets_47 : decode cX4_resets 47 = .ok (.iastore, 1) := dk_79 (dk_at dksX4_resets_2 0 rfl rfl)
theorem dX4_resets_48 : decode cX4_resets 48 = .ok (.aload_n 0, 1) := dk_42 (dk_at dksX4_resets_2 1 rfl rfl)
theorem dX4_resets_49 : decode cX4_resets 49 = .ok (.iconst 5, 1) := dk_8 (dk_at dksX4_resets_2 2 rfl rfl)
theorem dX4_resets_50 : decode cX4_resets 50 = .ok (.iconst (-1), 1) := dk_2 (dk_at dksX4_resets_2 3 rfl rfl)
theorem dX4_resets_51 : decode cX4_resets 51 = .ok (.invokevirtual 105, 3) := dk_182 0 105 (dk_at dksX4_resets_2 4 rfl rfl)
theorem dX4_resets_54 : decode cX4_resets 54 = .ok (.iload_n 1, 1) := dk_27 (dk_at dksX4_resets_2 7 rfl rfl)
theorem dX4_resets_55 : decode cX4_resets 55 = .ok (.ireturn, 1) := dk_172 (dk_at dksX4_resets_2 8 rfl rfl)
abbrev cX4_pass : ByteArray := prog_20_method_62_code
def yX4_pass : MethodName := ⟨RX4, "pass", "(I)I"⟩
def dkwX4_pass_1 : List UInt8 := [180, 0, 7, 3, 46, 172]
abbrev dktX4_pass_1 : List UInt8 := dkwX4_pass_1 ++ []
def dkwX4_pass_0 : List UInt8 := [42, 27, 182, 0, 213, 61, 28, 153, 0, 5, 28, 172, 42, 182, 0, 63, 42, 27, 182, 0, 216, 42]
abbrev dktX4_pass_0 : List UInt8 := dkwX4_pass_0 ++ dktX4_pass_1
theorem dksX4_pass_0 : cX4_pass.data.toList.drop 0 = dktX4_pass_0 := by decide +kernel
theorem dksX4_pass_1 : cX4_pass.data.toList.drop 22 = dktX4_pass_1 := dk_seg dksX4_pass_0 22 rfl rfl
theorem dX4_pass_0 : decode cX4_pass 0 = .ok (.aload_n 0, 1) := dk_42 (dk_at dksX4_pass_0 0 rfl rfl)
theorem dX4_pass_1 : decode cX4_pass 1 = .ok (.iload_n 1, 1) := dk_27 (dk_at dksX4_pass_0 1 rfl rfl)
theorem dX4_pass_2 : decode cX4_pass 2 = .ok (.invokevirtual 213, 3) := dk_182 0 213 (dk_at dksX4_pass_0 2 rfl rfl)
theorem dX4_pass_5 : decode cX4_pass 5 = .ok (.istore_n 2, 1) := dk_61 (dk_at dksX4_pass_0 5 rfl rfl)
theorem dX4_pass_6 : decode cX4_pass 6 = .ok (.iload_n 2, 1) := dk_28 (dk_at dksX4_pass_0 6 rfl rfl)
theorem dX4_pass_7 : decode cX4_pass 7 = .ok (.ifCond .eq 5, 3) := dk_153 0 5 (dk_at dksX4_pass_0 7 rfl rfl)
theorem dX4_pass_10 : decode cX4_pass 10 = .ok (.iload_n 2, 1) := dk_28 (dk_at dksX4_pass_0 10 rfl rfl)
theorem dX4_pass_11 : decode cX4_pass 11 = .ok (.ireturn, 1) := dk_172 (dk_at dksX4_pass_0 11 rfl rfl)
theorem dX4_pass_12 : decode cX4_pass 12 = .ok (.aload_n 0, 1) := dk_42 (dk_at dksX4_pass_0 12 rfl rfl)
theorem dX4_pass_13 : decode cX4_pass 13 = .ok (.invokevirtual 63, 3) := dk_182 0 63 (dk_at dksX4_pass_0 13 rfl rfl)
theorem dX4_pass_16 : decode cX4_pass 16 = .ok (.aload_n 0, 1) := dk_42 (dk_at dksX4_pass_0 16 rfl rfl)
theorem dX4_pass_17 : decode cX4_pass 17 = .ok (.iload_n 1, 1) := dk_27 (dk_at dksX4_pass_0 17 rfl rfl)
theorem dX4_pass_18 : decode cX4_pass 18 = .ok (.invokevirtual 216, 3) := dk_182 0 216 (dk_at dksX4_pass_0 18 rfl rfl)
theorem dX4_pass_21 : decode cX4_pass 21 = .ok (.aload_n 0, 1) := dk_42 (dk_at dksX4_pass_0 21 rfl rfl)
theorem dX4_pass_22 : decode cX4_pass 22 = .ok (.getfield 7, 3) := dk_180 0 7 (dk_at dksX4_pass_1 0 rfl rfl)
theorem dX4_pass_25 : decode cX4_pass 25 = .ok (.iconst 0, 1) := dk_3 (dk_at dksX4_pass_1 3 rfl rfl)
theorem dX4_pass_26 : decode cX4_pass 26 = .ok (.iaload, 1) := dk_46 (dk_at dksX4_pass_1 4 rfl rfl)
theorem dX4_pass_27 : decode cX4_pass 27 = .ok (.ireturn, 1) := dk_172 (dk_at dksX4_pass_1 5 rfl rfl)
abbrev cX4_passFault : ByteArray := prog_20_method_61_code
def yX4_passFault : MethodName := ⟨RX4, "passFault", "(I)I"⟩
def dkwX4_passFault_1 : List UInt8 := [96, 17, 78, 32, 164, 0, 8, 18, 73, 167, 0, 4, 3, 172]
abbrev dktX4_passFault_1 : List UInt8 := dkwX4_passFault_1 ++ []
def dkwX4_passFault_0 : List UInt8 := [27, 133, 10, 20, 0, 211, 184, 0, 30, 154, 0, 8, 18, 62, 167, 0, 23, 42, 180, 0, 7, 3, 46, 27]
abbrev dktX4_passFault_0 : List UInt8 := dkwX4_passFault_0 ++ dktX4_passFault_1
theorem dksX4_passFault_0 : cX4_passFault.data.toList.drop 0 = dktX4_passFault_0 := by decide +kernel
theorem dksX4_passFault_1 : cX4_passFault.data.toList.drop 24 = dktX4_passFault_1 := dk_seg dksX4_passFault_0 24 rfl rfl
theorem dX4_passFault_0 : decode cX4_passFault 0 = .ok (.iload_n 1, 1) := dk_27 (dk_at dksX4_passFault_0 0 rfl rfl)
theorem dX4_passFault_1 : decode cX4_passFault 1 = .ok (.i2l, 1) := dk_133 (dk_at dksX4_passFault_0 1 rfl rfl)
theorem dX4_passFault_2 : decode cX4_passFault 2 = .ok (.lconst 1, 1) := dk_10 (dk_at dksX4_passFault_0 2 rfl rfl)
theorem dX4_passFault_3 : decode cX4_passFault 3 = .ok (.ldc2_w 211, 3) := dk_20 0 211 (dk_at dksX4_passFault_0 3 rfl rfl)
theorem dX4_passFault_6 : decode cX4_passFault 6 = .ok (.invokestatic 30, 3) := dk_184 0 30 (dk_at dksX4_passFault_0 6 rfl rfl)
theorem dX4_passFault_9 : decode cX4_passFault 9 = .ok (.ifCond .ne 8, 3) := dk_154 0 8 (dk_at dksX4_passFault_0 9 rfl rfl)
theorem dX4_passFault_12 : decode cX4_passFault 12 = .ok (.ldc 62, 2) := dk_18 62 (dk_at dksX4_passFault_0 12 rfl rfl)
theorem dX4_passFault_14 : decode cX4_passFault 14 = .ok (.goto 23, 3) := dk_167 0 23 (dk_at dksX4_passFault_0 14 rfl rfl)
theorem dX4_passFault_17 : decode cX4_passFault 17 = .ok (.aload_n 0, 1) := dk_42 (dk_at dksX4_passFault_0 17 rfl rfl)
theorem dX4_passFault_18 : decode cX4_passFault 18 = .ok (.getfield 7, 3) := dk_180 0 7 (dk_at dksX4_passFault_0 18 rfl rfl)
theorem dX4_passFault_21 : decode cX4_passFault 21 = .ok (.iconst 0, 1) := dk_3 (dk_at dksX4_passFault_0 21 rfl rfl)
theorem dX4_passFault_22 : decode cX4_passFault 22 = .ok (.iaload, 1) := dk_46 (dk_at dksX4_passFault_0 22 rfl rfl)
theorem dX4_passFault_23 : decode cX4_passFault 23 = .ok (.iload_n 1, 1) := dk_27 (dk_at dksX4_passFault_0 23 rfl rfl)
theorem dX4_passFault_24 : decode cX4_passFault 24 = .ok (.iadd, 1) := dk_96 (dk_at dksX4_passFault_1 0 rfl rfl)
theorem dX4_passFault_25 : decode cX4_passFault 25 = .ok (.sipush 20000, 3) := dk_17 78 32 (dk_at dksX4_passFault_1 1 rfl rfl)
theorem dX4_passFault_28 : decode cX4_passFault 28 = .ok (.if_icmp .le 8, 3) := dk_164 0 8 (dk_at dksX4_passFault_1 4 rfl rfl)
theorem dX4_passFault_31 : decode cX4_passFault 31 = .ok (.ldc 73, 2) := dk_18 73 (dk_at dksX4_passFault_1 7 rfl rfl)
theorem dX4_passFault_33 : decode cX4_passFault 33 = .ok (.goto 4, 3) := dk_167 0 4 (dk_at dksX4_passFault_1 9 rfl rfl)
theorem dX4_passFault_36 : decode cX4_passFault 36 = .ok (.iconst 0, 1) := dk_3 (dk_at dksX4_passFault_1 12 rfl rfl)
theorem dX4_passFault_37 : decode cX4_passFault 37 = .ok (.ireturn, 1) := dk_172 (dk_at dksX4_passFault_1 13 rfl rfl)
abbrev cX4_minutes : ByteArray := prog_20_method_60_code
def yX4_minutes : MethodName := ⟨RX4, "minutes", "(I)V"⟩
def dkwX4_minutes_0 : List UInt8 := [3, 61, 28, 27, 162, 0, 13, 42, 182, 0, 208, 132, 2, 1, 167, 255, 244, 177]
abbrev dktX4_minutes_0 : List UInt8 := dkwX4_minutes_0 ++ []
theorem dksX4_minutes_0 : cX4_minutes.data.toList.drop 0 = dktX4_minutes_0 := by decide +kernel
theorem dX4_minutes_0 : decode cX4_minutes 0 = .ok (.iconst 0, 1) := dk_3 (dk_at dksX4_minutes_0 0 rfl rfl)
theorem dX4_minutes_1 : decode cX4_minutes 1 = .ok (.istore_n 2, 1) := dk_61 (dk_at dksX4_minutes_0 1 rfl rfl)
theorem dX4_minutes_2 : decode cX4_minutes 2 = .ok (.iload_n 2, 1) := dk_28 (dk_at dksX4_minutes_0 2 rfl rfl)
theorem dX4_minutes_3 : decode cX4_minutes 3 = .ok (.iload_n 1, 1) := dk_27 (dk_at dksX4_minutes_0 3 rfl rfl)
theorem dX4_minutes_4 : decode cX4_minutes 4 = .ok (.if_icmp .ge 13, 3) := dk_162 0 13 (dk_at dksX4_minutes_0 4 rfl rfl)
theorem dX4_minutes_7 : decode cX4_minutes 7 = .ok (.aload_n 0, 1) := dk_42 (dk_at dksX4_minutes_0 7 rfl rfl)
theorem dX4_minutes_8 : decode cX4_minutes 8 = .ok (.invokevirtual 208, 3) := dk_182 0 208 (dk_at dksX4_minutes_0 8 rfl rfl)
theorem dX4_minutes_11 : decode cX4_minutes 11 = .ok (.iinc 2 1, 3) := dk_132 2 1 (dk_at dksX4_minutes_0 11 rfl rfl)
theorem dX4_minutes_14 : decode cX4_minutes 14 = .ok (.goto (-12), 3) := dk_167 255 244 (dk_at dksX4_minutes_0 14 rfl rfl)
theorem dX4_minutes_17 : decode cX4_minutes 17 = .ok (.return_, 1) := dk_177 (dk_at dksX4_minutes_0 17 rfl rfl)
abbrev cX4_minute : ByteArray := prog_20_method_59_code
def yX4_minute : MethodName := ⟨RX4, "minute", "()V"⟩
def dkwX4_minute_4 : List UInt8 := [182, 0, 105, 42, 182, 0, 199, 42, 182, 0, 202, 42, 182, 0, 205, 177]
abbrev dktX4_minute_4 : List UInt8 := dkwX4_minute_4 ++ []
def dkwX4_minute_3 : List UInt8 := [162, 0, 27, 42, 3, 182, 0, 133, 2, 159, 0, 18, 42, 42, 3, 182, 0, 133, 182, 0, 175, 42, 6, 2]
abbrev dktX4_minute_3 : List UInt8 := dkwX4_minute_3 ++ dktX4_minute_4
def dkwX4_minute_2 : List UInt8 := [182, 0, 92, 154, 0, 48, 42, 180, 0, 7, 4, 46, 42, 3, 182, 0, 66, 42, 16, 9, 182, 0, 66, 100]
abbrev dktX4_minute_2 : List UInt8 := dkwX4_minute_2 ++ dktX4_minute_3
def dkwX4_minute_1 : List UInt8 := [182, 0, 193, 42, 180, 0, 7, 8, 46, 4, 160, 0, 8, 42, 182, 0, 178, 177, 42, 182, 0, 196, 42]
abbrev dktX4_minute_1 : List UInt8 := dkwX4_minute_1 ++ dktX4_minute_2
def dkwX4_minute_0 : List UInt8 := [42, 180, 0, 7, 3, 92, 46, 4, 96, 79, 42, 182, 0, 184, 42, 182, 0, 187, 42, 182, 0, 190, 42]
abbrev dktX4_minute_0 : List UInt8 := dkwX4_minute_0 ++ dktX4_minute_1
theorem dksX4_minute_0 : cX4_minute.data.toList.drop 0 = dktX4_minute_0 := by decide +kernel
theorem dksX4_minute_1 : cX4_minute.data.toList.drop 23 = dktX4_minute_1 := dk_seg dksX4_minute_0 23 rfl rfl
theorem dksX4_minute_2 : cX4_minute.data.toList.drop 46 = dktX4_minute_2 := dk_seg dksX4_minute_1 23 rfl rfl
theorem dksX4_minute_3 : cX4_minute.data.toList.drop 70 = dktX4_minute_3 := dk_seg dksX4_minute_2 24 rfl rfl
theorem dksX4_minute_4 : cX4_minute.data.toList.drop 94 = dktX4_minute_4 := dk_seg dksX4_minute_3 24 rfl rfl
theorem dX4_minute_0 : decode cX4_minute 0 = .ok (.aload_n 0, 1) := dk_42 (dk_at dksX4_minute_0 0 rfl rfl)
theorem dX4_minute_1 : decode cX4_minute 1 = .ok (.getfield 7, 3) := dk_180 0 7 (dk_at dksX4_minute_0 1 rfl rfl)
theorem dX4_minute_4 : decode cX4_minute 4 = .ok (.iconst 0, 1) := dk_3 (dk_at dksX4_minute_0 4 rfl rfl)
theorem dX4_minute_5 : decode cX4_minute 5 = .ok (.dup2, 1) := dk_92 (dk_at dksX4_minute_0 5 rfl rfl)
theorem dX4_minute_6 : decode cX4_minute 6 = .ok (.iaload, 1) := dk_46 (dk_at dksX4_minute_0 6 rfl rfl)
theorem dX4_minute_7 : decode cX4_minute 7 = .ok (.iconst 1, 1) := dk_4 (dk_at dksX4_minute_0 7 rfl rfl)
theorem dX4_minute_8 : decode cX4_minute 8 = .ok (.iadd, 1) := dk_96 (dk_at dksX4_minute_0 8 rfl rfl)
theorem dX4_minute_9 : decode cX4_minute 9 = .ok (.iastore, 1) := dk_79 (dk_at dksX4_minute_0 9 rfl rfl)
theorem dX4_minute_10 : decode cX4_minute 10 = .ok (.aload_n 0, 1) := dk_42 (dk_at dksX4_minute_0 10 rfl rfl)
theorem dX4_minute_11 : decode cX4_minute 11 = .ok (.invokevirtual 184, 3) := dk_182 0 184 (dk_at dksX4_minute_0 11 rfl rfl)
theorem dX4_minute_14 : decode cX4_minute 14 = .ok (.aload_n 0, 1) := dk_42 (dk_at dksX4_minute_0 14 rfl rfl)
theorem dX4_minute_15 : decode cX4_minute 15 = .ok (.invokevirtual 187, 3) := dk_182 0 187 (dk_at dksX4_minute_0 15 rfl rfl)
theorem dX4_minute_18 : decode cX4_minute 18 = .ok (.aload_n 0, 1) := dk_42 (dk_at dksX4_minute_0 18 rfl rfl)
theorem dX4_minute_19 : decode cX4_minute 19 = .ok (.invokevirtual 190, 3) := dk_182 0 190 (dk_at dksX4_minute_0 19 rfl rfl)
theorem dX4_minute_22 : decode cX4_minute 22 = .ok (.aload_n 0, 1) := dk_42 (dk_at dksX4_minute_0 22 rfl rfl)
theorem dX4_minute_23 : decode cX4_minute 23 = .ok (.invokevirtual 193, 3) := dk_182 0 193 (dk_at dksX4_minute_1 0 rfl rfl)
theorem dX4_minute_26 : decode cX4_minute 26 = .ok (.aload_n 0, 1) := dk_42 (dk_at dksX4_minute_1 3 rfl rfl)
theorem dX4_minute_27 : decode cX4_minute 27 = .ok (.getfield 7, 3) := dk_180 0 7 (dk_at dksX4_minute_1 4 rfl rfl)
theorem dX4_minute_30 : decode cX4_minute 30 = .ok (.iconst 5, 1) := dk_8 (dk_at dksX4_minute_1 7 rfl rfl)
theorem dX4_minute_31 : decode cX4_minute 31 = .ok (.iaload, 1) := dk_46 (dk_at dksX4_minute_1 8 rfl rfl)
theorem dX4_minute_32 : decode cX4_minute 32 = .ok (.iconst 1, 1) := dk_4 (dk_at dksX4_minute_1 9 rfl rfl)
theorem dX4_minute_33 : decode cX4_minute 33 = .ok (.if_icmp .ne 8, 3) := dk_160 0 8 (dk_at dksX4_minute_1 10 rfl rfl)
theorem dX4_minute_36 : decode cX4_minute 36 = .ok (.aload_n 0, 1) := dk_42 (dk_at dksX4_minute_1 13 rfl rfl)
theorem dX4_minute_37 : decode cX4_minute 37 = .ok (.invokevirtual 178, 3) := dk_182 0 178 (dk_at dksX4_minute_1 14 rfl rfl)
theorem dX4_minute_40 : decode cX4_minute 40 = .ok (.return_, 1) := dk_177 (dk_at dksX4_minute_1 17 rfl rfl)
theorem dX4_minute_41 : decode cX4_minute 41 = .ok (.aload_n 0, 1) := dk_42 (dk_at dksX4_minute_1 18 rfl rfl)
theorem dX4_minute_42 : decode cX4_minute 42 = .ok (.invokevirtual 196, 3) := dk_182 0 196 (dk_at dksX4_minute_1 19 rfl rfl)
theorem dX4_minute_45 : decode cX4_minute 45 = .ok (.aload_n 0, 1) := dk_42 (dk_at dksX4_minute_1 22 rfl rfl)
theorem dX4_minute_46 : decode cX4_minute 46 = .ok (.invokevirtual 92, 3) := dk_182 0 92 (dk_at dksX4_minute_2 0 rfl rfl)
theorem dX4_minute_49 : decode cX4_minute 49 = .ok (.ifCond .ne 48, 3) := dk_154 0 48 (dk_at dksX4_minute_2 3 rfl rfl)
theorem dX4_minute_52 : decode cX4_minute 52 = .ok (.aload_n 0, 1) := dk_42 (dk_at dksX4_minute_2 6 rfl rfl)
theorem dX4_minute_53 : decode cX4_minute 53 = .ok (.getfield 7, 3) := dk_180 0 7 (dk_at dksX4_minute_2 7 rfl rfl)
theorem dX4_minute_56 : decode cX4_minute 56 = .ok (.iconst 1, 1) := dk_4 (dk_at dksX4_minute_2 10 rfl rfl)
theorem dX4_minute_57 : decode cX4_minute 57 = .ok (.iaload, 1) := dk_46 (dk_at dksX4_minute_2 11 rfl rfl)
theorem dX4_minute_58 : decode cX4_minute 58 = .ok (.aload_n 0, 1) := dk_42 (dk_at dksX4_minute_2 12 rfl rfl)
theorem dX4_minute_59 : decode cX4_minute 59 = .ok (.iconst 0, 1) := dk_3 (dk_at dksX4_minute_2 13 rfl rfl)
theorem dX4_minute_60 : decode cX4_minute 60 = .ok (.invokevirtual 66, 3) := dk_182 0 66 (dk_at dksX4_minute_2 14 rfl rfl)
theorem dX4_minute_63 : decode cX4_minute 63 = .ok (.aload_n 0, 1) := dk_42 (dk_at dksX4_minute_2 17 rfl rfl)
theorem dX4_minute_64 : decode cX4_minute 64 = .ok (.bipush 9, 2) := dk_16 9 (dk_at dksX4_minute_2 18 rfl rfl)
theorem dX4_minute_66 : decode cX4_minute 66 = .ok (.invokevirtual 66, 3) := dk_182 0 66 (dk_at dksX4_minute_2 20 rfl rfl)
theorem dX4_minute_69 : decode cX4_minute 69 = .ok (.isub, 1) := dk_100 (dk_at dksX4_minute_2 23 rfl rfl)
theorem dX4_minute_70 : decode cX4_minute 70 = .ok (.if_icmp .ge 27, 3) := dk_162 0 27 (dk_at dksX4_minute_3 0 rfl rfl)
theorem dX4_minute_73 : decode cX4_minute 73 = .ok (.aload_n 0, 1) := dk_42 (dk_at dksX4_minute_3 3 rfl rfl)
theorem dX4_minute_74 : decode cX4_minute 74 = .ok (.iconst 0, 1) := dk_3 (dk_at dksX4_minute_3 4 rfl rfl)
theorem dX4_minute_75 : decode cX4_minute 75 = .ok (.invokevirtual 133, 3) := dk_182 0 133 (dk_at dksX4_minute_3 5 rfl rfl)
theorem dX4_minute_78 : decode cX4_minute 78 = .ok (.iconst (-1), 1) := dk_2 (dk_at dksX4_minute_3 8 rfl rfl)
theorem dX4_minute_79 : decode cX4_minute 79 = .ok (.if_icmp .eq 18, 3) := dk_159 0 18 (dk_at dksX4_minute_3 9 rfl rfl)
theorem dX4_minute_82 : decode cX4_minute 82 = .ok (.aload_n 0, 1) := dk_42 (dk_at dksX4_minute_3 12 rfl rfl)
theorem dX4_minute_83 : decode cX4_minute 83 = .ok (.aload_n 0, 1) := dk_42 (dk_at dksX4_minute_3 13 rfl rfl)
theorem dX4_minute_84 : decode cX4_minute 84 = .ok (.iconst 0, 1) := dk_3 (dk_at dksX4_minute_3 14 rfl rfl)
theorem dX4_minute_85 : decode cX4_minute 85 = .ok (.invokevirtual 133, 3) := dk_182 0 133 (dk_at dksX4_minute_3 15 rfl rfl)
theorem dX4_minute_88 : decode cX4_minute 88 = .ok (.invokevirtual 175, 3) := dk_182 0 175 (dk_at dksX4_minute_3 18 rfl rfl)
theorem dX4_minute_91 : decode cX4_minute 91 = .ok (.aload_n 0, 1) := dk_42 (dk_at dksX4_minute_3 21 rfl rfl)
theorem dX4_minute_92 : decode cX4_minute 92 = .ok (.iconst 3, 1) := dk_6 (dk_at dksX4_minute_3 22 rfl rfl)
theorem dX4_minute_93 : decode cX4_minute 93 = .ok (.iconst (-1), 1) := dk_2 (dk_at dksX4_minute_3 23 rfl rfl)
theorem dX4_minute_94 : decode cX4_minute 94 = .ok (.invokevirtual 105, 3) := dk_182 0 105 (dk_at dksX4_minute_4 0 rfl rfl)
theorem dX4_minute_97 : decode cX4_minute 97 = .ok (.aload_n 0, 1) := dk_42 (dk_at dksX4_minute_4 3 rfl rfl)
theorem dX4_minute_98 : decode cX4_minute 98 = .ok (.invokevirtual 199, 3) := dk_182 0 199 (dk_at dksX4_minute_4 4 rfl rfl)
theorem dX4_minute_101 : decode cX4_minute 101 = .ok (.aload_n 0, 1) := dk_42 (dk_at dksX4_minute_4 7 rfl rfl)
theorem dX4_minute_102 : decode cX4_minute 102 = .ok (.invokevirtual 202, 3) := dk_182 0 202 (dk_at dksX4_minute_4 8 rfl rfl)
theorem dX4_minute_105 : decode cX4_minute 105 = .ok (.aload_n 0, 1) := dk_42 (dk_at dksX4_minute_4 11 rfl rfl)
theorem dX4_minute_106 : decode cX4_minute 106 = .ok (.invokevirtual 205, 3) := dk_182 0 205 (dk_at dksX4_minute_4 12 rfl rfl)
theorem dX4_minute_109 : decode cX4_minute 109 = .ok (.return_, 1) := dk_177 (dk_at dksX4_minute_4 15 rfl rfl)
abbrev cX4_programmes : ByteArray := prog_20_method_44_code
def yX4_programmes : MethodName := ⟨RX4, "programmes", "()V"⟩
def dkwX4_programmes_3 : List UInt8 := [160, 0, 7, 3, 167, 0, 10, 42, 180, 0, 7, 21, 4, 46, 79, 132, 2, 1, 167, 255, 174, 177]
abbrev dktX4_programmes_3 : List UInt8 := dkwX4_programmes_3 ++ []
def dkwX4_programmes_2 : List UInt8 := [180, 0, 7, 29, 4, 96, 46, 27, 160, 0, 7, 4, 167, 0, 26, 42, 180, 0, 7, 29, 5, 96, 46, 27]
abbrev dktX4_programmes_2 : List UInt8 := dkwX4_programmes_2 ++ dktX4_programmes_3
def dkwX4_programmes_1 : List UInt8 := [62, 16, 87, 5, 42, 180, 0, 7, 29, 46, 104, 96, 4, 96, 54, 4, 42, 180, 0, 7, 21, 4, 42]
abbrev dktX4_programmes_1 : List UInt8 := dkwX4_programmes_1 ++ dktX4_programmes_2
def dkwX4_programmes_0 : List UInt8 := [42, 182, 0, 156, 60, 3, 61, 28, 42, 180, 0, 7, 16, 16, 46, 162, 0, 77, 16, 103, 6, 28, 104, 96]
abbrev dktX4_programmes_0 : List UInt8 := dkwX4_programmes_0 ++ dktX4_programmes_1
theorem dksX4_programmes_0 : cX4_programmes.data.toList.drop 0 = dktX4_programmes_0 := by decide +kernel
theorem dksX4_programmes_1 : cX4_programmes.data.toList.drop 24 = dktX4_programmes_1 := dk_seg dksX4_programmes_0 24 rfl rfl
theorem dksX4_programmes_2 : cX4_programmes.data.toList.drop 47 = dktX4_programmes_2 := dk_seg dksX4_programmes_1 23 rfl rfl
theorem dksX4_programmes_3 : cX4_programmes.data.toList.drop 71 = dktX4_programmes_3 := dk_seg dksX4_programmes_2 24 rfl rfl
theorem dX4_programmes_0 : decode cX4_programmes 0 = .ok (.aload_n 0, 1) := dk_42 (dk_at dksX4_programmes_0 0 rfl rfl)
theorem dX4_programmes_1 : decode cX4_programmes 1 = .ok (.invokevirtual 156, 3) := dk_182 0 156 (dk_at dksX4_programmes_0 1 rfl rfl)
theorem dX4_programmes_4 : decode cX4_programmes 4 = .ok (.istore_n 1, 1) := dk_60 (dk_at dksX4_programmes_0 4 rfl rfl)
theorem dX4_programmes_5 : decode cX4_programmes 5 = .ok (.iconst 0, 1) := dk_3 (dk_at dksX4_programmes_0 5 rfl rfl)
theorem dX4_programmes_6 : decode cX4_programmes 6 = .ok (.istore_n 2, 1) := dk_61 (dk_at dksX4_programmes_0 6 rfl rfl)
theorem dX4_programmes_7 : decode cX4_programmes 7 = .ok (.iload_n 2, 1) := dk_28 (dk_at dksX4_programmes_0 7 rfl rfl)
theorem dX4_programmes_8 : decode cX4_programmes 8 = .ok (.aload_n 0, 1) := dk_42 (dk_at dksX4_programmes_0 8 rfl rfl)
theorem dX4_programmes_9 : decode cX4_programmes 9 = .ok (.getfield 7, 3) := dk_180 0 7 (dk_at dksX4_programmes_0 9 rfl rfl)
theorem dX4_programmes_12 : decode cX4_programmes 12 = .ok (.bipush 16, 2) := dk_16 16 (dk_at dksX4_programmes_0 12 rfl rfl)
theorem dX4_programmes_14 : decode cX4_programmes 14 = .ok (.iaload, 1) := dk_46 (dk_at dksX4_programmes_0 14 rfl rfl)
theorem dX4_programmes_15 : decode cX4_programmes 15 = .ok (.if_icmp .ge 77, 3) := dk_162 0 77 (dk_at dksX4_programmes_0 15 rfl rfl)
theorem dX4_programmes_18 : decode cX4_programmes 18 = .ok (.bipush 103, 2) := dk_16 103 (dk_at dksX4_programmes_0 18 rfl rfl)
theorem dX4_programmes_20 : decode cX4_programmes 20 = .ok (.iconst 3, 1) := dk_6 (dk_at dksX4_programmes_0 20 rfl rfl)
theorem dX4_programmes_21 : decode cX4_programmes 21 = .ok (.iload_n 2, 1) := dk_28 (dk_at dksX4_programmes_0 21 rfl rfl)
theorem dX4_programmes_22 : decode cX4_programmes 22 = .ok (.imul, 1) := dk_104 (dk_at dksX4_programmes_0 22 rfl rfl)
theorem dX4_programmes_23 : decode cX4_programmes 23 = .ok (.iadd, 1) := dk_96 (dk_at dksX4_programmes_0 23 rfl rfl)
theorem dX4_programmes_24 : decode cX4_programmes 24 = .ok (.istore_n 3, 1) := dk_62 (dk_at dksX4_programmes_1 0 rfl rfl)
theorem dX4_programmes_25 : decode cX4_programmes 25 = .ok (.bipush 87, 2) := dk_16 87 (dk_at dksX4_programmes_1 1 rfl rfl)
theorem dX4_programmes_27 : decode cX4_programmes 27 = .ok (.iconst 2, 1) := dk_5 (dk_at dksX4_programmes_1 3 rfl rfl)
theorem dX4_programmes_28 : decode cX4_programmes 28 = .ok (.aload_n 0, 1) := dk_42 (dk_at dksX4_programmes_1 4 rfl rfl)
theorem dX4_programmes_29 : decode cX4_programmes 29 = .ok (.getfield 7, 3) := dk_180 0 7 (dk_at dksX4_programmes_1 5 rfl rfl)
theorem dX4_programmes_32 : decode cX4_programmes 32 = .ok (.iload_n 3, 1) := dk_29 (dk_at dksX4_programmes_1 8 rfl rfl)
theorem dX4_programmes_33 : decode cX4_programmes 33 = .ok (.iaload, 1) := dk_46 (dk_at dksX4_programmes_1 9 rfl rfl)
theorem dX4_programmes_34 : decode cX4_programmes 34 = .ok (.imul, 1) := dk_104 (dk_at dksX4_programmes_1 10 rfl rfl)
theorem dX4_programmes_35 : decode cX4_programmes 35 = .ok (.iadd, 1) := dk_96 (dk_at dksX4_programmes_1 11 rfl rfl)
theorem dX4_programmes_36 : decode cX4_programmes 36 = .ok (.iconst 1, 1) := dk_4 (dk_at dksX4_programmes_1 12 rfl rfl)
theorem dX4_programmes_37 : decode cX4_programmes 37 = .ok (.iadd, 1) := dk_96 (dk_at dksX4_programmes_1 13 rfl rfl)
theorem dX4_programmes_38 : decode cX4_programmes 38 = .ok (.istore 4, 2) := dk_54 4 (dk_at dksX4_programmes_1 14 rfl rfl)
theorem dX4_programmes_40 : decode cX4_programmes 40 = .ok (.aload_n 0, 1) := dk_42 (dk_at dksX4_programmes_1 16 rfl rfl)
theorem dX4_programmes_41 : decode cX4_programmes 41 = .ok (.getfield 7, 3) := dk_180 0 7 (dk_at dksX4_programmes_1 17 rfl rfl)
theorem dX4_programmes_44 : decode cX4_programmes 44 = .ok (.iload 4, 2) := dk_21 4 (dk_at dksX4_programmes_1 20 rfl rfl)
theorem dX4_programmes_46 : decode cX4_programmes 46 = .ok (.aload_n 0, 1) := dk_42 (dk_at dksX4_programmes_1 22 rfl rfl)
theorem dX4_programmes_47 : decode cX4_programmes 47 = .ok (.getfield 7, 3) := dk_180 0 7 (dk_at dksX4_programmes_2 0 rfl rfl)
theorem dX4_programmes_50 : decode cX4_programmes 50 = .ok (.iload_n 3, 1) := dk_29 (dk_at dksX4_programmes_2 3 rfl rfl)
theorem dX4_programmes_51 : decode cX4_programmes 51 = .ok (.iconst 1, 1) := dk_4 (dk_at dksX4_programmes_2 4 rfl rfl)
theorem dX4_programmes_52 : decode cX4_programmes 52 = .ok (.iadd, 1) := dk_96 (dk_at dksX4_programmes_2 5 rfl rfl)
theorem dX4_programmes_53 : decode cX4_programmes 53 = .ok (.iaload, 1) := dk_46 (dk_at dksX4_programmes_2 6 rfl rfl)
theorem dX4_programmes_54 : decode cX4_programmes 54 = .ok (.iload_n 1, 1) := dk_27 (dk_at dksX4_programmes_2 7 rfl rfl)
theorem dX4_programmes_55 : decode cX4_programmes 55 = .ok (.if_icmp .ne 7, 3) := dk_160 0 7 (dk_at dksX4_programmes_2 8 rfl rfl)
theorem dX4_programmes_58 : decode cX4_programmes 58 = .ok (.iconst 1, 1) := dk_4 (dk_at dksX4_programmes_2 11 rfl rfl)
theorem dX4_programmes_59 : decode cX4_programmes 59 = .ok (.goto 26, 3) := dk_167 0 26 (dk_at dksX4_programmes_2 12 rfl rfl)
theorem dX4_programmes_62 : decode cX4_programmes 62 = .ok (.aload_n 0, 1) := dk_42 (dk_at dksX4_programmes_2 15 rfl rfl)
theorem dX4_programmes_63 : decode cX4_programmes 63 = .ok (.getfield 7, 3) := dk_180 0 7 (dk_at dksX4_programmes_2 16 rfl rfl)
theorem dX4_programmes_66 : decode cX4_programmes 66 = .ok (.iload_n 3, 1) := dk_29 (dk_at dksX4_programmes_2 19 rfl rfl)
theorem dX4_programmes_67 : decode cX4_programmes 67 = .ok (.iconst 2, 1) := dk_5 (dk_at dksX4_programmes_2 20 rfl rfl)
theorem dX4_programmes_68 : decode cX4_programmes 68 = .ok (.iadd, 1) := dk_96 (dk_at dksX4_programmes_2 21 rfl rfl)
theorem dX4_programmes_69 : decode cX4_programmes 69 = .ok (.iaload, 1) := dk_46 (dk_at dksX4_programmes_2 22 rfl rfl)
theorem dX4_programmes_70 : decode cX4_programmes 70 = .ok (.iload_n 1, 1) := dk_27 (dk_at dksX4_programmes_2 23 rfl rfl)
theorem dX4_programmes_71 : decode cX4_programmes 71 = .ok (.if_icmp .ne 7, 3) := dk_160 0 7 (dk_at dksX4_programmes_3 0 rfl rfl)
theorem dX4_programmes_74 : decode cX4_programmes 74 = .ok (.iconst 0, 1) := dk_3 (dk_at dksX4_programmes_3 3 rfl rfl)
theorem dX4_programmes_75 : decode cX4_programmes 75 = .ok (.goto 10, 3) := dk_167 0 10 (dk_at dksX4_programmes_3 4 rfl rfl)
theorem dX4_programmes_78 : decode cX4_programmes 78 = .ok (.aload_n 0, 1) := dk_42 (dk_at dksX4_programmes_3 7 rfl rfl)
theorem dX4_programmes_79 : decode cX4_programmes 79 = .ok (.getfield 7, 3) := dk_180 0 7 (dk_at dksX4_programmes_3 8 rfl rfl)
theorem dX4_programmes_82 : decode cX4_programmes 82 = .ok (.iload 4, 2) := dk_21 4 (dk_at dksX4_programmes_3 11 rfl rfl)
theorem dX4_programmes_84 : decode cX4_programmes 84 = .ok (.iaload, 1) := dk_46 (dk_at dksX4_programmes_3 13 rfl rfl)
theorem dX4_programmes_85 : decode cX4_programmes 85 = .ok (.iastore, 1) := dk_79 (dk_at dksX4_programmes_3 14 rfl rfl)
theorem dX4_programmes_86 : decode cX4_programmes 86 = .ok (.iinc 2 1, 3) := dk_132 2 1 (dk_at dksX4_programmes_3 15 rfl rfl)
theorem dX4_programmes_89 : decode cX4_programmes 89 = .ok (.goto (-82), 3) := dk_167 255 174 (dk_at dksX4_programmes_3 18 rfl rfl)
theorem dX4_programmes_92 : decode cX4_programmes 92 = .ok (.return_, 1) := dk_177 (dk_at dksX4_programmes_3 21 rfl rfl)
abbrev cX4_minuteOfDay : ByteArray := prog_20_method_43_code
def yX4_minuteOfDay : MethodName := ⟨RX4, "minuteOfDay", "()I"⟩
def dkwX4_minuteOfDay_0 : List UInt8 := [42, 180, 0, 7, 3, 46, 17, 5, 160, 112, 172]
abbrev dktX4_minuteOfDay_0 : List UInt8 := dkwX4_minuteOfDay_0 ++ []
theorem dksX4_minuteOfDay_0 : cX4_minuteOfDay.data.toList.drop 0 = dktX4_minuteOfDay_0 := by decide +kernel
theorem dX4_minuteOfDay_0 : decode cX4_minuteOfDay 0 = .ok (.aload_n 0, 1) := dk_42 (dk_at dksX4_minuteOfDay_0 0 rfl rfl)
theorem dX4_minuteOfDay_1 : decode cX4_minuteOfDay 1 = .ok (.getfield 7, 3) := dk_180 0 7 (dk_at dksX4_minuteOfDay_0 1 rfl rfl)
theorem dX4_minuteOfDay_4 : decode cX4_minuteOfDay 4 = .ok (.iconst 0, 1) := dk_3 (dk_at dksX4_minuteOfDay_0 4 rfl rfl)
theorem dX4_minuteOfDay_5 : decode cX4_minuteOfDay 5 = .ok (.iaload, 1) := dk_46 (dk_at dksX4_minuteOfDay_0 5 rfl rfl)
theorem dX4_minuteOfDay_6 : decode cX4_minuteOfDay 6 = .ok (.sipush 1440, 3) := dk_17 5 160 (dk_at dksX4_minuteOfDay_0 6 rfl rfl)
theorem dX4_minuteOfDay_9 : decode cX4_minuteOfDay 9 = .ok (.irem, 1) := dk_112 (dk_at dksX4_minuteOfDay_0 9 rfl rfl)
theorem dX4_minuteOfDay_10 : decode cX4_minuteOfDay 10 = .ok (.ireturn, 1) := dk_172 (dk_at dksX4_minuteOfDay_0 10 rfl rfl)
abbrev cX4_water : ByteArray := prog_20_method_47_code
def yX4_water : MethodName := ⟨RX4, "water", "()V"⟩
def dkwX4_water_7 : List UInt8 := [182, 0, 66, 108, 96, 3, 17, 7, 208, 184, 0, 159, 79, 177]
abbrev dktX4_water_7 : List UInt8 := dkwX4_water_7 ++ []
def dkwX4_water_6 : List UInt8 := [184, 0, 159, 79, 42, 180, 0, 7, 4, 42, 180, 0, 7, 4, 46, 27, 42, 182, 0, 162, 100, 42, 16, 10]
abbrev dktX4_water_6 : List UInt8 := dkwX4_water_6 ++ dktX4_water_7
def dkwX4_water_5 : List UInt8 := [42, 180, 0, 7, 5, 42, 180, 0, 7, 5, 46, 27, 100, 42, 16, 14, 182, 0, 66, 96, 3, 17, 78, 32]
abbrev dktX4_water_5 : List UInt8 := dkwX4_water_5 ++ dktX4_water_6
def dkwX4_water_4 : List UInt8 := [46, 167, 0, 4, 27, 60, 42, 180, 0, 7, 6, 27, 79, 42, 180, 0, 7, 16, 13, 92, 46, 27, 96, 79]
abbrev dktX4_water_4 : List UInt8 := dkwX4_water_4 ++ dktX4_water_5
def dkwX4_water_3 : List UInt8 := [182, 0, 74, 132, 2, 1, 167, 255, 184, 27, 42, 180, 0, 7, 5, 46, 164, 0, 12, 42, 180, 0, 7, 5]
abbrev dktX4_water_3 : List UInt8 := dkwX4_water_3 ++ dktX4_water_4
def dkwX4_water_2 : List UInt8 := [8, 182, 0, 78, 4, 96, 182, 0, 74, 42, 28, 16, 6, 42, 28, 16, 6, 182, 0, 78, 4, 96]
abbrev dktX4_water_2 : List UInt8 := dkwX4_water_2 ++ dktX4_water_3
def dkwX4_water_1 : List UInt8 := [42, 28, 42, 28, 7, 182, 0, 78, 42, 180, 0, 7, 4, 46, 182, 0, 129, 96, 60, 42, 28, 8, 42, 28]
abbrev dktX4_water_1 : List UInt8 := dkwX4_water_1 ++ dktX4_water_2
def dkwX4_water_0 : List UInt8 := [3, 60, 3, 61, 28, 42, 180, 0, 7, 16, 14, 46, 162, 0, 67, 42, 28, 182, 0, 82, 153, 0, 53, 27]
abbrev dktX4_water_0 : List UInt8 := dkwX4_water_0 ++ dktX4_water_1
theorem dksX4_water_0 : cX4_water.data.toList.drop 0 = dktX4_water_0 := by decide +kernel
theorem dksX4_water_1 : cX4_water.data.toList.drop 24 = dktX4_water_1 := dk_seg dksX4_water_0 24 rfl rfl
theorem dksX4_water_2 : cX4_water.data.toList.drop 48 = dktX4_water_2 := dk_seg dksX4_water_1 24 rfl rfl
theorem dksX4_water_3 : cX4_water.data.toList.drop 70 = dktX4_water_3 := dk_seg dksX4_water_2 22 rfl rfl
theorem dksX4_water_4 : cX4_water.data.toList.drop 94 = dktX4_water_4 := dk_seg dksX4_water_3 24 rfl rfl
theorem dksX4_water_5 : cX4_water.data.toList.drop 118 = dktX4_water_5 := dk_seg dksX4_water_4 24 rfl rfl
theorem dksX4_water_6 : cX4_water.data.toList.drop 142 = dktX4_water_6 := dk_seg dksX4_water_5 24 rfl rfl
theorem dksX4_water_7 : cX4_water.data.toList.drop 166 = dktX4_water_7 := dk_seg dksX4_water_6 24 rfl rfl
theorem dX4_water_0 : decode cX4_water 0 = .ok (.iconst 0, 1) := dk_3 (dk_at dksX4_water_0 0 rfl rfl)
theorem dX4_water_1 : decode cX4_water 1 = .ok (.istore_n 1, 1) := dk_60 (dk_at dksX4_water_0 1 rfl rfl)
theorem dX4_water_2 : decode cX4_water 2 = .ok (.iconst 0, 1) := dk_3 (dk_at dksX4_water_0 2 rfl rfl)
theorem dX4_water_3 : decode cX4_water 3 = .ok (.istore_n 2, 1) := dk_61 (dk_at dksX4_water_0 3 rfl rfl)
theorem dX4_water_4 : decode cX4_water 4 = .ok (.iload_n 2, 1) := dk_28 (dk_at dksX4_water_0 4 rfl rfl)
theorem dX4_water_5 : decode cX4_water 5 = .ok (.aload_n 0, 1) := dk_42 (dk_at dksX4_water_0 5 rfl rfl)
theorem dX4_water_6 : decode cX4_water 6 = .ok (.getfield 7, 3) := dk_180 0 7 (dk_at dksX4_water_0 6 rfl rfl)
theorem dX4_water_9 : decode cX4_water 9 = .ok (.bipush 14, 2) := dk_16 14 (dk_at dksX4_water_0 9 rfl rfl)
theorem dX4_water_11 : decode cX4_water 11 = .ok (.iaload, 1) := dk_46 (dk_at dksX4_water_0 11 rfl rfl)
theorem dX4_water_12 : decode cX4_water 12 = .ok (.if_icmp .ge 67, 3) := dk_162 0 67 (dk_at dksX4_water_0 12 rfl rfl)
theorem dX4_water_15 : decode cX4_water 15 = .ok (.aload_n 0, 1) := dk_42 (dk_at dksX4_water_0 15 rfl rfl)
theorem dX4_water_16 : decode cX4_water 16 = .ok (.iload_n 2, 1) := dk_28 (dk_at dksX4_water_0 16 rfl rfl)
theorem dX4_water_17 : decode cX4_water 17 = .ok (.invokevirtual 82, 3) := dk_182 0 82 (dk_at dksX4_water_0 17 rfl rfl)
theorem dX4_water_20 : decode cX4_water 20 = .ok (.ifCond .eq 53, 3) := dk_153 0 53 (dk_at dksX4_water_0 20 rfl rfl)
theorem dX4_water_23 : decode cX4_water 23 = .ok (.iload_n 1, 1) := dk_27 (dk_at dksX4_water_0 23 rfl rfl)
theorem dX4_water_24 : decode cX4_water 24 = .ok (.aload_n 0, 1) := dk_42 (dk_at dksX4_water_1 0 rfl rfl)
theorem dX4_water_25 : decode cX4_water 25 = .ok (.iload_n 2, 1) := dk_28 (dk_at dksX4_water_1 1 rfl rfl)
theorem dX4_water_26 : decode cX4_water 26 = .ok (.aload_n 0, 1) := dk_42 (dk_at dksX4_water_1 2 rfl rfl)
theorem dX4_water_27 : decode cX4_water 27 = .ok (.iload_n 2, 1) := dk_28 (dk_at dksX4_water_1 3 rfl rfl)
theorem dX4_water_28 : decode cX4_water 28 = .ok (.iconst 4, 1) := dk_7 (dk_at dksX4_water_1 4 rfl rfl)
theorem dX4_water_29 : decode cX4_water 29 = .ok (.invokevirtual 78, 3) := dk_182 0 78 (dk_at dksX4_water_1 5 rfl rfl)
theorem dX4_water_32 : decode cX4_water 32 = .ok (.aload_n 0, 1) := dk_42 (dk_at dksX4_water_1 8 rfl rfl)
theorem dX4_water_33 : decode cX4_water 33 = .ok (.getfield 7, 3) := dk_180 0 7 (dk_at dksX4_water_1 9 rfl rfl)
theorem dX4_water_36 : decode cX4_water 36 = .ok (.iconst 1, 1) := dk_4 (dk_at dksX4_water_1 12 rfl rfl)
theorem dX4_water_37 : decode cX4_water 37 = .ok (.iaload, 1) := dk_46 (dk_at dksX4_water_1 13 rfl rfl)
theorem dX4_water_38 : decode cX4_water 38 = .ok (.invokevirtual 129, 3) := dk_182 0 129 (dk_at dksX4_water_1 14 rfl rfl)
theorem dX4_water_41 : decode cX4_water 41 = .ok (.iadd, 1) := dk_96 (dk_at dksX4_water_1 17 rfl rfl)
theorem dX4_water_42 : decode cX4_water 42 = .ok (.istore_n 1, 1) := dk_60 (dk_at dksX4_water_1 18 rfl rfl)
theorem dX4_water_43 : decode cX4_water 43 = .ok (.aload_n 0, 1) := dk_42 (dk_at dksX4_water_1 19 rfl rfl)
theorem dX4_water_44 : decode cX4_water 44 = .ok (.iload_n 2, 1) := dk_28 (dk_at dksX4_water_1 20 rfl rfl)
theorem dX4_water_45 : decode cX4_water 45 = .ok (.iconst 5, 1) := dk_8 (dk_at dksX4_water_1 21 rfl rfl)
theorem dX4_water_46 : decode cX4_water 46 = .ok (.aload_n 0, 1) := dk_42 (dk_at dksX4_water_1 22 rfl rfl)
theorem dX4_water_47 : decode cX4_water 47 = .ok (.iload_n 2, 1) := dk_28 (dk_at dksX4_water_1 23 rfl rfl)
theorem dX4_water_48 : decode cX4_water 48 = .ok (.iconst 5, 1) := dk_8 (dk_at dksX4_water_2 0 rfl rfl)
theorem dX4_water_49 : decode cX4_water 49 = .ok (.invokevirtual 78, 3) := dk_182 0 78 (dk_at dksX4_water_2 1 rfl rfl)
theorem dX4_water_52 : decode cX4_water 52 = .ok (.iconst 1, 1) := dk_4 (dk_at dksX4_water_2 4 rfl rfl)
theorem dX4_water_53 : decode cX4_water 53 = .ok (.iadd, 1) := dk_96 (dk_at dksX4_water_2 5 rfl rfl)
theorem dX4_water_54 : decode cX4_water 54 = .ok (.invokevirtual 74, 3) := dk_182 0 74 (dk_at dksX4_water_2 6 rfl rfl)
theorem dX4_water_57 : decode cX4_water 57 = .ok (.aload_n 0, 1) := dk_42 (dk_at dksX4_water_2 9 rfl rfl)
theorem dX4_water_58 : decode cX4_water 58 = .ok (.iload_n 2, 1) := dk_28 (dk_at dksX4_water_2 10 rfl rfl)
theorem dX4_water_59 : decode cX4_water 59 = .ok (.bipush 6, 2) := dk_16 6 (dk_at dksX4_water_2 11 rfl rfl)
theorem dX4_water_61 : decode cX4_water 61 = .ok (.aload_n 0, 1) := dk_42 (dk_at dksX4_water_2 13 rfl rfl)
theorem dX4_water_62 : decode cX4_water 62 = .ok (.iload_n 2, 1) := dk_28 (dk_at dksX4_water_2 14 rfl rfl)
theorem dX4_water_63 : decode cX4_water 63 = .ok (.bipush 6, 2) := dk_16 6 (dk_at dksX4_water_2 15 rfl rfl)
theorem dX4_water_65 : decode cX4_water 65 = .ok (.invokevirtual 78, 3) := dk_182 0 78 (dk_at dksX4_water_2 17 rfl rfl)
theorem dX4_water_68 : decode cX4_water 68 = .ok (.iconst 1, 1) := dk_4 (dk_at dksX4_water_2 20 rfl rfl)
theorem dX4_water_69 : decode cX4_water 69 = .ok (.iadd, 1) := dk_96 (dk_at dksX4_water_2 21 rfl rfl)
theorem dX4_water_70 : decode cX4_water 70 = .ok (.invokevirtual 74, 3) := dk_182 0 74 (dk_at dksX4_water_3 0 rfl rfl)
theorem dX4_water_73 : decode cX4_water 73 = .ok (.iinc 2 1, 3) := dk_132 2 1 (dk_at dksX4_water_3 3 rfl rfl)
theorem dX4_water_76 : decode cX4_water 76 = .ok (.goto (-72), 3) := dk_167 255 184 (dk_at dksX4_water_3 6 rfl rfl)
theorem dX4_water_79 : decode cX4_water 79 = .ok (.iload_n 1, 1) := dk_27 (dk_at dksX4_water_3 9 rfl rfl)
theorem dX4_water_80 : decode cX4_water 80 = .ok (.aload_n 0, 1) := dk_42 (dk_at dksX4_water_3 10 rfl rfl)
theorem dX4_water_81 : decode cX4_water 81 = .ok (.getfield 7, 3) := dk_180 0 7 (dk_at dksX4_water_3 11 rfl rfl)
theorem dX4_water_84 : decode cX4_water 84 = .ok (.iconst 2, 1) := dk_5 (dk_at dksX4_water_3 14 rfl rfl)
theorem dX4_water_85 : decode cX4_water 85 = .ok (.iaload, 1) := dk_46 (dk_at dksX4_water_3 15 rfl rfl)
theorem dX4_water_86 : decode cX4_water 86 = .ok (.if_icmp .le 12, 3) := dk_164 0 12 (dk_at dksX4_water_3 16 rfl rfl)
theorem dX4_water_89 : decode cX4_water 89 = .ok (.aload_n 0, 1) := dk_42 (dk_at dksX4_water_3 19 rfl rfl)
theorem dX4_water_90 : decode cX4_water 90 = .ok (.getfield 7, 3) := dk_180 0 7 (dk_at dksX4_water_3 20 rfl rfl)
theorem dX4_water_93 : decode cX4_water 93 = .ok (.iconst 2, 1) := dk_5 (dk_at dksX4_water_3 23 rfl rfl)
theorem dX4_water_94 : decode cX4_water 94 = .ok (.iaload, 1) := dk_46 (dk_at dksX4_water_4 0 rfl rfl)
theorem dX4_water_95 : decode cX4_water 95 = .ok (.goto 4, 3) := dk_167 0 4 (dk_at dksX4_water_4 1 rfl rfl)
theorem dX4_water_98 : decode cX4_water 98 = .ok (.iload_n 1, 1) := dk_27 (dk_at dksX4_water_4 4 rfl rfl)
theorem dX4_water_99 : decode cX4_water 99 = .ok (.istore_n 1, 1) := dk_60 (dk_at dksX4_water_4 5 rfl rfl)
theorem dX4_water_100 : decode cX4_water 100 = .ok (.aload_n 0, 1) := dk_42 (dk_at dksX4_water_4 6 rfl rfl)
theorem dX4_water_101 : decode cX4_water 101 = .ok (.getfield 7, 3) := dk_180 0 7 (dk_at dksX4_water_4 7 rfl rfl)
theorem dX4_water_104 : decode cX4_water 104 = .ok (.iconst 3, 1) := dk_6 (dk_at dksX4_water_4 10 rfl rfl)
theorem dX4_water_105 : decode cX4_water 105 = .ok (.iload_n 1, 1) := dk_27 (dk_at dksX4_water_4 11 rfl rfl)
theorem dX4_water_106 : decode cX4_water 106 = .ok (.iastore, 1) := dk_79 (dk_at dksX4_water_4 12 rfl rfl)
theorem dX4_water_107 : decode cX4_water 107 = .ok (.aload_n 0, 1) := dk_42 (dk_at dksX4_water_4 13 rfl rfl)
theorem dX4_water_108 : decode cX4_water 108 = .ok (.getfield 7, 3) := dk_180 0 7 (dk_at dksX4_water_4 14 rfl rfl)
theorem dX4_water_111 : decode cX4_water 111 = .ok (.bipush 13, 2) := dk_16 13 (dk_at dksX4_water_4 17 rfl rfl)
theorem dX4_water_113 : decode cX4_water 113 = .ok (.dup2, 1) := dk_92 (dk_at dksX4_water_4 19 rfl rfl)
theorem dX4_water_114 : decode cX4_water 114 = .ok (.iaload, 1) := dk_46 (dk_at dksX4_water_4 20 rfl rfl)
theorem dX4_water_115 : decode cX4_water 115 = .ok (.iload_n 1, 1) := dk_27 (dk_at dksX4_water_4 21 rfl rfl)
theorem dX4_water_116 : decode cX4_water 116 = .ok (.iadd, 1) := dk_96 (dk_at dksX4_water_4 22 rfl rfl)
theorem dX4_water_117 : decode cX4_water 117 = .ok (.iastore, 1) := dk_79 (dk_at dksX4_water_4 23 rfl rfl)
theorem dX4_water_118 : decode cX4_water 118 = .ok (.aload_n 0, 1) := dk_42 (dk_at dksX4_water_5 0 rfl rfl)
theorem dX4_water_119 : decode cX4_water 119 = .ok (.getfield 7, 3) := dk_180 0 7 (dk_at dksX4_water_5 1 rfl rfl)
theorem dX4_water_122 : decode cX4_water 122 = .ok (.iconst 2, 1) := dk_5 (dk_at dksX4_water_5 4 rfl rfl)
theorem dX4_water_123 : decode cX4_water 123 = .ok (.aload_n 0, 1) := dk_42 (dk_at dksX4_water_5 5 rfl rfl)
theorem dX4_water_124 : decode cX4_water 124 = .ok (.getfield 7, 3) := dk_180 0 7 (dk_at dksX4_water_5 6 rfl rfl)
theorem dX4_water_127 : decode cX4_water 127 = .ok (.iconst 2, 1) := dk_5 (dk_at dksX4_water_5 9 rfl rfl)
theorem dX4_water_128 : decode cX4_water 128 = .ok (.iaload, 1) := dk_46 (dk_at dksX4_water_5 10 rfl rfl)
theorem dX4_water_129 : decode cX4_water 129 = .ok (.iload_n 1, 1) := dk_27 (dk_at dksX4_water_5 11 rfl rfl)
theorem dX4_water_130 : decode cX4_water 130 = .ok (.isub, 1) := dk_100 (dk_at dksX4_water_5 12 rfl rfl)
theorem dX4_water_131 : decode cX4_water 131 = .ok (.aload_n 0, 1) := dk_42 (dk_at dksX4_water_5 13 rfl rfl)
theorem dX4_water_132 : decode cX4_water 132 = .ok (.bipush 14, 2) := dk_16 14 (dk_at dksX4_water_5 14 rfl rfl)
theorem dX4_water_134 : decode cX4_water 134 = .ok (.invokevirtual 66, 3) := dk_182 0 66 (dk_at dksX4_water_5 16 rfl rfl)
theorem dX4_water_137 : decode cX4_water 137 = .ok (.iadd, 1) := dk_96 (dk_at dksX4_water_5 19 rfl rfl)
theorem dX4_water_138 : decode cX4_water 138 = .ok (.iconst 0, 1) := dk_3 (dk_at dksX4_water_5 20 rfl rfl)
theorem dX4_water_139 : decode cX4_water 139 = .ok (.sipush 20000, 3) := dk_17 78 32 (dk_at dksX4_water_5 21 rfl rfl)
theorem dX4_water_142 : decode cX4_water 142 = .ok (.invokestatic 159, 3) := dk_184 0 159 (dk_at dksX4_water_6 0 rfl rfl)
theorem dX4_water_145 : decode cX4_water 145 = .ok (.iastore, 1) := dk_79 (dk_at dksX4_water_6 3 rfl rfl)
theorem dX4_water_146 : decode cX4_water 146 = .ok (.aload_n 0, 1) := dk_42 (dk_at dksX4_water_6 4 rfl rfl)
theorem dX4_water_147 : decode cX4_water 147 = .ok (.getfield 7, 3) := dk_180 0 7 (dk_at dksX4_water_6 5 rfl rfl)
theorem dX4_water_150 : decode cX4_water 150 = .ok (.iconst 1, 1) := dk_4 (dk_at dksX4_water_6 8 rfl rfl)
theorem dX4_water_151 : decode cX4_water 151 = .ok (.aload_n 0, 1) := dk_42 (dk_at dksX4_water_6 9 rfl rfl)
theorem dX4_water_152 : decode cX4_water 152 = .ok (.getfield 7, 3) := dk_180 0 7 (dk_at dksX4_water_6 10 rfl rfl)
theorem dX4_water_155 : decode cX4_water 155 = .ok (.iconst 1, 1) := dk_4 (dk_at dksX4_water_6 13 rfl rfl)
theorem dX4_water_156 : decode cX4_water 156 = .ok (.iaload, 1) := dk_46 (dk_at dksX4_water_6 14 rfl rfl)
theorem dX4_water_157 : decode cX4_water 157 = .ok (.iload_n 1, 1) := dk_27 (dk_at dksX4_water_6 15 rfl rfl)
theorem dX4_water_158 : decode cX4_water 158 = .ok (.aload_n 0, 1) := dk_42 (dk_at dksX4_water_6 16 rfl rfl)
theorem dX4_water_159 : decode cX4_water 159 = .ok (.invokevirtual 162, 3) := dk_182 0 162 (dk_at dksX4_water_6 17 rfl rfl)
theorem dX4_water_162 : decode cX4_water 162 = .ok (.isub, 1) := dk_100 (dk_at dksX4_water_6 20 rfl rfl)
theorem dX4_water_163 : decode cX4_water 163 = .ok (.aload_n 0, 1) := dk_42 (dk_at dksX4_water_6 21 rfl rfl)
theorem dX4_water_164 : decode cX4_water 164 = .ok (.bipush 10, 2) := dk_16 10 (dk_at dksX4_water_6 22 rfl rfl)
theorem dX4_water_166 : decode cX4_water 166 = .ok (.invokevirtual 66, 3) := dk_182 0 66 (dk_at dksX4_water_7 0 rfl rfl)
theorem dX4_water_169 : decode cX4_water 169 = .ok (.idiv, 1) := dk_108 (dk_at dksX4_water_7 3 rfl rfl)
theorem dX4_water_170 : decode cX4_water 170 = .ok (.iadd, 1) := dk_96 (dk_at dksX4_water_7 4 rfl rfl)
theorem dX4_water_171 : decode cX4_water 171 = .ok (.iconst 0, 1) := dk_3 (dk_at dksX4_water_7 5 rfl rfl)
theorem dX4_water_172 : decode cX4_water 172 = .ok (.sipush 2000, 3) := dk_17 7 208 (dk_at dksX4_water_7 6 rfl rfl)
theorem dX4_water_175 : decode cX4_water 175 = .ok (.invokestatic 159, 3) := dk_184 0 159 (dk_at dksX4_water_7 9 rfl rfl)
theorem dX4_water_178 : decode cX4_water 178 = .ok (.iastore, 1) := dk_79 (dk_at dksX4_water_7 12 rfl rfl)
theorem dX4_water_179 : decode cX4_water 179 = .ok (.return_, 1) := dk_177 (dk_at dksX4_water_7 13 rfl rfl)
abbrev cX4_within : ByteArray := prog_20_method_46_code
def yX4_within : MethodName := ⟨RX4, "within", "(III)I"⟩
def dkwX4_within_0 : List UInt8 := [26, 27, 162, 0, 7, 27, 167, 0, 13, 26, 28, 164, 0, 7, 28, 167, 0, 4, 26, 172]
abbrev dktX4_within_0 : List UInt8 := dkwX4_within_0 ++ []
theorem dksX4_within_0 : cX4_within.data.toList.drop 0 = dktX4_within_0 := by decide +kernel
theorem dX4_within_0 : decode cX4_within 0 = .ok (.iload_n 0, 1) := dk_26 (dk_at dksX4_within_0 0 rfl rfl)
theorem dX4_within_1 : decode cX4_within 1 = .ok (.iload_n 1, 1) := dk_27 (dk_at dksX4_within_0 1 rfl rfl)
theorem dX4_within_2 : decode cX4_within 2 = .ok (.if_icmp .ge 7, 3) := dk_162 0 7 (dk_at dksX4_within_0 2 rfl rfl)
theorem dX4_within_5 : decode cX4_within 5 = .ok (.iload_n 1, 1) := dk_27 (dk_at dksX4_within_0 5 rfl rfl)
theorem dX4_within_6 : decode cX4_within 6 = .ok (.goto 13, 3) := dk_167 0 13 (dk_at dksX4_within_0 6 rfl rfl)
theorem dX4_within_9 : decode cX4_within 9 = .ok (.iload_n 0, 1) := dk_26 (dk_at dksX4_within_0 9 rfl rfl)
theorem dX4_within_10 : decode cX4_within 10 = .ok (.iload_n 2, 1) := dk_28 (dk_at dksX4_within_0 10 rfl rfl)
theorem dX4_within_11 : decode cX4_within 11 = .ok (.if_icmp .le 7, 3) := dk_164 0 7 (dk_at dksX4_within_0 11 rfl rfl)
theorem dX4_within_14 : decode cX4_within 14 = .ok (.iload_n 2, 1) := dk_28 (dk_at dksX4_within_0 14 rfl rfl)
theorem dX4_within_15 : decode cX4_within 15 = .ok (.goto 4, 3) := dk_167 0 4 (dk_at dksX4_within_0 15 rfl rfl)
theorem dX4_within_18 : decode cX4_within 18 = .ok (.iload_n 0, 1) := dk_26 (dk_at dksX4_within_0 18 rfl rfl)
theorem dX4_within_19 : decode cX4_within 19 = .ok (.ireturn, 1) := dk_172 (dk_at dksX4_within_0 19 rfl rfl)
abbrev cX4_demand : ByteArray := prog_20_method_45_code
def yX4_demand : MethodName := ⟨RX4, "demand", "()I"⟩
def dkwX4_demand_2 : List UInt8 := [172]
abbrev dktX4_demand_2 : List UInt8 := dkwX4_demand_2 ++ []
def dkwX4_demand_1 : List UInt8 := [180, 0, 7, 16, 15, 46, 162, 0, 17, 27, 42, 28, 182, 0, 148, 96, 60, 132, 2, 1, 167, 255, 234, 27]
abbrev dktX4_demand_1 : List UInt8 := dkwX4_demand_1 ++ dktX4_demand_2
def dkwX4_demand_0 : List UInt8 := [42, 180, 0, 7, 16, 17, 46, 42, 180, 0, 7, 4, 46, 104, 17, 3, 232, 108, 60, 3, 61, 28, 42]
abbrev dktX4_demand_0 : List UInt8 := dkwX4_demand_0 ++ dktX4_demand_1
theorem dksX4_demand_0 : cX4_demand.data.toList.drop 0 = dktX4_demand_0 := by decide +kernel
theorem dksX4_demand_1 : cX4_demand.data.toList.drop 23 = dktX4_demand_1 := dk_seg dksX4_demand_0 23 rfl rfl
theorem dksX4_demand_2 : cX4_demand.data.toList.drop 47 = dktX4_demand_2 := dk_seg dksX4_demand_1 24 rfl rfl
theorem dX4_demand_0 : decode cX4_demand 0 = .ok (.aload_n 0, 1) := dk_42 (dk_at dksX4_demand_0 0 rfl rfl)
theorem dX4_demand_1 : decode cX4_demand 1 = .ok (.getfield 7, 3) := dk_180 0 7 (dk_at dksX4_demand_0 1 rfl rfl)
theorem dX4_demand_4 : decode cX4_demand 4 = .ok (.bipush 17, 2) := dk_16 17 (dk_at dksX4_demand_0 4 rfl rfl)
theorem dX4_demand_6 : decode cX4_demand 6 = .ok (.iaload, 1) := dk_46 (dk_at dksX4_demand_0 6 rfl rfl)
theorem dX4_demand_7 : decode cX4_demand 7 = .ok (.aload_n 0, 1) := dk_42 (dk_at dksX4_demand_0 7 rfl rfl)
theorem dX4_demand_8 : decode cX4_demand 8 = .ok (.getfield 7, 3) := dk_180 0 7 (dk_at dksX4_demand_0 8 rfl rfl)
theorem dX4_demand_11 : decode cX4_demand 11 = .ok (.iconst 1, 1) := dk_4 (dk_at dksX4_demand_0 11 rfl rfl)
theorem dX4_demand_12 : decode cX4_demand 12 = .ok (.iaload, 1) := dk_46 (dk_at dksX4_demand_0 12 rfl rfl)
theorem dX4_demand_13 : decode cX4_demand 13 = .ok (.imul, 1) := dk_104 (dk_at dksX4_demand_0 13 rfl rfl)
theorem dX4_demand_14 : decode cX4_demand 14 = .ok (.sipush 1000, 3) := dk_17 3 232 (dk_at dksX4_demand_0 14 rfl rfl)
theorem dX4_demand_17 : decode cX4_demand 17 = .ok (.idiv, 1) := dk_108 (dk_at dksX4_demand_0 17 rfl rfl)
theorem dX4_demand_18 : decode cX4_demand 18 = .ok (.istore_n 1, 1) := dk_60 (dk_at dksX4_demand_0 18 rfl rfl)
theorem dX4_demand_19 : decode cX4_demand 19 = .ok (.iconst 0, 1) := dk_3 (dk_at dksX4_demand_0 19 rfl rfl)
theorem dX4_demand_20 : decode cX4_demand 20 = .ok (.istore_n 2, 1) := dk_61 (dk_at dksX4_demand_0 20 rfl rfl)
theorem dX4_demand_21 : decode cX4_demand 21 = .ok (.iload_n 2, 1) := dk_28 (dk_at dksX4_demand_0 21 rfl rfl)
theorem dX4_demand_22 : decode cX4_demand 22 = .ok (.aload_n 0, 1) := dk_42 (dk_at dksX4_demand_0 22 rfl rfl)
theorem dX4_demand_23 : decode cX4_demand 23 = .ok (.getfield 7, 3) := dk_180 0 7 (dk_at dksX4_demand_1 0 rfl rfl)
theorem dX4_demand_26 : decode cX4_demand 26 = .ok (.bipush 15, 2) := dk_16 15 (dk_at dksX4_demand_1 3 rfl rfl)
theorem dX4_demand_28 : decode cX4_demand 28 = .ok (.iaload, 1) := dk_46 (dk_at dksX4_demand_1 5 rfl rfl)
theorem dX4_demand_29 : decode cX4_demand 29 = .ok (.if_icmp .ge 17, 3) := dk_162 0 17 (dk_at dksX4_demand_1 6 rfl rfl)
theorem dX4_demand_32 : decode cX4_demand 32 = .ok (.iload_n 1, 1) := dk_27 (dk_at dksX4_demand_1 9 rfl rfl)
theorem dX4_demand_33 : decode cX4_demand 33 = .ok (.aload_n 0, 1) := dk_42 (dk_at dksX4_demand_1 10 rfl rfl)
theorem dX4_demand_34 : decode cX4_demand 34 = .ok (.iload_n 2, 1) := dk_28 (dk_at dksX4_demand_1 11 rfl rfl)
theorem dX4_demand_35 : decode cX4_demand 35 = .ok (.invokevirtual 148, 3) := dk_182 0 148 (dk_at dksX4_demand_1 12 rfl rfl)
theorem dX4_demand_38 : decode cX4_demand 38 = .ok (.iadd, 1) := dk_96 (dk_at dksX4_demand_1 15 rfl rfl)
theorem dX4_demand_39 : decode cX4_demand 39 = .ok (.istore_n 1, 1) := dk_60 (dk_at dksX4_demand_1 16 rfl rfl)
theorem dX4_demand_40 : decode cX4_demand 40 = .ok (.iinc 2 1, 3) := dk_132 2 1 (dk_at dksX4_demand_1 17 rfl rfl)
theorem dX4_demand_43 : decode cX4_demand 43 = .ok (.goto (-22), 3) := dk_167 255 234 (dk_at dksX4_demand_1 20 rfl rfl)
theorem dX4_demand_46 : decode cX4_demand 46 = .ok (.iload_n 1, 1) := dk_27 (dk_at dksX4_demand_1 23 rfl rfl)
theorem dX4_demand_47 : decode cX4_demand 47 = .ok (.ireturn, 1) := dk_172 (dk_at dksX4_demand_2 0 rfl rfl)
abbrev cX4_night : ByteArray := prog_20_method_49_code
def yX4_night : MethodName := ⟨RX4, "night", "()V"⟩
def dkwX4_night_8 : List UInt8 := [167, 0, 4, 3, 96, 79, 177]
abbrev dktX4_night_8 : List UInt8 := dkwX4_night_8 ++ []
def dkwX4_night_7 : List UInt8 := [79, 42, 180, 0, 7, 16, 18, 92, 46, 42, 180, 0, 7, 16, 18, 46, 16, 7, 162, 0, 7, 4]
abbrev dktX4_night_7 : List UInt8 := dkwX4_night_7 ++ dktX4_night_8
def dkwX4_night_6 : List UInt8 := [167, 255, 229, 42, 180, 0, 7, 16, 127, 42, 180, 0, 7, 16, 8, 46, 79, 42, 180, 0, 7, 16, 8, 3]
abbrev dktX4_night_6 : List UInt8 := dkwX4_night_6 ++ dktX4_night_7
def dkwX4_night_5 : List UInt8 := [180, 0, 7, 16, 127, 28, 96, 42, 180, 0, 7, 16, 127, 28, 96, 4, 100, 46, 79, 132, 2, 255]
abbrev dktX4_night_5 : List UInt8 := dkwX4_night_5 ++ dktX4_night_6
def dkwX4_night_4 : List UInt8 := [16, 9, 92, 46, 4, 96, 79, 42, 16, 6, 2, 182, 0, 105, 16, 6, 61, 28, 158, 0, 29, 42]
abbrev dktX4_night_4 : List UInt8 := dkwX4_night_4 ++ dktX4_night_5
def dkwX4_night_3 : List UInt8 := [180, 0, 7, 16, 8, 46, 42, 182, 0, 165, 42, 16, 17, 182, 0, 66, 96, 164, 0, 21, 42, 180, 0, 7]
abbrev dktX4_night_3 : List UInt8 := dkwX4_night_3 ++ dktX4_night_4
def dkwX4_night_2 : List UInt8 := [42, 16, 16, 182, 0, 66, 4, 100, 162, 0, 4, 177, 42, 180, 0, 7, 16, 18, 46, 6, 161, 0, 42, 42]
abbrev dktX4_night_2 : List UInt8 := dkwX4_night_2 ++ dktX4_night_3
def dkwX4_night_1 : List UInt8 := [182, 0, 66, 161, 0, 4, 177, 42, 180, 0, 7, 16, 8, 92, 46, 42, 180, 0, 7, 6, 46, 96, 79, 27]
abbrev dktX4_night_1 : List UInt8 := dkwX4_night_1 ++ dktX4_night_2
def dkwX4_night_0 : List UInt8 := [42, 182, 0, 156, 42, 16, 15, 182, 0, 66, 100, 17, 5, 160, 96, 17, 5, 160, 112, 60, 27, 42, 16, 16]
abbrev dktX4_night_0 : List UInt8 := dkwX4_night_0 ++ dktX4_night_1
theorem dksX4_night_0 : cX4_night.data.toList.drop 0 = dktX4_night_0 := by decide +kernel
theorem dksX4_night_1 : cX4_night.data.toList.drop 24 = dktX4_night_1 := dk_seg dksX4_night_0 24 rfl rfl
theorem dksX4_night_2 : cX4_night.data.toList.drop 48 = dktX4_night_2 := dk_seg dksX4_night_1 24 rfl rfl
theorem dksX4_night_3 : cX4_night.data.toList.drop 72 = dktX4_night_3 := dk_seg dksX4_night_2 24 rfl rfl
theorem dksX4_night_4 : cX4_night.data.toList.drop 96 = dktX4_night_4 := dk_seg dksX4_night_3 24 rfl rfl
theorem dksX4_night_5 : cX4_night.data.toList.drop 118 = dktX4_night_5 := dk_seg dksX4_night_4 22 rfl rfl
theorem dksX4_night_6 : cX4_night.data.toList.drop 140 = dktX4_night_6 := dk_seg dksX4_night_5 22 rfl rfl
theorem dksX4_night_7 : cX4_night.data.toList.drop 164 = dktX4_night_7 := dk_seg dksX4_night_6 24 rfl rfl
theorem dksX4_night_8 : cX4_night.data.toList.drop 186 = dktX4_night_8 := dk_seg dksX4_night_7 22 rfl rfl
theorem dX4_night_0 : decode cX4_night 0 = .ok (.aload_n 0, 1) := dk_42 (dk_at dksX4_night_0 0 rfl rfl)
theorem dX4_night_1 : decode cX4_night 1 = .ok (.invokevirtual 156, 3) := dk_182 0 156 (dk_at dksX4_night_0 1 rfl rfl)
theorem dX4_night_4 : decode cX4_night 4 = .ok (.aload_n 0, 1) := dk_42 (dk_at dksX4_night_0 4 rfl rfl)
theorem dX4_night_5 : decode cX4_night 5 = .ok (.bipush 15, 2) := dk_16 15 (dk_at dksX4_night_0 5 rfl rfl)
theorem dX4_night_7 : decode cX4_night 7 = .ok (.invokevirtual 66, 3) := dk_182 0 66 (dk_at dksX4_night_0 7 rfl rfl)
theorem dX4_night_10 : decode cX4_night 10 = .ok (.isub, 1) := dk_100 (dk_at dksX4_night_0 10 rfl rfl)
theorem dX4_night_11 : decode cX4_night 11 = .ok (.sipush 1440, 3) := dk_17 5 160 (dk_at dksX4_night_0 11 rfl rfl)
theorem dX4_night_14 : decode cX4_night 14 = .ok (.iadd, 1) := dk_96 (dk_at dksX4_night_0 14 rfl rfl)
theorem dX4_night_15 : decode cX4_night 15 = .ok (.sipush 1440, 3) := dk_17 5 160 (dk_at dksX4_night_0 15 rfl rfl)
theorem dX4_night_18 : decode cX4_night 18 = .ok (.irem, 1) := dk_112 (dk_at dksX4_night_0 18 rfl rfl)
theorem dX4_night_19 : decode cX4_night 19 = .ok (.istore_n 1, 1) := dk_60 (dk_at dksX4_night_0 19 rfl rfl)
theorem dX4_night_20 : decode cX4_night 20 = .ok (.iload_n 1, 1) := dk_27 (dk_at dksX4_night_0 20 rfl rfl)
theorem dX4_night_21 : decode cX4_night 21 = .ok (.aload_n 0, 1) := dk_42 (dk_at dksX4_night_0 21 rfl rfl)
theorem dX4_night_22 : decode cX4_night 22 = .ok (.bipush 16, 2) := dk_16 16 (dk_at dksX4_night_0 22 rfl rfl)
theorem dX4_night_24 : decode cX4_night 24 = .ok (.invokevirtual 66, 3) := dk_182 0 66 (dk_at dksX4_night_1 0 rfl rfl)
theorem dX4_night_27 : decode cX4_night 27 = .ok (.if_icmp .lt 4, 3) := dk_161 0 4 (dk_at dksX4_night_1 3 rfl rfl)
theorem dX4_night_30 : decode cX4_night 30 = .ok (.return_, 1) := dk_177 (dk_at dksX4_night_1 6 rfl rfl)
theorem dX4_night_31 : decode cX4_night 31 = .ok (.aload_n 0, 1) := dk_42 (dk_at dksX4_night_1 7 rfl rfl)
theorem dX4_night_32 : decode cX4_night 32 = .ok (.getfield 7, 3) := dk_180 0 7 (dk_at dksX4_night_1 8 rfl rfl)
theorem dX4_night_35 : decode cX4_night 35 = .ok (.bipush 8, 2) := dk_16 8 (dk_at dksX4_night_1 11 rfl rfl)
theorem dX4_night_37 : decode cX4_night 37 = .ok (.dup2, 1) := dk_92 (dk_at dksX4_night_1 13 rfl rfl)
theorem dX4_night_38 : decode cX4_night 38 = .ok (.iaload, 1) := dk_46 (dk_at dksX4_night_1 14 rfl rfl)
theorem dX4_night_39 : decode cX4_night 39 = .ok (.aload_n 0, 1) := dk_42 (dk_at dksX4_night_1 15 rfl rfl)
theorem dX4_night_40 : decode cX4_night 40 = .ok (.getfield 7, 3) := dk_180 0 7 (dk_at dksX4_night_1 16 rfl rfl)
theorem dX4_night_43 : decode cX4_night 43 = .ok (.iconst 3, 1) := dk_6 (dk_at dksX4_night_1 19 rfl rfl)
theorem dX4_night_44 : decode cX4_night 44 = .ok (.iaload, 1) := dk_46 (dk_at dksX4_night_1 20 rfl rfl)
theorem dX4_night_45 : decode cX4_night 45 = .ok (.iadd, 1) := dk_96 (dk_at dksX4_night_1 21 rfl rfl)
theorem dX4_night_46 : decode cX4_night 46 = .ok (.iastore, 1) := dk_79 (dk_at dksX4_night_1 22 rfl rfl)
theorem dX4_night_47 : decode cX4_night 47 = .ok (.iload_n 1, 1) := dk_27 (dk_at dksX4_night_1 23 rfl rfl)
theorem dX4_night_48 : decode cX4_night 48 = .ok (.aload_n 0, 1) := dk_42 (dk_at dksX4_night_2 0 rfl rfl)
theorem dX4_night_49 : decode cX4_night 49 = .ok (.bipush 16, 2) := dk_16 16 (dk_at dksX4_night_2 1 rfl rfl)
theorem dX4_night_51 : decode cX4_night 51 = .ok (.invokevirtual 66, 3) := dk_182 0 66 (dk_at dksX4_night_2 3 rfl rfl)
theorem dX4_night_54 : decode cX4_night 54 = .ok (.iconst 1, 1) := dk_4 (dk_at dksX4_night_2 6 rfl rfl)
theorem dX4_night_55 : decode cX4_night 55 = .ok (.isub, 1) := dk_100 (dk_at dksX4_night_2 7 rfl rfl)
theorem dX4_night_56 : decode cX4_night 56 = .ok (.if_icmp .ge 4, 3) := dk_162 0 4 (dk_at dksX4_night_2 8 rfl rfl)
theorem dX4_night_59 : decode cX4_night 59 = .ok (.return_, 1) := dk_177 (dk_at dksX4_night_2 11 rfl rfl)
theorem dX4_night_60 : decode cX4_night 60 = .ok (.aload_n 0, 1) := dk_42 (dk_at dksX4_night_2 12 rfl rfl)
theorem dX4_night_61 : decode cX4_night 61 = .ok (.getfield 7, 3) := dk_180 0 7 (dk_at dksX4_night_2 13 rfl rfl)
theorem dX4_night_64 : decode cX4_night 64 = .ok (.bipush 18, 2) := dk_16 18 (dk_at dksX4_night_2 16 rfl rfl)
theorem dX4_night_66 : decode cX4_night 66 = .ok (.iaload, 1) := dk_46 (dk_at dksX4_night_2 18 rfl rfl)
theorem dX4_night_67 : decode cX4_night 67 = .ok (.iconst 3, 1) := dk_6 (dk_at dksX4_night_2 19 rfl rfl)
theorem dX4_night_68 : decode cX4_night 68 = .ok (.if_icmp .lt 42, 3) := dk_161 0 42 (dk_at dksX4_night_2 20 rfl rfl)
theorem dX4_night_71 : decode cX4_night 71 = .ok (.aload_n 0, 1) := dk_42 (dk_at dksX4_night_2 23 rfl rfl)
theorem dX4_night_72 : decode cX4_night 72 = .ok (.getfield 7, 3) := dk_180 0 7 (dk_at dksX4_night_3 0 rfl rfl)
theorem dX4_night_75 : decode cX4_night 75 = .ok (.bipush 8, 2) := dk_16 8 (dk_at dksX4_night_3 3 rfl rfl)
theorem dX4_night_77 : decode cX4_night 77 = .ok (.iaload, 1) := dk_46 (dk_at dksX4_night_3 5 rfl rfl)
theorem dX4_night_78 : decode cX4_night 78 = .ok (.aload_n 0, 1) := dk_42 (dk_at dksX4_night_3 6 rfl rfl)
theorem dX4_night_79 : decode cX4_night 79 = .ok (.invokevirtual 165, 3) := dk_182 0 165 (dk_at dksX4_night_3 7 rfl rfl)
theorem dX4_night_82 : decode cX4_night 82 = .ok (.aload_n 0, 1) := dk_42 (dk_at dksX4_night_3 10 rfl rfl)
theorem dX4_night_83 : decode cX4_night 83 = .ok (.bipush 17, 2) := dk_16 17 (dk_at dksX4_night_3 11 rfl rfl)
theorem dX4_night_85 : decode cX4_night 85 = .ok (.invokevirtual 66, 3) := dk_182 0 66 (dk_at dksX4_night_3 13 rfl rfl)
theorem dX4_night_88 : decode cX4_night 88 = .ok (.iadd, 1) := dk_96 (dk_at dksX4_night_3 16 rfl rfl)
theorem dX4_night_89 : decode cX4_night 89 = .ok (.if_icmp .le 21, 3) := dk_164 0 21 (dk_at dksX4_night_3 17 rfl rfl)
theorem dX4_night_92 : decode cX4_night 92 = .ok (.aload_n 0, 1) := dk_42 (dk_at dksX4_night_3 20 rfl rfl)
theorem dX4_night_93 : decode cX4_night 93 = .ok (.getfield 7, 3) := dk_180 0 7 (dk_at dksX4_night_3 21 rfl rfl)
theorem dX4_night_96 : decode cX4_night 96 = .ok (.bipush 9, 2) := dk_16 9 (dk_at dksX4_night_4 0 rfl rfl)
theorem dX4_night_98 : decode cX4_night 98 = .ok (.dup2, 1) := dk_92 (dk_at dksX4_night_4 2 rfl rfl)
theorem dX4_night_99 : decode cX4_night 99 = .ok (.iaload, 1) := dk_46 (dk_at dksX4_night_4 3 rfl rfl)
theorem dX4_night_100 : decode cX4_night 100 = .ok (.iconst 1, 1) := dk_4 (dk_at dksX4_night_4 4 rfl rfl)
theorem dX4_night_101 : decode cX4_night 101 = .ok (.iadd, 1) := dk_96 (dk_at dksX4_night_4 5 rfl rfl)
theorem dX4_night_102 : decode cX4_night 102 = .ok (.iastore, 1) := dk_79 (dk_at dksX4_night_4 6 rfl rfl)
theorem dX4_night_103 : decode cX4_night 103 = .ok (.aload_n 0, 1) := dk_42 (dk_at dksX4_night_4 7 rfl rfl)
theorem dX4_night_104 : decode cX4_night 104 = .ok (.bipush 6, 2) := dk_16 6 (dk_at dksX4_night_4 8 rfl rfl)
theorem dX4_night_106 : decode cX4_night 106 = .ok (.iconst (-1), 1) := dk_2 (dk_at dksX4_night_4 10 rfl rfl)
theorem dX4_night_107 : decode cX4_night 107 = .ok (.invokevirtual 105, 3) := dk_182 0 105 (dk_at dksX4_night_4 11 rfl rfl)
theorem dX4_night_110 : decode cX4_night 110 = .ok (.bipush 6, 2) := dk_16 6 (dk_at dksX4_night_4 14 rfl rfl)
theorem dX4_night_112 : decode cX4_night 112 = .ok (.istore_n 2, 1) := dk_61 (dk_at dksX4_night_4 16 rfl rfl)
theorem dX4_night_113 : decode cX4_night 113 = .ok (.iload_n 2, 1) := dk_28 (dk_at dksX4_night_4 17 rfl rfl)
theorem dX4_night_114 : decode cX4_night 114 = .ok (.ifCond .le 29, 3) := dk_158 0 29 (dk_at dksX4_night_4 18 rfl rfl)
theorem dX4_night_117 : decode cX4_night 117 = .ok (.aload_n 0, 1) := dk_42 (dk_at dksX4_night_4 21 rfl rfl)
theorem dX4_night_118 : decode cX4_night 118 = .ok (.getfield 7, 3) := dk_180 0 7 (dk_at dksX4_night_5 0 rfl rfl)
theorem dX4_night_121 : decode cX4_night 121 = .ok (.bipush 127, 2) := dk_16 127 (dk_at dksX4_night_5 3 rfl rfl)
theorem dX4_night_123 : decode cX4_night 123 = .ok (.iload_n 2, 1) := dk_28 (dk_at dksX4_night_5 5 rfl rfl)
theorem dX4_night_124 : decode cX4_night 124 = .ok (.iadd, 1) := dk_96 (dk_at dksX4_night_5 6 rfl rfl)
theorem dX4_night_125 : decode cX4_night 125 = .ok (.aload_n 0, 1) := dk_42 (dk_at dksX4_night_5 7 rfl rfl)
theorem dX4_night_126 : decode cX4_night 126 = .ok (.getfield 7, 3) := dk_180 0 7 (dk_at dksX4_night_5 8 rfl rfl)
theorem dX4_night_129 : decode cX4_night 129 = .ok (.bipush 127, 2) := dk_16 127 (dk_at dksX4_night_5 11 rfl rfl)
theorem dX4_night_131 : decode cX4_night 131 = .ok (.iload_n 2, 1) := dk_28 (dk_at dksX4_night_5 13 rfl rfl)
theorem dX4_night_132 : decode cX4_night 132 = .ok (.iadd, 1) := dk_96 (dk_at dksX4_night_5 14 rfl rfl)
theorem dX4_night_133 : decode cX4_night 133 = .ok (.iconst 1, 1) := dk_4 (dk_at dksX4_night_5 15 rfl rfl)
theorem dX4_night_134 : decode cX4_night 134 = .ok (.isub, 1) := dk_100 (dk_at dksX4_night_5 16 rfl rfl)
theorem dX4_night_135 : decode cX4_night 135 = .ok (.iaload, 1) := dk_46 (dk_at dksX4_night_5 17 rfl rfl)
theorem dX4_night_136 : decode cX4_night 136 = .ok (.iastore, 1) := dk_79 (dk_at dksX4_night_5 18 rfl rfl)
theorem dX4_night_137 : decode cX4_night 137 = .ok (.iinc 2 (-1), 3) := dk_132 2 255 (dk_at dksX4_night_5 19 rfl rfl)
theorem dX4_night_140 : decode cX4_night 140 = .ok (.goto (-27), 3) := dk_167 255 229 (dk_at dksX4_night_6 0 rfl rfl)
theorem dX4_night_143 : decode cX4_night 143 = .ok (.aload_n 0, 1) := dk_42 (dk_at dksX4_night_6 3 rfl rfl)
theorem dX4_night_144 : decode cX4_night 144 = .ok (.getfield 7, 3) := dk_180 0 7 (dk_at dksX4_night_6 4 rfl rfl)
theorem dX4_night_147 : decode cX4_night 147 = .ok (.bipush 127, 2) := dk_16 127 (dk_at dksX4_night_6 7 rfl rfl)
theorem dX4_night_149 : decode cX4_night 149 = .ok (.aload_n 0, 1) := dk_42 (dk_at dksX4_night_6 9 rfl rfl)
theorem dX4_night_150 : decode cX4_night 150 = .ok (.getfield 7, 3) := dk_180 0 7 (dk_at dksX4_night_6 10 rfl rfl)
theorem dX4_night_153 : decode cX4_night 153 = .ok (.bipush 8, 2) := dk_16 8 (dk_at dksX4_night_6 13 rfl rfl)
theorem dX4_night_155 : decode cX4_night 155 = .ok (.iaload, 1) := dk_46 (dk_at dksX4_night_6 15 rfl rfl)
theorem dX4_night_156 : decode cX4_night 156 = .ok (.iastore, 1) := dk_79 (dk_at dksX4_night_6 16 rfl rfl)
theorem dX4_night_157 : decode cX4_night 157 = .ok (.aload_n 0, 1) := dk_42 (dk_at dksX4_night_6 17 rfl rfl)
theorem dX4_night_158 : decode cX4_night 158 = .ok (.getfield 7, 3) := dk_180 0 7 (dk_at dksX4_night_6 18 rfl rfl)
theorem dX4_night_161 : decode cX4_night 161 = .ok (.bipush 8, 2) := dk_16 8 (dk_at dksX4_night_6 21 rfl rfl)
theorem dX4_night_163 : decode cX4_night 163 = .ok (.iconst 0, 1) := dk_3 (dk_at dksX4_night_6 23 rfl rfl)
theorem dX4_night_164 : decode cX4_night 164 = .ok (.iastore, 1) := dk_79 (dk_at dksX4_night_7 0 rfl rfl)
theorem dX4_night_165 : decode cX4_night 165 = .ok (.aload_n 0, 1) := dk_42 (dk_at dksX4_night_7 1 rfl rfl)
theorem dX4_night_166 : decode cX4_night 166 = .ok (.getfield 7, 3) := dk_180 0 7 (dk_at dksX4_night_7 2 rfl rfl)
theorem dX4_night_169 : decode cX4_night 169 = .ok (.bipush 18, 2) := dk_16 18 (dk_at dksX4_night_7 5 rfl rfl)
theorem dX4_night_171 : decode cX4_night 171 = .ok (.dup2, 1) := dk_92 (dk_at dksX4_night_7 7 rfl rfl)
theorem dX4_night_172 : decode cX4_night 172 = .ok (.iaload, 1) := dk_46 (dk_at dksX4_night_7 8 rfl rfl)
theorem dX4_night_173 : decode cX4_night 173 = .ok (.aload_n 0, 1) := dk_42 (dk_at dksX4_night_7 9 rfl rfl)
theorem dX4_night_174 : decode cX4_night 174 = .ok (.getfield 7, 3) := dk_180 0 7 (dk_at dksX4_night_7 10 rfl rfl)
theorem dX4_night_177 : decode cX4_night 177 = .ok (.bipush 18, 2) := dk_16 18 (dk_at dksX4_night_7 13 rfl rfl)
theorem dX4_night_179 : decode cX4_night 179 = .ok (.iaload, 1) := dk_46 (dk_at dksX4_night_7 15 rfl rfl)
theorem dX4_night_180 : decode cX4_night 180 = .ok (.bipush 7, 2) := dk_16 7 (dk_at dksX4_night_7 16 rfl rfl)
theorem dX4_night_182 : decode cX4_night 182 = .ok (.if_icmp .ge 7, 3) := dk_162 0 7 (dk_at dksX4_night_7 18 rfl rfl)
theorem dX4_night_185 : decode cX4_night 185 = .ok (.iconst 1, 1) := dk_4 (dk_at dksX4_night_7 21 rfl rfl)
theorem dX4_night_186 : decode cX4_night 186 = .ok (.goto 4, 3) := dk_167 0 4 (dk_at dksX4_night_8 0 rfl rfl)
theorem dX4_night_189 : decode cX4_night 189 = .ok (.iconst 0, 1) := dk_3 (dk_at dksX4_night_8 3 rfl rfl)
theorem dX4_night_190 : decode cX4_night 190 = .ok (.iadd, 1) := dk_96 (dk_at dksX4_night_8 4 rfl rfl)
theorem dX4_night_191 : decode cX4_night 191 = .ok (.iastore, 1) := dk_79 (dk_at dksX4_night_8 5 rfl rfl)
theorem dX4_night_192 : decode cX4_night 192 = .ok (.return_, 1) := dk_177 (dk_at dksX4_night_8 6 rfl rfl)
abbrev cX4_middleNight : ByteArray := prog_20_method_48_code
def yX4_middleNight : MethodName := ⟨RX4, "middleNight", "()I"⟩
def dkwX4_middleNight_5 : List UInt8 := [42, 180, 0, 7, 16, 127, 28, 96, 46, 172, 132, 2, 1, 167, 255, 135, 3, 172]
abbrev dktX4_middleNight_5 : List UInt8 := dkwX4_middleNight_5 ++ []
def dkwX4_middleNight_4 : List UInt8 := [167, 255, 185, 29, 27, 4, 100, 5, 108, 163, 0, 25, 29, 21, 4, 96, 27, 4, 100, 5, 108, 164, 0, 13]
abbrev dktX4_middleNight_4 : List UInt8 := dkwX4_middleNight_4 ++ dktX4_middleNight_5
def dkwX4_middleNight_3 : List UInt8 := [42, 180, 0, 7, 16, 127, 28, 96, 46, 160, 0, 7, 4, 167, 0, 4, 3, 96, 54, 4, 132, 5, 1]
abbrev dktX4_middleNight_3 : List UInt8 := dkwX4_middleNight_3 ++ dktX4_middleNight_4
def dkwX4_middleNight_2 : List UInt8 := [96, 46, 162, 0, 7, 4, 167, 0, 4, 3, 96, 62, 21, 4, 42, 180, 0, 7, 16, 127, 21, 5, 96, 46]
abbrev dktX4_middleNight_2 : List UInt8 := dkwX4_middleNight_2 ++ dktX4_middleNight_3
def dkwX4_middleNight_1 : List UInt8 := [21, 5, 27, 162, 0, 71, 29, 42, 180, 0, 7, 16, 127, 21, 5, 96, 46, 42, 180, 0, 7, 16, 127, 28]
abbrev dktX4_middleNight_1 : List UInt8 := dkwX4_middleNight_1 ++ dktX4_middleNight_2
def dkwX4_middleNight_0 : List UInt8 := [42, 180, 0, 7, 16, 18, 46, 60, 3, 61, 28, 27, 162, 0, 122, 3, 62, 3, 54, 4, 3, 54, 5]
abbrev dktX4_middleNight_0 : List UInt8 := dkwX4_middleNight_0 ++ dktX4_middleNight_1
theorem dksX4_middleNight_0 : cX4_middleNight.data.toList.drop 0 = dktX4_middleNight_0 := by decide +kernel
theorem dksX4_middleNight_1 : cX4_middleNight.data.toList.drop 23 = dktX4_middleNight_1 := dk_seg dksX4_middleNight_0 23 rfl rfl
theorem dksX4_middleNight_2 : cX4_middleNight.data.toList.drop 47 = dktX4_middleNight_2 := dk_seg dksX4_middleNight_1 24 rfl rfl
theorem dksX4_middleNight_3 : cX4_middleNight.data.toList.drop 71 = dktX4_middleNight_3 := dk_seg dksX4_middleNight_2 24 rfl rfl
theorem dksX4_middleNight_4 : cX4_middleNight.data.toList.drop 94 = dktX4_middleNight_4 := dk_seg dksX4_middleNight_3 23 rfl rfl
theorem dksX4_middleNight_5 : cX4_middleNight.data.toList.drop 118 = dktX4_middleNight_5 := dk_seg dksX4_middleNight_4 24 rfl rfl
theorem dX4_middleNight_0 : decode cX4_middleNight 0 = .ok (.aload_n 0, 1) := dk_42 (dk_at dksX4_middleNight_0 0 rfl rfl)
theorem dX4_middleNight_1 : decode cX4_middleNight 1 = .ok (.getfield 7, 3) := dk_180 0 7 (dk_at dksX4_middleNight_0 1 rfl rfl)
theorem dX4_middleNight_4 : decode cX4_middleNight 4 = .ok (.bipush 18, 2) := dk_16 18 (dk_at dksX4_middleNight_0 4 rfl rfl)
theorem dX4_middleNight_6 : decode cX4_middleNight 6 = .ok (.iaload, 1) := dk_46 (dk_at dksX4_middleNight_0 6 rfl rfl)
theorem dX4_middleNight_7 : decode cX4_middleNight 7 = .ok (.istore_n 1, 1) := dk_60 (dk_at dksX4_middleNight_0 7 rfl rfl)
theorem dX4_middleNight_8 : decode cX4_middleNight 8 = .ok (.iconst 0, 1) := dk_3 (dk_at dksX4_middleNight_0 8 rfl rfl)
theorem dX4_middleNight_9 : decode cX4_middleNight 9 = .ok (.istore_n 2, 1) := dk_61 (dk_at dksX4_middleNight_0 9 rfl rfl)
theorem dX4_middleNight_10 : decode cX4_middleNight 10 = .ok (.iload_n 2, 1) := dk_28 (dk_at dksX4_middleNight_0 10 rfl rfl)
theorem dX4_middleNight_11 : decode cX4_middleNight 11 = .ok (.iload_n 1, 1) := dk_27 (dk_at dksX4_middleNight_0 11 rfl rfl)
theorem dX4_middleNight_12 : decode cX4_middleNight 12 = .ok (.if_icmp .ge 122, 3) := dk_162 0 122 (dk_at dksX4_middleNight_0 12 rfl rfl)
theorem dX4_middleNight_15 : decode cX4_middleNight 15 = .ok (.iconst 0, 1) := dk_3 (dk_at dksX4_middleNight_0 15 rfl rfl)
theorem dX4_middleNight_16 : decode cX4_middleNight 16 = .ok (.istore_n 3, 1) := dk_62 (dk_at dksX4_middleNight_0 16 rfl rfl)
theorem dX4_middleNight_17 : decode cX4_middleNight 17 = .ok (.iconst 0, 1) := dk_3 (dk_at dksX4_middleNight_0 17 rfl rfl)
theorem dX4_middleNight_18 : decode cX4_middleNight 18 = .ok (.istore 4, 2) := dk_54 4 (dk_at dksX4_middleNight_0 18 rfl rfl)
theorem dX4_middleNight_20 : decode cX4_middleNight 20 = .ok (.iconst 0, 1) := dk_3 (dk_at dksX4_middleNight_0 20 rfl rfl)
theorem dX4_middleNight_21 : decode cX4_middleNight 21 = .ok (.istore 5, 2) := dk_54 5 (dk_at dksX4_middleNight_0 21 rfl rfl)
theorem dX4_middleNight_23 : decode cX4_middleNight 23 = .ok (.iload 5, 2) := dk_21 5 (dk_at dksX4_middleNight_1 0 rfl rfl)
theorem dX4_middleNight_25 : decode cX4_middleNight 25 = .ok (.iload_n 1, 1) := dk_27 (dk_at dksX4_middleNight_1 2 rfl rfl)
theorem dX4_middleNight_26 : decode cX4_middleNight 26 = .ok (.if_icmp .ge 71, 3) := dk_162 0 71 (dk_at dksX4_middleNight_1 3 rfl rfl)
theorem dX4_middleNight_29 : decode cX4_middleNight 29 = .ok (.iload_n 3, 1) := dk_29 (dk_at dksX4_middleNight_1 6 rfl rfl)
theorem dX4_middleNight_30 : decode cX4_middleNight 30 = .ok (.aload_n 0, 1) := dk_42 (dk_at dksX4_middleNight_1 7 rfl rfl)
theorem dX4_middleNight_31 : decode cX4_middleNight 31 = .ok (.getfield 7, 3) := dk_180 0 7 (dk_at dksX4_middleNight_1 8 rfl rfl)
theorem dX4_middleNight_34 : decode cX4_middleNight 34 = .ok (.bipush 127, 2) := dk_16 127 (dk_at dksX4_middleNight_1 11 rfl rfl)
theorem dX4_middleNight_36 : decode cX4_middleNight 36 = .ok (.iload 5, 2) := dk_21 5 (dk_at dksX4_middleNight_1 13 rfl rfl)
theorem dX4_middleNight_38 : decode cX4_middleNight 38 = .ok (.iadd, 1) := dk_96 (dk_at dksX4_middleNight_1 15 rfl rfl)
theorem dX4_middleNight_39 : decode cX4_middleNight 39 = .ok (.iaload, 1) := dk_46 (dk_at dksX4_middleNight_1 16 rfl rfl)
theorem dX4_middleNight_40 : decode cX4_middleNight 40 = .ok (.aload_n 0, 1) := dk_42 (dk_at dksX4_middleNight_1 17 rfl rfl)
theorem dX4_middleNight_41 : decode cX4_middleNight 41 = .ok (.getfield 7, 3) := dk_180 0 7 (dk_at dksX4_middleNight_1 18 rfl rfl)
theorem dX4_middleNight_44 : decode cX4_middleNight 44 = .ok (.bipush 127, 2) := dk_16 127 (dk_at dksX4_middleNight_1 21 rfl rfl)
theorem dX4_middleNight_46 : decode cX4_middleNight 46 = .ok (.iload_n 2, 1) := dk_28 (dk_at dksX4_middleNight_1 23 rfl rfl)
theorem dX4_middleNight_47 : decode cX4_middleNight 47 = .ok (.iadd, 1) := dk_96 (dk_at dksX4_middleNight_2 0 rfl rfl)
theorem dX4_middleNight_48 : decode cX4_middleNight 48 = .ok (.iaload, 1) := dk_46 (dk_at dksX4_middleNight_2 1 rfl rfl)
theorem dX4_middleNight_49 : decode cX4_middleNight 49 = .ok (.if_icmp .ge 7, 3) := dk_162 0 7 (dk_at dksX4_middleNight_2 2 rfl rfl)
theorem dX4_middleNight_52 : decode cX4_middleNight 52 = .ok (.iconst 1, 1) := dk_4 (dk_at dksX4_middleNight_2 5 rfl rfl)
theorem dX4_middleNight_53 : decode cX4_middleNight 53 = .ok (.goto 4, 3) := dk_167 0 4 (dk_at dksX4_middleNight_2 6 rfl rfl)
theorem dX4_middleNight_56 : decode cX4_middleNight 56 = .ok (.iconst 0, 1) := dk_3 (dk_at dksX4_middleNight_2 9 rfl rfl)
theorem dX4_middleNight_57 : decode cX4_middleNight 57 = .ok (.iadd, 1) := dk_96 (dk_at dksX4_middleNight_2 10 rfl rfl)
theorem dX4_middleNight_58 : decode cX4_middleNight 58 = .ok (.istore_n 3, 1) := dk_62 (dk_at dksX4_middleNight_2 11 rfl rfl)
theorem dX4_middleNight_59 : decode cX4_middleNight 59 = .ok (.iload 4, 2) := dk_21 4 (dk_at dksX4_middleNight_2 12 rfl rfl)
theorem dX4_middleNight_61 : decode cX4_middleNight 61 = .ok (.aload_n 0, 1) := dk_42 (dk_at dksX4_middleNight_2 14 rfl rfl)
theorem dX4_middleNight_62 : decode cX4_middleNight 62 = .ok (.getfield 7, 3) := dk_180 0 7 (dk_at dksX4_middleNight_2 15 rfl rfl)
theorem dX4_middleNight_65 : decode cX4_middleNight 65 = .ok (.bipush 127, 2) := dk_16 127 (dk_at dksX4_middleNight_2 18 rfl rfl)
theorem dX4_middleNight_67 : decode cX4_middleNight 67 = .ok (.iload 5, 2) := dk_21 5 (dk_at dksX4_middleNight_2 20 rfl rfl)
theorem dX4_middleNight_69 : decode cX4_middleNight 69 = .ok (.iadd, 1) := dk_96 (dk_at dksX4_middleNight_2 22 rfl rfl)
theorem dX4_middleNight_70 : decode cX4_middleNight 70 = .ok (.iaload, 1) := dk_46 (dk_at dksX4_middleNight_2 23 rfl rfl)
theorem dX4_middleNight_71 : decode cX4_middleNight 71 = .ok (.aload_n 0, 1) := dk_42 (dk_at dksX4_middleNight_3 0 rfl rfl)
theorem dX4_middleNight_72 : decode cX4_middleNight 72 = .ok (.getfield 7, 3) := dk_180 0 7 (dk_at dksX4_middleNight_3 1 rfl rfl)
theorem dX4_middleNight_75 : decode cX4_middleNight 75 = .ok (.bipush 127, 2) := dk_16 127 (dk_at dksX4_middleNight_3 4 rfl rfl)
theorem dX4_middleNight_77 : decode cX4_middleNight 77 = .ok (.iload_n 2, 1) := dk_28 (dk_at dksX4_middleNight_3 6 rfl rfl)
theorem dX4_middleNight_78 : decode cX4_middleNight 78 = .ok (.iadd, 1) := dk_96 (dk_at dksX4_middleNight_3 7 rfl rfl)
theorem dX4_middleNight_79 : decode cX4_middleNight 79 = .ok (.iaload, 1) := dk_46 (dk_at dksX4_middleNight_3 8 rfl rfl)
theorem dX4_middleNight_80 : decode cX4_middleNight 80 = .ok (.if_icmp .ne 7, 3) := dk_160 0 7 (dk_at dksX4_middleNight_3 9 rfl rfl)
theorem dX4_middleNight_83 : decode cX4_middleNight 83 = .ok (.iconst 1, 1) := dk_4 (dk_at dksX4_middleNight_3 12 rfl rfl)
theorem dX4_middleNight_84 : decode cX4_middleNight 84 = .ok (.goto 4, 3) := dk_167 0 4 (dk_at dksX4_middleNight_3 13 rfl rfl)
theorem dX4_middleNight_87 : decode cX4_middleNight 87 = .ok (.iconst 0, 1) := dk_3 (dk_at dksX4_middleNight_3 16 rfl rfl)
theorem dX4_middleNight_88 : decode cX4_middleNight 88 = .ok (.iadd, 1) := dk_96 (dk_at dksX4_middleNight_3 17 rfl rfl)
theorem dX4_middleNight_89 : decode cX4_middleNight 89 = .ok (.istore 4, 2) := dk_54 4 (dk_at dksX4_middleNight_3 18 rfl rfl)
theorem dX4_middleNight_91 : decode cX4_middleNight 91 = .ok (.iinc 5 1, 3) := dk_132 5 1 (dk_at dksX4_middleNight_3 20 rfl rfl)
theorem dX4_middleNight_94 : decode cX4_middleNight 94 = .ok (.goto (-71), 3) := dk_167 255 185 (dk_at dksX4_middleNight_4 0 rfl rfl)
theorem dX4_middleNight_97 : decode cX4_middleNight 97 = .ok (.iload_n 3, 1) := dk_29 (dk_at dksX4_middleNight_4 3 rfl rfl)
theorem dX4_middleNight_98 : decode cX4_middleNight 98 = .ok (.iload_n 1, 1) := dk_27 (dk_at dksX4_middleNight_4 4 rfl rfl)
theorem dX4_middleNight_99 : decode cX4_middleNight 99 = .ok (.iconst 1, 1) := dk_4 (dk_at dksX4_middleNight_4 5 rfl rfl)
theorem dX4_middleNight_100 : decode cX4_middleNight 100 = .ok (.isub, 1) := dk_100 (dk_at dksX4_middleNight_4 6 rfl rfl)
theorem dX4_middleNight_101 : decode cX4_middleNight 101 = .ok (.iconst 2, 1) := dk_5 (dk_at dksX4_middleNight_4 7 rfl rfl)
theorem dX4_middleNight_102 : decode cX4_middleNight 102 = .ok (.idiv, 1) := dk_108 (dk_at dksX4_middleNight_4 8 rfl rfl)
theorem dX4_middleNight_103 : decode cX4_middleNight 103 = .ok (.if_icmp .gt 25, 3) := dk_163 0 25 (dk_at dksX4_middleNight_4 9 rfl rfl)
theorem dX4_middleNight_106 : decode cX4_middleNight 106 = .ok (.iload_n 3, 1) := dk_29 (dk_at dksX4_middleNight_4 12 rfl rfl)
theorem dX4_middleNight_107 : decode cX4_middleNight 107 = .ok (.iload 4, 2) := dk_21 4 (dk_at dksX4_middleNight_4 13 rfl rfl)
theorem dX4_middleNight_109 : decode cX4_middleNight 109 = .ok (.iadd, 1) := dk_96 (dk_at dksX4_middleNight_4 15 rfl rfl)
theorem dX4_middleNight_110 : decode cX4_middleNight 110 = .ok (.iload_n 1, 1) := dk_27 (dk_at dksX4_middleNight_4 16 rfl rfl)
theorem dX4_middleNight_111 : decode cX4_middleNight 111 = .ok (.iconst 1, 1) := dk_4 (dk_at dksX4_middleNight_4 17 rfl rfl)
theorem dX4_middleNight_112 : decode cX4_middleNight 112 = .ok (.isub, 1) := dk_100 (dk_at dksX4_middleNight_4 18 rfl rfl)
theorem dX4_middleNight_113 : decode cX4_middleNight 113 = .ok (.iconst 2, 1) := dk_5 (dk_at dksX4_middleNight_4 19 rfl rfl)
theorem dX4_middleNight_114 : decode cX4_middleNight 114 = .ok (.idiv, 1) := dk_108 (dk_at dksX4_middleNight_4 20 rfl rfl)
theorem dX4_middleNight_115 : decode cX4_middleNight 115 = .ok (.if_icmp .le 13, 3) := dk_164 0 13 (dk_at dksX4_middleNight_4 21 rfl rfl)
theorem dX4_middleNight_118 : decode cX4_middleNight 118 = .ok (.aload_n 0, 1) := dk_42 (dk_at dksX4_middleNight_5 0 rfl rfl)
theorem dX4_middleNight_119 : decode cX4_middleNight 119 = .ok (.getfield 7, 3) := dk_180 0 7 (dk_at dksX4_middleNight_5 1 rfl rfl)
theorem dX4_middleNight_122 : decode cX4_middleNight 122 = .ok (.bipush 127, 2) := dk_16 127 (dk_at dksX4_middleNight_5 4 rfl rfl)
theorem dX4_middleNight_124 : decode cX4_middleNight 124 = .ok (.iload_n 2, 1) := dk_28 (dk_at dksX4_middleNight_5 6 rfl rfl)
theorem dX4_middleNight_125 : decode cX4_middleNight 125 = .ok (.iadd, 1) := dk_96 (dk_at dksX4_middleNight_5 7 rfl rfl)
theorem dX4_middleNight_126 : decode cX4_middleNight 126 = .ok (.iaload, 1) := dk_46 (dk_at dksX4_middleNight_5 8 rfl rfl)
theorem dX4_middleNight_127 : decode cX4_middleNight 127 = .ok (.ireturn, 1) := dk_172 (dk_at dksX4_middleNight_5 9 rfl rfl)
theorem dX4_middleNight_128 : decode cX4_middleNight 128 = .ok (.iinc 2 1, 3) := dk_132 2 1 (dk_at dksX4_middleNight_5 10 rfl rfl)
theorem dX4_middleNight_131 : decode cX4_middleNight 131 = .ok (.goto (-121), 3) := dk_167 255 135 (dk_at dksX4_middleNight_5 13 rfl rfl)
theorem dX4_middleNight_134 : decode cX4_middleNight 134 = .ok (.iconst 0, 1) := dk_3 (dk_at dksX4_middleNight_5 16 rfl rfl)
theorem dX4_middleNight_135 : decode cX4_middleNight 135 = .ok (.ireturn, 1) := dk_172 (dk_at dksX4_middleNight_5 17 rfl rfl)
abbrev cX4_dryness : ByteArray := prog_20_method_50_code
def yX4_dryness : MethodName := ⟨RX4, "dryness", "()V"⟩
def dkwX4_dryness_7 : List UInt8 := [177]
abbrev dktX4_dryness_7 : List UInt8 := dkwX4_dryness_7 ++ []
def dkwX4_dryness_6 : List UInt8 := [42, 180, 0, 7, 16, 6, 46, 6, 162, 0, 16, 42, 180, 0, 7, 8, 3, 79, 42, 8, 2, 182, 0, 105]
abbrev dktX4_dryness_6 : List UInt8 := dkwX4_dryness_6 ++ dktX4_dryness_7
def dkwX4_dryness_5 : List UInt8 := [180, 0, 7, 5, 46, 42, 16, 12, 182, 0, 66, 161, 0, 37, 42, 180, 0, 7, 8, 46, 4, 160, 0, 27]
abbrev dktX4_dryness_5 : List UInt8 := dkwX4_dryness_5 ++ dktX4_dryness_6
def dkwX4_dryness_4 : List UInt8 := [132, 1, 1, 167, 255, 229, 42, 180, 0, 7, 16, 6, 92, 46, 4, 96, 79, 42, 7, 2, 182, 0, 105, 42]
abbrev dktX4_dryness_4 : List UInt8 := dkwX4_dryness_4 ++ dktX4_dryness_5
def dkwX4_dryness_3 : List UInt8 := [27, 42, 180, 0, 7, 16, 14, 46, 162, 0, 22, 42, 27, 182, 0, 82, 153, 0, 8, 42, 27, 182, 0, 116]
abbrev dktX4_dryness_3 : List UInt8 := dkwX4_dryness_3 ++ dktX4_dryness_4
def dkwX4_dryness_2 : List UInt8 := [182, 0, 66, 161, 0, 68, 42, 180, 0, 7, 8, 46, 154, 0, 59, 42, 180, 0, 7, 8, 4, 79, 3, 60]
abbrev dktX4_dryness_2 : List UInt8 := dkwX4_dryness_2 ++ dktX4_dryness_3
def dkwX4_dryness_1 : List UInt8 := [180, 0, 7, 16, 7, 46, 4, 96, 167, 0, 4, 3, 79, 42, 180, 0, 7, 16, 7, 46, 42, 16, 13]
abbrev dktX4_dryness_1 : List UInt8 := dkwX4_dryness_1 ++ dktX4_dryness_2
def dkwX4_dryness_0 : List UInt8 := [42, 180, 0, 7, 16, 7, 42, 180, 0, 7, 5, 46, 42, 16, 11, 182, 0, 66, 162, 0, 15, 42]
abbrev dktX4_dryness_0 : List UInt8 := dkwX4_dryness_0 ++ dktX4_dryness_1
theorem dksX4_dryness_0 : cX4_dryness.data.toList.drop 0 = dktX4_dryness_0 := by decide +kernel
theorem dksX4_dryness_1 : cX4_dryness.data.toList.drop 22 = dktX4_dryness_1 := dk_seg dksX4_dryness_0 22 rfl rfl
theorem dksX4_dryness_2 : cX4_dryness.data.toList.drop 45 = dktX4_dryness_2 := dk_seg dksX4_dryness_1 23 rfl rfl
theorem dksX4_dryness_3 : cX4_dryness.data.toList.drop 69 = dktX4_dryness_3 := dk_seg dksX4_dryness_2 24 rfl rfl
theorem dksX4_dryness_4 : cX4_dryness.data.toList.drop 93 = dktX4_dryness_4 := dk_seg dksX4_dryness_3 24 rfl rfl
theorem dksX4_dryness_5 : cX4_dryness.data.toList.drop 117 = dktX4_dryness_5 := dk_seg dksX4_dryness_4 24 rfl rfl
theorem dksX4_dryness_6 : cX4_dryness.data.toList.drop 141 = dktX4_dryness_6 := dk_seg dksX4_dryness_5 24 rfl rfl
theorem dksX4_dryness_7 : cX4_dryness.data.toList.drop 165 = dktX4_dryness_7 := dk_seg dksX4_dryness_6 24 rfl rfl
theorem dX4_dryness_0 : decode cX4_dryness 0 = .ok (.aload_n 0, 1) := dk_42 (dk_at dksX4_dryness_0 0 rfl rfl)
theorem dX4_dryness_1 : decode cX4_dryness 1 = .ok (.getfield 7, 3) := dk_180 0 7 (dk_at dksX4_dryness_0 1 rfl rfl)
theorem dX4_dryness_4 : decode cX4_dryness 4 = .ok (.bipush 7, 2) := dk_16 7 (dk_at dksX4_dryness_0 4 rfl rfl)
theorem dX4_dryness_6 : decode cX4_dryness 6 = .ok (.aload_n 0, 1) := dk_42 (dk_at dksX4_dryness_0 6 rfl rfl)
theorem dX4_dryness_7 : decode cX4_dryness 7 = .ok (.getfield 7, 3) := dk_180 0 7 (dk_at dksX4_dryness_0 7 rfl rfl)
theorem dX4_dryness_10 : decode cX4_dryness 10 = .ok (.iconst 2, 1) := dk_5 (dk_at dksX4_dryness_0 10 rfl rfl)
theorem dX4_dryness_11 : decode cX4_dryness 11 = .ok (.iaload, 1) := dk_46 (dk_at dksX4_dryness_0 11 rfl rfl)
theorem dX4_dryness_12 : decode cX4_dryness 12 = .ok (.aload_n 0, 1) := dk_42 (dk_at dksX4_dryness_0 12 rfl rfl)
theorem dX4_dryness_13 : decode cX4_dryness 13 = .ok (.bipush 11, 2) := dk_16 11 (dk_at dksX4_dryness_0 13 rfl rfl)
theorem dX4_dryness_15 : decode cX4_dryness 15 = .ok (.invokevirtual 66, 3) := dk_182 0 66 (dk_at dksX4_dryness_0 15 rfl rfl)
theorem dX4_dryness_18 : decode cX4_dryness 18 = .ok (.if_icmp .ge 15, 3) := dk_162 0 15 (dk_at dksX4_dryness_0 18 rfl rfl)
theorem dX4_dryness_21 : decode cX4_dryness 21 = .ok (.aload_n 0, 1) := dk_42 (dk_at dksX4_dryness_0 21 rfl rfl)
theorem dX4_dryness_22 : decode cX4_dryness 22 = .ok (.getfield 7, 3) := dk_180 0 7 (dk_at dksX4_dryness_1 0 rfl rfl)
theorem dX4_dryness_25 : decode cX4_dryness 25 = .ok (.bipush 7, 2) := dk_16 7 (dk_at dksX4_dryness_1 3 rfl rfl)
theorem dX4_dryness_27 : decode cX4_dryness 27 = .ok (.iaload, 1) := dk_46 (dk_at dksX4_dryness_1 5 rfl rfl)
theorem dX4_dryness_28 : decode cX4_dryness 28 = .ok (.iconst 1, 1) := dk_4 (dk_at dksX4_dryness_1 6 rfl rfl)
theorem dX4_dryness_29 : decode cX4_dryness 29 = .ok (.iadd, 1) := dk_96 (dk_at dksX4_dryness_1 7 rfl rfl)
theorem dX4_dryness_30 : decode cX4_dryness 30 = .ok (.goto 4, 3) := dk_167 0 4 (dk_at dksX4_dryness_1 8 rfl rfl)
theorem dX4_dryness_33 : decode cX4_dryness 33 = .ok (.iconst 0, 1) := dk_3 (dk_at dksX4_dryness_1 11 rfl rfl)
theorem dX4_dryness_34 : decode cX4_dryness 34 = .ok (.iastore, 1) := dk_79 (dk_at dksX4_dryness_1 12 rfl rfl)
theorem dX4_dryness_35 : decode cX4_dryness 35 = .ok (.aload_n 0, 1) := dk_42 (dk_at dksX4_dryness_1 13 rfl rfl)
theorem dX4_dryness_36 : decode cX4_dryness 36 = .ok (.getfield 7, 3) := dk_180 0 7 (dk_at dksX4_dryness_1 14 rfl rfl)
theorem dX4_dryness_39 : decode cX4_dryness 39 = .ok (.bipush 7, 2) := dk_16 7 (dk_at dksX4_dryness_1 17 rfl rfl)
theorem dX4_dryness_41 : decode cX4_dryness 41 = .ok (.iaload, 1) := dk_46 (dk_at dksX4_dryness_1 19 rfl rfl)
theorem dX4_dryness_42 : decode cX4_dryness 42 = .ok (.aload_n 0, 1) := dk_42 (dk_at dksX4_dryness_1 20 rfl rfl)
theorem dX4_dryness_43 : decode cX4_dryness 43 = .ok (.bipush 13, 2) := dk_16 13 (dk_at dksX4_dryness_1 21 rfl rfl)
theorem dX4_dryness_45 : decode cX4_dryness 45 = .ok (.invokevirtual 66, 3) := dk_182 0 66 (dk_at dksX4_dryness_2 0 rfl rfl)
theorem dX4_dryness_48 : decode cX4_dryness 48 = .ok (.if_icmp .lt 68, 3) := dk_161 0 68 (dk_at dksX4_dryness_2 3 rfl rfl)
theorem dX4_dryness_51 : decode cX4_dryness 51 = .ok (.aload_n 0, 1) := dk_42 (dk_at dksX4_dryness_2 6 rfl rfl)
theorem dX4_dryness_52 : decode cX4_dryness 52 = .ok (.getfield 7, 3) := dk_180 0 7 (dk_at dksX4_dryness_2 7 rfl rfl)
theorem dX4_dryness_55 : decode cX4_dryness 55 = .ok (.iconst 5, 1) := dk_8 (dk_at dksX4_dryness_2 10 rfl rfl)
theorem dX4_dryness_56 : decode cX4_dryness 56 = .ok (.iaload, 1) := dk_46 (dk_at dksX4_dryness_2 11 rfl rfl)
theorem dX4_dryness_57 : decode cX4_dryness 57 = .ok (.ifCond .ne 59, 3) := dk_154 0 59 (dk_at dksX4_dryness_2 12 rfl rfl)
theorem dX4_dryness_60 : decode cX4_dryness 60 = .ok (.aload_n 0, 1) := dk_42 (dk_at dksX4_dryness_2 15 rfl rfl)
theorem dX4_dryness_61 : decode cX4_dryness 61 = .ok (.getfield 7, 3) := dk_180 0 7 (dk_at dksX4_dryness_2 16 rfl rfl)
theorem dX4_dryness_64 : decode cX4_dryness 64 = .ok (.iconst 5, 1) := dk_8 (dk_at dksX4_dryness_2 19 rfl rfl)
theorem dX4_dryness_65 : decode cX4_dryness 65 = .ok (.iconst 1, 1) := dk_4 (dk_at dksX4_dryness_2 20 rfl rfl)
theorem dX4_dryness_66 : decode cX4_dryness 66 = .ok (.iastore, 1) := dk_79 (dk_at dksX4_dryness_2 21 rfl rfl)
theorem dX4_dryness_67 : decode cX4_dryness 67 = .ok (.iconst 0, 1) := dk_3 (dk_at dksX4_dryness_2 22 rfl rfl)
theorem dX4_dryness_68 : decode cX4_dryness 68 = .ok (.istore_n 1, 1) := dk_60 (dk_at dksX4_dryness_2 23 rfl rfl)
theorem dX4_dryness_69 : decode cX4_dryness 69 = .ok (.iload_n 1, 1) := dk_27 (dk_at dksX4_dryness_3 0 rfl rfl)
theorem dX4_dryness_70 : decode cX4_dryness 70 = .ok (.aload_n 0, 1) := dk_42 (dk_at dksX4_dryness_3 1 rfl rfl)
theorem dX4_dryness_71 : decode cX4_dryness 71 = .ok (.getfield 7, 3) := dk_180 0 7 (dk_at dksX4_dryness_3 2 rfl rfl)
theorem dX4_dryness_74 : decode cX4_dryness 74 = .ok (.bipush 14, 2) := dk_16 14 (dk_at dksX4_dryness_3 5 rfl rfl)
theorem dX4_dryness_76 : decode cX4_dryness 76 = .ok (.iaload, 1) := dk_46 (dk_at dksX4_dryness_3 7 rfl rfl)
theorem dX4_dryness_77 : decode cX4_dryness 77 = .ok (.if_icmp .ge 22, 3) := dk_162 0 22 (dk_at dksX4_dryness_3 8 rfl rfl)
theorem dX4_dryness_80 : decode cX4_dryness 80 = .ok (.aload_n 0, 1) := dk_42 (dk_at dksX4_dryness_3 11 rfl rfl)
theorem dX4_dryness_81 : decode cX4_dryness 81 = .ok (.iload_n 1, 1) := dk_27 (dk_at dksX4_dryness_3 12 rfl rfl)
theorem dX4_dryness_82 : decode cX4_dryness 82 = .ok (.invokevirtual 82, 3) := dk_182 0 82 (dk_at dksX4_dryness_3 13 rfl rfl)
theorem dX4_dryness_85 : decode cX4_dryness 85 = .ok (.ifCond .eq 8, 3) := dk_153 0 8 (dk_at dksX4_dryness_3 16 rfl rfl)
theorem dX4_dryness_88 : decode cX4_dryness 88 = .ok (.aload_n 0, 1) := dk_42 (dk_at dksX4_dryness_3 19 rfl rfl)
theorem dX4_dryness_89 : decode cX4_dryness 89 = .ok (.iload_n 1, 1) := dk_27 (dk_at dksX4_dryness_3 20 rfl rfl)
theorem dX4_dryness_90 : decode cX4_dryness 90 = .ok (.invokevirtual 116, 3) := dk_182 0 116 (dk_at dksX4_dryness_3 21 rfl rfl)
theorem dX4_dryness_93 : decode cX4_dryness 93 = .ok (.iinc 1 1, 3) := dk_132 1 1 (dk_at dksX4_dryness_4 0 rfl rfl)
theorem dX4_dryness_96 : decode cX4_dryness 96 = .ok (.goto (-27), 3) := dk_167 255 229 (dk_at dksX4_dryness_4 3 rfl rfl)
theorem dX4_dryness_99 : decode cX4_dryness 99 = .ok (.aload_n 0, 1) := dk_42 (dk_at dksX4_dryness_4 6 rfl rfl)
theorem dX4_dryness_100 : decode cX4_dryness 100 = .ok (.getfield 7, 3) := dk_180 0 7 (dk_at dksX4_dryness_4 7 rfl rfl)
theorem dX4_dryness_103 : decode cX4_dryness 103 = .ok (.bipush 6, 2) := dk_16 6 (dk_at dksX4_dryness_4 10 rfl rfl)
theorem dX4_dryness_105 : decode cX4_dryness 105 = .ok (.dup2, 1) := dk_92 (dk_at dksX4_dryness_4 12 rfl rfl)
theorem dX4_dryness_106 : decode cX4_dryness 106 = .ok (.iaload, 1) := dk_46 (dk_at dksX4_dryness_4 13 rfl rfl)
theorem dX4_dryness_107 : decode cX4_dryness 107 = .ok (.iconst 1, 1) := dk_4 (dk_at dksX4_dryness_4 14 rfl rfl)
theorem dX4_dryness_108 : decode cX4_dryness 108 = .ok (.iadd, 1) := dk_96 (dk_at dksX4_dryness_4 15 rfl rfl)
theorem dX4_dryness_109 : decode cX4_dryness 109 = .ok (.iastore, 1) := dk_79 (dk_at dksX4_dryness_4 16 rfl rfl)
theorem dX4_dryness_110 : decode cX4_dryness 110 = .ok (.aload_n 0, 1) := dk_42 (dk_at dksX4_dryness_4 17 rfl rfl)
theorem dX4_dryness_111 : decode cX4_dryness 111 = .ok (.iconst 4, 1) := dk_7 (dk_at dksX4_dryness_4 18 rfl rfl)
theorem dX4_dryness_112 : decode cX4_dryness 112 = .ok (.iconst (-1), 1) := dk_2 (dk_at dksX4_dryness_4 19 rfl rfl)
theorem dX4_dryness_113 : decode cX4_dryness 113 = .ok (.invokevirtual 105, 3) := dk_182 0 105 (dk_at dksX4_dryness_4 20 rfl rfl)
theorem dX4_dryness_116 : decode cX4_dryness 116 = .ok (.aload_n 0, 1) := dk_42 (dk_at dksX4_dryness_4 23 rfl rfl)
theorem dX4_dryness_117 : decode cX4_dryness 117 = .ok (.getfield 7, 3) := dk_180 0 7 (dk_at dksX4_dryness_5 0 rfl rfl)
theorem dX4_dryness_120 : decode cX4_dryness 120 = .ok (.iconst 2, 1) := dk_5 (dk_at dksX4_dryness_5 3 rfl rfl)
theorem dX4_dryness_121 : decode cX4_dryness 121 = .ok (.iaload, 1) := dk_46 (dk_at dksX4_dryness_5 4 rfl rfl)
theorem dX4_dryness_122 : decode cX4_dryness 122 = .ok (.aload_n 0, 1) := dk_42 (dk_at dksX4_dryness_5 5 rfl rfl)
theorem dX4_dryness_123 : decode cX4_dryness 123 = .ok (.bipush 12, 2) := dk_16 12 (dk_at dksX4_dryness_5 6 rfl rfl)
theorem dX4_dryness_125 : decode cX4_dryness 125 = .ok (.invokevirtual 66, 3) := dk_182 0 66 (dk_at dksX4_dryness_5 8 rfl rfl)
theorem dX4_dryness_128 : decode cX4_dryness 128 = .ok (.if_icmp .lt 37, 3) := dk_161 0 37 (dk_at dksX4_dryness_5 11 rfl rfl)
theorem dX4_dryness_131 : decode cX4_dryness 131 = .ok (.aload_n 0, 1) := dk_42 (dk_at dksX4_dryness_5 14 rfl rfl)
theorem dX4_dryness_132 : decode cX4_dryness 132 = .ok (.getfield 7, 3) := dk_180 0 7 (dk_at dksX4_dryness_5 15 rfl rfl)
theorem dX4_dryness_135 : decode cX4_dryness 135 = .ok (.iconst 5, 1) := dk_8 (dk_at dksX4_dryness_5 18 rfl rfl)
theorem dX4_dryness_136 : decode cX4_dryness 136 = .ok (.iaload, 1) := dk_46 (dk_at dksX4_dryness_5 19 rfl rfl)
theorem dX4_dryness_137 : decode cX4_dryness 137 = .ok (.iconst 1, 1) := dk_4 (dk_at dksX4_dryness_5 20 rfl rfl)
theorem dX4_dryness_138 : decode cX4_dryness 138 = .ok (.if_icmp .ne 27, 3) := dk_160 0 27 (dk_at dksX4_dryness_5 21 rfl rfl)
theorem dX4_dryness_141 : decode cX4_dryness 141 = .ok (.aload_n 0, 1) := dk_42 (dk_at dksX4_dryness_6 0 rfl rfl)
theorem dX4_dryness_142 : decode cX4_dryness 142 = .ok (.getfield 7, 3) := dk_180 0 7 (dk_at dksX4_dryness_6 1 rfl rfl)
theorem dX4_dryness_145 : decode cX4_dryness 145 = .ok (.bipush 6, 2) := dk_16 6 (dk_at dksX4_dryness_6 4 rfl rfl)
theorem dX4_dryness_147 : decode cX4_dryness 147 = .ok (.iaload, 1) := dk_46 (dk_at dksX4_dryness_6 6 rfl rfl)
theorem dX4_dryness_148 : decode cX4_dryness 148 = .ok (.iconst 3, 1) := dk_6 (dk_at dksX4_dryness_6 7 rfl rfl)
theorem dX4_dryness_149 : decode cX4_dryness 149 = .ok (.if_icmp .ge 16, 3) := dk_162 0 16 (dk_at dksX4_dryness_6 8 rfl rfl)
theorem dX4_dryness_152 : decode cX4_dryness 152 = .ok (.aload_n 0, 1) := dk_42 (dk_at dksX4_dryness_6 11 rfl rfl)
theorem dX4_dryness_153 : decode cX4_dryness 153 = .ok (.getfield 7, 3) := dk_180 0 7 (dk_at dksX4_dryness_6 12 rfl rfl)
theorem dX4_dryness_156 : decode cX4_dryness 156 = .ok (.iconst 5, 1) := dk_8 (dk_at dksX4_dryness_6 15 rfl rfl)
theorem dX4_dryness_157 : decode cX4_dryness 157 = .ok (.iconst 0, 1) := dk_3 (dk_at dksX4_dryness_6 16 rfl rfl)
theorem dX4_dryness_158 : decode cX4_dryness 158 = .ok (.iastore, 1) := dk_79 (dk_at dksX4_dryness_6 17 rfl rfl)
theorem dX4_dryness_159 : decode cX4_dryness 159 = .ok (.aload_n 0, 1) := dk_42 (dk_at dksX4_dryness_6 18 rfl rfl)
theorem dX4_dryness_160 : decode cX4_dryness 160 = .ok (.iconst 5, 1) := dk_8 (dk_at dksX4_dryness_6 19 rfl rfl)
theorem dX4_dryness_161 : decode cX4_dryness 161 = .ok (.iconst (-1), 1) := dk_2 (dk_at dksX4_dryness_6 20 rfl rfl)
theorem dX4_dryness_162 : decode cX4_dryness 162 = .ok (.invokevirtual 105, 3) := dk_182 0 105 (dk_at dksX4_dryness_6 21 rfl rfl)
theorem dX4_dryness_165 : decode cX4_dryness 165 = .ok (.return_, 1) := dk_177 (dk_at dksX4_dryness_7 0 rfl rfl)
abbrev cX4_beginAnew : ByteArray := prog_20_method_55_code
def yX4_beginAnew : MethodName := ⟨RX4, "beginAnew", "()V"⟩
def dkwX4_beginAnew_1 : List UInt8 := [177]
abbrev dktX4_beginAnew_1 : List UInt8 := dkwX4_beginAnew_1 ++ []
def dkwX4_beginAnew_0 : List UInt8 := [42, 180, 0, 7, 16, 10, 3, 79, 42, 180, 0, 7, 16, 11, 3, 79, 42, 180, 0, 7, 16, 12, 3, 79]
abbrev dktX4_beginAnew_0 : List UInt8 := dkwX4_beginAnew_0 ++ dktX4_beginAnew_1
theorem dksX4_beginAnew_0 : cX4_beginAnew.data.toList.drop 0 = dktX4_beginAnew_0 := by decide +kernel
theorem dksX4_beginAnew_1 : cX4_beginAnew.data.toList.drop 24 = dktX4_beginAnew_1 := dk_seg dksX4_beginAnew_0 24 rfl rfl
theorem dX4_beginAnew_0 : decode cX4_beginAnew 0 = .ok (.aload_n 0, 1) := dk_42 (dk_at dksX4_beginAnew_0 0 rfl rfl)
theorem dX4_beginAnew_1 : decode cX4_beginAnew 1 = .ok (.getfield 7, 3) := dk_180 0 7 (dk_at dksX4_beginAnew_0 1 rfl rfl)
theorem dX4_beginAnew_4 : decode cX4_beginAnew 4 = .ok (.bipush 10, 2) := dk_16 10 (dk_at dksX4_beginAnew_0 4 rfl rfl)
theorem dX4_beginAnew_6 : decode cX4_beginAnew 6 = .ok (.iconst 0, 1) := dk_3 (dk_at dksX4_beginAnew_0 6 rfl rfl)
theorem dX4_beginAnew_7 : decode cX4_beginAnew 7 = .ok (.iastore, 1) := dk_79 (dk_at dksX4_beginAnew_0 7 rfl rfl)
theorem dX4_beginAnew_8 : decode cX4_beginAnew 8 = .ok (.aload_n 0, 1) := dk_42 (dk_at dksX4_beginAnew_0 8 rfl rfl)
theorem dX4_beginAnew_9 : decode cX4_beginAnew 9 = .ok (.getfield 7, 3) := dk_180 0 7 (dk_at dksX4_beginAnew_0 9 rfl rfl)
theorem dX4_beginAnew_12 : decode cX4_beginAnew 12 = .ok (.bipush 11, 2) := dk_16 11 (dk_at dksX4_beginAnew_0 12 rfl rfl)
theorem dX4_beginAnew_14 : decode cX4_beginAnew 14 = .ok (.iconst 0, 1) := dk_3 (dk_at dksX4_beginAnew_0 14 rfl rfl)
theorem dX4_beginAnew_15 : decode cX4_beginAnew 15 = .ok (.iastore, 1) := dk_79 (dk_at dksX4_beginAnew_0 15 rfl rfl)
theorem dX4_beginAnew_16 : decode cX4_beginAnew 16 = .ok (.aload_n 0, 1) := dk_42 (dk_at dksX4_beginAnew_0 16 rfl rfl)
theorem dX4_beginAnew_17 : decode cX4_beginAnew 17 = .ok (.getfield 7, 3) := dk_180 0 7 (dk_at dksX4_beginAnew_0 17 rfl rfl)
theorem dX4_beginAnew_20 : decode cX4_beginAnew 20 = .ok (.bipush 12, 2) := dk_16 12 (dk_at dksX4_beginAnew_0 20 rfl rfl)
theorem dX4_beginAnew_22 : decode cX4_beginAnew 22 = .ok (.iconst 0, 1) := dk_3 (dk_at dksX4_beginAnew_0 22 rfl rfl)
theorem dX4_beginAnew_23 : decode cX4_beginAnew 23 = .ok (.iastore, 1) := dk_79 (dk_at dksX4_beginAnew_0 23 rfl rfl)
theorem dX4_beginAnew_24 : decode cX4_beginAnew 24 = .ok (.return_, 1) := dk_177 (dk_at dksX4_beginAnew_1 0 rfl rfl)
abbrev cX4_regulate : ByteArray := prog_20_method_52_code
def yX4_regulate : MethodName := ⟨RX4, "regulate", "()V"⟩
def dkwX4_regulate_3 : List UInt8 := [182, 0, 74, 177]
abbrev dktX4_regulate_3 : List UInt8 := dkwX4_regulate_3 ++ []
def dkwX4_regulate_2 : List UInt8 := [42, 27, 7, 42, 27, 7, 182, 0, 78, 28, 96, 42, 7, 182, 0, 66, 17, 3, 232, 184, 0, 159]
abbrev dktX4_regulate_2 : List UInt8 := dkwX4_regulate_2 ++ dktX4_regulate_3
def dkwX4_regulate_1 : List UInt8 := [42, 5, 182, 0, 66, 104, 16, 100, 108, 42, 6, 182, 0, 66, 116, 42, 6, 182, 0, 66, 184, 0, 159, 61]
abbrev dktX4_regulate_1 : List UInt8 := dkwX4_regulate_1 ++ dktX4_regulate_2
def dkwX4_regulate_0 : List UInt8 := [42, 180, 0, 7, 7, 46, 60, 27, 2, 159, 0, 64, 42, 3, 182, 0, 66, 42, 180, 0, 7, 4, 46, 100]
abbrev dktX4_regulate_0 : List UInt8 := dkwX4_regulate_0 ++ dktX4_regulate_1
theorem dksX4_regulate_0 : cX4_regulate.data.toList.drop 0 = dktX4_regulate_0 := by decide +kernel
theorem dksX4_regulate_1 : cX4_regulate.data.toList.drop 24 = dktX4_regulate_1 := dk_seg dksX4_regulate_0 24 rfl rfl
theorem dksX4_regulate_2 : cX4_regulate.data.toList.drop 48 = dktX4_regulate_2 := dk_seg dksX4_regulate_1 24 rfl rfl
theorem dksX4_regulate_3 : cX4_regulate.data.toList.drop 70 = dktX4_regulate_3 := dk_seg dksX4_regulate_2 22 rfl rfl
theorem dX4_regulate_0 : decode cX4_regulate 0 = .ok (.aload_n 0, 1) := dk_42 (dk_at dksX4_regulate_0 0 rfl rfl)
theorem dX4_regulate_1 : decode cX4_regulate 1 = .ok (.getfield 7, 3) := dk_180 0 7 (dk_at dksX4_regulate_0 1 rfl rfl)
theorem dX4_regulate_4 : decode cX4_regulate 4 = .ok (.iconst 4, 1) := dk_7 (dk_at dksX4_regulate_0 4 rfl rfl)
theorem dX4_regulate_5 : decode cX4_regulate 5 = .ok (.iaload, 1) := dk_46 (dk_at dksX4_regulate_0 5 rfl rfl)
theorem dX4_regulate_6 : decode cX4_regulate 6 = .ok (.istore_n 1, 1) := dk_60 (dk_at dksX4_regulate_0 6 rfl rfl)
theorem dX4_regulate_7 : decode cX4_regulate 7 = .ok (.iload_n 1, 1) := dk_27 (dk_at dksX4_regulate_0 7 rfl rfl)
theorem dX4_regulate_8 : decode cX4_regulate 8 = .ok (.iconst (-1), 1) := dk_2 (dk_at dksX4_regulate_0 8 rfl rfl)
theorem dX4_regulate_9 : decode cX4_regulate 9 = .ok (.if_icmp .eq 64, 3) := dk_159 0 64 (dk_at dksX4_regulate_0 9 rfl rfl)
theorem dX4_regulate_12 : decode cX4_regulate 12 = .ok (.aload_n 0, 1) := dk_42 (dk_at dksX4_regulate_0 12 rfl rfl)
theorem dX4_regulate_13 : decode cX4_regulate 13 = .ok (.iconst 0, 1) := dk_3 (dk_at dksX4_regulate_0 13 rfl rfl)
theorem dX4_regulate_14 : decode cX4_regulate 14 = .ok (.invokevirtual 66, 3) := dk_182 0 66 (dk_at dksX4_regulate_0 14 rfl rfl)
theorem dX4_regulate_17 : decode cX4_regulate 17 = .ok (.aload_n 0, 1) := dk_42 (dk_at dksX4_regulate_0 17 rfl rfl)
theorem dX4_regulate_18 : decode cX4_regulate 18 = .ok (.getfield 7, 3) := dk_180 0 7 (dk_at dksX4_regulate_0 18 rfl rfl)
theorem dX4_regulate_21 : decode cX4_regulate 21 = .ok (.iconst 1, 1) := dk_4 (dk_at dksX4_regulate_0 21 rfl rfl)
theorem dX4_regulate_22 : decode cX4_regulate 22 = .ok (.iaload, 1) := dk_46 (dk_at dksX4_regulate_0 22 rfl rfl)
theorem dX4_regulate_23 : decode cX4_regulate 23 = .ok (.isub, 1) := dk_100 (dk_at dksX4_regulate_0 23 rfl rfl)
theorem dX4_regulate_24 : decode cX4_regulate 24 = .ok (.aload_n 0, 1) := dk_42 (dk_at dksX4_regulate_1 0 rfl rfl)
theorem dX4_regulate_25 : decode cX4_regulate 25 = .ok (.iconst 2, 1) := dk_5 (dk_at dksX4_regulate_1 1 rfl rfl)
theorem dX4_regulate_26 : decode cX4_regulate 26 = .ok (.invokevirtual 66, 3) := dk_182 0 66 (dk_at dksX4_regulate_1 2 rfl rfl)
theorem dX4_regulate_29 : decode cX4_regulate 29 = .ok (.imul, 1) := dk_104 (dk_at dksX4_regulate_1 5 rfl rfl)
theorem dX4_regulate_30 : decode cX4_regulate 30 = .ok (.bipush 100, 2) := dk_16 100 (dk_at dksX4_regulate_1 6 rfl rfl)
theorem dX4_regulate_32 : decode cX4_regulate 32 = .ok (.idiv, 1) := dk_108 (dk_at dksX4_regulate_1 8 rfl rfl)
theorem dX4_regulate_33 : decode cX4_regulate 33 = .ok (.aload_n 0, 1) := dk_42 (dk_at dksX4_regulate_1 9 rfl rfl)
theorem dX4_regulate_34 : decode cX4_regulate 34 = .ok (.iconst 3, 1) := dk_6 (dk_at dksX4_regulate_1 10 rfl rfl)
theorem dX4_regulate_35 : decode cX4_regulate 35 = .ok (.invokevirtual 66, 3) := dk_182 0 66 (dk_at dksX4_regulate_1 11 rfl rfl)
theorem dX4_regulate_38 : decode cX4_regulate 38 = .ok (.ineg, 1) := dk_116 (dk_at dksX4_regulate_1 14 rfl rfl)
theorem dX4_regulate_39 : decode cX4_regulate 39 = .ok (.aload_n 0, 1) := dk_42 (dk_at dksX4_regulate_1 15 rfl rfl)
theorem dX4_regulate_40 : decode cX4_regulate 40 = .ok (.iconst 3, 1) := dk_6 (dk_at dksX4_regulate_1 16 rfl rfl)
theorem dX4_regulate_41 : decode cX4_regulate 41 = .ok (.invokevirtual 66, 3) := dk_182 0 66 (dk_at dksX4_regulate_1 17 rfl rfl)
theorem dX4_regulate_44 : decode cX4_regulate 44 = .ok (.invokestatic 159, 3) := dk_184 0 159 (dk_at dksX4_regulate_1 20 rfl rfl)
theorem dX4_regulate_47 : decode cX4_regulate 47 = .ok (.istore_n 2, 1) := dk_61 (dk_at dksX4_regulate_1 23 rfl rfl)
theorem dX4_regulate_48 : decode cX4_regulate 48 = .ok (.aload_n 0, 1) := dk_42 (dk_at dksX4_regulate_2 0 rfl rfl)
theorem dX4_regulate_49 : decode cX4_regulate 49 = .ok (.iload_n 1, 1) := dk_27 (dk_at dksX4_regulate_2 1 rfl rfl)
theorem dX4_regulate_50 : decode cX4_regulate 50 = .ok (.iconst 4, 1) := dk_7 (dk_at dksX4_regulate_2 2 rfl rfl)
theorem dX4_regulate_51 : decode cX4_regulate 51 = .ok (.aload_n 0, 1) := dk_42 (dk_at dksX4_regulate_2 3 rfl rfl)
theorem dX4_regulate_52 : decode cX4_regulate 52 = .ok (.iload_n 1, 1) := dk_27 (dk_at dksX4_regulate_2 4 rfl rfl)
theorem dX4_regulate_53 : decode cX4_regulate 53 = .ok (.iconst 4, 1) := dk_7 (dk_at dksX4_regulate_2 5 rfl rfl)
theorem dX4_regulate_54 : decode cX4_regulate 54 = .ok (.invokevirtual 78, 3) := dk_182 0 78 (dk_at dksX4_regulate_2 6 rfl rfl)
theorem dX4_regulate_57 : decode cX4_regulate 57 = .ok (.iload_n 2, 1) := dk_28 (dk_at dksX4_regulate_2 9 rfl rfl)
theorem dX4_regulate_58 : decode cX4_regulate 58 = .ok (.iadd, 1) := dk_96 (dk_at dksX4_regulate_2 10 rfl rfl)
theorem dX4_regulate_59 : decode cX4_regulate 59 = .ok (.aload_n 0, 1) := dk_42 (dk_at dksX4_regulate_2 11 rfl rfl)
theorem dX4_regulate_60 : decode cX4_regulate 60 = .ok (.iconst 4, 1) := dk_7 (dk_at dksX4_regulate_2 12 rfl rfl)
theorem dX4_regulate_61 : decode cX4_regulate 61 = .ok (.invokevirtual 66, 3) := dk_182 0 66 (dk_at dksX4_regulate_2 13 rfl rfl)
theorem dX4_regulate_64 : decode cX4_regulate 64 = .ok (.sipush 1000, 3) := dk_17 3 232 (dk_at dksX4_regulate_2 16 rfl rfl)
theorem dX4_regulate_67 : decode cX4_regulate 67 = .ok (.invokestatic 159, 3) := dk_184 0 159 (dk_at dksX4_regulate_2 19 rfl rfl)
theorem dX4_regulate_70 : decode cX4_regulate 70 = .ok (.invokevirtual 74, 3) := dk_182 0 74 (dk_at dksX4_regulate_3 0 rfl rfl)
theorem dX4_regulate_73 : decode cX4_regulate 73 = .ok (.return_, 1) := dk_177 (dk_at dksX4_regulate_3 3 rfl rfl)
abbrev cX4_start : ByteArray := prog_20_method_22_code
def yX4_start : MethodName := ⟨RX4, "start", "(I)V"⟩
def dkwX4_start_2 : List UInt8 := [182, 0, 66, 4, 182, 0, 109, 177]
abbrev dktX4_start_2 : List UInt8 := dkwX4_start_2 ++ []
def dkwX4_start_1 : List UInt8 := [46, 2, 159, 0, 17, 42, 42, 180, 0, 7, 7, 46, 7, 17, 3, 232, 182, 0, 74, 42, 27, 42, 7]
abbrev dktX4_start_1 : List UInt8 := dkwX4_start_1 ++ dktX4_start_2
def dkwX4_start_0 : List UInt8 := [42, 27, 3, 182, 0, 78, 154, 0, 13, 42, 27, 17, 3, 232, 3, 182, 0, 109, 177, 42, 180, 0, 7, 7]
abbrev dktX4_start_0 : List UInt8 := dkwX4_start_0 ++ dktX4_start_1
theorem dksX4_start_0 : cX4_start.data.toList.drop 0 = dktX4_start_0 := by decide +kernel
theorem dksX4_start_1 : cX4_start.data.toList.drop 24 = dktX4_start_1 := dk_seg dksX4_start_0 24 rfl rfl
theorem dksX4_start_2 : cX4_start.data.toList.drop 47 = dktX4_start_2 := dk_seg dksX4_start_1 23 rfl rfl
theorem dX4_start_0 : decode cX4_start 0 = .ok (.aload_n 0, 1) := dk_42 (dk_at dksX4_start_0 0 rfl rfl)
theorem dX4_start_1 : decode cX4_start 1 = .ok (.iload_n 1, 1) := dk_27 (dk_at dksX4_start_0 1 rfl rfl)
theorem dX4_start_2 : decode cX4_start 2 = .ok (.iconst 0, 1) := dk_3 (dk_at dksX4_start_0 2 rfl rfl)
theorem dX4_start_3 : decode cX4_start 3 = .ok (.invokevirtual 78, 3) := dk_182 0 78 (dk_at dksX4_start_0 3 rfl rfl)
theorem dX4_start_6 : decode cX4_start 6 = .ok (.ifCond .ne 13, 3) := dk_154 0 13 (dk_at dksX4_start_0 6 rfl rfl)
theorem dX4_start_9 : decode cX4_start 9 = .ok (.aload_n 0, 1) := dk_42 (dk_at dksX4_start_0 9 rfl rfl)
theorem dX4_start_10 : decode cX4_start 10 = .ok (.iload_n 1, 1) := dk_27 (dk_at dksX4_start_0 10 rfl rfl)
theorem dX4_start_11 : decode cX4_start 11 = .ok (.sipush 1000, 3) := dk_17 3 232 (dk_at dksX4_start_0 11 rfl rfl)
theorem dX4_start_14 : decode cX4_start 14 = .ok (.iconst 0, 1) := dk_3 (dk_at dksX4_start_0 14 rfl rfl)
theorem dX4_start_15 : decode cX4_start 15 = .ok (.invokevirtual 109, 3) := dk_182 0 109 (dk_at dksX4_start_0 15 rfl rfl)
theorem dX4_start_18 : decode cX4_start 18 = .ok (.return_, 1) := dk_177 (dk_at dksX4_start_0 18 rfl rfl)
theorem dX4_start_19 : decode cX4_start 19 = .ok (.aload_n 0, 1) := dk_42 (dk_at dksX4_start_0 19 rfl rfl)
theorem dX4_start_20 : decode cX4_start 20 = .ok (.getfield 7, 3) := dk_180 0 7 (dk_at dksX4_start_0 20 rfl rfl)
theorem dX4_start_23 : decode cX4_start 23 = .ok (.iconst 4, 1) := dk_7 (dk_at dksX4_start_0 23 rfl rfl)
theorem dX4_start_24 : decode cX4_start 24 = .ok (.iaload, 1) := dk_46 (dk_at dksX4_start_1 0 rfl rfl)
theorem dX4_start_25 : decode cX4_start 25 = .ok (.iconst (-1), 1) := dk_2 (dk_at dksX4_start_1 1 rfl rfl)
theorem dX4_start_26 : decode cX4_start 26 = .ok (.if_icmp .eq 17, 3) := dk_159 0 17 (dk_at dksX4_start_1 2 rfl rfl)
theorem dX4_start_29 : decode cX4_start 29 = .ok (.aload_n 0, 1) := dk_42 (dk_at dksX4_start_1 5 rfl rfl)
theorem dX4_start_30 : decode cX4_start 30 = .ok (.aload_n 0, 1) := dk_42 (dk_at dksX4_start_1 6 rfl rfl)
theorem dX4_start_31 : decode cX4_start 31 = .ok (.getfield 7, 3) := dk_180 0 7 (dk_at dksX4_start_1 7 rfl rfl)
theorem dX4_start_34 : decode cX4_start 34 = .ok (.iconst 4, 1) := dk_7 (dk_at dksX4_start_1 10 rfl rfl)
theorem dX4_start_35 : decode cX4_start 35 = .ok (.iaload, 1) := dk_46 (dk_at dksX4_start_1 11 rfl rfl)
theorem dX4_start_36 : decode cX4_start 36 = .ok (.iconst 4, 1) := dk_7 (dk_at dksX4_start_1 12 rfl rfl)
theorem dX4_start_37 : decode cX4_start 37 = .ok (.sipush 1000, 3) := dk_17 3 232 (dk_at dksX4_start_1 13 rfl rfl)
theorem dX4_start_40 : decode cX4_start 40 = .ok (.invokevirtual 74, 3) := dk_182 0 74 (dk_at dksX4_start_1 16 rfl rfl)
theorem dX4_start_43 : decode cX4_start 43 = .ok (.aload_n 0, 1) := dk_42 (dk_at dksX4_start_1 19 rfl rfl)
theorem dX4_start_44 : decode cX4_start 44 = .ok (.iload_n 1, 1) := dk_27 (dk_at dksX4_start_1 20 rfl rfl)
theorem dX4_start_45 : decode cX4_start 45 = .ok (.aload_n 0, 1) := dk_42 (dk_at dksX4_start_1 21 rfl rfl)
theorem dX4_start_46 : decode cX4_start 46 = .ok (.iconst 4, 1) := dk_7 (dk_at dksX4_start_1 22 rfl rfl)
theorem dX4_start_47 : decode cX4_start 47 = .ok (.invokevirtual 66, 3) := dk_182 0 66 (dk_at dksX4_start_2 0 rfl rfl)
theorem dX4_start_50 : decode cX4_start 50 = .ok (.iconst 1, 1) := dk_4 (dk_at dksX4_start_2 3 rfl rfl)
theorem dX4_start_51 : decode cX4_start 51 = .ok (.invokevirtual 109, 3) := dk_182 0 109 (dk_at dksX4_start_2 4 rfl rfl)
theorem dX4_start_54 : decode cX4_start 54 = .ok (.return_, 1) := dk_177 (dk_at dksX4_start_2 7 rfl rfl)
abbrev cX4_begins : ByteArray := prog_20_method_21_code
def yX4_begins : MethodName := ⟨RX4, "begins", "(IIZ)V"⟩
def dkwX4_begins_2 : List UInt8 := [180, 0, 7, 7, 46, 79, 42, 3, 27, 182, 0, 105, 177]
abbrev dktX4_begins_2 : List UInt8 := dkwX4_begins_2 ++ []
def dkwX4_begins_1 : List UInt8 := [182, 0, 78, 4, 96, 182, 0, 74, 42, 180, 0, 7, 7, 29, 153, 0, 7, 27, 167, 0, 9, 42]
abbrev dktX4_begins_1 : List UInt8 := dkwX4_begins_1 ++ dktX4_begins_2
def dkwX4_begins_0 : List UInt8 := [42, 27, 7, 28, 182, 0, 74, 42, 27, 16, 6, 3, 182, 0, 74, 42, 27, 16, 7, 42, 27, 16, 7]
abbrev dktX4_begins_0 : List UInt8 := dkwX4_begins_0 ++ dktX4_begins_1
theorem dksX4_begins_0 : cX4_begins.data.toList.drop 0 = dktX4_begins_0 := by decide +kernel
theorem dksX4_begins_1 : cX4_begins.data.toList.drop 23 = dktX4_begins_1 := dk_seg dksX4_begins_0 23 rfl rfl
theorem dksX4_begins_2 : cX4_begins.data.toList.drop 45 = dktX4_begins_2 := dk_seg dksX4_begins_1 22 rfl rfl
theorem dX4_begins_0 : decode cX4_begins 0 = .ok (.aload_n 0, 1) := dk_42 (dk_at dksX4_begins_0 0 rfl rfl)
theorem dX4_begins_1 : decode cX4_begins 1 = .ok (.iload_n 1, 1) := dk_27 (dk_at dksX4_begins_0 1 rfl rfl)
theorem dX4_begins_2 : decode cX4_begins 2 = .ok (.iconst 4, 1) := dk_7 (dk_at dksX4_begins_0 2 rfl rfl)
theorem dX4_begins_3 : decode cX4_begins 3 = .ok (.iload_n 2, 1) := dk_28 (dk_at dksX4_begins_0 3 rfl rfl)
theorem dX4_begins_4 : decode cX4_begins 4 = .ok (.invokevirtual 74, 3) := dk_182 0 74 (dk_at dksX4_begins_0 4 rfl rfl)
theorem dX4_begins_7 : decode cX4_begins 7 = .ok (.aload_n 0, 1) := dk_42 (dk_at dksX4_begins_0 7 rfl rfl)
theorem dX4_begins_8 : decode cX4_begins 8 = .ok (.iload_n 1, 1) := dk_27 (dk_at dksX4_begins_0 8 rfl rfl)
theorem dX4_begins_9 : decode cX4_begins 9 = .ok (.bipush 6, 2) := dk_16 6 (dk_at dksX4_begins_0 9 rfl rfl)
theorem dX4_begins_11 : decode cX4_begins 11 = .ok (.iconst 0, 1) := dk_3 (dk_at dksX4_begins_0 11 rfl rfl)
theorem dX4_begins_12 : decode cX4_begins 12 = .ok (.invokevirtual 74, 3) := dk_182 0 74 (dk_at dksX4_begins_0 12 rfl rfl)
theorem dX4_begins_15 : decode cX4_begins 15 = .ok (.aload_n 0, 1) := dk_42 (dk_at dksX4_begins_0 15 rfl rfl)
theorem dX4_begins_16 : decode cX4_begins 16 = .ok (.iload_n 1, 1) := dk_27 (dk_at dksX4_begins_0 16 rfl rfl)
theorem dX4_begins_17 : decode cX4_begins 17 = .ok (.bipush 7, 2) := dk_16 7 (dk_at dksX4_begins_0 17 rfl rfl)
theorem dX4_begins_19 : decode cX4_begins 19 = .ok (.aload_n 0, 1) := dk_42 (dk_at dksX4_begins_0 19 rfl rfl)
theorem dX4_begins_20 : decode cX4_begins 20 = .ok (.iload_n 1, 1) := dk_27 (dk_at dksX4_begins_0 20 rfl rfl)
theorem dX4_begins_21 : decode cX4_begins 21 = .ok (.bipush 7, 2) := dk_16 7 (dk_at dksX4_begins_0 21 rfl rfl)
theorem dX4_begins_23 : decode cX4_begins 23 = .ok (.invokevirtual 78, 3) := dk_182 0 78 (dk_at dksX4_begins_1 0 rfl rfl)
theorem dX4_begins_26 : decode cX4_begins 26 = .ok (.iconst 1, 1) := dk_4 (dk_at dksX4_begins_1 3 rfl rfl)
theorem dX4_begins_27 : decode cX4_begins 27 = .ok (.iadd, 1) := dk_96 (dk_at dksX4_begins_1 4 rfl rfl)
theorem dX4_begins_28 : decode cX4_begins 28 = .ok (.invokevirtual 74, 3) := dk_182 0 74 (dk_at dksX4_begins_1 5 rfl rfl)
theorem dX4_begins_31 : decode cX4_begins 31 = .ok (.aload_n 0, 1) := dk_42 (dk_at dksX4_begins_1 8 rfl rfl)
theorem dX4_begins_32 : decode cX4_begins 32 = .ok (.getfield 7, 3) := dk_180 0 7 (dk_at dksX4_begins_1 9 rfl rfl)
theorem dX4_begins_35 : decode cX4_begins 35 = .ok (.iconst 4, 1) := dk_7 (dk_at dksX4_begins_1 12 rfl rfl)
theorem dX4_begins_36 : decode cX4_begins 36 = .ok (.iload_n 3, 1) := dk_29 (dk_at dksX4_begins_1 13 rfl rfl)
theorem dX4_begins_37 : decode cX4_begins 37 = .ok (.ifCond .eq 7, 3) := dk_153 0 7 (dk_at dksX4_begins_1 14 rfl rfl)
theorem dX4_begins_40 : decode cX4_begins 40 = .ok (.iload_n 1, 1) := dk_27 (dk_at dksX4_begins_1 17 rfl rfl)
theorem dX4_begins_41 : decode cX4_begins 41 = .ok (.goto 9, 3) := dk_167 0 9 (dk_at dksX4_begins_1 18 rfl rfl)
theorem dX4_begins_44 : decode cX4_begins 44 = .ok (.aload_n 0, 1) := dk_42 (dk_at dksX4_begins_1 21 rfl rfl)
theorem dX4_begins_45 : decode cX4_begins 45 = .ok (.getfield 7, 3) := dk_180 0 7 (dk_at dksX4_begins_2 0 rfl rfl)
theorem dX4_begins_48 : decode cX4_begins 48 = .ok (.iconst 4, 1) := dk_7 (dk_at dksX4_begins_2 3 rfl rfl)
theorem dX4_begins_49 : decode cX4_begins 49 = .ok (.iaload, 1) := dk_46 (dk_at dksX4_begins_2 4 rfl rfl)
theorem dX4_begins_50 : decode cX4_begins 50 = .ok (.iastore, 1) := dk_79 (dk_at dksX4_begins_2 5 rfl rfl)
theorem dX4_begins_51 : decode cX4_begins 51 = .ok (.aload_n 0, 1) := dk_42 (dk_at dksX4_begins_2 6 rfl rfl)
theorem dX4_begins_52 : decode cX4_begins 52 = .ok (.iconst 0, 1) := dk_3 (dk_at dksX4_begins_2 7 rfl rfl)
theorem dX4_begins_53 : decode cX4_begins 53 = .ok (.iload_n 1, 1) := dk_27 (dk_at dksX4_begins_2 8 rfl rfl)
theorem dX4_begins_54 : decode cX4_begins 54 = .ok (.invokevirtual 105, 3) := dk_182 0 105 (dk_at dksX4_begins_2 9 rfl rfl)
theorem dX4_begins_57 : decode cX4_begins 57 = .ok (.return_, 1) := dk_177 (dk_at dksX4_begins_2 12 rfl rfl)
abbrev cX4_countAll : ByteArray := prog_20_method_54_code
def yX4_countAll : MethodName := ⟨RX4, "countAll", "()V"⟩
def dkwX4_countAll_8 : List UInt8 := [46, 42, 16, 7, 182, 0, 66, 162, 0, 7, 4, 167, 0, 4, 3, 182, 0, 171, 177]
abbrev dktX4_countAll_8 : List UInt8 := dkwX4_countAll_8 ++ []
def dkwX4_countAll_7 : List UInt8 := [167, 0, 4, 3, 182, 0, 171, 42, 16, 12, 21, 4, 153, 0, 26, 29, 153, 0, 22, 42, 180, 0, 7, 6]
abbrev dktX4_countAll_7 : List UInt8 := dkwX4_countAll_7 ++ dktX4_countAll_8
def dkwX4_countAll_6 : List UInt8 := [153, 0, 27, 42, 180, 0, 7, 4, 46, 42, 3, 182, 0, 66, 42, 4, 182, 0, 66, 96, 164, 0, 7, 4]
abbrev dktX4_countAll_6 : List UInt8 := dkwX4_countAll_6 ++ dktX4_countAll_7
def dkwX4_countAll_5 : List UInt8 := [182, 0, 66, 100, 162, 0, 7, 4, 167, 0, 4, 3, 182, 0, 171, 42, 16, 11, 27, 153, 0, 31, 29]
abbrev dktX4_countAll_5 : List UInt8 := dkwX4_countAll_5 ++ dktX4_countAll_6
def dkwX4_countAll_4 : List UInt8 := [42, 16, 10, 27, 153, 0, 31, 28, 153, 0, 27, 42, 180, 0, 7, 4, 46, 42, 3, 182, 0, 66, 42, 4]
abbrev dktX4_countAll_4 : List UInt8 := dkwX4_countAll_4 ++ dktX4_countAll_5
def dkwX4_countAll_3 : List UInt8 := [182, 0, 92, 4, 160, 0, 17, 42, 180, 0, 7, 7, 46, 2, 159, 0, 7, 4, 167, 0, 4, 3, 54, 4]
abbrev dktX4_countAll_3 : List UInt8 := dkwX4_countAll_3 ++ dktX4_countAll_4
def dkwX4_countAll_2 : List UInt8 := [159, 0, 15, 42, 182, 0, 168, 42, 7, 182, 0, 66, 160, 0, 7, 4, 167, 0, 4, 3, 62, 42]
abbrev dktX4_countAll_2 : List UInt8 := dkwX4_countAll_2 ++ dktX4_countAll_3
def dkwX4_countAll_1 : List UInt8 := [182, 0, 168, 17, 3, 232, 160, 0, 7, 4, 167, 0, 4, 3, 61, 42, 180, 0, 7, 7, 46, 2]
abbrev dktX4_countAll_1 : List UInt8 := dkwX4_countAll_1 ++ dktX4_countAll_2
def dkwX4_countAll_0 : List UInt8 := [42, 182, 0, 92, 158, 0, 7, 4, 167, 0, 4, 3, 60, 42, 180, 0, 7, 7, 46, 2, 159, 0, 13, 42]
abbrev dktX4_countAll_0 : List UInt8 := dkwX4_countAll_0 ++ dktX4_countAll_1
theorem dksX4_countAll_0 : cX4_countAll.data.toList.drop 0 = dktX4_countAll_0 := by decide +kernel
theorem dksX4_countAll_1 : cX4_countAll.data.toList.drop 24 = dktX4_countAll_1 := dk_seg dksX4_countAll_0 24 rfl rfl
theorem dksX4_countAll_2 : cX4_countAll.data.toList.drop 46 = dktX4_countAll_2 := dk_seg dksX4_countAll_1 22 rfl rfl
theorem dksX4_countAll_3 : cX4_countAll.data.toList.drop 68 = dktX4_countAll_3 := dk_seg dksX4_countAll_2 22 rfl rfl
theorem dksX4_countAll_4 : cX4_countAll.data.toList.drop 92 = dktX4_countAll_4 := dk_seg dksX4_countAll_3 24 rfl rfl
theorem dksX4_countAll_5 : cX4_countAll.data.toList.drop 116 = dktX4_countAll_5 := dk_seg dksX4_countAll_4 24 rfl rfl
theorem dksX4_countAll_6 : cX4_countAll.data.toList.drop 139 = dktX4_countAll_6 := dk_seg dksX4_countAll_5 23 rfl rfl
theorem dksX4_countAll_7 : cX4_countAll.data.toList.drop 163 = dktX4_countAll_7 := dk_seg dksX4_countAll_6 24 rfl rfl
theorem dksX4_countAll_8 : cX4_countAll.data.toList.drop 187 = dktX4_countAll_8 := dk_seg dksX4_countAll_7 24 rfl rfl
theorem dX4_countAll_0 : decode cX4_countAll 0 = .ok (.aload_n 0, 1) := dk_42 (dk_at dksX4_countAll_0 0 rfl rfl)
theorem dX4_countAll_1 : decode cX4_countAll 1 = .ok (.invokevirtual 92, 3) := dk_182 0 92 (dk_at dksX4_countAll_0 1 rfl rfl)
theorem dX4_countAll_4 : decode cX4_countAll 4 = .ok (.ifCond .le 7, 3) := dk_158 0 7 (dk_at dksX4_countAll_0 4 rfl rfl)
theorem dX4_countAll_7 : decode cX4_countAll 7 = .ok (.iconst 1, 1) := dk_4 (dk_at dksX4_countAll_0 7 rfl rfl)
theorem dX4_countAll_8 : decode cX4_countAll 8 = .ok (.goto 4, 3) := dk_167 0 4 (dk_at dksX4_countAll_0 8 rfl rfl)
theorem dX4_countAll_11 : decode cX4_countAll 11 = .ok (.iconst 0, 1) := dk_3 (dk_at dksX4_countAll_0 11 rfl rfl)
theorem dX4_countAll_12 : decode cX4_countAll 12 = .ok (.istore_n 1, 1) := dk_60 (dk_at dksX4_countAll_0 12 rfl rfl)
theorem dX4_countAll_13 : decode cX4_countAll 13 = .ok (.aload_n 0, 1) := dk_42 (dk_at dksX4_countAll_0 13 rfl rfl)
theorem dX4_countAll_14 : decode cX4_countAll 14 = .ok (.getfield 7, 3) := dk_180 0 7 (dk_at dksX4_countAll_0 14 rfl rfl)
theorem dX4_countAll_17 : decode cX4_countAll 17 = .ok (.iconst 4, 1) := dk_7 (dk_at dksX4_countAll_0 17 rfl rfl)
theorem dX4_countAll_18 : decode cX4_countAll 18 = .ok (.iaload, 1) := dk_46 (dk_at dksX4_countAll_0 18 rfl rfl)
theorem dX4_countAll_19 : decode cX4_countAll 19 = .ok (.iconst (-1), 1) := dk_2 (dk_at dksX4_countAll_0 19 rfl rfl)
theorem dX4_countAll_20 : decode cX4_countAll 20 = .ok (.if_icmp .eq 13, 3) := dk_159 0 13 (dk_at dksX4_countAll_0 20 rfl rfl)
theorem dX4_countAll_23 : decode cX4_countAll 23 = .ok (.aload_n 0, 1) := dk_42 (dk_at dksX4_countAll_0 23 rfl rfl)
theorem dX4_countAll_24 : decode cX4_countAll 24 = .ok (.invokevirtual 168, 3) := dk_182 0 168 (dk_at dksX4_countAll_1 0 rfl rfl)
theorem dX4_countAll_27 : decode cX4_countAll 27 = .ok (.sipush 1000, 3) := dk_17 3 232 (dk_at dksX4_countAll_1 3 rfl rfl)
theorem dX4_countAll_30 : decode cX4_countAll 30 = .ok (.if_icmp .ne 7, 3) := dk_160 0 7 (dk_at dksX4_countAll_1 6 rfl rfl)
theorem dX4_countAll_33 : decode cX4_countAll 33 = .ok (.iconst 1, 1) := dk_4 (dk_at dksX4_countAll_1 9 rfl rfl)
theorem dX4_countAll_34 : decode cX4_countAll 34 = .ok (.goto 4, 3) := dk_167 0 4 (dk_at dksX4_countAll_1 10 rfl rfl)
theorem dX4_countAll_37 : decode cX4_countAll 37 = .ok (.iconst 0, 1) := dk_3 (dk_at dksX4_countAll_1 13 rfl rfl)
theorem dX4_countAll_38 : decode cX4_countAll 38 = .ok (.istore_n 2, 1) := dk_61 (dk_at dksX4_countAll_1 14 rfl rfl)
theorem dX4_countAll_39 : decode cX4_countAll 39 = .ok (.aload_n 0, 1) := dk_42 (dk_at dksX4_countAll_1 15 rfl rfl)
theorem dX4_countAll_40 : decode cX4_countAll 40 = .ok (.getfield 7, 3) := dk_180 0 7 (dk_at dksX4_countAll_1 16 rfl rfl)
theorem dX4_countAll_43 : decode cX4_countAll 43 = .ok (.iconst 4, 1) := dk_7 (dk_at dksX4_countAll_1 19 rfl rfl)
theorem dX4_countAll_44 : decode cX4_countAll 44 = .ok (.iaload, 1) := dk_46 (dk_at dksX4_countAll_1 20 rfl rfl)
theorem dX4_countAll_45 : decode cX4_countAll 45 = .ok (.iconst (-1), 1) := dk_2 (dk_at dksX4_countAll_1 21 rfl rfl)
theorem dX4_countAll_46 : decode cX4_countAll 46 = .ok (.if_icmp .eq 15, 3) := dk_159 0 15 (dk_at dksX4_countAll_2 0 rfl rfl)
theorem dX4_countAll_49 : decode cX4_countAll 49 = .ok (.aload_n 0, 1) := dk_42 (dk_at dksX4_countAll_2 3 rfl rfl)
theorem dX4_countAll_50 : decode cX4_countAll 50 = .ok (.invokevirtual 168, 3) := dk_182 0 168 (dk_at dksX4_countAll_2 4 rfl rfl)
theorem dX4_countAll_53 : decode cX4_countAll 53 = .ok (.aload_n 0, 1) := dk_42 (dk_at dksX4_countAll_2 7 rfl rfl)
theorem dX4_countAll_54 : decode cX4_countAll 54 = .ok (.iconst 4, 1) := dk_7 (dk_at dksX4_countAll_2 8 rfl rfl)
theorem dX4_countAll_55 : decode cX4_countAll 55 = .ok (.invokevirtual 66, 3) := dk_182 0 66 (dk_at dksX4_countAll_2 9 rfl rfl)
theorem dX4_countAll_58 : decode cX4_countAll 58 = .ok (.if_icmp .ne 7, 3) := dk_160 0 7 (dk_at dksX4_countAll_2 12 rfl rfl)
theorem dX4_countAll_61 : decode cX4_countAll 61 = .ok (.iconst 1, 1) := dk_4 (dk_at dksX4_countAll_2 15 rfl rfl)
theorem dX4_countAll_62 : decode cX4_countAll 62 = .ok (.goto 4, 3) := dk_167 0 4 (dk_at dksX4_countAll_2 16 rfl rfl)
theorem dX4_countAll_65 : decode cX4_countAll 65 = .ok (.iconst 0, 1) := dk_3 (dk_at dksX4_countAll_2 19 rfl rfl)
theorem dX4_countAll_66 : decode cX4_countAll 66 = .ok (.istore_n 3, 1) := dk_62 (dk_at dksX4_countAll_2 20 rfl rfl)
theorem dX4_countAll_67 : decode cX4_countAll 67 = .ok (.aload_n 0, 1) := dk_42 (dk_at dksX4_countAll_2 21 rfl rfl)
theorem dX4_countAll_68 : decode cX4_countAll 68 = .ok (.invokevirtual 92, 3) := dk_182 0 92 (dk_at dksX4_countAll_3 0 rfl rfl)
theorem dX4_countAll_71 : decode cX4_countAll 71 = .ok (.iconst 1, 1) := dk_4 (dk_at dksX4_countAll_3 3 rfl rfl)
theorem dX4_countAll_72 : decode cX4_countAll 72 = .ok (.if_icmp .ne 17, 3) := dk_160 0 17 (dk_at dksX4_countAll_3 4 rfl rfl)
theorem dX4_countAll_75 : decode cX4_countAll 75 = .ok (.aload_n 0, 1) := dk_42 (dk_at dksX4_countAll_3 7 rfl rfl)
theorem dX4_countAll_76 : decode cX4_countAll 76 = .ok (.getfield 7, 3) := dk_180 0 7 (dk_at dksX4_countAll_3 8 rfl rfl)
theorem dX4_countAll_79 : decode cX4_countAll 79 = .ok (.iconst 4, 1) := dk_7 (dk_at dksX4_countAll_3 11 rfl rfl)
theorem dX4_countAll_80 : decode cX4_countAll 80 = .ok (.iaload, 1) := dk_46 (dk_at dksX4_countAll_3 12 rfl rfl)
theorem dX4_countAll_81 : decode cX4_countAll 81 = .ok (.iconst (-1), 1) := dk_2 (dk_at dksX4_countAll_3 13 rfl rfl)
theorem dX4_countAll_82 : decode cX4_countAll 82 = .ok (.if_icmp .eq 7, 3) := dk_159 0 7 (dk_at dksX4_countAll_3 14 rfl rfl)
theorem dX4_countAll_85 : decode cX4_countAll 85 = .ok (.iconst 1, 1) := dk_4 (dk_at dksX4_countAll_3 17 rfl rfl)
theorem dX4_countAll_86 : decode cX4_countAll 86 = .ok (.goto 4, 3) := dk_167 0 4 (dk_at dksX4_countAll_3 18 rfl rfl)
theorem dX4_countAll_89 : decode cX4_countAll 89 = .ok (.iconst 0, 1) := dk_3 (dk_at dksX4_countAll_3 21 rfl rfl)
theorem dX4_countAll_90 : decode cX4_countAll 90 = .ok (.istore 4, 2) := dk_54 4 (dk_at dksX4_countAll_3 22 rfl rfl)
theorem dX4_countAll_92 : decode cX4_countAll 92 = .ok (.aload_n 0, 1) := dk_42 (dk_at dksX4_countAll_4 0 rfl rfl)
theorem dX4_countAll_93 : decode cX4_countAll 93 = .ok (.bipush 10, 2) := dk_16 10 (dk_at dksX4_countAll_4 1 rfl rfl)
theorem dX4_countAll_95 : decode cX4_countAll 95 = .ok (.iload_n 1, 1) := dk_27 (dk_at dksX4_countAll_4 3 rfl rfl)
theorem dX4_countAll_96 : decode cX4_countAll 96 = .ok (.ifCond .eq 31, 3) := dk_153 0 31 (dk_at dksX4_countAll_4 4 rfl rfl)
theorem dX4_countAll_99 : decode cX4_countAll 99 = .ok (.iload_n 2, 1) := dk_28 (dk_at dksX4_countAll_4 7 rfl rfl)
theorem dX4_countAll_100 : decode cX4_countAll 100 = .ok (.ifCond .eq 27, 3) := dk_153 0 27 (dk_at dksX4_countAll_4 8 rfl rfl)
theorem dX4_countAll_103 : decode cX4_countAll 103 = .ok (.aload_n 0, 1) := dk_42 (dk_at dksX4_countAll_4 11 rfl rfl)
theorem dX4_countAll_104 : decode cX4_countAll 104 = .ok (.getfield 7, 3) := dk_180 0 7 (dk_at dksX4_countAll_4 12 rfl rfl)
theorem dX4_countAll_107 : decode cX4_countAll 107 = .ok (.iconst 1, 1) := dk_4 (dk_at dksX4_countAll_4 15 rfl rfl)
theorem dX4_countAll_108 : decode cX4_countAll 108 = .ok (.iaload, 1) := dk_46 (dk_at dksX4_countAll_4 16 rfl rfl)
theorem dX4_countAll_109 : decode cX4_countAll 109 = .ok (.aload_n 0, 1) := dk_42 (dk_at dksX4_countAll_4 17 rfl rfl)
theorem dX4_countAll_110 : decode cX4_countAll 110 = .ok (.iconst 0, 1) := dk_3 (dk_at dksX4_countAll_4 18 rfl rfl)
theorem dX4_countAll_111 : decode cX4_countAll 111 = .ok (.invokevirtual 66, 3) := dk_182 0 66 (dk_at dksX4_countAll_4 19 rfl rfl)
theorem dX4_countAll_114 : decode cX4_countAll 114 = .ok (.aload_n 0, 1) := dk_42 (dk_at dksX4_countAll_4 22 rfl rfl)
theorem dX4_countAll_115 : decode cX4_countAll 115 = .ok (.iconst 1, 1) := dk_4 (dk_at dksX4_countAll_4 23 rfl rfl)
theorem dX4_countAll_116 : decode cX4_countAll 116 = .ok (.invokevirtual 66, 3) := dk_182 0 66 (dk_at dksX4_countAll_5 0 rfl rfl)
theorem dX4_countAll_119 : decode cX4_countAll 119 = .ok (.isub, 1) := dk_100 (dk_at dksX4_countAll_5 3 rfl rfl)
theorem dX4_countAll_120 : decode cX4_countAll 120 = .ok (.if_icmp .ge 7, 3) := dk_162 0 7 (dk_at dksX4_countAll_5 4 rfl rfl)
theorem dX4_countAll_123 : decode cX4_countAll 123 = .ok (.iconst 1, 1) := dk_4 (dk_at dksX4_countAll_5 7 rfl rfl)
theorem dX4_countAll_124 : decode cX4_countAll 124 = .ok (.goto 4, 3) := dk_167 0 4 (dk_at dksX4_countAll_5 8 rfl rfl)
theorem dX4_countAll_127 : decode cX4_countAll 127 = .ok (.iconst 0, 1) := dk_3 (dk_at dksX4_countAll_5 11 rfl rfl)
theorem dX4_countAll_128 : decode cX4_countAll 128 = .ok (.invokevirtual 171, 3) := dk_182 0 171 (dk_at dksX4_countAll_5 12 rfl rfl)
theorem dX4_countAll_131 : decode cX4_countAll 131 = .ok (.aload_n 0, 1) := dk_42 (dk_at dksX4_countAll_5 15 rfl rfl)
theorem dX4_countAll_132 : decode cX4_countAll 132 = .ok (.bipush 11, 2) := dk_16 11 (dk_at dksX4_countAll_5 16 rfl rfl)
theorem dX4_countAll_134 : decode cX4_countAll 134 = .ok (.iload_n 1, 1) := dk_27 (dk_at dksX4_countAll_5 18 rfl rfl)
theorem dX4_countAll_135 : decode cX4_countAll 135 = .ok (.ifCond .eq 31, 3) := dk_153 0 31 (dk_at dksX4_countAll_5 19 rfl rfl)
theorem dX4_countAll_138 : decode cX4_countAll 138 = .ok (.iload_n 3, 1) := dk_29 (dk_at dksX4_countAll_5 22 rfl rfl)
theorem dX4_countAll_139 : decode cX4_countAll 139 = .ok (.ifCond .eq 27, 3) := dk_153 0 27 (dk_at dksX4_countAll_6 0 rfl rfl)
theorem dX4_countAll_142 : decode cX4_countAll 142 = .ok (.aload_n 0, 1) := dk_42 (dk_at dksX4_countAll_6 3 rfl rfl)
theorem dX4_countAll_143 : decode cX4_countAll 143 = .ok (.getfield 7, 3) := dk_180 0 7 (dk_at dksX4_countAll_6 4 rfl rfl)
theorem dX4_countAll_146 : decode cX4_countAll 146 = .ok (.iconst 1, 1) := dk_4 (dk_at dksX4_countAll_6 7 rfl rfl)
theorem dX4_countAll_147 : decode cX4_countAll 147 = .ok (.iaload, 1) := dk_46 (dk_at dksX4_countAll_6 8 rfl rfl)
theorem dX4_countAll_148 : decode cX4_countAll 148 = .ok (.aload_n 0, 1) := dk_42 (dk_at dksX4_countAll_6 9 rfl rfl)
theorem dX4_countAll_149 : decode cX4_countAll 149 = .ok (.iconst 0, 1) := dk_3 (dk_at dksX4_countAll_6 10 rfl rfl)
theorem dX4_countAll_150 : decode cX4_countAll 150 = .ok (.invokevirtual 66, 3) := dk_182 0 66 (dk_at dksX4_countAll_6 11 rfl rfl)
theorem dX4_countAll_153 : decode cX4_countAll 153 = .ok (.aload_n 0, 1) := dk_42 (dk_at dksX4_countAll_6 14 rfl rfl)
theorem dX4_countAll_154 : decode cX4_countAll 154 = .ok (.iconst 1, 1) := dk_4 (dk_at dksX4_countAll_6 15 rfl rfl)
theorem dX4_countAll_155 : decode cX4_countAll 155 = .ok (.invokevirtual 66, 3) := dk_182 0 66 (dk_at dksX4_countAll_6 16 rfl rfl)
theorem dX4_countAll_158 : decode cX4_countAll 158 = .ok (.iadd, 1) := dk_96 (dk_at dksX4_countAll_6 19 rfl rfl)
theorem dX4_countAll_159 : decode cX4_countAll 159 = .ok (.if_icmp .le 7, 3) := dk_164 0 7 (dk_at dksX4_countAll_6 20 rfl rfl)
theorem dX4_countAll_162 : decode cX4_countAll 162 = .ok (.iconst 1, 1) := dk_4 (dk_at dksX4_countAll_6 23 rfl rfl)
theorem dX4_countAll_163 : decode cX4_countAll 163 = .ok (.goto 4, 3) := dk_167 0 4 (dk_at dksX4_countAll_7 0 rfl rfl)
theorem dX4_countAll_166 : decode cX4_countAll 166 = .ok (.iconst 0, 1) := dk_3 (dk_at dksX4_countAll_7 3 rfl rfl)
theorem dX4_countAll_167 : decode cX4_countAll 167 = .ok (.invokevirtual 171, 3) := dk_182 0 171 (dk_at dksX4_countAll_7 4 rfl rfl)
theorem dX4_countAll_170 : decode cX4_countAll 170 = .ok (.aload_n 0, 1) := dk_42 (dk_at dksX4_countAll_7 7 rfl rfl)
theorem dX4_countAll_171 : decode cX4_countAll 171 = .ok (.bipush 12, 2) := dk_16 12 (dk_at dksX4_countAll_7 8 rfl rfl)
theorem dX4_countAll_173 : decode cX4_countAll 173 = .ok (.iload 4, 2) := dk_21 4 (dk_at dksX4_countAll_7 10 rfl rfl)
theorem dX4_countAll_175 : decode cX4_countAll 175 = .ok (.ifCond .eq 26, 3) := dk_153 0 26 (dk_at dksX4_countAll_7 12 rfl rfl)
theorem dX4_countAll_178 : decode cX4_countAll 178 = .ok (.iload_n 3, 1) := dk_29 (dk_at dksX4_countAll_7 15 rfl rfl)
theorem dX4_countAll_179 : decode cX4_countAll 179 = .ok (.ifCond .eq 22, 3) := dk_153 0 22 (dk_at dksX4_countAll_7 16 rfl rfl)
theorem dX4_countAll_182 : decode cX4_countAll 182 = .ok (.aload_n 0, 1) := dk_42 (dk_at dksX4_countAll_7 19 rfl rfl)
theorem dX4_countAll_183 : decode cX4_countAll 183 = .ok (.getfield 7, 3) := dk_180 0 7 (dk_at dksX4_countAll_7 20 rfl rfl)
theorem dX4_countAll_186 : decode cX4_countAll 186 = .ok (.iconst 3, 1) := dk_6 (dk_at dksX4_countAll_7 23 rfl rfl)
theorem dX4_countAll_187 : decode cX4_countAll 187 = .ok (.iaload, 1) := dk_46 (dk_at dksX4_countAll_8 0 rfl rfl)
theorem dX4_countAll_188 : decode cX4_countAll 188 = .ok (.aload_n 0, 1) := dk_42 (dk_at dksX4_countAll_8 1 rfl rfl)
theorem dX4_countAll_189 : decode cX4_countAll 189 = .ok (.bipush 7, 2) := dk_16 7 (dk_at dksX4_countAll_8 2 rfl rfl)
theorem dX4_countAll_191 : decode cX4_countAll 191 = .ok (.invokevirtual 66, 3) := dk_182 0 66 (dk_at dksX4_countAll_8 4 rfl rfl)
theorem dX4_countAll_194 : decode cX4_countAll 194 = .ok (.if_icmp .ge 7, 3) := dk_162 0 7 (dk_at dksX4_countAll_8 7 rfl rfl)
theorem dX4_countAll_197 : decode cX4_countAll 197 = .ok (.iconst 1, 1) := dk_4 (dk_at dksX4_countAll_8 10 rfl rfl)
theorem dX4_countAll_198 : decode cX4_countAll 198 = .ok (.goto 4, 3) := dk_167 0 4 (dk_at dksX4_countAll_8 11 rfl rfl)
theorem dX4_countAll_201 : decode cX4_countAll 201 = .ok (.iconst 0, 1) := dk_3 (dk_at dksX4_countAll_8 14 rfl rfl)
theorem dX4_countAll_202 : decode cX4_countAll 202 = .ok (.invokevirtual 171, 3) := dk_182 0 171 (dk_at dksX4_countAll_8 15 rfl rfl)
theorem dX4_countAll_205 : decode cX4_countAll 205 = .ok (.return_, 1) := dk_177 (dk_at dksX4_countAll_8 18 rfl rfl)
abbrev cX4_speedOfVariable : ByteArray := prog_20_method_51_code
def yX4_speedOfVariable : MethodName := ⟨RX4, "speedOfVariable", "()I"⟩
def dkwX4_speedOfVariable_0 : List UInt8 := [42, 42, 180, 0, 7, 7, 46, 7, 182, 0, 78, 172]
abbrev dktX4_speedOfVariable_0 : List UInt8 := dkwX4_speedOfVariable_0 ++ []
theorem dksX4_speedOfVariable_0 : cX4_speedOfVariable.data.toList.drop 0 = dktX4_speedOfVariable_0 := by decide +kernel
theorem dX4_speedOfVariable_0 : decode cX4_speedOfVariable 0 = .ok (.aload_n 0, 1) := dk_42 (dk_at dksX4_speedOfVariable_0 0 rfl rfl)
theorem dX4_speedOfVariable_1 : decode cX4_speedOfVariable 1 = .ok (.aload_n 0, 1) := dk_42 (dk_at dksX4_speedOfVariable_0 1 rfl rfl)
theorem dX4_speedOfVariable_2 : decode cX4_speedOfVariable 2 = .ok (.getfield 7, 3) := dk_180 0 7 (dk_at dksX4_speedOfVariable_0 2 rfl rfl)
theorem dX4_speedOfVariable_5 : decode cX4_speedOfVariable 5 = .ok (.iconst 4, 1) := dk_7 (dk_at dksX4_speedOfVariable_0 5 rfl rfl)
theorem dX4_speedOfVariable_6 : decode cX4_speedOfVariable 6 = .ok (.iaload, 1) := dk_46 (dk_at dksX4_speedOfVariable_0 6 rfl rfl)
theorem dX4_speedOfVariable_7 : decode cX4_speedOfVariable 7 = .ok (.iconst 4, 1) := dk_7 (dk_at dksX4_speedOfVariable_0 7 rfl rfl)
theorem dX4_speedOfVariable_8 : decode cX4_speedOfVariable 8 = .ok (.invokevirtual 78, 3) := dk_182 0 78 (dk_at dksX4_speedOfVariable_0 8 rfl rfl)
theorem dX4_speedOfVariable_11 : decode cX4_speedOfVariable 11 = .ok (.ireturn, 1) := dk_172 (dk_at dksX4_speedOfVariable_0 11 rfl rfl)
abbrev cX4_counts : ByteArray := prog_20_method_53_code
def yX4_counts : MethodName := ⟨RX4, "counts", "(IZ)V"⟩
def dkwX4_counts_0 : List UInt8 := [42, 180, 0, 7, 27, 28, 153, 0, 14, 42, 180, 0, 7, 27, 46, 4, 96, 167, 0, 4, 3, 79, 177]
abbrev dktX4_counts_0 : List UInt8 := dkwX4_counts_0 ++ []
theorem dksX4_counts_0 : cX4_counts.data.toList.drop 0 = dktX4_counts_0 := by decide +kernel
theorem dX4_counts_0 : decode cX4_counts 0 = .ok (.aload_n 0, 1) := dk_42 (dk_at dksX4_counts_0 0 rfl rfl)
theorem dX4_counts_1 : decode cX4_counts 1 = .ok (.getfield 7, 3) := dk_180 0 7 (dk_at dksX4_counts_0 1 rfl rfl)
theorem dX4_counts_4 : decode cX4_counts 4 = .ok (.iload_n 1, 1) := dk_27 (dk_at dksX4_counts_0 4 rfl rfl)
theorem dX4_counts_5 : decode cX4_counts 5 = .ok (.iload_n 2, 1) := dk_28 (dk_at dksX4_counts_0 5 rfl rfl)
theorem dX4_counts_6 : decode cX4_counts 6 = .ok (.ifCond .eq 14, 3) := dk_153 0 14 (dk_at dksX4_counts_0 6 rfl rfl)
theorem dX4_counts_9 : decode cX4_counts 9 = .ok (.aload_n 0, 1) := dk_42 (dk_at dksX4_counts_0 9 rfl rfl)
theorem dX4_counts_10 : decode cX4_counts 10 = .ok (.getfield 7, 3) := dk_180 0 7 (dk_at dksX4_counts_0 10 rfl rfl)
theorem dX4_counts_13 : decode cX4_counts 13 = .ok (.iload_n 1, 1) := dk_27 (dk_at dksX4_counts_0 13 rfl rfl)
theorem dX4_counts_14 : decode cX4_counts 14 = .ok (.iaload, 1) := dk_46 (dk_at dksX4_counts_0 14 rfl rfl)
theorem dX4_counts_15 : decode cX4_counts 15 = .ok (.iconst 1, 1) := dk_4 (dk_at dksX4_counts_0 15 rfl rfl)
theorem dX4_counts_16 : decode cX4_counts 16 = .ok (.iadd, 1) := dk_96 (dk_at dksX4_counts_0 16 rfl rfl)
theorem dX4_counts_17 : decode cX4_counts 17 = .ok (.goto 4, 3) := dk_167 0 4 (dk_at dksX4_counts_0 17 rfl rfl)
theorem dX4_counts_20 : decode cX4_counts 20 = .ok (.iconst 0, 1) := dk_3 (dk_at dksX4_counts_0 20 rfl rfl)
theorem dX4_counts_21 : decode cX4_counts 21 = .ok (.iastore, 1) := dk_79 (dk_at dksX4_counts_0 21 rfl rfl)
theorem dX4_counts_22 : decode cX4_counts 22 = .ok (.return_, 1) := dk_177 (dk_at dksX4_counts_0 22 rfl rfl)
abbrev cX4_cascade : ByteArray := prog_20_method_57_code
def yX4_cascade : MethodName := ⟨RX4, "cascade", "()V"⟩
def dkwX4_cascade_4 : List UInt8 := [42, 180, 0, 7, 7, 46, 182, 0, 116, 42, 5, 2, 182, 0, 105, 42, 182, 0, 178, 177]
abbrev dktX4_cascade_4 : List UInt8 := dkwX4_cascade_4 ++ []
def dkwX4_cascade_3 : List UInt8 := [42, 182, 0, 178, 167, 0, 39, 42, 180, 0, 7, 16, 12, 46, 42, 16, 8, 182, 0, 66, 161, 0, 23, 42]
abbrev dktX4_cascade_3 : List UInt8 := dkwX4_cascade_3 ++ dktX4_cascade_4
def dkwX4_cascade_2 : List UInt8 := [16, 6, 182, 0, 66, 161, 0, 26, 42, 182, 0, 181, 2, 159, 0, 18, 42, 42, 182, 0, 181, 182, 0, 116]
abbrev dktX4_cascade_2 : List UInt8 := dkwX4_cascade_2 ++ dktX4_cascade_3
def dkwX4_cascade_1 : List UInt8 := [42, 42, 3, 182, 0, 133, 182, 0, 175, 42, 182, 0, 178, 167, 0, 78, 42, 180, 0, 7, 16, 11, 46, 42]
abbrev dktX4_cascade_1 : List UInt8 := dkwX4_cascade_1 ++ dktX4_cascade_2
def dkwX4_cascade_0 : List UInt8 := [42, 180, 0, 7, 16, 10, 46, 42, 8, 182, 0, 66, 161, 0, 28, 42, 3, 182, 0, 133, 2, 159, 0, 19]
abbrev dktX4_cascade_0 : List UInt8 := dkwX4_cascade_0 ++ dktX4_cascade_1
theorem dksX4_cascade_0 : cX4_cascade.data.toList.drop 0 = dktX4_cascade_0 := by decide +kernel
theorem dksX4_cascade_1 : cX4_cascade.data.toList.drop 24 = dktX4_cascade_1 := dk_seg dksX4_cascade_0 24 rfl rfl
theorem dksX4_cascade_2 : cX4_cascade.data.toList.drop 48 = dktX4_cascade_2 := dk_seg dksX4_cascade_1 24 rfl rfl
theorem dksX4_cascade_3 : cX4_cascade.data.toList.drop 72 = dktX4_cascade_3 := dk_seg dksX4_cascade_2 24 rfl rfl
theorem dksX4_cascade_4 : cX4_cascade.data.toList.drop 96 = dktX4_cascade_4 := dk_seg dksX4_cascade_3 24 rfl rfl
theorem dX4_cascade_0 : decode cX4_cascade 0 = .ok (.aload_n 0, 1) := dk_42 (dk_at dksX4_cascade_0 0 rfl rfl)
theorem dX4_cascade_1 : decode cX4_cascade 1 = .ok (.getfield 7, 3) := dk_180 0 7 (dk_at dksX4_cascade_0 1 rfl rfl)
theorem dX4_cascade_4 : decode cX4_cascade 4 = .ok (.bipush 10, 2) := dk_16 10 (dk_at dksX4_cascade_0 4 rfl rfl)
theorem dX4_cascade_6 : decode cX4_cascade 6 = .ok (.iaload, 1) := dk_46 (dk_at dksX4_cascade_0 6 rfl rfl)
theorem dX4_cascade_7 : decode cX4_cascade 7 = .ok (.aload_n 0, 1) := dk_42 (dk_at dksX4_cascade_0 7 rfl rfl)
theorem dX4_cascade_8 : decode cX4_cascade 8 = .ok (.iconst 5, 1) := dk_8 (dk_at dksX4_cascade_0 8 rfl rfl)
theorem dX4_cascade_9 : decode cX4_cascade 9 = .ok (.invokevirtual 66, 3) := dk_182 0 66 (dk_at dksX4_cascade_0 9 rfl rfl)
theorem dX4_cascade_12 : decode cX4_cascade 12 = .ok (.if_icmp .lt 28, 3) := dk_161 0 28 (dk_at dksX4_cascade_0 12 rfl rfl)
theorem dX4_cascade_15 : decode cX4_cascade 15 = .ok (.aload_n 0, 1) := dk_42 (dk_at dksX4_cascade_0 15 rfl rfl)
theorem dX4_cascade_16 : decode cX4_cascade 16 = .ok (.iconst 0, 1) := dk_3 (dk_at dksX4_cascade_0 16 rfl rfl)
theorem dX4_cascade_17 : decode cX4_cascade 17 = .ok (.invokevirtual 133, 3) := dk_182 0 133 (dk_at dksX4_cascade_0 17 rfl rfl)
theorem dX4_cascade_20 : decode cX4_cascade 20 = .ok (.iconst (-1), 1) := dk_2 (dk_at dksX4_cascade_0 20 rfl rfl)
theorem dX4_cascade_21 : decode cX4_cascade 21 = .ok (.if_icmp .eq 19, 3) := dk_159 0 19 (dk_at dksX4_cascade_0 21 rfl rfl)
theorem dX4_cascade_24 : decode cX4_cascade 24 = .ok (.aload_n 0, 1) := dk_42 (dk_at dksX4_cascade_1 0 rfl rfl)
theorem dX4_cascade_25 : decode cX4_cascade 25 = .ok (.aload_n 0, 1) := dk_42 (dk_at dksX4_cascade_1 1 rfl rfl)
theorem dX4_cascade_26 : decode cX4_cascade 26 = .ok (.iconst 0, 1) := dk_3 (dk_at dksX4_cascade_1 2 rfl rfl)
theorem dX4_cascade_27 : decode cX4_cascade 27 = .ok (.invokevirtual 133, 3) := dk_182 0 133 (dk_at dksX4_cascade_1 3 rfl rfl)
theorem dX4_cascade_30 : decode cX4_cascade 30 = .ok (.invokevirtual 175, 3) := dk_182 0 175 (dk_at dksX4_cascade_1 6 rfl rfl)
theorem dX4_cascade_33 : decode cX4_cascade 33 = .ok (.aload_n 0, 1) := dk_42 (dk_at dksX4_cascade_1 9 rfl rfl)
theorem dX4_cascade_34 : decode cX4_cascade 34 = .ok (.invokevirtual 178, 3) := dk_182 0 178 (dk_at dksX4_cascade_1 10 rfl rfl)
theorem dX4_cascade_37 : decode cX4_cascade 37 = .ok (.goto 78, 3) := dk_167 0 78 (dk_at dksX4_cascade_1 13 rfl rfl)
theorem dX4_cascade_40 : decode cX4_cascade 40 = .ok (.aload_n 0, 1) := dk_42 (dk_at dksX4_cascade_1 16 rfl rfl)
theorem dX4_cascade_41 : decode cX4_cascade 41 = .ok (.getfield 7, 3) := dk_180 0 7 (dk_at dksX4_cascade_1 17 rfl rfl)
theorem dX4_cascade_44 : decode cX4_cascade 44 = .ok (.bipush 11, 2) := dk_16 11 (dk_at dksX4_cascade_1 20 rfl rfl)
theorem dX4_cascade_46 : decode cX4_cascade 46 = .ok (.iaload, 1) := dk_46 (dk_at dksX4_cascade_1 22 rfl rfl)
theorem dX4_cascade_47 : decode cX4_cascade 47 = .ok (.aload_n 0, 1) := dk_42 (dk_at dksX4_cascade_1 23 rfl rfl)
theorem dX4_cascade_48 : decode cX4_cascade 48 = .ok (.bipush 6, 2) := dk_16 6 (dk_at dksX4_cascade_2 0 rfl rfl)
theorem dX4_cascade_50 : decode cX4_cascade 50 = .ok (.invokevirtual 66, 3) := dk_182 0 66 (dk_at dksX4_cascade_2 2 rfl rfl)
theorem dX4_cascade_53 : decode cX4_cascade 53 = .ok (.if_icmp .lt 26, 3) := dk_161 0 26 (dk_at dksX4_cascade_2 5 rfl rfl)
theorem dX4_cascade_56 : decode cX4_cascade 56 = .ok (.aload_n 0, 1) := dk_42 (dk_at dksX4_cascade_2 8 rfl rfl)
theorem dX4_cascade_57 : decode cX4_cascade 57 = .ok (.invokevirtual 181, 3) := dk_182 0 181 (dk_at dksX4_cascade_2 9 rfl rfl)
theorem dX4_cascade_60 : decode cX4_cascade 60 = .ok (.iconst (-1), 1) := dk_2 (dk_at dksX4_cascade_2 12 rfl rfl)
theorem dX4_cascade_61 : decode cX4_cascade 61 = .ok (.if_icmp .eq 18, 3) := dk_159 0 18 (dk_at dksX4_cascade_2 13 rfl rfl)
theorem dX4_cascade_64 : decode cX4_cascade 64 = .ok (.aload_n 0, 1) := dk_42 (dk_at dksX4_cascade_2 16 rfl rfl)
theorem dX4_cascade_65 : decode cX4_cascade 65 = .ok (.aload_n 0, 1) := dk_42 (dk_at dksX4_cascade_2 17 rfl rfl)
theorem dX4_cascade_66 : decode cX4_cascade 66 = .ok (.invokevirtual 181, 3) := dk_182 0 181 (dk_at dksX4_cascade_2 18 rfl rfl)
theorem dX4_cascade_69 : decode cX4_cascade 69 = .ok (.invokevirtual 116, 3) := dk_182 0 116 (dk_at dksX4_cascade_2 21 rfl rfl)
theorem dX4_cascade_72 : decode cX4_cascade 72 = .ok (.aload_n 0, 1) := dk_42 (dk_at dksX4_cascade_3 0 rfl rfl)
theorem dX4_cascade_73 : decode cX4_cascade 73 = .ok (.invokevirtual 178, 3) := dk_182 0 178 (dk_at dksX4_cascade_3 1 rfl rfl)
theorem dX4_cascade_76 : decode cX4_cascade 76 = .ok (.goto 39, 3) := dk_167 0 39 (dk_at dksX4_cascade_3 4 rfl rfl)
theorem dX4_cascade_79 : decode cX4_cascade 79 = .ok (.aload_n 0, 1) := dk_42 (dk_at dksX4_cascade_3 7 rfl rfl)
theorem dX4_cascade_80 : decode cX4_cascade 80 = .ok (.getfield 7, 3) := dk_180 0 7 (dk_at dksX4_cascade_3 8 rfl rfl)
theorem dX4_cascade_83 : decode cX4_cascade 83 = .ok (.bipush 12, 2) := dk_16 12 (dk_at dksX4_cascade_3 11 rfl rfl)
theorem dX4_cascade_85 : decode cX4_cascade 85 = .ok (.iaload, 1) := dk_46 (dk_at dksX4_cascade_3 13 rfl rfl)
theorem dX4_cascade_86 : decode cX4_cascade 86 = .ok (.aload_n 0, 1) := dk_42 (dk_at dksX4_cascade_3 14 rfl rfl)
theorem dX4_cascade_87 : decode cX4_cascade 87 = .ok (.bipush 8, 2) := dk_16 8 (dk_at dksX4_cascade_3 15 rfl rfl)
theorem dX4_cascade_89 : decode cX4_cascade 89 = .ok (.invokevirtual 66, 3) := dk_182 0 66 (dk_at dksX4_cascade_3 17 rfl rfl)
theorem dX4_cascade_92 : decode cX4_cascade 92 = .ok (.if_icmp .lt 23, 3) := dk_161 0 23 (dk_at dksX4_cascade_3 20 rfl rfl)
theorem dX4_cascade_95 : decode cX4_cascade 95 = .ok (.aload_n 0, 1) := dk_42 (dk_at dksX4_cascade_3 23 rfl rfl)
theorem dX4_cascade_96 : decode cX4_cascade 96 = .ok (.aload_n 0, 1) := dk_42 (dk_at dksX4_cascade_4 0 rfl rfl)
theorem dX4_cascade_97 : decode cX4_cascade 97 = .ok (.getfield 7, 3) := dk_180 0 7 (dk_at dksX4_cascade_4 1 rfl rfl)
theorem dX4_cascade_100 : decode cX4_cascade 100 = .ok (.iconst 4, 1) := dk_7 (dk_at dksX4_cascade_4 4 rfl rfl)
theorem dX4_cascade_101 : decode cX4_cascade 101 = .ok (.iaload, 1) := dk_46 (dk_at dksX4_cascade_4 5 rfl rfl)
theorem dX4_cascade_102 : decode cX4_cascade 102 = .ok (.invokevirtual 116, 3) := dk_182 0 116 (dk_at dksX4_cascade_4 6 rfl rfl)
theorem dX4_cascade_105 : decode cX4_cascade 105 = .ok (.aload_n 0, 1) := dk_42 (dk_at dksX4_cascade_4 9 rfl rfl)
theorem dX4_cascade_106 : decode cX4_cascade 106 = .ok (.iconst 2, 1) := dk_5 (dk_at dksX4_cascade_4 10 rfl rfl)
theorem dX4_cascade_107 : decode cX4_cascade 107 = .ok (.iconst (-1), 1) := dk_2 (dk_at dksX4_cascade_4 11 rfl rfl)
theorem dX4_cascade_108 : decode cX4_cascade 108 = .ok (.invokevirtual 105, 3) := dk_182 0 105 (dk_at dksX4_cascade_4 12 rfl rfl)
theorem dX4_cascade_111 : decode cX4_cascade 111 = .ok (.aload_n 0, 1) := dk_42 (dk_at dksX4_cascade_4 15 rfl rfl)
theorem dX4_cascade_112 : decode cX4_cascade 112 = .ok (.invokevirtual 178, 3) := dk_182 0 178 (dk_at dksX4_cascade_4 16 rfl rfl)
theorem dX4_cascade_115 : decode cX4_cascade 115 = .ok (.return_, 1) := dk_177 (dk_at dksX4_cascade_4 19 rfl rfl)
abbrev cX4_longest : ByteArray := prog_20_method_56_code
def yX4_longest : MethodName := ⟨RX4, "longest", "()I"⟩
def dkwX4_longest_3 : List UInt8 := [167, 255, 188, 27, 172]
abbrev dktX4_longest_3 : List UInt8 := dkwX4_longest_3 ++ []
def dkwX4_longest_2 : List UInt8 := [42, 28, 8, 182, 0, 78, 42, 27, 8, 182, 0, 78, 164, 0, 7, 28, 167, 0, 4, 27, 60, 132, 2, 1]
abbrev dktX4_longest_2 : List UInt8 := dkwX4_longest_2 ++ dktX4_longest_3
def dkwX4_longest_1 : List UInt8 := [42, 180, 0, 7, 7, 46, 159, 0, 7, 4, 167, 0, 4, 3, 62, 29, 153, 0, 27, 27, 2, 159, 0, 18]
abbrev dktX4_longest_1 : List UInt8 := dkwX4_longest_1 ++ dktX4_longest_2
def dkwX4_longest_0 : List UInt8 := [2, 60, 3, 61, 28, 42, 180, 0, 7, 16, 14, 46, 162, 0, 63, 42, 28, 182, 0, 82, 153, 0, 17, 28]
abbrev dktX4_longest_0 : List UInt8 := dkwX4_longest_0 ++ dktX4_longest_1
theorem dksX4_longest_0 : cX4_longest.data.toList.drop 0 = dktX4_longest_0 := by decide +kernel
theorem dksX4_longest_1 : cX4_longest.data.toList.drop 24 = dktX4_longest_1 := dk_seg dksX4_longest_0 24 rfl rfl
theorem dksX4_longest_2 : cX4_longest.data.toList.drop 48 = dktX4_longest_2 := dk_seg dksX4_longest_1 24 rfl rfl
theorem dksX4_longest_3 : cX4_longest.data.toList.drop 72 = dktX4_longest_3 := dk_seg dksX4_longest_2 24 rfl rfl
theorem dX4_longest_0 : decode cX4_longest 0 = .ok (.iconst (-1), 1) := dk_2 (dk_at dksX4_longest_0 0 rfl rfl)
theorem dX4_longest_1 : decode cX4_longest 1 = .ok (.istore_n 1, 1) := dk_60 (dk_at dksX4_longest_0 1 rfl rfl)
theorem dX4_longest_2 : decode cX4_longest 2 = .ok (.iconst 0, 1) := dk_3 (dk_at dksX4_longest_0 2 rfl rfl)
theorem dX4_longest_3 : decode cX4_longest 3 = .ok (.istore_n 2, 1) := dk_61 (dk_at dksX4_longest_0 3 rfl rfl)
theorem dX4_longest_4 : decode cX4_longest 4 = .ok (.iload_n 2, 1) := dk_28 (dk_at dksX4_longest_0 4 rfl rfl)
theorem dX4_longest_5 : decode cX4_longest 5 = .ok (.aload_n 0, 1) := dk_42 (dk_at dksX4_longest_0 5 rfl rfl)
theorem dX4_longest_6 : decode cX4_longest 6 = .ok (.getfield 7, 3) := dk_180 0 7 (dk_at dksX4_longest_0 6 rfl rfl)
theorem dX4_longest_9 : decode cX4_longest 9 = .ok (.bipush 14, 2) := dk_16 14 (dk_at dksX4_longest_0 9 rfl rfl)
theorem dX4_longest_11 : decode cX4_longest 11 = .ok (.iaload, 1) := dk_46 (dk_at dksX4_longest_0 11 rfl rfl)
theorem dX4_longest_12 : decode cX4_longest 12 = .ok (.if_icmp .ge 63, 3) := dk_162 0 63 (dk_at dksX4_longest_0 12 rfl rfl)
theorem dX4_longest_15 : decode cX4_longest 15 = .ok (.aload_n 0, 1) := dk_42 (dk_at dksX4_longest_0 15 rfl rfl)
theorem dX4_longest_16 : decode cX4_longest 16 = .ok (.iload_n 2, 1) := dk_28 (dk_at dksX4_longest_0 16 rfl rfl)
theorem dX4_longest_17 : decode cX4_longest 17 = .ok (.invokevirtual 82, 3) := dk_182 0 82 (dk_at dksX4_longest_0 17 rfl rfl)
theorem dX4_longest_20 : decode cX4_longest 20 = .ok (.ifCond .eq 17, 3) := dk_153 0 17 (dk_at dksX4_longest_0 20 rfl rfl)
theorem dX4_longest_23 : decode cX4_longest 23 = .ok (.iload_n 2, 1) := dk_28 (dk_at dksX4_longest_0 23 rfl rfl)
theorem dX4_longest_24 : decode cX4_longest 24 = .ok (.aload_n 0, 1) := dk_42 (dk_at dksX4_longest_1 0 rfl rfl)
theorem dX4_longest_25 : decode cX4_longest 25 = .ok (.getfield 7, 3) := dk_180 0 7 (dk_at dksX4_longest_1 1 rfl rfl)
theorem dX4_longest_28 : decode cX4_longest 28 = .ok (.iconst 4, 1) := dk_7 (dk_at dksX4_longest_1 4 rfl rfl)
theorem dX4_longest_29 : decode cX4_longest 29 = .ok (.iaload, 1) := dk_46 (dk_at dksX4_longest_1 5 rfl rfl)
theorem dX4_longest_30 : decode cX4_longest 30 = .ok (.if_icmp .eq 7, 3) := dk_159 0 7 (dk_at dksX4_longest_1 6 rfl rfl)
theorem dX4_longest_33 : decode cX4_longest 33 = .ok (.iconst 1, 1) := dk_4 (dk_at dksX4_longest_1 9 rfl rfl)
theorem dX4_longest_34 : decode cX4_longest 34 = .ok (.goto 4, 3) := dk_167 0 4 (dk_at dksX4_longest_1 10 rfl rfl)
theorem dX4_longest_37 : decode cX4_longest 37 = .ok (.iconst 0, 1) := dk_3 (dk_at dksX4_longest_1 13 rfl rfl)
theorem dX4_longest_38 : decode cX4_longest 38 = .ok (.istore_n 3, 1) := dk_62 (dk_at dksX4_longest_1 14 rfl rfl)
theorem dX4_longest_39 : decode cX4_longest 39 = .ok (.iload_n 3, 1) := dk_29 (dk_at dksX4_longest_1 15 rfl rfl)
theorem dX4_longest_40 : decode cX4_longest 40 = .ok (.ifCond .eq 27, 3) := dk_153 0 27 (dk_at dksX4_longest_1 16 rfl rfl)
theorem dX4_longest_43 : decode cX4_longest 43 = .ok (.iload_n 1, 1) := dk_27 (dk_at dksX4_longest_1 19 rfl rfl)
theorem dX4_longest_44 : decode cX4_longest 44 = .ok (.iconst (-1), 1) := dk_2 (dk_at dksX4_longest_1 20 rfl rfl)
theorem dX4_longest_45 : decode cX4_longest 45 = .ok (.if_icmp .eq 18, 3) := dk_159 0 18 (dk_at dksX4_longest_1 21 rfl rfl)
theorem dX4_longest_48 : decode cX4_longest 48 = .ok (.aload_n 0, 1) := dk_42 (dk_at dksX4_longest_2 0 rfl rfl)
theorem dX4_longest_49 : decode cX4_longest 49 = .ok (.iload_n 2, 1) := dk_28 (dk_at dksX4_longest_2 1 rfl rfl)
theorem dX4_longest_50 : decode cX4_longest 50 = .ok (.iconst 5, 1) := dk_8 (dk_at dksX4_longest_2 2 rfl rfl)
theorem dX4_longest_51 : decode cX4_longest 51 = .ok (.invokevirtual 78, 3) := dk_182 0 78 (dk_at dksX4_longest_2 3 rfl rfl)
theorem dX4_longest_54 : decode cX4_longest 54 = .ok (.aload_n 0, 1) := dk_42 (dk_at dksX4_longest_2 6 rfl rfl)
theorem dX4_longest_55 : decode cX4_longest 55 = .ok (.iload_n 1, 1) := dk_27 (dk_at dksX4_longest_2 7 rfl rfl)
theorem dX4_longest_56 : decode cX4_longest 56 = .ok (.iconst 5, 1) := dk_8 (dk_at dksX4_longest_2 8 rfl rfl)
theorem dX4_longest_57 : decode cX4_longest 57 = .ok (.invokevirtual 78, 3) := dk_182 0 78 (dk_at dksX4_longest_2 9 rfl rfl)
theorem dX4_longest_60 : decode cX4_longest 60 = .ok (.if_icmp .le 7, 3) := dk_164 0 7 (dk_at dksX4_longest_2 12 rfl rfl)
theorem dX4_longest_63 : decode cX4_longest 63 = .ok (.iload_n 2, 1) := dk_28 (dk_at dksX4_longest_2 15 rfl rfl)
theorem dX4_longest_64 : decode cX4_longest 64 = .ok (.goto 4, 3) := dk_167 0 4 (dk_at dksX4_longest_2 16 rfl rfl)
theorem dX4_longest_67 : decode cX4_longest 67 = .ok (.iload_n 1, 1) := dk_27 (dk_at dksX4_longest_2 19 rfl rfl)
theorem dX4_longest_68 : decode cX4_longest 68 = .ok (.istore_n 1, 1) := dk_60 (dk_at dksX4_longest_2 20 rfl rfl)
theorem dX4_longest_69 : decode cX4_longest 69 = .ok (.iinc 2 1, 3) := dk_132 2 1 (dk_at dksX4_longest_2 21 rfl rfl)
theorem dX4_longest_72 : decode cX4_longest 72 = .ok (.goto (-68), 3) := dk_167 255 188 (dk_at dksX4_longest_3 0 rfl rfl)
theorem dX4_longest_75 : decode cX4_longest 75 = .ok (.iload_n 1, 1) := dk_27 (dk_at dksX4_longest_3 3 rfl rfl)
theorem dX4_longest_76 : decode cX4_longest 76 = .ok (.ireturn, 1) := dk_172 (dk_at dksX4_longest_3 4 rfl rfl)
abbrev cX4_rotate : ByteArray := prog_20_method_58_code
def yX4_rotate : MethodName := ⟨RX4, "rotate", "()V"⟩
def dkwX4_rotate_6 : List UInt8 := [4, 182, 0, 109, 42, 16, 7, 28, 182, 0, 105, 42, 27, 182, 0, 116, 177]
abbrev dktX4_rotate_6 : List UInt8 := dkwX4_rotate_6 ++ []
def dkwX4_rotate_5 : List UInt8 := [167, 0, 4, 28, 61, 132, 3, 1, 167, 255, 172, 28, 2, 159, 0, 27, 42, 28, 42, 27, 7, 182, 0, 78]
abbrev dktX4_rotate_5 : List UInt8 := dkwX4_rotate_5 ++ dktX4_rotate_6
def dkwX4_rotate_4 : List UInt8 := [153, 0, 27, 28, 2, 159, 0, 18, 42, 29, 8, 182, 0, 78, 42, 28, 8, 182, 0, 78, 162, 0, 7, 29]
abbrev dktX4_rotate_4 : List UInt8 := dkwX4_rotate_4 ++ dktX4_rotate_5
def dkwX4_rotate_3 : List UInt8 := [29, 8, 182, 0, 78, 42, 27, 8, 182, 0, 78, 162, 0, 7, 4, 167, 0, 4, 3, 54, 4, 21, 4]
abbrev dktX4_rotate_3 : List UInt8 := dkwX4_rotate_3 ++ dktX4_rotate_4
def dkwX4_rotate_2 : List UInt8 := [16, 14, 46, 162, 0, 79, 42, 29, 182, 0, 96, 153, 0, 31, 42, 29, 3, 182, 0, 78, 153, 0, 22, 42]
abbrev dktX4_rotate_2 : List UInt8 := dkwX4_rotate_2 ++ dktX4_rotate_3
def dkwX4_rotate_1 : List UInt8 := [16, 6, 182, 0, 78, 42, 16, 18, 182, 0, 66, 162, 0, 4, 177, 2, 61, 3, 62, 29, 42, 180, 0, 7]
abbrev dktX4_rotate_1 : List UInt8 := dkwX4_rotate_1 ++ dktX4_rotate_2
def dkwX4_rotate_0 : List UInt8 := [42, 180, 0, 7, 7, 46, 60, 42, 16, 18, 182, 0, 66, 153, 0, 24, 27, 2, 159, 0, 19, 42, 27]
abbrev dktX4_rotate_0 : List UInt8 := dkwX4_rotate_0 ++ dktX4_rotate_1
theorem dksX4_rotate_0 : cX4_rotate.data.toList.drop 0 = dktX4_rotate_0 := by decide +kernel
theorem dksX4_rotate_1 : cX4_rotate.data.toList.drop 23 = dktX4_rotate_1 := dk_seg dksX4_rotate_0 23 rfl rfl
theorem dksX4_rotate_2 : cX4_rotate.data.toList.drop 47 = dktX4_rotate_2 := dk_seg dksX4_rotate_1 24 rfl rfl
theorem dksX4_rotate_3 : cX4_rotate.data.toList.drop 71 = dktX4_rotate_3 := dk_seg dksX4_rotate_2 24 rfl rfl
theorem dksX4_rotate_4 : cX4_rotate.data.toList.drop 94 = dktX4_rotate_4 := dk_seg dksX4_rotate_3 23 rfl rfl
theorem dksX4_rotate_5 : cX4_rotate.data.toList.drop 118 = dktX4_rotate_5 := dk_seg dksX4_rotate_4 24 rfl rfl
theorem dksX4_rotate_6 : cX4_rotate.data.toList.drop 142 = dktX4_rotate_6 := dk_seg dksX4_rotate_5 24 rfl rfl
theorem dX4_rotate_0 : decode cX4_rotate 0 = .ok (.aload_n 0, 1) := dk_42 (dk_at dksX4_rotate_0 0 rfl rfl)
theorem dX4_rotate_1 : decode cX4_rotate 1 = .ok (.getfield 7, 3) := dk_180 0 7 (dk_at dksX4_rotate_0 1 rfl rfl)
theorem dX4_rotate_4 : decode cX4_rotate 4 = .ok (.iconst 4, 1) := dk_7 (dk_at dksX4_rotate_0 4 rfl rfl)
theorem dX4_rotate_5 : decode cX4_rotate 5 = .ok (.iaload, 1) := dk_46 (dk_at dksX4_rotate_0 5 rfl rfl)
theorem dX4_rotate_6 : decode cX4_rotate 6 = .ok (.istore_n 1, 1) := dk_60 (dk_at dksX4_rotate_0 6 rfl rfl)
theorem dX4_rotate_7 : decode cX4_rotate 7 = .ok (.aload_n 0, 1) := dk_42 (dk_at dksX4_rotate_0 7 rfl rfl)
theorem dX4_rotate_8 : decode cX4_rotate 8 = .ok (.bipush 18, 2) := dk_16 18 (dk_at dksX4_rotate_0 8 rfl rfl)
theorem dX4_rotate_10 : decode cX4_rotate 10 = .ok (.invokevirtual 66, 3) := dk_182 0 66 (dk_at dksX4_rotate_0 10 rfl rfl)
theorem dX4_rotate_13 : decode cX4_rotate 13 = .ok (.ifCond .eq 24, 3) := dk_153 0 24 (dk_at dksX4_rotate_0 13 rfl rfl)
theorem dX4_rotate_16 : decode cX4_rotate 16 = .ok (.iload_n 1, 1) := dk_27 (dk_at dksX4_rotate_0 16 rfl rfl)
theorem dX4_rotate_17 : decode cX4_rotate 17 = .ok (.iconst (-1), 1) := dk_2 (dk_at dksX4_rotate_0 17 rfl rfl)
theorem dX4_rotate_18 : decode cX4_rotate 18 = .ok (.if_icmp .eq 19, 3) := dk_159 0 19 (dk_at dksX4_rotate_0 18 rfl rfl)
theorem dX4_rotate_21 : decode cX4_rotate 21 = .ok (.aload_n 0, 1) := dk_42 (dk_at dksX4_rotate_0 21 rfl rfl)
theorem dX4_rotate_22 : decode cX4_rotate 22 = .ok (.iload_n 1, 1) := dk_27 (dk_at dksX4_rotate_0 22 rfl rfl)
theorem dX4_rotate_23 : decode cX4_rotate 23 = .ok (.bipush 6, 2) := dk_16 6 (dk_at dksX4_rotate_1 0 rfl rfl)
theorem dX4_rotate_25 : decode cX4_rotate 25 = .ok (.invokevirtual 78, 3) := dk_182 0 78 (dk_at dksX4_rotate_1 2 rfl rfl)
theorem dX4_rotate_28 : decode cX4_rotate 28 = .ok (.aload_n 0, 1) := dk_42 (dk_at dksX4_rotate_1 5 rfl rfl)
theorem dX4_rotate_29 : decode cX4_rotate 29 = .ok (.bipush 18, 2) := dk_16 18 (dk_at dksX4_rotate_1 6 rfl rfl)
theorem dX4_rotate_31 : decode cX4_rotate 31 = .ok (.invokevirtual 66, 3) := dk_182 0 66 (dk_at dksX4_rotate_1 8 rfl rfl)
theorem dX4_rotate_34 : decode cX4_rotate 34 = .ok (.if_icmp .ge 4, 3) := dk_162 0 4 (dk_at dksX4_rotate_1 11 rfl rfl)
theorem dX4_rotate_37 : decode cX4_rotate 37 = .ok (.return_, 1) := dk_177 (dk_at dksX4_rotate_1 14 rfl rfl)
theorem dX4_rotate_38 : decode cX4_rotate 38 = .ok (.iconst (-1), 1) := dk_2 (dk_at dksX4_rotate_1 15 rfl rfl)
theorem dX4_rotate_39 : decode cX4_rotate 39 = .ok (.istore_n 2, 1) := dk_61 (dk_at dksX4_rotate_1 16 rfl rfl)
theorem dX4_rotate_40 : decode cX4_rotate 40 = .ok (.iconst 0, 1) := dk_3 (dk_at dksX4_rotate_1 17 rfl rfl)
theorem dX4_rotate_41 : decode cX4_rotate 41 = .ok (.istore_n 3, 1) := dk_62 (dk_at dksX4_rotate_1 18 rfl rfl)
theorem dX4_rotate_42 : decode cX4_rotate 42 = .ok (.iload_n 3, 1) := dk_29 (dk_at dksX4_rotate_1 19 rfl rfl)
theorem dX4_rotate_43 : decode cX4_rotate 43 = .ok (.aload_n 0, 1) := dk_42 (dk_at dksX4_rotate_1 20 rfl rfl)
theorem dX4_rotate_44 : decode cX4_rotate 44 = .ok (.getfield 7, 3) := dk_180 0 7 (dk_at dksX4_rotate_1 21 rfl rfl)
theorem dX4_rotate_47 : decode cX4_rotate 47 = .ok (.bipush 14, 2) := dk_16 14 (dk_at dksX4_rotate_2 0 rfl rfl)
theorem dX4_rotate_49 : decode cX4_rotate 49 = .ok (.iaload, 1) := dk_46 (dk_at dksX4_rotate_2 2 rfl rfl)
theorem dX4_rotate_50 : decode cX4_rotate 50 = .ok (.if_icmp .ge 79, 3) := dk_162 0 79 (dk_at dksX4_rotate_2 3 rfl rfl)
theorem dX4_rotate_53 : decode cX4_rotate 53 = .ok (.aload_n 0, 1) := dk_42 (dk_at dksX4_rotate_2 6 rfl rfl)
theorem dX4_rotate_54 : decode cX4_rotate 54 = .ok (.iload_n 3, 1) := dk_29 (dk_at dksX4_rotate_2 7 rfl rfl)
theorem dX4_rotate_55 : decode cX4_rotate 55 = .ok (.invokevirtual 96, 3) := dk_182 0 96 (dk_at dksX4_rotate_2 8 rfl rfl)
theorem dX4_rotate_58 : decode cX4_rotate 58 = .ok (.ifCond .eq 31, 3) := dk_153 0 31 (dk_at dksX4_rotate_2 11 rfl rfl)
theorem dX4_rotate_61 : decode cX4_rotate 61 = .ok (.aload_n 0, 1) := dk_42 (dk_at dksX4_rotate_2 14 rfl rfl)
theorem dX4_rotate_62 : decode cX4_rotate 62 = .ok (.iload_n 3, 1) := dk_29 (dk_at dksX4_rotate_2 15 rfl rfl)
theorem dX4_rotate_63 : decode cX4_rotate 63 = .ok (.iconst 0, 1) := dk_3 (dk_at dksX4_rotate_2 16 rfl rfl)
theorem dX4_rotate_64 : decode cX4_rotate 64 = .ok (.invokevirtual 78, 3) := dk_182 0 78 (dk_at dksX4_rotate_2 17 rfl rfl)
theorem dX4_rotate_67 : decode cX4_rotate 67 = .ok (.ifCond .eq 22, 3) := dk_153 0 22 (dk_at dksX4_rotate_2 20 rfl rfl)
theorem dX4_rotate_70 : decode cX4_rotate 70 = .ok (.aload_n 0, 1) := dk_42 (dk_at dksX4_rotate_2 23 rfl rfl)
theorem dX4_rotate_71 : decode cX4_rotate 71 = .ok (.iload_n 3, 1) := dk_29 (dk_at dksX4_rotate_3 0 rfl rfl)
theorem dX4_rotate_72 : decode cX4_rotate 72 = .ok (.iconst 5, 1) := dk_8 (dk_at dksX4_rotate_3 1 rfl rfl)
theorem dX4_rotate_73 : decode cX4_rotate 73 = .ok (.invokevirtual 78, 3) := dk_182 0 78 (dk_at dksX4_rotate_3 2 rfl rfl)
theorem dX4_rotate_76 : decode cX4_rotate 76 = .ok (.aload_n 0, 1) := dk_42 (dk_at dksX4_rotate_3 5 rfl rfl)
theorem dX4_rotate_77 : decode cX4_rotate 77 = .ok (.iload_n 1, 1) := dk_27 (dk_at dksX4_rotate_3 6 rfl rfl)
theorem dX4_rotate_78 : decode cX4_rotate 78 = .ok (.iconst 5, 1) := dk_8 (dk_at dksX4_rotate_3 7 rfl rfl)
theorem dX4_rotate_79 : decode cX4_rotate 79 = .ok (.invokevirtual 78, 3) := dk_182 0 78 (dk_at dksX4_rotate_3 8 rfl rfl)
theorem dX4_rotate_82 : decode cX4_rotate 82 = .ok (.if_icmp .ge 7, 3) := dk_162 0 7 (dk_at dksX4_rotate_3 11 rfl rfl)
theorem dX4_rotate_85 : decode cX4_rotate 85 = .ok (.iconst 1, 1) := dk_4 (dk_at dksX4_rotate_3 14 rfl rfl)
theorem dX4_rotate_86 : decode cX4_rotate 86 = .ok (.goto 4, 3) := dk_167 0 4 (dk_at dksX4_rotate_3 15 rfl rfl)
theorem dX4_rotate_89 : decode cX4_rotate 89 = .ok (.iconst 0, 1) := dk_3 (dk_at dksX4_rotate_3 18 rfl rfl)
theorem dX4_rotate_90 : decode cX4_rotate 90 = .ok (.istore 4, 2) := dk_54 4 (dk_at dksX4_rotate_3 19 rfl rfl)
theorem dX4_rotate_92 : decode cX4_rotate 92 = .ok (.iload 4, 2) := dk_21 4 (dk_at dksX4_rotate_3 21 rfl rfl)
theorem dX4_rotate_94 : decode cX4_rotate 94 = .ok (.ifCond .eq 27, 3) := dk_153 0 27 (dk_at dksX4_rotate_4 0 rfl rfl)
theorem dX4_rotate_97 : decode cX4_rotate 97 = .ok (.iload_n 2, 1) := dk_28 (dk_at dksX4_rotate_4 3 rfl rfl)
theorem dX4_rotate_98 : decode cX4_rotate 98 = .ok (.iconst (-1), 1) := dk_2 (dk_at dksX4_rotate_4 4 rfl rfl)
theorem dX4_rotate_99 : decode cX4_rotate 99 = .ok (.if_icmp .eq 18, 3) := dk_159 0 18 (dk_at dksX4_rotate_4 5 rfl rfl)
theorem dX4_rotate_102 : decode cX4_rotate 102 = .ok (.aload_n 0, 1) := dk_42 (dk_at dksX4_rotate_4 8 rfl rfl)
theorem dX4_rotate_103 : decode cX4_rotate 103 = .ok (.iload_n 3, 1) := dk_29 (dk_at dksX4_rotate_4 9 rfl rfl)
theorem dX4_rotate_104 : decode cX4_rotate 104 = .ok (.iconst 5, 1) := dk_8 (dk_at dksX4_rotate_4 10 rfl rfl)
theorem dX4_rotate_105 : decode cX4_rotate 105 = .ok (.invokevirtual 78, 3) := dk_182 0 78 (dk_at dksX4_rotate_4 11 rfl rfl)
theorem dX4_rotate_108 : decode cX4_rotate 108 = .ok (.aload_n 0, 1) := dk_42 (dk_at dksX4_rotate_4 14 rfl rfl)
theorem dX4_rotate_109 : decode cX4_rotate 109 = .ok (.iload_n 2, 1) := dk_28 (dk_at dksX4_rotate_4 15 rfl rfl)
theorem dX4_rotate_110 : decode cX4_rotate 110 = .ok (.iconst 5, 1) := dk_8 (dk_at dksX4_rotate_4 16 rfl rfl)
theorem dX4_rotate_111 : decode cX4_rotate 111 = .ok (.invokevirtual 78, 3) := dk_182 0 78 (dk_at dksX4_rotate_4 17 rfl rfl)
theorem dX4_rotate_114 : decode cX4_rotate 114 = .ok (.if_icmp .ge 7, 3) := dk_162 0 7 (dk_at dksX4_rotate_4 20 rfl rfl)
theorem dX4_rotate_117 : decode cX4_rotate 117 = .ok (.iload_n 3, 1) := dk_29 (dk_at dksX4_rotate_4 23 rfl rfl)
theorem dX4_rotate_118 : decode cX4_rotate 118 = .ok (.goto 4, 3) := dk_167 0 4 (dk_at dksX4_rotate_5 0 rfl rfl)
theorem dX4_rotate_121 : decode cX4_rotate 121 = .ok (.iload_n 2, 1) := dk_28 (dk_at dksX4_rotate_5 3 rfl rfl)
theorem dX4_rotate_122 : decode cX4_rotate 122 = .ok (.istore_n 2, 1) := dk_61 (dk_at dksX4_rotate_5 4 rfl rfl)
theorem dX4_rotate_123 : decode cX4_rotate 123 = .ok (.iinc 3 1, 3) := dk_132 3 1 (dk_at dksX4_rotate_5 5 rfl rfl)
theorem dX4_rotate_126 : decode cX4_rotate 126 = .ok (.goto (-84), 3) := dk_167 255 172 (dk_at dksX4_rotate_5 8 rfl rfl)
theorem dX4_rotate_129 : decode cX4_rotate 129 = .ok (.iload_n 2, 1) := dk_28 (dk_at dksX4_rotate_5 11 rfl rfl)
theorem dX4_rotate_130 : decode cX4_rotate 130 = .ok (.iconst (-1), 1) := dk_2 (dk_at dksX4_rotate_5 12 rfl rfl)
theorem dX4_rotate_131 : decode cX4_rotate 131 = .ok (.if_icmp .eq 27, 3) := dk_159 0 27 (dk_at dksX4_rotate_5 13 rfl rfl)
theorem dX4_rotate_134 : decode cX4_rotate 134 = .ok (.aload_n 0, 1) := dk_42 (dk_at dksX4_rotate_5 16 rfl rfl)
theorem dX4_rotate_135 : decode cX4_rotate 135 = .ok (.iload_n 2, 1) := dk_28 (dk_at dksX4_rotate_5 17 rfl rfl)
theorem dX4_rotate_136 : decode cX4_rotate 136 = .ok (.aload_n 0, 1) := dk_42 (dk_at dksX4_rotate_5 18 rfl rfl)
theorem dX4_rotate_137 : decode cX4_rotate 137 = .ok (.iload_n 1, 1) := dk_27 (dk_at dksX4_rotate_5 19 rfl rfl)
theorem dX4_rotate_138 : decode cX4_rotate 138 = .ok (.iconst 4, 1) := dk_7 (dk_at dksX4_rotate_5 20 rfl rfl)
theorem dX4_rotate_139 : decode cX4_rotate 139 = .ok (.invokevirtual 78, 3) := dk_182 0 78 (dk_at dksX4_rotate_5 21 rfl rfl)
theorem dX4_rotate_142 : decode cX4_rotate 142 = .ok (.iconst 1, 1) := dk_4 (dk_at dksX4_rotate_6 0 rfl rfl)
theorem dX4_rotate_143 : decode cX4_rotate 143 = .ok (.invokevirtual 109, 3) := dk_182 0 109 (dk_at dksX4_rotate_6 1 rfl rfl)
theorem dX4_rotate_146 : decode cX4_rotate 146 = .ok (.aload_n 0, 1) := dk_42 (dk_at dksX4_rotate_6 4 rfl rfl)
theorem dX4_rotate_147 : decode cX4_rotate 147 = .ok (.bipush 7, 2) := dk_16 7 (dk_at dksX4_rotate_6 5 rfl rfl)
theorem dX4_rotate_149 : decode cX4_rotate 149 = .ok (.iload_n 2, 1) := dk_28 (dk_at dksX4_rotate_6 7 rfl rfl)
theorem dX4_rotate_150 : decode cX4_rotate 150 = .ok (.invokevirtual 105, 3) := dk_182 0 105 (dk_at dksX4_rotate_6 8 rfl rfl)
theorem dX4_rotate_153 : decode cX4_rotate 153 = .ok (.aload_n 0, 1) := dk_42 (dk_at dksX4_rotate_6 11 rfl rfl)
theorem dX4_rotate_154 : decode cX4_rotate 154 = .ok (.iload_n 1, 1) := dk_27 (dk_at dksX4_rotate_6 12 rfl rfl)
theorem dX4_rotate_155 : decode cX4_rotate 155 = .ok (.invokevirtual 116, 3) := dk_182 0 116 (dk_at dksX4_rotate_6 13 rfl rfl)
theorem dX4_rotate_158 : decode cX4_rotate 158 = .ok (.return_, 1) := dk_177 (dk_at dksX4_rotate_6 16 rfl rfl)
abbrev cX4_foresee : ByteArray := prog_20_method_65_code
def yX4_foresee : MethodName := ⟨RX4, "foresee", "(II)I"⟩
def dkwX4_foresee_4 : List UInt8 := [167, 0, 4, 29, 172]
abbrev dktX4_foresee_4 : List UInt8 := dkwX4_foresee_4 ++ []
def dkwX4_foresee_3 : List UInt8 := [167, 0, 6, 4, 28, 96, 46, 62, 42, 182, 0, 224, 28, 6, 160, 0, 13, 29, 2, 160, 0, 8, 18, 136]
abbrev dktX4_foresee_3 : List UInt8 := dkwX4_foresee_3 ++ dktX4_foresee_4
def dkwX4_foresee_2 : List UInt8 := [28, 6, 160, 0, 12, 42, 180, 0, 7, 7, 46, 167, 0, 20, 42, 180, 0, 7, 28, 7, 160, 0, 7, 6]
abbrev dktX4_foresee_2 : List UInt8 := dkwX4_foresee_2 ++ dktX4_foresee_3
def dkwX4_foresee_1 : List UInt8 := [18, 62, 172, 42, 182, 0, 221, 42, 27, 182, 0, 216, 28, 5, 160, 0, 10, 42, 182, 0, 92, 167, 0, 34]
abbrev dktX4_foresee_1 : List UInt8 := dkwX4_foresee_1 ++ dktX4_foresee_2
def dkwX4_foresee_0 : List UInt8 := [27, 133, 10, 20, 0, 52, 184, 0, 30, 153, 0, 15, 28, 133, 9, 20, 0, 219, 184, 0, 30, 154, 0, 6]
abbrev dktX4_foresee_0 : List UInt8 := dkwX4_foresee_0 ++ dktX4_foresee_1
theorem dksX4_foresee_0 : cX4_foresee.data.toList.drop 0 = dktX4_foresee_0 := by decide +kernel
theorem dksX4_foresee_1 : cX4_foresee.data.toList.drop 24 = dktX4_foresee_1 := dk_seg dksX4_foresee_0 24 rfl rfl
theorem dksX4_foresee_2 : cX4_foresee.data.toList.drop 48 = dktX4_foresee_2 := dk_seg dksX4_foresee_1 24 rfl rfl
theorem dksX4_foresee_3 : cX4_foresee.data.toList.drop 72 = dktX4_foresee_3 := dk_seg dksX4_foresee_2 24 rfl rfl
theorem dksX4_foresee_4 : cX4_foresee.data.toList.drop 96 = dktX4_foresee_4 := dk_seg dksX4_foresee_3 24 rfl rfl
theorem dX4_foresee_0 : decode cX4_foresee 0 = .ok (.iload_n 1, 1) := dk_27 (dk_at dksX4_foresee_0 0 rfl rfl)
theorem dX4_foresee_1 : decode cX4_foresee 1 = .ok (.i2l, 1) := dk_133 (dk_at dksX4_foresee_0 1 rfl rfl)
theorem dX4_foresee_2 : decode cX4_foresee 2 = .ok (.lconst 1, 1) := dk_10 (dk_at dksX4_foresee_0 2 rfl rfl)
theorem dX4_foresee_3 : decode cX4_foresee 3 = .ok (.ldc2_w 52, 3) := dk_20 0 52 (dk_at dksX4_foresee_0 3 rfl rfl)
theorem dX4_foresee_6 : decode cX4_foresee 6 = .ok (.invokestatic 30, 3) := dk_184 0 30 (dk_at dksX4_foresee_0 6 rfl rfl)
theorem dX4_foresee_9 : decode cX4_foresee 9 = .ok (.ifCond .eq 15, 3) := dk_153 0 15 (dk_at dksX4_foresee_0 9 rfl rfl)
theorem dX4_foresee_12 : decode cX4_foresee 12 = .ok (.iload_n 2, 1) := dk_28 (dk_at dksX4_foresee_0 12 rfl rfl)
theorem dX4_foresee_13 : decode cX4_foresee 13 = .ok (.i2l, 1) := dk_133 (dk_at dksX4_foresee_0 13 rfl rfl)
theorem dX4_foresee_14 : decode cX4_foresee 14 = .ok (.lconst 0, 1) := dk_9 (dk_at dksX4_foresee_0 14 rfl rfl)
theorem dX4_foresee_15 : decode cX4_foresee 15 = .ok (.ldc2_w 219, 3) := dk_20 0 219 (dk_at dksX4_foresee_0 15 rfl rfl)
theorem dX4_foresee_18 : decode cX4_foresee 18 = .ok (.invokestatic 30, 3) := dk_184 0 30 (dk_at dksX4_foresee_0 18 rfl rfl)
theorem dX4_foresee_21 : decode cX4_foresee 21 = .ok (.ifCond .ne 6, 3) := dk_154 0 6 (dk_at dksX4_foresee_0 21 rfl rfl)
theorem dX4_foresee_24 : decode cX4_foresee 24 = .ok (.ldc 62, 2) := dk_18 62 (dk_at dksX4_foresee_1 0 rfl rfl)
theorem dX4_foresee_26 : decode cX4_foresee 26 = .ok (.ireturn, 1) := dk_172 (dk_at dksX4_foresee_1 2 rfl rfl)
theorem dX4_foresee_27 : decode cX4_foresee 27 = .ok (.aload_n 0, 1) := dk_42 (dk_at dksX4_foresee_1 3 rfl rfl)
theorem dX4_foresee_28 : decode cX4_foresee 28 = .ok (.invokevirtual 221, 3) := dk_182 0 221 (dk_at dksX4_foresee_1 4 rfl rfl)
theorem dX4_foresee_31 : decode cX4_foresee 31 = .ok (.aload_n 0, 1) := dk_42 (dk_at dksX4_foresee_1 7 rfl rfl)
theorem dX4_foresee_32 : decode cX4_foresee 32 = .ok (.iload_n 1, 1) := dk_27 (dk_at dksX4_foresee_1 8 rfl rfl)
theorem dX4_foresee_33 : decode cX4_foresee 33 = .ok (.invokevirtual 216, 3) := dk_182 0 216 (dk_at dksX4_foresee_1 9 rfl rfl)
theorem dX4_foresee_36 : decode cX4_foresee 36 = .ok (.iload_n 2, 1) := dk_28 (dk_at dksX4_foresee_1 12 rfl rfl)
theorem dX4_foresee_37 : decode cX4_foresee 37 = .ok (.iconst 2, 1) := dk_5 (dk_at dksX4_foresee_1 13 rfl rfl)
theorem dX4_foresee_38 : decode cX4_foresee 38 = .ok (.if_icmp .ne 10, 3) := dk_160 0 10 (dk_at dksX4_foresee_1 14 rfl rfl)
theorem dX4_foresee_41 : decode cX4_foresee 41 = .ok (.aload_n 0, 1) := dk_42 (dk_at dksX4_foresee_1 17 rfl rfl)
theorem dX4_foresee_42 : decode cX4_foresee 42 = .ok (.invokevirtual 92, 3) := dk_182 0 92 (dk_at dksX4_foresee_1 18 rfl rfl)
theorem dX4_foresee_45 : decode cX4_foresee 45 = .ok (.goto 34, 3) := dk_167 0 34 (dk_at dksX4_foresee_1 21 rfl rfl)
theorem dX4_foresee_48 : decode cX4_foresee 48 = .ok (.iload_n 2, 1) := dk_28 (dk_at dksX4_foresee_2 0 rfl rfl)
theorem dX4_foresee_49 : decode cX4_foresee 49 = .ok (.iconst 3, 1) := dk_6 (dk_at dksX4_foresee_2 1 rfl rfl)
theorem dX4_foresee_50 : decode cX4_foresee 50 = .ok (.if_icmp .ne 12, 3) := dk_160 0 12 (dk_at dksX4_foresee_2 2 rfl rfl)
theorem dX4_foresee_53 : decode cX4_foresee 53 = .ok (.aload_n 0, 1) := dk_42 (dk_at dksX4_foresee_2 5 rfl rfl)
theorem dX4_foresee_54 : decode cX4_foresee 54 = .ok (.getfield 7, 3) := dk_180 0 7 (dk_at dksX4_foresee_2 6 rfl rfl)
theorem dX4_foresee_57 : decode cX4_foresee 57 = .ok (.iconst 4, 1) := dk_7 (dk_at dksX4_foresee_2 9 rfl rfl)
theorem dX4_foresee_58 : decode cX4_foresee 58 = .ok (.iaload, 1) := dk_46 (dk_at dksX4_foresee_2 10 rfl rfl)
theorem dX4_foresee_59 : decode cX4_foresee 59 = .ok (.goto 20, 3) := dk_167 0 20 (dk_at dksX4_foresee_2 11 rfl rfl)
theorem dX4_foresee_62 : decode cX4_foresee 62 = .ok (.aload_n 0, 1) := dk_42 (dk_at dksX4_foresee_2 14 rfl rfl)
theorem dX4_foresee_63 : decode cX4_foresee 63 = .ok (.getfield 7, 3) := dk_180 0 7 (dk_at dksX4_foresee_2 15 rfl rfl)
theorem dX4_foresee_66 : decode cX4_foresee 66 = .ok (.iload_n 2, 1) := dk_28 (dk_at dksX4_foresee_2 18 rfl rfl)
theorem dX4_foresee_67 : decode cX4_foresee 67 = .ok (.iconst 4, 1) := dk_7 (dk_at dksX4_foresee_2 19 rfl rfl)
theorem dX4_foresee_68 : decode cX4_foresee 68 = .ok (.if_icmp .ne 7, 3) := dk_160 0 7 (dk_at dksX4_foresee_2 20 rfl rfl)
theorem dX4_foresee_71 : decode cX4_foresee 71 = .ok (.iconst 3, 1) := dk_6 (dk_at dksX4_foresee_2 23 rfl rfl)
theorem dX4_foresee_72 : decode cX4_foresee 72 = .ok (.goto 6, 3) := dk_167 0 6 (dk_at dksX4_foresee_3 0 rfl rfl)
theorem dX4_foresee_75 : decode cX4_foresee 75 = .ok (.iconst 1, 1) := dk_4 (dk_at dksX4_foresee_3 3 rfl rfl)
theorem dX4_foresee_76 : decode cX4_foresee 76 = .ok (.iload_n 2, 1) := dk_28 (dk_at dksX4_foresee_3 4 rfl rfl)
theorem dX4_foresee_77 : decode cX4_foresee 77 = .ok (.iadd, 1) := dk_96 (dk_at dksX4_foresee_3 5 rfl rfl)
theorem dX4_foresee_78 : decode cX4_foresee 78 = .ok (.iaload, 1) := dk_46 (dk_at dksX4_foresee_3 6 rfl rfl)
theorem dX4_foresee_79 : decode cX4_foresee 79 = .ok (.istore_n 3, 1) := dk_62 (dk_at dksX4_foresee_3 7 rfl rfl)
theorem dX4_foresee_80 : decode cX4_foresee 80 = .ok (.aload_n 0, 1) := dk_42 (dk_at dksX4_foresee_3 8 rfl rfl)
theorem dX4_foresee_81 : decode cX4_foresee 81 = .ok (.invokevirtual 224, 3) := dk_182 0 224 (dk_at dksX4_foresee_3 9 rfl rfl)
theorem dX4_foresee_84 : decode cX4_foresee 84 = .ok (.iload_n 2, 1) := dk_28 (dk_at dksX4_foresee_3 12 rfl rfl)
theorem dX4_foresee_85 : decode cX4_foresee 85 = .ok (.iconst 3, 1) := dk_6 (dk_at dksX4_foresee_3 13 rfl rfl)
theorem dX4_foresee_86 : decode cX4_foresee 86 = .ok (.if_icmp .ne 13, 3) := dk_160 0 13 (dk_at dksX4_foresee_3 14 rfl rfl)
theorem dX4_foresee_89 : decode cX4_foresee 89 = .ok (.iload_n 3, 1) := dk_29 (dk_at dksX4_foresee_3 17 rfl rfl)
theorem dX4_foresee_90 : decode cX4_foresee 90 = .ok (.iconst (-1), 1) := dk_2 (dk_at dksX4_foresee_3 18 rfl rfl)
theorem dX4_foresee_91 : decode cX4_foresee 91 = .ok (.if_icmp .ne 8, 3) := dk_160 0 8 (dk_at dksX4_foresee_3 19 rfl rfl)
theorem dX4_foresee_94 : decode cX4_foresee 94 = .ok (.ldc 136, 2) := dk_18 136 (dk_at dksX4_foresee_3 22 rfl rfl)
theorem dX4_foresee_96 : decode cX4_foresee 96 = .ok (.goto 4, 3) := dk_167 0 4 (dk_at dksX4_foresee_4 0 rfl rfl)
theorem dX4_foresee_99 : decode cX4_foresee 99 = .ok (.iload_n 3, 1) := dk_29 (dk_at dksX4_foresee_4 3 rfl rfl)
theorem dX4_foresee_100 : decode cX4_foresee 100 = .ok (.ireturn, 1) := dk_172 (dk_at dksX4_foresee_4 4 rfl rfl)
abbrev cX4_layAside : ByteArray := prog_20_method_63_code
def yX4_layAside : MethodName := ⟨RX4, "layAside", "()V"⟩
def dkwX4_layAside_1 : List UInt8 := [167, 255, 234, 177]
abbrev dktX4_layAside_1 : List UInt8 := dkwX4_layAside_1 ++ []
def dkwX4_layAside_0 : List UInt8 := [3, 60, 27, 17, 0, 170, 162, 0, 21, 42, 180, 0, 16, 27, 42, 180, 0, 7, 27, 46, 79, 132, 1, 1]
abbrev dktX4_layAside_0 : List UInt8 := dkwX4_layAside_0 ++ dktX4_layAside_1
theorem dksX4_layAside_0 : cX4_layAside.data.toList.drop 0 = dktX4_layAside_0 := by decide +kernel
theorem dksX4_layAside_1 : cX4_layAside.data.toList.drop 24 = dktX4_layAside_1 := dk_seg dksX4_layAside_0 24 rfl rfl
theorem dX4_layAside_0 : decode cX4_layAside 0 = .ok (.iconst 0, 1) := dk_3 (dk_at dksX4_layAside_0 0 rfl rfl)
theorem dX4_layAside_1 : decode cX4_layAside 1 = .ok (.istore_n 1, 1) := dk_60 (dk_at dksX4_layAside_0 1 rfl rfl)
theorem dX4_layAside_2 : decode cX4_layAside 2 = .ok (.iload_n 1, 1) := dk_27 (dk_at dksX4_layAside_0 2 rfl rfl)
theorem dX4_layAside_3 : decode cX4_layAside 3 = .ok (.sipush 170, 3) := dk_17 0 170 (dk_at dksX4_layAside_0 3 rfl rfl)
theorem dX4_layAside_6 : decode cX4_layAside 6 = .ok (.if_icmp .ge 21, 3) := dk_162 0 21 (dk_at dksX4_layAside_0 6 rfl rfl)
theorem dX4_layAside_9 : decode cX4_layAside 9 = .ok (.aload_n 0, 1) := dk_42 (dk_at dksX4_layAside_0 9 rfl rfl)
theorem dX4_layAside_10 : decode cX4_layAside 10 = .ok (.getfield 16, 3) := dk_180 0 16 (dk_at dksX4_layAside_0 10 rfl rfl)
theorem dX4_layAside_13 : decode cX4_layAside 13 = .ok (.iload_n 1, 1) := dk_27 (dk_at dksX4_layAside_0 13 rfl rfl)
theorem dX4_layAside_14 : decode cX4_layAside 14 = .ok (.aload_n 0, 1) := dk_42 (dk_at dksX4_layAside_0 14 rfl rfl)
theorem dX4_layAside_15 : decode cX4_layAside 15 = .ok (.getfield 7, 3) := dk_180 0 7 (dk_at dksX4_layAside_0 15 rfl rfl)
theorem dX4_layAside_18 : decode cX4_layAside 18 = .ok (.iload_n 1, 1) := dk_27 (dk_at dksX4_layAside_0 18 rfl rfl)
theorem dX4_layAside_19 : decode cX4_layAside 19 = .ok (.iaload, 1) := dk_46 (dk_at dksX4_layAside_0 19 rfl rfl)
theorem dX4_layAside_20 : decode cX4_layAside 20 = .ok (.iastore, 1) := dk_79 (dk_at dksX4_layAside_0 20 rfl rfl)
theorem dX4_layAside_21 : decode cX4_layAside 21 = .ok (.iinc 1 1, 3) := dk_132 1 1 (dk_at dksX4_layAside_0 21 rfl rfl)
theorem dX4_layAside_24 : decode cX4_layAside 24 = .ok (.goto (-22), 3) := dk_167 255 234 (dk_at dksX4_layAside_1 0 rfl rfl)
theorem dX4_layAside_27 : decode cX4_layAside 27 = .ok (.return_, 1) := dk_177 (dk_at dksX4_layAside_1 3 rfl rfl)
abbrev cX4_takeBack : ByteArray := prog_20_method_64_code
def yX4_takeBack : MethodName := ⟨RX4, "takeBack", "()V"⟩
def dkwX4_takeBack_1 : List UInt8 := [167, 255, 234, 177]
abbrev dktX4_takeBack_1 : List UInt8 := dkwX4_takeBack_1 ++ []
def dkwX4_takeBack_0 : List UInt8 := [3, 60, 27, 17, 0, 170, 162, 0, 21, 42, 180, 0, 7, 27, 42, 180, 0, 16, 27, 46, 79, 132, 1, 1]
abbrev dktX4_takeBack_0 : List UInt8 := dkwX4_takeBack_0 ++ dktX4_takeBack_1
theorem dksX4_takeBack_0 : cX4_takeBack.data.toList.drop 0 = dktX4_takeBack_0 := by decide +kernel
theorem dksX4_takeBack_1 : cX4_takeBack.data.toList.drop 24 = dktX4_takeBack_1 := dk_seg dksX4_takeBack_0 24 rfl rfl
theorem dX4_takeBack_0 : decode cX4_takeBack 0 = .ok (.iconst 0, 1) := dk_3 (dk_at dksX4_takeBack_0 0 rfl rfl)
theorem dX4_takeBack_1 : decode cX4_takeBack 1 = .ok (.istore_n 1, 1) := dk_60 (dk_at dksX4_takeBack_0 1 rfl rfl)
theorem dX4_takeBack_2 : decode cX4_takeBack 2 = .ok (.iload_n 1, 1) := dk_27 (dk_at dksX4_takeBack_0 2 rfl rfl)
theorem dX4_takeBack_3 : decode cX4_takeBack 3 = .ok (.sipush 170, 3) := dk_17 0 170 (dk_at dksX4_takeBack_0 3 rfl rfl)
theorem dX4_takeBack_6 : decode cX4_takeBack 6 = .ok (.if_icmp .ge 21, 3) := dk_162 0 21 (dk_at dksX4_takeBack_0 6 rfl rfl)
theorem dX4_takeBack_9 : decode cX4_takeBack 9 = .ok (.aload_n 0, 1) := dk_42 (dk_at dksX4_takeBack_0 9 rfl rfl)
theorem dX4_takeBack_10 : decode cX4_takeBack 10 = .ok (.getfield 7, 3) := dk_180 0 7 (dk_at dksX4_takeBack_0 10 rfl rfl)
theorem dX4_takeBack_13 : decode cX4_takeBack 13 = .ok (.iload_n 1, 1) := dk_27 (dk_at dksX4_takeBack_0 13 rfl rfl)
theorem dX4_takeBack_14 : decode cX4_takeBack 14 = .ok (.aload_n 0, 1) := dk_42 (dk_at dksX4_takeBack_0 14 rfl rfl)
theorem dX4_takeBack_15 : decode cX4_takeBack 15 = .ok (.getfield 16, 3) := dk_180 0 16 (dk_at dksX4_takeBack_0 15 rfl rfl)
theorem dX4_takeBack_18 : decode cX4_takeBack 18 = .ok (.iload_n 1, 1) := dk_27 (dk_at dksX4_takeBack_0 18 rfl rfl)
theorem dX4_takeBack_19 : decode cX4_takeBack 19 = .ok (.iaload, 1) := dk_46 (dk_at dksX4_takeBack_0 19 rfl rfl)
theorem dX4_takeBack_20 : decode cX4_takeBack 20 = .ok (.iastore, 1) := dk_79 (dk_at dksX4_takeBack_0 20 rfl rfl)
theorem dX4_takeBack_21 : decode cX4_takeBack 21 = .ok (.iinc 1 1, 3) := dk_132 1 1 (dk_at dksX4_takeBack_0 21 rfl rfl)
theorem dX4_takeBack_24 : decode cX4_takeBack 24 = .ok (.goto (-22), 3) := dk_167 255 234 (dk_at dksX4_takeBack_1 0 rfl rfl)
theorem dX4_takeBack_27 : decode cX4_takeBack 27 = .ok (.return_, 1) := dk_177 (dk_at dksX4_takeBack_1 3 rfl rfl)
abbrev cX4_foreseeEvent : ByteArray := prog_20_method_66_code
def yX4_foreseeEvent : MethodName := ⟨RX4, "foreseeEvent", "(I)I"⟩
def dkwX4_foreseeEvent_3 : List UInt8 := [167, 0, 4, 28, 172]
abbrev dktX4_foreseeEvent_3 : List UInt8 := dkwX4_foreseeEvent_3 ++ []
def dkwX4_foreseeEvent_2 : List UInt8 := [132, 2, 1, 167, 255, 231, 42, 182, 0, 224, 42, 180, 0, 102, 27, 122, 4, 126, 154, 0, 8, 18, 136]
abbrev dktX4_foreseeEvent_2 : List UInt8 := dkwX4_foreseeEvent_2 ++ dktX4_foreseeEvent_3
def dkwX4_foreseeEvent_1 : List UInt8 := [3, 61, 28, 17, 5, 160, 162, 0, 24, 42, 180, 0, 102, 27, 122, 4, 126, 154, 0, 13, 42, 182, 0, 208]
abbrev dktX4_foreseeEvent_1 : List UInt8 := dkwX4_foreseeEvent_1 ++ dktX4_foreseeEvent_2
def dkwX4_foreseeEvent_0 : List UInt8 := [27, 133, 9, 20, 0, 227, 184, 0, 30, 154, 0, 6, 18, 62, 172, 42, 182, 0, 221, 42, 3, 181, 0, 102]
abbrev dktX4_foreseeEvent_0 : List UInt8 := dkwX4_foreseeEvent_0 ++ dktX4_foreseeEvent_1
theorem dksX4_foreseeEvent_0 : cX4_foreseeEvent.data.toList.drop 0 = dktX4_foreseeEvent_0 := by decide +kernel
theorem dksX4_foreseeEvent_1 : cX4_foreseeEvent.data.toList.drop 24 = dktX4_foreseeEvent_1 := dk_seg dksX4_foreseeEvent_0 24 rfl rfl
theorem dksX4_foreseeEvent_2 : cX4_foreseeEvent.data.toList.drop 48 = dktX4_foreseeEvent_2 := dk_seg dksX4_foreseeEvent_1 24 rfl rfl
theorem dksX4_foreseeEvent_3 : cX4_foreseeEvent.data.toList.drop 71 = dktX4_foreseeEvent_3 := dk_seg dksX4_foreseeEvent_2 23 rfl rfl
theorem dX4_foreseeEvent_0 : decode cX4_foreseeEvent 0 = .ok (.iload_n 1, 1) := dk_27 (dk_at dksX4_foreseeEvent_0 0 rfl rfl)
theorem dX4_foreseeEvent_1 : decode cX4_foreseeEvent 1 = .ok (.i2l, 1) := dk_133 (dk_at dksX4_foreseeEvent_0 1 rfl rfl)
theorem dX4_foreseeEvent_2 : decode cX4_foreseeEvent 2 = .ok (.lconst 0, 1) := dk_9 (dk_at dksX4_foreseeEvent_0 2 rfl rfl)
theorem dX4_foreseeEvent_3 : decode cX4_foreseeEvent 3 = .ok (.ldc2_w 227, 3) := dk_20 0 227 (dk_at dksX4_foreseeEvent_0 3 rfl rfl)
theorem dX4_foreseeEvent_6 : decode cX4_foreseeEvent 6 = .ok (.invokestatic 30, 3) := dk_184 0 30 (dk_at dksX4_foreseeEvent_0 6 rfl rfl)
theorem dX4_foreseeEvent_9 : decode cX4_foreseeEvent 9 = .ok (.ifCond .ne 6, 3) := dk_154 0 6 (dk_at dksX4_foreseeEvent_0 9 rfl rfl)
theorem dX4_foreseeEvent_12 : decode cX4_foreseeEvent 12 = .ok (.ldc 62, 2) := dk_18 62 (dk_at dksX4_foreseeEvent_0 12 rfl rfl)
theorem dX4_foreseeEvent_14 : decode cX4_foreseeEvent 14 = .ok (.ireturn, 1) := dk_172 (dk_at dksX4_foreseeEvent_0 14 rfl rfl)
theorem dX4_foreseeEvent_15 : decode cX4_foreseeEvent 15 = .ok (.aload_n 0, 1) := dk_42 (dk_at dksX4_foreseeEvent_0 15 rfl rfl)
theorem dX4_foreseeEvent_16 : decode cX4_foreseeEvent 16 = .ok (.invokevirtual 221, 3) := dk_182 0 221 (dk_at dksX4_foreseeEvent_0 16 rfl rfl)
theorem dX4_foreseeEvent_19 : decode cX4_foreseeEvent 19 = .ok (.aload_n 0, 1) := dk_42 (dk_at dksX4_foreseeEvent_0 19 rfl rfl)
theorem dX4_foreseeEvent_20 : decode cX4_foreseeEvent 20 = .ok (.iconst 0, 1) := dk_3 (dk_at dksX4_foreseeEvent_0 20 rfl rfl)
theorem dX4_foreseeEvent_21 : decode cX4_foreseeEvent 21 = .ok (.putfield 102, 3) := dk_181 0 102 (dk_at dksX4_foreseeEvent_0 21 rfl rfl)
theorem dX4_foreseeEvent_24 : decode cX4_foreseeEvent 24 = .ok (.iconst 0, 1) := dk_3 (dk_at dksX4_foreseeEvent_1 0 rfl rfl)
theorem dX4_foreseeEvent_25 : decode cX4_foreseeEvent 25 = .ok (.istore_n 2, 1) := dk_61 (dk_at dksX4_foreseeEvent_1 1 rfl rfl)
theorem dX4_foreseeEvent_26 : decode cX4_foreseeEvent 26 = .ok (.iload_n 2, 1) := dk_28 (dk_at dksX4_foreseeEvent_1 2 rfl rfl)
theorem dX4_foreseeEvent_27 : decode cX4_foreseeEvent 27 = .ok (.sipush 1440, 3) := dk_17 5 160 (dk_at dksX4_foreseeEvent_1 3 rfl rfl)
theorem dX4_foreseeEvent_30 : decode cX4_foreseeEvent 30 = .ok (.if_icmp .ge 24, 3) := dk_162 0 24 (dk_at dksX4_foreseeEvent_1 6 rfl rfl)
theorem dX4_foreseeEvent_33 : decode cX4_foreseeEvent 33 = .ok (.aload_n 0, 1) := dk_42 (dk_at dksX4_foreseeEvent_1 9 rfl rfl)
theorem dX4_foreseeEvent_34 : decode cX4_foreseeEvent 34 = .ok (.getfield 102, 3) := dk_180 0 102 (dk_at dksX4_foreseeEvent_1 10 rfl rfl)
theorem dX4_foreseeEvent_37 : decode cX4_foreseeEvent 37 = .ok (.iload_n 1, 1) := dk_27 (dk_at dksX4_foreseeEvent_1 13 rfl rfl)
theorem dX4_foreseeEvent_38 : decode cX4_foreseeEvent 38 = .ok (.ishr, 1) := dk_122 (dk_at dksX4_foreseeEvent_1 14 rfl rfl)
theorem dX4_foreseeEvent_39 : decode cX4_foreseeEvent 39 = .ok (.iconst 1, 1) := dk_4 (dk_at dksX4_foreseeEvent_1 15 rfl rfl)
theorem dX4_foreseeEvent_40 : decode cX4_foreseeEvent 40 = .ok (.iand, 1) := dk_126 (dk_at dksX4_foreseeEvent_1 16 rfl rfl)
theorem dX4_foreseeEvent_41 : decode cX4_foreseeEvent 41 = .ok (.ifCond .ne 13, 3) := dk_154 0 13 (dk_at dksX4_foreseeEvent_1 17 rfl rfl)
theorem dX4_foreseeEvent_44 : decode cX4_foreseeEvent 44 = .ok (.aload_n 0, 1) := dk_42 (dk_at dksX4_foreseeEvent_1 20 rfl rfl)
theorem dX4_foreseeEvent_45 : decode cX4_foreseeEvent 45 = .ok (.invokevirtual 208, 3) := dk_182 0 208 (dk_at dksX4_foreseeEvent_1 21 rfl rfl)
theorem dX4_foreseeEvent_48 : decode cX4_foreseeEvent 48 = .ok (.iinc 2 1, 3) := dk_132 2 1 (dk_at dksX4_foreseeEvent_2 0 rfl rfl)
theorem dX4_foreseeEvent_51 : decode cX4_foreseeEvent 51 = .ok (.goto (-25), 3) := dk_167 255 231 (dk_at dksX4_foreseeEvent_2 3 rfl rfl)
theorem dX4_foreseeEvent_54 : decode cX4_foreseeEvent 54 = .ok (.aload_n 0, 1) := dk_42 (dk_at dksX4_foreseeEvent_2 6 rfl rfl)
theorem dX4_foreseeEvent_55 : decode cX4_foreseeEvent 55 = .ok (.invokevirtual 224, 3) := dk_182 0 224 (dk_at dksX4_foreseeEvent_2 7 rfl rfl)
theorem dX4_foreseeEvent_58 : decode cX4_foreseeEvent 58 = .ok (.aload_n 0, 1) := dk_42 (dk_at dksX4_foreseeEvent_2 10 rfl rfl)
theorem dX4_foreseeEvent_59 : decode cX4_foreseeEvent 59 = .ok (.getfield 102, 3) := dk_180 0 102 (dk_at dksX4_foreseeEvent_2 11 rfl rfl)
theorem dX4_foreseeEvent_62 : decode cX4_foreseeEvent 62 = .ok (.iload_n 1, 1) := dk_27 (dk_at dksX4_foreseeEvent_2 14 rfl rfl)
theorem dX4_foreseeEvent_63 : decode cX4_foreseeEvent 63 = .ok (.ishr, 1) := dk_122 (dk_at dksX4_foreseeEvent_2 15 rfl rfl)
theorem dX4_foreseeEvent_64 : decode cX4_foreseeEvent 64 = .ok (.iconst 1, 1) := dk_4 (dk_at dksX4_foreseeEvent_2 16 rfl rfl)
theorem dX4_foreseeEvent_65 : decode cX4_foreseeEvent 65 = .ok (.iand, 1) := dk_126 (dk_at dksX4_foreseeEvent_2 17 rfl rfl)
theorem dX4_foreseeEvent_66 : decode cX4_foreseeEvent 66 = .ok (.ifCond .ne 8, 3) := dk_154 0 8 (dk_at dksX4_foreseeEvent_2 18 rfl rfl)
theorem dX4_foreseeEvent_69 : decode cX4_foreseeEvent 69 = .ok (.ldc 136, 2) := dk_18 136 (dk_at dksX4_foreseeEvent_2 21 rfl rfl)
theorem dX4_foreseeEvent_71 : decode cX4_foreseeEvent 71 = .ok (.goto 4, 3) := dk_167 0 4 (dk_at dksX4_foreseeEvent_3 0 rfl rfl)
theorem dX4_foreseeEvent_74 : decode cX4_foreseeEvent 74 = .ok (.iload_n 2, 1) := dk_28 (dk_at dksX4_foreseeEvent_3 3 rfl rfl)
theorem dX4_foreseeEvent_75 : decode cX4_foreseeEvent 75 = .ok (.ireturn, 1) := dk_172 (dk_at dksX4_foreseeEvent_3 4 rfl rfl)
abbrev cX4_station : ByteArray := prog_20_method_67_code
def yX4_station : MethodName := ⟨RX4, "station", "(I)I"⟩
def dkwX4_station_5 : List UInt8 := [100, 46, 172]
abbrev dktX4_station_5 : List UInt8 := dkwX4_station_5 ++ []
def dkwX4_station_4 : List UInt8 := [46, 172, 42, 182, 0, 92, 172, 42, 180, 0, 7, 16, 13, 46, 172, 42, 180, 0, 7, 8, 27, 96, 16, 6]
abbrev dktX4_station_4 : List UInt8 := dkwX4_station_4 ++ dktX4_station_5
def dkwX4_station_3 : List UInt8 := [182, 0, 162, 172, 42, 180, 0, 7, 7, 46, 2, 160, 0, 8, 18, 136, 167, 0, 9, 42, 180, 0, 7, 7]
abbrev dktX4_station_3 : List UInt8 := dkwX4_station_3 ++ dktX4_station_4
def dkwX4_station_2 : List UInt8 := [42, 180, 0, 7, 4, 46, 172, 42, 180, 0, 7, 5, 46, 172, 42, 180, 0, 7, 6, 46, 172, 42]
abbrev dktX4_station_2 : List UInt8 := dkwX4_station_2 ++ dktX4_station_3
def dkwX4_station_1 : List UInt8 := [170, 0, 0, 0, 0, 0, 0, 137, 0, 0, 0, 0, 0, 0, 0, 14, 0, 0, 0, 76, 0, 0, 0, 83, 0, 0, 0, 90, 0, 0, 0, 97, 0, 0, 0, 102, 0, 0, 0, 124, 0, 0, 0, 137, 0, 0, 0, 137, 0, 0, 0, 137, 0, 0, 0, 137, 0, 0, 0, 137, 0, 0, 0, 137, 0, 0, 0, 137, 0, 0, 0, 137, 0, 0, 0, 129]
abbrev dktX4_station_1 : List UInt8 := dkwX4_station_1 ++ dktX4_station_2
def dkwX4_station_0 : List UInt8 := [27, 133, 9, 20, 0, 229, 184, 0, 30, 154, 0, 6, 18, 62, 172, 27]
abbrev dktX4_station_0 : List UInt8 := dkwX4_station_0 ++ dktX4_station_1
theorem dksX4_station_0 : cX4_station.data.toList.drop 0 = dktX4_station_0 := by decide +kernel
theorem dksX4_station_1 : cX4_station.data.toList.drop 16 = dktX4_station_1 := dk_seg dksX4_station_0 16 rfl rfl
theorem dksX4_station_2 : cX4_station.data.toList.drop 92 = dktX4_station_2 := dk_seg dksX4_station_1 76 rfl rfl
theorem dksX4_station_3 : cX4_station.data.toList.drop 114 = dktX4_station_3 := dk_seg dksX4_station_2 22 rfl rfl
theorem dksX4_station_4 : cX4_station.data.toList.drop 138 = dktX4_station_4 := dk_seg dksX4_station_3 24 rfl rfl
theorem dksX4_station_5 : cX4_station.data.toList.drop 162 = dktX4_station_5 := dk_seg dksX4_station_4 24 rfl rfl
theorem dX4_station_0 : decode cX4_station 0 = .ok (.iload_n 1, 1) := dk_27 (dk_at dksX4_station_0 0 rfl rfl)
theorem dX4_station_1 : decode cX4_station 1 = .ok (.i2l, 1) := dk_133 (dk_at dksX4_station_0 1 rfl rfl)
theorem dX4_station_2 : decode cX4_station 2 = .ok (.lconst 0, 1) := dk_9 (dk_at dksX4_station_0 2 rfl rfl)
theorem dX4_station_3 : decode cX4_station 3 = .ok (.ldc2_w 229, 3) := dk_20 0 229 (dk_at dksX4_station_0 3 rfl rfl)
theorem dX4_station_6 : decode cX4_station 6 = .ok (.invokestatic 30, 3) := dk_184 0 30 (dk_at dksX4_station_0 6 rfl rfl)
theorem dX4_station_9 : decode cX4_station 9 = .ok (.ifCond .ne 6, 3) := dk_154 0 6 (dk_at dksX4_station_0 9 rfl rfl)
theorem dX4_station_12 : decode cX4_station 12 = .ok (.ldc 62, 2) := dk_18 62 (dk_at dksX4_station_0 12 rfl rfl)
theorem dX4_station_14 : decode cX4_station 14 = .ok (.ireturn, 1) := dk_172 (dk_at dksX4_station_0 14 rfl rfl)
theorem dX4_station_15 : decode cX4_station 15 = .ok (.iload_n 1, 1) := dk_27 (dk_at dksX4_station_0 15 rfl rfl)
theorem dX4_station_16 : decode cX4_station 16 = .ok (.tableswitch 137 0 14 #[76, 83, 90, 97, 102, 124, 137, 137, 137, 137, 137, 137, 137, 137, 129], 76) := by decide +kernel
theorem dX4_station_92 : decode cX4_station 92 = .ok (.aload_n 0, 1) := dk_42 (dk_at dksX4_station_2 0 rfl rfl)
theorem dX4_station_93 : decode cX4_station 93 = .ok (.getfield 7, 3) := dk_180 0 7 (dk_at dksX4_station_2 1 rfl rfl)
theorem dX4_station_96 : decode cX4_station 96 = .ok (.iconst 1, 1) := dk_4 (dk_at dksX4_station_2 4 rfl rfl)
theorem dX4_station_97 : decode cX4_station 97 = .ok (.iaload, 1) := dk_46 (dk_at dksX4_station_2 5 rfl rfl)
theorem dX4_station_98 : decode cX4_station 98 = .ok (.ireturn, 1) := dk_172 (dk_at dksX4_station_2 6 rfl rfl)
theorem dX4_station_99 : decode cX4_station 99 = .ok (.aload_n 0, 1) := dk_42 (dk_at dksX4_station_2 7 rfl rfl)
theorem dX4_station_100 : decode cX4_station 100 = .ok (.getfield 7, 3) := dk_180 0 7 (dk_at dksX4_station_2 8 rfl rfl)
theorem dX4_station_103 : decode cX4_station 103 = .ok (.iconst 2, 1) := dk_5 (dk_at dksX4_station_2 11 rfl rfl)
theorem dX4_station_104 : decode cX4_station 104 = .ok (.iaload, 1) := dk_46 (dk_at dksX4_station_2 12 rfl rfl)
theorem dX4_station_105 : decode cX4_station 105 = .ok (.ireturn, 1) := dk_172 (dk_at dksX4_station_2 13 rfl rfl)
theorem dX4_station_106 : decode cX4_station 106 = .ok (.aload_n 0, 1) := dk_42 (dk_at dksX4_station_2 14 rfl rfl)
theorem dX4_station_107 : decode cX4_station 107 = .ok (.getfield 7, 3) := dk_180 0 7 (dk_at dksX4_station_2 15 rfl rfl)
theorem dX4_station_110 : decode cX4_station 110 = .ok (.iconst 3, 1) := dk_6 (dk_at dksX4_station_2 18 rfl rfl)
theorem dX4_station_111 : decode cX4_station 111 = .ok (.iaload, 1) := dk_46 (dk_at dksX4_station_2 19 rfl rfl)
theorem dX4_station_112 : decode cX4_station 112 = .ok (.ireturn, 1) := dk_172 (dk_at dksX4_station_2 20 rfl rfl)
theorem dX4_station_113 : decode cX4_station 113 = .ok (.aload_n 0, 1) := dk_42 (dk_at dksX4_station_2 21 rfl rfl)
theorem dX4_station_114 : decode cX4_station 114 = .ok (.invokevirtual 162, 3) := dk_182 0 162 (dk_at dksX4_station_3 0 rfl rfl)
theorem dX4_station_117 : decode cX4_station 117 = .ok (.ireturn, 1) := dk_172 (dk_at dksX4_station_3 3 rfl rfl)
theorem dX4_station_118 : decode cX4_station 118 = .ok (.aload_n 0, 1) := dk_42 (dk_at dksX4_station_3 4 rfl rfl)
theorem dX4_station_119 : decode cX4_station 119 = .ok (.getfield 7, 3) := dk_180 0 7 (dk_at dksX4_station_3 5 rfl rfl)
theorem dX4_station_122 : decode cX4_station 122 = .ok (.iconst 4, 1) := dk_7 (dk_at dksX4_station_3 8 rfl rfl)
theorem dX4_station_123 : decode cX4_station 123 = .ok (.iaload, 1) := dk_46 (dk_at dksX4_station_3 9 rfl rfl)
theorem dX4_station_124 : decode cX4_station 124 = .ok (.iconst (-1), 1) := dk_2 (dk_at dksX4_station_3 10 rfl rfl)
theorem dX4_station_125 : decode cX4_station 125 = .ok (.if_icmp .ne 8, 3) := dk_160 0 8 (dk_at dksX4_station_3 11 rfl rfl)
theorem dX4_station_128 : decode cX4_station 128 = .ok (.ldc 136, 2) := dk_18 136 (dk_at dksX4_station_3 14 rfl rfl)
theorem dX4_station_130 : decode cX4_station 130 = .ok (.goto 9, 3) := dk_167 0 9 (dk_at dksX4_station_3 16 rfl rfl)
theorem dX4_station_133 : decode cX4_station 133 = .ok (.aload_n 0, 1) := dk_42 (dk_at dksX4_station_3 19 rfl rfl)
theorem dX4_station_134 : decode cX4_station 134 = .ok (.getfield 7, 3) := dk_180 0 7 (dk_at dksX4_station_3 20 rfl rfl)
theorem dX4_station_137 : decode cX4_station 137 = .ok (.iconst 4, 1) := dk_7 (dk_at dksX4_station_3 23 rfl rfl)
theorem dX4_station_138 : decode cX4_station 138 = .ok (.iaload, 1) := dk_46 (dk_at dksX4_station_4 0 rfl rfl)
theorem dX4_station_139 : decode cX4_station 139 = .ok (.ireturn, 1) := dk_172 (dk_at dksX4_station_4 1 rfl rfl)
theorem dX4_station_140 : decode cX4_station 140 = .ok (.aload_n 0, 1) := dk_42 (dk_at dksX4_station_4 2 rfl rfl)
theorem dX4_station_141 : decode cX4_station 141 = .ok (.invokevirtual 92, 3) := dk_182 0 92 (dk_at dksX4_station_4 3 rfl rfl)
theorem dX4_station_144 : decode cX4_station 144 = .ok (.ireturn, 1) := dk_172 (dk_at dksX4_station_4 6 rfl rfl)
theorem dX4_station_145 : decode cX4_station 145 = .ok (.aload_n 0, 1) := dk_42 (dk_at dksX4_station_4 7 rfl rfl)
theorem dX4_station_146 : decode cX4_station 146 = .ok (.getfield 7, 3) := dk_180 0 7 (dk_at dksX4_station_4 8 rfl rfl)
theorem dX4_station_149 : decode cX4_station 149 = .ok (.bipush 13, 2) := dk_16 13 (dk_at dksX4_station_4 11 rfl rfl)
theorem dX4_station_151 : decode cX4_station 151 = .ok (.iaload, 1) := dk_46 (dk_at dksX4_station_4 13 rfl rfl)
theorem dX4_station_152 : decode cX4_station 152 = .ok (.ireturn, 1) := dk_172 (dk_at dksX4_station_4 14 rfl rfl)
theorem dX4_station_153 : decode cX4_station 153 = .ok (.aload_n 0, 1) := dk_42 (dk_at dksX4_station_4 15 rfl rfl)
theorem dX4_station_154 : decode cX4_station 154 = .ok (.getfield 7, 3) := dk_180 0 7 (dk_at dksX4_station_4 16 rfl rfl)
theorem dX4_station_157 : decode cX4_station 157 = .ok (.iconst 5, 1) := dk_8 (dk_at dksX4_station_4 19 rfl rfl)
theorem dX4_station_158 : decode cX4_station 158 = .ok (.iload_n 1, 1) := dk_27 (dk_at dksX4_station_4 20 rfl rfl)
theorem dX4_station_159 : decode cX4_station 159 = .ok (.iadd, 1) := dk_96 (dk_at dksX4_station_4 21 rfl rfl)
theorem dX4_station_160 : decode cX4_station 160 = .ok (.bipush 6, 2) := dk_16 6 (dk_at dksX4_station_4 22 rfl rfl)
theorem dX4_station_162 : decode cX4_station 162 = .ok (.isub, 1) := dk_100 (dk_at dksX4_station_5 0 rfl rfl)
theorem dX4_station_163 : decode cX4_station 163 = .ok (.iaload, 1) := dk_46 (dk_at dksX4_station_5 1 rfl rfl)
theorem dX4_station_164 : decode cX4_station 164 = .ok (.ireturn, 1) := dk_172 (dk_at dksX4_station_5 2 rfl rfl)
abbrev cX4_nightAt : ByteArray := prog_20_method_68_code
def yX4_nightAt : MethodName := ⟨RX4, "nightAt", "(I)I"⟩
def dkwX4_nightAt_1 : List UInt8 := [16, 127, 27, 96, 46, 167, 0, 5, 18, 136, 172]
abbrev dktX4_nightAt_1 : List UInt8 := dkwX4_nightAt_1 ++ []
def dkwX4_nightAt_0 : List UInt8 := [27, 156, 0, 8, 18, 62, 167, 0, 28, 27, 42, 180, 0, 7, 16, 18, 46, 162, 0, 15, 42, 180, 0, 7]
abbrev dktX4_nightAt_0 : List UInt8 := dkwX4_nightAt_0 ++ dktX4_nightAt_1
theorem dksX4_nightAt_0 : cX4_nightAt.data.toList.drop 0 = dktX4_nightAt_0 := by decide +kernel
theorem dksX4_nightAt_1 : cX4_nightAt.data.toList.drop 24 = dktX4_nightAt_1 := dk_seg dksX4_nightAt_0 24 rfl rfl
theorem dX4_nightAt_0 : decode cX4_nightAt 0 = .ok (.iload_n 1, 1) := dk_27 (dk_at dksX4_nightAt_0 0 rfl rfl)
theorem dX4_nightAt_1 : decode cX4_nightAt 1 = .ok (.ifCond .ge 8, 3) := dk_156 0 8 (dk_at dksX4_nightAt_0 1 rfl rfl)
theorem dX4_nightAt_4 : decode cX4_nightAt 4 = .ok (.ldc 62, 2) := dk_18 62 (dk_at dksX4_nightAt_0 4 rfl rfl)
theorem dX4_nightAt_6 : decode cX4_nightAt 6 = .ok (.goto 28, 3) := dk_167 0 28 (dk_at dksX4_nightAt_0 6 rfl rfl)
theorem dX4_nightAt_9 : decode cX4_nightAt 9 = .ok (.iload_n 1, 1) := dk_27 (dk_at dksX4_nightAt_0 9 rfl rfl)
theorem dX4_nightAt_10 : decode cX4_nightAt 10 = .ok (.aload_n 0, 1) := dk_42 (dk_at dksX4_nightAt_0 10 rfl rfl)
theorem dX4_nightAt_11 : decode cX4_nightAt 11 = .ok (.getfield 7, 3) := dk_180 0 7 (dk_at dksX4_nightAt_0 11 rfl rfl)
theorem dX4_nightAt_14 : decode cX4_nightAt 14 = .ok (.bipush 18, 2) := dk_16 18 (dk_at dksX4_nightAt_0 14 rfl rfl)
theorem dX4_nightAt_16 : decode cX4_nightAt 16 = .ok (.iaload, 1) := dk_46 (dk_at dksX4_nightAt_0 16 rfl rfl)
theorem dX4_nightAt_17 : decode cX4_nightAt 17 = .ok (.if_icmp .ge 15, 3) := dk_162 0 15 (dk_at dksX4_nightAt_0 17 rfl rfl)
theorem dX4_nightAt_20 : decode cX4_nightAt 20 = .ok (.aload_n 0, 1) := dk_42 (dk_at dksX4_nightAt_0 20 rfl rfl)
theorem dX4_nightAt_21 : decode cX4_nightAt 21 = .ok (.getfield 7, 3) := dk_180 0 7 (dk_at dksX4_nightAt_0 21 rfl rfl)
theorem dX4_nightAt_24 : decode cX4_nightAt 24 = .ok (.bipush 127, 2) := dk_16 127 (dk_at dksX4_nightAt_1 0 rfl rfl)
theorem dX4_nightAt_26 : decode cX4_nightAt 26 = .ok (.iload_n 1, 1) := dk_27 (dk_at dksX4_nightAt_1 2 rfl rfl)
theorem dX4_nightAt_27 : decode cX4_nightAt 27 = .ok (.iadd, 1) := dk_96 (dk_at dksX4_nightAt_1 3 rfl rfl)
theorem dX4_nightAt_28 : decode cX4_nightAt 28 = .ok (.iaload, 1) := dk_46 (dk_at dksX4_nightAt_1 4 rfl rfl)
theorem dX4_nightAt_29 : decode cX4_nightAt 29 = .ok (.goto 5, 3) := dk_167 0 5 (dk_at dksX4_nightAt_1 5 rfl rfl)
theorem dX4_nightAt_32 : decode cX4_nightAt 32 = .ok (.ldc 136, 2) := dk_18 136 (dk_at dksX4_nightAt_1 8 rfl rfl)
theorem dX4_nightAt_34 : decode cX4_nightAt 34 = .ok (.ireturn, 1) := dk_172 (dk_at dksX4_nightAt_1 10 rfl rfl)
abbrev cX4_eventAt : ByteArray := prog_20_method_69_code
def yX4_eventAt : MethodName := ⟨RX4, "eventAt", "(II)I"⟩
def dkwX4_eventAt_2 : List UInt8 := [28, 5, 160, 0, 13, 29, 2, 160, 0, 8, 18, 136, 167, 0, 4, 29, 172]
abbrev dktX4_eventAt_2 : List UInt8 := dkwX4_eventAt_2 ++ []
def dkwX4_eventAt_1 : List UInt8 := [16, 19, 46, 161, 0, 6, 18, 136, 172, 42, 180, 0, 7, 17, 0, 134, 6, 27, 104, 96, 28, 96, 46, 62]
abbrev dktX4_eventAt_1 : List UInt8 := dkwX4_eventAt_1 ++ dktX4_eventAt_2
def dkwX4_eventAt_0 : List UInt8 := [27, 155, 0, 15, 28, 133, 9, 20, 0, 69, 184, 0, 30, 154, 0, 6, 18, 62, 172, 27, 42, 180, 0, 7]
abbrev dktX4_eventAt_0 : List UInt8 := dkwX4_eventAt_0 ++ dktX4_eventAt_1
theorem dksX4_eventAt_0 : cX4_eventAt.data.toList.drop 0 = dktX4_eventAt_0 := by decide +kernel
theorem dksX4_eventAt_1 : cX4_eventAt.data.toList.drop 24 = dktX4_eventAt_1 := dk_seg dksX4_eventAt_0 24 rfl rfl
theorem dksX4_eventAt_2 : cX4_eventAt.data.toList.drop 48 = dktX4_eventAt_2 := dk_seg dksX4_eventAt_1 24 rfl rfl
theorem dX4_eventAt_0 : decode cX4_eventAt 0 = .ok (.iload_n 1, 1) := dk_27 (dk_at dksX4_eventAt_0 0 rfl rfl)
theorem dX4_eventAt_1 : decode cX4_eventAt 1 = .ok (.ifCond .lt 15, 3) := dk_155 0 15 (dk_at dksX4_eventAt_0 1 rfl rfl)
theorem dX4_eventAt_4 : decode cX4_eventAt 4 = .ok (.iload_n 2, 1) := dk_28 (dk_at dksX4_eventAt_0 4 rfl rfl)
theorem dX4_eventAt_5 : decode cX4_eventAt 5 = .ok (.i2l, 1) := dk_133 (dk_at dksX4_eventAt_0 5 rfl rfl)
theorem dX4_eventAt_6 : decode cX4_eventAt 6 = .ok (.lconst 0, 1) := dk_9 (dk_at dksX4_eventAt_0 6 rfl rfl)
theorem dX4_eventAt_7 : decode cX4_eventAt 7 = .ok (.ldc2_w 69, 3) := dk_20 0 69 (dk_at dksX4_eventAt_0 7 rfl rfl)
theorem dX4_eventAt_10 : decode cX4_eventAt 10 = .ok (.invokestatic 30, 3) := dk_184 0 30 (dk_at dksX4_eventAt_0 10 rfl rfl)
theorem dX4_eventAt_13 : decode cX4_eventAt 13 = .ok (.ifCond .ne 6, 3) := dk_154 0 6 (dk_at dksX4_eventAt_0 13 rfl rfl)
theorem dX4_eventAt_16 : decode cX4_eventAt 16 = .ok (.ldc 62, 2) := dk_18 62 (dk_at dksX4_eventAt_0 16 rfl rfl)
theorem dX4_eventAt_18 : decode cX4_eventAt 18 = .ok (.ireturn, 1) := dk_172 (dk_at dksX4_eventAt_0 18 rfl rfl)
theorem dX4_eventAt_19 : decode cX4_eventAt 19 = .ok (.iload_n 1, 1) := dk_27 (dk_at dksX4_eventAt_0 19 rfl rfl)
theorem dX4_eventAt_20 : decode cX4_eventAt 20 = .ok (.aload_n 0, 1) := dk_42 (dk_at dksX4_eventAt_0 20 rfl rfl)
theorem dX4_eventAt_21 : decode cX4_eventAt 21 = .ok (.getfield 7, 3) := dk_180 0 7 (dk_at dksX4_eventAt_0 21 rfl rfl)
theorem dX4_eventAt_24 : decode cX4_eventAt 24 = .ok (.bipush 19, 2) := dk_16 19 (dk_at dksX4_eventAt_1 0 rfl rfl)
theorem dX4_eventAt_26 : decode cX4_eventAt 26 = .ok (.iaload, 1) := dk_46 (dk_at dksX4_eventAt_1 2 rfl rfl)
theorem dX4_eventAt_27 : decode cX4_eventAt 27 = .ok (.if_icmp .lt 6, 3) := dk_161 0 6 (dk_at dksX4_eventAt_1 3 rfl rfl)
theorem dX4_eventAt_30 : decode cX4_eventAt 30 = .ok (.ldc 136, 2) := dk_18 136 (dk_at dksX4_eventAt_1 6 rfl rfl)
theorem dX4_eventAt_32 : decode cX4_eventAt 32 = .ok (.ireturn, 1) := dk_172 (dk_at dksX4_eventAt_1 8 rfl rfl)
theorem dX4_eventAt_33 : decode cX4_eventAt 33 = .ok (.aload_n 0, 1) := dk_42 (dk_at dksX4_eventAt_1 9 rfl rfl)
theorem dX4_eventAt_34 : decode cX4_eventAt 34 = .ok (.getfield 7, 3) := dk_180 0 7 (dk_at dksX4_eventAt_1 10 rfl rfl)
theorem dX4_eventAt_37 : decode cX4_eventAt 37 = .ok (.sipush 134, 3) := dk_17 0 134 (dk_at dksX4_eventAt_1 13 rfl rfl)
theorem dX4_eventAt_40 : decode cX4_eventAt 40 = .ok (.iconst 3, 1) := dk_6 (dk_at dksX4_eventAt_1 16 rfl rfl)
theorem dX4_eventAt_41 : decode cX4_eventAt 41 = .ok (.iload_n 1, 1) := dk_27 (dk_at dksX4_eventAt_1 17 rfl rfl)
theorem dX4_eventAt_42 : decode cX4_eventAt 42 = .ok (.imul, 1) := dk_104 (dk_at dksX4_eventAt_1 18 rfl rfl)
theorem dX4_eventAt_43 : decode cX4_eventAt 43 = .ok (.iadd, 1) := dk_96 (dk_at dksX4_eventAt_1 19 rfl rfl)
theorem dX4_eventAt_44 : decode cX4_eventAt 44 = .ok (.iload_n 2, 1) := dk_28 (dk_at dksX4_eventAt_1 20 rfl rfl)
theorem dX4_eventAt_45 : decode cX4_eventAt 45 = .ok (.iadd, 1) := dk_96 (dk_at dksX4_eventAt_1 21 rfl rfl)
theorem dX4_eventAt_46 : decode cX4_eventAt 46 = .ok (.iaload, 1) := dk_46 (dk_at dksX4_eventAt_1 22 rfl rfl)
theorem dX4_eventAt_47 : decode cX4_eventAt 47 = .ok (.istore_n 3, 1) := dk_62 (dk_at dksX4_eventAt_1 23 rfl rfl)
theorem dX4_eventAt_48 : decode cX4_eventAt 48 = .ok (.iload_n 2, 1) := dk_28 (dk_at dksX4_eventAt_2 0 rfl rfl)
theorem dX4_eventAt_49 : decode cX4_eventAt 49 = .ok (.iconst 2, 1) := dk_5 (dk_at dksX4_eventAt_2 1 rfl rfl)
theorem dX4_eventAt_50 : decode cX4_eventAt 50 = .ok (.if_icmp .ne 13, 3) := dk_160 0 13 (dk_at dksX4_eventAt_2 2 rfl rfl)
theorem dX4_eventAt_53 : decode cX4_eventAt 53 = .ok (.iload_n 3, 1) := dk_29 (dk_at dksX4_eventAt_2 5 rfl rfl)
theorem dX4_eventAt_54 : decode cX4_eventAt 54 = .ok (.iconst (-1), 1) := dk_2 (dk_at dksX4_eventAt_2 6 rfl rfl)
theorem dX4_eventAt_55 : decode cX4_eventAt 55 = .ok (.if_icmp .ne 8, 3) := dk_160 0 8 (dk_at dksX4_eventAt_2 7 rfl rfl)
theorem dX4_eventAt_58 : decode cX4_eventAt 58 = .ok (.ldc 136, 2) := dk_18 136 (dk_at dksX4_eventAt_2 10 rfl rfl)
theorem dX4_eventAt_60 : decode cX4_eventAt 60 = .ok (.goto 4, 3) := dk_167 0 4 (dk_at dksX4_eventAt_2 12 rfl rfl)
theorem dX4_eventAt_63 : decode cX4_eventAt 63 = .ok (.iload_n 3, 1) := dk_29 (dk_at dksX4_eventAt_2 15 rfl rfl)
theorem dX4_eventAt_64 : decode cX4_eventAt 64 = .ok (.ireturn, 1) := dk_172 (dk_at dksX4_eventAt_2 16 rfl rfl)
abbrev cX4_count : ByteArray := prog_20_method_71_code
def yX4_count : MethodName := ⟨RX4, "count", "(I)I"⟩
def dkwX4_count_5 : List UInt8 := [100, 182, 0, 66, 167, 0, 5, 18, 62, 172]
abbrev dktX4_count_5 : List UInt8 := dkwX4_count_5 ++ []
def dkwX4_count_4 : List UInt8 := [172, 42, 180, 0, 234, 172, 27, 133, 20, 0, 237, 20, 0, 239, 184, 0, 30, 153, 0, 14, 42, 27, 16, 20]
abbrev dktX4_count_4 : List UInt8 := dkwX4_count_4 ++ dktX4_count_5
def dkwX4_count_3 : List UInt8 := [16, 18, 27, 96, 8, 100, 46, 172, 42, 180, 0, 7, 3, 46, 172, 42, 182, 0, 156, 172, 42, 180, 0, 54]
abbrev dktX4_count_3 : List UInt8 := dkwX4_count_3 ++ dktX4_count_4
def dkwX4_count_2 : List UInt8 := [42, 180, 0, 7, 16, 14, 27, 96, 46, 172, 42, 182, 0, 143, 172, 42, 182, 0, 231, 172, 42, 180, 0, 7]
abbrev dktX4_count_2 : List UInt8 := dkwX4_count_2 ++ dktX4_count_3
def dkwX4_count_1 : List UInt8 := [170, 0, 0, 0, 0, 0, 113, 0, 0, 0, 0, 0, 0, 0, 10, 0, 0, 0, 59, 0, 0, 0, 59, 0, 0, 0, 59, 0, 0, 0, 69, 0, 0, 0, 74, 0, 0, 0, 79, 0, 0, 0, 79, 0, 0, 0, 91, 0, 0, 0, 98, 0, 0, 0, 103, 0, 0, 0, 108]
abbrev dktX4_count_1 : List UInt8 := dkwX4_count_1 ++ dktX4_count_2
def dkwX4_count_0 : List UInt8 := [27]
abbrev dktX4_count_0 : List UInt8 := dkwX4_count_0 ++ dktX4_count_1
theorem dksX4_count_0 : cX4_count.data.toList.drop 0 = dktX4_count_0 := by decide +kernel
theorem dksX4_count_1 : cX4_count.data.toList.drop 1 = dktX4_count_1 := dk_seg dksX4_count_0 1 rfl rfl
theorem dksX4_count_2 : cX4_count.data.toList.drop 60 = dktX4_count_2 := dk_seg dksX4_count_1 59 rfl rfl
theorem dksX4_count_3 : cX4_count.data.toList.drop 84 = dktX4_count_3 := dk_seg dksX4_count_2 24 rfl rfl
theorem dksX4_count_4 : cX4_count.data.toList.drop 108 = dktX4_count_4 := dk_seg dksX4_count_3 24 rfl rfl
theorem dksX4_count_5 : cX4_count.data.toList.drop 132 = dktX4_count_5 := dk_seg dksX4_count_4 24 rfl rfl
theorem dX4_count_0 : decode cX4_count 0 = .ok (.iload_n 1, 1) := dk_27 (dk_at dksX4_count_0 0 rfl rfl)
theorem dX4_count_1 : decode cX4_count 1 = .ok (.tableswitch 113 0 10 #[59, 59, 59, 69, 74, 79, 79, 91, 98, 103, 108], 59) := by decide +kernel
theorem dX4_count_60 : decode cX4_count 60 = .ok (.aload_n 0, 1) := dk_42 (dk_at dksX4_count_2 0 rfl rfl)
theorem dX4_count_61 : decode cX4_count 61 = .ok (.getfield 7, 3) := dk_180 0 7 (dk_at dksX4_count_2 1 rfl rfl)
theorem dX4_count_64 : decode cX4_count 64 = .ok (.bipush 14, 2) := dk_16 14 (dk_at dksX4_count_2 4 rfl rfl)
theorem dX4_count_66 : decode cX4_count 66 = .ok (.iload_n 1, 1) := dk_27 (dk_at dksX4_count_2 6 rfl rfl)
theorem dX4_count_67 : decode cX4_count 67 = .ok (.iadd, 1) := dk_96 (dk_at dksX4_count_2 7 rfl rfl)
theorem dX4_count_68 : decode cX4_count 68 = .ok (.iaload, 1) := dk_46 (dk_at dksX4_count_2 8 rfl rfl)
theorem dX4_count_69 : decode cX4_count 69 = .ok (.ireturn, 1) := dk_172 (dk_at dksX4_count_2 9 rfl rfl)
theorem dX4_count_70 : decode cX4_count 70 = .ok (.aload_n 0, 1) := dk_42 (dk_at dksX4_count_2 10 rfl rfl)
theorem dX4_count_71 : decode cX4_count 71 = .ok (.invokevirtual 143, 3) := dk_182 0 143 (dk_at dksX4_count_2 11 rfl rfl)
theorem dX4_count_74 : decode cX4_count 74 = .ok (.ireturn, 1) := dk_172 (dk_at dksX4_count_2 14 rfl rfl)
theorem dX4_count_75 : decode cX4_count 75 = .ok (.aload_n 0, 1) := dk_42 (dk_at dksX4_count_2 15 rfl rfl)
theorem dX4_count_76 : decode cX4_count 76 = .ok (.invokevirtual 231, 3) := dk_182 0 231 (dk_at dksX4_count_2 16 rfl rfl)
theorem dX4_count_79 : decode cX4_count 79 = .ok (.ireturn, 1) := dk_172 (dk_at dksX4_count_2 19 rfl rfl)
theorem dX4_count_80 : decode cX4_count 80 = .ok (.aload_n 0, 1) := dk_42 (dk_at dksX4_count_2 20 rfl rfl)
theorem dX4_count_81 : decode cX4_count 81 = .ok (.getfield 7, 3) := dk_180 0 7 (dk_at dksX4_count_2 21 rfl rfl)
theorem dX4_count_84 : decode cX4_count 84 = .ok (.bipush 18, 2) := dk_16 18 (dk_at dksX4_count_3 0 rfl rfl)
theorem dX4_count_86 : decode cX4_count 86 = .ok (.iload_n 1, 1) := dk_27 (dk_at dksX4_count_3 2 rfl rfl)
theorem dX4_count_87 : decode cX4_count 87 = .ok (.iadd, 1) := dk_96 (dk_at dksX4_count_3 3 rfl rfl)
theorem dX4_count_88 : decode cX4_count 88 = .ok (.iconst 5, 1) := dk_8 (dk_at dksX4_count_3 4 rfl rfl)
theorem dX4_count_89 : decode cX4_count 89 = .ok (.isub, 1) := dk_100 (dk_at dksX4_count_3 5 rfl rfl)
theorem dX4_count_90 : decode cX4_count 90 = .ok (.iaload, 1) := dk_46 (dk_at dksX4_count_3 6 rfl rfl)
theorem dX4_count_91 : decode cX4_count 91 = .ok (.ireturn, 1) := dk_172 (dk_at dksX4_count_3 7 rfl rfl)
theorem dX4_count_92 : decode cX4_count 92 = .ok (.aload_n 0, 1) := dk_42 (dk_at dksX4_count_3 8 rfl rfl)
theorem dX4_count_93 : decode cX4_count 93 = .ok (.getfield 7, 3) := dk_180 0 7 (dk_at dksX4_count_3 9 rfl rfl)
theorem dX4_count_96 : decode cX4_count 96 = .ok (.iconst 0, 1) := dk_3 (dk_at dksX4_count_3 12 rfl rfl)
theorem dX4_count_97 : decode cX4_count 97 = .ok (.iaload, 1) := dk_46 (dk_at dksX4_count_3 13 rfl rfl)
theorem dX4_count_98 : decode cX4_count 98 = .ok (.ireturn, 1) := dk_172 (dk_at dksX4_count_3 14 rfl rfl)
theorem dX4_count_99 : decode cX4_count 99 = .ok (.aload_n 0, 1) := dk_42 (dk_at dksX4_count_3 15 rfl rfl)
theorem dX4_count_100 : decode cX4_count 100 = .ok (.invokevirtual 156, 3) := dk_182 0 156 (dk_at dksX4_count_3 16 rfl rfl)
theorem dX4_count_103 : decode cX4_count 103 = .ok (.ireturn, 1) := dk_172 (dk_at dksX4_count_3 19 rfl rfl)
theorem dX4_count_104 : decode cX4_count 104 = .ok (.aload_n 0, 1) := dk_42 (dk_at dksX4_count_3 20 rfl rfl)
theorem dX4_count_105 : decode cX4_count 105 = .ok (.getfield 54, 3) := dk_180 0 54 (dk_at dksX4_count_3 21 rfl rfl)
theorem dX4_count_108 : decode cX4_count 108 = .ok (.ireturn, 1) := dk_172 (dk_at dksX4_count_4 0 rfl rfl)
theorem dX4_count_109 : decode cX4_count 109 = .ok (.aload_n 0, 1) := dk_42 (dk_at dksX4_count_4 1 rfl rfl)
theorem dX4_count_110 : decode cX4_count 110 = .ok (.getfield 234, 3) := dk_180 0 234 (dk_at dksX4_count_4 2 rfl rfl)
theorem dX4_count_113 : decode cX4_count 113 = .ok (.ireturn, 1) := dk_172 (dk_at dksX4_count_4 5 rfl rfl)
theorem dX4_count_114 : decode cX4_count 114 = .ok (.iload_n 1, 1) := dk_27 (dk_at dksX4_count_4 6 rfl rfl)
theorem dX4_count_115 : decode cX4_count 115 = .ok (.i2l, 1) := dk_133 (dk_at dksX4_count_4 7 rfl rfl)
theorem dX4_count_116 : decode cX4_count 116 = .ok (.ldc2_w 237, 3) := dk_20 0 237 (dk_at dksX4_count_4 8 rfl rfl)
theorem dX4_count_119 : decode cX4_count 119 = .ok (.ldc2_w 239, 3) := dk_20 0 239 (dk_at dksX4_count_4 11 rfl rfl)
theorem dX4_count_122 : decode cX4_count 122 = .ok (.invokestatic 30, 3) := dk_184 0 30 (dk_at dksX4_count_4 14 rfl rfl)
theorem dX4_count_125 : decode cX4_count 125 = .ok (.ifCond .eq 14, 3) := dk_153 0 14 (dk_at dksX4_count_4 17 rfl rfl)
theorem dX4_count_128 : decode cX4_count 128 = .ok (.aload_n 0, 1) := dk_42 (dk_at dksX4_count_4 20 rfl rfl)
theorem dX4_count_129 : decode cX4_count 129 = .ok (.iload_n 1, 1) := dk_27 (dk_at dksX4_count_4 21 rfl rfl)
theorem dX4_count_130 : decode cX4_count 130 = .ok (.bipush 20, 2) := dk_16 20 (dk_at dksX4_count_4 22 rfl rfl)
theorem dX4_count_132 : decode cX4_count 132 = .ok (.isub, 1) := dk_100 (dk_at dksX4_count_5 0 rfl rfl)
theorem dX4_count_133 : decode cX4_count 133 = .ok (.invokevirtual 66, 3) := dk_182 0 66 (dk_at dksX4_count_5 1 rfl rfl)
theorem dX4_count_136 : decode cX4_count 136 = .ok (.goto 5, 3) := dk_167 0 5 (dk_at dksX4_count_5 4 rfl rfl)
theorem dX4_count_139 : decode cX4_count 139 = .ok (.ldc 62, 2) := dk_18 62 (dk_at dksX4_count_5 7 rfl rfl)
theorem dX4_count_141 : decode cX4_count 141 = .ok (.ireturn, 1) := dk_172 (dk_at dksX4_count_5 9 rfl rfl)
abbrev cX4_readyPumps : ByteArray := prog_20_method_70_code
def yX4_readyPumps : MethodName := ⟨RX4, "readyPumps", "()I"⟩
def dkwX4_readyPumps_1 : List UInt8 := [4, 167, 0, 4, 3, 96, 60, 132, 2, 1, 167, 255, 226, 27, 172]
abbrev dktX4_readyPumps_1 : List UInt8 := dkwX4_readyPumps_1 ++ []
def dkwX4_readyPumps_0 : List UInt8 := [3, 60, 3, 61, 28, 42, 180, 0, 7, 16, 14, 46, 162, 0, 25, 27, 42, 28, 182, 0, 96, 153, 0, 7]
abbrev dktX4_readyPumps_0 : List UInt8 := dkwX4_readyPumps_0 ++ dktX4_readyPumps_1
theorem dksX4_readyPumps_0 : cX4_readyPumps.data.toList.drop 0 = dktX4_readyPumps_0 := by decide +kernel
theorem dksX4_readyPumps_1 : cX4_readyPumps.data.toList.drop 24 = dktX4_readyPumps_1 := dk_seg dksX4_readyPumps_0 24 rfl rfl
theorem dX4_readyPumps_0 : decode cX4_readyPumps 0 = .ok (.iconst 0, 1) := dk_3 (dk_at dksX4_readyPumps_0 0 rfl rfl)
theorem dX4_readyPumps_1 : decode cX4_readyPumps 1 = .ok (.istore_n 1, 1) := dk_60 (dk_at dksX4_readyPumps_0 1 rfl rfl)
theorem dX4_readyPumps_2 : decode cX4_readyPumps 2 = .ok (.iconst 0, 1) := dk_3 (dk_at dksX4_readyPumps_0 2 rfl rfl)
theorem dX4_readyPumps_3 : decode cX4_readyPumps 3 = .ok (.istore_n 2, 1) := dk_61 (dk_at dksX4_readyPumps_0 3 rfl rfl)
theorem dX4_readyPumps_4 : decode cX4_readyPumps 4 = .ok (.iload_n 2, 1) := dk_28 (dk_at dksX4_readyPumps_0 4 rfl rfl)
theorem dX4_readyPumps_5 : decode cX4_readyPumps 5 = .ok (.aload_n 0, 1) := dk_42 (dk_at dksX4_readyPumps_0 5 rfl rfl)
theorem dX4_readyPumps_6 : decode cX4_readyPumps 6 = .ok (.getfield 7, 3) := dk_180 0 7 (dk_at dksX4_readyPumps_0 6 rfl rfl)
theorem dX4_readyPumps_9 : decode cX4_readyPumps 9 = .ok (.bipush 14, 2) := dk_16 14 (dk_at dksX4_readyPumps_0 9 rfl rfl)
theorem dX4_readyPumps_11 : decode cX4_readyPumps 11 = .ok (.iaload, 1) := dk_46 (dk_at dksX4_readyPumps_0 11 rfl rfl)
theorem dX4_readyPumps_12 : decode cX4_readyPumps 12 = .ok (.if_icmp .ge 25, 3) := dk_162 0 25 (dk_at dksX4_readyPumps_0 12 rfl rfl)
theorem dX4_readyPumps_15 : decode cX4_readyPumps 15 = .ok (.iload_n 1, 1) := dk_27 (dk_at dksX4_readyPumps_0 15 rfl rfl)
theorem dX4_readyPumps_16 : decode cX4_readyPumps 16 = .ok (.aload_n 0, 1) := dk_42 (dk_at dksX4_readyPumps_0 16 rfl rfl)
theorem dX4_readyPumps_17 : decode cX4_readyPumps 17 = .ok (.iload_n 2, 1) := dk_28 (dk_at dksX4_readyPumps_0 17 rfl rfl)
theorem dX4_readyPumps_18 : decode cX4_readyPumps 18 = .ok (.invokevirtual 96, 3) := dk_182 0 96 (dk_at dksX4_readyPumps_0 18 rfl rfl)
theorem dX4_readyPumps_21 : decode cX4_readyPumps 21 = .ok (.ifCond .eq 7, 3) := dk_153 0 7 (dk_at dksX4_readyPumps_0 21 rfl rfl)
theorem dX4_readyPumps_24 : decode cX4_readyPumps 24 = .ok (.iconst 1, 1) := dk_4 (dk_at dksX4_readyPumps_1 0 rfl rfl)
theorem dX4_readyPumps_25 : decode cX4_readyPumps 25 = .ok (.goto 4, 3) := dk_167 0 4 (dk_at dksX4_readyPumps_1 1 rfl rfl)
theorem dX4_readyPumps_28 : decode cX4_readyPumps 28 = .ok (.iconst 0, 1) := dk_3 (dk_at dksX4_readyPumps_1 4 rfl rfl)
theorem dX4_readyPumps_29 : decode cX4_readyPumps 29 = .ok (.iadd, 1) := dk_96 (dk_at dksX4_readyPumps_1 5 rfl rfl)
theorem dX4_readyPumps_30 : decode cX4_readyPumps 30 = .ok (.istore_n 1, 1) := dk_60 (dk_at dksX4_readyPumps_1 6 rfl rfl)
theorem dX4_readyPumps_31 : decode cX4_readyPumps 31 = .ok (.iinc 2 1, 3) := dk_132 2 1 (dk_at dksX4_readyPumps_1 7 rfl rfl)
theorem dX4_readyPumps_34 : decode cX4_readyPumps 34 = .ok (.goto (-30), 3) := dk_167 255 226 (dk_at dksX4_readyPumps_1 10 rfl rfl)
theorem dX4_readyPumps_37 : decode cX4_readyPumps 37 = .ok (.iload_n 1, 1) := dk_27 (dk_at dksX4_readyPumps_1 13 rfl rfl)
theorem dX4_readyPumps_38 : decode cX4_readyPumps 38 = .ok (.ireturn, 1) := dk_172 (dk_at dksX4_readyPumps_1 14 rfl rfl)
abbrev cX4_undo : ByteArray := prog_20_method_72_code
def yX4_undo : MethodName := ⟨RX4, "undo", "()I"⟩
def dkwX4_undo_2 : List UInt8 := [96, 46, 79, 132, 1, 1, 167, 255, 225, 42, 180, 0, 54, 172]
abbrev dktX4_undo_2 : List UInt8 := dkwX4_undo_2 ++ []
def dkwX4_undo_1 : List UInt8 := [17, 0, 170, 162, 0, 30, 42, 180, 0, 7, 27, 42, 180, 0, 13, 17, 0, 170, 42, 180, 0, 54, 104, 27]
abbrev dktX4_undo_1 : List UInt8 := dkwX4_undo_1 ++ dktX4_undo_2
def dkwX4_undo_0 : List UInt8 := [42, 180, 0, 54, 154, 0, 6, 18, 123, 172, 42, 89, 180, 0, 54, 4, 100, 181, 0, 54, 3, 60, 27]
abbrev dktX4_undo_0 : List UInt8 := dkwX4_undo_0 ++ dktX4_undo_1
theorem dksX4_undo_0 : cX4_undo.data.toList.drop 0 = dktX4_undo_0 := by decide +kernel
theorem dksX4_undo_1 : cX4_undo.data.toList.drop 23 = dktX4_undo_1 := dk_seg dksX4_undo_0 23 rfl rfl
theorem dksX4_undo_2 : cX4_undo.data.toList.drop 47 = dktX4_undo_2 := dk_seg dksX4_undo_1 24 rfl rfl
theorem dX4_undo_0 : decode cX4_undo 0 = .ok (.aload_n 0, 1) := dk_42 (dk_at dksX4_undo_0 0 rfl rfl)
theorem dX4_undo_1 : decode cX4_undo 1 = .ok (.getfield 54, 3) := dk_180 0 54 (dk_at dksX4_undo_0 1 rfl rfl)
theorem dX4_undo_4 : decode cX4_undo 4 = .ok (.ifCond .ne 6, 3) := dk_154 0 6 (dk_at dksX4_undo_0 4 rfl rfl)
theorem dX4_undo_7 : decode cX4_undo 7 = .ok (.ldc 123, 2) := dk_18 123 (dk_at dksX4_undo_0 7 rfl rfl)
theorem dX4_undo_9 : decode cX4_undo 9 = .ok (.ireturn, 1) := dk_172 (dk_at dksX4_undo_0 9 rfl rfl)
theorem dX4_undo_10 : decode cX4_undo 10 = .ok (.aload_n 0, 1) := dk_42 (dk_at dksX4_undo_0 10 rfl rfl)
theorem dX4_undo_11 : decode cX4_undo 11 = .ok (.dup, 1) := dk_89 (dk_at dksX4_undo_0 11 rfl rfl)
theorem dX4_undo_12 : decode cX4_undo 12 = .ok (.getfield 54, 3) := dk_180 0 54 (dk_at dksX4_undo_0 12 rfl rfl)
theorem dX4_undo_15 : decode cX4_undo 15 = .ok (.iconst 1, 1) := dk_4 (dk_at dksX4_undo_0 15 rfl rfl)
theorem dX4_undo_16 : decode cX4_undo 16 = .ok (.isub, 1) := dk_100 (dk_at dksX4_undo_0 16 rfl rfl)
theorem dX4_undo_17 : decode cX4_undo 17 = .ok (.putfield 54, 3) := dk_181 0 54 (dk_at dksX4_undo_0 17 rfl rfl)
theorem dX4_undo_20 : decode cX4_undo 20 = .ok (.iconst 0, 1) := dk_3 (dk_at dksX4_undo_0 20 rfl rfl)
theorem dX4_undo_21 : decode cX4_undo 21 = .ok (.istore_n 1, 1) := dk_60 (dk_at dksX4_undo_0 21 rfl rfl)
theorem dX4_undo_22 : decode cX4_undo 22 = .ok (.iload_n 1, 1) := dk_27 (dk_at dksX4_undo_0 22 rfl rfl)
theorem dX4_undo_23 : decode cX4_undo 23 = .ok (.sipush 170, 3) := dk_17 0 170 (dk_at dksX4_undo_1 0 rfl rfl)
theorem dX4_undo_26 : decode cX4_undo 26 = .ok (.if_icmp .ge 30, 3) := dk_162 0 30 (dk_at dksX4_undo_1 3 rfl rfl)
theorem dX4_undo_29 : decode cX4_undo 29 = .ok (.aload_n 0, 1) := dk_42 (dk_at dksX4_undo_1 6 rfl rfl)
theorem dX4_undo_30 : decode cX4_undo 30 = .ok (.getfield 7, 3) := dk_180 0 7 (dk_at dksX4_undo_1 7 rfl rfl)
theorem dX4_undo_33 : decode cX4_undo 33 = .ok (.iload_n 1, 1) := dk_27 (dk_at dksX4_undo_1 10 rfl rfl)
theorem dX4_undo_34 : decode cX4_undo 34 = .ok (.aload_n 0, 1) := dk_42 (dk_at dksX4_undo_1 11 rfl rfl)
theorem dX4_undo_35 : decode cX4_undo 35 = .ok (.getfield 13, 3) := dk_180 0 13 (dk_at dksX4_undo_1 12 rfl rfl)
theorem dX4_undo_38 : decode cX4_undo 38 = .ok (.sipush 170, 3) := dk_17 0 170 (dk_at dksX4_undo_1 15 rfl rfl)
theorem dX4_undo_41 : decode cX4_undo 41 = .ok (.aload_n 0, 1) := dk_42 (dk_at dksX4_undo_1 18 rfl rfl)
theorem dX4_undo_42 : decode cX4_undo 42 = .ok (.getfield 54, 3) := dk_180 0 54 (dk_at dksX4_undo_1 19 rfl rfl)
theorem dX4_undo_45 : decode cX4_undo 45 = .ok (.imul, 1) := dk_104 (dk_at dksX4_undo_1 22 rfl rfl)
theorem dX4_undo_46 : decode cX4_undo 46 = .ok (.iload_n 1, 1) := dk_27 (dk_at dksX4_undo_1 23 rfl rfl)
theorem dX4_undo_47 : decode cX4_undo 47 = .ok (.iadd, 1) := dk_96 (dk_at dksX4_undo_2 0 rfl rfl)
theorem dX4_undo_48 : decode cX4_undo 48 = .ok (.iaload, 1) := dk_46 (dk_at dksX4_undo_2 1 rfl rfl)
theorem dX4_undo_49 : decode cX4_undo 49 = .ok (.iastore, 1) := dk_79 (dk_at dksX4_undo_2 2 rfl rfl)
theorem dX4_undo_50 : decode cX4_undo 50 = .ok (.iinc 1 1, 3) := dk_132 1 1 (dk_at dksX4_undo_2 3 rfl rfl)
theorem dX4_undo_53 : decode cX4_undo 53 = .ok (.goto (-31), 3) := dk_167 255 225 (dk_at dksX4_undo_2 6 rfl rfl)
theorem dX4_undo_56 : decode cX4_undo 56 = .ok (.aload_n 0, 1) := dk_42 (dk_at dksX4_undo_2 9 rfl rfl)
theorem dX4_undo_57 : decode cX4_undo 57 = .ok (.getfield 54, 3) := dk_180 0 54 (dk_at dksX4_undo_2 10 rfl rfl)
theorem dX4_undo_60 : decode cX4_undo 60 = .ok (.ireturn, 1) := dk_172 (dk_at dksX4_undo_2 13 rfl rfl)
abbrev cX4_type : ByteArray := prog_20_method_73_code
def yX4_type : MethodName := ⟨RX4, "type", "(I)I"⟩
def dkwX4_type_2 : List UInt8 := [181, 0, 234, 42, 180, 0, 234, 172]
abbrev dktX4_type_2 : List UInt8 := dkwX4_type_2 ++ []
def dkwX4_type_1 : List UInt8 := [160, 0, 6, 18, 73, 172, 42, 180, 0, 19, 42, 180, 0, 234, 27, 79, 42, 89, 180, 0, 234, 4, 96]
abbrev dktX4_type_1 : List UInt8 := dkwX4_type_1 ++ dktX4_type_2
def dkwX4_type_0 : List UInt8 := [27, 133, 20, 0, 241, 20, 0, 243, 184, 0, 30, 154, 0, 6, 18, 62, 172, 42, 180, 0, 234, 16, 60]
abbrev dktX4_type_0 : List UInt8 := dkwX4_type_0 ++ dktX4_type_1
theorem dksX4_type_0 : cX4_type.data.toList.drop 0 = dktX4_type_0 := by decide +kernel
theorem dksX4_type_1 : cX4_type.data.toList.drop 23 = dktX4_type_1 := dk_seg dksX4_type_0 23 rfl rfl
theorem dksX4_type_2 : cX4_type.data.toList.drop 46 = dktX4_type_2 := dk_seg dksX4_type_1 23 rfl rfl
theorem dX4_type_0 : decode cX4_type 0 = .ok (.iload_n 1, 1) := dk_27 (dk_at dksX4_type_0 0 rfl rfl)
theorem dX4_type_1 : decode cX4_type 1 = .ok (.i2l, 1) := dk_133 (dk_at dksX4_type_0 1 rfl rfl)
theorem dX4_type_2 : decode cX4_type 2 = .ok (.ldc2_w 241, 3) := dk_20 0 241 (dk_at dksX4_type_0 2 rfl rfl)
theorem dX4_type_5 : decode cX4_type 5 = .ok (.ldc2_w 243, 3) := dk_20 0 243 (dk_at dksX4_type_0 5 rfl rfl)
theorem dX4_type_8 : decode cX4_type 8 = .ok (.invokestatic 30, 3) := dk_184 0 30 (dk_at dksX4_type_0 8 rfl rfl)
theorem dX4_type_11 : decode cX4_type 11 = .ok (.ifCond .ne 6, 3) := dk_154 0 6 (dk_at dksX4_type_0 11 rfl rfl)
theorem dX4_type_14 : decode cX4_type 14 = .ok (.ldc 62, 2) := dk_18 62 (dk_at dksX4_type_0 14 rfl rfl)
theorem dX4_type_16 : decode cX4_type 16 = .ok (.ireturn, 1) := dk_172 (dk_at dksX4_type_0 16 rfl rfl)
theorem dX4_type_17 : decode cX4_type 17 = .ok (.aload_n 0, 1) := dk_42 (dk_at dksX4_type_0 17 rfl rfl)
theorem dX4_type_18 : decode cX4_type 18 = .ok (.getfield 234, 3) := dk_180 0 234 (dk_at dksX4_type_0 18 rfl rfl)
theorem dX4_type_21 : decode cX4_type 21 = .ok (.bipush 60, 2) := dk_16 60 (dk_at dksX4_type_0 21 rfl rfl)
theorem dX4_type_23 : decode cX4_type 23 = .ok (.if_icmp .ne 6, 3) := dk_160 0 6 (dk_at dksX4_type_1 0 rfl rfl)
theorem dX4_type_26 : decode cX4_type 26 = .ok (.ldc 73, 2) := dk_18 73 (dk_at dksX4_type_1 3 rfl rfl)
theorem dX4_type_28 : decode cX4_type 28 = .ok (.ireturn, 1) := dk_172 (dk_at dksX4_type_1 5 rfl rfl)
theorem dX4_type_29 : decode cX4_type 29 = .ok (.aload_n 0, 1) := dk_42 (dk_at dksX4_type_1 6 rfl rfl)
theorem dX4_type_30 : decode cX4_type 30 = .ok (.getfield 19, 3) := dk_180 0 19 (dk_at dksX4_type_1 7 rfl rfl)
theorem dX4_type_33 : decode cX4_type 33 = .ok (.aload_n 0, 1) := dk_42 (dk_at dksX4_type_1 10 rfl rfl)
theorem dX4_type_34 : decode cX4_type 34 = .ok (.getfield 234, 3) := dk_180 0 234 (dk_at dksX4_type_1 11 rfl rfl)
theorem dX4_type_37 : decode cX4_type 37 = .ok (.iload_n 1, 1) := dk_27 (dk_at dksX4_type_1 14 rfl rfl)
theorem dX4_type_38 : decode cX4_type 38 = .ok (.iastore, 1) := dk_79 (dk_at dksX4_type_1 15 rfl rfl)
theorem dX4_type_39 : decode cX4_type 39 = .ok (.aload_n 0, 1) := dk_42 (dk_at dksX4_type_1 16 rfl rfl)
theorem dX4_type_40 : decode cX4_type 40 = .ok (.dup, 1) := dk_89 (dk_at dksX4_type_1 17 rfl rfl)
theorem dX4_type_41 : decode cX4_type 41 = .ok (.getfield 234, 3) := dk_180 0 234 (dk_at dksX4_type_1 18 rfl rfl)
theorem dX4_type_44 : decode cX4_type 44 = .ok (.iconst 1, 1) := dk_4 (dk_at dksX4_type_1 21 rfl rfl)
theorem dX4_type_45 : decode cX4_type 45 = .ok (.iadd, 1) := dk_96 (dk_at dksX4_type_1 22 rfl rfl)
theorem dX4_type_46 : decode cX4_type 46 = .ok (.putfield 234, 3) := dk_181 0 234 (dk_at dksX4_type_2 0 rfl rfl)
theorem dX4_type_49 : decode cX4_type 49 = .ok (.aload_n 0, 1) := dk_42 (dk_at dksX4_type_2 3 rfl rfl)
theorem dX4_type_50 : decode cX4_type 50 = .ok (.getfield 234, 3) := dk_180 0 234 (dk_at dksX4_type_2 4 rfl rfl)
theorem dX4_type_53 : decode cX4_type 53 = .ok (.ireturn, 1) := dk_172 (dk_at dksX4_type_2 7 rfl rfl)
abbrev cX4_clearText : ByteArray := prog_20_method_74_code
def yX4_clearText : MethodName := ⟨RX4, "clearText", "()I"⟩
def dkwX4_clearText_0 : List UInt8 := [42, 180, 0, 234, 60, 42, 3, 181, 0, 234, 27, 172]
abbrev dktX4_clearText_0 : List UInt8 := dkwX4_clearText_0 ++ []
theorem dksX4_clearText_0 : cX4_clearText.data.toList.drop 0 = dktX4_clearText_0 := by decide +kernel
theorem dX4_clearText_0 : decode cX4_clearText 0 = .ok (.aload_n 0, 1) := dk_42 (dk_at dksX4_clearText_0 0 rfl rfl)
theorem dX4_clearText_1 : decode cX4_clearText 1 = .ok (.getfield 234, 3) := dk_180 0 234 (dk_at dksX4_clearText_0 1 rfl rfl)
theorem dX4_clearText_4 : decode cX4_clearText 4 = .ok (.istore_n 1, 1) := dk_60 (dk_at dksX4_clearText_0 4 rfl rfl)
theorem dX4_clearText_5 : decode cX4_clearText 5 = .ok (.aload_n 0, 1) := dk_42 (dk_at dksX4_clearText_0 5 rfl rfl)
theorem dX4_clearText_6 : decode cX4_clearText 6 = .ok (.iconst 0, 1) := dk_3 (dk_at dksX4_clearText_0 6 rfl rfl)
theorem dX4_clearText_7 : decode cX4_clearText 7 = .ok (.putfield 234, 3) := dk_181 0 234 (dk_at dksX4_clearText_0 7 rfl rfl)
theorem dX4_clearText_10 : decode cX4_clearText 10 = .ok (.iload_n 1, 1) := dk_27 (dk_at dksX4_clearText_0 10 rfl rfl)
theorem dX4_clearText_11 : decode cX4_clearText 11 = .ok (.ireturn, 1) := dk_172 (dk_at dksX4_clearText_0 11 rfl rfl)
abbrev cX4_fault : ByteArray := prog_20_method_81_code
def yX4_fault : MethodName := ⟨RX4, "fault", "(I)I"⟩
def dkwX4_fault_1 : List UInt8 := [18, 136, 167, 0, 18, 27, 154, 0, 10, 42, 180, 1, 11, 167, 0, 7, 42, 180, 1, 5, 172]
abbrev dktX4_fault_1 : List UInt8 := dkwX4_fault_1 ++ []
def dkwX4_fault_0 : List UInt8 := [27, 133, 9, 10, 184, 0, 30, 154, 0, 6, 18, 62, 172, 42, 182, 1, 27, 42, 180, 1, 5, 154, 0, 8]
abbrev dktX4_fault_0 : List UInt8 := dkwX4_fault_0 ++ dktX4_fault_1
theorem dksX4_fault_0 : cX4_fault.data.toList.drop 0 = dktX4_fault_0 := by decide +kernel
theorem dksX4_fault_1 : cX4_fault.data.toList.drop 24 = dktX4_fault_1 := dk_seg dksX4_fault_0 24 rfl rfl
theorem dX4_fault_0 : decode cX4_fault 0 = .ok (.iload_n 1, 1) := dk_27 (dk_at dksX4_fault_0 0 rfl rfl)
theorem dX4_fault_1 : decode cX4_fault 1 = .ok (.i2l, 1) := dk_133 (dk_at dksX4_fault_0 1 rfl rfl)
theorem dX4_fault_2 : decode cX4_fault 2 = .ok (.lconst 0, 1) := dk_9 (dk_at dksX4_fault_0 2 rfl rfl)
theorem dX4_fault_3 : decode cX4_fault 3 = .ok (.lconst 1, 1) := dk_10 (dk_at dksX4_fault_0 3 rfl rfl)
theorem dX4_fault_4 : decode cX4_fault 4 = .ok (.invokestatic 30, 3) := dk_184 0 30 (dk_at dksX4_fault_0 4 rfl rfl)
theorem dX4_fault_7 : decode cX4_fault 7 = .ok (.ifCond .ne 6, 3) := dk_154 0 6 (dk_at dksX4_fault_0 7 rfl rfl)
theorem dX4_fault_10 : decode cX4_fault 10 = .ok (.ldc 62, 2) := dk_18 62 (dk_at dksX4_fault_0 10 rfl rfl)
theorem dX4_fault_12 : decode cX4_fault 12 = .ok (.ireturn, 1) := dk_172 (dk_at dksX4_fault_0 12 rfl rfl)
theorem dX4_fault_13 : decode cX4_fault 13 = .ok (.aload_n 0, 1) := dk_42 (dk_at dksX4_fault_0 13 rfl rfl)
theorem dX4_fault_14 : decode cX4_fault 14 = .ok (.invokevirtual 283, 3) := dk_182 1 27 (dk_at dksX4_fault_0 14 rfl rfl)
theorem dX4_fault_17 : decode cX4_fault 17 = .ok (.aload_n 0, 1) := dk_42 (dk_at dksX4_fault_0 17 rfl rfl)
theorem dX4_fault_18 : decode cX4_fault 18 = .ok (.getfield 261, 3) := dk_180 1 5 (dk_at dksX4_fault_0 18 rfl rfl)
theorem dX4_fault_21 : decode cX4_fault 21 = .ok (.ifCond .ne 8, 3) := dk_154 0 8 (dk_at dksX4_fault_0 21 rfl rfl)
theorem dX4_fault_24 : decode cX4_fault 24 = .ok (.ldc 136, 2) := dk_18 136 (dk_at dksX4_fault_1 0 rfl rfl)
theorem dX4_fault_26 : decode cX4_fault 26 = .ok (.goto 18, 3) := dk_167 0 18 (dk_at dksX4_fault_1 2 rfl rfl)
theorem dX4_fault_29 : decode cX4_fault 29 = .ok (.iload_n 1, 1) := dk_27 (dk_at dksX4_fault_1 5 rfl rfl)
theorem dX4_fault_30 : decode cX4_fault 30 = .ok (.ifCond .ne 10, 3) := dk_154 0 10 (dk_at dksX4_fault_1 6 rfl rfl)
theorem dX4_fault_33 : decode cX4_fault 33 = .ok (.aload_n 0, 1) := dk_42 (dk_at dksX4_fault_1 9 rfl rfl)
theorem dX4_fault_34 : decode cX4_fault 34 = .ok (.getfield 267, 3) := dk_180 1 11 (dk_at dksX4_fault_1 10 rfl rfl)
theorem dX4_fault_37 : decode cX4_fault 37 = .ok (.goto 7, 3) := dk_167 0 7 (dk_at dksX4_fault_1 13 rfl rfl)
theorem dX4_fault_40 : decode cX4_fault 40 = .ok (.aload_n 0, 1) := dk_42 (dk_at dksX4_fault_1 16 rfl rfl)
theorem dX4_fault_41 : decode cX4_fault 41 = .ok (.getfield 261, 3) := dk_180 1 5 (dk_at dksX4_fault_1 17 rfl rfl)
theorem dX4_fault_44 : decode cX4_fault 44 = .ok (.ireturn, 1) := dk_172 (dk_at dksX4_fault_1 20 rfl rfl)
abbrev cX4_tryOrders : ByteArray := prog_20_method_80_code
def yX4_tryOrders : MethodName := ⟨RX4, "tryOrders", "()V"⟩
def dkwX4_tryOrders_0 : List UInt8 := [42, 182, 0, 221, 42, 182, 1, 24, 42, 182, 0, 224, 177]
abbrev dktX4_tryOrders_0 : List UInt8 := dkwX4_tryOrders_0 ++ []
theorem dksX4_tryOrders_0 : cX4_tryOrders.data.toList.drop 0 = dktX4_tryOrders_0 := by decide +kernel
theorem dX4_tryOrders_0 : decode cX4_tryOrders 0 = .ok (.aload_n 0, 1) := dk_42 (dk_at dksX4_tryOrders_0 0 rfl rfl)
theorem dX4_tryOrders_1 : decode cX4_tryOrders 1 = .ok (.invokevirtual 221, 3) := dk_182 0 221 (dk_at dksX4_tryOrders_0 1 rfl rfl)
theorem dX4_tryOrders_4 : decode cX4_tryOrders 4 = .ok (.aload_n 0, 1) := dk_42 (dk_at dksX4_tryOrders_0 4 rfl rfl)
theorem dX4_tryOrders_5 : decode cX4_tryOrders 5 = .ok (.invokevirtual 280, 3) := dk_182 1 24 (dk_at dksX4_tryOrders_0 5 rfl rfl)
theorem dX4_tryOrders_8 : decode cX4_tryOrders 8 = .ok (.aload_n 0, 1) := dk_42 (dk_at dksX4_tryOrders_0 8 rfl rfl)
theorem dX4_tryOrders_9 : decode cX4_tryOrders 9 = .ok (.invokevirtual 224, 3) := dk_182 0 224 (dk_at dksX4_tryOrders_0 9 rfl rfl)
theorem dX4_tryOrders_12 : decode cX4_tryOrders 12 = .ok (.return_, 1) := dk_177 (dk_at dksX4_tryOrders_0 12 rfl rfl)
abbrev cX4_doOrders : ByteArray := prog_20_method_79_code
def yX4_doOrders : MethodName := ⟨RX4, "doOrders", "()V"⟩
def dkwX4_doOrders_3 : List UInt8 := [182, 1, 21, 42, 89, 180, 1, 8, 4, 96, 181, 1, 8, 167, 255, 190, 177]
abbrev dktX4_doOrders_3 : List UInt8 := dkwX4_doOrders_3 ++ []
def dkwX4_doOrders_2 : List UInt8 := [153, 0, 10, 42, 182, 1, 18, 167, 0, 4, 4, 181, 1, 5, 42, 180, 1, 5, 154, 255, 207, 42]
abbrev dktX4_doOrders_2 : List UInt8 := dkwX4_doOrders_2 ++ dktX4_doOrders_3
def dkwX4_doOrders_1 : List UInt8 := [162, 0, 61, 42, 180, 1, 5, 154, 0, 54, 42, 42, 180, 0, 245, 181, 1, 11, 42, 42, 182, 1, 14]
abbrev dktX4_doOrders_1 : List UInt8 := dkwX4_doOrders_1 ++ dktX4_doOrders_2
def dkwX4_doOrders_0 : List UInt8 := [42, 3, 181, 1, 5, 42, 3, 181, 1, 8, 42, 3, 181, 0, 245, 42, 180, 0, 245, 42, 180, 0, 234]
abbrev dktX4_doOrders_0 : List UInt8 := dkwX4_doOrders_0 ++ dktX4_doOrders_1
theorem dksX4_doOrders_0 : cX4_doOrders.data.toList.drop 0 = dktX4_doOrders_0 := by decide +kernel
theorem dksX4_doOrders_1 : cX4_doOrders.data.toList.drop 23 = dktX4_doOrders_1 := dk_seg dksX4_doOrders_0 23 rfl rfl
theorem dksX4_doOrders_2 : cX4_doOrders.data.toList.drop 46 = dktX4_doOrders_2 := dk_seg dksX4_doOrders_1 23 rfl rfl
theorem dksX4_doOrders_3 : cX4_doOrders.data.toList.drop 68 = dktX4_doOrders_3 := dk_seg dksX4_doOrders_2 22 rfl rfl
theorem dX4_doOrders_0 : decode cX4_doOrders 0 = .ok (.aload_n 0, 1) := dk_42 (dk_at dksX4_doOrders_0 0 rfl rfl)
theorem dX4_doOrders_1 : decode cX4_doOrders 1 = .ok (.iconst 0, 1) := dk_3 (dk_at dksX4_doOrders_0 1 rfl rfl)
theorem dX4_doOrders_2 : decode cX4_doOrders 2 = .ok (.putfield 261, 3) := dk_181 1 5 (dk_at dksX4_doOrders_0 2 rfl rfl)
theorem dX4_doOrders_5 : decode cX4_doOrders 5 = .ok (.aload_n 0, 1) := dk_42 (dk_at dksX4_doOrders_0 5 rfl rfl)
theorem dX4_doOrders_6 : decode cX4_doOrders 6 = .ok (.iconst 0, 1) := dk_3 (dk_at dksX4_doOrders_0 6 rfl rfl)
theorem dX4_doOrders_7 : decode cX4_doOrders 7 = .ok (.putfield 264, 3) := dk_181 1 8 (dk_at dksX4_doOrders_0 7 rfl rfl)
theorem dX4_doOrders_10 : decode cX4_doOrders 10 = .ok (.aload_n 0, 1) := dk_42 (dk_at dksX4_doOrders_0 10 rfl rfl)
theorem dX4_doOrders_11 : decode cX4_doOrders 11 = .ok (.iconst 0, 1) := dk_3 (dk_at dksX4_doOrders_0 11 rfl rfl)
theorem dX4_doOrders_12 : decode cX4_doOrders 12 = .ok (.putfield 245, 3) := dk_181 0 245 (dk_at dksX4_doOrders_0 12 rfl rfl)
theorem dX4_doOrders_15 : decode cX4_doOrders 15 = .ok (.aload_n 0, 1) := dk_42 (dk_at dksX4_doOrders_0 15 rfl rfl)
theorem dX4_doOrders_16 : decode cX4_doOrders 16 = .ok (.getfield 245, 3) := dk_180 0 245 (dk_at dksX4_doOrders_0 16 rfl rfl)
theorem dX4_doOrders_19 : decode cX4_doOrders 19 = .ok (.aload_n 0, 1) := dk_42 (dk_at dksX4_doOrders_0 19 rfl rfl)
theorem dX4_doOrders_20 : decode cX4_doOrders 20 = .ok (.getfield 234, 3) := dk_180 0 234 (dk_at dksX4_doOrders_0 20 rfl rfl)
theorem dX4_doOrders_23 : decode cX4_doOrders 23 = .ok (.if_icmp .ge 61, 3) := dk_162 0 61 (dk_at dksX4_doOrders_1 0 rfl rfl)
theorem dX4_doOrders_26 : decode cX4_doOrders 26 = .ok (.aload_n 0, 1) := dk_42 (dk_at dksX4_doOrders_1 3 rfl rfl)
theorem dX4_doOrders_27 : decode cX4_doOrders 27 = .ok (.getfield 261, 3) := dk_180 1 5 (dk_at dksX4_doOrders_1 4 rfl rfl)
theorem dX4_doOrders_30 : decode cX4_doOrders 30 = .ok (.ifCond .ne 54, 3) := dk_154 0 54 (dk_at dksX4_doOrders_1 7 rfl rfl)
theorem dX4_doOrders_33 : decode cX4_doOrders 33 = .ok (.aload_n 0, 1) := dk_42 (dk_at dksX4_doOrders_1 10 rfl rfl)
theorem dX4_doOrders_34 : decode cX4_doOrders 34 = .ok (.aload_n 0, 1) := dk_42 (dk_at dksX4_doOrders_1 11 rfl rfl)
theorem dX4_doOrders_35 : decode cX4_doOrders 35 = .ok (.getfield 245, 3) := dk_180 0 245 (dk_at dksX4_doOrders_1 12 rfl rfl)
theorem dX4_doOrders_38 : decode cX4_doOrders 38 = .ok (.putfield 267, 3) := dk_181 1 11 (dk_at dksX4_doOrders_1 15 rfl rfl)
theorem dX4_doOrders_41 : decode cX4_doOrders 41 = .ok (.aload_n 0, 1) := dk_42 (dk_at dksX4_doOrders_1 18 rfl rfl)
theorem dX4_doOrders_42 : decode cX4_doOrders 42 = .ok (.aload_n 0, 1) := dk_42 (dk_at dksX4_doOrders_1 19 rfl rfl)
theorem dX4_doOrders_43 : decode cX4_doOrders 43 = .ok (.invokevirtual 270, 3) := dk_182 1 14 (dk_at dksX4_doOrders_1 20 rfl rfl)
theorem dX4_doOrders_46 : decode cX4_doOrders 46 = .ok (.ifCond .eq 10, 3) := dk_153 0 10 (dk_at dksX4_doOrders_2 0 rfl rfl)
theorem dX4_doOrders_49 : decode cX4_doOrders 49 = .ok (.aload_n 0, 1) := dk_42 (dk_at dksX4_doOrders_2 3 rfl rfl)
theorem dX4_doOrders_50 : decode cX4_doOrders 50 = .ok (.invokevirtual 274, 3) := dk_182 1 18 (dk_at dksX4_doOrders_2 4 rfl rfl)
theorem dX4_doOrders_53 : decode cX4_doOrders 53 = .ok (.goto 4, 3) := dk_167 0 4 (dk_at dksX4_doOrders_2 7 rfl rfl)
theorem dX4_doOrders_56 : decode cX4_doOrders 56 = .ok (.iconst 1, 1) := dk_4 (dk_at dksX4_doOrders_2 10 rfl rfl)
theorem dX4_doOrders_57 : decode cX4_doOrders 57 = .ok (.putfield 261, 3) := dk_181 1 5 (dk_at dksX4_doOrders_2 11 rfl rfl)
theorem dX4_doOrders_60 : decode cX4_doOrders 60 = .ok (.aload_n 0, 1) := dk_42 (dk_at dksX4_doOrders_2 14 rfl rfl)
theorem dX4_doOrders_61 : decode cX4_doOrders 61 = .ok (.getfield 261, 3) := dk_180 1 5 (dk_at dksX4_doOrders_2 15 rfl rfl)
theorem dX4_doOrders_64 : decode cX4_doOrders 64 = .ok (.ifCond .ne (-49), 3) := dk_154 255 207 (dk_at dksX4_doOrders_2 18 rfl rfl)
theorem dX4_doOrders_67 : decode cX4_doOrders 67 = .ok (.aload_n 0, 1) := dk_42 (dk_at dksX4_doOrders_2 21 rfl rfl)
theorem dX4_doOrders_68 : decode cX4_doOrders 68 = .ok (.invokevirtual 277, 3) := dk_182 1 21 (dk_at dksX4_doOrders_3 0 rfl rfl)
theorem dX4_doOrders_71 : decode cX4_doOrders 71 = .ok (.aload_n 0, 1) := dk_42 (dk_at dksX4_doOrders_3 3 rfl rfl)
theorem dX4_doOrders_72 : decode cX4_doOrders 72 = .ok (.dup, 1) := dk_89 (dk_at dksX4_doOrders_3 4 rfl rfl)
theorem dX4_doOrders_73 : decode cX4_doOrders 73 = .ok (.getfield 264, 3) := dk_180 1 8 (dk_at dksX4_doOrders_3 5 rfl rfl)
theorem dX4_doOrders_76 : decode cX4_doOrders 76 = .ok (.iconst 1, 1) := dk_4 (dk_at dksX4_doOrders_3 8 rfl rfl)
theorem dX4_doOrders_77 : decode cX4_doOrders 77 = .ok (.iadd, 1) := dk_96 (dk_at dksX4_doOrders_3 9 rfl rfl)
theorem dX4_doOrders_78 : decode cX4_doOrders 78 = .ok (.putfield 264, 3) := dk_181 1 8 (dk_at dksX4_doOrders_3 10 rfl rfl)
theorem dX4_doOrders_81 : decode cX4_doOrders 81 = .ok (.goto (-66), 3) := dk_167 255 190 (dk_at dksX4_doOrders_3 13 rfl rfl)
theorem dX4_doOrders_84 : decode cX4_doOrders 84 = .ok (.return_, 1) := dk_177 (dk_at dksX4_doOrders_3 16 rfl rfl)
abbrev cX4_readsOrder : ByteArray := prog_20_method_76_code
def yX4_readsOrder : MethodName := ⟨RX4, "readsOrder", "()Z"⟩
def dkwX4_readsOrder_8 : List UInt8 := [28, 172]
abbrev dktX4_readsOrder_8 : List UInt8 := dkwX4_readsOrder_8 ++ []
def dkwX4_readsOrder_7 : List UInt8 := [182, 0, 248, 16, 59, 160, 0, 7, 4, 167, 0, 4, 3, 61, 42, 89, 180, 0, 245, 4, 96, 181, 0, 245]
abbrev dktX4_readsOrder_7 : List UInt8 := dkwX4_readsOrder_7 ++ dktX4_readsOrder_8
def dkwX4_readsOrder_6 : List UInt8 := [181, 0, 245, 167, 255, 191, 42, 180, 0, 251, 16, 114, 159, 0, 11, 42, 180, 0, 245, 27, 164, 0, 16, 42]
abbrev dktX4_readsOrder_6 : List UInt8 := dkwX4_readsOrder_6 ++ dktX4_readsOrder_7
def dkwX4_readsOrder_5 : List UInt8 := [180, 0, 254, 104, 42, 182, 0, 248, 96, 16, 48, 100, 181, 0, 254, 42, 89, 180, 0, 245, 4, 96]
abbrev dktX4_readsOrder_5 : List UInt8 := dkwX4_readsOrder_5 ++ dktX4_readsOrder_6
def dkwX4_readsOrder_4 : List UInt8 := [20, 1, 3, 184, 0, 30, 153, 0, 45, 42, 180, 0, 245, 27, 6, 96, 162, 0, 35, 42, 16, 10, 42]
abbrev dktX4_readsOrder_4 : List UInt8 := dkwX4_readsOrder_4 ++ dktX4_readsOrder_5
def dkwX4_readsOrder_3 : List UInt8 := [42, 3, 181, 0, 254, 42, 180, 0, 251, 16, 114, 159, 0, 62, 42, 182, 0, 248, 133, 20, 1, 1]
abbrev dktX4_readsOrder_3 : List UInt8 := dkwX4_readsOrder_3 ++ dktX4_readsOrder_4
def dkwX4_readsOrder_2 : List UInt8 := [180, 0, 251, 16, 112, 159, 0, 14, 42, 180, 0, 251, 16, 114, 159, 0, 5, 3, 172, 42, 180, 0, 245, 60]
abbrev dktX4_readsOrder_2 : List UInt8 := dkwX4_readsOrder_2 ++ dktX4_readsOrder_3
def dkwX4_readsOrder_1 : List UInt8 := [159, 0, 41, 42, 180, 0, 251, 16, 99, 159, 0, 32, 42, 180, 0, 251, 16, 115, 159, 0, 23, 42]
abbrev dktX4_readsOrder_1 : List UInt8 := dkwX4_readsOrder_1 ++ dktX4_readsOrder_2
def dkwX4_readsOrder_0 : List UInt8 := [42, 42, 182, 0, 248, 181, 0, 251, 42, 89, 180, 0, 245, 4, 96, 181, 0, 245, 42, 180, 0, 251, 16, 111]
abbrev dktX4_readsOrder_0 : List UInt8 := dkwX4_readsOrder_0 ++ dktX4_readsOrder_1
theorem dksX4_readsOrder_0 : cX4_readsOrder.data.toList.drop 0 = dktX4_readsOrder_0 := by decide +kernel
theorem dksX4_readsOrder_1 : cX4_readsOrder.data.toList.drop 24 = dktX4_readsOrder_1 := dk_seg dksX4_readsOrder_0 24 rfl rfl
theorem dksX4_readsOrder_2 : cX4_readsOrder.data.toList.drop 46 = dktX4_readsOrder_2 := dk_seg dksX4_readsOrder_1 22 rfl rfl
theorem dksX4_readsOrder_3 : cX4_readsOrder.data.toList.drop 70 = dktX4_readsOrder_3 := dk_seg dksX4_readsOrder_2 24 rfl rfl
theorem dksX4_readsOrder_4 : cX4_readsOrder.data.toList.drop 92 = dktX4_readsOrder_4 := dk_seg dksX4_readsOrder_3 22 rfl rfl
theorem dksX4_readsOrder_5 : cX4_readsOrder.data.toList.drop 115 = dktX4_readsOrder_5 := dk_seg dksX4_readsOrder_4 23 rfl rfl
theorem dksX4_readsOrder_6 : cX4_readsOrder.data.toList.drop 137 = dktX4_readsOrder_6 := dk_seg dksX4_readsOrder_5 22 rfl rfl
theorem dksX4_readsOrder_7 : cX4_readsOrder.data.toList.drop 161 = dktX4_readsOrder_7 := dk_seg dksX4_readsOrder_6 24 rfl rfl
theorem dksX4_readsOrder_8 : cX4_readsOrder.data.toList.drop 185 = dktX4_readsOrder_8 := dk_seg dksX4_readsOrder_7 24 rfl rfl
theorem dX4_readsOrder_0 : decode cX4_readsOrder 0 = .ok (.aload_n 0, 1) := dk_42 (dk_at dksX4_readsOrder_0 0 rfl rfl)
theorem dX4_readsOrder_1 : decode cX4_readsOrder 1 = .ok (.aload_n 0, 1) := dk_42 (dk_at dksX4_readsOrder_0 1 rfl rfl)
theorem dX4_readsOrder_2 : decode cX4_readsOrder 2 = .ok (.invokevirtual 248, 3) := dk_182 0 248 (dk_at dksX4_readsOrder_0 2 rfl rfl)
theorem dX4_readsOrder_5 : decode cX4_readsOrder 5 = .ok (.putfield 251, 3) := dk_181 0 251 (dk_at dksX4_readsOrder_0 5 rfl rfl)
theorem dX4_readsOrder_8 : decode cX4_readsOrder 8 = .ok (.aload_n 0, 1) := dk_42 (dk_at dksX4_readsOrder_0 8 rfl rfl)
theorem dX4_readsOrder_9 : decode cX4_readsOrder 9 = .ok (.dup, 1) := dk_89 (dk_at dksX4_readsOrder_0 9 rfl rfl)
theorem dX4_readsOrder_10 : decode cX4_readsOrder 10 = .ok (.getfield 245, 3) := dk_180 0 245 (dk_at dksX4_readsOrder_0 10 rfl rfl)
theorem dX4_readsOrder_13 : decode cX4_readsOrder 13 = .ok (.iconst 1, 1) := dk_4 (dk_at dksX4_readsOrder_0 13 rfl rfl)
theorem dX4_readsOrder_14 : decode cX4_readsOrder 14 = .ok (.iadd, 1) := dk_96 (dk_at dksX4_readsOrder_0 14 rfl rfl)
theorem dX4_readsOrder_15 : decode cX4_readsOrder 15 = .ok (.putfield 245, 3) := dk_181 0 245 (dk_at dksX4_readsOrder_0 15 rfl rfl)
theorem dX4_readsOrder_18 : decode cX4_readsOrder 18 = .ok (.aload_n 0, 1) := dk_42 (dk_at dksX4_readsOrder_0 18 rfl rfl)
theorem dX4_readsOrder_19 : decode cX4_readsOrder 19 = .ok (.getfield 251, 3) := dk_180 0 251 (dk_at dksX4_readsOrder_0 19 rfl rfl)
theorem dX4_readsOrder_22 : decode cX4_readsOrder 22 = .ok (.bipush 111, 2) := dk_16 111 (dk_at dksX4_readsOrder_0 22 rfl rfl)
theorem dX4_readsOrder_24 : decode cX4_readsOrder 24 = .ok (.if_icmp .eq 41, 3) := dk_159 0 41 (dk_at dksX4_readsOrder_1 0 rfl rfl)
theorem dX4_readsOrder_27 : decode cX4_readsOrder 27 = .ok (.aload_n 0, 1) := dk_42 (dk_at dksX4_readsOrder_1 3 rfl rfl)
theorem dX4_readsOrder_28 : decode cX4_readsOrder 28 = .ok (.getfield 251, 3) := dk_180 0 251 (dk_at dksX4_readsOrder_1 4 rfl rfl)
theorem dX4_readsOrder_31 : decode cX4_readsOrder 31 = .ok (.bipush 99, 2) := dk_16 99 (dk_at dksX4_readsOrder_1 7 rfl rfl)
theorem dX4_readsOrder_33 : decode cX4_readsOrder 33 = .ok (.if_icmp .eq 32, 3) := dk_159 0 32 (dk_at dksX4_readsOrder_1 9 rfl rfl)
theorem dX4_readsOrder_36 : decode cX4_readsOrder 36 = .ok (.aload_n 0, 1) := dk_42 (dk_at dksX4_readsOrder_1 12 rfl rfl)
theorem dX4_readsOrder_37 : decode cX4_readsOrder 37 = .ok (.getfield 251, 3) := dk_180 0 251 (dk_at dksX4_readsOrder_1 13 rfl rfl)
theorem dX4_readsOrder_40 : decode cX4_readsOrder 40 = .ok (.bipush 115, 2) := dk_16 115 (dk_at dksX4_readsOrder_1 16 rfl rfl)
theorem dX4_readsOrder_42 : decode cX4_readsOrder 42 = .ok (.if_icmp .eq 23, 3) := dk_159 0 23 (dk_at dksX4_readsOrder_1 18 rfl rfl)
theorem dX4_readsOrder_45 : decode cX4_readsOrder 45 = .ok (.aload_n 0, 1) := dk_42 (dk_at dksX4_readsOrder_1 21 rfl rfl)
theorem dX4_readsOrder_46 : decode cX4_readsOrder 46 = .ok (.getfield 251, 3) := dk_180 0 251 (dk_at dksX4_readsOrder_2 0 rfl rfl)
theorem dX4_readsOrder_49 : decode cX4_readsOrder 49 = .ok (.bipush 112, 2) := dk_16 112 (dk_at dksX4_readsOrder_2 3 rfl rfl)
theorem dX4_readsOrder_51 : decode cX4_readsOrder 51 = .ok (.if_icmp .eq 14, 3) := dk_159 0 14 (dk_at dksX4_readsOrder_2 5 rfl rfl)
theorem dX4_readsOrder_54 : decode cX4_readsOrder 54 = .ok (.aload_n 0, 1) := dk_42 (dk_at dksX4_readsOrder_2 8 rfl rfl)
theorem dX4_readsOrder_55 : decode cX4_readsOrder 55 = .ok (.getfield 251, 3) := dk_180 0 251 (dk_at dksX4_readsOrder_2 9 rfl rfl)
theorem dX4_readsOrder_58 : decode cX4_readsOrder 58 = .ok (.bipush 114, 2) := dk_16 114 (dk_at dksX4_readsOrder_2 12 rfl rfl)
theorem dX4_readsOrder_60 : decode cX4_readsOrder 60 = .ok (.if_icmp .eq 5, 3) := dk_159 0 5 (dk_at dksX4_readsOrder_2 14 rfl rfl)
theorem dX4_readsOrder_63 : decode cX4_readsOrder 63 = .ok (.iconst 0, 1) := dk_3 (dk_at dksX4_readsOrder_2 17 rfl rfl)
theorem dX4_readsOrder_64 : decode cX4_readsOrder 64 = .ok (.ireturn, 1) := dk_172 (dk_at dksX4_readsOrder_2 18 rfl rfl)
theorem dX4_readsOrder_65 : decode cX4_readsOrder 65 = .ok (.aload_n 0, 1) := dk_42 (dk_at dksX4_readsOrder_2 19 rfl rfl)
theorem dX4_readsOrder_66 : decode cX4_readsOrder 66 = .ok (.getfield 245, 3) := dk_180 0 245 (dk_at dksX4_readsOrder_2 20 rfl rfl)
theorem dX4_readsOrder_69 : decode cX4_readsOrder 69 = .ok (.istore_n 1, 1) := dk_60 (dk_at dksX4_readsOrder_2 23 rfl rfl)
theorem dX4_readsOrder_70 : decode cX4_readsOrder 70 = .ok (.aload_n 0, 1) := dk_42 (dk_at dksX4_readsOrder_3 0 rfl rfl)
theorem dX4_readsOrder_71 : decode cX4_readsOrder 71 = .ok (.iconst 0, 1) := dk_3 (dk_at dksX4_readsOrder_3 1 rfl rfl)
theorem dX4_readsOrder_72 : decode cX4_readsOrder 72 = .ok (.putfield 254, 3) := dk_181 0 254 (dk_at dksX4_readsOrder_3 2 rfl rfl)
theorem dX4_readsOrder_75 : decode cX4_readsOrder 75 = .ok (.aload_n 0, 1) := dk_42 (dk_at dksX4_readsOrder_3 5 rfl rfl)
theorem dX4_readsOrder_76 : decode cX4_readsOrder 76 = .ok (.getfield 251, 3) := dk_180 0 251 (dk_at dksX4_readsOrder_3 6 rfl rfl)
theorem dX4_readsOrder_79 : decode cX4_readsOrder 79 = .ok (.bipush 114, 2) := dk_16 114 (dk_at dksX4_readsOrder_3 9 rfl rfl)
theorem dX4_readsOrder_81 : decode cX4_readsOrder 81 = .ok (.if_icmp .eq 62, 3) := dk_159 0 62 (dk_at dksX4_readsOrder_3 11 rfl rfl)
theorem dX4_readsOrder_84 : decode cX4_readsOrder 84 = .ok (.aload_n 0, 1) := dk_42 (dk_at dksX4_readsOrder_3 14 rfl rfl)
theorem dX4_readsOrder_85 : decode cX4_readsOrder 85 = .ok (.invokevirtual 248, 3) := dk_182 0 248 (dk_at dksX4_readsOrder_3 15 rfl rfl)
theorem dX4_readsOrder_88 : decode cX4_readsOrder 88 = .ok (.i2l, 1) := dk_133 (dk_at dksX4_readsOrder_3 18 rfl rfl)
theorem dX4_readsOrder_89 : decode cX4_readsOrder 89 = .ok (.ldc2_w 257, 3) := dk_20 1 1 (dk_at dksX4_readsOrder_3 19 rfl rfl)
theorem dX4_readsOrder_92 : decode cX4_readsOrder 92 = .ok (.ldc2_w 259, 3) := dk_20 1 3 (dk_at dksX4_readsOrder_4 0 rfl rfl)
theorem dX4_readsOrder_95 : decode cX4_readsOrder 95 = .ok (.invokestatic 30, 3) := dk_184 0 30 (dk_at dksX4_readsOrder_4 3 rfl rfl)
theorem dX4_readsOrder_98 : decode cX4_readsOrder 98 = .ok (.ifCond .eq 45, 3) := dk_153 0 45 (dk_at dksX4_readsOrder_4 6 rfl rfl)
theorem dX4_readsOrder_101 : decode cX4_readsOrder 101 = .ok (.aload_n 0, 1) := dk_42 (dk_at dksX4_readsOrder_4 9 rfl rfl)
theorem dX4_readsOrder_102 : decode cX4_readsOrder 102 = .ok (.getfield 245, 3) := dk_180 0 245 (dk_at dksX4_readsOrder_4 10 rfl rfl)
theorem dX4_readsOrder_105 : decode cX4_readsOrder 105 = .ok (.iload_n 1, 1) := dk_27 (dk_at dksX4_readsOrder_4 13 rfl rfl)
theorem dX4_readsOrder_106 : decode cX4_readsOrder 106 = .ok (.iconst 3, 1) := dk_6 (dk_at dksX4_readsOrder_4 14 rfl rfl)
theorem dX4_readsOrder_107 : decode cX4_readsOrder 107 = .ok (.iadd, 1) := dk_96 (dk_at dksX4_readsOrder_4 15 rfl rfl)
theorem dX4_readsOrder_108 : decode cX4_readsOrder 108 = .ok (.if_icmp .ge 35, 3) := dk_162 0 35 (dk_at dksX4_readsOrder_4 16 rfl rfl)
theorem dX4_readsOrder_111 : decode cX4_readsOrder 111 = .ok (.aload_n 0, 1) := dk_42 (dk_at dksX4_readsOrder_4 19 rfl rfl)
theorem dX4_readsOrder_112 : decode cX4_readsOrder 112 = .ok (.bipush 10, 2) := dk_16 10 (dk_at dksX4_readsOrder_4 20 rfl rfl)
theorem dX4_readsOrder_114 : decode cX4_readsOrder 114 = .ok (.aload_n 0, 1) := dk_42 (dk_at dksX4_readsOrder_4 22 rfl rfl)
theorem dX4_readsOrder_115 : decode cX4_readsOrder 115 = .ok (.getfield 254, 3) := dk_180 0 254 (dk_at dksX4_readsOrder_5 0 rfl rfl)
theorem dX4_readsOrder_118 : decode cX4_readsOrder 118 = .ok (.imul, 1) := dk_104 (dk_at dksX4_readsOrder_5 3 rfl rfl)
theorem dX4_readsOrder_119 : decode cX4_readsOrder 119 = .ok (.aload_n 0, 1) := dk_42 (dk_at dksX4_readsOrder_5 4 rfl rfl)
theorem dX4_readsOrder_120 : decode cX4_readsOrder 120 = .ok (.invokevirtual 248, 3) := dk_182 0 248 (dk_at dksX4_readsOrder_5 5 rfl rfl)
theorem dX4_readsOrder_123 : decode cX4_readsOrder 123 = .ok (.iadd, 1) := dk_96 (dk_at dksX4_readsOrder_5 8 rfl rfl)
theorem dX4_readsOrder_124 : decode cX4_readsOrder 124 = .ok (.bipush 48, 2) := dk_16 48 (dk_at dksX4_readsOrder_5 9 rfl rfl)
theorem dX4_readsOrder_126 : decode cX4_readsOrder 126 = .ok (.isub, 1) := dk_100 (dk_at dksX4_readsOrder_5 11 rfl rfl)
theorem dX4_readsOrder_127 : decode cX4_readsOrder 127 = .ok (.putfield 254, 3) := dk_181 0 254 (dk_at dksX4_readsOrder_5 12 rfl rfl)
theorem dX4_readsOrder_130 : decode cX4_readsOrder 130 = .ok (.aload_n 0, 1) := dk_42 (dk_at dksX4_readsOrder_5 15 rfl rfl)
theorem dX4_readsOrder_131 : decode cX4_readsOrder 131 = .ok (.dup, 1) := dk_89 (dk_at dksX4_readsOrder_5 16 rfl rfl)
theorem dX4_readsOrder_132 : decode cX4_readsOrder 132 = .ok (.getfield 245, 3) := dk_180 0 245 (dk_at dksX4_readsOrder_5 17 rfl rfl)
theorem dX4_readsOrder_135 : decode cX4_readsOrder 135 = .ok (.iconst 1, 1) := dk_4 (dk_at dksX4_readsOrder_5 20 rfl rfl)
theorem dX4_readsOrder_136 : decode cX4_readsOrder 136 = .ok (.iadd, 1) := dk_96 (dk_at dksX4_readsOrder_5 21 rfl rfl)
theorem dX4_readsOrder_137 : decode cX4_readsOrder 137 = .ok (.putfield 245, 3) := dk_181 0 245 (dk_at dksX4_readsOrder_6 0 rfl rfl)
theorem dX4_readsOrder_140 : decode cX4_readsOrder 140 = .ok (.goto (-65), 3) := dk_167 255 191 (dk_at dksX4_readsOrder_6 3 rfl rfl)
theorem dX4_readsOrder_143 : decode cX4_readsOrder 143 = .ok (.aload_n 0, 1) := dk_42 (dk_at dksX4_readsOrder_6 6 rfl rfl)
theorem dX4_readsOrder_144 : decode cX4_readsOrder 144 = .ok (.getfield 251, 3) := dk_180 0 251 (dk_at dksX4_readsOrder_6 7 rfl rfl)
theorem dX4_readsOrder_147 : decode cX4_readsOrder 147 = .ok (.bipush 114, 2) := dk_16 114 (dk_at dksX4_readsOrder_6 10 rfl rfl)
theorem dX4_readsOrder_149 : decode cX4_readsOrder 149 = .ok (.if_icmp .eq 11, 3) := dk_159 0 11 (dk_at dksX4_readsOrder_6 12 rfl rfl)
theorem dX4_readsOrder_152 : decode cX4_readsOrder 152 = .ok (.aload_n 0, 1) := dk_42 (dk_at dksX4_readsOrder_6 15 rfl rfl)
theorem dX4_readsOrder_153 : decode cX4_readsOrder 153 = .ok (.getfield 245, 3) := dk_180 0 245 (dk_at dksX4_readsOrder_6 16 rfl rfl)
theorem dX4_readsOrder_156 : decode cX4_readsOrder 156 = .ok (.iload_n 1, 1) := dk_27 (dk_at dksX4_readsOrder_6 19 rfl rfl)
theorem dX4_readsOrder_157 : decode cX4_readsOrder 157 = .ok (.if_icmp .le 16, 3) := dk_164 0 16 (dk_at dksX4_readsOrder_6 20 rfl rfl)
theorem dX4_readsOrder_160 : decode cX4_readsOrder 160 = .ok (.aload_n 0, 1) := dk_42 (dk_at dksX4_readsOrder_6 23 rfl rfl)
theorem dX4_readsOrder_161 : decode cX4_readsOrder 161 = .ok (.invokevirtual 248, 3) := dk_182 0 248 (dk_at dksX4_readsOrder_7 0 rfl rfl)
theorem dX4_readsOrder_164 : decode cX4_readsOrder 164 = .ok (.bipush 59, 2) := dk_16 59 (dk_at dksX4_readsOrder_7 3 rfl rfl)
theorem dX4_readsOrder_166 : decode cX4_readsOrder 166 = .ok (.if_icmp .ne 7, 3) := dk_160 0 7 (dk_at dksX4_readsOrder_7 5 rfl rfl)
theorem dX4_readsOrder_169 : decode cX4_readsOrder 169 = .ok (.iconst 1, 1) := dk_4 (dk_at dksX4_readsOrder_7 8 rfl rfl)
theorem dX4_readsOrder_170 : decode cX4_readsOrder 170 = .ok (.goto 4, 3) := dk_167 0 4 (dk_at dksX4_readsOrder_7 9 rfl rfl)
theorem dX4_readsOrder_173 : decode cX4_readsOrder 173 = .ok (.iconst 0, 1) := dk_3 (dk_at dksX4_readsOrder_7 12 rfl rfl)
theorem dX4_readsOrder_174 : decode cX4_readsOrder 174 = .ok (.istore_n 2, 1) := dk_61 (dk_at dksX4_readsOrder_7 13 rfl rfl)
theorem dX4_readsOrder_175 : decode cX4_readsOrder 175 = .ok (.aload_n 0, 1) := dk_42 (dk_at dksX4_readsOrder_7 14 rfl rfl)
theorem dX4_readsOrder_176 : decode cX4_readsOrder 176 = .ok (.dup, 1) := dk_89 (dk_at dksX4_readsOrder_7 15 rfl rfl)
theorem dX4_readsOrder_177 : decode cX4_readsOrder 177 = .ok (.getfield 245, 3) := dk_180 0 245 (dk_at dksX4_readsOrder_7 16 rfl rfl)
theorem dX4_readsOrder_180 : decode cX4_readsOrder 180 = .ok (.iconst 1, 1) := dk_4 (dk_at dksX4_readsOrder_7 19 rfl rfl)
theorem dX4_readsOrder_181 : decode cX4_readsOrder 181 = .ok (.iadd, 1) := dk_96 (dk_at dksX4_readsOrder_7 20 rfl rfl)
theorem dX4_readsOrder_182 : decode cX4_readsOrder 182 = .ok (.putfield 245, 3) := dk_181 0 245 (dk_at dksX4_readsOrder_7 21 rfl rfl)
theorem dX4_readsOrder_185 : decode cX4_readsOrder 185 = .ok (.iload_n 2, 1) := dk_28 (dk_at dksX4_readsOrder_8 0 rfl rfl)
theorem dX4_readsOrder_186 : decode cX4_readsOrder 186 = .ok (.ireturn, 1) := dk_172 (dk_at dksX4_readsOrder_8 1 rfl rfl)
abbrev cX4_here : ByteArray := prog_20_method_75_code
def yX4_here : MethodName := ⟨RX4, "here", "()I"⟩
def dkwX4_here_1 : List UInt8 := [172]
abbrev dktX4_here_1 : List UInt8 := dkwX4_here_1 ++ []
def dkwX4_here_0 : List UInt8 := [42, 180, 0, 245, 42, 180, 0, 234, 162, 0, 15, 42, 180, 0, 19, 42, 180, 0, 245, 46, 167, 0, 4, 2]
abbrev dktX4_here_0 : List UInt8 := dkwX4_here_0 ++ dktX4_here_1
theorem dksX4_here_0 : cX4_here.data.toList.drop 0 = dktX4_here_0 := by decide +kernel
theorem dksX4_here_1 : cX4_here.data.toList.drop 24 = dktX4_here_1 := dk_seg dksX4_here_0 24 rfl rfl
theorem dX4_here_0 : decode cX4_here 0 = .ok (.aload_n 0, 1) := dk_42 (dk_at dksX4_here_0 0 rfl rfl)
theorem dX4_here_1 : decode cX4_here 1 = .ok (.getfield 245, 3) := dk_180 0 245 (dk_at dksX4_here_0 1 rfl rfl)
theorem dX4_here_4 : decode cX4_here 4 = .ok (.aload_n 0, 1) := dk_42 (dk_at dksX4_here_0 4 rfl rfl)
theorem dX4_here_5 : decode cX4_here 5 = .ok (.getfield 234, 3) := dk_180 0 234 (dk_at dksX4_here_0 5 rfl rfl)
theorem dX4_here_8 : decode cX4_here 8 = .ok (.if_icmp .ge 15, 3) := dk_162 0 15 (dk_at dksX4_here_0 8 rfl rfl)
theorem dX4_here_11 : decode cX4_here 11 = .ok (.aload_n 0, 1) := dk_42 (dk_at dksX4_here_0 11 rfl rfl)
theorem dX4_here_12 : decode cX4_here 12 = .ok (.getfield 19, 3) := dk_180 0 19 (dk_at dksX4_here_0 12 rfl rfl)
theorem dX4_here_15 : decode cX4_here 15 = .ok (.aload_n 0, 1) := dk_42 (dk_at dksX4_here_0 15 rfl rfl)
theorem dX4_here_16 : decode cX4_here 16 = .ok (.getfield 245, 3) := dk_180 0 245 (dk_at dksX4_here_0 16 rfl rfl)
theorem dX4_here_19 : decode cX4_here 19 = .ok (.iaload, 1) := dk_46 (dk_at dksX4_here_0 19 rfl rfl)
theorem dX4_here_20 : decode cX4_here 20 = .ok (.goto 4, 3) := dk_167 0 4 (dk_at dksX4_here_0 20 rfl rfl)
theorem dX4_here_23 : decode cX4_here 23 = .ok (.iconst (-1), 1) := dk_2 (dk_at dksX4_here_0 23 rfl rfl)
theorem dX4_here_24 : decode cX4_here 24 = .ok (.ireturn, 1) := dk_172 (dk_at dksX4_here_1 0 rfl rfl)
abbrev cX4_reasonOfOrder : ByteArray := prog_20_method_77_code
def yX4_reasonOfOrder : MethodName := ⟨RX4, "reasonOfOrder", "()I"⟩
def dkwX4_reasonOfOrder_6 : List UInt8 := [3, 172, 42, 180, 0, 7, 16, 6, 46, 154, 0, 7, 6, 167, 0, 4, 3, 172]
abbrev dktX4_reasonOfOrder_6 : List UInt8 := dkwX4_reasonOfOrder_6 ++ []
def dkwX4_reasonOfOrder_5 : List UInt8 := [154, 0, 7, 6, 167, 0, 4, 3, 172, 42, 42, 180, 0, 254, 182, 0, 213, 153, 0, 7, 6, 167, 0, 4]
abbrev dktX4_reasonOfOrder_5 : List UInt8 := dkwX4_reasonOfOrder_5 ++ dktX4_reasonOfOrder_6
def dkwX4_reasonOfOrder_4 : List UInt8 := [180, 0, 254, 182, 0, 120, 154, 0, 7, 5, 167, 0, 20, 42, 42, 180, 0, 254, 6, 182, 0, 78]
abbrev dktX4_reasonOfOrder_4 : List UInt8 := dkwX4_reasonOfOrder_4 ++ dktX4_reasonOfOrder_5
def dkwX4_reasonOfOrder_3 : List UInt8 := [180, 0, 251, 16, 111, 160, 0, 7, 4, 167, 0, 4, 3, 160, 0, 7, 6, 167, 0, 4, 3, 172, 42, 42]
abbrev dktX4_reasonOfOrder_3 : List UInt8 := dkwX4_reasonOfOrder_3 ++ dktX4_reasonOfOrder_4
def dkwX4_reasonOfOrder_2 : List UInt8 := [42, 42, 180, 0, 254, 182, 0, 140, 154, 0, 7, 5, 167, 0, 33, 42, 42, 180, 0, 254, 182, 0, 137, 42]
abbrev dktX4_reasonOfOrder_2 : List UInt8 := dkwX4_reasonOfOrder_2 ++ dktX4_reasonOfOrder_3
def dkwX4_reasonOfOrder_1 : List UInt8 := [171, 0, 0, 0, 0, 0, 0, 140, 0, 0, 0, 4, 0, 0, 0, 99, 0, 0, 0, 44, 0, 0, 0, 111, 0, 0, 0, 44, 0, 0, 0, 112, 0, 0, 0, 123, 0, 0, 0, 115, 0, 0, 0, 90]
abbrev dktX4_reasonOfOrder_1 : List UInt8 := dkwX4_reasonOfOrder_1 ++ dktX4_reasonOfOrder_2
def dkwX4_reasonOfOrder_0 : List UInt8 := [42, 180, 0, 251]
abbrev dktX4_reasonOfOrder_0 : List UInt8 := dkwX4_reasonOfOrder_0 ++ dktX4_reasonOfOrder_1
theorem dksX4_reasonOfOrder_0 : cX4_reasonOfOrder.data.toList.drop 0 = dktX4_reasonOfOrder_0 := by decide +kernel
theorem dksX4_reasonOfOrder_1 : cX4_reasonOfOrder.data.toList.drop 4 = dktX4_reasonOfOrder_1 := dk_seg dksX4_reasonOfOrder_0 4 rfl rfl
theorem dksX4_reasonOfOrder_2 : cX4_reasonOfOrder.data.toList.drop 48 = dktX4_reasonOfOrder_2 := dk_seg dksX4_reasonOfOrder_1 44 rfl rfl
theorem dksX4_reasonOfOrder_3 : cX4_reasonOfOrder.data.toList.drop 72 = dktX4_reasonOfOrder_3 := dk_seg dksX4_reasonOfOrder_2 24 rfl rfl
theorem dksX4_reasonOfOrder_4 : cX4_reasonOfOrder.data.toList.drop 96 = dktX4_reasonOfOrder_4 := dk_seg dksX4_reasonOfOrder_3 24 rfl rfl
theorem dksX4_reasonOfOrder_5 : cX4_reasonOfOrder.data.toList.drop 118 = dktX4_reasonOfOrder_5 := dk_seg dksX4_reasonOfOrder_4 22 rfl rfl
theorem dksX4_reasonOfOrder_6 : cX4_reasonOfOrder.data.toList.drop 142 = dktX4_reasonOfOrder_6 := dk_seg dksX4_reasonOfOrder_5 24 rfl rfl
theorem dX4_reasonOfOrder_0 : decode cX4_reasonOfOrder 0 = .ok (.aload_n 0, 1) := dk_42 (dk_at dksX4_reasonOfOrder_0 0 rfl rfl)
theorem dX4_reasonOfOrder_1 : decode cX4_reasonOfOrder 1 = .ok (.getfield 251, 3) := dk_180 0 251 (dk_at dksX4_reasonOfOrder_0 1 rfl rfl)
theorem dX4_reasonOfOrder_4 : decode cX4_reasonOfOrder 4 = .ok (.lookupswitch 140 #[(99, 44), (111, 44), (112, 123), (115, 90)], 44) := by decide +kernel
theorem dX4_reasonOfOrder_48 : decode cX4_reasonOfOrder 48 = .ok (.aload_n 0, 1) := dk_42 (dk_at dksX4_reasonOfOrder_2 0 rfl rfl)
theorem dX4_reasonOfOrder_49 : decode cX4_reasonOfOrder 49 = .ok (.aload_n 0, 1) := dk_42 (dk_at dksX4_reasonOfOrder_2 1 rfl rfl)
theorem dX4_reasonOfOrder_50 : decode cX4_reasonOfOrder 50 = .ok (.getfield 254, 3) := dk_180 0 254 (dk_at dksX4_reasonOfOrder_2 2 rfl rfl)
theorem dX4_reasonOfOrder_53 : decode cX4_reasonOfOrder 53 = .ok (.invokevirtual 140, 3) := dk_182 0 140 (dk_at dksX4_reasonOfOrder_2 5 rfl rfl)
theorem dX4_reasonOfOrder_56 : decode cX4_reasonOfOrder 56 = .ok (.ifCond .ne 7, 3) := dk_154 0 7 (dk_at dksX4_reasonOfOrder_2 8 rfl rfl)
theorem dX4_reasonOfOrder_59 : decode cX4_reasonOfOrder 59 = .ok (.iconst 2, 1) := dk_5 (dk_at dksX4_reasonOfOrder_2 11 rfl rfl)
theorem dX4_reasonOfOrder_60 : decode cX4_reasonOfOrder 60 = .ok (.goto 33, 3) := dk_167 0 33 (dk_at dksX4_reasonOfOrder_2 12 rfl rfl)
theorem dX4_reasonOfOrder_63 : decode cX4_reasonOfOrder 63 = .ok (.aload_n 0, 1) := dk_42 (dk_at dksX4_reasonOfOrder_2 15 rfl rfl)
theorem dX4_reasonOfOrder_64 : decode cX4_reasonOfOrder 64 = .ok (.aload_n 0, 1) := dk_42 (dk_at dksX4_reasonOfOrder_2 16 rfl rfl)
theorem dX4_reasonOfOrder_65 : decode cX4_reasonOfOrder 65 = .ok (.getfield 254, 3) := dk_180 0 254 (dk_at dksX4_reasonOfOrder_2 17 rfl rfl)
theorem dX4_reasonOfOrder_68 : decode cX4_reasonOfOrder 68 = .ok (.invokevirtual 137, 3) := dk_182 0 137 (dk_at dksX4_reasonOfOrder_2 20 rfl rfl)
theorem dX4_reasonOfOrder_71 : decode cX4_reasonOfOrder 71 = .ok (.aload_n 0, 1) := dk_42 (dk_at dksX4_reasonOfOrder_2 23 rfl rfl)
theorem dX4_reasonOfOrder_72 : decode cX4_reasonOfOrder 72 = .ok (.getfield 251, 3) := dk_180 0 251 (dk_at dksX4_reasonOfOrder_3 0 rfl rfl)
theorem dX4_reasonOfOrder_75 : decode cX4_reasonOfOrder 75 = .ok (.bipush 111, 2) := dk_16 111 (dk_at dksX4_reasonOfOrder_3 3 rfl rfl)
theorem dX4_reasonOfOrder_77 : decode cX4_reasonOfOrder 77 = .ok (.if_icmp .ne 7, 3) := dk_160 0 7 (dk_at dksX4_reasonOfOrder_3 5 rfl rfl)
theorem dX4_reasonOfOrder_80 : decode cX4_reasonOfOrder 80 = .ok (.iconst 1, 1) := dk_4 (dk_at dksX4_reasonOfOrder_3 8 rfl rfl)
theorem dX4_reasonOfOrder_81 : decode cX4_reasonOfOrder 81 = .ok (.goto 4, 3) := dk_167 0 4 (dk_at dksX4_reasonOfOrder_3 9 rfl rfl)
theorem dX4_reasonOfOrder_84 : decode cX4_reasonOfOrder 84 = .ok (.iconst 0, 1) := dk_3 (dk_at dksX4_reasonOfOrder_3 12 rfl rfl)
theorem dX4_reasonOfOrder_85 : decode cX4_reasonOfOrder 85 = .ok (.if_icmp .ne 7, 3) := dk_160 0 7 (dk_at dksX4_reasonOfOrder_3 13 rfl rfl)
theorem dX4_reasonOfOrder_88 : decode cX4_reasonOfOrder 88 = .ok (.iconst 3, 1) := dk_6 (dk_at dksX4_reasonOfOrder_3 16 rfl rfl)
theorem dX4_reasonOfOrder_89 : decode cX4_reasonOfOrder 89 = .ok (.goto 4, 3) := dk_167 0 4 (dk_at dksX4_reasonOfOrder_3 17 rfl rfl)
theorem dX4_reasonOfOrder_92 : decode cX4_reasonOfOrder 92 = .ok (.iconst 0, 1) := dk_3 (dk_at dksX4_reasonOfOrder_3 20 rfl rfl)
theorem dX4_reasonOfOrder_93 : decode cX4_reasonOfOrder 93 = .ok (.ireturn, 1) := dk_172 (dk_at dksX4_reasonOfOrder_3 21 rfl rfl)
theorem dX4_reasonOfOrder_94 : decode cX4_reasonOfOrder 94 = .ok (.aload_n 0, 1) := dk_42 (dk_at dksX4_reasonOfOrder_3 22 rfl rfl)
theorem dX4_reasonOfOrder_95 : decode cX4_reasonOfOrder 95 = .ok (.aload_n 0, 1) := dk_42 (dk_at dksX4_reasonOfOrder_3 23 rfl rfl)
theorem dX4_reasonOfOrder_96 : decode cX4_reasonOfOrder 96 = .ok (.getfield 254, 3) := dk_180 0 254 (dk_at dksX4_reasonOfOrder_4 0 rfl rfl)
theorem dX4_reasonOfOrder_99 : decode cX4_reasonOfOrder 99 = .ok (.invokevirtual 120, 3) := dk_182 0 120 (dk_at dksX4_reasonOfOrder_4 3 rfl rfl)
theorem dX4_reasonOfOrder_102 : decode cX4_reasonOfOrder 102 = .ok (.ifCond .ne 7, 3) := dk_154 0 7 (dk_at dksX4_reasonOfOrder_4 6 rfl rfl)
theorem dX4_reasonOfOrder_105 : decode cX4_reasonOfOrder 105 = .ok (.iconst 2, 1) := dk_5 (dk_at dksX4_reasonOfOrder_4 9 rfl rfl)
theorem dX4_reasonOfOrder_106 : decode cX4_reasonOfOrder 106 = .ok (.goto 20, 3) := dk_167 0 20 (dk_at dksX4_reasonOfOrder_4 10 rfl rfl)
theorem dX4_reasonOfOrder_109 : decode cX4_reasonOfOrder 109 = .ok (.aload_n 0, 1) := dk_42 (dk_at dksX4_reasonOfOrder_4 13 rfl rfl)
theorem dX4_reasonOfOrder_110 : decode cX4_reasonOfOrder 110 = .ok (.aload_n 0, 1) := dk_42 (dk_at dksX4_reasonOfOrder_4 14 rfl rfl)
theorem dX4_reasonOfOrder_111 : decode cX4_reasonOfOrder 111 = .ok (.getfield 254, 3) := dk_180 0 254 (dk_at dksX4_reasonOfOrder_4 15 rfl rfl)
theorem dX4_reasonOfOrder_114 : decode cX4_reasonOfOrder 114 = .ok (.iconst 3, 1) := dk_6 (dk_at dksX4_reasonOfOrder_4 18 rfl rfl)
theorem dX4_reasonOfOrder_115 : decode cX4_reasonOfOrder 115 = .ok (.invokevirtual 78, 3) := dk_182 0 78 (dk_at dksX4_reasonOfOrder_4 19 rfl rfl)
theorem dX4_reasonOfOrder_118 : decode cX4_reasonOfOrder 118 = .ok (.ifCond .ne 7, 3) := dk_154 0 7 (dk_at dksX4_reasonOfOrder_5 0 rfl rfl)
theorem dX4_reasonOfOrder_121 : decode cX4_reasonOfOrder 121 = .ok (.iconst 3, 1) := dk_6 (dk_at dksX4_reasonOfOrder_5 3 rfl rfl)
theorem dX4_reasonOfOrder_122 : decode cX4_reasonOfOrder 122 = .ok (.goto 4, 3) := dk_167 0 4 (dk_at dksX4_reasonOfOrder_5 4 rfl rfl)
theorem dX4_reasonOfOrder_125 : decode cX4_reasonOfOrder 125 = .ok (.iconst 0, 1) := dk_3 (dk_at dksX4_reasonOfOrder_5 7 rfl rfl)
theorem dX4_reasonOfOrder_126 : decode cX4_reasonOfOrder 126 = .ok (.ireturn, 1) := dk_172 (dk_at dksX4_reasonOfOrder_5 8 rfl rfl)
theorem dX4_reasonOfOrder_127 : decode cX4_reasonOfOrder 127 = .ok (.aload_n 0, 1) := dk_42 (dk_at dksX4_reasonOfOrder_5 9 rfl rfl)
theorem dX4_reasonOfOrder_128 : decode cX4_reasonOfOrder 128 = .ok (.aload_n 0, 1) := dk_42 (dk_at dksX4_reasonOfOrder_5 10 rfl rfl)
theorem dX4_reasonOfOrder_129 : decode cX4_reasonOfOrder 129 = .ok (.getfield 254, 3) := dk_180 0 254 (dk_at dksX4_reasonOfOrder_5 11 rfl rfl)
theorem dX4_reasonOfOrder_132 : decode cX4_reasonOfOrder 132 = .ok (.invokevirtual 213, 3) := dk_182 0 213 (dk_at dksX4_reasonOfOrder_5 14 rfl rfl)
theorem dX4_reasonOfOrder_135 : decode cX4_reasonOfOrder 135 = .ok (.ifCond .eq 7, 3) := dk_153 0 7 (dk_at dksX4_reasonOfOrder_5 17 rfl rfl)
theorem dX4_reasonOfOrder_138 : decode cX4_reasonOfOrder 138 = .ok (.iconst 3, 1) := dk_6 (dk_at dksX4_reasonOfOrder_5 20 rfl rfl)
theorem dX4_reasonOfOrder_139 : decode cX4_reasonOfOrder 139 = .ok (.goto 4, 3) := dk_167 0 4 (dk_at dksX4_reasonOfOrder_5 21 rfl rfl)
theorem dX4_reasonOfOrder_142 : decode cX4_reasonOfOrder 142 = .ok (.iconst 0, 1) := dk_3 (dk_at dksX4_reasonOfOrder_6 0 rfl rfl)
theorem dX4_reasonOfOrder_143 : decode cX4_reasonOfOrder 143 = .ok (.ireturn, 1) := dk_172 (dk_at dksX4_reasonOfOrder_6 1 rfl rfl)
theorem dX4_reasonOfOrder_144 : decode cX4_reasonOfOrder 144 = .ok (.aload_n 0, 1) := dk_42 (dk_at dksX4_reasonOfOrder_6 2 rfl rfl)
theorem dX4_reasonOfOrder_145 : decode cX4_reasonOfOrder 145 = .ok (.getfield 7, 3) := dk_180 0 7 (dk_at dksX4_reasonOfOrder_6 3 rfl rfl)
theorem dX4_reasonOfOrder_148 : decode cX4_reasonOfOrder 148 = .ok (.bipush 6, 2) := dk_16 6 (dk_at dksX4_reasonOfOrder_6 6 rfl rfl)
theorem dX4_reasonOfOrder_150 : decode cX4_reasonOfOrder 150 = .ok (.iaload, 1) := dk_46 (dk_at dksX4_reasonOfOrder_6 8 rfl rfl)
theorem dX4_reasonOfOrder_151 : decode cX4_reasonOfOrder 151 = .ok (.ifCond .ne 7, 3) := dk_154 0 7 (dk_at dksX4_reasonOfOrder_6 9 rfl rfl)
theorem dX4_reasonOfOrder_154 : decode cX4_reasonOfOrder 154 = .ok (.iconst 3, 1) := dk_6 (dk_at dksX4_reasonOfOrder_6 12 rfl rfl)
theorem dX4_reasonOfOrder_155 : decode cX4_reasonOfOrder 155 = .ok (.goto 4, 3) := dk_167 0 4 (dk_at dksX4_reasonOfOrder_6 13 rfl rfl)
theorem dX4_reasonOfOrder_158 : decode cX4_reasonOfOrder 158 = .ok (.iconst 0, 1) := dk_3 (dk_at dksX4_reasonOfOrder_6 16 rfl rfl)
theorem dX4_reasonOfOrder_159 : decode cX4_reasonOfOrder 159 = .ok (.ireturn, 1) := dk_172 (dk_at dksX4_reasonOfOrder_6 17 rfl rfl)
abbrev cX4_does : ByteArray := prog_20_method_78_code
def yX4_does : MethodName := ⟨RX4, "does", "()V"⟩
def dkwX4_does_4 : List UInt8 := [182, 0, 153, 60, 177]
abbrev dktX4_does_4 : List UInt8 := dkwX4_does_4 ++ []
def dkwX4_does_3 : List UInt8 := [167, 0, 28, 42, 180, 0, 251, 16, 112, 160, 0, 14, 42, 42, 180, 0, 254, 182, 0, 216, 167, 0, 8, 42]
abbrev dktX4_does_3 : List UInt8 := dkwX4_does_3 ++ dktX4_does_4
def dkwX4_does_2 : List UInt8 := [167, 0, 50, 42, 180, 0, 251, 16, 115, 160, 0, 16, 42, 42, 180, 0, 254, 3, 182, 0, 124, 60]
abbrev dktX4_does_2 : List UInt8 := dkwX4_does_2 ++ dktX4_does_3
def dkwX4_does_1 : List UInt8 := [5, 42, 180, 0, 254, 104, 96, 4, 96, 42, 180, 0, 251, 16, 111, 160, 0, 7, 4, 167, 0, 4, 3, 79]
abbrev dktX4_does_1 : List UInt8 := dkwX4_does_1 ++ dktX4_does_2
def dkwX4_does_0 : List UInt8 := [42, 180, 0, 251, 16, 111, 159, 0, 12, 42, 180, 0, 251, 16, 99, 160, 0, 36, 42, 180, 0, 7, 16, 87]
abbrev dktX4_does_0 : List UInt8 := dkwX4_does_0 ++ dktX4_does_1
theorem dksX4_does_0 : cX4_does.data.toList.drop 0 = dktX4_does_0 := by decide +kernel
theorem dksX4_does_1 : cX4_does.data.toList.drop 24 = dktX4_does_1 := dk_seg dksX4_does_0 24 rfl rfl
theorem dksX4_does_2 : cX4_does.data.toList.drop 48 = dktX4_does_2 := dk_seg dksX4_does_1 24 rfl rfl
theorem dksX4_does_3 : cX4_does.data.toList.drop 70 = dktX4_does_3 := dk_seg dksX4_does_2 22 rfl rfl
theorem dksX4_does_4 : cX4_does.data.toList.drop 94 = dktX4_does_4 := dk_seg dksX4_does_3 24 rfl rfl
theorem dX4_does_0 : decode cX4_does 0 = .ok (.aload_n 0, 1) := dk_42 (dk_at dksX4_does_0 0 rfl rfl)
theorem dX4_does_1 : decode cX4_does 1 = .ok (.getfield 251, 3) := dk_180 0 251 (dk_at dksX4_does_0 1 rfl rfl)
theorem dX4_does_4 : decode cX4_does 4 = .ok (.bipush 111, 2) := dk_16 111 (dk_at dksX4_does_0 4 rfl rfl)
theorem dX4_does_6 : decode cX4_does 6 = .ok (.if_icmp .eq 12, 3) := dk_159 0 12 (dk_at dksX4_does_0 6 rfl rfl)
theorem dX4_does_9 : decode cX4_does 9 = .ok (.aload_n 0, 1) := dk_42 (dk_at dksX4_does_0 9 rfl rfl)
theorem dX4_does_10 : decode cX4_does 10 = .ok (.getfield 251, 3) := dk_180 0 251 (dk_at dksX4_does_0 10 rfl rfl)
theorem dX4_does_13 : decode cX4_does 13 = .ok (.bipush 99, 2) := dk_16 99 (dk_at dksX4_does_0 13 rfl rfl)
theorem dX4_does_15 : decode cX4_does 15 = .ok (.if_icmp .ne 36, 3) := dk_160 0 36 (dk_at dksX4_does_0 15 rfl rfl)
theorem dX4_does_18 : decode cX4_does 18 = .ok (.aload_n 0, 1) := dk_42 (dk_at dksX4_does_0 18 rfl rfl)
theorem dX4_does_19 : decode cX4_does 19 = .ok (.getfield 7, 3) := dk_180 0 7 (dk_at dksX4_does_0 19 rfl rfl)
theorem dX4_does_22 : decode cX4_does 22 = .ok (.bipush 87, 2) := dk_16 87 (dk_at dksX4_does_0 22 rfl rfl)
theorem dX4_does_24 : decode cX4_does 24 = .ok (.iconst 2, 1) := dk_5 (dk_at dksX4_does_1 0 rfl rfl)
theorem dX4_does_25 : decode cX4_does 25 = .ok (.aload_n 0, 1) := dk_42 (dk_at dksX4_does_1 1 rfl rfl)
theorem dX4_does_26 : decode cX4_does 26 = .ok (.getfield 254, 3) := dk_180 0 254 (dk_at dksX4_does_1 2 rfl rfl)
theorem dX4_does_29 : decode cX4_does 29 = .ok (.imul, 1) := dk_104 (dk_at dksX4_does_1 5 rfl rfl)
theorem dX4_does_30 : decode cX4_does 30 = .ok (.iadd, 1) := dk_96 (dk_at dksX4_does_1 6 rfl rfl)
theorem dX4_does_31 : decode cX4_does 31 = .ok (.iconst 1, 1) := dk_4 (dk_at dksX4_does_1 7 rfl rfl)
theorem dX4_does_32 : decode cX4_does 32 = .ok (.iadd, 1) := dk_96 (dk_at dksX4_does_1 8 rfl rfl)
theorem dX4_does_33 : decode cX4_does 33 = .ok (.aload_n 0, 1) := dk_42 (dk_at dksX4_does_1 9 rfl rfl)
theorem dX4_does_34 : decode cX4_does 34 = .ok (.getfield 251, 3) := dk_180 0 251 (dk_at dksX4_does_1 10 rfl rfl)
theorem dX4_does_37 : decode cX4_does 37 = .ok (.bipush 111, 2) := dk_16 111 (dk_at dksX4_does_1 13 rfl rfl)
theorem dX4_does_39 : decode cX4_does 39 = .ok (.if_icmp .ne 7, 3) := dk_160 0 7 (dk_at dksX4_does_1 15 rfl rfl)
theorem dX4_does_42 : decode cX4_does 42 = .ok (.iconst 1, 1) := dk_4 (dk_at dksX4_does_1 18 rfl rfl)
theorem dX4_does_43 : decode cX4_does 43 = .ok (.goto 4, 3) := dk_167 0 4 (dk_at dksX4_does_1 19 rfl rfl)
theorem dX4_does_46 : decode cX4_does 46 = .ok (.iconst 0, 1) := dk_3 (dk_at dksX4_does_1 22 rfl rfl)
theorem dX4_does_47 : decode cX4_does 47 = .ok (.iastore, 1) := dk_79 (dk_at dksX4_does_1 23 rfl rfl)
theorem dX4_does_48 : decode cX4_does 48 = .ok (.goto 50, 3) := dk_167 0 50 (dk_at dksX4_does_2 0 rfl rfl)
theorem dX4_does_51 : decode cX4_does 51 = .ok (.aload_n 0, 1) := dk_42 (dk_at dksX4_does_2 3 rfl rfl)
theorem dX4_does_52 : decode cX4_does 52 = .ok (.getfield 251, 3) := dk_180 0 251 (dk_at dksX4_does_2 4 rfl rfl)
theorem dX4_does_55 : decode cX4_does 55 = .ok (.bipush 115, 2) := dk_16 115 (dk_at dksX4_does_2 7 rfl rfl)
theorem dX4_does_57 : decode cX4_does 57 = .ok (.if_icmp .ne 16, 3) := dk_160 0 16 (dk_at dksX4_does_2 9 rfl rfl)
theorem dX4_does_60 : decode cX4_does 60 = .ok (.aload_n 0, 1) := dk_42 (dk_at dksX4_does_2 12 rfl rfl)
theorem dX4_does_61 : decode cX4_does 61 = .ok (.aload_n 0, 1) := dk_42 (dk_at dksX4_does_2 13 rfl rfl)
theorem dX4_does_62 : decode cX4_does 62 = .ok (.getfield 254, 3) := dk_180 0 254 (dk_at dksX4_does_2 14 rfl rfl)
theorem dX4_does_65 : decode cX4_does 65 = .ok (.iconst 0, 1) := dk_3 (dk_at dksX4_does_2 17 rfl rfl)
theorem dX4_does_66 : decode cX4_does 66 = .ok (.invokevirtual 124, 3) := dk_182 0 124 (dk_at dksX4_does_2 18 rfl rfl)
theorem dX4_does_69 : decode cX4_does 69 = .ok (.istore_n 1, 1) := dk_60 (dk_at dksX4_does_2 21 rfl rfl)
theorem dX4_does_70 : decode cX4_does 70 = .ok (.goto 28, 3) := dk_167 0 28 (dk_at dksX4_does_3 0 rfl rfl)
theorem dX4_does_73 : decode cX4_does 73 = .ok (.aload_n 0, 1) := dk_42 (dk_at dksX4_does_3 3 rfl rfl)
theorem dX4_does_74 : decode cX4_does 74 = .ok (.getfield 251, 3) := dk_180 0 251 (dk_at dksX4_does_3 4 rfl rfl)
theorem dX4_does_77 : decode cX4_does 77 = .ok (.bipush 112, 2) := dk_16 112 (dk_at dksX4_does_3 7 rfl rfl)
theorem dX4_does_79 : decode cX4_does 79 = .ok (.if_icmp .ne 14, 3) := dk_160 0 14 (dk_at dksX4_does_3 9 rfl rfl)
theorem dX4_does_82 : decode cX4_does 82 = .ok (.aload_n 0, 1) := dk_42 (dk_at dksX4_does_3 12 rfl rfl)
theorem dX4_does_83 : decode cX4_does 83 = .ok (.aload_n 0, 1) := dk_42 (dk_at dksX4_does_3 13 rfl rfl)
theorem dX4_does_84 : decode cX4_does 84 = .ok (.getfield 254, 3) := dk_180 0 254 (dk_at dksX4_does_3 14 rfl rfl)
theorem dX4_does_87 : decode cX4_does 87 = .ok (.invokevirtual 216, 3) := dk_182 0 216 (dk_at dksX4_does_3 17 rfl rfl)
theorem dX4_does_90 : decode cX4_does 90 = .ok (.goto 8, 3) := dk_167 0 8 (dk_at dksX4_does_3 20 rfl rfl)
theorem dX4_does_93 : decode cX4_does 93 = .ok (.aload_n 0, 1) := dk_42 (dk_at dksX4_does_3 23 rfl rfl)
theorem dX4_does_94 : decode cX4_does 94 = .ok (.invokevirtual 153, 3) := dk_182 0 153 (dk_at dksX4_does_4 0 rfl rfl)
theorem dX4_does_97 : decode cX4_does 97 = .ok (.istore_n 1, 1) := dk_60 (dk_at dksX4_does_4 3 rfl rfl)
theorem dX4_does_98 : decode cX4_does 98 = .ok (.return_, 1) := dk_177 (dk_at dksX4_does_4 4 rfl rfl)
abbrev cX4_play : ByteArray := prog_20_method_82_code
def yX4_play : MethodName := ⟨RX4, "play", "()I"⟩
def dkwX4_play_1 : List UInt8 := [180, 1, 8, 172]
abbrev dktX4_play_1 : List UInt8 := dkwX4_play_1 ++ []
def dkwX4_play_0 : List UInt8 := [42, 182, 1, 27, 42, 180, 1, 5, 153, 0, 6, 18, 123, 172, 42, 182, 0, 63, 42, 182, 1, 24, 42]
abbrev dktX4_play_0 : List UInt8 := dkwX4_play_0 ++ dktX4_play_1
theorem dksX4_play_0 : cX4_play.data.toList.drop 0 = dktX4_play_0 := by decide +kernel
theorem dksX4_play_1 : cX4_play.data.toList.drop 23 = dktX4_play_1 := dk_seg dksX4_play_0 23 rfl rfl
theorem dX4_play_0 : decode cX4_play 0 = .ok (.aload_n 0, 1) := dk_42 (dk_at dksX4_play_0 0 rfl rfl)
theorem dX4_play_1 : decode cX4_play 1 = .ok (.invokevirtual 283, 3) := dk_182 1 27 (dk_at dksX4_play_0 1 rfl rfl)
theorem dX4_play_4 : decode cX4_play 4 = .ok (.aload_n 0, 1) := dk_42 (dk_at dksX4_play_0 4 rfl rfl)
theorem dX4_play_5 : decode cX4_play 5 = .ok (.getfield 261, 3) := dk_180 1 5 (dk_at dksX4_play_0 5 rfl rfl)
theorem dX4_play_8 : decode cX4_play 8 = .ok (.ifCond .eq 6, 3) := dk_153 0 6 (dk_at dksX4_play_0 8 rfl rfl)
theorem dX4_play_11 : decode cX4_play 11 = .ok (.ldc 123, 2) := dk_18 123 (dk_at dksX4_play_0 11 rfl rfl)
theorem dX4_play_13 : decode cX4_play 13 = .ok (.ireturn, 1) := dk_172 (dk_at dksX4_play_0 13 rfl rfl)
theorem dX4_play_14 : decode cX4_play 14 = .ok (.aload_n 0, 1) := dk_42 (dk_at dksX4_play_0 14 rfl rfl)
theorem dX4_play_15 : decode cX4_play 15 = .ok (.invokevirtual 63, 3) := dk_182 0 63 (dk_at dksX4_play_0 15 rfl rfl)
theorem dX4_play_18 : decode cX4_play 18 = .ok (.aload_n 0, 1) := dk_42 (dk_at dksX4_play_0 18 rfl rfl)
theorem dX4_play_19 : decode cX4_play 19 = .ok (.invokevirtual 280, 3) := dk_182 1 24 (dk_at dksX4_play_0 19 rfl rfl)
theorem dX4_play_22 : decode cX4_play 22 = .ok (.aload_n 0, 1) := dk_42 (dk_at dksX4_play_0 22 rfl rfl)
theorem dX4_play_23 : decode cX4_play 23 = .ok (.getfield 264, 3) := dk_180 1 8 (dk_at dksX4_play_1 0 rfl rfl)
theorem dX4_play_26 : decode cX4_play 26 = .ok (.ireturn, 1) := dk_172 (dk_at dksX4_play_1 3 rfl rfl)
theorem q113 : (Jvm.Cond.initialized "FieldPumpsModel") ∈ lw_all := lw_g (lw_at lw_m1 18 rfl) rfl
theorem q710 : (Jvm.Cond.selects "FieldPumpsModel" ({ cls := "java/lang/Object", name := "getClass", desc := "()Ljava/lang/Class;" } : Jvm.MethodName) ({ cls := "java/lang/Object", name := "getClass", desc := "()Ljava/lang/Class;" } : Jvm.MethodName)) ∈ lw_all := lw_g (lw_at lw_m3 135 rfl) rfl
theorem q2003 : (Jvm.Cond.instantiable "FieldPumpsModel" (13 : Nat)) ∈ lw_all := lw_g (lw_at lw_m8 228 rfl) rfl
theorem q2005 : (Jvm.Cond.instanceMethod ({ cls := "FieldPumpsModel", name := "<init>", desc := "()V" } : Jvm.MethodName)) ∈ lw_all := lw_g (lw_at lw_m8 230 rfl) rfl
theorem q2006 : (Jvm.Cond.code ({ cls := "FieldPumpsModel", name := "<init>", desc := "()V" } : Jvm.MethodName) prog_20_method_1_code (2 : Nat) (Option.none : Option Jvm.ClassFile.FieldType)) ∈ lw_all := lw_g (lw_at lw_m8 231 rfl) rfl
theorem q2007 : (Jvm.Cond.methodLink "FieldPumpsModel" (1 : Nat) ({ cls := "java/lang/Object", name := "<init>", desc := "()V" } : Jvm.MethodName)) ∈ lw_all := lw_g (lw_at lw_m8 232 rfl) rfl
theorem q2008 : (Jvm.Cond.methodLink "FieldPumpsModel" (22 : Nat) ({ cls := "FieldPumpsModel", name := "firstOf", desc := "(I)I" } : Jvm.MethodName)) ∈ lw_all := lw_g (lw_at lw_m8 233 rfl) rfl
theorem q2009 : (Jvm.Cond.static ({ cls := "FieldPumpsModel", name := "firstOf", desc := "(I)I" } : Jvm.MethodName)) ∈ lw_all := lw_g (lw_at lw_m8 234 rfl) rfl
theorem q2010 : (Jvm.Cond.code ({ cls := "FieldPumpsModel", name := "firstOf", desc := "(I)I" } : Jvm.MethodName) prog_20_method_4_code (1 : Nat) (Option.some Jvm.ClassFile.FieldType.int)) ∈ lw_all := lw_g (lw_at lw_m8 235 rfl) rfl
theorem q2011 : (Jvm.Cond.fieldLink "FieldPumpsModel" (7 : Nat) "FieldPumpsModel" "all" "[I") ∈ lw_all := lw_g (lw_at lw_m8 236 rfl) rfl
theorem q2012 : (Jvm.Cond.fieldLink "FieldPumpsModel" (13 : Nat) "FieldPumpsModel" "saved" "[I") ∈ lw_all := lw_g (lw_at lw_m8 237 rfl) rfl
theorem q2013 : (Jvm.Cond.fieldLink "FieldPumpsModel" (54 : Nat) "FieldPumpsModel" "savedMany" "I") ∈ lw_all := lw_g (lw_at lw_m8 238 rfl) rfl
theorem q2014 : (Jvm.Cond.fieldLink "FieldPumpsModel" (16 : Nat) "FieldPumpsModel" "aside" "[I") ∈ lw_all := lw_g (lw_at lw_m8 239 rfl) rfl
theorem q2015 : (Jvm.Cond.fieldLink "FieldPumpsModel" (102 : Nat) "FieldPumpsModel" "seen" "I") ∈ lw_all := lw_g (lw_at lw_m9 0 rfl) rfl
theorem q2016 : (Jvm.Cond.fieldLink "FieldPumpsModel" (19 : Nat) "FieldPumpsModel" "text" "[I") ∈ lw_all := lw_g (lw_at lw_m9 1 rfl) rfl
theorem q2017 : (Jvm.Cond.fieldLink "FieldPumpsModel" (234 : Nat) "FieldPumpsModel" "textLong" "I") ∈ lw_all := lw_g (lw_at lw_m9 2 rfl) rfl
theorem q2018 : (Jvm.Cond.fieldLink "FieldPumpsModel" (245 : Nat) "FieldPumpsModel" "place" "I") ∈ lw_all := lw_g (lw_at lw_m9 3 rfl) rfl
theorem q2019 : (Jvm.Cond.fieldLink "FieldPumpsModel" (251 : Nat) "FieldPumpsModel" "order" "I") ∈ lw_all := lw_g (lw_at lw_m9 4 rfl) rfl
theorem q2020 : (Jvm.Cond.fieldLink "FieldPumpsModel" (254 : Nat) "FieldPumpsModel" "number" "I") ∈ lw_all := lw_g (lw_at lw_m9 5 rfl) rfl
theorem q2021 : (Jvm.Cond.fieldLink "FieldPumpsModel" (267 : Nat) "FieldPumpsModel" "faultAt" "I") ∈ lw_all := lw_g (lw_at lw_m9 6 rfl) rfl
theorem q2022 : (Jvm.Cond.fieldLink "FieldPumpsModel" (261 : Nat) "FieldPumpsModel" "faultReason" "I") ∈ lw_all := lw_g (lw_at lw_m9 7 rfl) rfl
theorem q2023 : (Jvm.Cond.fieldLink "FieldPumpsModel" (264 : Nat) "FieldPumpsModel" "done" "I") ∈ lw_all := lw_g (lw_at lw_m9 8 rfl) rfl
theorem q2024 : (Jvm.Cond.laysFinal "FieldPumpsModel" "FieldPumpsModel" "all" "[I") ∈ lw_all := lw_g (lw_at lw_m9 9 rfl) rfl
theorem q2025 : (Jvm.Cond.soleField "FieldPumpsModel" "all") ∈ lw_all := lw_g (lw_at lw_m9 10 rfl) rfl
theorem q2026 : (Jvm.Cond.laysFinal "FieldPumpsModel" "FieldPumpsModel" "saved" "[I") ∈ lw_all := lw_g (lw_at lw_m9 11 rfl) rfl
theorem q2027 : (Jvm.Cond.soleField "FieldPumpsModel" "saved") ∈ lw_all := lw_g (lw_at lw_m9 12 rfl) rfl
theorem q2028 : (Jvm.Cond.lays "FieldPumpsModel" "FieldPumpsModel" "savedMany" "I") ∈ lw_all := lw_g (lw_at lw_m9 13 rfl) rfl
theorem q2029 : (Jvm.Cond.soleField "FieldPumpsModel" "savedMany") ∈ lw_all := lw_g (lw_at lw_m9 14 rfl) rfl
theorem q2030 : (Jvm.Cond.laysFinal "FieldPumpsModel" "FieldPumpsModel" "aside" "[I") ∈ lw_all := lw_g (lw_at lw_m9 15 rfl) rfl
theorem q2031 : (Jvm.Cond.soleField "FieldPumpsModel" "aside") ∈ lw_all := lw_g (lw_at lw_m9 16 rfl) rfl
theorem q2032 : (Jvm.Cond.lays "FieldPumpsModel" "FieldPumpsModel" "seen" "I") ∈ lw_all := lw_g (lw_at lw_m9 17 rfl) rfl
theorem q2033 : (Jvm.Cond.soleField "FieldPumpsModel" "seen") ∈ lw_all := lw_g (lw_at lw_m9 18 rfl) rfl
theorem q2034 : (Jvm.Cond.laysFinal "FieldPumpsModel" "FieldPumpsModel" "text" "[I") ∈ lw_all := lw_g (lw_at lw_m9 19 rfl) rfl
theorem q2035 : (Jvm.Cond.soleField "FieldPumpsModel" "text") ∈ lw_all := lw_g (lw_at lw_m9 20 rfl) rfl
theorem q2036 : (Jvm.Cond.lays "FieldPumpsModel" "FieldPumpsModel" "textLong" "I") ∈ lw_all := lw_g (lw_at lw_m9 21 rfl) rfl
theorem q2037 : (Jvm.Cond.soleField "FieldPumpsModel" "textLong") ∈ lw_all := lw_g (lw_at lw_m9 22 rfl) rfl
theorem q2038 : (Jvm.Cond.lays "FieldPumpsModel" "FieldPumpsModel" "place" "I") ∈ lw_all := lw_g (lw_at lw_m9 23 rfl) rfl
theorem q2039 : (Jvm.Cond.soleField "FieldPumpsModel" "place") ∈ lw_all := lw_g (lw_at lw_m9 24 rfl) rfl
theorem q2040 : (Jvm.Cond.lays "FieldPumpsModel" "FieldPumpsModel" "order" "I") ∈ lw_all := lw_g (lw_at lw_m9 25 rfl) rfl
theorem q2041 : (Jvm.Cond.soleField "FieldPumpsModel" "order") ∈ lw_all := lw_g (lw_at lw_m9 26 rfl) rfl
theorem q2042 : (Jvm.Cond.lays "FieldPumpsModel" "FieldPumpsModel" "number" "I") ∈ lw_all := lw_g (lw_at lw_m9 27 rfl) rfl
theorem q2043 : (Jvm.Cond.soleField "FieldPumpsModel" "number") ∈ lw_all := lw_g (lw_at lw_m9 28 rfl) rfl
theorem q2044 : (Jvm.Cond.lays "FieldPumpsModel" "FieldPumpsModel" "faultAt" "I") ∈ lw_all := lw_g (lw_at lw_m9 29 rfl) rfl
theorem q2045 : (Jvm.Cond.soleField "FieldPumpsModel" "faultAt") ∈ lw_all := lw_g (lw_at lw_m9 30 rfl) rfl
theorem q2046 : (Jvm.Cond.lays "FieldPumpsModel" "FieldPumpsModel" "faultReason" "I") ∈ lw_all := lw_g (lw_at lw_m9 31 rfl) rfl
theorem q2047 : (Jvm.Cond.soleField "FieldPumpsModel" "faultReason") ∈ lw_all := lw_g (lw_at lw_m9 32 rfl) rfl
theorem q2048 : (Jvm.Cond.lays "FieldPumpsModel" "FieldPumpsModel" "done" "I") ∈ lw_all := lw_g (lw_at lw_m9 33 rfl) rfl
theorem q2049 : (Jvm.Cond.soleField "FieldPumpsModel" "done") ∈ lw_all := lw_g (lw_at lw_m9 34 rfl) rfl
theorem q2050 : (Jvm.Cond.superclass "FieldPumpsModel" "java/lang/Object") ∈ lw_all := lw_g (lw_at lw_m9 35 rfl) rfl
theorem q2052 : (Jvm.Cond.instanceMethod ({ cls := "FieldPumpsModel", name := "set", desc := "(II)I" } : Jvm.MethodName)) ∈ lw_all := lw_g (lw_at lw_m9 37 rfl) rfl
theorem q2053 : (Jvm.Cond.selects "FieldPumpsModel" ({ cls := "FieldPumpsModel", name := "set", desc := "(II)I" } : Jvm.MethodName) ({ cls := "FieldPumpsModel", name := "set", desc := "(II)I" } : Jvm.MethodName)) ∈ lw_all := lw_g (lw_at lw_m9 38 rfl) rfl
theorem q2054 : (Jvm.Cond.code ({ cls := "FieldPumpsModel", name := "set", desc := "(II)I" } : Jvm.MethodName) prog_20_method_8_code (4 : Nat) (Option.some Jvm.ClassFile.FieldType.int)) ∈ lw_all := lw_g (lw_at lw_m9 39 rfl) rfl
theorem q2055 : (Jvm.Cond.methodLink "FieldPumpsModel" (58 : Nat) ({ cls := "FieldPumpsModel", name := "isSetting", desc := "(II)Z" } : Jvm.MethodName)) ∈ lw_all := lw_g (lw_at lw_m9 40 rfl) rfl
theorem q2056 : (Jvm.Cond.static ({ cls := "FieldPumpsModel", name := "isSetting", desc := "(II)Z" } : Jvm.MethodName)) ∈ lw_all := lw_g (lw_at lw_m9 41 rfl) rfl
theorem q2057 : (Jvm.Cond.code ({ cls := "FieldPumpsModel", name := "isSetting", desc := "(II)Z" } : Jvm.MethodName) prog_20_method_5_code (2 : Nat) (Option.some Jvm.ClassFile.FieldType.boolean)) ∈ lw_all := lw_g (lw_at lw_m9 42 rfl) rfl
theorem q2058 : (Jvm.Cond.constantLong "FieldPumpsModel" (26 : Nat) (100 : Int64)) ∈ lw_all := lw_g (lw_at lw_m9 43 rfl) rfl
theorem q2059 : (Jvm.Cond.constantLong "FieldPumpsModel" (28 : Nat) (900 : Int64)) ∈ lw_all := lw_g (lw_at lw_m9 44 rfl) rfl
theorem q2060 : (Jvm.Cond.methodLink "FieldPumpsModel" (30 : Nat) ({ cls := "FieldPumpsModel", name := "in", desc := "(JJJ)Z" } : Jvm.MethodName)) ∈ lw_all := lw_g (lw_at lw_m9 45 rfl) rfl
theorem q2061 : (Jvm.Cond.static ({ cls := "FieldPumpsModel", name := "in", desc := "(JJJ)Z" } : Jvm.MethodName)) ∈ lw_all := lw_g (lw_at lw_m9 46 rfl) rfl
theorem q2062 : (Jvm.Cond.code ({ cls := "FieldPumpsModel", name := "in", desc := "(JJJ)Z" } : Jvm.MethodName) prog_20_method_3_code (6 : Nat) (Option.some Jvm.ClassFile.FieldType.boolean)) ∈ lw_all := lw_g (lw_at lw_m9 47 rfl) rfl
theorem q2063 : (Jvm.Cond.constantLong "FieldPumpsModel" (34 : Nat) (500 : Int64)) ∈ lw_all := lw_g (lw_at lw_m9 48 rfl) rfl
theorem q2064 : (Jvm.Cond.constantLong "FieldPumpsModel" (36 : Nat) (300 : Int64)) ∈ lw_all := lw_g (lw_at lw_m9 49 rfl) rfl
theorem q2065 : (Jvm.Cond.constantLong "FieldPumpsModel" (38 : Nat) (60 : Int64)) ∈ lw_all := lw_g (lw_at lw_m9 50 rfl) rfl
theorem q2066 : (Jvm.Cond.constantLong "FieldPumpsModel" (40 : Nat) (1000 : Int64)) ∈ lw_all := lw_g (lw_at lw_m9 51 rfl) rfl
theorem q2067 : (Jvm.Cond.constantLong "FieldPumpsModel" (42 : Nat) (200 : Int64)) ∈ lw_all := lw_g (lw_at lw_m9 52 rfl) rfl
theorem q2068 : (Jvm.Cond.constantLong "FieldPumpsModel" (44 : Nat) (10000 : Int64)) ∈ lw_all := lw_g (lw_at lw_m9 53 rfl) rfl
theorem q2069 : (Jvm.Cond.constantLong "FieldPumpsModel" (46 : Nat) (1439 : Int64)) ∈ lw_all := lw_g (lw_at lw_m9 54 rfl) rfl
theorem q2070 : (Jvm.Cond.constantLong "FieldPumpsModel" (48 : Nat) (600 : Int64)) ∈ lw_all := lw_g (lw_at lw_m9 55 rfl) rfl
theorem q2071 : (Jvm.Cond.constantLong "FieldPumpsModel" (50 : Nat) (100000 : Int64)) ∈ lw_all := lw_g (lw_at lw_m9 56 rfl) rfl
theorem q2072 : (Jvm.Cond.constantLong "FieldPumpsModel" (52 : Nat) (1440 : Int64)) ∈ lw_all := lw_g (lw_at lw_m9 57 rfl) rfl
theorem q2073 : (Jvm.Cond.constant "FieldPumpsModel" (62 : Nat) (-1000001 : Int32)) ∈ lw_all := lw_g (lw_at lw_m9 58 rfl) rfl
theorem q2074 : (Jvm.Cond.methodLink "FieldPumpsModel" (63 : Nat) ({ cls := "FieldPumpsModel", name := "save", desc := "()V" } : Jvm.MethodName)) ∈ lw_all := lw_g (lw_at lw_m9 59 rfl) rfl
theorem q2075 : (Jvm.Cond.privateMethod ({ cls := "FieldPumpsModel", name := "save", desc := "()V" } : Jvm.MethodName)) ∈ lw_tbl := lw_at lw_m9 60 rfl
theorem q2076 : (Jvm.Cond.instanceMethod ({ cls := "FieldPumpsModel", name := "save", desc := "()V" } : Jvm.MethodName)) ∈ lw_all := lw_g (lw_at lw_m9 61 rfl) rfl
theorem q2077 : (Jvm.Cond.code ({ cls := "FieldPumpsModel", name := "save", desc := "()V" } : Jvm.MethodName) prog_20_method_7_code (2 : Nat) (Option.none : Option Jvm.ClassFile.FieldType)) ∈ lw_all := lw_g (lw_at lw_m9 62 rfl) rfl
theorem q2078 : (Jvm.Cond.methodLink "FieldPumpsModel" (66 : Nat) ({ cls := "FieldPumpsModel", name := "setting", desc := "(I)I" } : Jvm.MethodName)) ∈ lw_all := lw_g (lw_at lw_m9 63 rfl) rfl
theorem q2079 : (Jvm.Cond.privateMethod ({ cls := "FieldPumpsModel", name := "setting", desc := "(I)I" } : Jvm.MethodName)) ∈ lw_tbl := lw_at lw_m9 64 rfl
theorem q2080 : (Jvm.Cond.instanceMethod ({ cls := "FieldPumpsModel", name := "setting", desc := "(I)I" } : Jvm.MethodName)) ∈ lw_all := lw_g (lw_at lw_m9 65 rfl) rfl
theorem q2081 : (Jvm.Cond.code ({ cls := "FieldPumpsModel", name := "setting", desc := "(I)I" } : Jvm.MethodName) prog_20_method_6_code (2 : Nat) (Option.some Jvm.ClassFile.FieldType.int)) ∈ lw_all := lw_g (lw_at lw_m9 66 rfl) rfl
theorem q2083 : (Jvm.Cond.instanceMethod ({ cls := "FieldPumpsModel", name := "pump", desc := "(III)I" } : Jvm.MethodName)) ∈ lw_all := lw_g (lw_at lw_m9 68 rfl) rfl
theorem q2084 : (Jvm.Cond.selects "FieldPumpsModel" ({ cls := "FieldPumpsModel", name := "pump", desc := "(III)I" } : Jvm.MethodName) ({ cls := "FieldPumpsModel", name := "pump", desc := "(III)I" } : Jvm.MethodName)) ∈ lw_all := lw_g (lw_at lw_m9 69 rfl) rfl
theorem q2085 : (Jvm.Cond.code ({ cls := "FieldPumpsModel", name := "pump", desc := "(III)I" } : Jvm.MethodName) prog_20_method_12_code (6 : Nat) (Option.some Jvm.ClassFile.FieldType.int)) ∈ lw_all := lw_g (lw_at lw_m9 70 rfl) rfl
theorem q2086 : (Jvm.Cond.constantLong "FieldPumpsModel" (69 : Nat) (2 : Int64)) ∈ lw_all := lw_g (lw_at lw_m9 71 rfl) rfl
theorem q2087 : (Jvm.Cond.constantLong "FieldPumpsModel" (71 : Nat) (2000 : Int64)) ∈ lw_all := lw_g (lw_at lw_m9 72 rfl) rfl
theorem q2088 : (Jvm.Cond.constant "FieldPumpsModel" (73 : Nat) (-1000003 : Int32)) ∈ lw_all := lw_g (lw_at lw_m9 73 rfl) rfl
theorem q2089 : (Jvm.Cond.methodLink "FieldPumpsModel" (74 : Nat) ({ cls := "FieldPumpsModel", name := "put", desc := "(III)V" } : Jvm.MethodName)) ∈ lw_all := lw_g (lw_at lw_m9 74 rfl) rfl
theorem q2090 : (Jvm.Cond.privateMethod ({ cls := "FieldPumpsModel", name := "put", desc := "(III)V" } : Jvm.MethodName)) ∈ lw_tbl := lw_at lw_m9 75 rfl
theorem q2091 : (Jvm.Cond.instanceMethod ({ cls := "FieldPumpsModel", name := "put", desc := "(III)V" } : Jvm.MethodName)) ∈ lw_all := lw_g (lw_at lw_m9 76 rfl) rfl
theorem q2092 : (Jvm.Cond.code ({ cls := "FieldPumpsModel", name := "put", desc := "(III)V" } : Jvm.MethodName) prog_20_method_10_code (4 : Nat) (Option.none : Option Jvm.ClassFile.FieldType)) ∈ lw_all := lw_g (lw_at lw_m9 77 rfl) rfl
theorem q2094 : (Jvm.Cond.instanceMethod ({ cls := "FieldPumpsModel", name := "service", desc := "(II)I" } : Jvm.MethodName)) ∈ lw_all := lw_g (lw_at lw_m9 79 rfl) rfl
theorem q2095 : (Jvm.Cond.selects "FieldPumpsModel" ({ cls := "FieldPumpsModel", name := "service", desc := "(II)I" } : Jvm.MethodName) ({ cls := "FieldPumpsModel", name := "service", desc := "(II)I" } : Jvm.MethodName)) ∈ lw_all := lw_g (lw_at lw_m9 80 rfl) rfl
theorem q2096 : (Jvm.Cond.code ({ cls := "FieldPumpsModel", name := "service", desc := "(II)I" } : Jvm.MethodName) prog_20_method_26_code (3 : Nat) (Option.some Jvm.ClassFile.FieldType.int)) ∈ lw_all := lw_g (lw_at lw_m9 81 rfl) rfl
theorem q2097 : (Jvm.Cond.methodLink "FieldPumpsModel" (120 : Nat) ({ cls := "FieldPumpsModel", name := "isPump", desc := "(I)Z" } : Jvm.MethodName)) ∈ lw_all := lw_g (lw_at lw_m9 82 rfl) rfl
theorem q2098 : (Jvm.Cond.privateMethod ({ cls := "FieldPumpsModel", name := "isPump", desc := "(I)Z" } : Jvm.MethodName)) ∈ lw_tbl := lw_at lw_m9 83 rfl
theorem q2099 : (Jvm.Cond.instanceMethod ({ cls := "FieldPumpsModel", name := "isPump", desc := "(I)Z" } : Jvm.MethodName)) ∈ lw_all := lw_g (lw_at lw_m9 84 rfl) rfl
theorem q2100 : (Jvm.Cond.code ({ cls := "FieldPumpsModel", name := "isPump", desc := "(I)Z" } : Jvm.MethodName) prog_20_method_11_code (2 : Nat) (Option.some Jvm.ClassFile.FieldType.boolean)) ∈ lw_all := lw_g (lw_at lw_m9 85 rfl) rfl
theorem q2101 : (Jvm.Cond.methodLink "FieldPumpsModel" (78 : Nat) ({ cls := "FieldPumpsModel", name := "of", desc := "(II)I" } : Jvm.MethodName)) ∈ lw_all := lw_g (lw_at lw_m9 86 rfl) rfl
theorem q2102 : (Jvm.Cond.privateMethod ({ cls := "FieldPumpsModel", name := "of", desc := "(II)I" } : Jvm.MethodName)) ∈ lw_tbl := lw_at lw_m9 87 rfl
theorem q2103 : (Jvm.Cond.instanceMethod ({ cls := "FieldPumpsModel", name := "of", desc := "(II)I" } : Jvm.MethodName)) ∈ lw_all := lw_g (lw_at lw_m9 88 rfl) rfl
theorem q2104 : (Jvm.Cond.code ({ cls := "FieldPumpsModel", name := "of", desc := "(II)I" } : Jvm.MethodName) prog_20_method_9_code (3 : Nat) (Option.some Jvm.ClassFile.FieldType.int)) ∈ lw_all := lw_g (lw_at lw_m9 89 rfl) rfl
theorem q2105 : (Jvm.Cond.constant "FieldPumpsModel" (123 : Nat) (-1000002 : Int32)) ∈ lw_all := lw_g (lw_at lw_m9 90 rfl) rfl
theorem q2106 : (Jvm.Cond.methodLink "FieldPumpsModel" (124 : Nat) ({ cls := "FieldPumpsModel", name := "serves", desc := "(II)I" } : Jvm.MethodName)) ∈ lw_all := lw_g (lw_at lw_m9 91 rfl) rfl
theorem q2107 : (Jvm.Cond.privateMethod ({ cls := "FieldPumpsModel", name := "serves", desc := "(II)I" } : Jvm.MethodName)) ∈ lw_tbl := lw_at lw_m9 92 rfl
theorem q2108 : (Jvm.Cond.instanceMethod ({ cls := "FieldPumpsModel", name := "serves", desc := "(II)I" } : Jvm.MethodName)) ∈ lw_all := lw_g (lw_at lw_m9 93 rfl) rfl
theorem q2109 : (Jvm.Cond.code ({ cls := "FieldPumpsModel", name := "serves", desc := "(II)I" } : Jvm.MethodName) prog_20_method_25_code (4 : Nat) (Option.some Jvm.ClassFile.FieldType.int)) ∈ lw_all := lw_g (lw_at lw_m9 94 rfl) rfl
theorem q2110 : (Jvm.Cond.methodLink "FieldPumpsModel" (82 : Nat) ({ cls := "FieldPumpsModel", name := "runs", desc := "(I)Z" } : Jvm.MethodName)) ∈ lw_all := lw_g (lw_at lw_m9 95 rfl) rfl
theorem q2111 : (Jvm.Cond.privateMethod ({ cls := "FieldPumpsModel", name := "runs", desc := "(I)Z" } : Jvm.MethodName)) ∈ lw_tbl := lw_at lw_m9 96 rfl
theorem q2112 : (Jvm.Cond.instanceMethod ({ cls := "FieldPumpsModel", name := "runs", desc := "(I)Z" } : Jvm.MethodName)) ∈ lw_all := lw_g (lw_at lw_m9 97 rfl) rfl
theorem q2113 : (Jvm.Cond.code ({ cls := "FieldPumpsModel", name := "runs", desc := "(I)Z" } : Jvm.MethodName) prog_20_method_13_code (2 : Nat) (Option.some Jvm.ClassFile.FieldType.boolean)) ∈ lw_all := lw_g (lw_at lw_m9 98 rfl) rfl
theorem q2114 : (Jvm.Cond.methodLink "FieldPumpsModel" (116 : Nat) ({ cls := "FieldPumpsModel", name := "stop", desc := "(I)V" } : Jvm.MethodName)) ∈ lw_all := lw_g (lw_at lw_m9 99 rfl) rfl
theorem q2115 : (Jvm.Cond.privateMethod ({ cls := "FieldPumpsModel", name := "stop", desc := "(I)V" } : Jvm.MethodName)) ∈ lw_tbl := lw_at lw_m9 100 rfl
theorem q2116 : (Jvm.Cond.instanceMethod ({ cls := "FieldPumpsModel", name := "stop", desc := "(I)V" } : Jvm.MethodName)) ∈ lw_all := lw_g (lw_at lw_m9 101 rfl) rfl
theorem q2117 : (Jvm.Cond.code ({ cls := "FieldPumpsModel", name := "stop", desc := "(I)V" } : Jvm.MethodName) prog_20_method_24_code (2 : Nat) (Option.none : Option Jvm.ClassFile.FieldType)) ∈ lw_all := lw_g (lw_at lw_m9 102 rfl) rfl
theorem q2118 : (Jvm.Cond.methodLink "FieldPumpsModel" (113 : Nat) ({ cls := "FieldPumpsModel", name := "nextVariable", desc := "()I" } : Jvm.MethodName)) ∈ lw_all := lw_g (lw_at lw_m9 103 rfl) rfl
theorem q2119 : (Jvm.Cond.privateMethod ({ cls := "FieldPumpsModel", name := "nextVariable", desc := "()I" } : Jvm.MethodName)) ∈ lw_tbl := lw_at lw_m9 104 rfl
theorem q2120 : (Jvm.Cond.instanceMethod ({ cls := "FieldPumpsModel", name := "nextVariable", desc := "()I" } : Jvm.MethodName)) ∈ lw_all := lw_g (lw_at lw_m9 105 rfl) rfl
theorem q2121 : (Jvm.Cond.code ({ cls := "FieldPumpsModel", name := "nextVariable", desc := "()I" } : Jvm.MethodName) prog_20_method_23_code (4 : Nat) (Option.some Jvm.ClassFile.FieldType.int)) ∈ lw_all := lw_g (lw_at lw_m9 106 rfl) rfl
theorem q2122 : (Jvm.Cond.methodLink "FieldPumpsModel" (105 : Nat) ({ cls := "FieldPumpsModel", name := "event", desc := "(II)V" } : Jvm.MethodName)) ∈ lw_all := lw_g (lw_at lw_m9 107 rfl) rfl
theorem q2123 : (Jvm.Cond.privateMethod ({ cls := "FieldPumpsModel", name := "event", desc := "(II)V" } : Jvm.MethodName)) ∈ lw_tbl := lw_at lw_m9 108 rfl
theorem q2124 : (Jvm.Cond.instanceMethod ({ cls := "FieldPumpsModel", name := "event", desc := "(II)V" } : Jvm.MethodName)) ∈ lw_all := lw_g (lw_at lw_m9 109 rfl) rfl
theorem q2125 : (Jvm.Cond.code ({ cls := "FieldPumpsModel", name := "event", desc := "(II)V" } : Jvm.MethodName) prog_20_method_20_code (4 : Nat) (Option.none : Option Jvm.ClassFile.FieldType)) ∈ lw_all := lw_g (lw_at lw_m9 110 rfl) rfl
theorem q2127 : (Jvm.Cond.instanceMethod ({ cls := "FieldPumpsModel", name := "pumpOf", desc := "(II)I" } : Jvm.MethodName)) ∈ lw_all := lw_g (lw_at lw_m9 112 rfl) rfl
theorem q2128 : (Jvm.Cond.selects "FieldPumpsModel" ({ cls := "FieldPumpsModel", name := "pumpOf", desc := "(II)I" } : Jvm.MethodName) ({ cls := "FieldPumpsModel", name := "pumpOf", desc := "(II)I" } : Jvm.MethodName)) ∈ lw_all := lw_g (lw_at lw_m9 113 rfl) rfl
theorem q2129 : (Jvm.Cond.code ({ cls := "FieldPumpsModel", name := "pumpOf", desc := "(II)I" } : Jvm.MethodName) prog_20_method_27_code (3 : Nat) (Option.some Jvm.ClassFile.FieldType.int)) ∈ lw_all := lw_g (lw_at lw_m9 114 rfl) rfl
theorem q2130 : (Jvm.Cond.constantLong "FieldPumpsModel" (127 : Nat) (9 : Int64)) ∈ lw_all := lw_g (lw_at lw_m9 115 rfl) rfl
theorem q2131 : (Jvm.Cond.methodLink "FieldPumpsModel" (129 : Nat) ({ cls := "FieldPumpsModel", name := "flow", desc := "(III)I" } : Jvm.MethodName)) ∈ lw_all := lw_g (lw_at lw_m9 116 rfl) rfl
theorem q2132 : (Jvm.Cond.privateMethod ({ cls := "FieldPumpsModel", name := "flow", desc := "(III)I" } : Jvm.MethodName)) ∈ lw_tbl := lw_at lw_m9 117 rfl
theorem q2133 : (Jvm.Cond.instanceMethod ({ cls := "FieldPumpsModel", name := "flow", desc := "(III)I" } : Jvm.MethodName)) ∈ lw_all := lw_g (lw_at lw_m9 118 rfl) rfl
theorem q2134 : (Jvm.Cond.code ({ cls := "FieldPumpsModel", name := "flow", desc := "(III)I" } : Jvm.MethodName) prog_20_method_17_code (6 : Nat) (Option.some Jvm.ClassFile.FieldType.int)) ∈ lw_all := lw_g (lw_at lw_m9 119 rfl) rfl
theorem q2135 : (Jvm.Cond.constantLong "FieldPumpsModel" (86 : Nat) (1000000 : Int64)) ∈ lw_all := lw_g (lw_at lw_m9 120 rfl) rfl
theorem q2136 : (Jvm.Cond.methodLink "FieldPumpsModel" (88 : Nat) ({ cls := "FieldPumpsModel", name := "root", desc := "(J)I" } : Jvm.MethodName)) ∈ lw_all := lw_g (lw_at lw_m9 121 rfl) rfl
theorem q2137 : (Jvm.Cond.static ({ cls := "FieldPumpsModel", name := "root", desc := "(J)I" } : Jvm.MethodName)) ∈ lw_all := lw_g (lw_at lw_m9 122 rfl) rfl
theorem q2138 : (Jvm.Cond.code ({ cls := "FieldPumpsModel", name := "root", desc := "(J)I" } : Jvm.MethodName) prog_20_method_16_code (4 : Nat) (Option.some Jvm.ClassFile.FieldType.int)) ∈ lw_all := lw_g (lw_at lw_m9 123 rfl) rfl
theorem q2140 : (Jvm.Cond.instanceMethod ({ cls := "FieldPumpsModel", name := "curve", desc := "(III)I" } : Jvm.MethodName)) ∈ lw_all := lw_g (lw_at lw_m9 125 rfl) rfl
theorem q2141 : (Jvm.Cond.selects "FieldPumpsModel" ({ cls := "FieldPumpsModel", name := "curve", desc := "(III)I" } : Jvm.MethodName) ({ cls := "FieldPumpsModel", name := "curve", desc := "(III)I" } : Jvm.MethodName)) ∈ lw_all := lw_g (lw_at lw_m9 126 rfl) rfl
theorem q2142 : (Jvm.Cond.code ({ cls := "FieldPumpsModel", name := "curve", desc := "(III)I" } : Jvm.MethodName) prog_20_method_28_code (4 : Nat) (Option.some Jvm.ClassFile.FieldType.int)) ∈ lw_all := lw_g (lw_at lw_m9 127 rfl) rfl
theorem q2144 : (Jvm.Cond.instanceMethod ({ cls := "FieldPumpsModel", name := "readyAt", desc := "(I)I" } : Jvm.MethodName)) ∈ lw_all := lw_g (lw_at lw_m9 129 rfl) rfl
theorem q2145 : (Jvm.Cond.selects "FieldPumpsModel" ({ cls := "FieldPumpsModel", name := "readyAt", desc := "(I)I" } : Jvm.MethodName) ({ cls := "FieldPumpsModel", name := "readyAt", desc := "(I)I" } : Jvm.MethodName)) ∈ lw_all := lw_g (lw_at lw_m9 130 rfl) rfl
theorem q2146 : (Jvm.Cond.code ({ cls := "FieldPumpsModel", name := "readyAt", desc := "(I)I" } : Jvm.MethodName) prog_20_method_29_code (3 : Nat) (Option.some Jvm.ClassFile.FieldType.int)) ∈ lw_all := lw_g (lw_at lw_m9 131 rfl) rfl
theorem q2147 : (Jvm.Cond.methodLink "FieldPumpsModel" (133 : Nat) ({ cls := "FieldPumpsModel", name := "ready", desc := "(I)I" } : Jvm.MethodName)) ∈ lw_all := lw_g (lw_at lw_m9 132 rfl) rfl
theorem q2148 : (Jvm.Cond.privateMethod ({ cls := "FieldPumpsModel", name := "ready", desc := "(I)I" } : Jvm.MethodName)) ∈ lw_tbl := lw_at lw_m9 133 rfl
theorem q2149 : (Jvm.Cond.instanceMethod ({ cls := "FieldPumpsModel", name := "ready", desc := "(I)I" } : Jvm.MethodName)) ∈ lw_all := lw_g (lw_at lw_m9 134 rfl) rfl
theorem q2150 : (Jvm.Cond.code ({ cls := "FieldPumpsModel", name := "ready", desc := "(I)I" } : Jvm.MethodName) prog_20_method_19_code (5 : Nat) (Option.some Jvm.ClassFile.FieldType.int)) ∈ lw_all := lw_g (lw_at lw_m9 135 rfl) rfl
theorem q2151 : (Jvm.Cond.methodLink "FieldPumpsModel" (96 : Nat) ({ cls := "FieldPumpsModel", name := "isReady", desc := "(I)Z" } : Jvm.MethodName)) ∈ lw_all := lw_g (lw_at lw_m9 136 rfl) rfl
theorem q2152 : (Jvm.Cond.privateMethod ({ cls := "FieldPumpsModel", name := "isReady", desc := "(I)Z" } : Jvm.MethodName)) ∈ lw_tbl := lw_at lw_m9 137 rfl
theorem q2153 : (Jvm.Cond.instanceMethod ({ cls := "FieldPumpsModel", name := "isReady", desc := "(I)Z" } : Jvm.MethodName)) ∈ lw_all := lw_g (lw_at lw_m9 138 rfl) rfl
theorem q2154 : (Jvm.Cond.code ({ cls := "FieldPumpsModel", name := "isReady", desc := "(I)Z" } : Jvm.MethodName) prog_20_method_15_code (2 : Nat) (Option.some Jvm.ClassFile.FieldType.boolean)) ∈ lw_all := lw_g (lw_at lw_m9 139 rfl) rfl
theorem q2155 : (Jvm.Cond.methodLink "FieldPumpsModel" (99 : Nat) ({ cls := "FieldPumpsModel", name := "isAhead", desc := "(II)Z" } : Jvm.MethodName)) ∈ lw_all := lw_g (lw_at lw_m9 140 rfl) rfl
theorem q2156 : (Jvm.Cond.privateMethod ({ cls := "FieldPumpsModel", name := "isAhead", desc := "(II)Z" } : Jvm.MethodName)) ∈ lw_tbl := lw_at lw_m9 141 rfl
theorem q2157 : (Jvm.Cond.instanceMethod ({ cls := "FieldPumpsModel", name := "isAhead", desc := "(II)Z" } : Jvm.MethodName)) ∈ lw_all := lw_g (lw_at lw_m9 142 rfl) rfl
theorem q2158 : (Jvm.Cond.code ({ cls := "FieldPumpsModel", name := "isAhead", desc := "(II)Z" } : Jvm.MethodName) prog_20_method_18_code (5 : Nat) (Option.some Jvm.ClassFile.FieldType.boolean)) ∈ lw_all := lw_g (lw_at lw_m9 143 rfl) rfl
theorem q2159 : (Jvm.Cond.methodLink "FieldPumpsModel" (92 : Nat) ({ cls := "FieldPumpsModel", name := "running", desc := "()I" } : Jvm.MethodName)) ∈ lw_all := lw_g (lw_at lw_m9 144 rfl) rfl
theorem q2160 : (Jvm.Cond.privateMethod ({ cls := "FieldPumpsModel", name := "running", desc := "()I" } : Jvm.MethodName)) ∈ lw_tbl := lw_at lw_m9 145 rfl
theorem q2161 : (Jvm.Cond.instanceMethod ({ cls := "FieldPumpsModel", name := "running", desc := "()I" } : Jvm.MethodName)) ∈ lw_all := lw_g (lw_at lw_m9 146 rfl) rfl
theorem q2162 : (Jvm.Cond.code ({ cls := "FieldPumpsModel", name := "running", desc := "()I" } : Jvm.MethodName) prog_20_method_14_code (3 : Nat) (Option.some Jvm.ClassFile.FieldType.int)) ∈ lw_all := lw_g (lw_at lw_m9 147 rfl) rfl
theorem q2163 : (Jvm.Cond.constant "FieldPumpsModel" (136 : Nat) (-1000004 : Int32)) ∈ lw_all := lw_g (lw_at lw_m9 148 rfl) rfl
theorem q2165 : (Jvm.Cond.instanceMethod ({ cls := "FieldPumpsModel", name := "balance", desc := "()I" } : Jvm.MethodName)) ∈ lw_all := lw_g (lw_at lw_m9 150 rfl) rfl
theorem q2166 : (Jvm.Cond.selects "FieldPumpsModel" ({ cls := "FieldPumpsModel", name := "balance", desc := "()I" } : Jvm.MethodName) ({ cls := "FieldPumpsModel", name := "balance", desc := "()I" } : Jvm.MethodName)) ∈ lw_all := lw_g (lw_at lw_m9 151 rfl) rfl
theorem q2167 : (Jvm.Cond.code ({ cls := "FieldPumpsModel", name := "balance", desc := "()I" } : Jvm.MethodName) prog_20_method_30_code (4 : Nat) (Option.some Jvm.ClassFile.FieldType.int)) ∈ lw_all := lw_g (lw_at lw_m9 152 rfl) rfl
theorem q2169 : (Jvm.Cond.instanceMethod ({ cls := "FieldPumpsModel", name := "zone", desc := "(I)I" } : Jvm.MethodName)) ∈ lw_all := lw_g (lw_at lw_m9 154 rfl) rfl
theorem q2170 : (Jvm.Cond.selects "FieldPumpsModel" ({ cls := "FieldPumpsModel", name := "zone", desc := "(I)I" } : Jvm.MethodName) ({ cls := "FieldPumpsModel", name := "zone", desc := "(I)I" } : Jvm.MethodName)) ∈ lw_all := lw_g (lw_at lw_m9 155 rfl) rfl
theorem q2171 : (Jvm.Cond.code ({ cls := "FieldPumpsModel", name := "zone", desc := "(I)I" } : Jvm.MethodName) prog_20_method_33_code (3 : Nat) (Option.some Jvm.ClassFile.FieldType.int)) ∈ lw_all := lw_g (lw_at lw_m9 156 rfl) rfl
theorem q2173 : (Jvm.Cond.instanceMethod ({ cls := "FieldPumpsModel", name := "open", desc := "(II)I" } : Jvm.MethodName)) ∈ lw_all := lw_g (lw_at lw_m9 158 rfl) rfl
theorem q2174 : (Jvm.Cond.selects "FieldPumpsModel" ({ cls := "FieldPumpsModel", name := "open", desc := "(II)I" } : Jvm.MethodName) ({ cls := "FieldPumpsModel", name := "open", desc := "(II)I" } : Jvm.MethodName)) ∈ lw_all := lw_g (lw_at lw_m9 159 rfl) rfl
theorem q2175 : (Jvm.Cond.code ({ cls := "FieldPumpsModel", name := "open", desc := "(II)I" } : Jvm.MethodName) prog_20_method_35_code (3 : Nat) (Option.some Jvm.ClassFile.FieldType.int)) ∈ lw_all := lw_g (lw_at lw_m9 160 rfl) rfl
theorem q2176 : (Jvm.Cond.methodLink "FieldPumpsModel" (140 : Nat) ({ cls := "FieldPumpsModel", name := "isZone", desc := "(I)Z" } : Jvm.MethodName)) ∈ lw_all := lw_g (lw_at lw_m9 161 rfl) rfl
theorem q2177 : (Jvm.Cond.privateMethod ({ cls := "FieldPumpsModel", name := "isZone", desc := "(I)Z" } : Jvm.MethodName)) ∈ lw_tbl := lw_at lw_m9 162 rfl
theorem q2178 : (Jvm.Cond.instanceMethod ({ cls := "FieldPumpsModel", name := "isZone", desc := "(I)Z" } : Jvm.MethodName)) ∈ lw_all := lw_g (lw_at lw_m9 163 rfl) rfl
theorem q2179 : (Jvm.Cond.code ({ cls := "FieldPumpsModel", name := "isZone", desc := "(I)Z" } : Jvm.MethodName) prog_20_method_31_code (2 : Nat) (Option.some Jvm.ClassFile.FieldType.boolean)) ∈ lw_all := lw_g (lw_at lw_m9 164 rfl) rfl
theorem q2180 : (Jvm.Cond.methodLink "FieldPumpsModel" (137 : Nat) ({ cls := "FieldPumpsModel", name := "isOpen", desc := "(I)Z" } : Jvm.MethodName)) ∈ lw_all := lw_g (lw_at lw_m9 165 rfl) rfl
theorem q2181 : (Jvm.Cond.privateMethod ({ cls := "FieldPumpsModel", name := "isOpen", desc := "(I)Z" } : Jvm.MethodName)) ∈ lw_tbl := lw_at lw_m9 166 rfl
theorem q2182 : (Jvm.Cond.instanceMethod ({ cls := "FieldPumpsModel", name := "isOpen", desc := "(I)Z" } : Jvm.MethodName)) ∈ lw_all := lw_g (lw_at lw_m9 167 rfl) rfl
theorem q2183 : (Jvm.Cond.code ({ cls := "FieldPumpsModel", name := "isOpen", desc := "(I)Z" } : Jvm.MethodName) prog_20_method_32_code (2 : Nat) (Option.some Jvm.ClassFile.FieldType.boolean)) ∈ lw_all := lw_g (lw_at lw_m9 168 rfl) rfl
theorem q2184 : (Jvm.Cond.methodLink "FieldPumpsModel" (143 : Nat) ({ cls := "FieldPumpsModel", name := "openZones", desc := "()I" } : Jvm.MethodName)) ∈ lw_all := lw_g (lw_at lw_m9 169 rfl) rfl
theorem q2185 : (Jvm.Cond.privateMethod ({ cls := "FieldPumpsModel", name := "openZones", desc := "()I" } : Jvm.MethodName)) ∈ lw_tbl := lw_at lw_m9 170 rfl
theorem q2186 : (Jvm.Cond.instanceMethod ({ cls := "FieldPumpsModel", name := "openZones", desc := "()I" } : Jvm.MethodName)) ∈ lw_all := lw_g (lw_at lw_m9 171 rfl) rfl
theorem q2187 : (Jvm.Cond.code ({ cls := "FieldPumpsModel", name := "openZones", desc := "()I" } : Jvm.MethodName) prog_20_method_34_code (3 : Nat) (Option.some Jvm.ClassFile.FieldType.int)) ∈ lw_all := lw_g (lw_at lw_m9 172 rfl) rfl
theorem q2189 : (Jvm.Cond.instanceMethod ({ cls := "FieldPumpsModel", name := "leak", desc := "(I)I" } : Jvm.MethodName)) ∈ lw_all := lw_g (lw_at lw_m9 174 rfl) rfl
theorem q2190 : (Jvm.Cond.selects "FieldPumpsModel" ({ cls := "FieldPumpsModel", name := "leak", desc := "(I)I" } : Jvm.MethodName) ({ cls := "FieldPumpsModel", name := "leak", desc := "(I)I" } : Jvm.MethodName)) ∈ lw_all := lw_g (lw_at lw_m9 175 rfl) rfl
theorem q2191 : (Jvm.Cond.code ({ cls := "FieldPumpsModel", name := "leak", desc := "(I)I" } : Jvm.MethodName) prog_20_method_36_code (3 : Nat) (Option.some Jvm.ClassFile.FieldType.int)) ∈ lw_all := lw_g (lw_at lw_m9 176 rfl) rfl
theorem q2193 : (Jvm.Cond.instanceMethod ({ cls := "FieldPumpsModel", name := "programme", desc := "(III)I" } : Jvm.MethodName)) ∈ lw_all := lw_g (lw_at lw_m9 178 rfl) rfl
theorem q2194 : (Jvm.Cond.selects "FieldPumpsModel" ({ cls := "FieldPumpsModel", name := "programme", desc := "(III)I" } : Jvm.MethodName) ({ cls := "FieldPumpsModel", name := "programme", desc := "(III)I" } : Jvm.MethodName)) ∈ lw_all := lw_g (lw_at lw_m9 179 rfl) rfl
theorem q2195 : (Jvm.Cond.code ({ cls := "FieldPumpsModel", name := "programme", desc := "(III)I" } : Jvm.MethodName) prog_20_method_37_code (5 : Nat) (Option.some Jvm.ClassFile.FieldType.int)) ∈ lw_all := lw_g (lw_at lw_m9 180 rfl) rfl
theorem q2197 : (Jvm.Cond.instanceMethod ({ cls := "FieldPumpsModel", name := "zoneOf", desc := "(II)I" } : Jvm.MethodName)) ∈ lw_all := lw_g (lw_at lw_m9 182 rfl) rfl
theorem q2198 : (Jvm.Cond.selects "FieldPumpsModel" ({ cls := "FieldPumpsModel", name := "zoneOf", desc := "(II)I" } : Jvm.MethodName) ({ cls := "FieldPumpsModel", name := "zoneOf", desc := "(II)I" } : Jvm.MethodName)) ∈ lw_all := lw_g (lw_at lw_m9 183 rfl) rfl
theorem q2199 : (Jvm.Cond.code ({ cls := "FieldPumpsModel", name := "zoneOf", desc := "(II)I" } : Jvm.MethodName) prog_20_method_39_code (5 : Nat) (Option.some Jvm.ClassFile.FieldType.int)) ∈ lw_all := lw_g (lw_at lw_m9 184 rfl) rfl
theorem q2200 : (Jvm.Cond.constantLong "FieldPumpsModel" (146 : Nat) (3 : Int64)) ∈ lw_all := lw_g (lw_at lw_m9 185 rfl) rfl
theorem q2201 : (Jvm.Cond.methodLink "FieldPumpsModel" (148 : Nat) ({ cls := "FieldPumpsModel", name := "takes", desc := "(I)I" } : Jvm.MethodName)) ∈ lw_all := lw_g (lw_at lw_m9 186 rfl) rfl
theorem q2202 : (Jvm.Cond.privateMethod ({ cls := "FieldPumpsModel", name := "takes", desc := "(I)I" } : Jvm.MethodName)) ∈ lw_tbl := lw_at lw_m9 187 rfl
theorem q2203 : (Jvm.Cond.instanceMethod ({ cls := "FieldPumpsModel", name := "takes", desc := "(I)I" } : Jvm.MethodName)) ∈ lw_all := lw_g (lw_at lw_m9 188 rfl) rfl
theorem q2204 : (Jvm.Cond.code ({ cls := "FieldPumpsModel", name := "takes", desc := "(I)I" } : Jvm.MethodName) prog_20_method_38_code (2 : Nat) (Option.some Jvm.ClassFile.FieldType.int)) ∈ lw_all := lw_g (lw_at lw_m9 189 rfl) rfl
theorem q2206 : (Jvm.Cond.instanceMethod ({ cls := "FieldPumpsModel", name := "fill", desc := "(I)I" } : Jvm.MethodName)) ∈ lw_all := lw_g (lw_at lw_m9 191 rfl) rfl
theorem q2207 : (Jvm.Cond.selects "FieldPumpsModel" ({ cls := "FieldPumpsModel", name := "fill", desc := "(I)I" } : Jvm.MethodName) ({ cls := "FieldPumpsModel", name := "fill", desc := "(I)I" } : Jvm.MethodName)) ∈ lw_all := lw_g (lw_at lw_m9 192 rfl) rfl
theorem q2208 : (Jvm.Cond.code ({ cls := "FieldPumpsModel", name := "fill", desc := "(I)I" } : Jvm.MethodName) prog_20_method_40_code (3 : Nat) (Option.some Jvm.ClassFile.FieldType.int)) ∈ lw_all := lw_g (lw_at lw_m9 193 rfl) rfl
theorem q2209 : (Jvm.Cond.constantLong "FieldPumpsModel" (151 : Nat) (20000 : Int64)) ∈ lw_all := lw_g (lw_at lw_m9 194 rfl) rfl
theorem q2211 : (Jvm.Cond.instanceMethod ({ cls := "FieldPumpsModel", name := "reset", desc := "()I" } : Jvm.MethodName)) ∈ lw_all := lw_g (lw_at lw_m9 196 rfl) rfl
theorem q2212 : (Jvm.Cond.selects "FieldPumpsModel" ({ cls := "FieldPumpsModel", name := "reset", desc := "()I" } : Jvm.MethodName) ({ cls := "FieldPumpsModel", name := "reset", desc := "()I" } : Jvm.MethodName)) ∈ lw_all := lw_g (lw_at lw_m9 197 rfl) rfl
theorem q2213 : (Jvm.Cond.code ({ cls := "FieldPumpsModel", name := "reset", desc := "()I" } : Jvm.MethodName) prog_20_method_42_code (1 : Nat) (Option.some Jvm.ClassFile.FieldType.int)) ∈ lw_all := lw_g (lw_at lw_m9 198 rfl) rfl
theorem q2214 : (Jvm.Cond.methodLink "FieldPumpsModel" (153 : Nat) ({ cls := "FieldPumpsModel", name := "resets", desc := "()I" } : Jvm.MethodName)) ∈ lw_all := lw_g (lw_at lw_m9 199 rfl) rfl
theorem q2215 : (Jvm.Cond.privateMethod ({ cls := "FieldPumpsModel", name := "resets", desc := "()I" } : Jvm.MethodName)) ∈ lw_tbl := lw_at lw_m9 200 rfl
theorem q2216 : (Jvm.Cond.instanceMethod ({ cls := "FieldPumpsModel", name := "resets", desc := "()I" } : Jvm.MethodName)) ∈ lw_all := lw_g (lw_at lw_m9 201 rfl) rfl
theorem q2217 : (Jvm.Cond.code ({ cls := "FieldPumpsModel", name := "resets", desc := "()I" } : Jvm.MethodName) prog_20_method_41_code (2 : Nat) (Option.some Jvm.ClassFile.FieldType.int)) ∈ lw_all := lw_g (lw_at lw_m9 202 rfl) rfl
theorem q2219 : (Jvm.Cond.instanceMethod ({ cls := "FieldPumpsModel", name := "pass", desc := "(I)I" } : Jvm.MethodName)) ∈ lw_all := lw_g (lw_at lw_m9 204 rfl) rfl
theorem q2220 : (Jvm.Cond.selects "FieldPumpsModel" ({ cls := "FieldPumpsModel", name := "pass", desc := "(I)I" } : Jvm.MethodName) ({ cls := "FieldPumpsModel", name := "pass", desc := "(I)I" } : Jvm.MethodName)) ∈ lw_all := lw_g (lw_at lw_m9 205 rfl) rfl
theorem q2221 : (Jvm.Cond.code ({ cls := "FieldPumpsModel", name := "pass", desc := "(I)I" } : Jvm.MethodName) prog_20_method_62_code (3 : Nat) (Option.some Jvm.ClassFile.FieldType.int)) ∈ lw_all := lw_g (lw_at lw_m9 206 rfl) rfl
theorem q2222 : (Jvm.Cond.methodLink "FieldPumpsModel" (213 : Nat) ({ cls := "FieldPumpsModel", name := "passFault", desc := "(I)I" } : Jvm.MethodName)) ∈ lw_all := lw_g (lw_at lw_m9 207 rfl) rfl
theorem q2223 : (Jvm.Cond.privateMethod ({ cls := "FieldPumpsModel", name := "passFault", desc := "(I)I" } : Jvm.MethodName)) ∈ lw_tbl := lw_at lw_m9 208 rfl
theorem q2224 : (Jvm.Cond.instanceMethod ({ cls := "FieldPumpsModel", name := "passFault", desc := "(I)I" } : Jvm.MethodName)) ∈ lw_all := lw_g (lw_at lw_m9 209 rfl) rfl
theorem q2225 : (Jvm.Cond.code ({ cls := "FieldPumpsModel", name := "passFault", desc := "(I)I" } : Jvm.MethodName) prog_20_method_61_code (2 : Nat) (Option.some Jvm.ClassFile.FieldType.int)) ∈ lw_all := lw_g (lw_at lw_m9 210 rfl) rfl
theorem q2226 : (Jvm.Cond.constantLong "FieldPumpsModel" (211 : Nat) (240 : Int64)) ∈ lw_all := lw_g (lw_at lw_m9 211 rfl) rfl
theorem q2227 : (Jvm.Cond.methodLink "FieldPumpsModel" (216 : Nat) ({ cls := "FieldPumpsModel", name := "minutes", desc := "(I)V" } : Jvm.MethodName)) ∈ lw_all := lw_g (lw_at lw_m9 212 rfl) rfl
theorem q2228 : (Jvm.Cond.privateMethod ({ cls := "FieldPumpsModel", name := "minutes", desc := "(I)V" } : Jvm.MethodName)) ∈ lw_tbl := lw_at lw_m9 213 rfl
theorem q2229 : (Jvm.Cond.instanceMethod ({ cls := "FieldPumpsModel", name := "minutes", desc := "(I)V" } : Jvm.MethodName)) ∈ lw_all := lw_g (lw_at lw_m9 214 rfl) rfl
theorem q2230 : (Jvm.Cond.code ({ cls := "FieldPumpsModel", name := "minutes", desc := "(I)V" } : Jvm.MethodName) prog_20_method_60_code (3 : Nat) (Option.none : Option Jvm.ClassFile.FieldType)) ∈ lw_all := lw_g (lw_at lw_m9 215 rfl) rfl
theorem q2231 : (Jvm.Cond.methodLink "FieldPumpsModel" (208 : Nat) ({ cls := "FieldPumpsModel", name := "minute", desc := "()V" } : Jvm.MethodName)) ∈ lw_all := lw_g (lw_at lw_m9 216 rfl) rfl
theorem q2232 : (Jvm.Cond.privateMethod ({ cls := "FieldPumpsModel", name := "minute", desc := "()V" } : Jvm.MethodName)) ∈ lw_tbl := lw_at lw_m9 217 rfl
theorem q2233 : (Jvm.Cond.instanceMethod ({ cls := "FieldPumpsModel", name := "minute", desc := "()V" } : Jvm.MethodName)) ∈ lw_all := lw_g (lw_at lw_m9 218 rfl) rfl
theorem q2234 : (Jvm.Cond.code ({ cls := "FieldPumpsModel", name := "minute", desc := "()V" } : Jvm.MethodName) prog_20_method_59_code (1 : Nat) (Option.none : Option Jvm.ClassFile.FieldType)) ∈ lw_all := lw_g (lw_at lw_m9 219 rfl) rfl
theorem q2235 : (Jvm.Cond.methodLink "FieldPumpsModel" (184 : Nat) ({ cls := "FieldPumpsModel", name := "programmes", desc := "()V" } : Jvm.MethodName)) ∈ lw_all := lw_g (lw_at lw_m9 220 rfl) rfl
theorem q2236 : (Jvm.Cond.privateMethod ({ cls := "FieldPumpsModel", name := "programmes", desc := "()V" } : Jvm.MethodName)) ∈ lw_tbl := lw_at lw_m9 221 rfl
theorem q2237 : (Jvm.Cond.instanceMethod ({ cls := "FieldPumpsModel", name := "programmes", desc := "()V" } : Jvm.MethodName)) ∈ lw_all := lw_g (lw_at lw_m9 222 rfl) rfl
theorem q2238 : (Jvm.Cond.code ({ cls := "FieldPumpsModel", name := "programmes", desc := "()V" } : Jvm.MethodName) prog_20_method_44_code (5 : Nat) (Option.none : Option Jvm.ClassFile.FieldType)) ∈ lw_all := lw_g (lw_at lw_m9 223 rfl) rfl
theorem q2239 : (Jvm.Cond.methodLink "FieldPumpsModel" (156 : Nat) ({ cls := "FieldPumpsModel", name := "minuteOfDay", desc := "()I" } : Jvm.MethodName)) ∈ lw_all := lw_g (lw_at lw_m9 224 rfl) rfl
theorem q2240 : (Jvm.Cond.privateMethod ({ cls := "FieldPumpsModel", name := "minuteOfDay", desc := "()I" } : Jvm.MethodName)) ∈ lw_tbl := lw_at lw_m9 225 rfl
theorem q2241 : (Jvm.Cond.instanceMethod ({ cls := "FieldPumpsModel", name := "minuteOfDay", desc := "()I" } : Jvm.MethodName)) ∈ lw_all := lw_g (lw_at lw_m9 226 rfl) rfl
theorem q2242 : (Jvm.Cond.code ({ cls := "FieldPumpsModel", name := "minuteOfDay", desc := "()I" } : Jvm.MethodName) prog_20_method_43_code (1 : Nat) (Option.some Jvm.ClassFile.FieldType.int)) ∈ lw_all := lw_g (lw_at lw_m9 227 rfl) rfl
theorem q2243 : (Jvm.Cond.methodLink "FieldPumpsModel" (187 : Nat) ({ cls := "FieldPumpsModel", name := "water", desc := "()V" } : Jvm.MethodName)) ∈ lw_all := lw_g (lw_at lw_m9 228 rfl) rfl
theorem q2244 : (Jvm.Cond.privateMethod ({ cls := "FieldPumpsModel", name := "water", desc := "()V" } : Jvm.MethodName)) ∈ lw_tbl := lw_at lw_m9 229 rfl
theorem q2245 : (Jvm.Cond.instanceMethod ({ cls := "FieldPumpsModel", name := "water", desc := "()V" } : Jvm.MethodName)) ∈ lw_all := lw_g (lw_at lw_m9 230 rfl) rfl
theorem q2246 : (Jvm.Cond.code ({ cls := "FieldPumpsModel", name := "water", desc := "()V" } : Jvm.MethodName) prog_20_method_47_code (3 : Nat) (Option.none : Option Jvm.ClassFile.FieldType)) ∈ lw_all := lw_g (lw_at lw_m9 231 rfl) rfl
theorem q2247 : (Jvm.Cond.methodLink "FieldPumpsModel" (159 : Nat) ({ cls := "FieldPumpsModel", name := "within", desc := "(III)I" } : Jvm.MethodName)) ∈ lw_all := lw_g (lw_at lw_m9 232 rfl) rfl
theorem q2248 : (Jvm.Cond.static ({ cls := "FieldPumpsModel", name := "within", desc := "(III)I" } : Jvm.MethodName)) ∈ lw_all := lw_g (lw_at lw_m9 233 rfl) rfl
theorem q2249 : (Jvm.Cond.code ({ cls := "FieldPumpsModel", name := "within", desc := "(III)I" } : Jvm.MethodName) prog_20_method_46_code (3 : Nat) (Option.some Jvm.ClassFile.FieldType.int)) ∈ lw_all := lw_g (lw_at lw_m9 234 rfl) rfl
theorem q2250 : (Jvm.Cond.methodLink "FieldPumpsModel" (162 : Nat) ({ cls := "FieldPumpsModel", name := "demand", desc := "()I" } : Jvm.MethodName)) ∈ lw_all := lw_g (lw_at lw_m9 235 rfl) rfl
theorem q2251 : (Jvm.Cond.privateMethod ({ cls := "FieldPumpsModel", name := "demand", desc := "()I" } : Jvm.MethodName)) ∈ lw_tbl := lw_at lw_m9 236 rfl
theorem q2252 : (Jvm.Cond.instanceMethod ({ cls := "FieldPumpsModel", name := "demand", desc := "()I" } : Jvm.MethodName)) ∈ lw_all := lw_g (lw_at lw_m9 237 rfl) rfl
theorem q2253 : (Jvm.Cond.code ({ cls := "FieldPumpsModel", name := "demand", desc := "()I" } : Jvm.MethodName) prog_20_method_45_code (3 : Nat) (Option.some Jvm.ClassFile.FieldType.int)) ∈ lw_all := lw_g (lw_at lw_m9 238 rfl) rfl
theorem q2254 : (Jvm.Cond.methodLink "FieldPumpsModel" (190 : Nat) ({ cls := "FieldPumpsModel", name := "night", desc := "()V" } : Jvm.MethodName)) ∈ lw_all := lw_g (lw_at lw_m9 239 rfl) rfl
theorem q2255 : (Jvm.Cond.privateMethod ({ cls := "FieldPumpsModel", name := "night", desc := "()V" } : Jvm.MethodName)) ∈ lw_tbl := lw_at lw_m10 0 rfl
theorem q2256 : (Jvm.Cond.instanceMethod ({ cls := "FieldPumpsModel", name := "night", desc := "()V" } : Jvm.MethodName)) ∈ lw_all := lw_g (lw_at lw_m10 1 rfl) rfl
theorem q2257 : (Jvm.Cond.code ({ cls := "FieldPumpsModel", name := "night", desc := "()V" } : Jvm.MethodName) prog_20_method_49_code (3 : Nat) (Option.none : Option Jvm.ClassFile.FieldType)) ∈ lw_all := lw_g (lw_at lw_m10 2 rfl) rfl
theorem q2258 : (Jvm.Cond.methodLink "FieldPumpsModel" (165 : Nat) ({ cls := "FieldPumpsModel", name := "middleNight", desc := "()I" } : Jvm.MethodName)) ∈ lw_all := lw_g (lw_at lw_m10 3 rfl) rfl
theorem q2259 : (Jvm.Cond.privateMethod ({ cls := "FieldPumpsModel", name := "middleNight", desc := "()I" } : Jvm.MethodName)) ∈ lw_tbl := lw_at lw_m10 4 rfl
theorem q2260 : (Jvm.Cond.instanceMethod ({ cls := "FieldPumpsModel", name := "middleNight", desc := "()I" } : Jvm.MethodName)) ∈ lw_all := lw_g (lw_at lw_m10 5 rfl) rfl
theorem q2261 : (Jvm.Cond.code ({ cls := "FieldPumpsModel", name := "middleNight", desc := "()I" } : Jvm.MethodName) prog_20_method_48_code (6 : Nat) (Option.some Jvm.ClassFile.FieldType.int)) ∈ lw_all := lw_g (lw_at lw_m10 6 rfl) rfl
theorem q2262 : (Jvm.Cond.methodLink "FieldPumpsModel" (193 : Nat) ({ cls := "FieldPumpsModel", name := "dryness", desc := "()V" } : Jvm.MethodName)) ∈ lw_all := lw_g (lw_at lw_m10 7 rfl) rfl
theorem q2263 : (Jvm.Cond.privateMethod ({ cls := "FieldPumpsModel", name := "dryness", desc := "()V" } : Jvm.MethodName)) ∈ lw_tbl := lw_at lw_m10 8 rfl
theorem q2264 : (Jvm.Cond.instanceMethod ({ cls := "FieldPumpsModel", name := "dryness", desc := "()V" } : Jvm.MethodName)) ∈ lw_all := lw_g (lw_at lw_m10 9 rfl) rfl
theorem q2265 : (Jvm.Cond.code ({ cls := "FieldPumpsModel", name := "dryness", desc := "()V" } : Jvm.MethodName) prog_20_method_50_code (2 : Nat) (Option.none : Option Jvm.ClassFile.FieldType)) ∈ lw_all := lw_g (lw_at lw_m10 10 rfl) rfl
theorem q2266 : (Jvm.Cond.methodLink "FieldPumpsModel" (178 : Nat) ({ cls := "FieldPumpsModel", name := "beginAnew", desc := "()V" } : Jvm.MethodName)) ∈ lw_all := lw_g (lw_at lw_m10 11 rfl) rfl
theorem q2267 : (Jvm.Cond.privateMethod ({ cls := "FieldPumpsModel", name := "beginAnew", desc := "()V" } : Jvm.MethodName)) ∈ lw_tbl := lw_at lw_m10 12 rfl
theorem q2268 : (Jvm.Cond.instanceMethod ({ cls := "FieldPumpsModel", name := "beginAnew", desc := "()V" } : Jvm.MethodName)) ∈ lw_all := lw_g (lw_at lw_m10 13 rfl) rfl
theorem q2269 : (Jvm.Cond.code ({ cls := "FieldPumpsModel", name := "beginAnew", desc := "()V" } : Jvm.MethodName) prog_20_method_55_code (1 : Nat) (Option.none : Option Jvm.ClassFile.FieldType)) ∈ lw_all := lw_g (lw_at lw_m10 14 rfl) rfl
theorem q2270 : (Jvm.Cond.methodLink "FieldPumpsModel" (196 : Nat) ({ cls := "FieldPumpsModel", name := "regulate", desc := "()V" } : Jvm.MethodName)) ∈ lw_all := lw_g (lw_at lw_m10 15 rfl) rfl
theorem q2271 : (Jvm.Cond.privateMethod ({ cls := "FieldPumpsModel", name := "regulate", desc := "()V" } : Jvm.MethodName)) ∈ lw_tbl := lw_at lw_m10 16 rfl
theorem q2272 : (Jvm.Cond.instanceMethod ({ cls := "FieldPumpsModel", name := "regulate", desc := "()V" } : Jvm.MethodName)) ∈ lw_all := lw_g (lw_at lw_m10 17 rfl) rfl
theorem q2273 : (Jvm.Cond.code ({ cls := "FieldPumpsModel", name := "regulate", desc := "()V" } : Jvm.MethodName) prog_20_method_52_code (3 : Nat) (Option.none : Option Jvm.ClassFile.FieldType)) ∈ lw_all := lw_g (lw_at lw_m10 18 rfl) rfl
theorem q2274 : (Jvm.Cond.methodLink "FieldPumpsModel" (175 : Nat) ({ cls := "FieldPumpsModel", name := "start", desc := "(I)V" } : Jvm.MethodName)) ∈ lw_all := lw_g (lw_at lw_m10 19 rfl) rfl
theorem q2275 : (Jvm.Cond.privateMethod ({ cls := "FieldPumpsModel", name := "start", desc := "(I)V" } : Jvm.MethodName)) ∈ lw_tbl := lw_at lw_m10 20 rfl
theorem q2276 : (Jvm.Cond.instanceMethod ({ cls := "FieldPumpsModel", name := "start", desc := "(I)V" } : Jvm.MethodName)) ∈ lw_all := lw_g (lw_at lw_m10 21 rfl) rfl
theorem q2277 : (Jvm.Cond.code ({ cls := "FieldPumpsModel", name := "start", desc := "(I)V" } : Jvm.MethodName) prog_20_method_22_code (2 : Nat) (Option.none : Option Jvm.ClassFile.FieldType)) ∈ lw_all := lw_g (lw_at lw_m10 22 rfl) rfl
theorem q2278 : (Jvm.Cond.methodLink "FieldPumpsModel" (109 : Nat) ({ cls := "FieldPumpsModel", name := "begins", desc := "(IIZ)V" } : Jvm.MethodName)) ∈ lw_all := lw_g (lw_at lw_m10 23 rfl) rfl
theorem q2279 : (Jvm.Cond.privateMethod ({ cls := "FieldPumpsModel", name := "begins", desc := "(IIZ)V" } : Jvm.MethodName)) ∈ lw_tbl := lw_at lw_m10 24 rfl
theorem q2280 : (Jvm.Cond.instanceMethod ({ cls := "FieldPumpsModel", name := "begins", desc := "(IIZ)V" } : Jvm.MethodName)) ∈ lw_all := lw_g (lw_at lw_m10 25 rfl) rfl
theorem q2281 : (Jvm.Cond.code ({ cls := "FieldPumpsModel", name := "begins", desc := "(IIZ)V" } : Jvm.MethodName) prog_20_method_21_code (4 : Nat) (Option.none : Option Jvm.ClassFile.FieldType)) ∈ lw_all := lw_g (lw_at lw_m10 26 rfl) rfl
theorem q2282 : (Jvm.Cond.methodLink "FieldPumpsModel" (199 : Nat) ({ cls := "FieldPumpsModel", name := "countAll", desc := "()V" } : Jvm.MethodName)) ∈ lw_all := lw_g (lw_at lw_m10 27 rfl) rfl
theorem q2283 : (Jvm.Cond.privateMethod ({ cls := "FieldPumpsModel", name := "countAll", desc := "()V" } : Jvm.MethodName)) ∈ lw_tbl := lw_at lw_m10 28 rfl
theorem q2284 : (Jvm.Cond.instanceMethod ({ cls := "FieldPumpsModel", name := "countAll", desc := "()V" } : Jvm.MethodName)) ∈ lw_all := lw_g (lw_at lw_m10 29 rfl) rfl
theorem q2285 : (Jvm.Cond.code ({ cls := "FieldPumpsModel", name := "countAll", desc := "()V" } : Jvm.MethodName) prog_20_method_54_code (5 : Nat) (Option.none : Option Jvm.ClassFile.FieldType)) ∈ lw_all := lw_g (lw_at lw_m10 30 rfl) rfl
theorem q2286 : (Jvm.Cond.methodLink "FieldPumpsModel" (168 : Nat) ({ cls := "FieldPumpsModel", name := "speedOfVariable", desc := "()I" } : Jvm.MethodName)) ∈ lw_all := lw_g (lw_at lw_m10 31 rfl) rfl
theorem q2287 : (Jvm.Cond.privateMethod ({ cls := "FieldPumpsModel", name := "speedOfVariable", desc := "()I" } : Jvm.MethodName)) ∈ lw_tbl := lw_at lw_m10 32 rfl
theorem q2288 : (Jvm.Cond.instanceMethod ({ cls := "FieldPumpsModel", name := "speedOfVariable", desc := "()I" } : Jvm.MethodName)) ∈ lw_all := lw_g (lw_at lw_m10 33 rfl) rfl
theorem q2289 : (Jvm.Cond.code ({ cls := "FieldPumpsModel", name := "speedOfVariable", desc := "()I" } : Jvm.MethodName) prog_20_method_51_code (1 : Nat) (Option.some Jvm.ClassFile.FieldType.int)) ∈ lw_all := lw_g (lw_at lw_m10 34 rfl) rfl
theorem q2290 : (Jvm.Cond.methodLink "FieldPumpsModel" (171 : Nat) ({ cls := "FieldPumpsModel", name := "counts", desc := "(IZ)V" } : Jvm.MethodName)) ∈ lw_all := lw_g (lw_at lw_m10 35 rfl) rfl
theorem q2291 : (Jvm.Cond.privateMethod ({ cls := "FieldPumpsModel", name := "counts", desc := "(IZ)V" } : Jvm.MethodName)) ∈ lw_tbl := lw_at lw_m10 36 rfl
theorem q2292 : (Jvm.Cond.instanceMethod ({ cls := "FieldPumpsModel", name := "counts", desc := "(IZ)V" } : Jvm.MethodName)) ∈ lw_all := lw_g (lw_at lw_m10 37 rfl) rfl
theorem q2293 : (Jvm.Cond.code ({ cls := "FieldPumpsModel", name := "counts", desc := "(IZ)V" } : Jvm.MethodName) prog_20_method_53_code (3 : Nat) (Option.none : Option Jvm.ClassFile.FieldType)) ∈ lw_all := lw_g (lw_at lw_m10 38 rfl) rfl
theorem q2294 : (Jvm.Cond.methodLink "FieldPumpsModel" (202 : Nat) ({ cls := "FieldPumpsModel", name := "cascade", desc := "()V" } : Jvm.MethodName)) ∈ lw_all := lw_g (lw_at lw_m10 39 rfl) rfl
theorem q2295 : (Jvm.Cond.privateMethod ({ cls := "FieldPumpsModel", name := "cascade", desc := "()V" } : Jvm.MethodName)) ∈ lw_tbl := lw_at lw_m10 40 rfl
theorem q2296 : (Jvm.Cond.instanceMethod ({ cls := "FieldPumpsModel", name := "cascade", desc := "()V" } : Jvm.MethodName)) ∈ lw_all := lw_g (lw_at lw_m10 41 rfl) rfl
theorem q2297 : (Jvm.Cond.code ({ cls := "FieldPumpsModel", name := "cascade", desc := "()V" } : Jvm.MethodName) prog_20_method_57_code (1 : Nat) (Option.none : Option Jvm.ClassFile.FieldType)) ∈ lw_all := lw_g (lw_at lw_m10 42 rfl) rfl
theorem q2298 : (Jvm.Cond.methodLink "FieldPumpsModel" (181 : Nat) ({ cls := "FieldPumpsModel", name := "longest", desc := "()I" } : Jvm.MethodName)) ∈ lw_all := lw_g (lw_at lw_m10 43 rfl) rfl
theorem q2299 : (Jvm.Cond.privateMethod ({ cls := "FieldPumpsModel", name := "longest", desc := "()I" } : Jvm.MethodName)) ∈ lw_tbl := lw_at lw_m10 44 rfl
theorem q2300 : (Jvm.Cond.instanceMethod ({ cls := "FieldPumpsModel", name := "longest", desc := "()I" } : Jvm.MethodName)) ∈ lw_all := lw_g (lw_at lw_m10 45 rfl) rfl
theorem q2301 : (Jvm.Cond.code ({ cls := "FieldPumpsModel", name := "longest", desc := "()I" } : Jvm.MethodName) prog_20_method_56_code (4 : Nat) (Option.some Jvm.ClassFile.FieldType.int)) ∈ lw_all := lw_g (lw_at lw_m10 46 rfl) rfl
theorem q2302 : (Jvm.Cond.methodLink "FieldPumpsModel" (205 : Nat) ({ cls := "FieldPumpsModel", name := "rotate", desc := "()V" } : Jvm.MethodName)) ∈ lw_all := lw_g (lw_at lw_m10 47 rfl) rfl
theorem q2303 : (Jvm.Cond.privateMethod ({ cls := "FieldPumpsModel", name := "rotate", desc := "()V" } : Jvm.MethodName)) ∈ lw_tbl := lw_at lw_m10 48 rfl
theorem q2304 : (Jvm.Cond.instanceMethod ({ cls := "FieldPumpsModel", name := "rotate", desc := "()V" } : Jvm.MethodName)) ∈ lw_all := lw_g (lw_at lw_m10 49 rfl) rfl
theorem q2305 : (Jvm.Cond.code ({ cls := "FieldPumpsModel", name := "rotate", desc := "()V" } : Jvm.MethodName) prog_20_method_58_code (5 : Nat) (Option.none : Option Jvm.ClassFile.FieldType)) ∈ lw_all := lw_g (lw_at lw_m10 50 rfl) rfl
theorem q2307 : (Jvm.Cond.instanceMethod ({ cls := "FieldPumpsModel", name := "foresee", desc := "(II)I" } : Jvm.MethodName)) ∈ lw_all := lw_g (lw_at lw_m10 52 rfl) rfl
theorem q2308 : (Jvm.Cond.selects "FieldPumpsModel" ({ cls := "FieldPumpsModel", name := "foresee", desc := "(II)I" } : Jvm.MethodName) ({ cls := "FieldPumpsModel", name := "foresee", desc := "(II)I" } : Jvm.MethodName)) ∈ lw_all := lw_g (lw_at lw_m10 53 rfl) rfl
theorem q2309 : (Jvm.Cond.code ({ cls := "FieldPumpsModel", name := "foresee", desc := "(II)I" } : Jvm.MethodName) prog_20_method_65_code (4 : Nat) (Option.some Jvm.ClassFile.FieldType.int)) ∈ lw_all := lw_g (lw_at lw_m10 54 rfl) rfl
theorem q2310 : (Jvm.Cond.constantLong "FieldPumpsModel" (219 : Nat) (4 : Int64)) ∈ lw_all := lw_g (lw_at lw_m10 55 rfl) rfl
theorem q2311 : (Jvm.Cond.methodLink "FieldPumpsModel" (221 : Nat) ({ cls := "FieldPumpsModel", name := "layAside", desc := "()V" } : Jvm.MethodName)) ∈ lw_all := lw_g (lw_at lw_m10 56 rfl) rfl
theorem q2312 : (Jvm.Cond.privateMethod ({ cls := "FieldPumpsModel", name := "layAside", desc := "()V" } : Jvm.MethodName)) ∈ lw_tbl := lw_at lw_m10 57 rfl
theorem q2313 : (Jvm.Cond.instanceMethod ({ cls := "FieldPumpsModel", name := "layAside", desc := "()V" } : Jvm.MethodName)) ∈ lw_all := lw_g (lw_at lw_m10 58 rfl) rfl
theorem q2314 : (Jvm.Cond.code ({ cls := "FieldPumpsModel", name := "layAside", desc := "()V" } : Jvm.MethodName) prog_20_method_63_code (2 : Nat) (Option.none : Option Jvm.ClassFile.FieldType)) ∈ lw_all := lw_g (lw_at lw_m10 59 rfl) rfl
theorem q2315 : (Jvm.Cond.methodLink "FieldPumpsModel" (224 : Nat) ({ cls := "FieldPumpsModel", name := "takeBack", desc := "()V" } : Jvm.MethodName)) ∈ lw_all := lw_g (lw_at lw_m10 60 rfl) rfl
theorem q2316 : (Jvm.Cond.privateMethod ({ cls := "FieldPumpsModel", name := "takeBack", desc := "()V" } : Jvm.MethodName)) ∈ lw_tbl := lw_at lw_m10 61 rfl
theorem q2317 : (Jvm.Cond.instanceMethod ({ cls := "FieldPumpsModel", name := "takeBack", desc := "()V" } : Jvm.MethodName)) ∈ lw_all := lw_g (lw_at lw_m10 62 rfl) rfl
theorem q2318 : (Jvm.Cond.code ({ cls := "FieldPumpsModel", name := "takeBack", desc := "()V" } : Jvm.MethodName) prog_20_method_64_code (2 : Nat) (Option.none : Option Jvm.ClassFile.FieldType)) ∈ lw_all := lw_g (lw_at lw_m10 63 rfl) rfl
theorem q2320 : (Jvm.Cond.instanceMethod ({ cls := "FieldPumpsModel", name := "foreseeEvent", desc := "(I)I" } : Jvm.MethodName)) ∈ lw_all := lw_g (lw_at lw_m10 65 rfl) rfl
theorem q2321 : (Jvm.Cond.selects "FieldPumpsModel" ({ cls := "FieldPumpsModel", name := "foreseeEvent", desc := "(I)I" } : Jvm.MethodName) ({ cls := "FieldPumpsModel", name := "foreseeEvent", desc := "(I)I" } : Jvm.MethodName)) ∈ lw_all := lw_g (lw_at lw_m10 66 rfl) rfl
theorem q2322 : (Jvm.Cond.code ({ cls := "FieldPumpsModel", name := "foreseeEvent", desc := "(I)I" } : Jvm.MethodName) prog_20_method_66_code (3 : Nat) (Option.some Jvm.ClassFile.FieldType.int)) ∈ lw_all := lw_g (lw_at lw_m10 67 rfl) rfl
theorem q2323 : (Jvm.Cond.constantLong "FieldPumpsModel" (227 : Nat) (7 : Int64)) ∈ lw_all := lw_g (lw_at lw_m10 68 rfl) rfl
theorem q2325 : (Jvm.Cond.instanceMethod ({ cls := "FieldPumpsModel", name := "station", desc := "(I)I" } : Jvm.MethodName)) ∈ lw_all := lw_g (lw_at lw_m10 70 rfl) rfl
theorem q2326 : (Jvm.Cond.selects "FieldPumpsModel" ({ cls := "FieldPumpsModel", name := "station", desc := "(I)I" } : Jvm.MethodName) ({ cls := "FieldPumpsModel", name := "station", desc := "(I)I" } : Jvm.MethodName)) ∈ lw_all := lw_g (lw_at lw_m10 71 rfl) rfl
theorem q2327 : (Jvm.Cond.code ({ cls := "FieldPumpsModel", name := "station", desc := "(I)I" } : Jvm.MethodName) prog_20_method_67_code (2 : Nat) (Option.some Jvm.ClassFile.FieldType.int)) ∈ lw_all := lw_g (lw_at lw_m10 72 rfl) rfl
theorem q2328 : (Jvm.Cond.constantLong "FieldPumpsModel" (229 : Nat) (14 : Int64)) ∈ lw_all := lw_g (lw_at lw_m10 73 rfl) rfl
theorem q2330 : (Jvm.Cond.instanceMethod ({ cls := "FieldPumpsModel", name := "nightAt", desc := "(I)I" } : Jvm.MethodName)) ∈ lw_all := lw_g (lw_at lw_m10 75 rfl) rfl
theorem q2331 : (Jvm.Cond.selects "FieldPumpsModel" ({ cls := "FieldPumpsModel", name := "nightAt", desc := "(I)I" } : Jvm.MethodName) ({ cls := "FieldPumpsModel", name := "nightAt", desc := "(I)I" } : Jvm.MethodName)) ∈ lw_all := lw_g (lw_at lw_m10 76 rfl) rfl
theorem q2332 : (Jvm.Cond.code ({ cls := "FieldPumpsModel", name := "nightAt", desc := "(I)I" } : Jvm.MethodName) prog_20_method_68_code (2 : Nat) (Option.some Jvm.ClassFile.FieldType.int)) ∈ lw_all := lw_g (lw_at lw_m10 77 rfl) rfl
theorem q2334 : (Jvm.Cond.instanceMethod ({ cls := "FieldPumpsModel", name := "eventAt", desc := "(II)I" } : Jvm.MethodName)) ∈ lw_all := lw_g (lw_at lw_m10 79 rfl) rfl
theorem q2335 : (Jvm.Cond.selects "FieldPumpsModel" ({ cls := "FieldPumpsModel", name := "eventAt", desc := "(II)I" } : Jvm.MethodName) ({ cls := "FieldPumpsModel", name := "eventAt", desc := "(II)I" } : Jvm.MethodName)) ∈ lw_all := lw_g (lw_at lw_m10 80 rfl) rfl
theorem q2336 : (Jvm.Cond.code ({ cls := "FieldPumpsModel", name := "eventAt", desc := "(II)I" } : Jvm.MethodName) prog_20_method_69_code (4 : Nat) (Option.some Jvm.ClassFile.FieldType.int)) ∈ lw_all := lw_g (lw_at lw_m10 81 rfl) rfl
theorem q2338 : (Jvm.Cond.instanceMethod ({ cls := "FieldPumpsModel", name := "count", desc := "(I)I" } : Jvm.MethodName)) ∈ lw_all := lw_g (lw_at lw_m10 83 rfl) rfl
theorem q2339 : (Jvm.Cond.selects "FieldPumpsModel" ({ cls := "FieldPumpsModel", name := "count", desc := "(I)I" } : Jvm.MethodName) ({ cls := "FieldPumpsModel", name := "count", desc := "(I)I" } : Jvm.MethodName)) ∈ lw_all := lw_g (lw_at lw_m10 84 rfl) rfl
theorem q2340 : (Jvm.Cond.code ({ cls := "FieldPumpsModel", name := "count", desc := "(I)I" } : Jvm.MethodName) prog_20_method_71_code (2 : Nat) (Option.some Jvm.ClassFile.FieldType.int)) ∈ lw_all := lw_g (lw_at lw_m10 85 rfl) rfl
theorem q2341 : (Jvm.Cond.methodLink "FieldPumpsModel" (231 : Nat) ({ cls := "FieldPumpsModel", name := "readyPumps", desc := "()I" } : Jvm.MethodName)) ∈ lw_all := lw_g (lw_at lw_m10 86 rfl) rfl
theorem q2342 : (Jvm.Cond.privateMethod ({ cls := "FieldPumpsModel", name := "readyPumps", desc := "()I" } : Jvm.MethodName)) ∈ lw_tbl := lw_at lw_m10 87 rfl
theorem q2343 : (Jvm.Cond.instanceMethod ({ cls := "FieldPumpsModel", name := "readyPumps", desc := "()I" } : Jvm.MethodName)) ∈ lw_all := lw_g (lw_at lw_m10 88 rfl) rfl
theorem q2344 : (Jvm.Cond.code ({ cls := "FieldPumpsModel", name := "readyPumps", desc := "()I" } : Jvm.MethodName) prog_20_method_70_code (3 : Nat) (Option.some Jvm.ClassFile.FieldType.int)) ∈ lw_all := lw_g (lw_at lw_m10 89 rfl) rfl
theorem q2345 : (Jvm.Cond.constantLong "FieldPumpsModel" (237 : Nat) (20 : Int64)) ∈ lw_all := lw_g (lw_at lw_m10 90 rfl) rfl
theorem q2346 : (Jvm.Cond.constantLong "FieldPumpsModel" (239 : Nat) (38 : Int64)) ∈ lw_all := lw_g (lw_at lw_m10 91 rfl) rfl
theorem q2348 : (Jvm.Cond.instanceMethod ({ cls := "FieldPumpsModel", name := "undo", desc := "()I" } : Jvm.MethodName)) ∈ lw_all := lw_g (lw_at lw_m10 93 rfl) rfl
theorem q2349 : (Jvm.Cond.selects "FieldPumpsModel" ({ cls := "FieldPumpsModel", name := "undo", desc := "()I" } : Jvm.MethodName) ({ cls := "FieldPumpsModel", name := "undo", desc := "()I" } : Jvm.MethodName)) ∈ lw_all := lw_g (lw_at lw_m10 94 rfl) rfl
theorem q2350 : (Jvm.Cond.code ({ cls := "FieldPumpsModel", name := "undo", desc := "()I" } : Jvm.MethodName) prog_20_method_72_code (2 : Nat) (Option.some Jvm.ClassFile.FieldType.int)) ∈ lw_all := lw_g (lw_at lw_m10 95 rfl) rfl
theorem q2352 : (Jvm.Cond.instanceMethod ({ cls := "FieldPumpsModel", name := "type", desc := "(I)I" } : Jvm.MethodName)) ∈ lw_all := lw_g (lw_at lw_m10 97 rfl) rfl
theorem q2353 : (Jvm.Cond.selects "FieldPumpsModel" ({ cls := "FieldPumpsModel", name := "type", desc := "(I)I" } : Jvm.MethodName) ({ cls := "FieldPumpsModel", name := "type", desc := "(I)I" } : Jvm.MethodName)) ∈ lw_all := lw_g (lw_at lw_m10 98 rfl) rfl
theorem q2354 : (Jvm.Cond.code ({ cls := "FieldPumpsModel", name := "type", desc := "(I)I" } : Jvm.MethodName) prog_20_method_73_code (2 : Nat) (Option.some Jvm.ClassFile.FieldType.int)) ∈ lw_all := lw_g (lw_at lw_m10 99 rfl) rfl
theorem q2355 : (Jvm.Cond.constantLong "FieldPumpsModel" (241 : Nat) (32 : Int64)) ∈ lw_all := lw_g (lw_at lw_m10 100 rfl) rfl
theorem q2356 : (Jvm.Cond.constantLong "FieldPumpsModel" (243 : Nat) (126 : Int64)) ∈ lw_all := lw_g (lw_at lw_m10 101 rfl) rfl
theorem q2358 : (Jvm.Cond.instanceMethod ({ cls := "FieldPumpsModel", name := "clearText", desc := "()I" } : Jvm.MethodName)) ∈ lw_all := lw_g (lw_at lw_m10 103 rfl) rfl
theorem q2359 : (Jvm.Cond.selects "FieldPumpsModel" ({ cls := "FieldPumpsModel", name := "clearText", desc := "()I" } : Jvm.MethodName) ({ cls := "FieldPumpsModel", name := "clearText", desc := "()I" } : Jvm.MethodName)) ∈ lw_all := lw_g (lw_at lw_m10 104 rfl) rfl
theorem q2360 : (Jvm.Cond.code ({ cls := "FieldPumpsModel", name := "clearText", desc := "()I" } : Jvm.MethodName) prog_20_method_74_code (2 : Nat) (Option.some Jvm.ClassFile.FieldType.int)) ∈ lw_all := lw_g (lw_at lw_m10 105 rfl) rfl
theorem q2362 : (Jvm.Cond.instanceMethod ({ cls := "FieldPumpsModel", name := "fault", desc := "(I)I" } : Jvm.MethodName)) ∈ lw_all := lw_g (lw_at lw_m10 107 rfl) rfl
theorem q2363 : (Jvm.Cond.selects "FieldPumpsModel" ({ cls := "FieldPumpsModel", name := "fault", desc := "(I)I" } : Jvm.MethodName) ({ cls := "FieldPumpsModel", name := "fault", desc := "(I)I" } : Jvm.MethodName)) ∈ lw_all := lw_g (lw_at lw_m10 108 rfl) rfl
theorem q2364 : (Jvm.Cond.code ({ cls := "FieldPumpsModel", name := "fault", desc := "(I)I" } : Jvm.MethodName) prog_20_method_81_code (2 : Nat) (Option.some Jvm.ClassFile.FieldType.int)) ∈ lw_all := lw_g (lw_at lw_m10 109 rfl) rfl
theorem q2365 : (Jvm.Cond.methodLink "FieldPumpsModel" (283 : Nat) ({ cls := "FieldPumpsModel", name := "tryOrders", desc := "()V" } : Jvm.MethodName)) ∈ lw_all := lw_g (lw_at lw_m10 110 rfl) rfl
theorem q2366 : (Jvm.Cond.privateMethod ({ cls := "FieldPumpsModel", name := "tryOrders", desc := "()V" } : Jvm.MethodName)) ∈ lw_tbl := lw_at lw_m10 111 rfl
theorem q2367 : (Jvm.Cond.instanceMethod ({ cls := "FieldPumpsModel", name := "tryOrders", desc := "()V" } : Jvm.MethodName)) ∈ lw_all := lw_g (lw_at lw_m10 112 rfl) rfl
theorem q2368 : (Jvm.Cond.code ({ cls := "FieldPumpsModel", name := "tryOrders", desc := "()V" } : Jvm.MethodName) prog_20_method_80_code (1 : Nat) (Option.none : Option Jvm.ClassFile.FieldType)) ∈ lw_all := lw_g (lw_at lw_m10 113 rfl) rfl
theorem q2369 : (Jvm.Cond.methodLink "FieldPumpsModel" (280 : Nat) ({ cls := "FieldPumpsModel", name := "doOrders", desc := "()V" } : Jvm.MethodName)) ∈ lw_all := lw_g (lw_at lw_m10 114 rfl) rfl
theorem q2370 : (Jvm.Cond.privateMethod ({ cls := "FieldPumpsModel", name := "doOrders", desc := "()V" } : Jvm.MethodName)) ∈ lw_tbl := lw_at lw_m10 115 rfl
theorem q2371 : (Jvm.Cond.instanceMethod ({ cls := "FieldPumpsModel", name := "doOrders", desc := "()V" } : Jvm.MethodName)) ∈ lw_all := lw_g (lw_at lw_m10 116 rfl) rfl
theorem q2372 : (Jvm.Cond.code ({ cls := "FieldPumpsModel", name := "doOrders", desc := "()V" } : Jvm.MethodName) prog_20_method_79_code (1 : Nat) (Option.none : Option Jvm.ClassFile.FieldType)) ∈ lw_all := lw_g (lw_at lw_m10 117 rfl) rfl
theorem q2373 : (Jvm.Cond.methodLink "FieldPumpsModel" (270 : Nat) ({ cls := "FieldPumpsModel", name := "readsOrder", desc := "()Z" } : Jvm.MethodName)) ∈ lw_all := lw_g (lw_at lw_m10 118 rfl) rfl
theorem q2374 : (Jvm.Cond.privateMethod ({ cls := "FieldPumpsModel", name := "readsOrder", desc := "()Z" } : Jvm.MethodName)) ∈ lw_tbl := lw_at lw_m10 119 rfl
theorem q2375 : (Jvm.Cond.instanceMethod ({ cls := "FieldPumpsModel", name := "readsOrder", desc := "()Z" } : Jvm.MethodName)) ∈ lw_all := lw_g (lw_at lw_m10 120 rfl) rfl
theorem q2376 : (Jvm.Cond.code ({ cls := "FieldPumpsModel", name := "readsOrder", desc := "()Z" } : Jvm.MethodName) prog_20_method_76_code (3 : Nat) (Option.some Jvm.ClassFile.FieldType.boolean)) ∈ lw_all := lw_g (lw_at lw_m10 121 rfl) rfl
theorem q2377 : (Jvm.Cond.methodLink "FieldPumpsModel" (248 : Nat) ({ cls := "FieldPumpsModel", name := "here", desc := "()I" } : Jvm.MethodName)) ∈ lw_all := lw_g (lw_at lw_m10 122 rfl) rfl
theorem q2378 : (Jvm.Cond.privateMethod ({ cls := "FieldPumpsModel", name := "here", desc := "()I" } : Jvm.MethodName)) ∈ lw_tbl := lw_at lw_m10 123 rfl
theorem q2379 : (Jvm.Cond.instanceMethod ({ cls := "FieldPumpsModel", name := "here", desc := "()I" } : Jvm.MethodName)) ∈ lw_all := lw_g (lw_at lw_m10 124 rfl) rfl
theorem q2380 : (Jvm.Cond.code ({ cls := "FieldPumpsModel", name := "here", desc := "()I" } : Jvm.MethodName) prog_20_method_75_code (1 : Nat) (Option.some Jvm.ClassFile.FieldType.int)) ∈ lw_all := lw_g (lw_at lw_m10 125 rfl) rfl
theorem q2381 : (Jvm.Cond.constantLong "FieldPumpsModel" (257 : Nat) (48 : Int64)) ∈ lw_all := lw_g (lw_at lw_m10 126 rfl) rfl
theorem q2382 : (Jvm.Cond.constantLong "FieldPumpsModel" (259 : Nat) (57 : Int64)) ∈ lw_all := lw_g (lw_at lw_m10 127 rfl) rfl
theorem q2383 : (Jvm.Cond.methodLink "FieldPumpsModel" (274 : Nat) ({ cls := "FieldPumpsModel", name := "reasonOfOrder", desc := "()I" } : Jvm.MethodName)) ∈ lw_all := lw_g (lw_at lw_m10 128 rfl) rfl
theorem q2384 : (Jvm.Cond.privateMethod ({ cls := "FieldPumpsModel", name := "reasonOfOrder", desc := "()I" } : Jvm.MethodName)) ∈ lw_tbl := lw_at lw_m10 129 rfl
theorem q2385 : (Jvm.Cond.instanceMethod ({ cls := "FieldPumpsModel", name := "reasonOfOrder", desc := "()I" } : Jvm.MethodName)) ∈ lw_all := lw_g (lw_at lw_m10 130 rfl) rfl
theorem q2386 : (Jvm.Cond.code ({ cls := "FieldPumpsModel", name := "reasonOfOrder", desc := "()I" } : Jvm.MethodName) prog_20_method_77_code (1 : Nat) (Option.some Jvm.ClassFile.FieldType.int)) ∈ lw_all := lw_g (lw_at lw_m10 131 rfl) rfl
theorem q2387 : (Jvm.Cond.methodLink "FieldPumpsModel" (277 : Nat) ({ cls := "FieldPumpsModel", name := "does", desc := "()V" } : Jvm.MethodName)) ∈ lw_all := lw_g (lw_at lw_m10 132 rfl) rfl
theorem q2388 : (Jvm.Cond.privateMethod ({ cls := "FieldPumpsModel", name := "does", desc := "()V" } : Jvm.MethodName)) ∈ lw_tbl := lw_at lw_m10 133 rfl
theorem q2389 : (Jvm.Cond.instanceMethod ({ cls := "FieldPumpsModel", name := "does", desc := "()V" } : Jvm.MethodName)) ∈ lw_all := lw_g (lw_at lw_m10 134 rfl) rfl
theorem q2390 : (Jvm.Cond.code ({ cls := "FieldPumpsModel", name := "does", desc := "()V" } : Jvm.MethodName) prog_20_method_78_code (2 : Nat) (Option.none : Option Jvm.ClassFile.FieldType)) ∈ lw_all := lw_g (lw_at lw_m10 135 rfl) rfl
theorem q2392 : (Jvm.Cond.instanceMethod ({ cls := "FieldPumpsModel", name := "play", desc := "()I" } : Jvm.MethodName)) ∈ lw_all := lw_g (lw_at lw_m10 137 rfl) rfl
theorem q2393 : (Jvm.Cond.selects "FieldPumpsModel" ({ cls := "FieldPumpsModel", name := "play", desc := "()I" } : Jvm.MethodName) ({ cls := "FieldPumpsModel", name := "play", desc := "()I" } : Jvm.MethodName)) ∈ lw_all := lw_g (lw_at lw_m10 138 rfl) rfl
theorem q2394 : (Jvm.Cond.code ({ cls := "FieldPumpsModel", name := "play", desc := "()I" } : Jvm.MethodName) prog_20_method_82_code (1 : Nat) (Option.some Jvm.ClassFile.FieldType.int)) ∈ lw_all := lw_g (lw_at lw_m10 139 rfl) rfl
theorem q2431 : (Jvm.Cond.castable "FieldPumpsModel" "java/lang/Object") ∈ lw_tbl := lw_at lw_m10 176 rfl
theorem in_X4 : ∀ w ∈ wsX40, w ∈ lw_all := lw_in wsX40 [2024, 2026, 2028, 2030, 2032, 2034, 2036, 2038, 2040, 2042, 2044, 2046, 2048] (by decide +kernel) (by decide +kernel)
