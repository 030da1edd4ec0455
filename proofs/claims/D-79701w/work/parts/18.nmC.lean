set_option maxRecDepth 100000
abbrev cX0_init : ByteArray := prog_1_method_5_code
def yX0_init : MethodName := ⟨RX0, "<init>", "()V"⟩
def dkwX0_init_1 : List UInt8 := [181, 0, 40, 42, 187, 0, 44, 89, 183, 0, 46, 181, 0, 47, 177]
abbrev dktX0_init_1 : List UInt8 := dkwX0_init_1 ++ []
def dkwX0_init_0 : List UInt8 := [42, 183, 0, 23, 42, 187, 0, 28, 89, 183, 0, 30, 181, 0, 31, 42, 187, 0, 37, 89, 183, 0, 39]
abbrev dktX0_init_0 : List UInt8 := dkwX0_init_0 ++ dktX0_init_1
theorem dksX0_init_0 : cX0_init.data.toList.drop 0 = dktX0_init_0 := by decide +kernel
theorem dksX0_init_1 : cX0_init.data.toList.drop 23 = dktX0_init_1 := dk_seg dksX0_init_0 23 rfl rfl
theorem dX0_init_0 : decode cX0_init 0 = .ok (.aload_n 0, 1) := dk_42 (dk_at dksX0_init_0 0 rfl rfl)
theorem dX0_init_1 : decode cX0_init 1 = .ok (.invokespecial 23, 3) := dk_183 0 23 (dk_at dksX0_init_0 1 rfl rfl)
theorem dX0_init_4 : decode cX0_init 4 = .ok (.aload_n 0, 1) := dk_42 (dk_at dksX0_init_0 4 rfl rfl)
theorem dX0_init_5 : decode cX0_init 5 = .ok (.new 28, 3) := dk_187 0 28 (dk_at dksX0_init_0 5 rfl rfl)
theorem dX0_init_8 : decode cX0_init 8 = .ok (.dup, 1) := dk_89 (dk_at dksX0_init_0 8 rfl rfl)
theorem dX0_init_9 : decode cX0_init 9 = .ok (.invokespecial 30, 3) := dk_183 0 30 (dk_at dksX0_init_0 9 rfl rfl)
theorem dX0_init_12 : decode cX0_init 12 = .ok (.putfield 31, 3) := dk_181 0 31 (dk_at dksX0_init_0 12 rfl rfl)
theorem dX0_init_15 : decode cX0_init 15 = .ok (.aload_n 0, 1) := dk_42 (dk_at dksX0_init_0 15 rfl rfl)
theorem dX0_init_16 : decode cX0_init 16 = .ok (.new 37, 3) := dk_187 0 37 (dk_at dksX0_init_0 16 rfl rfl)
theorem dX0_init_19 : decode cX0_init 19 = .ok (.dup, 1) := dk_89 (dk_at dksX0_init_0 19 rfl rfl)
theorem dX0_init_20 : decode cX0_init 20 = .ok (.invokespecial 39, 3) := dk_183 0 39 (dk_at dksX0_init_0 20 rfl rfl)
theorem dX0_init_23 : decode cX0_init 23 = .ok (.putfield 40, 3) := dk_181 0 40 (dk_at dksX0_init_1 0 rfl rfl)
theorem dX0_init_26 : decode cX0_init 26 = .ok (.aload_n 0, 1) := dk_42 (dk_at dksX0_init_1 3 rfl rfl)
theorem dX0_init_27 : decode cX0_init 27 = .ok (.new 44, 3) := dk_187 0 44 (dk_at dksX0_init_1 4 rfl rfl)
theorem dX0_init_30 : decode cX0_init 30 = .ok (.dup, 1) := dk_89 (dk_at dksX0_init_1 7 rfl rfl)
theorem dX0_init_31 : decode cX0_init 31 = .ok (.invokespecial 46, 3) := dk_183 0 46 (dk_at dksX0_init_1 8 rfl rfl)
theorem dX0_init_34 : decode cX0_init 34 = .ok (.putfield 47, 3) := dk_181 0 47 (dk_at dksX0_init_1 11 rfl rfl)
theorem dX0_init_37 : decode cX0_init 37 = .ok (.return_, 1) := dk_177 (dk_at dksX0_init_1 14 rfl rfl)
abbrev cX0_set : ByteArray := prog_1_method_8_code
def yX0_set : MethodName := ⟨RX0, "set", "(II)I"⟩
def dkwX0_set_1 : List UInt8 := [182, 0, 103, 180, 0, 99, 27, 28, 79, 29, 172]
abbrev dktX0_set_1 : List UInt8 := dkwX0_set_1 ++ []
def dkwX0_set_0 : List UInt8 := [27, 28, 184, 0, 94, 154, 0, 6, 18, 98, 172, 42, 180, 0, 31, 180, 0, 99, 27, 46, 62, 42]
abbrev dktX0_set_0 : List UInt8 := dkwX0_set_0 ++ dktX0_set_1
theorem dksX0_set_0 : cX0_set.data.toList.drop 0 = dktX0_set_0 := by decide +kernel
theorem dksX0_set_1 : cX0_set.data.toList.drop 22 = dktX0_set_1 := dk_seg dksX0_set_0 22 rfl rfl
theorem dX0_set_0 : decode cX0_set 0 = .ok (.iload_n 1, 1) := dk_27 (dk_at dksX0_set_0 0 rfl rfl)
theorem dX0_set_1 : decode cX0_set 1 = .ok (.iload_n 2, 1) := dk_28 (dk_at dksX0_set_0 1 rfl rfl)
theorem dX0_set_2 : decode cX0_set 2 = .ok (.invokestatic 94, 3) := dk_184 0 94 (dk_at dksX0_set_0 2 rfl rfl)
theorem dX0_set_5 : decode cX0_set 5 = .ok (.ifCond .ne 6, 3) := dk_154 0 6 (dk_at dksX0_set_0 5 rfl rfl)
theorem dX0_set_8 : decode cX0_set 8 = .ok (.ldc 98, 2) := dk_18 98 (dk_at dksX0_set_0 8 rfl rfl)
theorem dX0_set_10 : decode cX0_set 10 = .ok (.ireturn, 1) := dk_172 (dk_at dksX0_set_0 10 rfl rfl)
theorem dX0_set_11 : decode cX0_set 11 = .ok (.aload_n 0, 1) := dk_42 (dk_at dksX0_set_0 11 rfl rfl)
theorem dX0_set_12 : decode cX0_set 12 = .ok (.getfield 31, 3) := dk_180 0 31 (dk_at dksX0_set_0 12 rfl rfl)
theorem dX0_set_15 : decode cX0_set 15 = .ok (.getfield 99, 3) := dk_180 0 99 (dk_at dksX0_set_0 15 rfl rfl)
theorem dX0_set_18 : decode cX0_set 18 = .ok (.iload_n 1, 1) := dk_27 (dk_at dksX0_set_0 18 rfl rfl)
theorem dX0_set_19 : decode cX0_set 19 = .ok (.iaload, 1) := dk_46 (dk_at dksX0_set_0 19 rfl rfl)
theorem dX0_set_20 : decode cX0_set 20 = .ok (.istore_n 3, 1) := dk_62 (dk_at dksX0_set_0 20 rfl rfl)
theorem dX0_set_21 : decode cX0_set 21 = .ok (.aload_n 0, 1) := dk_42 (dk_at dksX0_set_0 21 rfl rfl)
theorem dX0_set_22 : decode cX0_set 22 = .ok (.invokevirtual 103, 3) := dk_182 0 103 (dk_at dksX0_set_1 0 rfl rfl)
theorem dX0_set_25 : decode cX0_set 25 = .ok (.getfield 99, 3) := dk_180 0 99 (dk_at dksX0_set_1 3 rfl rfl)
theorem dX0_set_28 : decode cX0_set 28 = .ok (.iload_n 1, 1) := dk_27 (dk_at dksX0_set_1 6 rfl rfl)
theorem dX0_set_29 : decode cX0_set 29 = .ok (.iload_n 2, 1) := dk_28 (dk_at dksX0_set_1 7 rfl rfl)
theorem dX0_set_30 : decode cX0_set 30 = .ok (.iastore, 1) := dk_79 (dk_at dksX0_set_1 8 rfl rfl)
theorem dX0_set_31 : decode cX0_set 31 = .ok (.iload_n 3, 1) := dk_29 (dk_at dksX0_set_1 9 rfl rfl)
theorem dX0_set_32 : decode cX0_set 32 = .ok (.ireturn, 1) := dk_172 (dk_at dksX0_set_1 10 rfl rfl)
abbrev cX0_isSetting : ByteArray := prog_1_method_7_code
def yX0_isSetting : MethodName := ⟨RX0, "isSetting", "(II)Z"⟩
def dkwX0_isSetting_9 : List UInt8 := [153, 0, 19, 27, 133, 10, 20, 0, 92, 184, 0, 70, 153, 0, 7, 4, 167, 0, 4, 3, 172]
abbrev dktX0_isSetting_9 : List UInt8 := dkwX0_isSetting_9 ++ []
def dkwX0_isSetting_8 : List UInt8 := [16, 6, 159, 0, 15, 26, 16, 8, 159, 0, 9, 26, 16, 13, 160, 0, 7, 4, 167, 0, 4, 3, 61, 28]
abbrev dktX0_isSetting_8 : List UInt8 := dkwX0_isSetting_8 ++ dktX0_isSetting_9
def dkwX0_isSetting_7 : List UInt8 := [20, 0, 88, 184, 0, 70, 172, 27, 133, 9, 20, 0, 90, 184, 0, 70, 172, 26, 8, 159, 0, 21, 26]
abbrev dktX0_isSetting_7 : List UInt8 := dkwX0_isSetting_7 ++ dktX0_isSetting_8
def dkwX0_isSetting_6 : List UInt8 := [27, 133, 9, 20, 0, 84, 184, 0, 70, 172, 27, 133, 10, 20, 0, 86, 184, 0, 70, 172, 27, 133, 9]
abbrev dktX0_isSetting_6 : List UInt8 := dkwX0_isSetting_6 ++ dktX0_isSetting_7
def dkwX0_isSetting_5 : List UInt8 := [184, 0, 70, 172, 27, 133, 10, 20, 0, 80, 184, 0, 70, 172, 27, 133, 9, 20, 0, 82, 184, 0, 70, 172]
abbrev dktX0_isSetting_5 : List UInt8 := dkwX0_isSetting_5 ++ dktX0_isSetting_6
def dkwX0_isSetting_4 : List UInt8 := [20, 0, 68, 184, 0, 70, 172, 27, 133, 9, 20, 0, 78, 184, 0, 70, 172, 27, 133, 10, 20, 0, 76]
abbrev dktX0_isSetting_4 : List UInt8 := dkwX0_isSetting_4 ++ dktX0_isSetting_5
def dkwX0_isSetting_3 : List UInt8 := [9, 20, 0, 66, 184, 0, 70, 172, 27, 133, 10, 20, 0, 74, 184, 0, 70, 172, 27, 133, 20, 0, 76]
abbrev dktX0_isSetting_3 : List UInt8 := dkwX0_isSetting_3 ++ dktX0_isSetting_4
def dkwX0_isSetting_2 : List UInt8 := [27, 133, 20, 0, 66, 20, 0, 68, 184, 0, 70, 172, 27, 133, 10, 20, 0, 66, 184, 0, 70, 172, 27, 133]
abbrev dktX0_isSetting_2 : List UInt8 := dkwX0_isSetting_2 ++ dktX0_isSetting_3
def dkwX0_isSetting_1 : List UInt8 := [170, 0, 0, 0, 0, 0, 225, 0, 0, 0, 0, 0, 0, 0, 18, 0, 0, 0, 91, 0, 0, 0, 103, 0, 0, 0, 113, 0, 0, 0, 123, 0, 0, 0, 133, 0, 0, 0, 225, 0, 0, 0, 225, 0, 0, 0, 145, 0, 0, 0, 225, 0, 0, 0, 155, 0, 0, 0, 165, 0, 0, 0, 175, 0, 0, 0, 175, 0, 0, 0, 225, 0, 0, 0, 145, 0, 0, 0, 185, 0, 0, 0, 195, 0, 0, 0, 205, 0, 0, 0, 215]
abbrev dktX0_isSetting_1 : List UInt8 := dkwX0_isSetting_1 ++ dktX0_isSetting_2
def dkwX0_isSetting_0 : List UInt8 := [26]
abbrev dktX0_isSetting_0 : List UInt8 := dkwX0_isSetting_0 ++ dktX0_isSetting_1
theorem dksX0_isSetting_0 : cX0_isSetting.data.toList.drop 0 = dktX0_isSetting_0 := by decide +kernel
theorem dksX0_isSetting_1 : cX0_isSetting.data.toList.drop 1 = dktX0_isSetting_1 := dk_seg dksX0_isSetting_0 1 rfl rfl
theorem dksX0_isSetting_2 : cX0_isSetting.data.toList.drop 92 = dktX0_isSetting_2 := dk_seg dksX0_isSetting_1 91 rfl rfl
theorem dksX0_isSetting_3 : cX0_isSetting.data.toList.drop 116 = dktX0_isSetting_3 := dk_seg dksX0_isSetting_2 24 rfl rfl
theorem dksX0_isSetting_4 : cX0_isSetting.data.toList.drop 139 = dktX0_isSetting_4 := dk_seg dksX0_isSetting_3 23 rfl rfl
theorem dksX0_isSetting_5 : cX0_isSetting.data.toList.drop 162 = dktX0_isSetting_5 := dk_seg dksX0_isSetting_4 23 rfl rfl
theorem dksX0_isSetting_6 : cX0_isSetting.data.toList.drop 186 = dktX0_isSetting_6 := dk_seg dksX0_isSetting_5 24 rfl rfl
theorem dksX0_isSetting_7 : cX0_isSetting.data.toList.drop 209 = dktX0_isSetting_7 := dk_seg dksX0_isSetting_6 23 rfl rfl
theorem dksX0_isSetting_8 : cX0_isSetting.data.toList.drop 232 = dktX0_isSetting_8 := dk_seg dksX0_isSetting_7 23 rfl rfl
theorem dksX0_isSetting_9 : cX0_isSetting.data.toList.drop 256 = dktX0_isSetting_9 := dk_seg dksX0_isSetting_8 24 rfl rfl
theorem dX0_isSetting_0 : decode cX0_isSetting 0 = .ok (.iload_n 0, 1) := dk_26 (dk_at dksX0_isSetting_0 0 rfl rfl)
theorem dX0_isSetting_1 : decode cX0_isSetting 1 = .ok (.tableswitch 225 0 18 #[91, 103, 113, 123, 133, 225, 225, 145, 225, 155, 165, 175, 175, 225, 145, 185, 195, 205, 215], 91) := by decide +kernel
theorem dX0_isSetting_92 : decode cX0_isSetting 92 = .ok (.iload_n 1, 1) := dk_27 (dk_at dksX0_isSetting_2 0 rfl rfl)
theorem dX0_isSetting_93 : decode cX0_isSetting 93 = .ok (.i2l, 1) := dk_133 (dk_at dksX0_isSetting_2 1 rfl rfl)
theorem dX0_isSetting_94 : decode cX0_isSetting 94 = .ok (.ldc2_w 66, 3) := dk_20 0 66 (dk_at dksX0_isSetting_2 2 rfl rfl)
theorem dX0_isSetting_97 : decode cX0_isSetting 97 = .ok (.ldc2_w 68, 3) := dk_20 0 68 (dk_at dksX0_isSetting_2 5 rfl rfl)
theorem dX0_isSetting_100 : decode cX0_isSetting 100 = .ok (.invokestatic 70, 3) := dk_184 0 70 (dk_at dksX0_isSetting_2 8 rfl rfl)
theorem dX0_isSetting_103 : decode cX0_isSetting 103 = .ok (.ireturn, 1) := dk_172 (dk_at dksX0_isSetting_2 11 rfl rfl)
theorem dX0_isSetting_104 : decode cX0_isSetting 104 = .ok (.iload_n 1, 1) := dk_27 (dk_at dksX0_isSetting_2 12 rfl rfl)
theorem dX0_isSetting_105 : decode cX0_isSetting 105 = .ok (.i2l, 1) := dk_133 (dk_at dksX0_isSetting_2 13 rfl rfl)
theorem dX0_isSetting_106 : decode cX0_isSetting 106 = .ok (.lconst 1, 1) := dk_10 (dk_at dksX0_isSetting_2 14 rfl rfl)
theorem dX0_isSetting_107 : decode cX0_isSetting 107 = .ok (.ldc2_w 66, 3) := dk_20 0 66 (dk_at dksX0_isSetting_2 15 rfl rfl)
theorem dX0_isSetting_110 : decode cX0_isSetting 110 = .ok (.invokestatic 70, 3) := dk_184 0 70 (dk_at dksX0_isSetting_2 18 rfl rfl)
theorem dX0_isSetting_113 : decode cX0_isSetting 113 = .ok (.ireturn, 1) := dk_172 (dk_at dksX0_isSetting_2 21 rfl rfl)
theorem dX0_isSetting_114 : decode cX0_isSetting 114 = .ok (.iload_n 1, 1) := dk_27 (dk_at dksX0_isSetting_2 22 rfl rfl)
theorem dX0_isSetting_115 : decode cX0_isSetting 115 = .ok (.i2l, 1) := dk_133 (dk_at dksX0_isSetting_2 23 rfl rfl)
theorem dX0_isSetting_116 : decode cX0_isSetting 116 = .ok (.lconst 0, 1) := dk_9 (dk_at dksX0_isSetting_3 0 rfl rfl)
theorem dX0_isSetting_117 : decode cX0_isSetting 117 = .ok (.ldc2_w 66, 3) := dk_20 0 66 (dk_at dksX0_isSetting_3 1 rfl rfl)
theorem dX0_isSetting_120 : decode cX0_isSetting 120 = .ok (.invokestatic 70, 3) := dk_184 0 70 (dk_at dksX0_isSetting_3 4 rfl rfl)
theorem dX0_isSetting_123 : decode cX0_isSetting 123 = .ok (.ireturn, 1) := dk_172 (dk_at dksX0_isSetting_3 7 rfl rfl)
theorem dX0_isSetting_124 : decode cX0_isSetting 124 = .ok (.iload_n 1, 1) := dk_27 (dk_at dksX0_isSetting_3 8 rfl rfl)
theorem dX0_isSetting_125 : decode cX0_isSetting 125 = .ok (.i2l, 1) := dk_133 (dk_at dksX0_isSetting_3 9 rfl rfl)
theorem dX0_isSetting_126 : decode cX0_isSetting 126 = .ok (.lconst 1, 1) := dk_10 (dk_at dksX0_isSetting_3 10 rfl rfl)
theorem dX0_isSetting_127 : decode cX0_isSetting 127 = .ok (.ldc2_w 74, 3) := dk_20 0 74 (dk_at dksX0_isSetting_3 11 rfl rfl)
theorem dX0_isSetting_130 : decode cX0_isSetting 130 = .ok (.invokestatic 70, 3) := dk_184 0 70 (dk_at dksX0_isSetting_3 14 rfl rfl)
theorem dX0_isSetting_133 : decode cX0_isSetting 133 = .ok (.ireturn, 1) := dk_172 (dk_at dksX0_isSetting_3 17 rfl rfl)
theorem dX0_isSetting_134 : decode cX0_isSetting 134 = .ok (.iload_n 1, 1) := dk_27 (dk_at dksX0_isSetting_3 18 rfl rfl)
theorem dX0_isSetting_135 : decode cX0_isSetting 135 = .ok (.i2l, 1) := dk_133 (dk_at dksX0_isSetting_3 19 rfl rfl)
theorem dX0_isSetting_136 : decode cX0_isSetting 136 = .ok (.ldc2_w 76, 3) := dk_20 0 76 (dk_at dksX0_isSetting_3 20 rfl rfl)
theorem dX0_isSetting_139 : decode cX0_isSetting 139 = .ok (.ldc2_w 68, 3) := dk_20 0 68 (dk_at dksX0_isSetting_4 0 rfl rfl)
theorem dX0_isSetting_142 : decode cX0_isSetting 142 = .ok (.invokestatic 70, 3) := dk_184 0 70 (dk_at dksX0_isSetting_4 3 rfl rfl)
theorem dX0_isSetting_145 : decode cX0_isSetting 145 = .ok (.ireturn, 1) := dk_172 (dk_at dksX0_isSetting_4 6 rfl rfl)
theorem dX0_isSetting_146 : decode cX0_isSetting 146 = .ok (.iload_n 1, 1) := dk_27 (dk_at dksX0_isSetting_4 7 rfl rfl)
theorem dX0_isSetting_147 : decode cX0_isSetting 147 = .ok (.i2l, 1) := dk_133 (dk_at dksX0_isSetting_4 8 rfl rfl)
theorem dX0_isSetting_148 : decode cX0_isSetting 148 = .ok (.lconst 0, 1) := dk_9 (dk_at dksX0_isSetting_4 9 rfl rfl)
theorem dX0_isSetting_149 : decode cX0_isSetting 149 = .ok (.ldc2_w 78, 3) := dk_20 0 78 (dk_at dksX0_isSetting_4 10 rfl rfl)
theorem dX0_isSetting_152 : decode cX0_isSetting 152 = .ok (.invokestatic 70, 3) := dk_184 0 70 (dk_at dksX0_isSetting_4 13 rfl rfl)
theorem dX0_isSetting_155 : decode cX0_isSetting 155 = .ok (.ireturn, 1) := dk_172 (dk_at dksX0_isSetting_4 16 rfl rfl)
theorem dX0_isSetting_156 : decode cX0_isSetting 156 = .ok (.iload_n 1, 1) := dk_27 (dk_at dksX0_isSetting_4 17 rfl rfl)
theorem dX0_isSetting_157 : decode cX0_isSetting 157 = .ok (.i2l, 1) := dk_133 (dk_at dksX0_isSetting_4 18 rfl rfl)
theorem dX0_isSetting_158 : decode cX0_isSetting 158 = .ok (.lconst 1, 1) := dk_10 (dk_at dksX0_isSetting_4 19 rfl rfl)
theorem dX0_isSetting_159 : decode cX0_isSetting 159 = .ok (.ldc2_w 76, 3) := dk_20 0 76 (dk_at dksX0_isSetting_4 20 rfl rfl)
theorem dX0_isSetting_162 : decode cX0_isSetting 162 = .ok (.invokestatic 70, 3) := dk_184 0 70 (dk_at dksX0_isSetting_5 0 rfl rfl)
theorem dX0_isSetting_165 : decode cX0_isSetting 165 = .ok (.ireturn, 1) := dk_172 (dk_at dksX0_isSetting_5 3 rfl rfl)
theorem dX0_isSetting_166 : decode cX0_isSetting 166 = .ok (.iload_n 1, 1) := dk_27 (dk_at dksX0_isSetting_5 4 rfl rfl)
theorem dX0_isSetting_167 : decode cX0_isSetting 167 = .ok (.i2l, 1) := dk_133 (dk_at dksX0_isSetting_5 5 rfl rfl)
theorem dX0_isSetting_168 : decode cX0_isSetting 168 = .ok (.lconst 1, 1) := dk_10 (dk_at dksX0_isSetting_5 6 rfl rfl)
theorem dX0_isSetting_169 : decode cX0_isSetting 169 = .ok (.ldc2_w 80, 3) := dk_20 0 80 (dk_at dksX0_isSetting_5 7 rfl rfl)
theorem dX0_isSetting_172 : decode cX0_isSetting 172 = .ok (.invokestatic 70, 3) := dk_184 0 70 (dk_at dksX0_isSetting_5 10 rfl rfl)
theorem dX0_isSetting_175 : decode cX0_isSetting 175 = .ok (.ireturn, 1) := dk_172 (dk_at dksX0_isSetting_5 13 rfl rfl)
theorem dX0_isSetting_176 : decode cX0_isSetting 176 = .ok (.iload_n 1, 1) := dk_27 (dk_at dksX0_isSetting_5 14 rfl rfl)
theorem dX0_isSetting_177 : decode cX0_isSetting 177 = .ok (.i2l, 1) := dk_133 (dk_at dksX0_isSetting_5 15 rfl rfl)
theorem dX0_isSetting_178 : decode cX0_isSetting 178 = .ok (.lconst 0, 1) := dk_9 (dk_at dksX0_isSetting_5 16 rfl rfl)
theorem dX0_isSetting_179 : decode cX0_isSetting 179 = .ok (.ldc2_w 82, 3) := dk_20 0 82 (dk_at dksX0_isSetting_5 17 rfl rfl)
theorem dX0_isSetting_182 : decode cX0_isSetting 182 = .ok (.invokestatic 70, 3) := dk_184 0 70 (dk_at dksX0_isSetting_5 20 rfl rfl)
theorem dX0_isSetting_185 : decode cX0_isSetting 185 = .ok (.ireturn, 1) := dk_172 (dk_at dksX0_isSetting_5 23 rfl rfl)
theorem dX0_isSetting_186 : decode cX0_isSetting 186 = .ok (.iload_n 1, 1) := dk_27 (dk_at dksX0_isSetting_6 0 rfl rfl)
theorem dX0_isSetting_187 : decode cX0_isSetting 187 = .ok (.i2l, 1) := dk_133 (dk_at dksX0_isSetting_6 1 rfl rfl)
theorem dX0_isSetting_188 : decode cX0_isSetting 188 = .ok (.lconst 0, 1) := dk_9 (dk_at dksX0_isSetting_6 2 rfl rfl)
theorem dX0_isSetting_189 : decode cX0_isSetting 189 = .ok (.ldc2_w 84, 3) := dk_20 0 84 (dk_at dksX0_isSetting_6 3 rfl rfl)
theorem dX0_isSetting_192 : decode cX0_isSetting 192 = .ok (.invokestatic 70, 3) := dk_184 0 70 (dk_at dksX0_isSetting_6 6 rfl rfl)
theorem dX0_isSetting_195 : decode cX0_isSetting 195 = .ok (.ireturn, 1) := dk_172 (dk_at dksX0_isSetting_6 9 rfl rfl)
theorem dX0_isSetting_196 : decode cX0_isSetting 196 = .ok (.iload_n 1, 1) := dk_27 (dk_at dksX0_isSetting_6 10 rfl rfl)
theorem dX0_isSetting_197 : decode cX0_isSetting 197 = .ok (.i2l, 1) := dk_133 (dk_at dksX0_isSetting_6 11 rfl rfl)
theorem dX0_isSetting_198 : decode cX0_isSetting 198 = .ok (.lconst 1, 1) := dk_10 (dk_at dksX0_isSetting_6 12 rfl rfl)
theorem dX0_isSetting_199 : decode cX0_isSetting 199 = .ok (.ldc2_w 86, 3) := dk_20 0 86 (dk_at dksX0_isSetting_6 13 rfl rfl)
theorem dX0_isSetting_202 : decode cX0_isSetting 202 = .ok (.invokestatic 70, 3) := dk_184 0 70 (dk_at dksX0_isSetting_6 16 rfl rfl)
theorem dX0_isSetting_205 : decode cX0_isSetting 205 = .ok (.ireturn, 1) := dk_172 (dk_at dksX0_isSetting_6 19 rfl rfl)
theorem dX0_isSetting_206 : decode cX0_isSetting 206 = .ok (.iload_n 1, 1) := dk_27 (dk_at dksX0_isSetting_6 20 rfl rfl)
theorem dX0_isSetting_207 : decode cX0_isSetting 207 = .ok (.i2l, 1) := dk_133 (dk_at dksX0_isSetting_6 21 rfl rfl)
theorem dX0_isSetting_208 : decode cX0_isSetting 208 = .ok (.lconst 0, 1) := dk_9 (dk_at dksX0_isSetting_6 22 rfl rfl)
theorem dX0_isSetting_209 : decode cX0_isSetting 209 = .ok (.ldc2_w 88, 3) := dk_20 0 88 (dk_at dksX0_isSetting_7 0 rfl rfl)
theorem dX0_isSetting_212 : decode cX0_isSetting 212 = .ok (.invokestatic 70, 3) := dk_184 0 70 (dk_at dksX0_isSetting_7 3 rfl rfl)
theorem dX0_isSetting_215 : decode cX0_isSetting 215 = .ok (.ireturn, 1) := dk_172 (dk_at dksX0_isSetting_7 6 rfl rfl)
theorem dX0_isSetting_216 : decode cX0_isSetting 216 = .ok (.iload_n 1, 1) := dk_27 (dk_at dksX0_isSetting_7 7 rfl rfl)
theorem dX0_isSetting_217 : decode cX0_isSetting 217 = .ok (.i2l, 1) := dk_133 (dk_at dksX0_isSetting_7 8 rfl rfl)
theorem dX0_isSetting_218 : decode cX0_isSetting 218 = .ok (.lconst 0, 1) := dk_9 (dk_at dksX0_isSetting_7 9 rfl rfl)
theorem dX0_isSetting_219 : decode cX0_isSetting 219 = .ok (.ldc2_w 90, 3) := dk_20 0 90 (dk_at dksX0_isSetting_7 10 rfl rfl)
theorem dX0_isSetting_222 : decode cX0_isSetting 222 = .ok (.invokestatic 70, 3) := dk_184 0 70 (dk_at dksX0_isSetting_7 13 rfl rfl)
theorem dX0_isSetting_225 : decode cX0_isSetting 225 = .ok (.ireturn, 1) := dk_172 (dk_at dksX0_isSetting_7 16 rfl rfl)
theorem dX0_isSetting_226 : decode cX0_isSetting 226 = .ok (.iload_n 0, 1) := dk_26 (dk_at dksX0_isSetting_7 17 rfl rfl)
theorem dX0_isSetting_227 : decode cX0_isSetting 227 = .ok (.iconst 5, 1) := dk_8 (dk_at dksX0_isSetting_7 18 rfl rfl)
theorem dX0_isSetting_228 : decode cX0_isSetting 228 = .ok (.if_icmp .eq 21, 3) := dk_159 0 21 (dk_at dksX0_isSetting_7 19 rfl rfl)
theorem dX0_isSetting_231 : decode cX0_isSetting 231 = .ok (.iload_n 0, 1) := dk_26 (dk_at dksX0_isSetting_7 22 rfl rfl)
theorem dX0_isSetting_232 : decode cX0_isSetting 232 = .ok (.bipush 6, 2) := dk_16 6 (dk_at dksX0_isSetting_8 0 rfl rfl)
theorem dX0_isSetting_234 : decode cX0_isSetting 234 = .ok (.if_icmp .eq 15, 3) := dk_159 0 15 (dk_at dksX0_isSetting_8 2 rfl rfl)
theorem dX0_isSetting_237 : decode cX0_isSetting 237 = .ok (.iload_n 0, 1) := dk_26 (dk_at dksX0_isSetting_8 5 rfl rfl)
theorem dX0_isSetting_238 : decode cX0_isSetting 238 = .ok (.bipush 8, 2) := dk_16 8 (dk_at dksX0_isSetting_8 6 rfl rfl)
theorem dX0_isSetting_240 : decode cX0_isSetting 240 = .ok (.if_icmp .eq 9, 3) := dk_159 0 9 (dk_at dksX0_isSetting_8 8 rfl rfl)
theorem dX0_isSetting_243 : decode cX0_isSetting 243 = .ok (.iload_n 0, 1) := dk_26 (dk_at dksX0_isSetting_8 11 rfl rfl)
theorem dX0_isSetting_244 : decode cX0_isSetting 244 = .ok (.bipush 13, 2) := dk_16 13 (dk_at dksX0_isSetting_8 12 rfl rfl)
theorem dX0_isSetting_246 : decode cX0_isSetting 246 = .ok (.if_icmp .ne 7, 3) := dk_160 0 7 (dk_at dksX0_isSetting_8 14 rfl rfl)
theorem dX0_isSetting_249 : decode cX0_isSetting 249 = .ok (.iconst 1, 1) := dk_4 (dk_at dksX0_isSetting_8 17 rfl rfl)
theorem dX0_isSetting_250 : decode cX0_isSetting 250 = .ok (.goto 4, 3) := dk_167 0 4 (dk_at dksX0_isSetting_8 18 rfl rfl)
theorem dX0_isSetting_253 : decode cX0_isSetting 253 = .ok (.iconst 0, 1) := dk_3 (dk_at dksX0_isSetting_8 21 rfl rfl)
theorem dX0_isSetting_254 : decode cX0_isSetting 254 = .ok (.istore_n 2, 1) := dk_61 (dk_at dksX0_isSetting_8 22 rfl rfl)
theorem dX0_isSetting_255 : decode cX0_isSetting 255 = .ok (.iload_n 2, 1) := dk_28 (dk_at dksX0_isSetting_8 23 rfl rfl)
theorem dX0_isSetting_256 : decode cX0_isSetting 256 = .ok (.ifCond .eq 19, 3) := dk_153 0 19 (dk_at dksX0_isSetting_9 0 rfl rfl)
theorem dX0_isSetting_259 : decode cX0_isSetting 259 = .ok (.iload_n 1, 1) := dk_27 (dk_at dksX0_isSetting_9 3 rfl rfl)
theorem dX0_isSetting_260 : decode cX0_isSetting 260 = .ok (.i2l, 1) := dk_133 (dk_at dksX0_isSetting_9 4 rfl rfl)
theorem dX0_isSetting_261 : decode cX0_isSetting 261 = .ok (.lconst 1, 1) := dk_10 (dk_at dksX0_isSetting_9 5 rfl rfl)
theorem dX0_isSetting_262 : decode cX0_isSetting 262 = .ok (.ldc2_w 92, 3) := dk_20 0 92 (dk_at dksX0_isSetting_9 6 rfl rfl)
theorem dX0_isSetting_265 : decode cX0_isSetting 265 = .ok (.invokestatic 70, 3) := dk_184 0 70 (dk_at dksX0_isSetting_9 9 rfl rfl)
theorem dX0_isSetting_268 : decode cX0_isSetting 268 = .ok (.ifCond .eq 7, 3) := dk_153 0 7 (dk_at dksX0_isSetting_9 12 rfl rfl)
theorem dX0_isSetting_271 : decode cX0_isSetting 271 = .ok (.iconst 1, 1) := dk_4 (dk_at dksX0_isSetting_9 15 rfl rfl)
theorem dX0_isSetting_272 : decode cX0_isSetting 272 = .ok (.goto 4, 3) := dk_167 0 4 (dk_at dksX0_isSetting_9 16 rfl rfl)
theorem dX0_isSetting_275 : decode cX0_isSetting 275 = .ok (.iconst 0, 1) := dk_3 (dk_at dksX0_isSetting_9 19 rfl rfl)
theorem dX0_isSetting_276 : decode cX0_isSetting 276 = .ok (.ireturn, 1) := dk_172 (dk_at dksX0_isSetting_9 20 rfl rfl)
abbrev cX0_isBetween : ByteArray := prog_1_method_1_code
def yX0_isBetween : MethodName := ⟨RX0, "isBetween", "(JJJ)Z"⟩
def dkwX0_isBetween_0 : List UInt8 := [30, 32, 148, 155, 0, 14, 30, 22, 4, 148, 157, 0, 7, 4, 167, 0, 4, 3, 172]
abbrev dktX0_isBetween_0 : List UInt8 := dkwX0_isBetween_0 ++ []
theorem dksX0_isBetween_0 : cX0_isBetween.data.toList.drop 0 = dktX0_isBetween_0 := by decide +kernel
theorem dX0_isBetween_0 : decode cX0_isBetween 0 = .ok (.lload_n 0, 1) := dk_30 (dk_at dksX0_isBetween_0 0 rfl rfl)
theorem dX0_isBetween_1 : decode cX0_isBetween 1 = .ok (.lload_n 2, 1) := dk_32 (dk_at dksX0_isBetween_0 1 rfl rfl)
theorem dX0_isBetween_2 : decode cX0_isBetween 2 = .ok (.lcmp, 1) := dk_148 (dk_at dksX0_isBetween_0 2 rfl rfl)
theorem dX0_isBetween_3 : decode cX0_isBetween 3 = .ok (.ifCond .lt 14, 3) := dk_155 0 14 (dk_at dksX0_isBetween_0 3 rfl rfl)
theorem dX0_isBetween_6 : decode cX0_isBetween 6 = .ok (.lload_n 0, 1) := dk_30 (dk_at dksX0_isBetween_0 6 rfl rfl)
theorem dX0_isBetween_7 : decode cX0_isBetween 7 = .ok (.lload 4, 2) := dk_22 4 (dk_at dksX0_isBetween_0 7 rfl rfl)
theorem dX0_isBetween_9 : decode cX0_isBetween 9 = .ok (.lcmp, 1) := dk_148 (dk_at dksX0_isBetween_0 9 rfl rfl)
theorem dX0_isBetween_10 : decode cX0_isBetween 10 = .ok (.ifCond .gt 7, 3) := dk_157 0 7 (dk_at dksX0_isBetween_0 10 rfl rfl)
theorem dX0_isBetween_13 : decode cX0_isBetween 13 = .ok (.iconst 1, 1) := dk_4 (dk_at dksX0_isBetween_0 13 rfl rfl)
theorem dX0_isBetween_14 : decode cX0_isBetween 14 = .ok (.goto 4, 3) := dk_167 0 4 (dk_at dksX0_isBetween_0 14 rfl rfl)
theorem dX0_isBetween_17 : decode cX0_isBetween 17 = .ok (.iconst 0, 1) := dk_3 (dk_at dksX0_isBetween_0 17 rfl rfl)
theorem dX0_isBetween_18 : decode cX0_isBetween 18 = .ok (.ireturn, 1) := dk_172 (dk_at dksX0_isBetween_0 18 rfl rfl)
abbrev cX0_change : ByteArray := prog_1_method_6_code
def yX0_change : MethodName := ⟨RX0, "change", "()LFieldPumps$Station;"⟩
def dkwX0_change_1 : List UInt8 := [182, 0, 58, 7, 164, 0, 11, 42, 180, 0, 40, 182, 0, 62, 87, 42, 180, 0, 31, 176]
abbrev dktX0_change_1 : List UInt8 := dkwX0_change_1 ++ []
def dkwX0_change_0 : List UInt8 := [42, 180, 0, 40, 187, 0, 28, 89, 42, 180, 0, 31, 183, 0, 51, 182, 0, 54, 42, 180, 0, 40]
abbrev dktX0_change_0 : List UInt8 := dkwX0_change_0 ++ dktX0_change_1
theorem dksX0_change_0 : cX0_change.data.toList.drop 0 = dktX0_change_0 := by decide +kernel
theorem dksX0_change_1 : cX0_change.data.toList.drop 22 = dktX0_change_1 := dk_seg dksX0_change_0 22 rfl rfl
theorem dX0_change_0 : decode cX0_change 0 = .ok (.aload_n 0, 1) := dk_42 (dk_at dksX0_change_0 0 rfl rfl)
theorem dX0_change_1 : decode cX0_change 1 = .ok (.getfield 40, 3) := dk_180 0 40 (dk_at dksX0_change_0 1 rfl rfl)
theorem dX0_change_4 : decode cX0_change 4 = .ok (.new 28, 3) := dk_187 0 28 (dk_at dksX0_change_0 4 rfl rfl)
theorem dX0_change_7 : decode cX0_change 7 = .ok (.dup, 1) := dk_89 (dk_at dksX0_change_0 7 rfl rfl)
theorem dX0_change_8 : decode cX0_change 8 = .ok (.aload_n 0, 1) := dk_42 (dk_at dksX0_change_0 8 rfl rfl)
theorem dX0_change_9 : decode cX0_change 9 = .ok (.getfield 31, 3) := dk_180 0 31 (dk_at dksX0_change_0 9 rfl rfl)
theorem dX0_change_12 : decode cX0_change 12 = .ok (.invokespecial 51, 3) := dk_183 0 51 (dk_at dksX0_change_0 12 rfl rfl)
theorem dX0_change_15 : decode cX0_change 15 = .ok (.invokevirtual 54, 3) := dk_182 0 54 (dk_at dksX0_change_0 15 rfl rfl)
theorem dX0_change_18 : decode cX0_change 18 = .ok (.aload_n 0, 1) := dk_42 (dk_at dksX0_change_0 18 rfl rfl)
theorem dX0_change_19 : decode cX0_change 19 = .ok (.getfield 40, 3) := dk_180 0 40 (dk_at dksX0_change_0 19 rfl rfl)
theorem dX0_change_22 : decode cX0_change 22 = .ok (.invokevirtual 58, 3) := dk_182 0 58 (dk_at dksX0_change_1 0 rfl rfl)
theorem dX0_change_25 : decode cX0_change 25 = .ok (.iconst 4, 1) := dk_7 (dk_at dksX0_change_1 3 rfl rfl)
theorem dX0_change_26 : decode cX0_change 26 = .ok (.if_icmp .le 11, 3) := dk_164 0 11 (dk_at dksX0_change_1 4 rfl rfl)
theorem dX0_change_29 : decode cX0_change 29 = .ok (.aload_n 0, 1) := dk_42 (dk_at dksX0_change_1 7 rfl rfl)
theorem dX0_change_30 : decode cX0_change 30 = .ok (.getfield 40, 3) := dk_180 0 40 (dk_at dksX0_change_1 8 rfl rfl)
theorem dX0_change_33 : decode cX0_change 33 = .ok (.invokevirtual 62, 3) := dk_182 0 62 (dk_at dksX0_change_1 11 rfl rfl)
theorem dX0_change_36 : decode cX0_change 36 = .ok (.pop, 1) := dk_87 (dk_at dksX0_change_1 14 rfl rfl)
theorem dX0_change_37 : decode cX0_change 37 = .ok (.aload_n 0, 1) := dk_42 (dk_at dksX0_change_1 15 rfl rfl)
theorem dX0_change_38 : decode cX0_change 38 = .ok (.getfield 31, 3) := dk_180 0 31 (dk_at dksX0_change_1 16 rfl rfl)
theorem dX0_change_41 : decode cX0_change 41 = .ok (.areturn, 1) := dk_176 (dk_at dksX0_change_1 19 rfl rfl)
abbrev cX0_copyOf : ByteArray := prog_1_method_3_code
def yX0_copyOf : MethodName := ⟨RX0, "copyOf", "(LFieldPumps$Pump;)LFieldPumps$Pump;"⟩
def dkwX0_copyOf_2 : List UInt8 := [192, 0, 13, 183, 0, 15, 176]
abbrev dktX0_copyOf_2 : List UInt8 := dkwX0_copyOf_2 ++ []
def dkwX0_copyOf_1 : List UInt8 := [153, 0, 17, 187, 0, 8, 89, 42, 192, 0, 8, 183, 0, 10, 167, 0, 14, 187, 0, 13, 89, 42]
abbrev dktX0_copyOf_1 : List UInt8 := dkwX0_copyOf_1 ++ dktX0_copyOf_2
def dkwX0_copyOf_0 : List UInt8 := [42, 193, 0, 2, 153, 0, 15, 187, 0, 2, 89, 42, 192, 0, 2, 183, 0, 4, 176, 42, 193, 0, 8]
abbrev dktX0_copyOf_0 : List UInt8 := dkwX0_copyOf_0 ++ dktX0_copyOf_1
theorem dksX0_copyOf_0 : cX0_copyOf.data.toList.drop 0 = dktX0_copyOf_0 := by decide +kernel
theorem dksX0_copyOf_1 : cX0_copyOf.data.toList.drop 23 = dktX0_copyOf_1 := dk_seg dksX0_copyOf_0 23 rfl rfl
theorem dksX0_copyOf_2 : cX0_copyOf.data.toList.drop 45 = dktX0_copyOf_2 := dk_seg dksX0_copyOf_1 22 rfl rfl
theorem dX0_copyOf_0 : decode cX0_copyOf 0 = .ok (.aload_n 0, 1) := dk_42 (dk_at dksX0_copyOf_0 0 rfl rfl)
theorem dX0_copyOf_1 : decode cX0_copyOf 1 = .ok (.instanceof 2, 3) := dk_193 0 2 (dk_at dksX0_copyOf_0 1 rfl rfl)
theorem dX0_copyOf_4 : decode cX0_copyOf 4 = .ok (.ifCond .eq 15, 3) := dk_153 0 15 (dk_at dksX0_copyOf_0 4 rfl rfl)
theorem dX0_copyOf_7 : decode cX0_copyOf 7 = .ok (.new 2, 3) := dk_187 0 2 (dk_at dksX0_copyOf_0 7 rfl rfl)
theorem dX0_copyOf_10 : decode cX0_copyOf 10 = .ok (.dup, 1) := dk_89 (dk_at dksX0_copyOf_0 10 rfl rfl)
theorem dX0_copyOf_11 : decode cX0_copyOf 11 = .ok (.aload_n 0, 1) := dk_42 (dk_at dksX0_copyOf_0 11 rfl rfl)
theorem dX0_copyOf_12 : decode cX0_copyOf 12 = .ok (.checkcast 2, 3) := dk_192 0 2 (dk_at dksX0_copyOf_0 12 rfl rfl)
theorem dX0_copyOf_15 : decode cX0_copyOf 15 = .ok (.invokespecial 4, 3) := dk_183 0 4 (dk_at dksX0_copyOf_0 15 rfl rfl)
theorem dX0_copyOf_18 : decode cX0_copyOf 18 = .ok (.areturn, 1) := dk_176 (dk_at dksX0_copyOf_0 18 rfl rfl)
theorem dX0_copyOf_19 : decode cX0_copyOf 19 = .ok (.aload_n 0, 1) := dk_42 (dk_at dksX0_copyOf_0 19 rfl rfl)
theorem dX0_copyOf_20 : decode cX0_copyOf 20 = .ok (.instanceof 8, 3) := dk_193 0 8 (dk_at dksX0_copyOf_0 20 rfl rfl)
theorem dX0_copyOf_23 : decode cX0_copyOf 23 = .ok (.ifCond .eq 17, 3) := dk_153 0 17 (dk_at dksX0_copyOf_1 0 rfl rfl)
theorem dX0_copyOf_26 : decode cX0_copyOf 26 = .ok (.new 8, 3) := dk_187 0 8 (dk_at dksX0_copyOf_1 3 rfl rfl)
theorem dX0_copyOf_29 : decode cX0_copyOf 29 = .ok (.dup, 1) := dk_89 (dk_at dksX0_copyOf_1 6 rfl rfl)
theorem dX0_copyOf_30 : decode cX0_copyOf 30 = .ok (.aload_n 0, 1) := dk_42 (dk_at dksX0_copyOf_1 7 rfl rfl)
theorem dX0_copyOf_31 : decode cX0_copyOf 31 = .ok (.checkcast 8, 3) := dk_192 0 8 (dk_at dksX0_copyOf_1 8 rfl rfl)
theorem dX0_copyOf_34 : decode cX0_copyOf 34 = .ok (.invokespecial 10, 3) := dk_183 0 10 (dk_at dksX0_copyOf_1 11 rfl rfl)
theorem dX0_copyOf_37 : decode cX0_copyOf 37 = .ok (.goto 14, 3) := dk_167 0 14 (dk_at dksX0_copyOf_1 14 rfl rfl)
theorem dX0_copyOf_40 : decode cX0_copyOf 40 = .ok (.new 13, 3) := dk_187 0 13 (dk_at dksX0_copyOf_1 17 rfl rfl)
theorem dX0_copyOf_43 : decode cX0_copyOf 43 = .ok (.dup, 1) := dk_89 (dk_at dksX0_copyOf_1 20 rfl rfl)
theorem dX0_copyOf_44 : decode cX0_copyOf 44 = .ok (.aload_n 0, 1) := dk_42 (dk_at dksX0_copyOf_1 21 rfl rfl)
theorem dX0_copyOf_45 : decode cX0_copyOf 45 = .ok (.checkcast 13, 3) := dk_192 0 13 (dk_at dksX0_copyOf_2 0 rfl rfl)
theorem dX0_copyOf_48 : decode cX0_copyOf 48 = .ok (.invokespecial 15, 3) := dk_183 0 15 (dk_at dksX0_copyOf_2 3 rfl rfl)
theorem dX0_copyOf_51 : decode cX0_copyOf 51 = .ok (.areturn, 1) := dk_176 (dk_at dksX0_copyOf_2 6 rfl rfl)
abbrev cX0_root : ByteArray := prog_1_method_2_code
def yX0_root : MethodName := ⟨RX0, "root", "(I)I"⟩
def dkwX0_root_1 : List UInt8 := [163, 0, 8, 29, 60, 167, 0, 7, 29, 4, 100, 61, 167, 255, 227, 27, 172]
abbrev dktX0_root_1 : List UInt8 := dkwX0_root_1 ++ []
def dkwX0_root_0 : List UInt8 := [3, 60, 18, 1, 61, 27, 28, 162, 0, 30, 27, 28, 96, 4, 96, 5, 108, 62, 29, 29, 104, 26]
abbrev dktX0_root_0 : List UInt8 := dkwX0_root_0 ++ dktX0_root_1
theorem dksX0_root_0 : cX0_root.data.toList.drop 0 = dktX0_root_0 := by decide +kernel
theorem dksX0_root_1 : cX0_root.data.toList.drop 22 = dktX0_root_1 := dk_seg dksX0_root_0 22 rfl rfl
theorem dX0_root_0 : decode cX0_root 0 = .ok (.iconst 0, 1) := dk_3 (dk_at dksX0_root_0 0 rfl rfl)
theorem dX0_root_1 : decode cX0_root 1 = .ok (.istore_n 1, 1) := dk_60 (dk_at dksX0_root_0 1 rfl rfl)
theorem dX0_root_2 : decode cX0_root 2 = .ok (.ldc 1, 2) := dk_18 1 (dk_at dksX0_root_0 2 rfl rfl)
theorem dX0_root_4 : decode cX0_root 4 = .ok (.istore_n 2, 1) := dk_61 (dk_at dksX0_root_0 4 rfl rfl)
theorem dX0_root_5 : decode cX0_root 5 = .ok (.iload_n 1, 1) := dk_27 (dk_at dksX0_root_0 5 rfl rfl)
theorem dX0_root_6 : decode cX0_root 6 = .ok (.iload_n 2, 1) := dk_28 (dk_at dksX0_root_0 6 rfl rfl)
theorem dX0_root_7 : decode cX0_root 7 = .ok (.if_icmp .ge 30, 3) := dk_162 0 30 (dk_at dksX0_root_0 7 rfl rfl)
theorem dX0_root_10 : decode cX0_root 10 = .ok (.iload_n 1, 1) := dk_27 (dk_at dksX0_root_0 10 rfl rfl)
theorem dX0_root_11 : decode cX0_root 11 = .ok (.iload_n 2, 1) := dk_28 (dk_at dksX0_root_0 11 rfl rfl)
theorem dX0_root_12 : decode cX0_root 12 = .ok (.iadd, 1) := dk_96 (dk_at dksX0_root_0 12 rfl rfl)
theorem dX0_root_13 : decode cX0_root 13 = .ok (.iconst 1, 1) := dk_4 (dk_at dksX0_root_0 13 rfl rfl)
theorem dX0_root_14 : decode cX0_root 14 = .ok (.iadd, 1) := dk_96 (dk_at dksX0_root_0 14 rfl rfl)
theorem dX0_root_15 : decode cX0_root 15 = .ok (.iconst 2, 1) := dk_5 (dk_at dksX0_root_0 15 rfl rfl)
theorem dX0_root_16 : decode cX0_root 16 = .ok (.idiv, 1) := dk_108 (dk_at dksX0_root_0 16 rfl rfl)
theorem dX0_root_17 : decode cX0_root 17 = .ok (.istore_n 3, 1) := dk_62 (dk_at dksX0_root_0 17 rfl rfl)
theorem dX0_root_18 : decode cX0_root 18 = .ok (.iload_n 3, 1) := dk_29 (dk_at dksX0_root_0 18 rfl rfl)
theorem dX0_root_19 : decode cX0_root 19 = .ok (.iload_n 3, 1) := dk_29 (dk_at dksX0_root_0 19 rfl rfl)
theorem dX0_root_20 : decode cX0_root 20 = .ok (.imul, 1) := dk_104 (dk_at dksX0_root_0 20 rfl rfl)
theorem dX0_root_21 : decode cX0_root 21 = .ok (.iload_n 0, 1) := dk_26 (dk_at dksX0_root_0 21 rfl rfl)
theorem dX0_root_22 : decode cX0_root 22 = .ok (.if_icmp .gt 8, 3) := dk_163 0 8 (dk_at dksX0_root_1 0 rfl rfl)
theorem dX0_root_25 : decode cX0_root 25 = .ok (.iload_n 3, 1) := dk_29 (dk_at dksX0_root_1 3 rfl rfl)
theorem dX0_root_26 : decode cX0_root 26 = .ok (.istore_n 1, 1) := dk_60 (dk_at dksX0_root_1 4 rfl rfl)
theorem dX0_root_27 : decode cX0_root 27 = .ok (.goto 7, 3) := dk_167 0 7 (dk_at dksX0_root_1 5 rfl rfl)
theorem dX0_root_30 : decode cX0_root 30 = .ok (.iload_n 3, 1) := dk_29 (dk_at dksX0_root_1 8 rfl rfl)
theorem dX0_root_31 : decode cX0_root 31 = .ok (.iconst 1, 1) := dk_4 (dk_at dksX0_root_1 9 rfl rfl)
theorem dX0_root_32 : decode cX0_root 32 = .ok (.isub, 1) := dk_100 (dk_at dksX0_root_1 10 rfl rfl)
theorem dX0_root_33 : decode cX0_root 33 = .ok (.istore_n 2, 1) := dk_61 (dk_at dksX0_root_1 11 rfl rfl)
theorem dX0_root_34 : decode cX0_root 34 = .ok (.goto (-29), 3) := dk_167 255 227 (dk_at dksX0_root_1 12 rfl rfl)
theorem dX0_root_37 : decode cX0_root 37 = .ok (.iload_n 1, 1) := dk_27 (dk_at dksX0_root_1 15 rfl rfl)
theorem dX0_root_38 : decode cX0_root 38 = .ok (.ireturn, 1) := dk_172 (dk_at dksX0_root_1 16 rfl rfl)
abbrev cX0_pump : ByteArray := prog_1_method_9_code
def yX0_pump : MethodName := ⟨RX0, "pump", "(III)I"⟩
def dkwX0_pump_3 : List UInt8 := [21, 4, 28, 29, 184, 0, 119, 182, 0, 123, 21, 4, 172]
abbrev dktX0_pump_3 : List UInt8 := dkwX0_pump_3 ++ []
def dkwX0_pump_2 : List UInt8 := [180, 0, 111, 182, 0, 115, 54, 4, 21, 4, 16, 6, 160, 0, 6, 18, 118, 172, 42, 182, 0, 103, 27]
abbrev dktX0_pump_2 : List UInt8 := dkwX0_pump_2 ++ dktX0_pump_3
def dkwX0_pump_1 : List UInt8 := [153, 0, 15, 29, 133, 10, 20, 0, 78, 184, 0, 70, 154, 0, 6, 18, 98, 172, 42, 180, 0, 31]
abbrev dktX0_pump_1 : List UInt8 := dkwX0_pump_1 ++ dktX0_pump_2
def dkwX0_pump_0 : List UInt8 := [27, 133, 9, 20, 0, 107, 184, 0, 70, 153, 0, 29, 28, 133, 20, 0, 66, 20, 0, 109, 184, 0, 70]
abbrev dktX0_pump_0 : List UInt8 := dkwX0_pump_0 ++ dktX0_pump_1
theorem dksX0_pump_0 : cX0_pump.data.toList.drop 0 = dktX0_pump_0 := by decide +kernel
theorem dksX0_pump_1 : cX0_pump.data.toList.drop 23 = dktX0_pump_1 := dk_seg dksX0_pump_0 23 rfl rfl
theorem dksX0_pump_2 : cX0_pump.data.toList.drop 45 = dktX0_pump_2 := dk_seg dksX0_pump_1 22 rfl rfl
theorem dksX0_pump_3 : cX0_pump.data.toList.drop 68 = dktX0_pump_3 := dk_seg dksX0_pump_2 23 rfl rfl
theorem dX0_pump_0 : decode cX0_pump 0 = .ok (.iload_n 1, 1) := dk_27 (dk_at dksX0_pump_0 0 rfl rfl)
theorem dX0_pump_1 : decode cX0_pump 1 = .ok (.i2l, 1) := dk_133 (dk_at dksX0_pump_0 1 rfl rfl)
theorem dX0_pump_2 : decode cX0_pump 2 = .ok (.lconst 0, 1) := dk_9 (dk_at dksX0_pump_0 2 rfl rfl)
theorem dX0_pump_3 : decode cX0_pump 3 = .ok (.ldc2_w 107, 3) := dk_20 0 107 (dk_at dksX0_pump_0 3 rfl rfl)
theorem dX0_pump_6 : decode cX0_pump 6 = .ok (.invokestatic 70, 3) := dk_184 0 70 (dk_at dksX0_pump_0 6 rfl rfl)
theorem dX0_pump_9 : decode cX0_pump 9 = .ok (.ifCond .eq 29, 3) := dk_153 0 29 (dk_at dksX0_pump_0 9 rfl rfl)
theorem dX0_pump_12 : decode cX0_pump 12 = .ok (.iload_n 2, 1) := dk_28 (dk_at dksX0_pump_0 12 rfl rfl)
theorem dX0_pump_13 : decode cX0_pump 13 = .ok (.i2l, 1) := dk_133 (dk_at dksX0_pump_0 13 rfl rfl)
theorem dX0_pump_14 : decode cX0_pump 14 = .ok (.ldc2_w 66, 3) := dk_20 0 66 (dk_at dksX0_pump_0 14 rfl rfl)
theorem dX0_pump_17 : decode cX0_pump 17 = .ok (.ldc2_w 109, 3) := dk_20 0 109 (dk_at dksX0_pump_0 17 rfl rfl)
theorem dX0_pump_20 : decode cX0_pump 20 = .ok (.invokestatic 70, 3) := dk_184 0 70 (dk_at dksX0_pump_0 20 rfl rfl)
theorem dX0_pump_23 : decode cX0_pump 23 = .ok (.ifCond .eq 15, 3) := dk_153 0 15 (dk_at dksX0_pump_1 0 rfl rfl)
theorem dX0_pump_26 : decode cX0_pump 26 = .ok (.iload_n 3, 1) := dk_29 (dk_at dksX0_pump_1 3 rfl rfl)
theorem dX0_pump_27 : decode cX0_pump 27 = .ok (.i2l, 1) := dk_133 (dk_at dksX0_pump_1 4 rfl rfl)
theorem dX0_pump_28 : decode cX0_pump 28 = .ok (.lconst 1, 1) := dk_10 (dk_at dksX0_pump_1 5 rfl rfl)
theorem dX0_pump_29 : decode cX0_pump 29 = .ok (.ldc2_w 78, 3) := dk_20 0 78 (dk_at dksX0_pump_1 6 rfl rfl)
theorem dX0_pump_32 : decode cX0_pump 32 = .ok (.invokestatic 70, 3) := dk_184 0 70 (dk_at dksX0_pump_1 9 rfl rfl)
theorem dX0_pump_35 : decode cX0_pump 35 = .ok (.ifCond .ne 6, 3) := dk_154 0 6 (dk_at dksX0_pump_1 12 rfl rfl)
theorem dX0_pump_38 : decode cX0_pump 38 = .ok (.ldc 98, 2) := dk_18 98 (dk_at dksX0_pump_1 15 rfl rfl)
theorem dX0_pump_40 : decode cX0_pump 40 = .ok (.ireturn, 1) := dk_172 (dk_at dksX0_pump_1 17 rfl rfl)
theorem dX0_pump_41 : decode cX0_pump 41 = .ok (.aload_n 0, 1) := dk_42 (dk_at dksX0_pump_1 18 rfl rfl)
theorem dX0_pump_42 : decode cX0_pump 42 = .ok (.getfield 31, 3) := dk_180 0 31 (dk_at dksX0_pump_1 19 rfl rfl)
theorem dX0_pump_45 : decode cX0_pump 45 = .ok (.getfield 111, 3) := dk_180 0 111 (dk_at dksX0_pump_2 0 rfl rfl)
theorem dX0_pump_48 : decode cX0_pump 48 = .ok (.invokevirtual 115, 3) := dk_182 0 115 (dk_at dksX0_pump_2 3 rfl rfl)
theorem dX0_pump_51 : decode cX0_pump 51 = .ok (.istore 4, 2) := dk_54 4 (dk_at dksX0_pump_2 6 rfl rfl)
theorem dX0_pump_53 : decode cX0_pump 53 = .ok (.iload 4, 2) := dk_21 4 (dk_at dksX0_pump_2 8 rfl rfl)
theorem dX0_pump_55 : decode cX0_pump 55 = .ok (.bipush 6, 2) := dk_16 6 (dk_at dksX0_pump_2 10 rfl rfl)
theorem dX0_pump_57 : decode cX0_pump 57 = .ok (.if_icmp .ne 6, 3) := dk_160 0 6 (dk_at dksX0_pump_2 12 rfl rfl)
theorem dX0_pump_60 : decode cX0_pump 60 = .ok (.ldc 118, 2) := dk_18 118 (dk_at dksX0_pump_2 15 rfl rfl)
theorem dX0_pump_62 : decode cX0_pump 62 = .ok (.ireturn, 1) := dk_172 (dk_at dksX0_pump_2 17 rfl rfl)
theorem dX0_pump_63 : decode cX0_pump 63 = .ok (.aload_n 0, 1) := dk_42 (dk_at dksX0_pump_2 18 rfl rfl)
theorem dX0_pump_64 : decode cX0_pump 64 = .ok (.invokevirtual 103, 3) := dk_182 0 103 (dk_at dksX0_pump_2 19 rfl rfl)
theorem dX0_pump_67 : decode cX0_pump 67 = .ok (.iload_n 1, 1) := dk_27 (dk_at dksX0_pump_2 22 rfl rfl)
theorem dX0_pump_68 : decode cX0_pump 68 = .ok (.iload 4, 2) := dk_21 4 (dk_at dksX0_pump_3 0 rfl rfl)
theorem dX0_pump_70 : decode cX0_pump 70 = .ok (.iload_n 2, 1) := dk_28 (dk_at dksX0_pump_3 2 rfl rfl)
theorem dX0_pump_71 : decode cX0_pump 71 = .ok (.iload_n 3, 1) := dk_29 (dk_at dksX0_pump_3 3 rfl rfl)
theorem dX0_pump_72 : decode cX0_pump 72 = .ok (.invokestatic 119, 3) := dk_184 0 119 (dk_at dksX0_pump_3 4 rfl rfl)
theorem dX0_pump_75 : decode cX0_pump 75 = .ok (.invokevirtual 123, 3) := dk_182 0 123 (dk_at dksX0_pump_3 7 rfl rfl)
theorem dX0_pump_78 : decode cX0_pump 78 = .ok (.iload 4, 2) := dk_21 4 (dk_at dksX0_pump_3 10 rfl rfl)
theorem dX0_pump_80 : decode cX0_pump 80 = .ok (.ireturn, 1) := dk_172 (dk_at dksX0_pump_3 12 rfl rfl)
abbrev cX0_made : ByteArray := prog_1_method_4_code
def yX0_made : MethodName := ⟨RX0, "made", "(IIII)LFieldPumps$Pump;"⟩
def dkwX0_made_1 : List UInt8 := [187, 0, 8, 89, 27, 28, 29, 183, 0, 21, 167, 0, 13, 187, 0, 2, 89, 27, 28, 29, 183, 0, 22, 176]
abbrev dktX0_made_1 : List UInt8 := dkwX0_made_1 ++ []
def dkwX0_made_0 : List UInt8 := [26, 154, 0, 16, 187, 0, 13, 89, 27, 28, 29, 183, 0, 18, 167, 0, 31, 26, 4, 160, 0, 16]
abbrev dktX0_made_0 : List UInt8 := dkwX0_made_0 ++ dktX0_made_1
theorem dksX0_made_0 : cX0_made.data.toList.drop 0 = dktX0_made_0 := by decide +kernel
theorem dksX0_made_1 : cX0_made.data.toList.drop 22 = dktX0_made_1 := dk_seg dksX0_made_0 22 rfl rfl
theorem dX0_made_0 : decode cX0_made 0 = .ok (.iload_n 0, 1) := dk_26 (dk_at dksX0_made_0 0 rfl rfl)
theorem dX0_made_1 : decode cX0_made 1 = .ok (.ifCond .ne 16, 3) := dk_154 0 16 (dk_at dksX0_made_0 1 rfl rfl)
theorem dX0_made_4 : decode cX0_made 4 = .ok (.new 13, 3) := dk_187 0 13 (dk_at dksX0_made_0 4 rfl rfl)
theorem dX0_made_7 : decode cX0_made 7 = .ok (.dup, 1) := dk_89 (dk_at dksX0_made_0 7 rfl rfl)
theorem dX0_made_8 : decode cX0_made 8 = .ok (.iload_n 1, 1) := dk_27 (dk_at dksX0_made_0 8 rfl rfl)
theorem dX0_made_9 : decode cX0_made 9 = .ok (.iload_n 2, 1) := dk_28 (dk_at dksX0_made_0 9 rfl rfl)
theorem dX0_made_10 : decode cX0_made 10 = .ok (.iload_n 3, 1) := dk_29 (dk_at dksX0_made_0 10 rfl rfl)
theorem dX0_made_11 : decode cX0_made 11 = .ok (.invokespecial 18, 3) := dk_183 0 18 (dk_at dksX0_made_0 11 rfl rfl)
theorem dX0_made_14 : decode cX0_made 14 = .ok (.goto 31, 3) := dk_167 0 31 (dk_at dksX0_made_0 14 rfl rfl)
theorem dX0_made_17 : decode cX0_made 17 = .ok (.iload_n 0, 1) := dk_26 (dk_at dksX0_made_0 17 rfl rfl)
theorem dX0_made_18 : decode cX0_made 18 = .ok (.iconst 1, 1) := dk_4 (dk_at dksX0_made_0 18 rfl rfl)
theorem dX0_made_19 : decode cX0_made 19 = .ok (.if_icmp .ne 16, 3) := dk_160 0 16 (dk_at dksX0_made_0 19 rfl rfl)
theorem dX0_made_22 : decode cX0_made 22 = .ok (.new 8, 3) := dk_187 0 8 (dk_at dksX0_made_1 0 rfl rfl)
theorem dX0_made_25 : decode cX0_made 25 = .ok (.dup, 1) := dk_89 (dk_at dksX0_made_1 3 rfl rfl)
theorem dX0_made_26 : decode cX0_made 26 = .ok (.iload_n 1, 1) := dk_27 (dk_at dksX0_made_1 4 rfl rfl)
theorem dX0_made_27 : decode cX0_made 27 = .ok (.iload_n 2, 1) := dk_28 (dk_at dksX0_made_1 5 rfl rfl)
theorem dX0_made_28 : decode cX0_made 28 = .ok (.iload_n 3, 1) := dk_29 (dk_at dksX0_made_1 6 rfl rfl)
theorem dX0_made_29 : decode cX0_made 29 = .ok (.invokespecial 21, 3) := dk_183 0 21 (dk_at dksX0_made_1 7 rfl rfl)
theorem dX0_made_32 : decode cX0_made 32 = .ok (.goto 13, 3) := dk_167 0 13 (dk_at dksX0_made_1 10 rfl rfl)
theorem dX0_made_35 : decode cX0_made 35 = .ok (.new 2, 3) := dk_187 0 2 (dk_at dksX0_made_1 13 rfl rfl)
theorem dX0_made_38 : decode cX0_made 38 = .ok (.dup, 1) := dk_89 (dk_at dksX0_made_1 16 rfl rfl)
theorem dX0_made_39 : decode cX0_made 39 = .ok (.iload_n 1, 1) := dk_27 (dk_at dksX0_made_1 17 rfl rfl)
theorem dX0_made_40 : decode cX0_made 40 = .ok (.iload_n 2, 1) := dk_28 (dk_at dksX0_made_1 18 rfl rfl)
theorem dX0_made_41 : decode cX0_made 41 = .ok (.iload_n 3, 1) := dk_29 (dk_at dksX0_made_1 19 rfl rfl)
theorem dX0_made_42 : decode cX0_made 42 = .ok (.invokespecial 22, 3) := dk_183 0 22 (dk_at dksX0_made_1 20 rfl rfl)
theorem dX0_made_45 : decode cX0_made 45 = .ok (.areturn, 1) := dk_176 (dk_at dksX0_made_1 23 rfl rfl)
abbrev cX0_service : ByteArray := prog_1_method_10_code
def yX0_service : MethodName := ⟨RX0, "service", "(II)I"⟩
def dkwX0_service_3 : List UInt8 := [42, 182, 0, 103, 180, 0, 111, 27, 182, 0, 131, 192, 0, 135, 3, 181, 0, 137, 3, 172]
abbrev dktX0_service_3 : List UInt8 := dkwX0_service_3 ++ []
def dkwX0_service_2 : List UInt8 := [167, 0, 4, 3, 160, 0, 6, 18, 141, 172, 28, 154, 0, 13, 42, 182, 0, 103, 5, 27, 182, 0, 142, 172]
abbrev dktX0_service_2 : List UInt8 := dkwX0_service_2 ++ dktX0_service_3
def dkwX0_service_1 : List UInt8 := [42, 180, 0, 31, 180, 0, 111, 27, 182, 0, 131, 192, 0, 135, 180, 0, 137, 28, 154, 0, 7, 4]
abbrev dktX0_service_1 : List UInt8 := dkwX0_service_1 ++ dktX0_service_2
def dkwX0_service_0 : List UInt8 := [42, 180, 0, 31, 27, 182, 0, 127, 153, 0, 13, 28, 133, 9, 10, 184, 0, 70, 154, 0, 6, 18, 98, 172]
abbrev dktX0_service_0 : List UInt8 := dkwX0_service_0 ++ dktX0_service_1
theorem dksX0_service_0 : cX0_service.data.toList.drop 0 = dktX0_service_0 := by decide +kernel
theorem dksX0_service_1 : cX0_service.data.toList.drop 24 = dktX0_service_1 := dk_seg dksX0_service_0 24 rfl rfl
theorem dksX0_service_2 : cX0_service.data.toList.drop 46 = dktX0_service_2 := dk_seg dksX0_service_1 22 rfl rfl
theorem dksX0_service_3 : cX0_service.data.toList.drop 70 = dktX0_service_3 := dk_seg dksX0_service_2 24 rfl rfl
theorem dX0_service_0 : decode cX0_service 0 = .ok (.aload_n 0, 1) := dk_42 (dk_at dksX0_service_0 0 rfl rfl)
theorem dX0_service_1 : decode cX0_service 1 = .ok (.getfield 31, 3) := dk_180 0 31 (dk_at dksX0_service_0 1 rfl rfl)
theorem dX0_service_4 : decode cX0_service 4 = .ok (.iload_n 1, 1) := dk_27 (dk_at dksX0_service_0 4 rfl rfl)
theorem dX0_service_5 : decode cX0_service 5 = .ok (.invokevirtual 127, 3) := dk_182 0 127 (dk_at dksX0_service_0 5 rfl rfl)
theorem dX0_service_8 : decode cX0_service 8 = .ok (.ifCond .eq 13, 3) := dk_153 0 13 (dk_at dksX0_service_0 8 rfl rfl)
theorem dX0_service_11 : decode cX0_service 11 = .ok (.iload_n 2, 1) := dk_28 (dk_at dksX0_service_0 11 rfl rfl)
theorem dX0_service_12 : decode cX0_service 12 = .ok (.i2l, 1) := dk_133 (dk_at dksX0_service_0 12 rfl rfl)
theorem dX0_service_13 : decode cX0_service 13 = .ok (.lconst 0, 1) := dk_9 (dk_at dksX0_service_0 13 rfl rfl)
theorem dX0_service_14 : decode cX0_service 14 = .ok (.lconst 1, 1) := dk_10 (dk_at dksX0_service_0 14 rfl rfl)
theorem dX0_service_15 : decode cX0_service 15 = .ok (.invokestatic 70, 3) := dk_184 0 70 (dk_at dksX0_service_0 15 rfl rfl)
theorem dX0_service_18 : decode cX0_service 18 = .ok (.ifCond .ne 6, 3) := dk_154 0 6 (dk_at dksX0_service_0 18 rfl rfl)
theorem dX0_service_21 : decode cX0_service 21 = .ok (.ldc 98, 2) := dk_18 98 (dk_at dksX0_service_0 21 rfl rfl)
theorem dX0_service_23 : decode cX0_service 23 = .ok (.ireturn, 1) := dk_172 (dk_at dksX0_service_0 23 rfl rfl)
theorem dX0_service_24 : decode cX0_service 24 = .ok (.aload_n 0, 1) := dk_42 (dk_at dksX0_service_1 0 rfl rfl)
theorem dX0_service_25 : decode cX0_service 25 = .ok (.getfield 31, 3) := dk_180 0 31 (dk_at dksX0_service_1 1 rfl rfl)
theorem dX0_service_28 : decode cX0_service 28 = .ok (.getfield 111, 3) := dk_180 0 111 (dk_at dksX0_service_1 4 rfl rfl)
theorem dX0_service_31 : decode cX0_service 31 = .ok (.iload_n 1, 1) := dk_27 (dk_at dksX0_service_1 7 rfl rfl)
theorem dX0_service_32 : decode cX0_service 32 = .ok (.invokevirtual 131, 3) := dk_182 0 131 (dk_at dksX0_service_1 8 rfl rfl)
theorem dX0_service_35 : decode cX0_service 35 = .ok (.checkcast 135, 3) := dk_192 0 135 (dk_at dksX0_service_1 11 rfl rfl)
theorem dX0_service_38 : decode cX0_service 38 = .ok (.getfield 137, 3) := dk_180 0 137 (dk_at dksX0_service_1 14 rfl rfl)
theorem dX0_service_41 : decode cX0_service 41 = .ok (.iload_n 2, 1) := dk_28 (dk_at dksX0_service_1 17 rfl rfl)
theorem dX0_service_42 : decode cX0_service 42 = .ok (.ifCond .ne 7, 3) := dk_154 0 7 (dk_at dksX0_service_1 18 rfl rfl)
theorem dX0_service_45 : decode cX0_service 45 = .ok (.iconst 1, 1) := dk_4 (dk_at dksX0_service_1 21 rfl rfl)
theorem dX0_service_46 : decode cX0_service 46 = .ok (.goto 4, 3) := dk_167 0 4 (dk_at dksX0_service_2 0 rfl rfl)
theorem dX0_service_49 : decode cX0_service 49 = .ok (.iconst 0, 1) := dk_3 (dk_at dksX0_service_2 3 rfl rfl)
theorem dX0_service_50 : decode cX0_service 50 = .ok (.if_icmp .ne 6, 3) := dk_160 0 6 (dk_at dksX0_service_2 4 rfl rfl)
theorem dX0_service_53 : decode cX0_service 53 = .ok (.ldc 141, 2) := dk_18 141 (dk_at dksX0_service_2 7 rfl rfl)
theorem dX0_service_55 : decode cX0_service 55 = .ok (.ireturn, 1) := dk_172 (dk_at dksX0_service_2 9 rfl rfl)
theorem dX0_service_56 : decode cX0_service 56 = .ok (.iload_n 2, 1) := dk_28 (dk_at dksX0_service_2 10 rfl rfl)
theorem dX0_service_57 : decode cX0_service 57 = .ok (.ifCond .ne 13, 3) := dk_154 0 13 (dk_at dksX0_service_2 11 rfl rfl)
theorem dX0_service_60 : decode cX0_service 60 = .ok (.aload_n 0, 1) := dk_42 (dk_at dksX0_service_2 14 rfl rfl)
theorem dX0_service_61 : decode cX0_service 61 = .ok (.invokevirtual 103, 3) := dk_182 0 103 (dk_at dksX0_service_2 15 rfl rfl)
theorem dX0_service_64 : decode cX0_service 64 = .ok (.iconst 2, 1) := dk_5 (dk_at dksX0_service_2 18 rfl rfl)
theorem dX0_service_65 : decode cX0_service 65 = .ok (.iload_n 1, 1) := dk_27 (dk_at dksX0_service_2 19 rfl rfl)
theorem dX0_service_66 : decode cX0_service 66 = .ok (.invokevirtual 142, 3) := dk_182 0 142 (dk_at dksX0_service_2 20 rfl rfl)
theorem dX0_service_69 : decode cX0_service 69 = .ok (.ireturn, 1) := dk_172 (dk_at dksX0_service_2 23 rfl rfl)
theorem dX0_service_70 : decode cX0_service 70 = .ok (.aload_n 0, 1) := dk_42 (dk_at dksX0_service_3 0 rfl rfl)
theorem dX0_service_71 : decode cX0_service 71 = .ok (.invokevirtual 103, 3) := dk_182 0 103 (dk_at dksX0_service_3 1 rfl rfl)
theorem dX0_service_74 : decode cX0_service 74 = .ok (.getfield 111, 3) := dk_180 0 111 (dk_at dksX0_service_3 4 rfl rfl)
theorem dX0_service_77 : decode cX0_service 77 = .ok (.iload_n 1, 1) := dk_27 (dk_at dksX0_service_3 7 rfl rfl)
theorem dX0_service_78 : decode cX0_service 78 = .ok (.invokevirtual 131, 3) := dk_182 0 131 (dk_at dksX0_service_3 8 rfl rfl)
theorem dX0_service_81 : decode cX0_service 81 = .ok (.checkcast 135, 3) := dk_192 0 135 (dk_at dksX0_service_3 11 rfl rfl)
theorem dX0_service_84 : decode cX0_service 84 = .ok (.iconst 0, 1) := dk_3 (dk_at dksX0_service_3 14 rfl rfl)
theorem dX0_service_85 : decode cX0_service 85 = .ok (.putfield 137, 3) := dk_181 0 137 (dk_at dksX0_service_3 15 rfl rfl)
theorem dX0_service_88 : decode cX0_service 88 = .ok (.iconst 0, 1) := dk_3 (dk_at dksX0_service_3 18 rfl rfl)
theorem dX0_service_89 : decode cX0_service 89 = .ok (.ireturn, 1) := dk_172 (dk_at dksX0_service_3 19 rfl rfl)
abbrev cX0_pumpOf : ByteArray := prog_1_method_11_code
def yX0_pumpOf : MethodName := ⟨RX0, "pumpOf", "(II)I"⟩
def dkwX0_pumpOf_6 : List UInt8 := [45, 182, 0, 173, 172]
abbrev dktX0_pumpOf_6 : List UInt8 := dkwX0_pumpOf_6 ++ []
def dkwX0_pumpOf_5 : List UInt8 := [167, 0, 4, 3, 172, 45, 180, 0, 164, 172, 45, 180, 0, 167, 172, 45, 180, 0, 170, 172, 42, 180, 0, 31]
abbrev dktX0_pumpOf_5 : List UInt8 := dkwX0_pumpOf_5 ++ dktX0_pumpOf_6
def dkwX0_pumpOf_4 : List UInt8 := [167, 0, 4, 4, 172, 45, 180, 0, 158, 172, 42, 180, 0, 31, 180, 0, 161, 27, 160, 0, 7, 4]
abbrev dktX0_pumpOf_4 : List UInt8 := dkwX0_pumpOf_4 ++ dktX0_pumpOf_5
def dkwX0_pumpOf_3 : List UInt8 := [45, 182, 0, 148, 172, 45, 180, 0, 151, 172, 45, 180, 0, 155, 172, 45, 180, 0, 137, 153, 0, 7, 3]
abbrev dktX0_pumpOf_3 : List UInt8 := dkwX0_pumpOf_3 ++ dktX0_pumpOf_4
def dkwX0_pumpOf_2 : List UInt8 := [170, 0, 0, 0, 0, 115, 0, 0, 0, 0, 0, 0, 0, 8, 0, 0, 0, 50, 0, 0, 0, 55, 0, 0, 0, 60, 0, 0, 0, 65, 0, 0, 0, 78, 0, 0, 0, 83, 0, 0, 0, 100, 0, 0, 0, 105, 0, 0, 0, 110]
abbrev dktX0_pumpOf_2 : List UInt8 := dkwX0_pumpOf_2 ++ dktX0_pumpOf_3
def dkwX0_pumpOf_1 : List UInt8 := [18, 98, 172, 42, 180, 0, 31, 180, 0, 111, 27, 182, 0, 131, 192, 0, 135, 78, 28]
abbrev dktX0_pumpOf_1 : List UInt8 := dkwX0_pumpOf_1 ++ dktX0_pumpOf_2
def dkwX0_pumpOf_0 : List UInt8 := [42, 180, 0, 31, 27, 182, 0, 127, 153, 0, 15, 28, 133, 9, 20, 0, 146, 184, 0, 70, 154, 0, 6]
abbrev dktX0_pumpOf_0 : List UInt8 := dkwX0_pumpOf_0 ++ dktX0_pumpOf_1
theorem dksX0_pumpOf_0 : cX0_pumpOf.data.toList.drop 0 = dktX0_pumpOf_0 := by decide +kernel
theorem dksX0_pumpOf_1 : cX0_pumpOf.data.toList.drop 23 = dktX0_pumpOf_1 := dk_seg dksX0_pumpOf_0 23 rfl rfl
theorem dksX0_pumpOf_2 : cX0_pumpOf.data.toList.drop 42 = dktX0_pumpOf_2 := dk_seg dksX0_pumpOf_1 19 rfl rfl
theorem dksX0_pumpOf_3 : cX0_pumpOf.data.toList.drop 92 = dktX0_pumpOf_3 := dk_seg dksX0_pumpOf_2 50 rfl rfl
theorem dksX0_pumpOf_4 : cX0_pumpOf.data.toList.drop 115 = dktX0_pumpOf_4 := dk_seg dksX0_pumpOf_3 23 rfl rfl
theorem dksX0_pumpOf_5 : cX0_pumpOf.data.toList.drop 137 = dktX0_pumpOf_5 := dk_seg dksX0_pumpOf_4 22 rfl rfl
theorem dksX0_pumpOf_6 : cX0_pumpOf.data.toList.drop 161 = dktX0_pumpOf_6 := dk_seg dksX0_pumpOf_5 24 rfl rfl
theorem dX0_pumpOf_0 : decode cX0_pumpOf 0 = .ok (.aload_n 0, 1) := dk_42 (dk_at dksX0_pumpOf_0 0 rfl rfl)
theorem dX0_pumpOf_1 : decode cX0_pumpOf 1 = .ok (.getfield 31, 3) := dk_180 0 31 (dk_at dksX0_pumpOf_0 1 rfl rfl)
theorem dX0_pumpOf_4 : decode cX0_pumpOf 4 = .ok (.iload_n 1, 1) := dk_27 (dk_at dksX0_pumpOf_0 4 rfl rfl)
theorem dX0_pumpOf_5 : decode cX0_pumpOf 5 = .ok (.invokevirtual 127, 3) := dk_182 0 127 (dk_at dksX0_pumpOf_0 5 rfl rfl)
theorem dX0_pumpOf_8 : decode cX0_pumpOf 8 = .ok (.ifCond .eq 15, 3) := dk_153 0 15 (dk_at dksX0_pumpOf_0 8 rfl rfl)
theorem dX0_pumpOf_11 : decode cX0_pumpOf 11 = .ok (.iload_n 2, 1) := dk_28 (dk_at dksX0_pumpOf_0 11 rfl rfl)
theorem dX0_pumpOf_12 : decode cX0_pumpOf 12 = .ok (.i2l, 1) := dk_133 (dk_at dksX0_pumpOf_0 12 rfl rfl)
theorem dX0_pumpOf_13 : decode cX0_pumpOf 13 = .ok (.lconst 0, 1) := dk_9 (dk_at dksX0_pumpOf_0 13 rfl rfl)
theorem dX0_pumpOf_14 : decode cX0_pumpOf 14 = .ok (.ldc2_w 146, 3) := dk_20 0 146 (dk_at dksX0_pumpOf_0 14 rfl rfl)
theorem dX0_pumpOf_17 : decode cX0_pumpOf 17 = .ok (.invokestatic 70, 3) := dk_184 0 70 (dk_at dksX0_pumpOf_0 17 rfl rfl)
theorem dX0_pumpOf_20 : decode cX0_pumpOf 20 = .ok (.ifCond .ne 6, 3) := dk_154 0 6 (dk_at dksX0_pumpOf_0 20 rfl rfl)
theorem dX0_pumpOf_23 : decode cX0_pumpOf 23 = .ok (.ldc 98, 2) := dk_18 98 (dk_at dksX0_pumpOf_1 0 rfl rfl)
theorem dX0_pumpOf_25 : decode cX0_pumpOf 25 = .ok (.ireturn, 1) := dk_172 (dk_at dksX0_pumpOf_1 2 rfl rfl)
theorem dX0_pumpOf_26 : decode cX0_pumpOf 26 = .ok (.aload_n 0, 1) := dk_42 (dk_at dksX0_pumpOf_1 3 rfl rfl)
theorem dX0_pumpOf_27 : decode cX0_pumpOf 27 = .ok (.getfield 31, 3) := dk_180 0 31 (dk_at dksX0_pumpOf_1 4 rfl rfl)
theorem dX0_pumpOf_30 : decode cX0_pumpOf 30 = .ok (.getfield 111, 3) := dk_180 0 111 (dk_at dksX0_pumpOf_1 7 rfl rfl)
theorem dX0_pumpOf_33 : decode cX0_pumpOf 33 = .ok (.iload_n 1, 1) := dk_27 (dk_at dksX0_pumpOf_1 10 rfl rfl)
theorem dX0_pumpOf_34 : decode cX0_pumpOf 34 = .ok (.invokevirtual 131, 3) := dk_182 0 131 (dk_at dksX0_pumpOf_1 11 rfl rfl)
theorem dX0_pumpOf_37 : decode cX0_pumpOf 37 = .ok (.checkcast 135, 3) := dk_192 0 135 (dk_at dksX0_pumpOf_1 14 rfl rfl)
theorem dX0_pumpOf_40 : decode cX0_pumpOf 40 = .ok (.astore_n 3, 1) := dk_78 (dk_at dksX0_pumpOf_1 17 rfl rfl)
theorem dX0_pumpOf_41 : decode cX0_pumpOf 41 = .ok (.iload_n 2, 1) := dk_28 (dk_at dksX0_pumpOf_1 18 rfl rfl)
theorem dX0_pumpOf_42 : decode cX0_pumpOf 42 = .ok (.tableswitch 115 0 8 #[50, 55, 60, 65, 78, 83, 100, 105, 110], 50) := by decide +kernel
theorem dX0_pumpOf_92 : decode cX0_pumpOf 92 = .ok (.aload_n 3, 1) := dk_45 (dk_at dksX0_pumpOf_3 0 rfl rfl)
theorem dX0_pumpOf_93 : decode cX0_pumpOf 93 = .ok (.invokevirtual 148, 3) := dk_182 0 148 (dk_at dksX0_pumpOf_3 1 rfl rfl)
theorem dX0_pumpOf_96 : decode cX0_pumpOf 96 = .ok (.ireturn, 1) := dk_172 (dk_at dksX0_pumpOf_3 4 rfl rfl)
theorem dX0_pumpOf_97 : decode cX0_pumpOf 97 = .ok (.aload_n 3, 1) := dk_45 (dk_at dksX0_pumpOf_3 5 rfl rfl)
theorem dX0_pumpOf_98 : decode cX0_pumpOf 98 = .ok (.getfield 151, 3) := dk_180 0 151 (dk_at dksX0_pumpOf_3 6 rfl rfl)
theorem dX0_pumpOf_101 : decode cX0_pumpOf 101 = .ok (.ireturn, 1) := dk_172 (dk_at dksX0_pumpOf_3 9 rfl rfl)
theorem dX0_pumpOf_102 : decode cX0_pumpOf 102 = .ok (.aload_n 3, 1) := dk_45 (dk_at dksX0_pumpOf_3 10 rfl rfl)
theorem dX0_pumpOf_103 : decode cX0_pumpOf 103 = .ok (.getfield 155, 3) := dk_180 0 155 (dk_at dksX0_pumpOf_3 11 rfl rfl)
theorem dX0_pumpOf_106 : decode cX0_pumpOf 106 = .ok (.ireturn, 1) := dk_172 (dk_at dksX0_pumpOf_3 14 rfl rfl)
theorem dX0_pumpOf_107 : decode cX0_pumpOf 107 = .ok (.aload_n 3, 1) := dk_45 (dk_at dksX0_pumpOf_3 15 rfl rfl)
theorem dX0_pumpOf_108 : decode cX0_pumpOf 108 = .ok (.getfield 137, 3) := dk_180 0 137 (dk_at dksX0_pumpOf_3 16 rfl rfl)
theorem dX0_pumpOf_111 : decode cX0_pumpOf 111 = .ok (.ifCond .eq 7, 3) := dk_153 0 7 (dk_at dksX0_pumpOf_3 19 rfl rfl)
theorem dX0_pumpOf_114 : decode cX0_pumpOf 114 = .ok (.iconst 0, 1) := dk_3 (dk_at dksX0_pumpOf_3 22 rfl rfl)
theorem dX0_pumpOf_115 : decode cX0_pumpOf 115 = .ok (.goto 4, 3) := dk_167 0 4 (dk_at dksX0_pumpOf_4 0 rfl rfl)
theorem dX0_pumpOf_118 : decode cX0_pumpOf 118 = .ok (.iconst 1, 1) := dk_4 (dk_at dksX0_pumpOf_4 3 rfl rfl)
theorem dX0_pumpOf_119 : decode cX0_pumpOf 119 = .ok (.ireturn, 1) := dk_172 (dk_at dksX0_pumpOf_4 4 rfl rfl)
theorem dX0_pumpOf_120 : decode cX0_pumpOf 120 = .ok (.aload_n 3, 1) := dk_45 (dk_at dksX0_pumpOf_4 5 rfl rfl)
theorem dX0_pumpOf_121 : decode cX0_pumpOf 121 = .ok (.getfield 158, 3) := dk_180 0 158 (dk_at dksX0_pumpOf_4 6 rfl rfl)
theorem dX0_pumpOf_124 : decode cX0_pumpOf 124 = .ok (.ireturn, 1) := dk_172 (dk_at dksX0_pumpOf_4 9 rfl rfl)
theorem dX0_pumpOf_125 : decode cX0_pumpOf 125 = .ok (.aload_n 0, 1) := dk_42 (dk_at dksX0_pumpOf_4 10 rfl rfl)
theorem dX0_pumpOf_126 : decode cX0_pumpOf 126 = .ok (.getfield 31, 3) := dk_180 0 31 (dk_at dksX0_pumpOf_4 11 rfl rfl)
theorem dX0_pumpOf_129 : decode cX0_pumpOf 129 = .ok (.getfield 161, 3) := dk_180 0 161 (dk_at dksX0_pumpOf_4 14 rfl rfl)
theorem dX0_pumpOf_132 : decode cX0_pumpOf 132 = .ok (.iload_n 1, 1) := dk_27 (dk_at dksX0_pumpOf_4 17 rfl rfl)
theorem dX0_pumpOf_133 : decode cX0_pumpOf 133 = .ok (.if_icmp .ne 7, 3) := dk_160 0 7 (dk_at dksX0_pumpOf_4 18 rfl rfl)
theorem dX0_pumpOf_136 : decode cX0_pumpOf 136 = .ok (.iconst 1, 1) := dk_4 (dk_at dksX0_pumpOf_4 21 rfl rfl)
theorem dX0_pumpOf_137 : decode cX0_pumpOf 137 = .ok (.goto 4, 3) := dk_167 0 4 (dk_at dksX0_pumpOf_5 0 rfl rfl)
theorem dX0_pumpOf_140 : decode cX0_pumpOf 140 = .ok (.iconst 0, 1) := dk_3 (dk_at dksX0_pumpOf_5 3 rfl rfl)
theorem dX0_pumpOf_141 : decode cX0_pumpOf 141 = .ok (.ireturn, 1) := dk_172 (dk_at dksX0_pumpOf_5 4 rfl rfl)
theorem dX0_pumpOf_142 : decode cX0_pumpOf 142 = .ok (.aload_n 3, 1) := dk_45 (dk_at dksX0_pumpOf_5 5 rfl rfl)
theorem dX0_pumpOf_143 : decode cX0_pumpOf 143 = .ok (.getfield 164, 3) := dk_180 0 164 (dk_at dksX0_pumpOf_5 6 rfl rfl)
theorem dX0_pumpOf_146 : decode cX0_pumpOf 146 = .ok (.ireturn, 1) := dk_172 (dk_at dksX0_pumpOf_5 9 rfl rfl)
theorem dX0_pumpOf_147 : decode cX0_pumpOf 147 = .ok (.aload_n 3, 1) := dk_45 (dk_at dksX0_pumpOf_5 10 rfl rfl)
theorem dX0_pumpOf_148 : decode cX0_pumpOf 148 = .ok (.getfield 167, 3) := dk_180 0 167 (dk_at dksX0_pumpOf_5 11 rfl rfl)
theorem dX0_pumpOf_151 : decode cX0_pumpOf 151 = .ok (.ireturn, 1) := dk_172 (dk_at dksX0_pumpOf_5 14 rfl rfl)
theorem dX0_pumpOf_152 : decode cX0_pumpOf 152 = .ok (.aload_n 3, 1) := dk_45 (dk_at dksX0_pumpOf_5 15 rfl rfl)
theorem dX0_pumpOf_153 : decode cX0_pumpOf 153 = .ok (.getfield 170, 3) := dk_180 0 170 (dk_at dksX0_pumpOf_5 16 rfl rfl)
theorem dX0_pumpOf_156 : decode cX0_pumpOf 156 = .ok (.ireturn, 1) := dk_172 (dk_at dksX0_pumpOf_5 19 rfl rfl)
theorem dX0_pumpOf_157 : decode cX0_pumpOf 157 = .ok (.aload_n 0, 1) := dk_42 (dk_at dksX0_pumpOf_5 20 rfl rfl)
theorem dX0_pumpOf_158 : decode cX0_pumpOf 158 = .ok (.getfield 31, 3) := dk_180 0 31 (dk_at dksX0_pumpOf_5 21 rfl rfl)
theorem dX0_pumpOf_161 : decode cX0_pumpOf 161 = .ok (.aload_n 3, 1) := dk_45 (dk_at dksX0_pumpOf_6 0 rfl rfl)
theorem dX0_pumpOf_162 : decode cX0_pumpOf 162 = .ok (.invokevirtual 173, 3) := dk_182 0 173 (dk_at dksX0_pumpOf_6 1 rfl rfl)
theorem dX0_pumpOf_165 : decode cX0_pumpOf 165 = .ok (.ireturn, 1) := dk_172 (dk_at dksX0_pumpOf_6 4 rfl rfl)
abbrev cX0_curve : ByteArray := prog_1_method_12_code
def yX0_curve : MethodName := ⟨RX0, "curve", "(III)I"⟩
def dkwX0_curve_2 : List UInt8 := [180, 0, 177, 27, 50, 28, 29, 185, 0, 181, 3, 0, 172]
abbrev dktX0_curve_2 : List UInt8 := dkwX0_curve_2 ++ []
def dkwX0_curve_1 : List UInt8 := [153, 0, 15, 29, 133, 9, 20, 0, 109, 184, 0, 70, 154, 0, 6, 18, 98, 172, 42, 180, 0, 31]
abbrev dktX0_curve_1 : List UInt8 := dkwX0_curve_1 ++ dktX0_curve_2
def dkwX0_curve_0 : List UInt8 := [42, 180, 0, 31, 27, 182, 0, 127, 153, 0, 29, 28, 133, 20, 0, 76, 20, 0, 78, 184, 0, 70]
abbrev dktX0_curve_0 : List UInt8 := dkwX0_curve_0 ++ dktX0_curve_1
theorem dksX0_curve_0 : cX0_curve.data.toList.drop 0 = dktX0_curve_0 := by decide +kernel
theorem dksX0_curve_1 : cX0_curve.data.toList.drop 22 = dktX0_curve_1 := dk_seg dksX0_curve_0 22 rfl rfl
theorem dksX0_curve_2 : cX0_curve.data.toList.drop 44 = dktX0_curve_2 := dk_seg dksX0_curve_1 22 rfl rfl
theorem dX0_curve_0 : decode cX0_curve 0 = .ok (.aload_n 0, 1) := dk_42 (dk_at dksX0_curve_0 0 rfl rfl)
theorem dX0_curve_1 : decode cX0_curve 1 = .ok (.getfield 31, 3) := dk_180 0 31 (dk_at dksX0_curve_0 1 rfl rfl)
theorem dX0_curve_4 : decode cX0_curve 4 = .ok (.iload_n 1, 1) := dk_27 (dk_at dksX0_curve_0 4 rfl rfl)
theorem dX0_curve_5 : decode cX0_curve 5 = .ok (.invokevirtual 127, 3) := dk_182 0 127 (dk_at dksX0_curve_0 5 rfl rfl)
theorem dX0_curve_8 : decode cX0_curve 8 = .ok (.ifCond .eq 29, 3) := dk_153 0 29 (dk_at dksX0_curve_0 8 rfl rfl)
theorem dX0_curve_11 : decode cX0_curve 11 = .ok (.iload_n 2, 1) := dk_28 (dk_at dksX0_curve_0 11 rfl rfl)
theorem dX0_curve_12 : decode cX0_curve 12 = .ok (.i2l, 1) := dk_133 (dk_at dksX0_curve_0 12 rfl rfl)
theorem dX0_curve_13 : decode cX0_curve 13 = .ok (.ldc2_w 76, 3) := dk_20 0 76 (dk_at dksX0_curve_0 13 rfl rfl)
theorem dX0_curve_16 : decode cX0_curve 16 = .ok (.ldc2_w 78, 3) := dk_20 0 78 (dk_at dksX0_curve_0 16 rfl rfl)
theorem dX0_curve_19 : decode cX0_curve 19 = .ok (.invokestatic 70, 3) := dk_184 0 70 (dk_at dksX0_curve_0 19 rfl rfl)
theorem dX0_curve_22 : decode cX0_curve 22 = .ok (.ifCond .eq 15, 3) := dk_153 0 15 (dk_at dksX0_curve_1 0 rfl rfl)
theorem dX0_curve_25 : decode cX0_curve 25 = .ok (.iload_n 3, 1) := dk_29 (dk_at dksX0_curve_1 3 rfl rfl)
theorem dX0_curve_26 : decode cX0_curve 26 = .ok (.i2l, 1) := dk_133 (dk_at dksX0_curve_1 4 rfl rfl)
theorem dX0_curve_27 : decode cX0_curve 27 = .ok (.lconst 0, 1) := dk_9 (dk_at dksX0_curve_1 5 rfl rfl)
theorem dX0_curve_28 : decode cX0_curve 28 = .ok (.ldc2_w 109, 3) := dk_20 0 109 (dk_at dksX0_curve_1 6 rfl rfl)
theorem dX0_curve_31 : decode cX0_curve 31 = .ok (.invokestatic 70, 3) := dk_184 0 70 (dk_at dksX0_curve_1 9 rfl rfl)
theorem dX0_curve_34 : decode cX0_curve 34 = .ok (.ifCond .ne 6, 3) := dk_154 0 6 (dk_at dksX0_curve_1 12 rfl rfl)
theorem dX0_curve_37 : decode cX0_curve 37 = .ok (.ldc 98, 2) := dk_18 98 (dk_at dksX0_curve_1 15 rfl rfl)
theorem dX0_curve_39 : decode cX0_curve 39 = .ok (.ireturn, 1) := dk_172 (dk_at dksX0_curve_1 17 rfl rfl)
theorem dX0_curve_40 : decode cX0_curve 40 = .ok (.aload_n 0, 1) := dk_42 (dk_at dksX0_curve_1 18 rfl rfl)
theorem dX0_curve_41 : decode cX0_curve 41 = .ok (.getfield 31, 3) := dk_180 0 31 (dk_at dksX0_curve_1 19 rfl rfl)
theorem dX0_curve_44 : decode cX0_curve 44 = .ok (.getfield 177, 3) := dk_180 0 177 (dk_at dksX0_curve_2 0 rfl rfl)
theorem dX0_curve_47 : decode cX0_curve 47 = .ok (.iload_n 1, 1) := dk_27 (dk_at dksX0_curve_2 3 rfl rfl)
theorem dX0_curve_48 : decode cX0_curve 48 = .ok (.aaload, 1) := dk_50 (dk_at dksX0_curve_2 4 rfl rfl)
theorem dX0_curve_49 : decode cX0_curve 49 = .ok (.iload_n 2, 1) := dk_28 (dk_at dksX0_curve_2 5 rfl rfl)
theorem dX0_curve_50 : decode cX0_curve 50 = .ok (.iload_n 3, 1) := dk_29 (dk_at dksX0_curve_2 6 rfl rfl)
theorem dX0_curve_51 : decode cX0_curve 51 = .ok (.invokeinterface 181 3, 5) := by decide +kernel
theorem dX0_curve_56 : decode cX0_curve 56 = .ok (.ireturn, 1) := dk_172 (dk_at dksX0_curve_2 12 rfl rfl)
abbrev cX0_readyAt : ByteArray := prog_1_method_13_code
def yX0_readyAt : MethodName := ⟨RX0, "readyAt", "(I)I"⟩
def dkwX0_readyAt_2 : List UInt8 := [192, 0, 135, 78, 132, 4, 1, 167, 255, 239, 45, 180, 0, 197, 172]
abbrev dktX0_readyAt_2 : List UInt8 := dkwX0_readyAt_2 ++ []
def dkwX0_readyAt_1 : List UInt8 := [18, 193, 172, 44, 182, 0, 194, 192, 0, 135, 78, 3, 54, 4, 21, 4, 27, 162, 0, 17, 44, 182, 0, 194]
abbrev dktX0_readyAt_1 : List UInt8 := dkwX0_readyAt_1 ++ dktX0_readyAt_2
def dkwX0_readyAt_0 : List UInt8 := [27, 156, 0, 6, 18, 98, 172, 42, 180, 0, 31, 182, 0, 186, 77, 27, 44, 182, 0, 190, 161, 0, 6]
abbrev dktX0_readyAt_0 : List UInt8 := dkwX0_readyAt_0 ++ dktX0_readyAt_1
theorem dksX0_readyAt_0 : cX0_readyAt.data.toList.drop 0 = dktX0_readyAt_0 := by decide +kernel
theorem dksX0_readyAt_1 : cX0_readyAt.data.toList.drop 23 = dktX0_readyAt_1 := dk_seg dksX0_readyAt_0 23 rfl rfl
theorem dksX0_readyAt_2 : cX0_readyAt.data.toList.drop 47 = dktX0_readyAt_2 := dk_seg dksX0_readyAt_1 24 rfl rfl
theorem dX0_readyAt_0 : decode cX0_readyAt 0 = .ok (.iload_n 1, 1) := dk_27 (dk_at dksX0_readyAt_0 0 rfl rfl)
theorem dX0_readyAt_1 : decode cX0_readyAt 1 = .ok (.ifCond .ge 6, 3) := dk_156 0 6 (dk_at dksX0_readyAt_0 1 rfl rfl)
theorem dX0_readyAt_4 : decode cX0_readyAt 4 = .ok (.ldc 98, 2) := dk_18 98 (dk_at dksX0_readyAt_0 4 rfl rfl)
theorem dX0_readyAt_6 : decode cX0_readyAt 6 = .ok (.ireturn, 1) := dk_172 (dk_at dksX0_readyAt_0 6 rfl rfl)
theorem dX0_readyAt_7 : decode cX0_readyAt 7 = .ok (.aload_n 0, 1) := dk_42 (dk_at dksX0_readyAt_0 7 rfl rfl)
theorem dX0_readyAt_8 : decode cX0_readyAt 8 = .ok (.getfield 31, 3) := dk_180 0 31 (dk_at dksX0_readyAt_0 8 rfl rfl)
theorem dX0_readyAt_11 : decode cX0_readyAt 11 = .ok (.invokevirtual 186, 3) := dk_182 0 186 (dk_at dksX0_readyAt_0 11 rfl rfl)
theorem dX0_readyAt_14 : decode cX0_readyAt 14 = .ok (.astore_n 2, 1) := dk_77 (dk_at dksX0_readyAt_0 14 rfl rfl)
theorem dX0_readyAt_15 : decode cX0_readyAt 15 = .ok (.iload_n 1, 1) := dk_27 (dk_at dksX0_readyAt_0 15 rfl rfl)
theorem dX0_readyAt_16 : decode cX0_readyAt 16 = .ok (.aload_n 2, 1) := dk_44 (dk_at dksX0_readyAt_0 16 rfl rfl)
theorem dX0_readyAt_17 : decode cX0_readyAt 17 = .ok (.invokevirtual 190, 3) := dk_182 0 190 (dk_at dksX0_readyAt_0 17 rfl rfl)
theorem dX0_readyAt_20 : decode cX0_readyAt 20 = .ok (.if_icmp .lt 6, 3) := dk_161 0 6 (dk_at dksX0_readyAt_0 20 rfl rfl)
theorem dX0_readyAt_23 : decode cX0_readyAt 23 = .ok (.ldc 193, 2) := dk_18 193 (dk_at dksX0_readyAt_1 0 rfl rfl)
theorem dX0_readyAt_25 : decode cX0_readyAt 25 = .ok (.ireturn, 1) := dk_172 (dk_at dksX0_readyAt_1 2 rfl rfl)
theorem dX0_readyAt_26 : decode cX0_readyAt 26 = .ok (.aload_n 2, 1) := dk_44 (dk_at dksX0_readyAt_1 3 rfl rfl)
theorem dX0_readyAt_27 : decode cX0_readyAt 27 = .ok (.invokevirtual 194, 3) := dk_182 0 194 (dk_at dksX0_readyAt_1 4 rfl rfl)
theorem dX0_readyAt_30 : decode cX0_readyAt 30 = .ok (.checkcast 135, 3) := dk_192 0 135 (dk_at dksX0_readyAt_1 7 rfl rfl)
theorem dX0_readyAt_33 : decode cX0_readyAt 33 = .ok (.astore_n 3, 1) := dk_78 (dk_at dksX0_readyAt_1 10 rfl rfl)
theorem dX0_readyAt_34 : decode cX0_readyAt 34 = .ok (.iconst 0, 1) := dk_3 (dk_at dksX0_readyAt_1 11 rfl rfl)
theorem dX0_readyAt_35 : decode cX0_readyAt 35 = .ok (.istore 4, 2) := dk_54 4 (dk_at dksX0_readyAt_1 12 rfl rfl)
theorem dX0_readyAt_37 : decode cX0_readyAt 37 = .ok (.iload 4, 2) := dk_21 4 (dk_at dksX0_readyAt_1 14 rfl rfl)
theorem dX0_readyAt_39 : decode cX0_readyAt 39 = .ok (.iload_n 1, 1) := dk_27 (dk_at dksX0_readyAt_1 16 rfl rfl)
theorem dX0_readyAt_40 : decode cX0_readyAt 40 = .ok (.if_icmp .ge 17, 3) := dk_162 0 17 (dk_at dksX0_readyAt_1 17 rfl rfl)
theorem dX0_readyAt_43 : decode cX0_readyAt 43 = .ok (.aload_n 2, 1) := dk_44 (dk_at dksX0_readyAt_1 20 rfl rfl)
theorem dX0_readyAt_44 : decode cX0_readyAt 44 = .ok (.invokevirtual 194, 3) := dk_182 0 194 (dk_at dksX0_readyAt_1 21 rfl rfl)
theorem dX0_readyAt_47 : decode cX0_readyAt 47 = .ok (.checkcast 135, 3) := dk_192 0 135 (dk_at dksX0_readyAt_2 0 rfl rfl)
theorem dX0_readyAt_50 : decode cX0_readyAt 50 = .ok (.astore_n 3, 1) := dk_78 (dk_at dksX0_readyAt_2 3 rfl rfl)
theorem dX0_readyAt_51 : decode cX0_readyAt 51 = .ok (.iinc 4 1, 3) := dk_132 4 1 (dk_at dksX0_readyAt_2 4 rfl rfl)
theorem dX0_readyAt_54 : decode cX0_readyAt 54 = .ok (.goto (-17), 3) := dk_167 255 239 (dk_at dksX0_readyAt_2 7 rfl rfl)
theorem dX0_readyAt_57 : decode cX0_readyAt 57 = .ok (.aload_n 3, 1) := dk_45 (dk_at dksX0_readyAt_2 10 rfl rfl)
theorem dX0_readyAt_58 : decode cX0_readyAt 58 = .ok (.getfield 197, 3) := dk_180 0 197 (dk_at dksX0_readyAt_2 11 rfl rfl)
theorem dX0_readyAt_61 : decode cX0_readyAt 61 = .ok (.ireturn, 1) := dk_172 (dk_at dksX0_readyAt_2 14 rfl rfl)
abbrev cX0_balance : ByteArray := prog_1_method_14_code
def yX0_balance : MethodName := ⟨RX0, "balance", "()I"⟩
def dkwX0_balance_3 : List UInt8 := [180, 0, 164, 184, 0, 221, 61, 167, 255, 216, 27, 28, 100, 172]
abbrev dktX0_balance_3 : List UInt8 := dkwX0_balance_3 ++ []
def dkwX0_balance_2 : List UInt8 := [185, 0, 213, 1, 0, 192, 0, 135, 58, 4, 27, 25, 4, 180, 0, 164, 184, 0, 216, 60, 28, 25, 4]
abbrev dktX0_balance_2 : List UInt8 := dkwX0_balance_2 ++ dktX0_balance_3
def dkwX0_balance_1 : List UInt8 := [180, 0, 31, 180, 0, 111, 182, 0, 204, 78, 45, 185, 0, 208, 1, 0, 153, 0, 37, 45]
abbrev dktX0_balance_1 : List UInt8 := dkwX0_balance_1 ++ dktX0_balance_2
def dkwX0_balance_0 : List UInt8 := [42, 180, 0, 31, 180, 0, 111, 182, 0, 200, 153, 0, 6, 18, 193, 172, 3, 60, 17, 78, 32, 61, 42]
abbrev dktX0_balance_0 : List UInt8 := dkwX0_balance_0 ++ dktX0_balance_1
theorem dksX0_balance_0 : cX0_balance.data.toList.drop 0 = dktX0_balance_0 := by decide +kernel
theorem dksX0_balance_1 : cX0_balance.data.toList.drop 23 = dktX0_balance_1 := dk_seg dksX0_balance_0 23 rfl rfl
theorem dksX0_balance_2 : cX0_balance.data.toList.drop 43 = dktX0_balance_2 := dk_seg dksX0_balance_1 20 rfl rfl
theorem dksX0_balance_3 : cX0_balance.data.toList.drop 66 = dktX0_balance_3 := dk_seg dksX0_balance_2 23 rfl rfl
theorem dX0_balance_0 : decode cX0_balance 0 = .ok (.aload_n 0, 1) := dk_42 (dk_at dksX0_balance_0 0 rfl rfl)
theorem dX0_balance_1 : decode cX0_balance 1 = .ok (.getfield 31, 3) := dk_180 0 31 (dk_at dksX0_balance_0 1 rfl rfl)
theorem dX0_balance_4 : decode cX0_balance 4 = .ok (.getfield 111, 3) := dk_180 0 111 (dk_at dksX0_balance_0 4 rfl rfl)
theorem dX0_balance_7 : decode cX0_balance 7 = .ok (.invokevirtual 200, 3) := dk_182 0 200 (dk_at dksX0_balance_0 7 rfl rfl)
theorem dX0_balance_10 : decode cX0_balance 10 = .ok (.ifCond .eq 6, 3) := dk_153 0 6 (dk_at dksX0_balance_0 10 rfl rfl)
theorem dX0_balance_13 : decode cX0_balance 13 = .ok (.ldc 193, 2) := dk_18 193 (dk_at dksX0_balance_0 13 rfl rfl)
theorem dX0_balance_15 : decode cX0_balance 15 = .ok (.ireturn, 1) := dk_172 (dk_at dksX0_balance_0 15 rfl rfl)
theorem dX0_balance_16 : decode cX0_balance 16 = .ok (.iconst 0, 1) := dk_3 (dk_at dksX0_balance_0 16 rfl rfl)
theorem dX0_balance_17 : decode cX0_balance 17 = .ok (.istore_n 1, 1) := dk_60 (dk_at dksX0_balance_0 17 rfl rfl)
theorem dX0_balance_18 : decode cX0_balance 18 = .ok (.sipush 20000, 3) := dk_17 78 32 (dk_at dksX0_balance_0 18 rfl rfl)
theorem dX0_balance_21 : decode cX0_balance 21 = .ok (.istore_n 2, 1) := dk_61 (dk_at dksX0_balance_0 21 rfl rfl)
theorem dX0_balance_22 : decode cX0_balance 22 = .ok (.aload_n 0, 1) := dk_42 (dk_at dksX0_balance_0 22 rfl rfl)
theorem dX0_balance_23 : decode cX0_balance 23 = .ok (.getfield 31, 3) := dk_180 0 31 (dk_at dksX0_balance_1 0 rfl rfl)
theorem dX0_balance_26 : decode cX0_balance 26 = .ok (.getfield 111, 3) := dk_180 0 111 (dk_at dksX0_balance_1 3 rfl rfl)
theorem dX0_balance_29 : decode cX0_balance 29 = .ok (.invokevirtual 204, 3) := dk_182 0 204 (dk_at dksX0_balance_1 6 rfl rfl)
theorem dX0_balance_32 : decode cX0_balance 32 = .ok (.astore_n 3, 1) := dk_78 (dk_at dksX0_balance_1 9 rfl rfl)
theorem dX0_balance_33 : decode cX0_balance 33 = .ok (.aload_n 3, 1) := dk_45 (dk_at dksX0_balance_1 10 rfl rfl)
theorem dX0_balance_34 : decode cX0_balance 34 = .ok (.invokeinterface 208 1, 5) := by decide +kernel
theorem dX0_balance_39 : decode cX0_balance 39 = .ok (.ifCond .eq 37, 3) := dk_153 0 37 (dk_at dksX0_balance_1 16 rfl rfl)
theorem dX0_balance_42 : decode cX0_balance 42 = .ok (.aload_n 3, 1) := dk_45 (dk_at dksX0_balance_1 19 rfl rfl)
theorem dX0_balance_43 : decode cX0_balance 43 = .ok (.invokeinterface 213 1, 5) := by decide +kernel
theorem dX0_balance_48 : decode cX0_balance 48 = .ok (.checkcast 135, 3) := dk_192 0 135 (dk_at dksX0_balance_2 5 rfl rfl)
theorem dX0_balance_51 : decode cX0_balance 51 = .ok (.astore 4, 2) := dk_58 4 (dk_at dksX0_balance_2 8 rfl rfl)
theorem dX0_balance_53 : decode cX0_balance 53 = .ok (.iload_n 1, 1) := dk_27 (dk_at dksX0_balance_2 10 rfl rfl)
theorem dX0_balance_54 : decode cX0_balance 54 = .ok (.aload 4, 2) := dk_25 4 (dk_at dksX0_balance_2 11 rfl rfl)
theorem dX0_balance_56 : decode cX0_balance 56 = .ok (.getfield 164, 3) := dk_180 0 164 (dk_at dksX0_balance_2 13 rfl rfl)
theorem dX0_balance_59 : decode cX0_balance 59 = .ok (.invokestatic 216, 3) := dk_184 0 216 (dk_at dksX0_balance_2 16 rfl rfl)
theorem dX0_balance_62 : decode cX0_balance 62 = .ok (.istore_n 1, 1) := dk_60 (dk_at dksX0_balance_2 19 rfl rfl)
theorem dX0_balance_63 : decode cX0_balance 63 = .ok (.iload_n 2, 1) := dk_28 (dk_at dksX0_balance_2 20 rfl rfl)
theorem dX0_balance_64 : decode cX0_balance 64 = .ok (.aload 4, 2) := dk_25 4 (dk_at dksX0_balance_2 21 rfl rfl)
theorem dX0_balance_66 : decode cX0_balance 66 = .ok (.getfield 164, 3) := dk_180 0 164 (dk_at dksX0_balance_3 0 rfl rfl)
theorem dX0_balance_69 : decode cX0_balance 69 = .ok (.invokestatic 221, 3) := dk_184 0 221 (dk_at dksX0_balance_3 3 rfl rfl)
theorem dX0_balance_72 : decode cX0_balance 72 = .ok (.istore_n 2, 1) := dk_61 (dk_at dksX0_balance_3 6 rfl rfl)
theorem dX0_balance_73 : decode cX0_balance 73 = .ok (.goto (-40), 3) := dk_167 255 216 (dk_at dksX0_balance_3 7 rfl rfl)
theorem dX0_balance_76 : decode cX0_balance 76 = .ok (.iload_n 1, 1) := dk_27 (dk_at dksX0_balance_3 10 rfl rfl)
theorem dX0_balance_77 : decode cX0_balance 77 = .ok (.iload_n 2, 1) := dk_28 (dk_at dksX0_balance_3 11 rfl rfl)
theorem dX0_balance_78 : decode cX0_balance 78 = .ok (.isub, 1) := dk_100 (dk_at dksX0_balance_3 12 rfl rfl)
theorem dX0_balance_79 : decode cX0_balance 79 = .ok (.ireturn, 1) := dk_172 (dk_at dksX0_balance_3 13 rfl rfl)
abbrev cX0_zone : ByteArray := prog_1_method_15_code
def yX0_zone : MethodName := ⟨RX0, "zone", "(I)I"⟩
def dkwX0_zone_2 : List UInt8 := [180, 0, 224, 4, 96, 181, 0, 224, 44, 180, 0, 224, 4, 100, 172]
abbrev dktX0_zone_2 : List UInt8 := dkwX0_zone_2 ++ []
def dkwX0_zone_1 : List UInt8 := [160, 0, 6, 18, 118, 172, 42, 182, 0, 103, 77, 44, 180, 0, 227, 44, 180, 0, 224, 27, 79, 44, 89]
abbrev dktX0_zone_1 : List UInt8 := dkwX0_zone_1 ++ dktX0_zone_2
def dkwX0_zone_0 : List UInt8 := [27, 133, 10, 20, 0, 78, 184, 0, 70, 154, 0, 6, 18, 98, 172, 42, 180, 0, 31, 180, 0, 224, 16, 8]
abbrev dktX0_zone_0 : List UInt8 := dkwX0_zone_0 ++ dktX0_zone_1
theorem dksX0_zone_0 : cX0_zone.data.toList.drop 0 = dktX0_zone_0 := by decide +kernel
theorem dksX0_zone_1 : cX0_zone.data.toList.drop 24 = dktX0_zone_1 := dk_seg dksX0_zone_0 24 rfl rfl
theorem dksX0_zone_2 : cX0_zone.data.toList.drop 47 = dktX0_zone_2 := dk_seg dksX0_zone_1 23 rfl rfl
theorem dX0_zone_0 : decode cX0_zone 0 = .ok (.iload_n 1, 1) := dk_27 (dk_at dksX0_zone_0 0 rfl rfl)
theorem dX0_zone_1 : decode cX0_zone 1 = .ok (.i2l, 1) := dk_133 (dk_at dksX0_zone_0 1 rfl rfl)
theorem dX0_zone_2 : decode cX0_zone 2 = .ok (.lconst 1, 1) := dk_10 (dk_at dksX0_zone_0 2 rfl rfl)
theorem dX0_zone_3 : decode cX0_zone 3 = .ok (.ldc2_w 78, 3) := dk_20 0 78 (dk_at dksX0_zone_0 3 rfl rfl)
theorem dX0_zone_6 : decode cX0_zone 6 = .ok (.invokestatic 70, 3) := dk_184 0 70 (dk_at dksX0_zone_0 6 rfl rfl)
theorem dX0_zone_9 : decode cX0_zone 9 = .ok (.ifCond .ne 6, 3) := dk_154 0 6 (dk_at dksX0_zone_0 9 rfl rfl)
theorem dX0_zone_12 : decode cX0_zone 12 = .ok (.ldc 98, 2) := dk_18 98 (dk_at dksX0_zone_0 12 rfl rfl)
theorem dX0_zone_14 : decode cX0_zone 14 = .ok (.ireturn, 1) := dk_172 (dk_at dksX0_zone_0 14 rfl rfl)
theorem dX0_zone_15 : decode cX0_zone 15 = .ok (.aload_n 0, 1) := dk_42 (dk_at dksX0_zone_0 15 rfl rfl)
theorem dX0_zone_16 : decode cX0_zone 16 = .ok (.getfield 31, 3) := dk_180 0 31 (dk_at dksX0_zone_0 16 rfl rfl)
theorem dX0_zone_19 : decode cX0_zone 19 = .ok (.getfield 224, 3) := dk_180 0 224 (dk_at dksX0_zone_0 19 rfl rfl)
theorem dX0_zone_22 : decode cX0_zone 22 = .ok (.bipush 8, 2) := dk_16 8 (dk_at dksX0_zone_0 22 rfl rfl)
theorem dX0_zone_24 : decode cX0_zone 24 = .ok (.if_icmp .ne 6, 3) := dk_160 0 6 (dk_at dksX0_zone_1 0 rfl rfl)
theorem dX0_zone_27 : decode cX0_zone 27 = .ok (.ldc 118, 2) := dk_18 118 (dk_at dksX0_zone_1 3 rfl rfl)
theorem dX0_zone_29 : decode cX0_zone 29 = .ok (.ireturn, 1) := dk_172 (dk_at dksX0_zone_1 5 rfl rfl)
theorem dX0_zone_30 : decode cX0_zone 30 = .ok (.aload_n 0, 1) := dk_42 (dk_at dksX0_zone_1 6 rfl rfl)
theorem dX0_zone_31 : decode cX0_zone 31 = .ok (.invokevirtual 103, 3) := dk_182 0 103 (dk_at dksX0_zone_1 7 rfl rfl)
theorem dX0_zone_34 : decode cX0_zone 34 = .ok (.astore_n 2, 1) := dk_77 (dk_at dksX0_zone_1 10 rfl rfl)
theorem dX0_zone_35 : decode cX0_zone 35 = .ok (.aload_n 2, 1) := dk_44 (dk_at dksX0_zone_1 11 rfl rfl)
theorem dX0_zone_36 : decode cX0_zone 36 = .ok (.getfield 227, 3) := dk_180 0 227 (dk_at dksX0_zone_1 12 rfl rfl)
theorem dX0_zone_39 : decode cX0_zone 39 = .ok (.aload_n 2, 1) := dk_44 (dk_at dksX0_zone_1 15 rfl rfl)
theorem dX0_zone_40 : decode cX0_zone 40 = .ok (.getfield 224, 3) := dk_180 0 224 (dk_at dksX0_zone_1 16 rfl rfl)
theorem dX0_zone_43 : decode cX0_zone 43 = .ok (.iload_n 1, 1) := dk_27 (dk_at dksX0_zone_1 19 rfl rfl)
theorem dX0_zone_44 : decode cX0_zone 44 = .ok (.iastore, 1) := dk_79 (dk_at dksX0_zone_1 20 rfl rfl)
theorem dX0_zone_45 : decode cX0_zone 45 = .ok (.aload_n 2, 1) := dk_44 (dk_at dksX0_zone_1 21 rfl rfl)
theorem dX0_zone_46 : decode cX0_zone 46 = .ok (.dup, 1) := dk_89 (dk_at dksX0_zone_1 22 rfl rfl)
theorem dX0_zone_47 : decode cX0_zone 47 = .ok (.getfield 224, 3) := dk_180 0 224 (dk_at dksX0_zone_2 0 rfl rfl)
theorem dX0_zone_50 : decode cX0_zone 50 = .ok (.iconst 1, 1) := dk_4 (dk_at dksX0_zone_2 3 rfl rfl)
theorem dX0_zone_51 : decode cX0_zone 51 = .ok (.iadd, 1) := dk_96 (dk_at dksX0_zone_2 4 rfl rfl)
theorem dX0_zone_52 : decode cX0_zone 52 = .ok (.putfield 224, 3) := dk_181 0 224 (dk_at dksX0_zone_2 5 rfl rfl)
theorem dX0_zone_55 : decode cX0_zone 55 = .ok (.aload_n 2, 1) := dk_44 (dk_at dksX0_zone_2 8 rfl rfl)
theorem dX0_zone_56 : decode cX0_zone 56 = .ok (.getfield 224, 3) := dk_180 0 224 (dk_at dksX0_zone_2 9 rfl rfl)
theorem dX0_zone_59 : decode cX0_zone 59 = .ok (.iconst 1, 1) := dk_4 (dk_at dksX0_zone_2 12 rfl rfl)
theorem dX0_zone_60 : decode cX0_zone 60 = .ok (.isub, 1) := dk_100 (dk_at dksX0_zone_2 13 rfl rfl)
theorem dX0_zone_61 : decode cX0_zone 61 = .ok (.ireturn, 1) := dk_172 (dk_at dksX0_zone_2 14 rfl rfl)
abbrev cX0_open : ByteArray := prog_1_method_16_code
def yX0_open : MethodName := ⟨RX0, "open", "(II)I"⟩
def dkwX0_open_2 : List UInt8 := [182, 0, 103, 29, 27, 182, 0, 142, 167, 0, 5, 18, 141, 172]
abbrev dktX0_open_2 : List UInt8 := dkwX0_open_2 ++ []
def dkwX0_open_1 : List UInt8 := [28, 4, 160, 0, 7, 3, 167, 0, 4, 4, 62, 42, 180, 0, 31, 29, 27, 182, 0, 233, 153, 0, 15, 42]
abbrev dktX0_open_1 : List UInt8 := dkwX0_open_1 ++ dktX0_open_2
def dkwX0_open_0 : List UInt8 := [42, 180, 0, 31, 27, 182, 0, 230, 153, 0, 13, 28, 133, 9, 10, 184, 0, 70, 154, 0, 6, 18, 98, 172]
abbrev dktX0_open_0 : List UInt8 := dkwX0_open_0 ++ dktX0_open_1
theorem dksX0_open_0 : cX0_open.data.toList.drop 0 = dktX0_open_0 := by decide +kernel
theorem dksX0_open_1 : cX0_open.data.toList.drop 24 = dktX0_open_1 := dk_seg dksX0_open_0 24 rfl rfl
theorem dksX0_open_2 : cX0_open.data.toList.drop 48 = dktX0_open_2 := dk_seg dksX0_open_1 24 rfl rfl
theorem dX0_open_0 : decode cX0_open 0 = .ok (.aload_n 0, 1) := dk_42 (dk_at dksX0_open_0 0 rfl rfl)
theorem dX0_open_1 : decode cX0_open 1 = .ok (.getfield 31, 3) := dk_180 0 31 (dk_at dksX0_open_0 1 rfl rfl)
theorem dX0_open_4 : decode cX0_open 4 = .ok (.iload_n 1, 1) := dk_27 (dk_at dksX0_open_0 4 rfl rfl)
theorem dX0_open_5 : decode cX0_open 5 = .ok (.invokevirtual 230, 3) := dk_182 0 230 (dk_at dksX0_open_0 5 rfl rfl)
theorem dX0_open_8 : decode cX0_open 8 = .ok (.ifCond .eq 13, 3) := dk_153 0 13 (dk_at dksX0_open_0 8 rfl rfl)
theorem dX0_open_11 : decode cX0_open 11 = .ok (.iload_n 2, 1) := dk_28 (dk_at dksX0_open_0 11 rfl rfl)
theorem dX0_open_12 : decode cX0_open 12 = .ok (.i2l, 1) := dk_133 (dk_at dksX0_open_0 12 rfl rfl)
theorem dX0_open_13 : decode cX0_open 13 = .ok (.lconst 0, 1) := dk_9 (dk_at dksX0_open_0 13 rfl rfl)
theorem dX0_open_14 : decode cX0_open 14 = .ok (.lconst 1, 1) := dk_10 (dk_at dksX0_open_0 14 rfl rfl)
theorem dX0_open_15 : decode cX0_open 15 = .ok (.invokestatic 70, 3) := dk_184 0 70 (dk_at dksX0_open_0 15 rfl rfl)
theorem dX0_open_18 : decode cX0_open 18 = .ok (.ifCond .ne 6, 3) := dk_154 0 6 (dk_at dksX0_open_0 18 rfl rfl)
theorem dX0_open_21 : decode cX0_open 21 = .ok (.ldc 98, 2) := dk_18 98 (dk_at dksX0_open_0 21 rfl rfl)
theorem dX0_open_23 : decode cX0_open 23 = .ok (.ireturn, 1) := dk_172 (dk_at dksX0_open_0 23 rfl rfl)
theorem dX0_open_24 : decode cX0_open 24 = .ok (.iload_n 2, 1) := dk_28 (dk_at dksX0_open_1 0 rfl rfl)
theorem dX0_open_25 : decode cX0_open 25 = .ok (.iconst 1, 1) := dk_4 (dk_at dksX0_open_1 1 rfl rfl)
theorem dX0_open_26 : decode cX0_open 26 = .ok (.if_icmp .ne 7, 3) := dk_160 0 7 (dk_at dksX0_open_1 2 rfl rfl)
theorem dX0_open_29 : decode cX0_open 29 = .ok (.iconst 0, 1) := dk_3 (dk_at dksX0_open_1 5 rfl rfl)
theorem dX0_open_30 : decode cX0_open 30 = .ok (.goto 4, 3) := dk_167 0 4 (dk_at dksX0_open_1 6 rfl rfl)
theorem dX0_open_33 : decode cX0_open 33 = .ok (.iconst 1, 1) := dk_4 (dk_at dksX0_open_1 9 rfl rfl)
theorem dX0_open_34 : decode cX0_open 34 = .ok (.istore_n 3, 1) := dk_62 (dk_at dksX0_open_1 10 rfl rfl)
theorem dX0_open_35 : decode cX0_open 35 = .ok (.aload_n 0, 1) := dk_42 (dk_at dksX0_open_1 11 rfl rfl)
theorem dX0_open_36 : decode cX0_open 36 = .ok (.getfield 31, 3) := dk_180 0 31 (dk_at dksX0_open_1 12 rfl rfl)
theorem dX0_open_39 : decode cX0_open 39 = .ok (.iload_n 3, 1) := dk_29 (dk_at dksX0_open_1 15 rfl rfl)
theorem dX0_open_40 : decode cX0_open 40 = .ok (.iload_n 1, 1) := dk_27 (dk_at dksX0_open_1 16 rfl rfl)
theorem dX0_open_41 : decode cX0_open 41 = .ok (.invokevirtual 233, 3) := dk_182 0 233 (dk_at dksX0_open_1 17 rfl rfl)
theorem dX0_open_44 : decode cX0_open 44 = .ok (.ifCond .eq 15, 3) := dk_153 0 15 (dk_at dksX0_open_1 20 rfl rfl)
theorem dX0_open_47 : decode cX0_open 47 = .ok (.aload_n 0, 1) := dk_42 (dk_at dksX0_open_1 23 rfl rfl)
theorem dX0_open_48 : decode cX0_open 48 = .ok (.invokevirtual 103, 3) := dk_182 0 103 (dk_at dksX0_open_2 0 rfl rfl)
theorem dX0_open_51 : decode cX0_open 51 = .ok (.iload_n 3, 1) := dk_29 (dk_at dksX0_open_2 3 rfl rfl)
theorem dX0_open_52 : decode cX0_open 52 = .ok (.iload_n 1, 1) := dk_27 (dk_at dksX0_open_2 4 rfl rfl)
theorem dX0_open_53 : decode cX0_open 53 = .ok (.invokevirtual 142, 3) := dk_182 0 142 (dk_at dksX0_open_2 5 rfl rfl)
theorem dX0_open_56 : decode cX0_open 56 = .ok (.goto 5, 3) := dk_167 0 5 (dk_at dksX0_open_2 8 rfl rfl)
theorem dX0_open_59 : decode cX0_open 59 = .ok (.ldc 141, 2) := dk_18 141 (dk_at dksX0_open_2 11 rfl rfl)
theorem dX0_open_61 : decode cX0_open 61 = .ok (.ireturn, 1) := dk_172 (dk_at dksX0_open_2 13 rfl rfl)
abbrev cX0_leak : ByteArray := prog_1_method_17_code
def yX0_leak : MethodName := ⟨RX0, "leak", "(I)I"⟩
def dkwX0_leak_1 : List UInt8 := [182, 0, 103, 27, 181, 0, 236, 28, 172]
abbrev dktX0_leak_1 : List UInt8 := dkwX0_leak_1 ++ []
def dkwX0_leak_0 : List UInt8 := [27, 133, 9, 20, 0, 78, 184, 0, 70, 154, 0, 6, 18, 98, 172, 42, 180, 0, 31, 180, 0, 236, 61, 42]
abbrev dktX0_leak_0 : List UInt8 := dkwX0_leak_0 ++ dktX0_leak_1
theorem dksX0_leak_0 : cX0_leak.data.toList.drop 0 = dktX0_leak_0 := by decide +kernel
theorem dksX0_leak_1 : cX0_leak.data.toList.drop 24 = dktX0_leak_1 := dk_seg dksX0_leak_0 24 rfl rfl
theorem dX0_leak_0 : decode cX0_leak 0 = .ok (.iload_n 1, 1) := dk_27 (dk_at dksX0_leak_0 0 rfl rfl)
theorem dX0_leak_1 : decode cX0_leak 1 = .ok (.i2l, 1) := dk_133 (dk_at dksX0_leak_0 1 rfl rfl)
theorem dX0_leak_2 : decode cX0_leak 2 = .ok (.lconst 0, 1) := dk_9 (dk_at dksX0_leak_0 2 rfl rfl)
theorem dX0_leak_3 : decode cX0_leak 3 = .ok (.ldc2_w 78, 3) := dk_20 0 78 (dk_at dksX0_leak_0 3 rfl rfl)
theorem dX0_leak_6 : decode cX0_leak 6 = .ok (.invokestatic 70, 3) := dk_184 0 70 (dk_at dksX0_leak_0 6 rfl rfl)
theorem dX0_leak_9 : decode cX0_leak 9 = .ok (.ifCond .ne 6, 3) := dk_154 0 6 (dk_at dksX0_leak_0 9 rfl rfl)
theorem dX0_leak_12 : decode cX0_leak 12 = .ok (.ldc 98, 2) := dk_18 98 (dk_at dksX0_leak_0 12 rfl rfl)
theorem dX0_leak_14 : decode cX0_leak 14 = .ok (.ireturn, 1) := dk_172 (dk_at dksX0_leak_0 14 rfl rfl)
theorem dX0_leak_15 : decode cX0_leak 15 = .ok (.aload_n 0, 1) := dk_42 (dk_at dksX0_leak_0 15 rfl rfl)
theorem dX0_leak_16 : decode cX0_leak 16 = .ok (.getfield 31, 3) := dk_180 0 31 (dk_at dksX0_leak_0 16 rfl rfl)
theorem dX0_leak_19 : decode cX0_leak 19 = .ok (.getfield 236, 3) := dk_180 0 236 (dk_at dksX0_leak_0 19 rfl rfl)
theorem dX0_leak_22 : decode cX0_leak 22 = .ok (.istore_n 2, 1) := dk_61 (dk_at dksX0_leak_0 22 rfl rfl)
theorem dX0_leak_23 : decode cX0_leak 23 = .ok (.aload_n 0, 1) := dk_42 (dk_at dksX0_leak_0 23 rfl rfl)
theorem dX0_leak_24 : decode cX0_leak 24 = .ok (.invokevirtual 103, 3) := dk_182 0 103 (dk_at dksX0_leak_1 0 rfl rfl)
theorem dX0_leak_27 : decode cX0_leak 27 = .ok (.iload_n 1, 1) := dk_27 (dk_at dksX0_leak_1 3 rfl rfl)
theorem dX0_leak_28 : decode cX0_leak 28 = .ok (.putfield 236, 3) := dk_181 0 236 (dk_at dksX0_leak_1 4 rfl rfl)
theorem dX0_leak_31 : decode cX0_leak 31 = .ok (.iload_n 2, 1) := dk_28 (dk_at dksX0_leak_1 7 rfl rfl)
theorem dX0_leak_32 : decode cX0_leak 32 = .ok (.ireturn, 1) := dk_172 (dk_at dksX0_leak_1 8 rfl rfl)
abbrev cX0_programme : ByteArray := prog_1_method_18_code
def yX0_programme : MethodName := ⟨RX0, "programme", "(III)I"⟩
def dkwX0_programme_3 : List UInt8 := [89, 27, 28, 29, 183, 0, 244, 182, 0, 245, 87, 42, 180, 0, 31, 180, 0, 239, 182, 0, 115, 172]
abbrev dktX0_programme_3 : List UInt8 := dkwX0_programme_3 ++ []
def dkwX0_programme_2 : List UInt8 := [180, 0, 239, 182, 0, 115, 16, 8, 160, 0, 6, 18, 118, 172, 42, 182, 0, 103, 180, 0, 239, 187, 0, 242]
abbrev dktX0_programme_2 : List UInt8 := dkwX0_programme_2 ++ dktX0_programme_3
def dkwX0_programme_1 : List UInt8 := [133, 9, 20, 0, 84, 184, 0, 70, 153, 0, 8, 28, 29, 160, 0, 6, 18, 98, 172, 42, 180, 0, 31]
abbrev dktX0_programme_1 : List UInt8 := dkwX0_programme_1 ++ dktX0_programme_2
def dkwX0_programme_0 : List UInt8 := [42, 180, 0, 31, 27, 182, 0, 230, 153, 0, 32, 28, 133, 9, 20, 0, 84, 184, 0, 70, 153, 0, 20, 29]
abbrev dktX0_programme_0 : List UInt8 := dkwX0_programme_0 ++ dktX0_programme_1
theorem dksX0_programme_0 : cX0_programme.data.toList.drop 0 = dktX0_programme_0 := by decide +kernel
theorem dksX0_programme_1 : cX0_programme.data.toList.drop 24 = dktX0_programme_1 := dk_seg dksX0_programme_0 24 rfl rfl
theorem dksX0_programme_2 : cX0_programme.data.toList.drop 47 = dktX0_programme_2 := dk_seg dksX0_programme_1 23 rfl rfl
theorem dksX0_programme_3 : cX0_programme.data.toList.drop 71 = dktX0_programme_3 := dk_seg dksX0_programme_2 24 rfl rfl
theorem dX0_programme_0 : decode cX0_programme 0 = .ok (.aload_n 0, 1) := dk_42 (dk_at dksX0_programme_0 0 rfl rfl)
theorem dX0_programme_1 : decode cX0_programme 1 = .ok (.getfield 31, 3) := dk_180 0 31 (dk_at dksX0_programme_0 1 rfl rfl)
theorem dX0_programme_4 : decode cX0_programme 4 = .ok (.iload_n 1, 1) := dk_27 (dk_at dksX0_programme_0 4 rfl rfl)
theorem dX0_programme_5 : decode cX0_programme 5 = .ok (.invokevirtual 230, 3) := dk_182 0 230 (dk_at dksX0_programme_0 5 rfl rfl)
theorem dX0_programme_8 : decode cX0_programme 8 = .ok (.ifCond .eq 32, 3) := dk_153 0 32 (dk_at dksX0_programme_0 8 rfl rfl)
theorem dX0_programme_11 : decode cX0_programme 11 = .ok (.iload_n 2, 1) := dk_28 (dk_at dksX0_programme_0 11 rfl rfl)
theorem dX0_programme_12 : decode cX0_programme 12 = .ok (.i2l, 1) := dk_133 (dk_at dksX0_programme_0 12 rfl rfl)
theorem dX0_programme_13 : decode cX0_programme 13 = .ok (.lconst 0, 1) := dk_9 (dk_at dksX0_programme_0 13 rfl rfl)
theorem dX0_programme_14 : decode cX0_programme 14 = .ok (.ldc2_w 84, 3) := dk_20 0 84 (dk_at dksX0_programme_0 14 rfl rfl)
theorem dX0_programme_17 : decode cX0_programme 17 = .ok (.invokestatic 70, 3) := dk_184 0 70 (dk_at dksX0_programme_0 17 rfl rfl)
theorem dX0_programme_20 : decode cX0_programme 20 = .ok (.ifCond .eq 20, 3) := dk_153 0 20 (dk_at dksX0_programme_0 20 rfl rfl)
theorem dX0_programme_23 : decode cX0_programme 23 = .ok (.iload_n 3, 1) := dk_29 (dk_at dksX0_programme_0 23 rfl rfl)
theorem dX0_programme_24 : decode cX0_programme 24 = .ok (.i2l, 1) := dk_133 (dk_at dksX0_programme_1 0 rfl rfl)
theorem dX0_programme_25 : decode cX0_programme 25 = .ok (.lconst 0, 1) := dk_9 (dk_at dksX0_programme_1 1 rfl rfl)
theorem dX0_programme_26 : decode cX0_programme 26 = .ok (.ldc2_w 84, 3) := dk_20 0 84 (dk_at dksX0_programme_1 2 rfl rfl)
theorem dX0_programme_29 : decode cX0_programme 29 = .ok (.invokestatic 70, 3) := dk_184 0 70 (dk_at dksX0_programme_1 5 rfl rfl)
theorem dX0_programme_32 : decode cX0_programme 32 = .ok (.ifCond .eq 8, 3) := dk_153 0 8 (dk_at dksX0_programme_1 8 rfl rfl)
theorem dX0_programme_35 : decode cX0_programme 35 = .ok (.iload_n 2, 1) := dk_28 (dk_at dksX0_programme_1 11 rfl rfl)
theorem dX0_programme_36 : decode cX0_programme 36 = .ok (.iload_n 3, 1) := dk_29 (dk_at dksX0_programme_1 12 rfl rfl)
theorem dX0_programme_37 : decode cX0_programme 37 = .ok (.if_icmp .ne 6, 3) := dk_160 0 6 (dk_at dksX0_programme_1 13 rfl rfl)
theorem dX0_programme_40 : decode cX0_programme 40 = .ok (.ldc 98, 2) := dk_18 98 (dk_at dksX0_programme_1 16 rfl rfl)
theorem dX0_programme_42 : decode cX0_programme 42 = .ok (.ireturn, 1) := dk_172 (dk_at dksX0_programme_1 18 rfl rfl)
theorem dX0_programme_43 : decode cX0_programme 43 = .ok (.aload_n 0, 1) := dk_42 (dk_at dksX0_programme_1 19 rfl rfl)
theorem dX0_programme_44 : decode cX0_programme 44 = .ok (.getfield 31, 3) := dk_180 0 31 (dk_at dksX0_programme_1 20 rfl rfl)
theorem dX0_programme_47 : decode cX0_programme 47 = .ok (.getfield 239, 3) := dk_180 0 239 (dk_at dksX0_programme_2 0 rfl rfl)
theorem dX0_programme_50 : decode cX0_programme 50 = .ok (.invokevirtual 115, 3) := dk_182 0 115 (dk_at dksX0_programme_2 3 rfl rfl)
theorem dX0_programme_53 : decode cX0_programme 53 = .ok (.bipush 8, 2) := dk_16 8 (dk_at dksX0_programme_2 6 rfl rfl)
theorem dX0_programme_55 : decode cX0_programme 55 = .ok (.if_icmp .ne 6, 3) := dk_160 0 6 (dk_at dksX0_programme_2 8 rfl rfl)
theorem dX0_programme_58 : decode cX0_programme 58 = .ok (.ldc 118, 2) := dk_18 118 (dk_at dksX0_programme_2 11 rfl rfl)
theorem dX0_programme_60 : decode cX0_programme 60 = .ok (.ireturn, 1) := dk_172 (dk_at dksX0_programme_2 13 rfl rfl)
theorem dX0_programme_61 : decode cX0_programme 61 = .ok (.aload_n 0, 1) := dk_42 (dk_at dksX0_programme_2 14 rfl rfl)
theorem dX0_programme_62 : decode cX0_programme 62 = .ok (.invokevirtual 103, 3) := dk_182 0 103 (dk_at dksX0_programme_2 15 rfl rfl)
theorem dX0_programme_65 : decode cX0_programme 65 = .ok (.getfield 239, 3) := dk_180 0 239 (dk_at dksX0_programme_2 18 rfl rfl)
theorem dX0_programme_68 : decode cX0_programme 68 = .ok (.new 242, 3) := dk_187 0 242 (dk_at dksX0_programme_2 21 rfl rfl)
theorem dX0_programme_71 : decode cX0_programme 71 = .ok (.dup, 1) := dk_89 (dk_at dksX0_programme_3 0 rfl rfl)
theorem dX0_programme_72 : decode cX0_programme 72 = .ok (.iload_n 1, 1) := dk_27 (dk_at dksX0_programme_3 1 rfl rfl)
theorem dX0_programme_73 : decode cX0_programme 73 = .ok (.iload_n 2, 1) := dk_28 (dk_at dksX0_programme_3 2 rfl rfl)
theorem dX0_programme_74 : decode cX0_programme 74 = .ok (.iload_n 3, 1) := dk_29 (dk_at dksX0_programme_3 3 rfl rfl)
theorem dX0_programme_75 : decode cX0_programme 75 = .ok (.invokespecial 244, 3) := dk_183 0 244 (dk_at dksX0_programme_3 4 rfl rfl)
theorem dX0_programme_78 : decode cX0_programme 78 = .ok (.invokevirtual 245, 3) := dk_182 0 245 (dk_at dksX0_programme_3 7 rfl rfl)
theorem dX0_programme_81 : decode cX0_programme 81 = .ok (.pop, 1) := dk_87 (dk_at dksX0_programme_3 10 rfl rfl)
theorem dX0_programme_82 : decode cX0_programme 82 = .ok (.aload_n 0, 1) := dk_42 (dk_at dksX0_programme_3 11 rfl rfl)
theorem dX0_programme_83 : decode cX0_programme 83 = .ok (.getfield 31, 3) := dk_180 0 31 (dk_at dksX0_programme_3 12 rfl rfl)
theorem dX0_programme_86 : decode cX0_programme 86 = .ok (.getfield 239, 3) := dk_180 0 239 (dk_at dksX0_programme_3 15 rfl rfl)
theorem dX0_programme_89 : decode cX0_programme 89 = .ok (.invokevirtual 115, 3) := dk_182 0 115 (dk_at dksX0_programme_3 18 rfl rfl)
theorem dX0_programme_92 : decode cX0_programme 92 = .ok (.ireturn, 1) := dk_172 (dk_at dksX0_programme_3 21 rfl rfl)
abbrev cX0_zoneOf : ByteArray := prog_1_method_20_code
def yX0_zoneOf : MethodName := ⟨RX0, "zoneOf", "(II)I"⟩
def dkwX0_zoneOf_5 : List UInt8 := [182, 1, 7, 172]
abbrev dktX0_zoneOf_5 : List UInt8 := dkwX0_zoneOf_5 ++ []
def dkwX0_zoneOf_4 : List UInt8 := [167, 0, 4, 3, 172, 42, 180, 0, 31, 27, 42, 180, 0, 31, 180, 1, 1, 182, 1, 4, 172, 42, 27]
abbrev dktX0_zoneOf_4 : List UInt8 := dkwX0_zoneOf_4 ++ dktX0_zoneOf_5
def dkwX0_zoneOf_3 : List UInt8 := [42, 180, 0, 31, 180, 0, 227, 27, 46, 172, 42, 180, 0, 31, 180, 0, 253, 27, 51, 153, 0, 7, 4]
abbrev dktX0_zoneOf_3 : List UInt8 := dkwX0_zoneOf_3 ++ dktX0_zoneOf_4
def dkwX0_zoneOf_2 : List UInt8 := [170, 0, 0, 0, 69, 0, 0, 0, 0, 0, 0, 0, 2, 0, 0, 0, 25, 0, 0, 0, 35, 0, 0, 0, 53]
abbrev dktX0_zoneOf_2 : List UInt8 := dkwX0_zoneOf_2 ++ dktX0_zoneOf_3
def dkwX0_zoneOf_1 : List UInt8 := [18, 98, 172, 28]
abbrev dktX0_zoneOf_1 : List UInt8 := dkwX0_zoneOf_1 ++ dktX0_zoneOf_2
def dkwX0_zoneOf_0 : List UInt8 := [42, 180, 0, 31, 27, 182, 0, 230, 153, 0, 15, 28, 133, 9, 20, 0, 251, 184, 0, 70, 154, 0, 6]
abbrev dktX0_zoneOf_0 : List UInt8 := dkwX0_zoneOf_0 ++ dktX0_zoneOf_1
theorem dksX0_zoneOf_0 : cX0_zoneOf.data.toList.drop 0 = dktX0_zoneOf_0 := by decide +kernel
theorem dksX0_zoneOf_1 : cX0_zoneOf.data.toList.drop 23 = dktX0_zoneOf_1 := dk_seg dksX0_zoneOf_0 23 rfl rfl
theorem dksX0_zoneOf_2 : cX0_zoneOf.data.toList.drop 27 = dktX0_zoneOf_2 := dk_seg dksX0_zoneOf_1 4 rfl rfl
theorem dksX0_zoneOf_3 : cX0_zoneOf.data.toList.drop 52 = dktX0_zoneOf_3 := dk_seg dksX0_zoneOf_2 25 rfl rfl
theorem dksX0_zoneOf_4 : cX0_zoneOf.data.toList.drop 75 = dktX0_zoneOf_4 := dk_seg dksX0_zoneOf_3 23 rfl rfl
theorem dksX0_zoneOf_5 : cX0_zoneOf.data.toList.drop 98 = dktX0_zoneOf_5 := dk_seg dksX0_zoneOf_4 23 rfl rfl
theorem dX0_zoneOf_0 : decode cX0_zoneOf 0 = .ok (.aload_n 0, 1) := dk_42 (dk_at dksX0_zoneOf_0 0 rfl rfl)
theorem dX0_zoneOf_1 : decode cX0_zoneOf 1 = .ok (.getfield 31, 3) := dk_180 0 31 (dk_at dksX0_zoneOf_0 1 rfl rfl)
theorem dX0_zoneOf_4 : decode cX0_zoneOf 4 = .ok (.iload_n 1, 1) := dk_27 (dk_at dksX0_zoneOf_0 4 rfl rfl)
theorem dX0_zoneOf_5 : decode cX0_zoneOf 5 = .ok (.invokevirtual 230, 3) := dk_182 0 230 (dk_at dksX0_zoneOf_0 5 rfl rfl)
theorem dX0_zoneOf_8 : decode cX0_zoneOf 8 = .ok (.ifCond .eq 15, 3) := dk_153 0 15 (dk_at dksX0_zoneOf_0 8 rfl rfl)
theorem dX0_zoneOf_11 : decode cX0_zoneOf 11 = .ok (.iload_n 2, 1) := dk_28 (dk_at dksX0_zoneOf_0 11 rfl rfl)
theorem dX0_zoneOf_12 : decode cX0_zoneOf 12 = .ok (.i2l, 1) := dk_133 (dk_at dksX0_zoneOf_0 12 rfl rfl)
theorem dX0_zoneOf_13 : decode cX0_zoneOf 13 = .ok (.lconst 0, 1) := dk_9 (dk_at dksX0_zoneOf_0 13 rfl rfl)
theorem dX0_zoneOf_14 : decode cX0_zoneOf 14 = .ok (.ldc2_w 251, 3) := dk_20 0 251 (dk_at dksX0_zoneOf_0 14 rfl rfl)
theorem dX0_zoneOf_17 : decode cX0_zoneOf 17 = .ok (.invokestatic 70, 3) := dk_184 0 70 (dk_at dksX0_zoneOf_0 17 rfl rfl)
theorem dX0_zoneOf_20 : decode cX0_zoneOf 20 = .ok (.ifCond .ne 6, 3) := dk_154 0 6 (dk_at dksX0_zoneOf_0 20 rfl rfl)
theorem dX0_zoneOf_23 : decode cX0_zoneOf 23 = .ok (.ldc 98, 2) := dk_18 98 (dk_at dksX0_zoneOf_1 0 rfl rfl)
theorem dX0_zoneOf_25 : decode cX0_zoneOf 25 = .ok (.ireturn, 1) := dk_172 (dk_at dksX0_zoneOf_1 2 rfl rfl)
theorem dX0_zoneOf_26 : decode cX0_zoneOf 26 = .ok (.iload_n 2, 1) := dk_28 (dk_at dksX0_zoneOf_1 3 rfl rfl)
theorem dX0_zoneOf_27 : decode cX0_zoneOf 27 = .ok (.tableswitch 69 0 2 #[25, 35, 53], 25) := by decide +kernel
theorem dX0_zoneOf_52 : decode cX0_zoneOf 52 = .ok (.aload_n 0, 1) := dk_42 (dk_at dksX0_zoneOf_3 0 rfl rfl)
theorem dX0_zoneOf_53 : decode cX0_zoneOf 53 = .ok (.getfield 31, 3) := dk_180 0 31 (dk_at dksX0_zoneOf_3 1 rfl rfl)
theorem dX0_zoneOf_56 : decode cX0_zoneOf 56 = .ok (.getfield 227, 3) := dk_180 0 227 (dk_at dksX0_zoneOf_3 4 rfl rfl)
theorem dX0_zoneOf_59 : decode cX0_zoneOf 59 = .ok (.iload_n 1, 1) := dk_27 (dk_at dksX0_zoneOf_3 7 rfl rfl)
theorem dX0_zoneOf_60 : decode cX0_zoneOf 60 = .ok (.iaload, 1) := dk_46 (dk_at dksX0_zoneOf_3 8 rfl rfl)
theorem dX0_zoneOf_61 : decode cX0_zoneOf 61 = .ok (.ireturn, 1) := dk_172 (dk_at dksX0_zoneOf_3 9 rfl rfl)
theorem dX0_zoneOf_62 : decode cX0_zoneOf 62 = .ok (.aload_n 0, 1) := dk_42 (dk_at dksX0_zoneOf_3 10 rfl rfl)
theorem dX0_zoneOf_63 : decode cX0_zoneOf 63 = .ok (.getfield 31, 3) := dk_180 0 31 (dk_at dksX0_zoneOf_3 11 rfl rfl)
theorem dX0_zoneOf_66 : decode cX0_zoneOf 66 = .ok (.getfield 253, 3) := dk_180 0 253 (dk_at dksX0_zoneOf_3 14 rfl rfl)
theorem dX0_zoneOf_69 : decode cX0_zoneOf 69 = .ok (.iload_n 1, 1) := dk_27 (dk_at dksX0_zoneOf_3 17 rfl rfl)
theorem dX0_zoneOf_70 : decode cX0_zoneOf 70 = .ok (.baload, 1) := dk_51 (dk_at dksX0_zoneOf_3 18 rfl rfl)
theorem dX0_zoneOf_71 : decode cX0_zoneOf 71 = .ok (.ifCond .eq 7, 3) := dk_153 0 7 (dk_at dksX0_zoneOf_3 19 rfl rfl)
theorem dX0_zoneOf_74 : decode cX0_zoneOf 74 = .ok (.iconst 1, 1) := dk_4 (dk_at dksX0_zoneOf_3 22 rfl rfl)
theorem dX0_zoneOf_75 : decode cX0_zoneOf 75 = .ok (.goto 4, 3) := dk_167 0 4 (dk_at dksX0_zoneOf_4 0 rfl rfl)
theorem dX0_zoneOf_78 : decode cX0_zoneOf 78 = .ok (.iconst 0, 1) := dk_3 (dk_at dksX0_zoneOf_4 3 rfl rfl)
theorem dX0_zoneOf_79 : decode cX0_zoneOf 79 = .ok (.ireturn, 1) := dk_172 (dk_at dksX0_zoneOf_4 4 rfl rfl)
theorem dX0_zoneOf_80 : decode cX0_zoneOf 80 = .ok (.aload_n 0, 1) := dk_42 (dk_at dksX0_zoneOf_4 5 rfl rfl)
theorem dX0_zoneOf_81 : decode cX0_zoneOf 81 = .ok (.getfield 31, 3) := dk_180 0 31 (dk_at dksX0_zoneOf_4 6 rfl rfl)
theorem dX0_zoneOf_84 : decode cX0_zoneOf 84 = .ok (.iload_n 1, 1) := dk_27 (dk_at dksX0_zoneOf_4 9 rfl rfl)
theorem dX0_zoneOf_85 : decode cX0_zoneOf 85 = .ok (.aload_n 0, 1) := dk_42 (dk_at dksX0_zoneOf_4 10 rfl rfl)
theorem dX0_zoneOf_86 : decode cX0_zoneOf 86 = .ok (.getfield 31, 3) := dk_180 0 31 (dk_at dksX0_zoneOf_4 11 rfl rfl)
theorem dX0_zoneOf_89 : decode cX0_zoneOf 89 = .ok (.getfield 257, 3) := dk_180 1 1 (dk_at dksX0_zoneOf_4 14 rfl rfl)
theorem dX0_zoneOf_92 : decode cX0_zoneOf 92 = .ok (.invokevirtual 260, 3) := dk_182 1 4 (dk_at dksX0_zoneOf_4 17 rfl rfl)
theorem dX0_zoneOf_95 : decode cX0_zoneOf 95 = .ok (.ireturn, 1) := dk_172 (dk_at dksX0_zoneOf_4 20 rfl rfl)
theorem dX0_zoneOf_96 : decode cX0_zoneOf 96 = .ok (.aload_n 0, 1) := dk_42 (dk_at dksX0_zoneOf_4 21 rfl rfl)
theorem dX0_zoneOf_97 : decode cX0_zoneOf 97 = .ok (.iload_n 1, 1) := dk_27 (dk_at dksX0_zoneOf_4 22 rfl rfl)
theorem dX0_zoneOf_98 : decode cX0_zoneOf 98 = .ok (.invokevirtual 263, 3) := dk_182 1 7 (dk_at dksX0_zoneOf_5 0 rfl rfl)
theorem dX0_zoneOf_101 : decode cX0_zoneOf 101 = .ok (.ireturn, 1) := dk_172 (dk_at dksX0_zoneOf_5 3 rfl rfl)
abbrev cX0_programmesOf : ByteArray := prog_1_method_19_code
def yX0_programmesOf : MethodName := ⟨RX0, "programmesOf", "(I)I"⟩
def dkwX0_programmesOf_2 : List UInt8 := [3, 96, 61, 167, 255, 219, 28, 172]
abbrev dktX0_programmesOf_2 : List UInt8 := dkwX0_programmesOf_2 ++ []
def dkwX0_programmesOf_1 : List UInt8 := [185, 0, 213, 1, 0, 192, 0, 242, 58, 4, 28, 25, 4, 180, 0, 248, 27, 160, 0, 7, 4, 167, 0, 4]
abbrev dktX0_programmesOf_1 : List UInt8 := dkwX0_programmesOf_1 ++ dktX0_programmesOf_2
def dkwX0_programmesOf_0 : List UInt8 := [3, 61, 42, 180, 0, 31, 180, 0, 239, 182, 0, 204, 78, 45, 185, 0, 208, 1, 0, 153, 0, 34, 45]
abbrev dktX0_programmesOf_0 : List UInt8 := dkwX0_programmesOf_0 ++ dktX0_programmesOf_1
theorem dksX0_programmesOf_0 : cX0_programmesOf.data.toList.drop 0 = dktX0_programmesOf_0 := by decide +kernel
theorem dksX0_programmesOf_1 : cX0_programmesOf.data.toList.drop 23 = dktX0_programmesOf_1 := dk_seg dksX0_programmesOf_0 23 rfl rfl
theorem dksX0_programmesOf_2 : cX0_programmesOf.data.toList.drop 47 = dktX0_programmesOf_2 := dk_seg dksX0_programmesOf_1 24 rfl rfl
theorem dX0_programmesOf_0 : decode cX0_programmesOf 0 = .ok (.iconst 0, 1) := dk_3 (dk_at dksX0_programmesOf_0 0 rfl rfl)
theorem dX0_programmesOf_1 : decode cX0_programmesOf 1 = .ok (.istore_n 2, 1) := dk_61 (dk_at dksX0_programmesOf_0 1 rfl rfl)
theorem dX0_programmesOf_2 : decode cX0_programmesOf 2 = .ok (.aload_n 0, 1) := dk_42 (dk_at dksX0_programmesOf_0 2 rfl rfl)
theorem dX0_programmesOf_3 : decode cX0_programmesOf 3 = .ok (.getfield 31, 3) := dk_180 0 31 (dk_at dksX0_programmesOf_0 3 rfl rfl)
theorem dX0_programmesOf_6 : decode cX0_programmesOf 6 = .ok (.getfield 239, 3) := dk_180 0 239 (dk_at dksX0_programmesOf_0 6 rfl rfl)
theorem dX0_programmesOf_9 : decode cX0_programmesOf 9 = .ok (.invokevirtual 204, 3) := dk_182 0 204 (dk_at dksX0_programmesOf_0 9 rfl rfl)
theorem dX0_programmesOf_12 : decode cX0_programmesOf 12 = .ok (.astore_n 3, 1) := dk_78 (dk_at dksX0_programmesOf_0 12 rfl rfl)
theorem dX0_programmesOf_13 : decode cX0_programmesOf 13 = .ok (.aload_n 3, 1) := dk_45 (dk_at dksX0_programmesOf_0 13 rfl rfl)
theorem dX0_programmesOf_14 : decode cX0_programmesOf 14 = .ok (.invokeinterface 208 1, 5) := by decide +kernel
theorem dX0_programmesOf_19 : decode cX0_programmesOf 19 = .ok (.ifCond .eq 34, 3) := dk_153 0 34 (dk_at dksX0_programmesOf_0 19 rfl rfl)
theorem dX0_programmesOf_22 : decode cX0_programmesOf 22 = .ok (.aload_n 3, 1) := dk_45 (dk_at dksX0_programmesOf_0 22 rfl rfl)
theorem dX0_programmesOf_23 : decode cX0_programmesOf 23 = .ok (.invokeinterface 213 1, 5) := by decide +kernel
theorem dX0_programmesOf_28 : decode cX0_programmesOf 28 = .ok (.checkcast 242, 3) := dk_192 0 242 (dk_at dksX0_programmesOf_1 5 rfl rfl)
theorem dX0_programmesOf_31 : decode cX0_programmesOf 31 = .ok (.astore 4, 2) := dk_58 4 (dk_at dksX0_programmesOf_1 8 rfl rfl)
theorem dX0_programmesOf_33 : decode cX0_programmesOf 33 = .ok (.iload_n 2, 1) := dk_28 (dk_at dksX0_programmesOf_1 10 rfl rfl)
theorem dX0_programmesOf_34 : decode cX0_programmesOf 34 = .ok (.aload 4, 2) := dk_25 4 (dk_at dksX0_programmesOf_1 11 rfl rfl)
theorem dX0_programmesOf_36 : decode cX0_programmesOf 36 = .ok (.getfield 248, 3) := dk_180 0 248 (dk_at dksX0_programmesOf_1 13 rfl rfl)
theorem dX0_programmesOf_39 : decode cX0_programmesOf 39 = .ok (.iload_n 1, 1) := dk_27 (dk_at dksX0_programmesOf_1 16 rfl rfl)
theorem dX0_programmesOf_40 : decode cX0_programmesOf 40 = .ok (.if_icmp .ne 7, 3) := dk_160 0 7 (dk_at dksX0_programmesOf_1 17 rfl rfl)
theorem dX0_programmesOf_43 : decode cX0_programmesOf 43 = .ok (.iconst 1, 1) := dk_4 (dk_at dksX0_programmesOf_1 20 rfl rfl)
theorem dX0_programmesOf_44 : decode cX0_programmesOf 44 = .ok (.goto 4, 3) := dk_167 0 4 (dk_at dksX0_programmesOf_1 21 rfl rfl)
theorem dX0_programmesOf_47 : decode cX0_programmesOf 47 = .ok (.iconst 0, 1) := dk_3 (dk_at dksX0_programmesOf_2 0 rfl rfl)
theorem dX0_programmesOf_48 : decode cX0_programmesOf 48 = .ok (.iadd, 1) := dk_96 (dk_at dksX0_programmesOf_2 1 rfl rfl)
theorem dX0_programmesOf_49 : decode cX0_programmesOf 49 = .ok (.istore_n 2, 1) := dk_61 (dk_at dksX0_programmesOf_2 2 rfl rfl)
theorem dX0_programmesOf_50 : decode cX0_programmesOf 50 = .ok (.goto (-37), 3) := dk_167 255 219 (dk_at dksX0_programmesOf_2 3 rfl rfl)
theorem dX0_programmesOf_53 : decode cX0_programmesOf 53 = .ok (.iload_n 2, 1) := dk_28 (dk_at dksX0_programmesOf_2 6 rfl rfl)
theorem dX0_programmesOf_54 : decode cX0_programmesOf 54 = .ok (.ireturn, 1) := dk_172 (dk_at dksX0_programmesOf_2 7 rfl rfl)
abbrev cX0_fill : ByteArray := prog_1_method_21_code
def yX0_fill : MethodName := ⟨RX0, "fill", "(I)I"⟩
def dkwX0_fill_1 : List UInt8 := [182, 0, 103, 27, 181, 1, 13, 28, 172]
abbrev dktX0_fill_1 : List UInt8 := dkwX0_fill_1 ++ []
def dkwX0_fill_0 : List UInt8 := [27, 133, 9, 20, 1, 11, 184, 0, 70, 154, 0, 6, 18, 98, 172, 42, 180, 0, 31, 180, 1, 13, 61, 42]
abbrev dktX0_fill_0 : List UInt8 := dkwX0_fill_0 ++ dktX0_fill_1
theorem dksX0_fill_0 : cX0_fill.data.toList.drop 0 = dktX0_fill_0 := by decide +kernel
theorem dksX0_fill_1 : cX0_fill.data.toList.drop 24 = dktX0_fill_1 := dk_seg dksX0_fill_0 24 rfl rfl
theorem dX0_fill_0 : decode cX0_fill 0 = .ok (.iload_n 1, 1) := dk_27 (dk_at dksX0_fill_0 0 rfl rfl)
theorem dX0_fill_1 : decode cX0_fill 1 = .ok (.i2l, 1) := dk_133 (dk_at dksX0_fill_0 1 rfl rfl)
theorem dX0_fill_2 : decode cX0_fill 2 = .ok (.lconst 0, 1) := dk_9 (dk_at dksX0_fill_0 2 rfl rfl)
theorem dX0_fill_3 : decode cX0_fill 3 = .ok (.ldc2_w 267, 3) := dk_20 1 11 (dk_at dksX0_fill_0 3 rfl rfl)
theorem dX0_fill_6 : decode cX0_fill 6 = .ok (.invokestatic 70, 3) := dk_184 0 70 (dk_at dksX0_fill_0 6 rfl rfl)
theorem dX0_fill_9 : decode cX0_fill 9 = .ok (.ifCond .ne 6, 3) := dk_154 0 6 (dk_at dksX0_fill_0 9 rfl rfl)
theorem dX0_fill_12 : decode cX0_fill 12 = .ok (.ldc 98, 2) := dk_18 98 (dk_at dksX0_fill_0 12 rfl rfl)
theorem dX0_fill_14 : decode cX0_fill 14 = .ok (.ireturn, 1) := dk_172 (dk_at dksX0_fill_0 14 rfl rfl)
theorem dX0_fill_15 : decode cX0_fill 15 = .ok (.aload_n 0, 1) := dk_42 (dk_at dksX0_fill_0 15 rfl rfl)
theorem dX0_fill_16 : decode cX0_fill 16 = .ok (.getfield 31, 3) := dk_180 0 31 (dk_at dksX0_fill_0 16 rfl rfl)
theorem dX0_fill_19 : decode cX0_fill 19 = .ok (.getfield 269, 3) := dk_180 1 13 (dk_at dksX0_fill_0 19 rfl rfl)
theorem dX0_fill_22 : decode cX0_fill 22 = .ok (.istore_n 2, 1) := dk_61 (dk_at dksX0_fill_0 22 rfl rfl)
theorem dX0_fill_23 : decode cX0_fill 23 = .ok (.aload_n 0, 1) := dk_42 (dk_at dksX0_fill_0 23 rfl rfl)
theorem dX0_fill_24 : decode cX0_fill 24 = .ok (.invokevirtual 103, 3) := dk_182 0 103 (dk_at dksX0_fill_1 0 rfl rfl)
theorem dX0_fill_27 : decode cX0_fill 27 = .ok (.iload_n 1, 1) := dk_27 (dk_at dksX0_fill_1 3 rfl rfl)
theorem dX0_fill_28 : decode cX0_fill 28 = .ok (.putfield 269, 3) := dk_181 1 13 (dk_at dksX0_fill_1 4 rfl rfl)
theorem dX0_fill_31 : decode cX0_fill 31 = .ok (.iload_n 2, 1) := dk_28 (dk_at dksX0_fill_1 7 rfl rfl)
theorem dX0_fill_32 : decode cX0_fill 32 = .ok (.ireturn, 1) := dk_172 (dk_at dksX0_fill_1 8 rfl rfl)
abbrev cX0_reset : ByteArray := prog_1_method_22_code
def yX0_reset : MethodName := ⟨RX0, "reset", "()I"⟩
def dkwX0_reset_1 : List UInt8 := [18, 141, 172]
abbrev dktX0_reset_1 : List UInt8 := dkwX0_reset_1 ++ []
def dkwX0_reset_0 : List UInt8 := [42, 180, 0, 31, 7, 3, 182, 0, 233, 153, 0, 15, 42, 182, 0, 103, 7, 3, 182, 0, 142, 167, 0, 5]
abbrev dktX0_reset_0 : List UInt8 := dkwX0_reset_0 ++ dktX0_reset_1
theorem dksX0_reset_0 : cX0_reset.data.toList.drop 0 = dktX0_reset_0 := by decide +kernel
theorem dksX0_reset_1 : cX0_reset.data.toList.drop 24 = dktX0_reset_1 := dk_seg dksX0_reset_0 24 rfl rfl
theorem dX0_reset_0 : decode cX0_reset 0 = .ok (.aload_n 0, 1) := dk_42 (dk_at dksX0_reset_0 0 rfl rfl)
theorem dX0_reset_1 : decode cX0_reset 1 = .ok (.getfield 31, 3) := dk_180 0 31 (dk_at dksX0_reset_0 1 rfl rfl)
theorem dX0_reset_4 : decode cX0_reset 4 = .ok (.iconst 4, 1) := dk_7 (dk_at dksX0_reset_0 4 rfl rfl)
theorem dX0_reset_5 : decode cX0_reset 5 = .ok (.iconst 0, 1) := dk_3 (dk_at dksX0_reset_0 5 rfl rfl)
theorem dX0_reset_6 : decode cX0_reset 6 = .ok (.invokevirtual 233, 3) := dk_182 0 233 (dk_at dksX0_reset_0 6 rfl rfl)
theorem dX0_reset_9 : decode cX0_reset 9 = .ok (.ifCond .eq 15, 3) := dk_153 0 15 (dk_at dksX0_reset_0 9 rfl rfl)
theorem dX0_reset_12 : decode cX0_reset 12 = .ok (.aload_n 0, 1) := dk_42 (dk_at dksX0_reset_0 12 rfl rfl)
theorem dX0_reset_13 : decode cX0_reset 13 = .ok (.invokevirtual 103, 3) := dk_182 0 103 (dk_at dksX0_reset_0 13 rfl rfl)
theorem dX0_reset_16 : decode cX0_reset 16 = .ok (.iconst 4, 1) := dk_7 (dk_at dksX0_reset_0 16 rfl rfl)
theorem dX0_reset_17 : decode cX0_reset 17 = .ok (.iconst 0, 1) := dk_3 (dk_at dksX0_reset_0 17 rfl rfl)
theorem dX0_reset_18 : decode cX0_reset 18 = .ok (.invokevirtual 142, 3) := dk_182 0 142 (dk_at dksX0_reset_0 18 rfl rfl)
theorem dX0_reset_21 : decode cX0_reset 21 = .ok (.goto 5, 3) := dk_167 0 5 (dk_at dksX0_reset_0 21 rfl rfl)
theorem dX0_reset_24 : decode cX0_reset 24 = .ok (.ldc 141, 2) := dk_18 141 (dk_at dksX0_reset_1 0 rfl rfl)
theorem dX0_reset_26 : decode cX0_reset 26 = .ok (.ireturn, 1) := dk_172 (dk_at dksX0_reset_1 2 rfl rfl)
abbrev cX0_pass : ByteArray := prog_1_method_23_code
def yX0_pass : MethodName := ⟨RX0, "pass", "(I)I"⟩
def dkwX0_pass_1 : List UInt8 := [153, 0, 15, 42, 182, 0, 103, 6, 27, 182, 0, 142, 167, 0, 5, 18, 118, 172]
abbrev dktX0_pass_1 : List UInt8 := dkwX0_pass_1 ++ []
def dkwX0_pass_0 : List UInt8 := [27, 133, 10, 20, 1, 16, 184, 0, 70, 154, 0, 6, 18, 98, 172, 42, 180, 0, 31, 6, 27, 182, 0, 233]
abbrev dktX0_pass_0 : List UInt8 := dkwX0_pass_0 ++ dktX0_pass_1
theorem dksX0_pass_0 : cX0_pass.data.toList.drop 0 = dktX0_pass_0 := by decide +kernel
theorem dksX0_pass_1 : cX0_pass.data.toList.drop 24 = dktX0_pass_1 := dk_seg dksX0_pass_0 24 rfl rfl
theorem dX0_pass_0 : decode cX0_pass 0 = .ok (.iload_n 1, 1) := dk_27 (dk_at dksX0_pass_0 0 rfl rfl)
theorem dX0_pass_1 : decode cX0_pass 1 = .ok (.i2l, 1) := dk_133 (dk_at dksX0_pass_0 1 rfl rfl)
theorem dX0_pass_2 : decode cX0_pass 2 = .ok (.lconst 1, 1) := dk_10 (dk_at dksX0_pass_0 2 rfl rfl)
theorem dX0_pass_3 : decode cX0_pass 3 = .ok (.ldc2_w 272, 3) := dk_20 1 16 (dk_at dksX0_pass_0 3 rfl rfl)
theorem dX0_pass_6 : decode cX0_pass 6 = .ok (.invokestatic 70, 3) := dk_184 0 70 (dk_at dksX0_pass_0 6 rfl rfl)
theorem dX0_pass_9 : decode cX0_pass 9 = .ok (.ifCond .ne 6, 3) := dk_154 0 6 (dk_at dksX0_pass_0 9 rfl rfl)
theorem dX0_pass_12 : decode cX0_pass 12 = .ok (.ldc 98, 2) := dk_18 98 (dk_at dksX0_pass_0 12 rfl rfl)
theorem dX0_pass_14 : decode cX0_pass 14 = .ok (.ireturn, 1) := dk_172 (dk_at dksX0_pass_0 14 rfl rfl)
theorem dX0_pass_15 : decode cX0_pass 15 = .ok (.aload_n 0, 1) := dk_42 (dk_at dksX0_pass_0 15 rfl rfl)
theorem dX0_pass_16 : decode cX0_pass 16 = .ok (.getfield 31, 3) := dk_180 0 31 (dk_at dksX0_pass_0 16 rfl rfl)
theorem dX0_pass_19 : decode cX0_pass 19 = .ok (.iconst 3, 1) := dk_6 (dk_at dksX0_pass_0 19 rfl rfl)
theorem dX0_pass_20 : decode cX0_pass 20 = .ok (.iload_n 1, 1) := dk_27 (dk_at dksX0_pass_0 20 rfl rfl)
theorem dX0_pass_21 : decode cX0_pass 21 = .ok (.invokevirtual 233, 3) := dk_182 0 233 (dk_at dksX0_pass_0 21 rfl rfl)
theorem dX0_pass_24 : decode cX0_pass 24 = .ok (.ifCond .eq 15, 3) := dk_153 0 15 (dk_at dksX0_pass_1 0 rfl rfl)
theorem dX0_pass_27 : decode cX0_pass 27 = .ok (.aload_n 0, 1) := dk_42 (dk_at dksX0_pass_1 3 rfl rfl)
theorem dX0_pass_28 : decode cX0_pass 28 = .ok (.invokevirtual 103, 3) := dk_182 0 103 (dk_at dksX0_pass_1 4 rfl rfl)
theorem dX0_pass_31 : decode cX0_pass 31 = .ok (.iconst 3, 1) := dk_6 (dk_at dksX0_pass_1 7 rfl rfl)
theorem dX0_pass_32 : decode cX0_pass 32 = .ok (.iload_n 1, 1) := dk_27 (dk_at dksX0_pass_1 8 rfl rfl)
theorem dX0_pass_33 : decode cX0_pass 33 = .ok (.invokevirtual 142, 3) := dk_182 0 142 (dk_at dksX0_pass_1 9 rfl rfl)
theorem dX0_pass_36 : decode cX0_pass 36 = .ok (.goto 5, 3) := dk_167 0 5 (dk_at dksX0_pass_1 12 rfl rfl)
theorem dX0_pass_39 : decode cX0_pass 39 = .ok (.ldc 118, 2) := dk_18 118 (dk_at dksX0_pass_1 15 rfl rfl)
theorem dX0_pass_41 : decode cX0_pass 41 = .ok (.ireturn, 1) := dk_172 (dk_at dksX0_pass_1 17 rfl rfl)
abbrev cX0_foresee : ByteArray := prog_1_method_24_code
def yX0_foresee : MethodName := ⟨RX0, "foresee", "(II)I"⟩
def dkwX0_foresee_5 : List UInt8 := [18, 193, 167, 0, 7, 45, 180, 0, 161, 172, 45, 180, 1, 26, 172]
abbrev dktX0_foresee_5 : List UInt8 := dkwX0_foresee_5 ++ []
def dkwX0_foresee_4 : List UInt8 := [45, 180, 1, 1, 172, 45, 180, 1, 13, 172, 45, 182, 1, 23, 172, 45, 180, 0, 161, 2, 160, 0, 8]
abbrev dktX0_foresee_4 : List UInt8 := dkwX0_foresee_4 ++ dktX0_foresee_5
def dkwX0_foresee_3 : List UInt8 := [170, 0, 0, 0, 62, 0, 0, 0, 0, 0, 0, 0, 3, 0, 0, 0, 29, 0, 0, 0, 34, 0, 0, 0, 39, 0, 0, 0, 44]
abbrev dktX0_foresee_3 : List UInt8 := dkwX0_foresee_3 ++ dktX0_foresee_4
def dkwX0_foresee_2 : List UInt8 := [45, 182, 1, 20, 132, 4, 1, 167, 255, 243, 28]
abbrev dktX0_foresee_2 : List UInt8 := dkwX0_foresee_2 ++ dktX0_foresee_3
def dkwX0_foresee_1 : List UInt8 := [18, 98, 172, 187, 0, 28, 89, 42, 180, 0, 31, 183, 0, 51, 78, 3, 54, 4, 21, 4, 27, 162, 0, 13]
abbrev dktX0_foresee_1 : List UInt8 := dkwX0_foresee_1 ++ dktX0_foresee_2
def dkwX0_foresee_0 : List UInt8 := [27, 133, 10, 20, 0, 90, 184, 0, 70, 153, 0, 15, 28, 133, 9, 20, 1, 18, 184, 0, 70, 154, 0, 6]
abbrev dktX0_foresee_0 : List UInt8 := dkwX0_foresee_0 ++ dktX0_foresee_1
theorem dksX0_foresee_0 : cX0_foresee.data.toList.drop 0 = dktX0_foresee_0 := by decide +kernel
theorem dksX0_foresee_1 : cX0_foresee.data.toList.drop 24 = dktX0_foresee_1 := dk_seg dksX0_foresee_0 24 rfl rfl
theorem dksX0_foresee_2 : cX0_foresee.data.toList.drop 48 = dktX0_foresee_2 := dk_seg dksX0_foresee_1 24 rfl rfl
theorem dksX0_foresee_3 : cX0_foresee.data.toList.drop 59 = dktX0_foresee_3 := dk_seg dksX0_foresee_2 11 rfl rfl
theorem dksX0_foresee_4 : cX0_foresee.data.toList.drop 88 = dktX0_foresee_4 := dk_seg dksX0_foresee_3 29 rfl rfl
theorem dksX0_foresee_5 : cX0_foresee.data.toList.drop 111 = dktX0_foresee_5 := dk_seg dksX0_foresee_4 23 rfl rfl
theorem dX0_foresee_0 : decode cX0_foresee 0 = .ok (.iload_n 1, 1) := dk_27 (dk_at dksX0_foresee_0 0 rfl rfl)
theorem dX0_foresee_1 : decode cX0_foresee 1 = .ok (.i2l, 1) := dk_133 (dk_at dksX0_foresee_0 1 rfl rfl)
theorem dX0_foresee_2 : decode cX0_foresee 2 = .ok (.lconst 1, 1) := dk_10 (dk_at dksX0_foresee_0 2 rfl rfl)
theorem dX0_foresee_3 : decode cX0_foresee 3 = .ok (.ldc2_w 90, 3) := dk_20 0 90 (dk_at dksX0_foresee_0 3 rfl rfl)
theorem dX0_foresee_6 : decode cX0_foresee 6 = .ok (.invokestatic 70, 3) := dk_184 0 70 (dk_at dksX0_foresee_0 6 rfl rfl)
theorem dX0_foresee_9 : decode cX0_foresee 9 = .ok (.ifCond .eq 15, 3) := dk_153 0 15 (dk_at dksX0_foresee_0 9 rfl rfl)
theorem dX0_foresee_12 : decode cX0_foresee 12 = .ok (.iload_n 2, 1) := dk_28 (dk_at dksX0_foresee_0 12 rfl rfl)
theorem dX0_foresee_13 : decode cX0_foresee 13 = .ok (.i2l, 1) := dk_133 (dk_at dksX0_foresee_0 13 rfl rfl)
theorem dX0_foresee_14 : decode cX0_foresee 14 = .ok (.lconst 0, 1) := dk_9 (dk_at dksX0_foresee_0 14 rfl rfl)
theorem dX0_foresee_15 : decode cX0_foresee 15 = .ok (.ldc2_w 274, 3) := dk_20 1 18 (dk_at dksX0_foresee_0 15 rfl rfl)
theorem dX0_foresee_18 : decode cX0_foresee 18 = .ok (.invokestatic 70, 3) := dk_184 0 70 (dk_at dksX0_foresee_0 18 rfl rfl)
theorem dX0_foresee_21 : decode cX0_foresee 21 = .ok (.ifCond .ne 6, 3) := dk_154 0 6 (dk_at dksX0_foresee_0 21 rfl rfl)
theorem dX0_foresee_24 : decode cX0_foresee 24 = .ok (.ldc 98, 2) := dk_18 98 (dk_at dksX0_foresee_1 0 rfl rfl)
theorem dX0_foresee_26 : decode cX0_foresee 26 = .ok (.ireturn, 1) := dk_172 (dk_at dksX0_foresee_1 2 rfl rfl)
theorem dX0_foresee_27 : decode cX0_foresee 27 = .ok (.new 28, 3) := dk_187 0 28 (dk_at dksX0_foresee_1 3 rfl rfl)
theorem dX0_foresee_30 : decode cX0_foresee 30 = .ok (.dup, 1) := dk_89 (dk_at dksX0_foresee_1 6 rfl rfl)
theorem dX0_foresee_31 : decode cX0_foresee 31 = .ok (.aload_n 0, 1) := dk_42 (dk_at dksX0_foresee_1 7 rfl rfl)
theorem dX0_foresee_32 : decode cX0_foresee 32 = .ok (.getfield 31, 3) := dk_180 0 31 (dk_at dksX0_foresee_1 8 rfl rfl)
theorem dX0_foresee_35 : decode cX0_foresee 35 = .ok (.invokespecial 51, 3) := dk_183 0 51 (dk_at dksX0_foresee_1 11 rfl rfl)
theorem dX0_foresee_38 : decode cX0_foresee 38 = .ok (.astore_n 3, 1) := dk_78 (dk_at dksX0_foresee_1 14 rfl rfl)
theorem dX0_foresee_39 : decode cX0_foresee 39 = .ok (.iconst 0, 1) := dk_3 (dk_at dksX0_foresee_1 15 rfl rfl)
theorem dX0_foresee_40 : decode cX0_foresee 40 = .ok (.istore 4, 2) := dk_54 4 (dk_at dksX0_foresee_1 16 rfl rfl)
theorem dX0_foresee_42 : decode cX0_foresee 42 = .ok (.iload 4, 2) := dk_21 4 (dk_at dksX0_foresee_1 18 rfl rfl)
theorem dX0_foresee_44 : decode cX0_foresee 44 = .ok (.iload_n 1, 1) := dk_27 (dk_at dksX0_foresee_1 20 rfl rfl)
theorem dX0_foresee_45 : decode cX0_foresee 45 = .ok (.if_icmp .ge 13, 3) := dk_162 0 13 (dk_at dksX0_foresee_1 21 rfl rfl)
theorem dX0_foresee_48 : decode cX0_foresee 48 = .ok (.aload_n 3, 1) := dk_45 (dk_at dksX0_foresee_2 0 rfl rfl)
theorem dX0_foresee_49 : decode cX0_foresee 49 = .ok (.invokevirtual 276, 3) := dk_182 1 20 (dk_at dksX0_foresee_2 1 rfl rfl)
theorem dX0_foresee_52 : decode cX0_foresee 52 = .ok (.iinc 4 1, 3) := dk_132 4 1 (dk_at dksX0_foresee_2 4 rfl rfl)
theorem dX0_foresee_55 : decode cX0_foresee 55 = .ok (.goto (-13), 3) := dk_167 255 243 (dk_at dksX0_foresee_2 7 rfl rfl)
theorem dX0_foresee_58 : decode cX0_foresee 58 = .ok (.iload_n 2, 1) := dk_28 (dk_at dksX0_foresee_2 10 rfl rfl)
theorem dX0_foresee_59 : decode cX0_foresee 59 = .ok (.tableswitch 62 0 3 #[29, 34, 39, 44], 29) := by decide +kernel
theorem dX0_foresee_88 : decode cX0_foresee 88 = .ok (.aload_n 3, 1) := dk_45 (dk_at dksX0_foresee_4 0 rfl rfl)
theorem dX0_foresee_89 : decode cX0_foresee 89 = .ok (.getfield 257, 3) := dk_180 1 1 (dk_at dksX0_foresee_4 1 rfl rfl)
theorem dX0_foresee_92 : decode cX0_foresee 92 = .ok (.ireturn, 1) := dk_172 (dk_at dksX0_foresee_4 4 rfl rfl)
theorem dX0_foresee_93 : decode cX0_foresee 93 = .ok (.aload_n 3, 1) := dk_45 (dk_at dksX0_foresee_4 5 rfl rfl)
theorem dX0_foresee_94 : decode cX0_foresee 94 = .ok (.getfield 269, 3) := dk_180 1 13 (dk_at dksX0_foresee_4 6 rfl rfl)
theorem dX0_foresee_97 : decode cX0_foresee 97 = .ok (.ireturn, 1) := dk_172 (dk_at dksX0_foresee_4 9 rfl rfl)
theorem dX0_foresee_98 : decode cX0_foresee 98 = .ok (.aload_n 3, 1) := dk_45 (dk_at dksX0_foresee_4 10 rfl rfl)
theorem dX0_foresee_99 : decode cX0_foresee 99 = .ok (.invokevirtual 279, 3) := dk_182 1 23 (dk_at dksX0_foresee_4 11 rfl rfl)
theorem dX0_foresee_102 : decode cX0_foresee 102 = .ok (.ireturn, 1) := dk_172 (dk_at dksX0_foresee_4 14 rfl rfl)
theorem dX0_foresee_103 : decode cX0_foresee 103 = .ok (.aload_n 3, 1) := dk_45 (dk_at dksX0_foresee_4 15 rfl rfl)
theorem dX0_foresee_104 : decode cX0_foresee 104 = .ok (.getfield 161, 3) := dk_180 0 161 (dk_at dksX0_foresee_4 16 rfl rfl)
theorem dX0_foresee_107 : decode cX0_foresee 107 = .ok (.iconst (-1), 1) := dk_2 (dk_at dksX0_foresee_4 19 rfl rfl)
theorem dX0_foresee_108 : decode cX0_foresee 108 = .ok (.if_icmp .ne 8, 3) := dk_160 0 8 (dk_at dksX0_foresee_4 20 rfl rfl)
theorem dX0_foresee_111 : decode cX0_foresee 111 = .ok (.ldc 193, 2) := dk_18 193 (dk_at dksX0_foresee_5 0 rfl rfl)
theorem dX0_foresee_113 : decode cX0_foresee 113 = .ok (.goto 7, 3) := dk_167 0 7 (dk_at dksX0_foresee_5 2 rfl rfl)
theorem dX0_foresee_116 : decode cX0_foresee 116 = .ok (.aload_n 3, 1) := dk_45 (dk_at dksX0_foresee_5 5 rfl rfl)
theorem dX0_foresee_117 : decode cX0_foresee 117 = .ok (.getfield 161, 3) := dk_180 0 161 (dk_at dksX0_foresee_5 6 rfl rfl)
theorem dX0_foresee_120 : decode cX0_foresee 120 = .ok (.ireturn, 1) := dk_172 (dk_at dksX0_foresee_5 9 rfl rfl)
theorem dX0_foresee_121 : decode cX0_foresee 121 = .ok (.aload_n 3, 1) := dk_45 (dk_at dksX0_foresee_5 10 rfl rfl)
theorem dX0_foresee_122 : decode cX0_foresee 122 = .ok (.getfield 282, 3) := dk_180 1 26 (dk_at dksX0_foresee_5 11 rfl rfl)
theorem dX0_foresee_125 : decode cX0_foresee 125 = .ok (.ireturn, 1) := dk_172 (dk_at dksX0_foresee_5 14 rfl rfl)
abbrev cX0_foreseeEvent : ByteArray := prog_1_method_25_code
def yX0_foreseeEvent : MethodName := ⟨RX0, "foreseeEvent", "(I)I"⟩
def dkwX0_foreseeEvent_2 : List UInt8 := [126, 4, 160, 0, 5, 29, 172, 132, 3, 1, 167, 255, 228, 18, 193, 172]
abbrev dktX0_foreseeEvent_2 : List UInt8 := dkwX0_foreseeEvent_2 ++ []
def dkwX0_foreseeEvent_1 : List UInt8 := [183, 0, 51, 77, 4, 62, 29, 17, 5, 160, 163, 0, 27, 44, 182, 1, 20, 44, 180, 1, 31, 27, 122, 4]
abbrev dktX0_foreseeEvent_1 : List UInt8 := dkwX0_foreseeEvent_1 ++ dktX0_foreseeEvent_2
def dkwX0_foreseeEvent_0 : List UInt8 := [27, 133, 9, 20, 1, 29, 184, 0, 70, 154, 0, 6, 18, 98, 172, 187, 0, 28, 89, 42, 180, 0, 31]
abbrev dktX0_foreseeEvent_0 : List UInt8 := dkwX0_foreseeEvent_0 ++ dktX0_foreseeEvent_1
theorem dksX0_foreseeEvent_0 : cX0_foreseeEvent.data.toList.drop 0 = dktX0_foreseeEvent_0 := by decide +kernel
theorem dksX0_foreseeEvent_1 : cX0_foreseeEvent.data.toList.drop 23 = dktX0_foreseeEvent_1 := dk_seg dksX0_foreseeEvent_0 23 rfl rfl
theorem dksX0_foreseeEvent_2 : cX0_foreseeEvent.data.toList.drop 47 = dktX0_foreseeEvent_2 := dk_seg dksX0_foreseeEvent_1 24 rfl rfl
theorem dX0_foreseeEvent_0 : decode cX0_foreseeEvent 0 = .ok (.iload_n 1, 1) := dk_27 (dk_at dksX0_foreseeEvent_0 0 rfl rfl)
theorem dX0_foreseeEvent_1 : decode cX0_foreseeEvent 1 = .ok (.i2l, 1) := dk_133 (dk_at dksX0_foreseeEvent_0 1 rfl rfl)
theorem dX0_foreseeEvent_2 : decode cX0_foreseeEvent 2 = .ok (.lconst 0, 1) := dk_9 (dk_at dksX0_foreseeEvent_0 2 rfl rfl)
theorem dX0_foreseeEvent_3 : decode cX0_foreseeEvent 3 = .ok (.ldc2_w 285, 3) := dk_20 1 29 (dk_at dksX0_foreseeEvent_0 3 rfl rfl)
theorem dX0_foreseeEvent_6 : decode cX0_foreseeEvent 6 = .ok (.invokestatic 70, 3) := dk_184 0 70 (dk_at dksX0_foreseeEvent_0 6 rfl rfl)
theorem dX0_foreseeEvent_9 : decode cX0_foreseeEvent 9 = .ok (.ifCond .ne 6, 3) := dk_154 0 6 (dk_at dksX0_foreseeEvent_0 9 rfl rfl)
theorem dX0_foreseeEvent_12 : decode cX0_foreseeEvent 12 = .ok (.ldc 98, 2) := dk_18 98 (dk_at dksX0_foreseeEvent_0 12 rfl rfl)
theorem dX0_foreseeEvent_14 : decode cX0_foreseeEvent 14 = .ok (.ireturn, 1) := dk_172 (dk_at dksX0_foreseeEvent_0 14 rfl rfl)
theorem dX0_foreseeEvent_15 : decode cX0_foreseeEvent 15 = .ok (.new 28, 3) := dk_187 0 28 (dk_at dksX0_foreseeEvent_0 15 rfl rfl)
theorem dX0_foreseeEvent_18 : decode cX0_foreseeEvent 18 = .ok (.dup, 1) := dk_89 (dk_at dksX0_foreseeEvent_0 18 rfl rfl)
theorem dX0_foreseeEvent_19 : decode cX0_foreseeEvent 19 = .ok (.aload_n 0, 1) := dk_42 (dk_at dksX0_foreseeEvent_0 19 rfl rfl)
theorem dX0_foreseeEvent_20 : decode cX0_foreseeEvent 20 = .ok (.getfield 31, 3) := dk_180 0 31 (dk_at dksX0_foreseeEvent_0 20 rfl rfl)
theorem dX0_foreseeEvent_23 : decode cX0_foreseeEvent 23 = .ok (.invokespecial 51, 3) := dk_183 0 51 (dk_at dksX0_foreseeEvent_1 0 rfl rfl)
theorem dX0_foreseeEvent_26 : decode cX0_foreseeEvent 26 = .ok (.astore_n 2, 1) := dk_77 (dk_at dksX0_foreseeEvent_1 3 rfl rfl)
theorem dX0_foreseeEvent_27 : decode cX0_foreseeEvent 27 = .ok (.iconst 1, 1) := dk_4 (dk_at dksX0_foreseeEvent_1 4 rfl rfl)
theorem dX0_foreseeEvent_28 : decode cX0_foreseeEvent 28 = .ok (.istore_n 3, 1) := dk_62 (dk_at dksX0_foreseeEvent_1 5 rfl rfl)
theorem dX0_foreseeEvent_29 : decode cX0_foreseeEvent 29 = .ok (.iload_n 3, 1) := dk_29 (dk_at dksX0_foreseeEvent_1 6 rfl rfl)
theorem dX0_foreseeEvent_30 : decode cX0_foreseeEvent 30 = .ok (.sipush 1440, 3) := dk_17 5 160 (dk_at dksX0_foreseeEvent_1 7 rfl rfl)
theorem dX0_foreseeEvent_33 : decode cX0_foreseeEvent 33 = .ok (.if_icmp .gt 27, 3) := dk_163 0 27 (dk_at dksX0_foreseeEvent_1 10 rfl rfl)
theorem dX0_foreseeEvent_36 : decode cX0_foreseeEvent 36 = .ok (.aload_n 2, 1) := dk_44 (dk_at dksX0_foreseeEvent_1 13 rfl rfl)
theorem dX0_foreseeEvent_37 : decode cX0_foreseeEvent 37 = .ok (.invokevirtual 276, 3) := dk_182 1 20 (dk_at dksX0_foreseeEvent_1 14 rfl rfl)
theorem dX0_foreseeEvent_40 : decode cX0_foreseeEvent 40 = .ok (.aload_n 2, 1) := dk_44 (dk_at dksX0_foreseeEvent_1 17 rfl rfl)
theorem dX0_foreseeEvent_41 : decode cX0_foreseeEvent 41 = .ok (.getfield 287, 3) := dk_180 1 31 (dk_at dksX0_foreseeEvent_1 18 rfl rfl)
theorem dX0_foreseeEvent_44 : decode cX0_foreseeEvent 44 = .ok (.iload_n 1, 1) := dk_27 (dk_at dksX0_foreseeEvent_1 21 rfl rfl)
theorem dX0_foreseeEvent_45 : decode cX0_foreseeEvent 45 = .ok (.ishr, 1) := dk_122 (dk_at dksX0_foreseeEvent_1 22 rfl rfl)
theorem dX0_foreseeEvent_46 : decode cX0_foreseeEvent 46 = .ok (.iconst 1, 1) := dk_4 (dk_at dksX0_foreseeEvent_1 23 rfl rfl)
theorem dX0_foreseeEvent_47 : decode cX0_foreseeEvent 47 = .ok (.iand, 1) := dk_126 (dk_at dksX0_foreseeEvent_2 0 rfl rfl)
theorem dX0_foreseeEvent_48 : decode cX0_foreseeEvent 48 = .ok (.iconst 1, 1) := dk_4 (dk_at dksX0_foreseeEvent_2 1 rfl rfl)
theorem dX0_foreseeEvent_49 : decode cX0_foreseeEvent 49 = .ok (.if_icmp .ne 5, 3) := dk_160 0 5 (dk_at dksX0_foreseeEvent_2 2 rfl rfl)
theorem dX0_foreseeEvent_52 : decode cX0_foreseeEvent 52 = .ok (.iload_n 3, 1) := dk_29 (dk_at dksX0_foreseeEvent_2 5 rfl rfl)
theorem dX0_foreseeEvent_53 : decode cX0_foreseeEvent 53 = .ok (.ireturn, 1) := dk_172 (dk_at dksX0_foreseeEvent_2 6 rfl rfl)
theorem dX0_foreseeEvent_54 : decode cX0_foreseeEvent 54 = .ok (.iinc 3 1, 3) := dk_132 3 1 (dk_at dksX0_foreseeEvent_2 7 rfl rfl)
theorem dX0_foreseeEvent_57 : decode cX0_foreseeEvent 57 = .ok (.goto (-28), 3) := dk_167 255 228 (dk_at dksX0_foreseeEvent_2 10 rfl rfl)
theorem dX0_foreseeEvent_60 : decode cX0_foreseeEvent 60 = .ok (.ldc 193, 2) := dk_18 193 (dk_at dksX0_foreseeEvent_2 13 rfl rfl)
theorem dX0_foreseeEvent_62 : decode cX0_foreseeEvent 62 = .ok (.ireturn, 1) := dk_172 (dk_at dksX0_foreseeEvent_2 15 rfl rfl)
abbrev cX0_station : ByteArray := prog_1_method_27_code
def yX0_station : MethodName := ⟨RX0, "station", "(I)I"⟩
def dkwX0_station_7 : List UInt8 := [172, 18, 98, 172]
abbrev dktX0_station_7 : List UInt8 := dkwX0_station_7 ++ []
def dkwX0_station_6 : List UInt8 := [180, 1, 62, 172, 42, 180, 0, 31, 180, 1, 65, 27, 16, 11, 100, 46, 172, 42, 180, 0, 31, 180, 1, 68]
abbrev dktX0_station_6 : List UInt8 := dkwX0_station_6 ++ dktX0_station_7
def dkwX0_station_5 : List UInt8 := [180, 1, 53, 172, 42, 180, 0, 31, 180, 1, 56, 172, 42, 180, 0, 31, 180, 1, 59, 172, 42, 180, 0, 31]
abbrev dktX0_station_5 : List UInt8 := dkwX0_station_5 ++ dktX0_station_6
def dkwX0_station_4 : List UInt8 := [182, 1, 23, 172, 42, 180, 0, 31, 180, 1, 50, 153, 0, 7, 4, 167, 0, 4, 3, 172, 42, 180, 0, 31]
abbrev dktX0_station_4 : List UInt8 := dkwX0_station_4 ++ dktX0_station_5
def dkwX0_station_3 : List UInt8 := [42, 180, 0, 31, 42, 180, 0, 31, 180, 1, 1, 182, 1, 44, 172, 42, 182, 1, 47, 172, 42, 180, 0, 31]
abbrev dktX0_station_3 : List UInt8 := dkwX0_station_3 ++ dktX0_station_4
def dkwX0_station_2 : List UInt8 := [42, 180, 0, 31, 180, 1, 1, 172, 42, 180, 0, 31, 180, 1, 13, 172, 42, 180, 0, 31, 180, 1, 26, 172]
abbrev dktX0_station_2 : List UInt8 := dkwX0_station_2 ++ dktX0_station_3
def dkwX0_station_1 : List UInt8 := [170, 0, 0, 0, 0, 0, 196, 0, 0, 0, 0, 0, 0, 0, 14, 0, 0, 0, 75, 0, 0, 0, 83, 0, 0, 0, 91, 0, 0, 0, 99, 0, 0, 0, 114, 0, 0, 0, 119, 0, 0, 0, 127, 0, 0, 0, 143, 0, 0, 0, 151, 0, 0, 0, 159, 0, 0, 0, 167, 0, 0, 0, 175, 0, 0, 0, 175, 0, 0, 0, 175, 0, 0, 0, 188]
abbrev dktX0_station_1 : List UInt8 := dkwX0_station_1 ++ dktX0_station_2
def dkwX0_station_0 : List UInt8 := [27]
abbrev dktX0_station_0 : List UInt8 := dkwX0_station_0 ++ dktX0_station_1
theorem dksX0_station_0 : cX0_station.data.toList.drop 0 = dktX0_station_0 := by decide +kernel
theorem dksX0_station_1 : cX0_station.data.toList.drop 1 = dktX0_station_1 := dk_seg dksX0_station_0 1 rfl rfl
theorem dksX0_station_2 : cX0_station.data.toList.drop 76 = dktX0_station_2 := dk_seg dksX0_station_1 75 rfl rfl
theorem dksX0_station_3 : cX0_station.data.toList.drop 100 = dktX0_station_3 := dk_seg dksX0_station_2 24 rfl rfl
theorem dksX0_station_4 : cX0_station.data.toList.drop 124 = dktX0_station_4 := dk_seg dksX0_station_3 24 rfl rfl
theorem dksX0_station_5 : cX0_station.data.toList.drop 148 = dktX0_station_5 := dk_seg dksX0_station_4 24 rfl rfl
theorem dksX0_station_6 : cX0_station.data.toList.drop 172 = dktX0_station_6 := dk_seg dksX0_station_5 24 rfl rfl
theorem dksX0_station_7 : cX0_station.data.toList.drop 196 = dktX0_station_7 := dk_seg dksX0_station_6 24 rfl rfl
theorem dX0_station_0 : decode cX0_station 0 = .ok (.iload_n 1, 1) := dk_27 (dk_at dksX0_station_0 0 rfl rfl)
theorem dX0_station_1 : decode cX0_station 1 = .ok (.tableswitch 196 0 14 #[75, 83, 91, 99, 114, 119, 127, 143, 151, 159, 167, 175, 175, 175, 188], 75) := by decide +kernel
theorem dX0_station_76 : decode cX0_station 76 = .ok (.aload_n 0, 1) := dk_42 (dk_at dksX0_station_2 0 rfl rfl)
theorem dX0_station_77 : decode cX0_station 77 = .ok (.getfield 31, 3) := dk_180 0 31 (dk_at dksX0_station_2 1 rfl rfl)
theorem dX0_station_80 : decode cX0_station 80 = .ok (.getfield 257, 3) := dk_180 1 1 (dk_at dksX0_station_2 4 rfl rfl)
theorem dX0_station_83 : decode cX0_station 83 = .ok (.ireturn, 1) := dk_172 (dk_at dksX0_station_2 7 rfl rfl)
theorem dX0_station_84 : decode cX0_station 84 = .ok (.aload_n 0, 1) := dk_42 (dk_at dksX0_station_2 8 rfl rfl)
theorem dX0_station_85 : decode cX0_station 85 = .ok (.getfield 31, 3) := dk_180 0 31 (dk_at dksX0_station_2 9 rfl rfl)
theorem dX0_station_88 : decode cX0_station 88 = .ok (.getfield 269, 3) := dk_180 1 13 (dk_at dksX0_station_2 12 rfl rfl)
theorem dX0_station_91 : decode cX0_station 91 = .ok (.ireturn, 1) := dk_172 (dk_at dksX0_station_2 15 rfl rfl)
theorem dX0_station_92 : decode cX0_station 92 = .ok (.aload_n 0, 1) := dk_42 (dk_at dksX0_station_2 16 rfl rfl)
theorem dX0_station_93 : decode cX0_station 93 = .ok (.getfield 31, 3) := dk_180 0 31 (dk_at dksX0_station_2 17 rfl rfl)
theorem dX0_station_96 : decode cX0_station 96 = .ok (.getfield 282, 3) := dk_180 1 26 (dk_at dksX0_station_2 20 rfl rfl)
theorem dX0_station_99 : decode cX0_station 99 = .ok (.ireturn, 1) := dk_172 (dk_at dksX0_station_2 23 rfl rfl)
theorem dX0_station_100 : decode cX0_station 100 = .ok (.aload_n 0, 1) := dk_42 (dk_at dksX0_station_3 0 rfl rfl)
theorem dX0_station_101 : decode cX0_station 101 = .ok (.getfield 31, 3) := dk_180 0 31 (dk_at dksX0_station_3 1 rfl rfl)
theorem dX0_station_104 : decode cX0_station 104 = .ok (.aload_n 0, 1) := dk_42 (dk_at dksX0_station_3 4 rfl rfl)
theorem dX0_station_105 : decode cX0_station 105 = .ok (.getfield 31, 3) := dk_180 0 31 (dk_at dksX0_station_3 5 rfl rfl)
theorem dX0_station_108 : decode cX0_station 108 = .ok (.getfield 257, 3) := dk_180 1 1 (dk_at dksX0_station_3 8 rfl rfl)
theorem dX0_station_111 : decode cX0_station 111 = .ok (.invokevirtual 300, 3) := dk_182 1 44 (dk_at dksX0_station_3 11 rfl rfl)
theorem dX0_station_114 : decode cX0_station 114 = .ok (.ireturn, 1) := dk_172 (dk_at dksX0_station_3 14 rfl rfl)
theorem dX0_station_115 : decode cX0_station 115 = .ok (.aload_n 0, 1) := dk_42 (dk_at dksX0_station_3 15 rfl rfl)
theorem dX0_station_116 : decode cX0_station 116 = .ok (.invokevirtual 303, 3) := dk_182 1 47 (dk_at dksX0_station_3 16 rfl rfl)
theorem dX0_station_119 : decode cX0_station 119 = .ok (.ireturn, 1) := dk_172 (dk_at dksX0_station_3 19 rfl rfl)
theorem dX0_station_120 : decode cX0_station 120 = .ok (.aload_n 0, 1) := dk_42 (dk_at dksX0_station_3 20 rfl rfl)
theorem dX0_station_121 : decode cX0_station 121 = .ok (.getfield 31, 3) := dk_180 0 31 (dk_at dksX0_station_3 21 rfl rfl)
theorem dX0_station_124 : decode cX0_station 124 = .ok (.invokevirtual 279, 3) := dk_182 1 23 (dk_at dksX0_station_4 0 rfl rfl)
theorem dX0_station_127 : decode cX0_station 127 = .ok (.ireturn, 1) := dk_172 (dk_at dksX0_station_4 3 rfl rfl)
theorem dX0_station_128 : decode cX0_station 128 = .ok (.aload_n 0, 1) := dk_42 (dk_at dksX0_station_4 4 rfl rfl)
theorem dX0_station_129 : decode cX0_station 129 = .ok (.getfield 31, 3) := dk_180 0 31 (dk_at dksX0_station_4 5 rfl rfl)
theorem dX0_station_132 : decode cX0_station 132 = .ok (.getfield 306, 3) := dk_180 1 50 (dk_at dksX0_station_4 8 rfl rfl)
theorem dX0_station_135 : decode cX0_station 135 = .ok (.ifCond .eq 7, 3) := dk_153 0 7 (dk_at dksX0_station_4 11 rfl rfl)
theorem dX0_station_138 : decode cX0_station 138 = .ok (.iconst 1, 1) := dk_4 (dk_at dksX0_station_4 14 rfl rfl)
theorem dX0_station_139 : decode cX0_station 139 = .ok (.goto 4, 3) := dk_167 0 4 (dk_at dksX0_station_4 15 rfl rfl)
theorem dX0_station_142 : decode cX0_station 142 = .ok (.iconst 0, 1) := dk_3 (dk_at dksX0_station_4 18 rfl rfl)
theorem dX0_station_143 : decode cX0_station 143 = .ok (.ireturn, 1) := dk_172 (dk_at dksX0_station_4 19 rfl rfl)
theorem dX0_station_144 : decode cX0_station 144 = .ok (.aload_n 0, 1) := dk_42 (dk_at dksX0_station_4 20 rfl rfl)
theorem dX0_station_145 : decode cX0_station 145 = .ok (.getfield 31, 3) := dk_180 0 31 (dk_at dksX0_station_4 21 rfl rfl)
theorem dX0_station_148 : decode cX0_station 148 = .ok (.getfield 309, 3) := dk_180 1 53 (dk_at dksX0_station_5 0 rfl rfl)
theorem dX0_station_151 : decode cX0_station 151 = .ok (.ireturn, 1) := dk_172 (dk_at dksX0_station_5 3 rfl rfl)
theorem dX0_station_152 : decode cX0_station 152 = .ok (.aload_n 0, 1) := dk_42 (dk_at dksX0_station_5 4 rfl rfl)
theorem dX0_station_153 : decode cX0_station 153 = .ok (.getfield 31, 3) := dk_180 0 31 (dk_at dksX0_station_5 5 rfl rfl)
theorem dX0_station_156 : decode cX0_station 156 = .ok (.getfield 312, 3) := dk_180 1 56 (dk_at dksX0_station_5 8 rfl rfl)
theorem dX0_station_159 : decode cX0_station 159 = .ok (.ireturn, 1) := dk_172 (dk_at dksX0_station_5 11 rfl rfl)
theorem dX0_station_160 : decode cX0_station 160 = .ok (.aload_n 0, 1) := dk_42 (dk_at dksX0_station_5 12 rfl rfl)
theorem dX0_station_161 : decode cX0_station 161 = .ok (.getfield 31, 3) := dk_180 0 31 (dk_at dksX0_station_5 13 rfl rfl)
theorem dX0_station_164 : decode cX0_station 164 = .ok (.getfield 315, 3) := dk_180 1 59 (dk_at dksX0_station_5 16 rfl rfl)
theorem dX0_station_167 : decode cX0_station 167 = .ok (.ireturn, 1) := dk_172 (dk_at dksX0_station_5 19 rfl rfl)
theorem dX0_station_168 : decode cX0_station 168 = .ok (.aload_n 0, 1) := dk_42 (dk_at dksX0_station_5 20 rfl rfl)
theorem dX0_station_169 : decode cX0_station 169 = .ok (.getfield 31, 3) := dk_180 0 31 (dk_at dksX0_station_5 21 rfl rfl)
theorem dX0_station_172 : decode cX0_station 172 = .ok (.getfield 318, 3) := dk_180 1 62 (dk_at dksX0_station_6 0 rfl rfl)
theorem dX0_station_175 : decode cX0_station 175 = .ok (.ireturn, 1) := dk_172 (dk_at dksX0_station_6 3 rfl rfl)
theorem dX0_station_176 : decode cX0_station 176 = .ok (.aload_n 0, 1) := dk_42 (dk_at dksX0_station_6 4 rfl rfl)
theorem dX0_station_177 : decode cX0_station 177 = .ok (.getfield 31, 3) := dk_180 0 31 (dk_at dksX0_station_6 5 rfl rfl)
theorem dX0_station_180 : decode cX0_station 180 = .ok (.getfield 321, 3) := dk_180 1 65 (dk_at dksX0_station_6 8 rfl rfl)
theorem dX0_station_183 : decode cX0_station 183 = .ok (.iload_n 1, 1) := dk_27 (dk_at dksX0_station_6 11 rfl rfl)
theorem dX0_station_184 : decode cX0_station 184 = .ok (.bipush 11, 2) := dk_16 11 (dk_at dksX0_station_6 12 rfl rfl)
theorem dX0_station_186 : decode cX0_station 186 = .ok (.isub, 1) := dk_100 (dk_at dksX0_station_6 14 rfl rfl)
theorem dX0_station_187 : decode cX0_station 187 = .ok (.iaload, 1) := dk_46 (dk_at dksX0_station_6 15 rfl rfl)
theorem dX0_station_188 : decode cX0_station 188 = .ok (.ireturn, 1) := dk_172 (dk_at dksX0_station_6 16 rfl rfl)
theorem dX0_station_189 : decode cX0_station 189 = .ok (.aload_n 0, 1) := dk_42 (dk_at dksX0_station_6 17 rfl rfl)
theorem dX0_station_190 : decode cX0_station 190 = .ok (.getfield 31, 3) := dk_180 0 31 (dk_at dksX0_station_6 18 rfl rfl)
theorem dX0_station_193 : decode cX0_station 193 = .ok (.getfield 324, 3) := dk_180 1 68 (dk_at dksX0_station_6 21 rfl rfl)
theorem dX0_station_196 : decode cX0_station 196 = .ok (.ireturn, 1) := dk_172 (dk_at dksX0_station_7 0 rfl rfl)
theorem dX0_station_197 : decode cX0_station 197 = .ok (.ldc 98, 2) := dk_18 98 (dk_at dksX0_station_7 1 rfl rfl)
theorem dX0_station_199 : decode cX0_station 199 = .ok (.ireturn, 1) := dk_172 (dk_at dksX0_station_7 3 rfl rfl)
abbrev cX0_leaderNumber : ByteArray := prog_1_method_26_code
def yX0_leaderNumber : MethodName := ⟨RX0, "leaderNumber", "()I"⟩
def dkwX0_leaderNumber_1 : List UInt8 := [43, 180, 0, 197, 172]
abbrev dktX0_leaderNumber_1 : List UInt8 := dkwX0_leaderNumber_1 ++ []
def dkwX0_leaderNumber_0 : List UInt8 := [42, 180, 0, 31, 182, 1, 34, 1, 182, 1, 38, 192, 0, 135, 76, 43, 199, 0, 8, 18, 193, 167, 0, 7]
abbrev dktX0_leaderNumber_0 : List UInt8 := dkwX0_leaderNumber_0 ++ dktX0_leaderNumber_1
theorem dksX0_leaderNumber_0 : cX0_leaderNumber.data.toList.drop 0 = dktX0_leaderNumber_0 := by decide +kernel
theorem dksX0_leaderNumber_1 : cX0_leaderNumber.data.toList.drop 24 = dktX0_leaderNumber_1 := dk_seg dksX0_leaderNumber_0 24 rfl rfl
theorem dX0_leaderNumber_0 : decode cX0_leaderNumber 0 = .ok (.aload_n 0, 1) := dk_42 (dk_at dksX0_leaderNumber_0 0 rfl rfl)
theorem dX0_leaderNumber_1 : decode cX0_leaderNumber 1 = .ok (.getfield 31, 3) := dk_180 0 31 (dk_at dksX0_leaderNumber_0 1 rfl rfl)
theorem dX0_leaderNumber_4 : decode cX0_leaderNumber 4 = .ok (.invokevirtual 290, 3) := dk_182 1 34 (dk_at dksX0_leaderNumber_0 4 rfl rfl)
theorem dX0_leaderNumber_7 : decode cX0_leaderNumber 7 = .ok (.aconst_null, 1) := dk_1 (dk_at dksX0_leaderNumber_0 7 rfl rfl)
theorem dX0_leaderNumber_8 : decode cX0_leaderNumber 8 = .ok (.invokevirtual 294, 3) := dk_182 1 38 (dk_at dksX0_leaderNumber_0 8 rfl rfl)
theorem dX0_leaderNumber_11 : decode cX0_leaderNumber 11 = .ok (.checkcast 135, 3) := dk_192 0 135 (dk_at dksX0_leaderNumber_0 11 rfl rfl)
theorem dX0_leaderNumber_14 : decode cX0_leaderNumber 14 = .ok (.astore_n 1, 1) := dk_76 (dk_at dksX0_leaderNumber_0 14 rfl rfl)
theorem dX0_leaderNumber_15 : decode cX0_leaderNumber 15 = .ok (.aload_n 1, 1) := dk_43 (dk_at dksX0_leaderNumber_0 15 rfl rfl)
theorem dX0_leaderNumber_16 : decode cX0_leaderNumber 16 = .ok (.ifnonnull 8, 3) := dk_199 0 8 (dk_at dksX0_leaderNumber_0 16 rfl rfl)
theorem dX0_leaderNumber_19 : decode cX0_leaderNumber 19 = .ok (.ldc 193, 2) := dk_18 193 (dk_at dksX0_leaderNumber_0 19 rfl rfl)
theorem dX0_leaderNumber_21 : decode cX0_leaderNumber 21 = .ok (.goto 7, 3) := dk_167 0 7 (dk_at dksX0_leaderNumber_0 21 rfl rfl)
theorem dX0_leaderNumber_24 : decode cX0_leaderNumber 24 = .ok (.aload_n 1, 1) := dk_43 (dk_at dksX0_leaderNumber_1 0 rfl rfl)
theorem dX0_leaderNumber_25 : decode cX0_leaderNumber 25 = .ok (.getfield 197, 3) := dk_180 0 197 (dk_at dksX0_leaderNumber_1 1 rfl rfl)
theorem dX0_leaderNumber_28 : decode cX0_leaderNumber 28 = .ok (.ireturn, 1) := dk_172 (dk_at dksX0_leaderNumber_1 4 rfl rfl)
abbrev cX0_nightAt : ByteArray := prog_1_method_28_code
def yX0_nightAt : MethodName := ⟨RX0, "nightAt", "(I)I"⟩
def dkwX0_nightAt_2 : List UInt8 := [18, 193, 172]
abbrev dktX0_nightAt_2 : List UInt8 := dkwX0_nightAt_2 ++ []
def dkwX0_nightAt_1 : List UInt8 := [180, 0, 31, 180, 1, 71, 28, 4, 100, 27, 100, 182, 0, 131, 192, 1, 74, 182, 1, 76, 167, 0, 5]
abbrev dktX0_nightAt_1 : List UInt8 := dkwX0_nightAt_1 ++ dktX0_nightAt_2
def dkwX0_nightAt_0 : List UInt8 := [27, 156, 0, 6, 18, 98, 172, 42, 180, 0, 31, 180, 1, 71, 182, 0, 115, 61, 27, 28, 162, 0, 27, 42]
abbrev dktX0_nightAt_0 : List UInt8 := dkwX0_nightAt_0 ++ dktX0_nightAt_1
theorem dksX0_nightAt_0 : cX0_nightAt.data.toList.drop 0 = dktX0_nightAt_0 := by decide +kernel
theorem dksX0_nightAt_1 : cX0_nightAt.data.toList.drop 24 = dktX0_nightAt_1 := dk_seg dksX0_nightAt_0 24 rfl rfl
theorem dksX0_nightAt_2 : cX0_nightAt.data.toList.drop 47 = dktX0_nightAt_2 := dk_seg dksX0_nightAt_1 23 rfl rfl
theorem dX0_nightAt_0 : decode cX0_nightAt 0 = .ok (.iload_n 1, 1) := dk_27 (dk_at dksX0_nightAt_0 0 rfl rfl)
theorem dX0_nightAt_1 : decode cX0_nightAt 1 = .ok (.ifCond .ge 6, 3) := dk_156 0 6 (dk_at dksX0_nightAt_0 1 rfl rfl)
theorem dX0_nightAt_4 : decode cX0_nightAt 4 = .ok (.ldc 98, 2) := dk_18 98 (dk_at dksX0_nightAt_0 4 rfl rfl)
theorem dX0_nightAt_6 : decode cX0_nightAt 6 = .ok (.ireturn, 1) := dk_172 (dk_at dksX0_nightAt_0 6 rfl rfl)
theorem dX0_nightAt_7 : decode cX0_nightAt 7 = .ok (.aload_n 0, 1) := dk_42 (dk_at dksX0_nightAt_0 7 rfl rfl)
theorem dX0_nightAt_8 : decode cX0_nightAt 8 = .ok (.getfield 31, 3) := dk_180 0 31 (dk_at dksX0_nightAt_0 8 rfl rfl)
theorem dX0_nightAt_11 : decode cX0_nightAt 11 = .ok (.getfield 327, 3) := dk_180 1 71 (dk_at dksX0_nightAt_0 11 rfl rfl)
theorem dX0_nightAt_14 : decode cX0_nightAt 14 = .ok (.invokevirtual 115, 3) := dk_182 0 115 (dk_at dksX0_nightAt_0 14 rfl rfl)
theorem dX0_nightAt_17 : decode cX0_nightAt 17 = .ok (.istore_n 2, 1) := dk_61 (dk_at dksX0_nightAt_0 17 rfl rfl)
theorem dX0_nightAt_18 : decode cX0_nightAt 18 = .ok (.iload_n 1, 1) := dk_27 (dk_at dksX0_nightAt_0 18 rfl rfl)
theorem dX0_nightAt_19 : decode cX0_nightAt 19 = .ok (.iload_n 2, 1) := dk_28 (dk_at dksX0_nightAt_0 19 rfl rfl)
theorem dX0_nightAt_20 : decode cX0_nightAt 20 = .ok (.if_icmp .ge 27, 3) := dk_162 0 27 (dk_at dksX0_nightAt_0 20 rfl rfl)
theorem dX0_nightAt_23 : decode cX0_nightAt 23 = .ok (.aload_n 0, 1) := dk_42 (dk_at dksX0_nightAt_0 23 rfl rfl)
theorem dX0_nightAt_24 : decode cX0_nightAt 24 = .ok (.getfield 31, 3) := dk_180 0 31 (dk_at dksX0_nightAt_1 0 rfl rfl)
theorem dX0_nightAt_27 : decode cX0_nightAt 27 = .ok (.getfield 327, 3) := dk_180 1 71 (dk_at dksX0_nightAt_1 3 rfl rfl)
theorem dX0_nightAt_30 : decode cX0_nightAt 30 = .ok (.iload_n 2, 1) := dk_28 (dk_at dksX0_nightAt_1 6 rfl rfl)
theorem dX0_nightAt_31 : decode cX0_nightAt 31 = .ok (.iconst 1, 1) := dk_4 (dk_at dksX0_nightAt_1 7 rfl rfl)
theorem dX0_nightAt_32 : decode cX0_nightAt 32 = .ok (.isub, 1) := dk_100 (dk_at dksX0_nightAt_1 8 rfl rfl)
theorem dX0_nightAt_33 : decode cX0_nightAt 33 = .ok (.iload_n 1, 1) := dk_27 (dk_at dksX0_nightAt_1 9 rfl rfl)
theorem dX0_nightAt_34 : decode cX0_nightAt 34 = .ok (.isub, 1) := dk_100 (dk_at dksX0_nightAt_1 10 rfl rfl)
theorem dX0_nightAt_35 : decode cX0_nightAt 35 = .ok (.invokevirtual 131, 3) := dk_182 0 131 (dk_at dksX0_nightAt_1 11 rfl rfl)
theorem dX0_nightAt_38 : decode cX0_nightAt 38 = .ok (.checkcast 330, 3) := dk_192 1 74 (dk_at dksX0_nightAt_1 14 rfl rfl)
theorem dX0_nightAt_41 : decode cX0_nightAt 41 = .ok (.invokevirtual 332, 3) := dk_182 1 76 (dk_at dksX0_nightAt_1 17 rfl rfl)
theorem dX0_nightAt_44 : decode cX0_nightAt 44 = .ok (.goto 5, 3) := dk_167 0 5 (dk_at dksX0_nightAt_1 20 rfl rfl)
theorem dX0_nightAt_47 : decode cX0_nightAt 47 = .ok (.ldc 193, 2) := dk_18 193 (dk_at dksX0_nightAt_2 0 rfl rfl)
theorem dX0_nightAt_49 : decode cX0_nightAt 49 = .ok (.ireturn, 1) := dk_172 (dk_at dksX0_nightAt_2 2 rfl rfl)
abbrev cX0_eventAt : ByteArray := prog_1_method_29_code
def yX0_eventAt : MethodName := ⟨RX0, "eventAt", "(II)I"⟩
def dkwX0_eventAt_3 : List UInt8 := [46, 167, 0, 14, 29, 2, 160, 0, 8, 18, 193, 167, 0, 4, 29, 172]
abbrev dktX0_eventAt_3 : List UInt8 := dkwX0_eventAt_3 ++ []
def dkwX0_eventAt_2 : List UInt8 := [180, 0, 31, 180, 1, 85, 27, 46, 167, 0, 31, 28, 4, 160, 0, 15, 42, 180, 0, 31, 180, 1, 88, 27]
abbrev dktX0_eventAt_2 : List UInt8 := dkwX0_eventAt_2 ++ dktX0_eventAt_3
def dkwX0_eventAt_1 : List UInt8 := [180, 1, 79, 161, 0, 6, 18, 193, 172, 42, 180, 0, 31, 180, 1, 82, 27, 46, 62, 28, 154, 0, 15, 42]
abbrev dktX0_eventAt_1 : List UInt8 := dkwX0_eventAt_1 ++ dktX0_eventAt_2
def dkwX0_eventAt_0 : List UInt8 := [27, 155, 0, 15, 28, 133, 9, 20, 0, 107, 184, 0, 70, 154, 0, 6, 18, 98, 172, 27, 42, 180, 0, 31]
abbrev dktX0_eventAt_0 : List UInt8 := dkwX0_eventAt_0 ++ dktX0_eventAt_1
theorem dksX0_eventAt_0 : cX0_eventAt.data.toList.drop 0 = dktX0_eventAt_0 := by decide +kernel
theorem dksX0_eventAt_1 : cX0_eventAt.data.toList.drop 24 = dktX0_eventAt_1 := dk_seg dksX0_eventAt_0 24 rfl rfl
theorem dksX0_eventAt_2 : cX0_eventAt.data.toList.drop 48 = dktX0_eventAt_2 := dk_seg dksX0_eventAt_1 24 rfl rfl
theorem dksX0_eventAt_3 : cX0_eventAt.data.toList.drop 72 = dktX0_eventAt_3 := dk_seg dksX0_eventAt_2 24 rfl rfl
theorem dX0_eventAt_0 : decode cX0_eventAt 0 = .ok (.iload_n 1, 1) := dk_27 (dk_at dksX0_eventAt_0 0 rfl rfl)
theorem dX0_eventAt_1 : decode cX0_eventAt 1 = .ok (.ifCond .lt 15, 3) := dk_155 0 15 (dk_at dksX0_eventAt_0 1 rfl rfl)
theorem dX0_eventAt_4 : decode cX0_eventAt 4 = .ok (.iload_n 2, 1) := dk_28 (dk_at dksX0_eventAt_0 4 rfl rfl)
theorem dX0_eventAt_5 : decode cX0_eventAt 5 = .ok (.i2l, 1) := dk_133 (dk_at dksX0_eventAt_0 5 rfl rfl)
theorem dX0_eventAt_6 : decode cX0_eventAt 6 = .ok (.lconst 0, 1) := dk_9 (dk_at dksX0_eventAt_0 6 rfl rfl)
theorem dX0_eventAt_7 : decode cX0_eventAt 7 = .ok (.ldc2_w 107, 3) := dk_20 0 107 (dk_at dksX0_eventAt_0 7 rfl rfl)
theorem dX0_eventAt_10 : decode cX0_eventAt 10 = .ok (.invokestatic 70, 3) := dk_184 0 70 (dk_at dksX0_eventAt_0 10 rfl rfl)
theorem dX0_eventAt_13 : decode cX0_eventAt 13 = .ok (.ifCond .ne 6, 3) := dk_154 0 6 (dk_at dksX0_eventAt_0 13 rfl rfl)
theorem dX0_eventAt_16 : decode cX0_eventAt 16 = .ok (.ldc 98, 2) := dk_18 98 (dk_at dksX0_eventAt_0 16 rfl rfl)
theorem dX0_eventAt_18 : decode cX0_eventAt 18 = .ok (.ireturn, 1) := dk_172 (dk_at dksX0_eventAt_0 18 rfl rfl)
theorem dX0_eventAt_19 : decode cX0_eventAt 19 = .ok (.iload_n 1, 1) := dk_27 (dk_at dksX0_eventAt_0 19 rfl rfl)
theorem dX0_eventAt_20 : decode cX0_eventAt 20 = .ok (.aload_n 0, 1) := dk_42 (dk_at dksX0_eventAt_0 20 rfl rfl)
theorem dX0_eventAt_21 : decode cX0_eventAt 21 = .ok (.getfield 31, 3) := dk_180 0 31 (dk_at dksX0_eventAt_0 21 rfl rfl)
theorem dX0_eventAt_24 : decode cX0_eventAt 24 = .ok (.getfield 335, 3) := dk_180 1 79 (dk_at dksX0_eventAt_1 0 rfl rfl)
theorem dX0_eventAt_27 : decode cX0_eventAt 27 = .ok (.if_icmp .lt 6, 3) := dk_161 0 6 (dk_at dksX0_eventAt_1 3 rfl rfl)
theorem dX0_eventAt_30 : decode cX0_eventAt 30 = .ok (.ldc 193, 2) := dk_18 193 (dk_at dksX0_eventAt_1 6 rfl rfl)
theorem dX0_eventAt_32 : decode cX0_eventAt 32 = .ok (.ireturn, 1) := dk_172 (dk_at dksX0_eventAt_1 8 rfl rfl)
theorem dX0_eventAt_33 : decode cX0_eventAt 33 = .ok (.aload_n 0, 1) := dk_42 (dk_at dksX0_eventAt_1 9 rfl rfl)
theorem dX0_eventAt_34 : decode cX0_eventAt 34 = .ok (.getfield 31, 3) := dk_180 0 31 (dk_at dksX0_eventAt_1 10 rfl rfl)
theorem dX0_eventAt_37 : decode cX0_eventAt 37 = .ok (.getfield 338, 3) := dk_180 1 82 (dk_at dksX0_eventAt_1 13 rfl rfl)
theorem dX0_eventAt_40 : decode cX0_eventAt 40 = .ok (.iload_n 1, 1) := dk_27 (dk_at dksX0_eventAt_1 16 rfl rfl)
theorem dX0_eventAt_41 : decode cX0_eventAt 41 = .ok (.iaload, 1) := dk_46 (dk_at dksX0_eventAt_1 17 rfl rfl)
theorem dX0_eventAt_42 : decode cX0_eventAt 42 = .ok (.istore_n 3, 1) := dk_62 (dk_at dksX0_eventAt_1 18 rfl rfl)
theorem dX0_eventAt_43 : decode cX0_eventAt 43 = .ok (.iload_n 2, 1) := dk_28 (dk_at dksX0_eventAt_1 19 rfl rfl)
theorem dX0_eventAt_44 : decode cX0_eventAt 44 = .ok (.ifCond .ne 15, 3) := dk_154 0 15 (dk_at dksX0_eventAt_1 20 rfl rfl)
theorem dX0_eventAt_47 : decode cX0_eventAt 47 = .ok (.aload_n 0, 1) := dk_42 (dk_at dksX0_eventAt_1 23 rfl rfl)
theorem dX0_eventAt_48 : decode cX0_eventAt 48 = .ok (.getfield 31, 3) := dk_180 0 31 (dk_at dksX0_eventAt_2 0 rfl rfl)
theorem dX0_eventAt_51 : decode cX0_eventAt 51 = .ok (.getfield 341, 3) := dk_180 1 85 (dk_at dksX0_eventAt_2 3 rfl rfl)
theorem dX0_eventAt_54 : decode cX0_eventAt 54 = .ok (.iload_n 1, 1) := dk_27 (dk_at dksX0_eventAt_2 6 rfl rfl)
theorem dX0_eventAt_55 : decode cX0_eventAt 55 = .ok (.iaload, 1) := dk_46 (dk_at dksX0_eventAt_2 7 rfl rfl)
theorem dX0_eventAt_56 : decode cX0_eventAt 56 = .ok (.goto 31, 3) := dk_167 0 31 (dk_at dksX0_eventAt_2 8 rfl rfl)
theorem dX0_eventAt_59 : decode cX0_eventAt 59 = .ok (.iload_n 2, 1) := dk_28 (dk_at dksX0_eventAt_2 11 rfl rfl)
theorem dX0_eventAt_60 : decode cX0_eventAt 60 = .ok (.iconst 1, 1) := dk_4 (dk_at dksX0_eventAt_2 12 rfl rfl)
theorem dX0_eventAt_61 : decode cX0_eventAt 61 = .ok (.if_icmp .ne 15, 3) := dk_160 0 15 (dk_at dksX0_eventAt_2 13 rfl rfl)
theorem dX0_eventAt_64 : decode cX0_eventAt 64 = .ok (.aload_n 0, 1) := dk_42 (dk_at dksX0_eventAt_2 16 rfl rfl)
theorem dX0_eventAt_65 : decode cX0_eventAt 65 = .ok (.getfield 31, 3) := dk_180 0 31 (dk_at dksX0_eventAt_2 17 rfl rfl)
theorem dX0_eventAt_68 : decode cX0_eventAt 68 = .ok (.getfield 344, 3) := dk_180 1 88 (dk_at dksX0_eventAt_2 20 rfl rfl)
theorem dX0_eventAt_71 : decode cX0_eventAt 71 = .ok (.iload_n 1, 1) := dk_27 (dk_at dksX0_eventAt_2 23 rfl rfl)
theorem dX0_eventAt_72 : decode cX0_eventAt 72 = .ok (.iaload, 1) := dk_46 (dk_at dksX0_eventAt_3 0 rfl rfl)
theorem dX0_eventAt_73 : decode cX0_eventAt 73 = .ok (.goto 14, 3) := dk_167 0 14 (dk_at dksX0_eventAt_3 1 rfl rfl)
theorem dX0_eventAt_76 : decode cX0_eventAt 76 = .ok (.iload_n 3, 1) := dk_29 (dk_at dksX0_eventAt_3 4 rfl rfl)
theorem dX0_eventAt_77 : decode cX0_eventAt 77 = .ok (.iconst (-1), 1) := dk_2 (dk_at dksX0_eventAt_3 5 rfl rfl)
theorem dX0_eventAt_78 : decode cX0_eventAt 78 = .ok (.if_icmp .ne 8, 3) := dk_160 0 8 (dk_at dksX0_eventAt_3 6 rfl rfl)
theorem dX0_eventAt_81 : decode cX0_eventAt 81 = .ok (.ldc 193, 2) := dk_18 193 (dk_at dksX0_eventAt_3 9 rfl rfl)
theorem dX0_eventAt_83 : decode cX0_eventAt 83 = .ok (.goto 4, 3) := dk_167 0 4 (dk_at dksX0_eventAt_3 11 rfl rfl)
theorem dX0_eventAt_86 : decode cX0_eventAt 86 = .ok (.iload_n 3, 1) := dk_29 (dk_at dksX0_eventAt_3 14 rfl rfl)
theorem dX0_eventAt_87 : decode cX0_eventAt 87 = .ok (.ireturn, 1) := dk_172 (dk_at dksX0_eventAt_3 15 rfl rfl)
abbrev cX0_count : ByteArray := prog_1_method_31_code
def yX0_count : MethodName := ⟨RX0, "count", "(I)I"⟩
def dkwX0_count_7 : List UInt8 := [180, 0, 99, 27, 16, 20, 100, 46, 167, 0, 5, 18, 98, 172]
abbrev dktX0_count_7 : List UInt8 := dkwX0_count_7 ++ []
def dkwX0_count_6 : List UInt8 := [182, 1, 103, 172, 27, 133, 20, 1, 106, 20, 1, 108, 184, 0, 70, 153, 0, 18, 42, 180, 0, 31]
abbrev dktX0_count_6 : List UInt8 := dkwX0_count_6 ++ dktX0_count_7
def dkwX0_count_5 : List UInt8 := [180, 0, 31, 180, 1, 100, 17, 5, 160, 112, 172, 42, 180, 0, 40, 182, 0, 58, 172, 42, 180, 0, 47]
abbrev dktX0_count_5 : List UInt8 := dkwX0_count_5 ++ dktX0_count_6
def dkwX0_count_4 : List UInt8 := [180, 1, 71, 182, 0, 115, 172, 42, 180, 0, 31, 180, 1, 79, 172, 42, 180, 0, 31, 180, 1, 100, 172, 42]
abbrev dktX0_count_4 : List UInt8 := dkwX0_count_4 ++ dktX0_count_5
def dkwX0_count_3 : List UInt8 := [180, 0, 239, 182, 0, 115, 172, 42, 180, 0, 31, 182, 1, 94, 172, 42, 182, 1, 97, 172, 42, 180, 0, 31]
abbrev dktX0_count_3 : List UInt8 := dkwX0_count_3 ++ dktX0_count_4
def dkwX0_count_2 : List UInt8 := [42, 180, 0, 31, 180, 0, 111, 182, 0, 115, 172, 42, 180, 0, 31, 180, 0, 224, 172, 42, 180, 0, 31]
abbrev dktX0_count_2 : List UInt8 := dkwX0_count_2 ++ dktX0_count_3
def dkwX0_count_1 : List UInt8 := [170, 0, 0, 0, 0, 0, 157, 0, 0, 0, 0, 0, 0, 0, 10, 0, 0, 0, 59, 0, 0, 0, 70, 0, 0, 0, 78, 0, 0, 0, 89, 0, 0, 0, 97, 0, 0, 0, 102, 0, 0, 0, 113, 0, 0, 0, 121, 0, 0, 0, 129, 0, 0, 0, 141, 0, 0, 0, 149]
abbrev dktX0_count_1 : List UInt8 := dkwX0_count_1 ++ dktX0_count_2
def dkwX0_count_0 : List UInt8 := [27]
abbrev dktX0_count_0 : List UInt8 := dkwX0_count_0 ++ dktX0_count_1
theorem dksX0_count_0 : cX0_count.data.toList.drop 0 = dktX0_count_0 := by decide +kernel
theorem dksX0_count_1 : cX0_count.data.toList.drop 1 = dktX0_count_1 := dk_seg dksX0_count_0 1 rfl rfl
theorem dksX0_count_2 : cX0_count.data.toList.drop 60 = dktX0_count_2 := dk_seg dksX0_count_1 59 rfl rfl
theorem dksX0_count_3 : cX0_count.data.toList.drop 83 = dktX0_count_3 := dk_seg dksX0_count_2 23 rfl rfl
theorem dksX0_count_4 : cX0_count.data.toList.drop 107 = dktX0_count_4 := dk_seg dksX0_count_3 24 rfl rfl
theorem dksX0_count_5 : cX0_count.data.toList.drop 131 = dktX0_count_5 := dk_seg dksX0_count_4 24 rfl rfl
theorem dksX0_count_6 : cX0_count.data.toList.drop 154 = dktX0_count_6 := dk_seg dksX0_count_5 23 rfl rfl
theorem dksX0_count_7 : cX0_count.data.toList.drop 176 = dktX0_count_7 := dk_seg dksX0_count_6 22 rfl rfl
theorem dX0_count_0 : decode cX0_count 0 = .ok (.iload_n 1, 1) := dk_27 (dk_at dksX0_count_0 0 rfl rfl)
theorem dX0_count_1 : decode cX0_count 1 = .ok (.tableswitch 157 0 10 #[59, 70, 78, 89, 97, 102, 113, 121, 129, 141, 149], 59) := by decide +kernel
theorem dX0_count_60 : decode cX0_count 60 = .ok (.aload_n 0, 1) := dk_42 (dk_at dksX0_count_2 0 rfl rfl)
theorem dX0_count_61 : decode cX0_count 61 = .ok (.getfield 31, 3) := dk_180 0 31 (dk_at dksX0_count_2 1 rfl rfl)
theorem dX0_count_64 : decode cX0_count 64 = .ok (.getfield 111, 3) := dk_180 0 111 (dk_at dksX0_count_2 4 rfl rfl)
theorem dX0_count_67 : decode cX0_count 67 = .ok (.invokevirtual 115, 3) := dk_182 0 115 (dk_at dksX0_count_2 7 rfl rfl)
theorem dX0_count_70 : decode cX0_count 70 = .ok (.ireturn, 1) := dk_172 (dk_at dksX0_count_2 10 rfl rfl)
theorem dX0_count_71 : decode cX0_count 71 = .ok (.aload_n 0, 1) := dk_42 (dk_at dksX0_count_2 11 rfl rfl)
theorem dX0_count_72 : decode cX0_count 72 = .ok (.getfield 31, 3) := dk_180 0 31 (dk_at dksX0_count_2 12 rfl rfl)
theorem dX0_count_75 : decode cX0_count 75 = .ok (.getfield 224, 3) := dk_180 0 224 (dk_at dksX0_count_2 15 rfl rfl)
theorem dX0_count_78 : decode cX0_count 78 = .ok (.ireturn, 1) := dk_172 (dk_at dksX0_count_2 18 rfl rfl)
theorem dX0_count_79 : decode cX0_count 79 = .ok (.aload_n 0, 1) := dk_42 (dk_at dksX0_count_2 19 rfl rfl)
theorem dX0_count_80 : decode cX0_count 80 = .ok (.getfield 31, 3) := dk_180 0 31 (dk_at dksX0_count_2 20 rfl rfl)
theorem dX0_count_83 : decode cX0_count 83 = .ok (.getfield 239, 3) := dk_180 0 239 (dk_at dksX0_count_3 0 rfl rfl)
theorem dX0_count_86 : decode cX0_count 86 = .ok (.invokevirtual 115, 3) := dk_182 0 115 (dk_at dksX0_count_3 3 rfl rfl)
theorem dX0_count_89 : decode cX0_count 89 = .ok (.ireturn, 1) := dk_172 (dk_at dksX0_count_3 6 rfl rfl)
theorem dX0_count_90 : decode cX0_count 90 = .ok (.aload_n 0, 1) := dk_42 (dk_at dksX0_count_3 7 rfl rfl)
theorem dX0_count_91 : decode cX0_count 91 = .ok (.getfield 31, 3) := dk_180 0 31 (dk_at dksX0_count_3 8 rfl rfl)
theorem dX0_count_94 : decode cX0_count 94 = .ok (.invokevirtual 350, 3) := dk_182 1 94 (dk_at dksX0_count_3 11 rfl rfl)
theorem dX0_count_97 : decode cX0_count 97 = .ok (.ireturn, 1) := dk_172 (dk_at dksX0_count_3 14 rfl rfl)
theorem dX0_count_98 : decode cX0_count 98 = .ok (.aload_n 0, 1) := dk_42 (dk_at dksX0_count_3 15 rfl rfl)
theorem dX0_count_99 : decode cX0_count 99 = .ok (.invokevirtual 353, 3) := dk_182 1 97 (dk_at dksX0_count_3 16 rfl rfl)
theorem dX0_count_102 : decode cX0_count 102 = .ok (.ireturn, 1) := dk_172 (dk_at dksX0_count_3 19 rfl rfl)
theorem dX0_count_103 : decode cX0_count 103 = .ok (.aload_n 0, 1) := dk_42 (dk_at dksX0_count_3 20 rfl rfl)
theorem dX0_count_104 : decode cX0_count 104 = .ok (.getfield 31, 3) := dk_180 0 31 (dk_at dksX0_count_3 21 rfl rfl)
theorem dX0_count_107 : decode cX0_count 107 = .ok (.getfield 327, 3) := dk_180 1 71 (dk_at dksX0_count_4 0 rfl rfl)
theorem dX0_count_110 : decode cX0_count 110 = .ok (.invokevirtual 115, 3) := dk_182 0 115 (dk_at dksX0_count_4 3 rfl rfl)
theorem dX0_count_113 : decode cX0_count 113 = .ok (.ireturn, 1) := dk_172 (dk_at dksX0_count_4 6 rfl rfl)
theorem dX0_count_114 : decode cX0_count 114 = .ok (.aload_n 0, 1) := dk_42 (dk_at dksX0_count_4 7 rfl rfl)
theorem dX0_count_115 : decode cX0_count 115 = .ok (.getfield 31, 3) := dk_180 0 31 (dk_at dksX0_count_4 8 rfl rfl)
theorem dX0_count_118 : decode cX0_count 118 = .ok (.getfield 335, 3) := dk_180 1 79 (dk_at dksX0_count_4 11 rfl rfl)
theorem dX0_count_121 : decode cX0_count 121 = .ok (.ireturn, 1) := dk_172 (dk_at dksX0_count_4 14 rfl rfl)
theorem dX0_count_122 : decode cX0_count 122 = .ok (.aload_n 0, 1) := dk_42 (dk_at dksX0_count_4 15 rfl rfl)
theorem dX0_count_123 : decode cX0_count 123 = .ok (.getfield 31, 3) := dk_180 0 31 (dk_at dksX0_count_4 16 rfl rfl)
theorem dX0_count_126 : decode cX0_count 126 = .ok (.getfield 356, 3) := dk_180 1 100 (dk_at dksX0_count_4 19 rfl rfl)
theorem dX0_count_129 : decode cX0_count 129 = .ok (.ireturn, 1) := dk_172 (dk_at dksX0_count_4 22 rfl rfl)
theorem dX0_count_130 : decode cX0_count 130 = .ok (.aload_n 0, 1) := dk_42 (dk_at dksX0_count_4 23 rfl rfl)
theorem dX0_count_131 : decode cX0_count 131 = .ok (.getfield 31, 3) := dk_180 0 31 (dk_at dksX0_count_5 0 rfl rfl)
theorem dX0_count_134 : decode cX0_count 134 = .ok (.getfield 356, 3) := dk_180 1 100 (dk_at dksX0_count_5 3 rfl rfl)
theorem dX0_count_137 : decode cX0_count 137 = .ok (.sipush 1440, 3) := dk_17 5 160 (dk_at dksX0_count_5 6 rfl rfl)
theorem dX0_count_140 : decode cX0_count 140 = .ok (.irem, 1) := dk_112 (dk_at dksX0_count_5 9 rfl rfl)
theorem dX0_count_141 : decode cX0_count 141 = .ok (.ireturn, 1) := dk_172 (dk_at dksX0_count_5 10 rfl rfl)
theorem dX0_count_142 : decode cX0_count 142 = .ok (.aload_n 0, 1) := dk_42 (dk_at dksX0_count_5 11 rfl rfl)
theorem dX0_count_143 : decode cX0_count 143 = .ok (.getfield 40, 3) := dk_180 0 40 (dk_at dksX0_count_5 12 rfl rfl)
theorem dX0_count_146 : decode cX0_count 146 = .ok (.invokevirtual 58, 3) := dk_182 0 58 (dk_at dksX0_count_5 15 rfl rfl)
theorem dX0_count_149 : decode cX0_count 149 = .ok (.ireturn, 1) := dk_172 (dk_at dksX0_count_5 18 rfl rfl)
theorem dX0_count_150 : decode cX0_count 150 = .ok (.aload_n 0, 1) := dk_42 (dk_at dksX0_count_5 19 rfl rfl)
theorem dX0_count_151 : decode cX0_count 151 = .ok (.getfield 47, 3) := dk_180 0 47 (dk_at dksX0_count_5 20 rfl rfl)
theorem dX0_count_154 : decode cX0_count 154 = .ok (.invokevirtual 359, 3) := dk_182 1 103 (dk_at dksX0_count_6 0 rfl rfl)
theorem dX0_count_157 : decode cX0_count 157 = .ok (.ireturn, 1) := dk_172 (dk_at dksX0_count_6 3 rfl rfl)
theorem dX0_count_158 : decode cX0_count 158 = .ok (.iload_n 1, 1) := dk_27 (dk_at dksX0_count_6 4 rfl rfl)
theorem dX0_count_159 : decode cX0_count 159 = .ok (.i2l, 1) := dk_133 (dk_at dksX0_count_6 5 rfl rfl)
theorem dX0_count_160 : decode cX0_count 160 = .ok (.ldc2_w 362, 3) := dk_20 1 106 (dk_at dksX0_count_6 6 rfl rfl)
theorem dX0_count_163 : decode cX0_count 163 = .ok (.ldc2_w 364, 3) := dk_20 1 108 (dk_at dksX0_count_6 9 rfl rfl)
theorem dX0_count_166 : decode cX0_count 166 = .ok (.invokestatic 70, 3) := dk_184 0 70 (dk_at dksX0_count_6 12 rfl rfl)
theorem dX0_count_169 : decode cX0_count 169 = .ok (.ifCond .eq 18, 3) := dk_153 0 18 (dk_at dksX0_count_6 15 rfl rfl)
theorem dX0_count_172 : decode cX0_count 172 = .ok (.aload_n 0, 1) := dk_42 (dk_at dksX0_count_6 18 rfl rfl)
theorem dX0_count_173 : decode cX0_count 173 = .ok (.getfield 31, 3) := dk_180 0 31 (dk_at dksX0_count_6 19 rfl rfl)
theorem dX0_count_176 : decode cX0_count 176 = .ok (.getfield 99, 3) := dk_180 0 99 (dk_at dksX0_count_7 0 rfl rfl)
theorem dX0_count_179 : decode cX0_count 179 = .ok (.iload_n 1, 1) := dk_27 (dk_at dksX0_count_7 3 rfl rfl)
theorem dX0_count_180 : decode cX0_count 180 = .ok (.bipush 20, 2) := dk_16 20 (dk_at dksX0_count_7 4 rfl rfl)
theorem dX0_count_182 : decode cX0_count 182 = .ok (.isub, 1) := dk_100 (dk_at dksX0_count_7 6 rfl rfl)
theorem dX0_count_183 : decode cX0_count 183 = .ok (.iaload, 1) := dk_46 (dk_at dksX0_count_7 7 rfl rfl)
theorem dX0_count_184 : decode cX0_count 184 = .ok (.goto 5, 3) := dk_167 0 5 (dk_at dksX0_count_7 8 rfl rfl)
theorem dX0_count_187 : decode cX0_count 187 = .ok (.ldc 98, 2) := dk_18 98 (dk_at dksX0_count_7 11 rfl rfl)
theorem dX0_count_189 : decode cX0_count 189 = .ok (.ireturn, 1) := dk_172 (dk_at dksX0_count_7 13 rfl rfl)
abbrev cX0_readyMany : ByteArray := prog_1_method_30_code
def yX0_readyMany : MethodName := ⟨RX0, "readyMany", "()I"⟩
def dkwX0_readyMany_2 : List UInt8 := [167, 255, 222, 27, 172]
abbrev dktX0_readyMany_2 : List UInt8 := dkwX0_readyMany_2 ++ []
def dkwX0_readyMany_1 : List UInt8 := [185, 0, 213, 1, 0, 192, 0, 135, 78, 27, 45, 182, 1, 91, 153, 0, 7, 4, 167, 0, 4, 3, 96, 60]
abbrev dktX0_readyMany_1 : List UInt8 := dkwX0_readyMany_1 ++ dktX0_readyMany_2
def dkwX0_readyMany_0 : List UInt8 := [3, 60, 42, 180, 0, 31, 180, 0, 111, 182, 0, 204, 77, 44, 185, 0, 208, 1, 0, 153, 0, 31, 44]
abbrev dktX0_readyMany_0 : List UInt8 := dkwX0_readyMany_0 ++ dktX0_readyMany_1
theorem dksX0_readyMany_0 : cX0_readyMany.data.toList.drop 0 = dktX0_readyMany_0 := by decide +kernel
theorem dksX0_readyMany_1 : cX0_readyMany.data.toList.drop 23 = dktX0_readyMany_1 := dk_seg dksX0_readyMany_0 23 rfl rfl
theorem dksX0_readyMany_2 : cX0_readyMany.data.toList.drop 47 = dktX0_readyMany_2 := dk_seg dksX0_readyMany_1 24 rfl rfl
theorem dX0_readyMany_0 : decode cX0_readyMany 0 = .ok (.iconst 0, 1) := dk_3 (dk_at dksX0_readyMany_0 0 rfl rfl)
theorem dX0_readyMany_1 : decode cX0_readyMany 1 = .ok (.istore_n 1, 1) := dk_60 (dk_at dksX0_readyMany_0 1 rfl rfl)
theorem dX0_readyMany_2 : decode cX0_readyMany 2 = .ok (.aload_n 0, 1) := dk_42 (dk_at dksX0_readyMany_0 2 rfl rfl)
theorem dX0_readyMany_3 : decode cX0_readyMany 3 = .ok (.getfield 31, 3) := dk_180 0 31 (dk_at dksX0_readyMany_0 3 rfl rfl)
theorem dX0_readyMany_6 : decode cX0_readyMany 6 = .ok (.getfield 111, 3) := dk_180 0 111 (dk_at dksX0_readyMany_0 6 rfl rfl)
theorem dX0_readyMany_9 : decode cX0_readyMany 9 = .ok (.invokevirtual 204, 3) := dk_182 0 204 (dk_at dksX0_readyMany_0 9 rfl rfl)
theorem dX0_readyMany_12 : decode cX0_readyMany 12 = .ok (.astore_n 2, 1) := dk_77 (dk_at dksX0_readyMany_0 12 rfl rfl)
theorem dX0_readyMany_13 : decode cX0_readyMany 13 = .ok (.aload_n 2, 1) := dk_44 (dk_at dksX0_readyMany_0 13 rfl rfl)
theorem dX0_readyMany_14 : decode cX0_readyMany 14 = .ok (.invokeinterface 208 1, 5) := by decide +kernel
theorem dX0_readyMany_19 : decode cX0_readyMany 19 = .ok (.ifCond .eq 31, 3) := dk_153 0 31 (dk_at dksX0_readyMany_0 19 rfl rfl)
theorem dX0_readyMany_22 : decode cX0_readyMany 22 = .ok (.aload_n 2, 1) := dk_44 (dk_at dksX0_readyMany_0 22 rfl rfl)
theorem dX0_readyMany_23 : decode cX0_readyMany 23 = .ok (.invokeinterface 213 1, 5) := by decide +kernel
theorem dX0_readyMany_28 : decode cX0_readyMany 28 = .ok (.checkcast 135, 3) := dk_192 0 135 (dk_at dksX0_readyMany_1 5 rfl rfl)
theorem dX0_readyMany_31 : decode cX0_readyMany 31 = .ok (.astore_n 3, 1) := dk_78 (dk_at dksX0_readyMany_1 8 rfl rfl)
theorem dX0_readyMany_32 : decode cX0_readyMany 32 = .ok (.iload_n 1, 1) := dk_27 (dk_at dksX0_readyMany_1 9 rfl rfl)
theorem dX0_readyMany_33 : decode cX0_readyMany 33 = .ok (.aload_n 3, 1) := dk_45 (dk_at dksX0_readyMany_1 10 rfl rfl)
theorem dX0_readyMany_34 : decode cX0_readyMany 34 = .ok (.invokevirtual 347, 3) := dk_182 1 91 (dk_at dksX0_readyMany_1 11 rfl rfl)
theorem dX0_readyMany_37 : decode cX0_readyMany 37 = .ok (.ifCond .eq 7, 3) := dk_153 0 7 (dk_at dksX0_readyMany_1 14 rfl rfl)
theorem dX0_readyMany_40 : decode cX0_readyMany 40 = .ok (.iconst 1, 1) := dk_4 (dk_at dksX0_readyMany_1 17 rfl rfl)
theorem dX0_readyMany_41 : decode cX0_readyMany 41 = .ok (.goto 4, 3) := dk_167 0 4 (dk_at dksX0_readyMany_1 18 rfl rfl)
theorem dX0_readyMany_44 : decode cX0_readyMany 44 = .ok (.iconst 0, 1) := dk_3 (dk_at dksX0_readyMany_1 21 rfl rfl)
theorem dX0_readyMany_45 : decode cX0_readyMany 45 = .ok (.iadd, 1) := dk_96 (dk_at dksX0_readyMany_1 22 rfl rfl)
theorem dX0_readyMany_46 : decode cX0_readyMany 46 = .ok (.istore_n 1, 1) := dk_60 (dk_at dksX0_readyMany_1 23 rfl rfl)
theorem dX0_readyMany_47 : decode cX0_readyMany 47 = .ok (.goto (-34), 3) := dk_167 255 222 (dk_at dksX0_readyMany_2 0 rfl rfl)
theorem dX0_readyMany_50 : decode cX0_readyMany 50 = .ok (.iload_n 1, 1) := dk_27 (dk_at dksX0_readyMany_2 3 rfl rfl)
theorem dX0_readyMany_51 : decode cX0_readyMany 51 = .ok (.ireturn, 1) := dk_172 (dk_at dksX0_readyMany_2 4 rfl rfl)
abbrev cX0_undo : ByteArray := prog_1_method_32_code
def yX0_undo : MethodName := ⟨RX0, "undo", "()I"⟩
def dkwX0_undo_1 : List UInt8 := [181, 0, 31, 42, 180, 0, 40, 182, 0, 58, 172]
abbrev dktX0_undo_1 : List UInt8 := dkwX0_undo_1 ++ []
def dkwX0_undo_0 : List UInt8 := [42, 180, 0, 40, 182, 1, 110, 153, 0, 6, 18, 141, 172, 42, 42, 180, 0, 40, 182, 1, 111, 192, 0, 28]
abbrev dktX0_undo_0 : List UInt8 := dkwX0_undo_0 ++ dktX0_undo_1
theorem dksX0_undo_0 : cX0_undo.data.toList.drop 0 = dktX0_undo_0 := by decide +kernel
theorem dksX0_undo_1 : cX0_undo.data.toList.drop 24 = dktX0_undo_1 := dk_seg dksX0_undo_0 24 rfl rfl
theorem dX0_undo_0 : decode cX0_undo 0 = .ok (.aload_n 0, 1) := dk_42 (dk_at dksX0_undo_0 0 rfl rfl)
theorem dX0_undo_1 : decode cX0_undo 1 = .ok (.getfield 40, 3) := dk_180 0 40 (dk_at dksX0_undo_0 1 rfl rfl)
theorem dX0_undo_4 : decode cX0_undo 4 = .ok (.invokevirtual 366, 3) := dk_182 1 110 (dk_at dksX0_undo_0 4 rfl rfl)
theorem dX0_undo_7 : decode cX0_undo 7 = .ok (.ifCond .eq 6, 3) := dk_153 0 6 (dk_at dksX0_undo_0 7 rfl rfl)
theorem dX0_undo_10 : decode cX0_undo 10 = .ok (.ldc 141, 2) := dk_18 141 (dk_at dksX0_undo_0 10 rfl rfl)
theorem dX0_undo_12 : decode cX0_undo 12 = .ok (.ireturn, 1) := dk_172 (dk_at dksX0_undo_0 12 rfl rfl)
theorem dX0_undo_13 : decode cX0_undo 13 = .ok (.aload_n 0, 1) := dk_42 (dk_at dksX0_undo_0 13 rfl rfl)
theorem dX0_undo_14 : decode cX0_undo 14 = .ok (.aload_n 0, 1) := dk_42 (dk_at dksX0_undo_0 14 rfl rfl)
theorem dX0_undo_15 : decode cX0_undo 15 = .ok (.getfield 40, 3) := dk_180 0 40 (dk_at dksX0_undo_0 15 rfl rfl)
theorem dX0_undo_18 : decode cX0_undo 18 = .ok (.invokevirtual 367, 3) := dk_182 1 111 (dk_at dksX0_undo_0 18 rfl rfl)
theorem dX0_undo_21 : decode cX0_undo 21 = .ok (.checkcast 28, 3) := dk_192 0 28 (dk_at dksX0_undo_0 21 rfl rfl)
theorem dX0_undo_24 : decode cX0_undo 24 = .ok (.putfield 31, 3) := dk_181 0 31 (dk_at dksX0_undo_1 0 rfl rfl)
theorem dX0_undo_27 : decode cX0_undo 27 = .ok (.aload_n 0, 1) := dk_42 (dk_at dksX0_undo_1 3 rfl rfl)
theorem dX0_undo_28 : decode cX0_undo 28 = .ok (.getfield 40, 3) := dk_180 0 40 (dk_at dksX0_undo_1 4 rfl rfl)
theorem dX0_undo_31 : decode cX0_undo 31 = .ok (.invokevirtual 58, 3) := dk_182 0 58 (dk_at dksX0_undo_1 7 rfl rfl)
theorem dX0_undo_34 : decode cX0_undo 34 = .ok (.ireturn, 1) := dk_172 (dk_at dksX0_undo_1 10 rfl rfl)
abbrev cX0_type : ByteArray := prog_1_method_33_code
def yX0_type : MethodName := ⟨RX0, "type", "(I)I"⟩
def dkwX0_type_2 : List UInt8 := [182, 1, 103, 172]
abbrev dktX0_type_2 : List UInt8 := dkwX0_type_2 ++ []
def dkwX0_type_1 : List UInt8 := [16, 60, 160, 0, 6, 18, 118, 172, 42, 180, 0, 47, 27, 146, 182, 1, 118, 87, 42, 180, 0, 47]
abbrev dktX0_type_1 : List UInt8 := dkwX0_type_1 ++ dktX0_type_2
def dkwX0_type_0 : List UInt8 := [27, 133, 20, 1, 114, 20, 1, 116, 184, 0, 70, 154, 0, 6, 18, 98, 172, 42, 180, 0, 47, 182, 1, 103]
abbrev dktX0_type_0 : List UInt8 := dkwX0_type_0 ++ dktX0_type_1
theorem dksX0_type_0 : cX0_type.data.toList.drop 0 = dktX0_type_0 := by decide +kernel
theorem dksX0_type_1 : cX0_type.data.toList.drop 24 = dktX0_type_1 := dk_seg dksX0_type_0 24 rfl rfl
theorem dksX0_type_2 : cX0_type.data.toList.drop 46 = dktX0_type_2 := dk_seg dksX0_type_1 22 rfl rfl
theorem dX0_type_0 : decode cX0_type 0 = .ok (.iload_n 1, 1) := dk_27 (dk_at dksX0_type_0 0 rfl rfl)
theorem dX0_type_1 : decode cX0_type 1 = .ok (.i2l, 1) := dk_133 (dk_at dksX0_type_0 1 rfl rfl)
theorem dX0_type_2 : decode cX0_type 2 = .ok (.ldc2_w 370, 3) := dk_20 1 114 (dk_at dksX0_type_0 2 rfl rfl)
theorem dX0_type_5 : decode cX0_type 5 = .ok (.ldc2_w 372, 3) := dk_20 1 116 (dk_at dksX0_type_0 5 rfl rfl)
theorem dX0_type_8 : decode cX0_type 8 = .ok (.invokestatic 70, 3) := dk_184 0 70 (dk_at dksX0_type_0 8 rfl rfl)
theorem dX0_type_11 : decode cX0_type 11 = .ok (.ifCond .ne 6, 3) := dk_154 0 6 (dk_at dksX0_type_0 11 rfl rfl)
theorem dX0_type_14 : decode cX0_type 14 = .ok (.ldc 98, 2) := dk_18 98 (dk_at dksX0_type_0 14 rfl rfl)
theorem dX0_type_16 : decode cX0_type 16 = .ok (.ireturn, 1) := dk_172 (dk_at dksX0_type_0 16 rfl rfl)
theorem dX0_type_17 : decode cX0_type 17 = .ok (.aload_n 0, 1) := dk_42 (dk_at dksX0_type_0 17 rfl rfl)
theorem dX0_type_18 : decode cX0_type 18 = .ok (.getfield 47, 3) := dk_180 0 47 (dk_at dksX0_type_0 18 rfl rfl)
theorem dX0_type_21 : decode cX0_type 21 = .ok (.invokevirtual 359, 3) := dk_182 1 103 (dk_at dksX0_type_0 21 rfl rfl)
theorem dX0_type_24 : decode cX0_type 24 = .ok (.bipush 60, 2) := dk_16 60 (dk_at dksX0_type_1 0 rfl rfl)
theorem dX0_type_26 : decode cX0_type 26 = .ok (.if_icmp .ne 6, 3) := dk_160 0 6 (dk_at dksX0_type_1 2 rfl rfl)
theorem dX0_type_29 : decode cX0_type 29 = .ok (.ldc 118, 2) := dk_18 118 (dk_at dksX0_type_1 5 rfl rfl)
theorem dX0_type_31 : decode cX0_type 31 = .ok (.ireturn, 1) := dk_172 (dk_at dksX0_type_1 7 rfl rfl)
theorem dX0_type_32 : decode cX0_type 32 = .ok (.aload_n 0, 1) := dk_42 (dk_at dksX0_type_1 8 rfl rfl)
theorem dX0_type_33 : decode cX0_type 33 = .ok (.getfield 47, 3) := dk_180 0 47 (dk_at dksX0_type_1 9 rfl rfl)
theorem dX0_type_36 : decode cX0_type 36 = .ok (.iload_n 1, 1) := dk_27 (dk_at dksX0_type_1 12 rfl rfl)
theorem dX0_type_37 : decode cX0_type 37 = .ok (.i2c, 1) := dk_146 (dk_at dksX0_type_1 13 rfl rfl)
theorem dX0_type_38 : decode cX0_type 38 = .ok (.invokevirtual 374, 3) := dk_182 1 118 (dk_at dksX0_type_1 14 rfl rfl)
theorem dX0_type_41 : decode cX0_type 41 = .ok (.pop, 1) := dk_87 (dk_at dksX0_type_1 17 rfl rfl)
theorem dX0_type_42 : decode cX0_type 42 = .ok (.aload_n 0, 1) := dk_42 (dk_at dksX0_type_1 18 rfl rfl)
theorem dX0_type_43 : decode cX0_type 43 = .ok (.getfield 47, 3) := dk_180 0 47 (dk_at dksX0_type_1 19 rfl rfl)
theorem dX0_type_46 : decode cX0_type 46 = .ok (.invokevirtual 359, 3) := dk_182 1 103 (dk_at dksX0_type_2 0 rfl rfl)
theorem dX0_type_49 : decode cX0_type 49 = .ok (.ireturn, 1) := dk_172 (dk_at dksX0_type_2 3 rfl rfl)
abbrev cX0_clearText : ByteArray := prog_1_method_34_code
def yX0_clearText : MethodName := ⟨RX0, "clearText", "()I"⟩
def dkwX0_clearText_0 : List UInt8 := [42, 180, 0, 47, 182, 1, 103, 60, 42, 180, 0, 47, 3, 182, 1, 122, 27, 172]
abbrev dktX0_clearText_0 : List UInt8 := dkwX0_clearText_0 ++ []
theorem dksX0_clearText_0 : cX0_clearText.data.toList.drop 0 = dktX0_clearText_0 := by decide +kernel
theorem dX0_clearText_0 : decode cX0_clearText 0 = .ok (.aload_n 0, 1) := dk_42 (dk_at dksX0_clearText_0 0 rfl rfl)
theorem dX0_clearText_1 : decode cX0_clearText 1 = .ok (.getfield 47, 3) := dk_180 0 47 (dk_at dksX0_clearText_0 1 rfl rfl)
theorem dX0_clearText_4 : decode cX0_clearText 4 = .ok (.invokevirtual 359, 3) := dk_182 1 103 (dk_at dksX0_clearText_0 4 rfl rfl)
theorem dX0_clearText_7 : decode cX0_clearText 7 = .ok (.istore_n 1, 1) := dk_60 (dk_at dksX0_clearText_0 7 rfl rfl)
theorem dX0_clearText_8 : decode cX0_clearText 8 = .ok (.aload_n 0, 1) := dk_42 (dk_at dksX0_clearText_0 8 rfl rfl)
theorem dX0_clearText_9 : decode cX0_clearText 9 = .ok (.getfield 47, 3) := dk_180 0 47 (dk_at dksX0_clearText_0 9 rfl rfl)
theorem dX0_clearText_12 : decode cX0_clearText 12 = .ok (.iconst 0, 1) := dk_3 (dk_at dksX0_clearText_0 12 rfl rfl)
theorem dX0_clearText_13 : decode cX0_clearText 13 = .ok (.invokevirtual 378, 3) := dk_182 1 122 (dk_at dksX0_clearText_0 13 rfl rfl)
theorem dX0_clearText_16 : decode cX0_clearText 16 = .ok (.iload_n 1, 1) := dk_27 (dk_at dksX0_clearText_0 16 rfl rfl)
theorem dX0_clearText_17 : decode cX0_clearText 17 = .ok (.ireturn, 1) := dk_172 (dk_at dksX0_clearText_0 17 rfl rfl)
abbrev cX0_fault : ByteArray := prog_1_method_35_code
def yX0_fault : MethodName := ⟨RX0, "fault", "(I)I"⟩
def dkwX0_fault_2 : List UInt8 := [180, 1, 137, 172]
abbrev dktX0_fault_2 : List UInt8 := dkwX0_fault_2 ++ []
def dkwX0_fault_1 : List UInt8 := [182, 1, 131, 153, 0, 8, 18, 193, 167, 0, 18, 27, 154, 0, 10, 44, 180, 1, 134, 167, 0, 7, 44]
abbrev dktX0_fault_1 : List UInt8 := dkwX0_fault_1 ++ dktX0_fault_2
def dkwX0_fault_0 : List UInt8 := [27, 133, 9, 10, 184, 0, 70, 154, 0, 6, 18, 98, 172, 187, 1, 126, 89, 42, 183, 1, 128, 77, 44]
abbrev dktX0_fault_0 : List UInt8 := dkwX0_fault_0 ++ dktX0_fault_1
theorem dksX0_fault_0 : cX0_fault.data.toList.drop 0 = dktX0_fault_0 := by decide +kernel
theorem dksX0_fault_1 : cX0_fault.data.toList.drop 23 = dktX0_fault_1 := dk_seg dksX0_fault_0 23 rfl rfl
theorem dksX0_fault_2 : cX0_fault.data.toList.drop 46 = dktX0_fault_2 := dk_seg dksX0_fault_1 23 rfl rfl
theorem dX0_fault_0 : decode cX0_fault 0 = .ok (.iload_n 1, 1) := dk_27 (dk_at dksX0_fault_0 0 rfl rfl)
theorem dX0_fault_1 : decode cX0_fault 1 = .ok (.i2l, 1) := dk_133 (dk_at dksX0_fault_0 1 rfl rfl)
theorem dX0_fault_2 : decode cX0_fault 2 = .ok (.lconst 0, 1) := dk_9 (dk_at dksX0_fault_0 2 rfl rfl)
theorem dX0_fault_3 : decode cX0_fault 3 = .ok (.lconst 1, 1) := dk_10 (dk_at dksX0_fault_0 3 rfl rfl)
theorem dX0_fault_4 : decode cX0_fault 4 = .ok (.invokestatic 70, 3) := dk_184 0 70 (dk_at dksX0_fault_0 4 rfl rfl)
theorem dX0_fault_7 : decode cX0_fault 7 = .ok (.ifCond .ne 6, 3) := dk_154 0 6 (dk_at dksX0_fault_0 7 rfl rfl)
theorem dX0_fault_10 : decode cX0_fault 10 = .ok (.ldc 98, 2) := dk_18 98 (dk_at dksX0_fault_0 10 rfl rfl)
theorem dX0_fault_12 : decode cX0_fault 12 = .ok (.ireturn, 1) := dk_172 (dk_at dksX0_fault_0 12 rfl rfl)
theorem dX0_fault_13 : decode cX0_fault 13 = .ok (.new 382, 3) := dk_187 1 126 (dk_at dksX0_fault_0 13 rfl rfl)
theorem dX0_fault_16 : decode cX0_fault 16 = .ok (.dup, 1) := dk_89 (dk_at dksX0_fault_0 16 rfl rfl)
theorem dX0_fault_17 : decode cX0_fault 17 = .ok (.aload_n 0, 1) := dk_42 (dk_at dksX0_fault_0 17 rfl rfl)
theorem dX0_fault_18 : decode cX0_fault 18 = .ok (.invokespecial 384, 3) := dk_183 1 128 (dk_at dksX0_fault_0 18 rfl rfl)
theorem dX0_fault_21 : decode cX0_fault 21 = .ok (.astore_n 2, 1) := dk_77 (dk_at dksX0_fault_0 21 rfl rfl)
theorem dX0_fault_22 : decode cX0_fault 22 = .ok (.aload_n 2, 1) := dk_44 (dk_at dksX0_fault_0 22 rfl rfl)
theorem dX0_fault_23 : decode cX0_fault 23 = .ok (.invokevirtual 387, 3) := dk_182 1 131 (dk_at dksX0_fault_1 0 rfl rfl)
theorem dX0_fault_26 : decode cX0_fault 26 = .ok (.ifCond .eq 8, 3) := dk_153 0 8 (dk_at dksX0_fault_1 3 rfl rfl)
theorem dX0_fault_29 : decode cX0_fault 29 = .ok (.ldc 193, 2) := dk_18 193 (dk_at dksX0_fault_1 6 rfl rfl)
theorem dX0_fault_31 : decode cX0_fault 31 = .ok (.goto 18, 3) := dk_167 0 18 (dk_at dksX0_fault_1 8 rfl rfl)
theorem dX0_fault_34 : decode cX0_fault 34 = .ok (.iload_n 1, 1) := dk_27 (dk_at dksX0_fault_1 11 rfl rfl)
theorem dX0_fault_35 : decode cX0_fault 35 = .ok (.ifCond .ne 10, 3) := dk_154 0 10 (dk_at dksX0_fault_1 12 rfl rfl)
theorem dX0_fault_38 : decode cX0_fault 38 = .ok (.aload_n 2, 1) := dk_44 (dk_at dksX0_fault_1 15 rfl rfl)
theorem dX0_fault_39 : decode cX0_fault 39 = .ok (.getfield 390, 3) := dk_180 1 134 (dk_at dksX0_fault_1 16 rfl rfl)
theorem dX0_fault_42 : decode cX0_fault 42 = .ok (.goto 7, 3) := dk_167 0 7 (dk_at dksX0_fault_1 19 rfl rfl)
theorem dX0_fault_45 : decode cX0_fault 45 = .ok (.aload_n 2, 1) := dk_44 (dk_at dksX0_fault_1 22 rfl rfl)
theorem dX0_fault_46 : decode cX0_fault 46 = .ok (.getfield 393, 3) := dk_180 1 137 (dk_at dksX0_fault_2 0 rfl rfl)
theorem dX0_fault_49 : decode cX0_fault 49 = .ok (.ireturn, 1) := dk_172 (dk_at dksX0_fault_2 3 rfl rfl)
abbrev cX0_play : ByteArray := prog_1_method_36_code
def yX0_play : MethodName := ⟨RX0, "play", "()I"⟩
def dkwX0_play_1 : List UInt8 := [42, 43, 180, 1, 140, 181, 0, 31, 43, 180, 1, 143, 172]
abbrev dktX0_play_1 : List UInt8 := dkwX0_play_1 ++ []
def dkwX0_play_0 : List UInt8 := [187, 1, 126, 89, 42, 183, 1, 128, 76, 43, 182, 1, 131, 154, 0, 6, 18, 141, 172, 42, 182, 0, 103, 77]
abbrev dktX0_play_0 : List UInt8 := dkwX0_play_0 ++ dktX0_play_1
theorem dksX0_play_0 : cX0_play.data.toList.drop 0 = dktX0_play_0 := by decide +kernel
theorem dksX0_play_1 : cX0_play.data.toList.drop 24 = dktX0_play_1 := dk_seg dksX0_play_0 24 rfl rfl
theorem dX0_play_0 : decode cX0_play 0 = .ok (.new 382, 3) := dk_187 1 126 (dk_at dksX0_play_0 0 rfl rfl)
theorem dX0_play_3 : decode cX0_play 3 = .ok (.dup, 1) := dk_89 (dk_at dksX0_play_0 3 rfl rfl)
theorem dX0_play_4 : decode cX0_play 4 = .ok (.aload_n 0, 1) := dk_42 (dk_at dksX0_play_0 4 rfl rfl)
theorem dX0_play_5 : decode cX0_play 5 = .ok (.invokespecial 384, 3) := dk_183 1 128 (dk_at dksX0_play_0 5 rfl rfl)
theorem dX0_play_8 : decode cX0_play 8 = .ok (.astore_n 1, 1) := dk_76 (dk_at dksX0_play_0 8 rfl rfl)
theorem dX0_play_9 : decode cX0_play 9 = .ok (.aload_n 1, 1) := dk_43 (dk_at dksX0_play_0 9 rfl rfl)
theorem dX0_play_10 : decode cX0_play 10 = .ok (.invokevirtual 387, 3) := dk_182 1 131 (dk_at dksX0_play_0 10 rfl rfl)
theorem dX0_play_13 : decode cX0_play 13 = .ok (.ifCond .ne 6, 3) := dk_154 0 6 (dk_at dksX0_play_0 13 rfl rfl)
theorem dX0_play_16 : decode cX0_play 16 = .ok (.ldc 141, 2) := dk_18 141 (dk_at dksX0_play_0 16 rfl rfl)
theorem dX0_play_18 : decode cX0_play 18 = .ok (.ireturn, 1) := dk_172 (dk_at dksX0_play_0 18 rfl rfl)
theorem dX0_play_19 : decode cX0_play 19 = .ok (.aload_n 0, 1) := dk_42 (dk_at dksX0_play_0 19 rfl rfl)
theorem dX0_play_20 : decode cX0_play 20 = .ok (.invokevirtual 103, 3) := dk_182 0 103 (dk_at dksX0_play_0 20 rfl rfl)
theorem dX0_play_23 : decode cX0_play 23 = .ok (.astore_n 2, 1) := dk_77 (dk_at dksX0_play_0 23 rfl rfl)
theorem dX0_play_24 : decode cX0_play 24 = .ok (.aload_n 0, 1) := dk_42 (dk_at dksX0_play_1 0 rfl rfl)
theorem dX0_play_25 : decode cX0_play 25 = .ok (.aload_n 1, 1) := dk_43 (dk_at dksX0_play_1 1 rfl rfl)
theorem dX0_play_26 : decode cX0_play 26 = .ok (.getfield 396, 3) := dk_180 1 140 (dk_at dksX0_play_1 2 rfl rfl)
theorem dX0_play_29 : decode cX0_play 29 = .ok (.putfield 31, 3) := dk_181 0 31 (dk_at dksX0_play_1 5 rfl rfl)
theorem dX0_play_32 : decode cX0_play 32 = .ok (.aload_n 1, 1) := dk_43 (dk_at dksX0_play_1 8 rfl rfl)
theorem dX0_play_33 : decode cX0_play 33 = .ok (.getfield 399, 3) := dk_180 1 143 (dk_at dksX0_play_1 9 rfl rfl)
theorem dX0_play_36 : decode cX0_play 36 = .ok (.ireturn, 1) := dk_172 (dk_at dksX0_play_1 12 rfl rfl)
theorem q96 : (Jvm.Cond.initialized "FieldPumps") ∈ lw_all := lw_g (lw_at lw_m1 1 rfl) rfl
theorem q139 : (Jvm.Cond.instantiable "FieldPumps" (3 : Nat)) ∈ lw_all := lw_g (lw_at lw_m1 44 rfl) rfl
theorem q141 : (Jvm.Cond.instanceMethod ({ cls := "FieldPumps", name := "<init>", desc := "()V" } : Jvm.MethodName)) ∈ lw_all := lw_g (lw_at lw_m1 46 rfl) rfl
theorem q142 : (Jvm.Cond.code ({ cls := "FieldPumps", name := "<init>", desc := "()V" } : Jvm.MethodName) prog_1_method_5_code (1 : Nat) (Option.none : Option Jvm.ClassFile.FieldType)) ∈ lw_all := lw_g (lw_at lw_m1 47 rfl) rfl
theorem q143 : (Jvm.Cond.methodLink "FieldPumps" (23 : Nat) ({ cls := "java/lang/Object", name := "<init>", desc := "()V" } : Jvm.MethodName)) ∈ lw_all := lw_g (lw_at lw_m1 48 rfl) rfl
theorem q146 : (Jvm.Cond.classLink "FieldPumps" (28 : Nat) "FieldPumps$Station") ∈ lw_all := lw_g (lw_at lw_m1 51 rfl) rfl
theorem q148 : (Jvm.Cond.methodLink "FieldPumps" (30 : Nat) ({ cls := "FieldPumps$Station", name := "<init>", desc := "()V" } : Jvm.MethodName)) ∈ lw_all := lw_g (lw_at lw_m1 53 rfl) rfl
theorem q287 : (Jvm.Cond.fieldLinkNest "FieldPumps" (111 : Nat) "FieldPumps$Station" "pumps" "Ljava/util/ArrayList;" "FieldPumps") ∈ lw_tbl := lw_at lw_m1 192 rfl
theorem q290 : (Jvm.Cond.fieldLinkNest "FieldPumps" (239 : Nat) "FieldPumps$Station" "programmes" "Ljava/util/ArrayList;" "FieldPumps") ∈ lw_tbl := lw_at lw_m1 195 rfl
theorem q292 : (Jvm.Cond.fieldLinkNest "FieldPumps" (341 : Nat) "FieldPumps$Station" "eventKinds" "[I" "FieldPumps") ∈ lw_tbl := lw_at lw_m1 197 rfl
theorem q294 : (Jvm.Cond.fieldLinkNest "FieldPumps" (344 : Nat) "FieldPumps$Station" "eventTimes" "[I" "FieldPumps") ∈ lw_tbl := lw_at lw_m1 199 rfl
theorem q296 : (Jvm.Cond.fieldLinkNest "FieldPumps" (338 : Nat) "FieldPumps$Station" "eventPumps" "[I" "FieldPumps") ∈ lw_tbl := lw_at lw_m1 201 rfl
theorem q298 : (Jvm.Cond.fieldLinkNest "FieldPumps" (335 : Nat) "FieldPumps$Station" "eventMany" "I" "FieldPumps") ∈ lw_tbl := lw_at lw_m1 203 rfl
theorem q300 : (Jvm.Cond.fieldLinkNest "FieldPumps" (327 : Nat) "FieldPumps$Station" "nights" "Ljava/util/ArrayList;" "FieldPumps") ∈ lw_tbl := lw_at lw_m1 205 rfl
theorem q302 : (Jvm.Cond.fieldLinkNest "FieldPumps" (177 : Nat) "FieldPumps$Station" "curves" "[LFieldPumps$Curve;" "FieldPumps") ∈ lw_tbl := lw_at lw_m1 207 rfl
theorem q304 : (Jvm.Cond.fieldLinkNest "FieldPumps" (227 : Nat) "FieldPumps$Station" "demands" "[I" "FieldPumps") ∈ lw_tbl := lw_at lw_m1 209 rfl
theorem q307 : (Jvm.Cond.fieldLinkNest "FieldPumps" (253 : Nat) "FieldPumps$Station" "isOpen" "[Z" "FieldPumps") ∈ lw_tbl := lw_at lw_m1 212 rfl
theorem q312 : (Jvm.Cond.fieldLinkNest "FieldPumps" (99 : Nat) "FieldPumps$Station" "settings" "[I" "FieldPumps") ∈ lw_tbl := lw_at lw_m1 217 rfl
theorem q314 : (Jvm.Cond.fieldLinkNest "FieldPumps" (321 : Nat) "FieldPumps$Station" "counts" "[I" "FieldPumps") ∈ lw_tbl := lw_at lw_m1 219 rfl
theorem q321 : (Jvm.Cond.fieldLinkNest "FieldPumps" (287 : Nat) "FieldPumps$Station" "told" "I" "FieldPumps") ∈ lw_tbl := lw_at lw_m1 226 rfl
theorem q323 : (Jvm.Cond.fieldLinkNest "FieldPumps" (224 : Nat) "FieldPumps$Station" "zones" "I" "FieldPumps") ∈ lw_tbl := lw_at lw_m1 228 rfl
theorem q327 : (Jvm.Cond.fieldLinkNest "FieldPumps" (356 : Nat) "FieldPumps$Station" "time" "I" "FieldPumps") ∈ lw_tbl := lw_at lw_m1 232 rfl
theorem q330 : (Jvm.Cond.fieldLinkNest "FieldPumps" (257 : Nat) "FieldPumps$Station" "pressure" "I" "FieldPumps") ∈ lw_tbl := lw_at lw_m1 235 rfl
theorem q334 : (Jvm.Cond.fieldLinkNest "FieldPumps" (269 : Nat) "FieldPumps$Station" "level" "I" "FieldPumps") ∈ lw_tbl := lw_at lw_m1 239 rfl
theorem q336 : (Jvm.Cond.fieldLinkNest "FieldPumps" (236 : Nat) "FieldPumps$Station" "leak" "I" "FieldPumps") ∈ lw_tbl := lw_at lw_m2 1 rfl
theorem q338 : (Jvm.Cond.fieldLinkNest "FieldPumps" (161 : Nat) "FieldPumps$Station" "variable" "I" "FieldPumps") ∈ lw_tbl := lw_at lw_m2 3 rfl
theorem q342 : (Jvm.Cond.fieldLinkNest "FieldPumps" (282 : Nat) "FieldPumps$Station" "supply" "I" "FieldPumps") ∈ lw_tbl := lw_at lw_m2 7 rfl
theorem q345 : (Jvm.Cond.fieldLinkNest "FieldPumps" (324 : Nat) "FieldPumps$Station" "supplied" "I" "FieldPumps") ∈ lw_tbl := lw_at lw_m2 10 rfl
theorem q348 : (Jvm.Cond.fieldLinkNest "FieldPumps" (315 : Nat) "FieldPumps$Station" "nightFlow" "I" "FieldPumps") ∈ lw_tbl := lw_at lw_m2 13 rfl
theorem q350 : (Jvm.Cond.fieldLinkNest "FieldPumps" (318 : Nat) "FieldPumps$Station" "alarms" "I" "FieldPumps") ∈ lw_tbl := lw_at lw_m2 15 rfl
theorem q353 : (Jvm.Cond.fieldLinkNest "FieldPumps" (312 : Nat) "FieldPumps$Station" "dryMinutes" "I" "FieldPumps") ∈ lw_tbl := lw_at lw_m2 18 rfl
theorem q356 : (Jvm.Cond.fieldLinkNest "FieldPumps" (309 : Nat) "FieldPumps$Station" "trips" "I" "FieldPumps") ∈ lw_tbl := lw_at lw_m2 21 rfl
theorem q360 : (Jvm.Cond.fieldLinkNest "FieldPumps" (306 : Nat) "FieldPumps$Station" "isDry" "Z" "FieldPumps") ∈ lw_tbl := lw_at lw_m2 25 rfl
theorem q422 : (Jvm.Cond.classLink "FieldPumps" (37 : Nat) "java/util/ArrayDeque") ∈ lw_all := lw_g (lw_at lw_m2 87 rfl) rfl
theorem q424 : (Jvm.Cond.methodLink "FieldPumps" (39 : Nat) ({ cls := "java/util/ArrayDeque", name := "<init>", desc := "()V" } : Jvm.MethodName)) ∈ lw_all := lw_g (lw_at lw_m2 89 rfl) rfl
theorem q439 : (Jvm.Cond.classLink "FieldPumps" (44 : Nat) "java/lang/StringBuilder") ∈ lw_all := lw_g (lw_at lw_m2 104 rfl) rfl
theorem q441 : (Jvm.Cond.methodLink "FieldPumps" (46 : Nat) ({ cls := "java/lang/StringBuilder", name := "<init>", desc := "()V" } : Jvm.MethodName)) ∈ lw_all := lw_g (lw_at lw_m2 106 rfl) rfl
theorem q472 : (Jvm.Cond.fieldLink "FieldPumps" (31 : Nat) "FieldPumps" "now" "LFieldPumps$Station;") ∈ lw_all := lw_g (lw_at lw_m2 137 rfl) rfl
theorem q473 : (Jvm.Cond.fieldLink "FieldPumps" (40 : Nat) "FieldPumps" "history" "Ljava/util/ArrayDeque;") ∈ lw_all := lw_g (lw_at lw_m2 138 rfl) rfl
theorem q475 : (Jvm.Cond.fieldLink "FieldPumps" (47 : Nat) "FieldPumps" "text" "Ljava/lang/StringBuilder;") ∈ lw_all := lw_g (lw_at lw_m2 140 rfl) rfl
theorem q476 : (Jvm.Cond.lays "FieldPumps" "FieldPumps" "now" "LFieldPumps$Station;") ∈ lw_all := lw_g (lw_at lw_m2 141 rfl) rfl
theorem q477 : (Jvm.Cond.soleField "FieldPumps" "now") ∈ lw_all := lw_g (lw_at lw_m2 142 rfl) rfl
theorem q478 : (Jvm.Cond.laysFinal "FieldPumps" "FieldPumps" "history" "Ljava/util/ArrayDeque;") ∈ lw_all := lw_g (lw_at lw_m2 143 rfl) rfl
theorem q479 : (Jvm.Cond.soleField "FieldPumps" "history") ∈ lw_all := lw_g (lw_at lw_m2 144 rfl) rfl
theorem q480 : (Jvm.Cond.laysFinal "FieldPumps" "FieldPumps" "text" "Ljava/lang/StringBuilder;") ∈ lw_all := lw_g (lw_at lw_m2 145 rfl) rfl
theorem q481 : (Jvm.Cond.soleField "FieldPumps" "text") ∈ lw_all := lw_g (lw_at lw_m2 146 rfl) rfl
theorem q482 : (Jvm.Cond.superclass "FieldPumps" "java/lang/Object") ∈ lw_all := lw_g (lw_at lw_m2 147 rfl) rfl
theorem q484 : (Jvm.Cond.instanceMethod ({ cls := "FieldPumps", name := "set", desc := "(II)I" } : Jvm.MethodName)) ∈ lw_all := lw_g (lw_at lw_m2 149 rfl) rfl
theorem q485 : (Jvm.Cond.selects "FieldPumps" ({ cls := "FieldPumps", name := "set", desc := "(II)I" } : Jvm.MethodName) ({ cls := "FieldPumps", name := "set", desc := "(II)I" } : Jvm.MethodName)) ∈ lw_all := lw_g (lw_at lw_m2 150 rfl) rfl
theorem q486 : (Jvm.Cond.code ({ cls := "FieldPumps", name := "set", desc := "(II)I" } : Jvm.MethodName) prog_1_method_8_code (4 : Nat) (Option.some Jvm.ClassFile.FieldType.int)) ∈ lw_all := lw_g (lw_at lw_m2 151 rfl) rfl
theorem q487 : (Jvm.Cond.methodLink "FieldPumps" (94 : Nat) ({ cls := "FieldPumps", name := "isSetting", desc := "(II)Z" } : Jvm.MethodName)) ∈ lw_all := lw_g (lw_at lw_m2 152 rfl) rfl
theorem q488 : (Jvm.Cond.static ({ cls := "FieldPumps", name := "isSetting", desc := "(II)Z" } : Jvm.MethodName)) ∈ lw_all := lw_g (lw_at lw_m2 153 rfl) rfl
theorem q489 : (Jvm.Cond.code ({ cls := "FieldPumps", name := "isSetting", desc := "(II)Z" } : Jvm.MethodName) prog_1_method_7_code (3 : Nat) (Option.some Jvm.ClassFile.FieldType.boolean)) ∈ lw_all := lw_g (lw_at lw_m2 154 rfl) rfl
theorem q490 : (Jvm.Cond.constantLong "FieldPumps" (66 : Nat) (100 : Int64)) ∈ lw_all := lw_g (lw_at lw_m2 155 rfl) rfl
theorem q491 : (Jvm.Cond.constantLong "FieldPumps" (68 : Nat) (900 : Int64)) ∈ lw_all := lw_g (lw_at lw_m2 156 rfl) rfl
theorem q492 : (Jvm.Cond.methodLink "FieldPumps" (70 : Nat) ({ cls := "FieldPumps", name := "isBetween", desc := "(JJJ)Z" } : Jvm.MethodName)) ∈ lw_all := lw_g (lw_at lw_m2 157 rfl) rfl
theorem q493 : (Jvm.Cond.static ({ cls := "FieldPumps", name := "isBetween", desc := "(JJJ)Z" } : Jvm.MethodName)) ∈ lw_all := lw_g (lw_at lw_m2 158 rfl) rfl
theorem q494 : (Jvm.Cond.code ({ cls := "FieldPumps", name := "isBetween", desc := "(JJJ)Z" } : Jvm.MethodName) prog_1_method_1_code (6 : Nat) (Option.some Jvm.ClassFile.FieldType.boolean)) ∈ lw_all := lw_g (lw_at lw_m2 159 rfl) rfl
theorem q495 : (Jvm.Cond.constantLong "FieldPumps" (74 : Nat) (500 : Int64)) ∈ lw_all := lw_g (lw_at lw_m2 160 rfl) rfl
theorem q496 : (Jvm.Cond.constantLong "FieldPumps" (76 : Nat) (300 : Int64)) ∈ lw_all := lw_g (lw_at lw_m2 161 rfl) rfl
theorem q497 : (Jvm.Cond.constantLong "FieldPumps" (78 : Nat) (1000 : Int64)) ∈ lw_all := lw_g (lw_at lw_m2 162 rfl) rfl
theorem q498 : (Jvm.Cond.constantLong "FieldPumps" (80 : Nat) (200 : Int64)) ∈ lw_all := lw_g (lw_at lw_m2 163 rfl) rfl
theorem q499 : (Jvm.Cond.constantLong "FieldPumps" (82 : Nat) (10000 : Int64)) ∈ lw_all := lw_g (lw_at lw_m2 164 rfl) rfl
theorem q500 : (Jvm.Cond.constantLong "FieldPumps" (84 : Nat) (1439 : Int64)) ∈ lw_all := lw_g (lw_at lw_m2 165 rfl) rfl
theorem q501 : (Jvm.Cond.constantLong "FieldPumps" (86 : Nat) (600 : Int64)) ∈ lw_all := lw_g (lw_at lw_m2 166 rfl) rfl
theorem q502 : (Jvm.Cond.constantLong "FieldPumps" (88 : Nat) (100000 : Int64)) ∈ lw_all := lw_g (lw_at lw_m2 167 rfl) rfl
theorem q503 : (Jvm.Cond.constantLong "FieldPumps" (90 : Nat) (1440 : Int64)) ∈ lw_all := lw_g (lw_at lw_m2 168 rfl) rfl
theorem q504 : (Jvm.Cond.constantLong "FieldPumps" (92 : Nat) (60 : Int64)) ∈ lw_all := lw_g (lw_at lw_m2 169 rfl) rfl
theorem q505 : (Jvm.Cond.constant "FieldPumps" (98 : Nat) (-1000001 : Int32)) ∈ lw_all := lw_g (lw_at lw_m2 170 rfl) rfl
theorem q506 : (Jvm.Cond.methodLink "FieldPumps" (103 : Nat) ({ cls := "FieldPumps", name := "change", desc := "()LFieldPumps$Station;" } : Jvm.MethodName)) ∈ lw_all := lw_g (lw_at lw_m2 171 rfl) rfl
theorem q507 : (Jvm.Cond.privateMethod ({ cls := "FieldPumps", name := "change", desc := "()LFieldPumps$Station;" } : Jvm.MethodName)) ∈ lw_tbl := lw_at lw_m2 172 rfl
theorem q508 : (Jvm.Cond.instanceMethod ({ cls := "FieldPumps", name := "change", desc := "()LFieldPumps$Station;" } : Jvm.MethodName)) ∈ lw_all := lw_g (lw_at lw_m2 173 rfl) rfl
theorem q509 : (Jvm.Cond.code ({ cls := "FieldPumps", name := "change", desc := "()LFieldPumps$Station;" } : Jvm.MethodName) prog_1_method_6_code (1 : Nat) (Option.some (Jvm.ClassFile.FieldType.object "FieldPumps$Station"))) ∈ lw_all := lw_g (lw_at lw_m2 174 rfl) rfl
theorem q510 : (Jvm.Cond.methodLink "FieldPumps" (51 : Nat) ({ cls := "FieldPumps$Station", name := "<init>", desc := "(LFieldPumps$Station;)V" } : Jvm.MethodName)) ∈ lw_all := lw_g (lw_at lw_m2 175 rfl) rfl
theorem q565 : (Jvm.Cond.static ({ cls := "FieldPumps", name := "copyOf", desc := "(LFieldPumps$Pump;)LFieldPumps$Pump;" } : Jvm.MethodName)) ∈ lw_all := lw_g (lw_at lw_m2 230 rfl) rfl
theorem q566 : (Jvm.Cond.code ({ cls := "FieldPumps", name := "copyOf", desc := "(LFieldPumps$Pump;)LFieldPumps$Pump;" } : Jvm.MethodName) prog_1_method_3_code (1 : Nat) (Option.some (Jvm.ClassFile.FieldType.object "FieldPumps$Pump"))) ∈ lw_all := lw_g (lw_at lw_m2 231 rfl) rfl
theorem q567 : (Jvm.Cond.classLink "FieldPumps" (2 : Nat) "FieldPumps$Jockey") ∈ lw_all := lw_g (lw_at lw_m2 232 rfl) rfl
theorem q569 : (Jvm.Cond.methodLink "FieldPumps" (4 : Nat) ({ cls := "FieldPumps$Jockey", name := "<init>", desc := "(LFieldPumps$Jockey;)V" } : Jvm.MethodName)) ∈ lw_all := lw_g (lw_at lw_m2 234 rfl) rfl
theorem q585 : (Jvm.Cond.fieldLinkNest "FieldPumps" (197 : Nat) "FieldPumps$Pump" "number" "I" "FieldPumps") ∈ lw_tbl := lw_at lw_m3 10 rfl
theorem q588 : (Jvm.Cond.fieldLinkNest "FieldPumps" (151 : Nat) "FieldPumps$Pump" "shutoff" "I" "FieldPumps") ∈ lw_tbl := lw_at lw_m3 13 rfl
theorem q591 : (Jvm.Cond.fieldLinkNest "FieldPumps" (155 : Nat) "FieldPumps$Pump" "steep" "I" "FieldPumps") ∈ lw_tbl := lw_at lw_m3 16 rfl
theorem q593 : (Jvm.Cond.fieldLinkNest "FieldPumps" (137 : Nat) "FieldPumps$Pump" "isOut" "Z" "FieldPumps") ∈ lw_tbl := lw_at lw_m3 18 rfl
theorem q597 : (Jvm.Cond.fieldLinkNest "FieldPumps" (158 : Nat) "FieldPumps$Pump" "speed" "I" "FieldPumps") ∈ lw_tbl := lw_at lw_m3 22 rfl
theorem q601 : (Jvm.Cond.fieldLinkNest "FieldPumps" (164 : Nat) "FieldPumps$Pump" "run" "I" "FieldPumps") ∈ lw_tbl := lw_at lw_m3 26 rfl
theorem q605 : (Jvm.Cond.fieldLinkNest "FieldPumps" (167 : Nat) "FieldPumps$Pump" "runNow" "I" "FieldPumps") ∈ lw_tbl := lw_at lw_m3 30 rfl
theorem q608 : (Jvm.Cond.fieldLinkNest "FieldPumps" (170 : Nat) "FieldPumps$Pump" "starts" "I" "FieldPumps") ∈ lw_tbl := lw_at lw_m3 33 rfl
theorem q626 : (Jvm.Cond.classLink "FieldPumps" (8 : Nat) "FieldPumps$Variable") ∈ lw_all := lw_g (lw_at lw_m3 51 rfl) rfl
theorem q628 : (Jvm.Cond.methodLink "FieldPumps" (10 : Nat) ({ cls := "FieldPumps$Variable", name := "<init>", desc := "(LFieldPumps$Variable;)V" } : Jvm.MethodName)) ∈ lw_all := lw_g (lw_at lw_m3 53 rfl) rfl
theorem q638 : (Jvm.Cond.classLink "FieldPumps" (13 : Nat) "FieldPumps$Fixed") ∈ lw_all := lw_g (lw_at lw_m3 63 rfl) rfl
theorem q640 : (Jvm.Cond.methodLink "FieldPumps" (15 : Nat) ({ cls := "FieldPumps$Fixed", name := "<init>", desc := "(LFieldPumps$Fixed;)V" } : Jvm.MethodName)) ∈ lw_all := lw_g (lw_at lw_m3 65 rfl) rfl
theorem q661 : (Jvm.Cond.static ({ cls := "FieldPumps", name := "root", desc := "(I)I" } : Jvm.MethodName)) ∈ lw_all := lw_g (lw_at lw_m3 86 rfl) rfl
theorem q662 : (Jvm.Cond.code ({ cls := "FieldPumps", name := "root", desc := "(I)I" } : Jvm.MethodName) prog_1_method_2_code (4 : Nat) (Option.some Jvm.ClassFile.FieldType.int)) ∈ lw_all := lw_g (lw_at lw_m3 87 rfl) rfl
theorem q663 : (Jvm.Cond.constant "FieldPumps" (1 : Nat) (46340 : Int32)) ∈ lw_all := lw_g (lw_at lw_m3 88 rfl) rfl
theorem q696 : (Jvm.Cond.selects "FieldPumps" ({ cls := "java/lang/Object", name := "getClass", desc := "()Ljava/lang/Class;" } : Jvm.MethodName) ({ cls := "java/lang/Object", name := "getClass", desc := "()Ljava/lang/Class;" } : Jvm.MethodName)) ∈ lw_all := lw_g (lw_at lw_m3 121 rfl) rfl
theorem q763 : (Jvm.Cond.methodLink "FieldPumps" (54 : Nat) ({ cls := "java/util/ArrayDeque", name := "addLast", desc := "(Ljava/lang/Object;)V" } : Jvm.MethodName)) ∈ lw_all := lw_g (lw_at lw_m3 188 rfl) rfl
theorem q782 : (Jvm.Cond.methodLink "FieldPumps" (58 : Nat) ({ cls := "java/util/ArrayDeque", name := "size", desc := "()I" } : Jvm.MethodName)) ∈ lw_all := lw_g (lw_at lw_m3 207 rfl) rfl
theorem q789 : (Jvm.Cond.methodLink "FieldPumps" (62 : Nat) ({ cls := "java/util/ArrayDeque", name := "removeFirst", desc := "()Ljava/lang/Object;" } : Jvm.MethodName)) ∈ lw_all := lw_g (lw_at lw_m3 214 rfl) rfl
theorem q801 : (Jvm.Cond.instanceMethod ({ cls := "FieldPumps", name := "pump", desc := "(III)I" } : Jvm.MethodName)) ∈ lw_all := lw_g (lw_at lw_m3 226 rfl) rfl
theorem q802 : (Jvm.Cond.selects "FieldPumps" ({ cls := "FieldPumps", name := "pump", desc := "(III)I" } : Jvm.MethodName) ({ cls := "FieldPumps", name := "pump", desc := "(III)I" } : Jvm.MethodName)) ∈ lw_all := lw_g (lw_at lw_m3 227 rfl) rfl
theorem q803 : (Jvm.Cond.code ({ cls := "FieldPumps", name := "pump", desc := "(III)I" } : Jvm.MethodName) prog_1_method_9_code (5 : Nat) (Option.some Jvm.ClassFile.FieldType.int)) ∈ lw_all := lw_g (lw_at lw_m3 228 rfl) rfl
theorem q804 : (Jvm.Cond.constantLong "FieldPumps" (107 : Nat) (2 : Int64)) ∈ lw_all := lw_g (lw_at lw_m3 229 rfl) rfl
theorem q805 : (Jvm.Cond.constantLong "FieldPumps" (109 : Nat) (2000 : Int64)) ∈ lw_all := lw_g (lw_at lw_m3 230 rfl) rfl
theorem q806 : (Jvm.Cond.methodLink "FieldPumps" (115 : Nat) ({ cls := "java/util/ArrayList", name := "size", desc := "()I" } : Jvm.MethodName)) ∈ lw_all := lw_g (lw_at lw_m3 231 rfl) rfl
theorem q807 : (Jvm.Cond.constant "FieldPumps" (118 : Nat) (-1000003 : Int32)) ∈ lw_all := lw_g (lw_at lw_m3 232 rfl) rfl
theorem q808 : (Jvm.Cond.methodLink "FieldPumps" (119 : Nat) ({ cls := "FieldPumps", name := "made", desc := "(IIII)LFieldPumps$Pump;" } : Jvm.MethodName)) ∈ lw_all := lw_g (lw_at lw_m3 233 rfl) rfl
theorem q809 : (Jvm.Cond.static ({ cls := "FieldPumps", name := "made", desc := "(IIII)LFieldPumps$Pump;" } : Jvm.MethodName)) ∈ lw_all := lw_g (lw_at lw_m3 234 rfl) rfl
theorem q810 : (Jvm.Cond.code ({ cls := "FieldPumps", name := "made", desc := "(IIII)LFieldPumps$Pump;" } : Jvm.MethodName) prog_1_method_4_code (4 : Nat) (Option.some (Jvm.ClassFile.FieldType.object "FieldPumps$Pump"))) ∈ lw_all := lw_g (lw_at lw_m3 235 rfl) rfl
theorem q811 : (Jvm.Cond.methodLink "FieldPumps" (18 : Nat) ({ cls := "FieldPumps$Fixed", name := "<init>", desc := "(III)V" } : Jvm.MethodName)) ∈ lw_all := lw_g (lw_at lw_m3 236 rfl) rfl
theorem q815 : (Jvm.Cond.methodLink "FieldPumps" (21 : Nat) ({ cls := "FieldPumps$Variable", name := "<init>", desc := "(III)V" } : Jvm.MethodName)) ∈ lw_all := lw_g (lw_at lw_m4 0 rfl) rfl
theorem q819 : (Jvm.Cond.methodLink "FieldPumps" (22 : Nat) ({ cls := "FieldPumps$Jockey", name := "<init>", desc := "(III)V" } : Jvm.MethodName)) ∈ lw_all := lw_g (lw_at lw_m4 4 rfl) rfl
theorem q823 : (Jvm.Cond.methodLink "FieldPumps" (123 : Nat) ({ cls := "FieldPumps$Station", name := "add", desc := "(LFieldPumps$Pump;)V" } : Jvm.MethodName)) ∈ lw_all := lw_g (lw_at lw_m4 8 rfl) rfl
theorem q825 : (Jvm.Cond.instanceMethod ({ cls := "FieldPumps", name := "service", desc := "(II)I" } : Jvm.MethodName)) ∈ lw_all := lw_g (lw_at lw_m4 10 rfl) rfl
theorem q826 : (Jvm.Cond.selects "FieldPumps" ({ cls := "FieldPumps", name := "service", desc := "(II)I" } : Jvm.MethodName) ({ cls := "FieldPumps", name := "service", desc := "(II)I" } : Jvm.MethodName)) ∈ lw_all := lw_g (lw_at lw_m4 11 rfl) rfl
theorem q827 : (Jvm.Cond.code ({ cls := "FieldPumps", name := "service", desc := "(II)I" } : Jvm.MethodName) prog_1_method_10_code (3 : Nat) (Option.some Jvm.ClassFile.FieldType.int)) ∈ lw_all := lw_g (lw_at lw_m4 12 rfl) rfl
theorem q828 : (Jvm.Cond.methodLink "FieldPumps" (127 : Nat) ({ cls := "FieldPumps$Station", name := "isPump", desc := "(I)Z" } : Jvm.MethodName)) ∈ lw_all := lw_g (lw_at lw_m4 13 rfl) rfl
theorem q833 : (Jvm.Cond.methodLink "FieldPumps" (131 : Nat) ({ cls := "java/util/ArrayList", name := "get", desc := "(I)Ljava/lang/Object;" } : Jvm.MethodName)) ∈ lw_all := lw_g (lw_at lw_m4 18 rfl) rfl
theorem q834 : (Jvm.Cond.classLink "FieldPumps" (135 : Nat) "FieldPumps$Pump") ∈ lw_all := lw_g (lw_at lw_m4 19 rfl) rfl
theorem q835 : (Jvm.Cond.constant "FieldPumps" (141 : Nat) (-1000002 : Int32)) ∈ lw_all := lw_g (lw_at lw_m4 20 rfl) rfl
theorem q836 : (Jvm.Cond.methodLink "FieldPumps" (142 : Nat) ({ cls := "FieldPumps$Station", name := "make", desc := "(II)I" } : Jvm.MethodName)) ∈ lw_all := lw_g (lw_at lw_m4 21 rfl) rfl
theorem q1549 : (Jvm.Cond.instanceMethod ({ cls := "FieldPumps", name := "pumpOf", desc := "(II)I" } : Jvm.MethodName)) ∈ lw_all := lw_g (lw_at lw_m7 14 rfl) rfl
theorem q1550 : (Jvm.Cond.selects "FieldPumps" ({ cls := "FieldPumps", name := "pumpOf", desc := "(II)I" } : Jvm.MethodName) ({ cls := "FieldPumps", name := "pumpOf", desc := "(II)I" } : Jvm.MethodName)) ∈ lw_all := lw_g (lw_at lw_m7 15 rfl) rfl
theorem q1551 : (Jvm.Cond.code ({ cls := "FieldPumps", name := "pumpOf", desc := "(II)I" } : Jvm.MethodName) prog_1_method_11_code (4 : Nat) (Option.some Jvm.ClassFile.FieldType.int)) ∈ lw_all := lw_g (lw_at lw_m7 16 rfl) rfl
theorem q1552 : (Jvm.Cond.constantLong "FieldPumps" (146 : Nat) (9 : Int64)) ∈ lw_all := lw_g (lw_at lw_m7 17 rfl) rfl
theorem q1553 : (Jvm.Cond.methodLink "FieldPumps" (148 : Nat) ({ cls := "FieldPumps$Pump", name := "kind", desc := "()I" } : Jvm.MethodName)) ∈ lw_all := lw_g (lw_at lw_m7 18 rfl) rfl
theorem q1566 : (Jvm.Cond.methodLink "FieldPumps" (173 : Nat) ({ cls := "FieldPumps$Station", name := "flowOf", desc := "(LFieldPumps$Pump;)I" } : Jvm.MethodName)) ∈ lw_all := lw_g (lw_at lw_m7 31 rfl) rfl
theorem q1568 : (Jvm.Cond.instanceMethod ({ cls := "FieldPumps", name := "curve", desc := "(III)I" } : Jvm.MethodName)) ∈ lw_all := lw_g (lw_at lw_m7 33 rfl) rfl
theorem q1569 : (Jvm.Cond.selects "FieldPumps" ({ cls := "FieldPumps", name := "curve", desc := "(III)I" } : Jvm.MethodName) ({ cls := "FieldPumps", name := "curve", desc := "(III)I" } : Jvm.MethodName)) ∈ lw_all := lw_g (lw_at lw_m7 34 rfl) rfl
theorem q1570 : (Jvm.Cond.code ({ cls := "FieldPumps", name := "curve", desc := "(III)I" } : Jvm.MethodName) prog_1_method_12_code (4 : Nat) (Option.some Jvm.ClassFile.FieldType.int)) ∈ lw_all := lw_g (lw_at lw_m7 35 rfl) rfl
theorem q1571 : (Jvm.Cond.interfaceEntry "FieldPumps" (181 : Nat)) ∈ lw_tbl := lw_at lw_m7 36 rfl
theorem q1572 : (Jvm.Cond.methodLink "FieldPumps" (181 : Nat) ({ cls := "FieldPumps$Curve", name := "flow", desc := "(II)I" } : Jvm.MethodName)) ∈ lw_all := lw_g (lw_at lw_m7 37 rfl) rfl
theorem q1574 : (Jvm.Cond.instanceMethod ({ cls := "FieldPumps", name := "readyAt", desc := "(I)I" } : Jvm.MethodName)) ∈ lw_all := lw_g (lw_at lw_m7 39 rfl) rfl
theorem q1575 : (Jvm.Cond.selects "FieldPumps" ({ cls := "FieldPumps", name := "readyAt", desc := "(I)I" } : Jvm.MethodName) ({ cls := "FieldPumps", name := "readyAt", desc := "(I)I" } : Jvm.MethodName)) ∈ lw_all := lw_g (lw_at lw_m7 40 rfl) rfl
theorem q1576 : (Jvm.Cond.code ({ cls := "FieldPumps", name := "readyAt", desc := "(I)I" } : Jvm.MethodName) prog_1_method_13_code (5 : Nat) (Option.some Jvm.ClassFile.FieldType.int)) ∈ lw_all := lw_g (lw_at lw_m7 41 rfl) rfl
theorem q1577 : (Jvm.Cond.methodLink "FieldPumps" (186 : Nat) ({ cls := "FieldPumps$Station", name := "ready", desc := "()Ljava/util/PriorityQueue;" } : Jvm.MethodName)) ∈ lw_all := lw_g (lw_at lw_m7 42 rfl) rfl
theorem q1578 : (Jvm.Cond.methodLink "FieldPumps" (190 : Nat) ({ cls := "java/util/PriorityQueue", name := "size", desc := "()I" } : Jvm.MethodName)) ∈ lw_all := lw_g (lw_at lw_m7 43 rfl) rfl
theorem q1582 : (Jvm.Cond.constant "FieldPumps" (193 : Nat) (-1000004 : Int32)) ∈ lw_all := lw_g (lw_at lw_m7 47 rfl) rfl
theorem q1583 : (Jvm.Cond.methodLink "FieldPumps" (194 : Nat) ({ cls := "java/util/PriorityQueue", name := "poll", desc := "()Ljava/lang/Object;" } : Jvm.MethodName)) ∈ lw_all := lw_g (lw_at lw_m7 48 rfl) rfl
theorem q1594 : (Jvm.Cond.instanceMethod ({ cls := "FieldPumps", name := "balance", desc := "()I" } : Jvm.MethodName)) ∈ lw_all := lw_g (lw_at lw_m7 59 rfl) rfl
theorem q1595 : (Jvm.Cond.selects "FieldPumps" ({ cls := "FieldPumps", name := "balance", desc := "()I" } : Jvm.MethodName) ({ cls := "FieldPumps", name := "balance", desc := "()I" } : Jvm.MethodName)) ∈ lw_all := lw_g (lw_at lw_m7 60 rfl) rfl
theorem q1596 : (Jvm.Cond.code ({ cls := "FieldPumps", name := "balance", desc := "()I" } : Jvm.MethodName) prog_1_method_14_code (5 : Nat) (Option.some Jvm.ClassFile.FieldType.int)) ∈ lw_all := lw_g (lw_at lw_m7 61 rfl) rfl
theorem q1597 : (Jvm.Cond.methodLink "FieldPumps" (200 : Nat) ({ cls := "java/util/ArrayList", name := "isEmpty", desc := "()Z" } : Jvm.MethodName)) ∈ lw_all := lw_g (lw_at lw_m7 62 rfl) rfl
theorem q1601 : (Jvm.Cond.methodLink "FieldPumps" (204 : Nat) ({ cls := "java/util/ArrayList", name := "iterator", desc := "()Ljava/util/Iterator;" } : Jvm.MethodName)) ∈ lw_all := lw_g (lw_at lw_m7 66 rfl) rfl
theorem q1602 : (Jvm.Cond.interfaceEntry "FieldPumps" (208 : Nat)) ∈ lw_tbl := lw_at lw_m7 67 rfl
theorem q1603 : (Jvm.Cond.methodLink "FieldPumps" (208 : Nat) ({ cls := "java/util/Iterator", name := "hasNext", desc := "()Z" } : Jvm.MethodName)) ∈ lw_all := lw_g (lw_at lw_m7 68 rfl) rfl
theorem q1604 : (Jvm.Cond.interfaceEntry "FieldPumps" (213 : Nat)) ∈ lw_tbl := lw_at lw_m7 69 rfl
theorem q1605 : (Jvm.Cond.methodLink "FieldPumps" (213 : Nat) ({ cls := "java/util/Iterator", name := "next", desc := "()Ljava/lang/Object;" } : Jvm.MethodName)) ∈ lw_all := lw_g (lw_at lw_m7 70 rfl) rfl
theorem q1606 : (Jvm.Cond.methodLink "FieldPumps" (216 : Nat) ({ cls := "java/lang/Math", name := "max", desc := "(II)I" } : Jvm.MethodName)) ∈ lw_all := lw_g (lw_at lw_m7 71 rfl) rfl
theorem q1607 : (Jvm.Cond.methodLink "FieldPumps" (221 : Nat) ({ cls := "java/lang/Math", name := "min", desc := "(II)I" } : Jvm.MethodName)) ∈ lw_all := lw_g (lw_at lw_m7 72 rfl) rfl
theorem q1609 : (Jvm.Cond.instanceMethod ({ cls := "FieldPumps", name := "zone", desc := "(I)I" } : Jvm.MethodName)) ∈ lw_all := lw_g (lw_at lw_m7 74 rfl) rfl
theorem q1610 : (Jvm.Cond.selects "FieldPumps" ({ cls := "FieldPumps", name := "zone", desc := "(I)I" } : Jvm.MethodName) ({ cls := "FieldPumps", name := "zone", desc := "(I)I" } : Jvm.MethodName)) ∈ lw_all := lw_g (lw_at lw_m7 75 rfl) rfl
theorem q1611 : (Jvm.Cond.code ({ cls := "FieldPumps", name := "zone", desc := "(I)I" } : Jvm.MethodName) prog_1_method_15_code (3 : Nat) (Option.some Jvm.ClassFile.FieldType.int)) ∈ lw_all := lw_g (lw_at lw_m7 76 rfl) rfl
theorem q1613 : (Jvm.Cond.instanceMethod ({ cls := "FieldPumps", name := "open", desc := "(II)I" } : Jvm.MethodName)) ∈ lw_all := lw_g (lw_at lw_m7 78 rfl) rfl
theorem q1614 : (Jvm.Cond.selects "FieldPumps" ({ cls := "FieldPumps", name := "open", desc := "(II)I" } : Jvm.MethodName) ({ cls := "FieldPumps", name := "open", desc := "(II)I" } : Jvm.MethodName)) ∈ lw_all := lw_g (lw_at lw_m7 79 rfl) rfl
theorem q1615 : (Jvm.Cond.code ({ cls := "FieldPumps", name := "open", desc := "(II)I" } : Jvm.MethodName) prog_1_method_16_code (4 : Nat) (Option.some Jvm.ClassFile.FieldType.int)) ∈ lw_all := lw_g (lw_at lw_m7 80 rfl) rfl
theorem q1616 : (Jvm.Cond.methodLink "FieldPumps" (230 : Nat) ({ cls := "FieldPumps$Station", name := "isZone", desc := "(I)Z" } : Jvm.MethodName)) ∈ lw_all := lw_g (lw_at lw_m7 81 rfl) rfl
theorem q1620 : (Jvm.Cond.methodLink "FieldPumps" (233 : Nat) ({ cls := "FieldPumps$Station", name := "can", desc := "(II)Z" } : Jvm.MethodName)) ∈ lw_all := lw_g (lw_at lw_m7 85 rfl) rfl
theorem q1626 : (Jvm.Cond.instanceMethod ({ cls := "FieldPumps", name := "leak", desc := "(I)I" } : Jvm.MethodName)) ∈ lw_all := lw_g (lw_at lw_m7 91 rfl) rfl
theorem q1627 : (Jvm.Cond.selects "FieldPumps" ({ cls := "FieldPumps", name := "leak", desc := "(I)I" } : Jvm.MethodName) ({ cls := "FieldPumps", name := "leak", desc := "(I)I" } : Jvm.MethodName)) ∈ lw_all := lw_g (lw_at lw_m7 92 rfl) rfl
theorem q1628 : (Jvm.Cond.code ({ cls := "FieldPumps", name := "leak", desc := "(I)I" } : Jvm.MethodName) prog_1_method_17_code (3 : Nat) (Option.some Jvm.ClassFile.FieldType.int)) ∈ lw_all := lw_g (lw_at lw_m7 93 rfl) rfl
theorem q1630 : (Jvm.Cond.instanceMethod ({ cls := "FieldPumps", name := "programme", desc := "(III)I" } : Jvm.MethodName)) ∈ lw_all := lw_g (lw_at lw_m7 95 rfl) rfl
theorem q1631 : (Jvm.Cond.selects "FieldPumps" ({ cls := "FieldPumps", name := "programme", desc := "(III)I" } : Jvm.MethodName) ({ cls := "FieldPumps", name := "programme", desc := "(III)I" } : Jvm.MethodName)) ∈ lw_all := lw_g (lw_at lw_m7 96 rfl) rfl
theorem q1632 : (Jvm.Cond.code ({ cls := "FieldPumps", name := "programme", desc := "(III)I" } : Jvm.MethodName) prog_1_method_18_code (4 : Nat) (Option.some Jvm.ClassFile.FieldType.int)) ∈ lw_all := lw_g (lw_at lw_m7 97 rfl) rfl
theorem q1633 : (Jvm.Cond.classLink "FieldPumps" (242 : Nat) "FieldPumps$Programme") ∈ lw_all := lw_g (lw_at lw_m7 98 rfl) rfl
theorem q1635 : (Jvm.Cond.methodLink "FieldPumps" (244 : Nat) ({ cls := "FieldPumps$Programme", name := "<init>", desc := "(III)V" } : Jvm.MethodName)) ∈ lw_all := lw_g (lw_at lw_m7 100 rfl) rfl
theorem q1641 : (Jvm.Cond.fieldLinkNest "FieldPumps" (248 : Nat) "FieldPumps$Programme" "zone" "I" "FieldPumps") ∈ lw_tbl := lw_at lw_m7 106 rfl
theorem q1653 : (Jvm.Cond.methodLink "FieldPumps" (245 : Nat) ({ cls := "java/util/ArrayList", name := "add", desc := "(Ljava/lang/Object;)Z" } : Jvm.MethodName)) ∈ lw_all := lw_g (lw_at lw_m7 118 rfl) rfl
theorem q1655 : (Jvm.Cond.instanceMethod ({ cls := "FieldPumps", name := "zoneOf", desc := "(II)I" } : Jvm.MethodName)) ∈ lw_all := lw_g (lw_at lw_m7 120 rfl) rfl
theorem q1656 : (Jvm.Cond.selects "FieldPumps" ({ cls := "FieldPumps", name := "zoneOf", desc := "(II)I" } : Jvm.MethodName) ({ cls := "FieldPumps", name := "zoneOf", desc := "(II)I" } : Jvm.MethodName)) ∈ lw_all := lw_g (lw_at lw_m7 121 rfl) rfl
theorem q1657 : (Jvm.Cond.code ({ cls := "FieldPumps", name := "zoneOf", desc := "(II)I" } : Jvm.MethodName) prog_1_method_20_code (3 : Nat) (Option.some Jvm.ClassFile.FieldType.int)) ∈ lw_all := lw_g (lw_at lw_m7 122 rfl) rfl
theorem q1658 : (Jvm.Cond.constantLong "FieldPumps" (251 : Nat) (3 : Int64)) ∈ lw_all := lw_g (lw_at lw_m7 123 rfl) rfl
theorem q1659 : (Jvm.Cond.methodLink "FieldPumps" (260 : Nat) ({ cls := "FieldPumps$Station", name := "demandOf", desc := "(II)I" } : Jvm.MethodName)) ∈ lw_all := lw_g (lw_at lw_m7 124 rfl) rfl
theorem q1660 : (Jvm.Cond.methodLink "FieldPumps" (263 : Nat) ({ cls := "FieldPumps", name := "programmesOf", desc := "(I)I" } : Jvm.MethodName)) ∈ lw_all := lw_g (lw_at lw_m7 125 rfl) rfl
theorem q1661 : (Jvm.Cond.privateMethod ({ cls := "FieldPumps", name := "programmesOf", desc := "(I)I" } : Jvm.MethodName)) ∈ lw_tbl := lw_at lw_m7 126 rfl
theorem q1662 : (Jvm.Cond.instanceMethod ({ cls := "FieldPumps", name := "programmesOf", desc := "(I)I" } : Jvm.MethodName)) ∈ lw_all := lw_g (lw_at lw_m7 127 rfl) rfl
theorem q1663 : (Jvm.Cond.code ({ cls := "FieldPumps", name := "programmesOf", desc := "(I)I" } : Jvm.MethodName) prog_1_method_19_code (5 : Nat) (Option.some Jvm.ClassFile.FieldType.int)) ∈ lw_all := lw_g (lw_at lw_m7 128 rfl) rfl
theorem q1665 : (Jvm.Cond.instanceMethod ({ cls := "FieldPumps", name := "fill", desc := "(I)I" } : Jvm.MethodName)) ∈ lw_all := lw_g (lw_at lw_m7 130 rfl) rfl
theorem q1666 : (Jvm.Cond.selects "FieldPumps" ({ cls := "FieldPumps", name := "fill", desc := "(I)I" } : Jvm.MethodName) ({ cls := "FieldPumps", name := "fill", desc := "(I)I" } : Jvm.MethodName)) ∈ lw_all := lw_g (lw_at lw_m7 131 rfl) rfl
theorem q1667 : (Jvm.Cond.code ({ cls := "FieldPumps", name := "fill", desc := "(I)I" } : Jvm.MethodName) prog_1_method_21_code (3 : Nat) (Option.some Jvm.ClassFile.FieldType.int)) ∈ lw_all := lw_g (lw_at lw_m7 132 rfl) rfl
theorem q1668 : (Jvm.Cond.constantLong "FieldPumps" (267 : Nat) (20000 : Int64)) ∈ lw_all := lw_g (lw_at lw_m7 133 rfl) rfl
theorem q1670 : (Jvm.Cond.instanceMethod ({ cls := "FieldPumps", name := "reset", desc := "()I" } : Jvm.MethodName)) ∈ lw_all := lw_g (lw_at lw_m7 135 rfl) rfl
theorem q1671 : (Jvm.Cond.selects "FieldPumps" ({ cls := "FieldPumps", name := "reset", desc := "()I" } : Jvm.MethodName) ({ cls := "FieldPumps", name := "reset", desc := "()I" } : Jvm.MethodName)) ∈ lw_all := lw_g (lw_at lw_m7 136 rfl) rfl
theorem q1672 : (Jvm.Cond.code ({ cls := "FieldPumps", name := "reset", desc := "()I" } : Jvm.MethodName) prog_1_method_22_code (1 : Nat) (Option.some Jvm.ClassFile.FieldType.int)) ∈ lw_all := lw_g (lw_at lw_m7 137 rfl) rfl
theorem q1674 : (Jvm.Cond.instanceMethod ({ cls := "FieldPumps", name := "pass", desc := "(I)I" } : Jvm.MethodName)) ∈ lw_all := lw_g (lw_at lw_m7 139 rfl) rfl
theorem q1675 : (Jvm.Cond.selects "FieldPumps" ({ cls := "FieldPumps", name := "pass", desc := "(I)I" } : Jvm.MethodName) ({ cls := "FieldPumps", name := "pass", desc := "(I)I" } : Jvm.MethodName)) ∈ lw_all := lw_g (lw_at lw_m7 140 rfl) rfl
theorem q1676 : (Jvm.Cond.code ({ cls := "FieldPumps", name := "pass", desc := "(I)I" } : Jvm.MethodName) prog_1_method_23_code (2 : Nat) (Option.some Jvm.ClassFile.FieldType.int)) ∈ lw_all := lw_g (lw_at lw_m7 141 rfl) rfl
theorem q1677 : (Jvm.Cond.constantLong "FieldPumps" (272 : Nat) (240 : Int64)) ∈ lw_all := lw_g (lw_at lw_m7 142 rfl) rfl
theorem q1679 : (Jvm.Cond.instanceMethod ({ cls := "FieldPumps", name := "foresee", desc := "(II)I" } : Jvm.MethodName)) ∈ lw_all := lw_g (lw_at lw_m7 144 rfl) rfl
theorem q1680 : (Jvm.Cond.selects "FieldPumps" ({ cls := "FieldPumps", name := "foresee", desc := "(II)I" } : Jvm.MethodName) ({ cls := "FieldPumps", name := "foresee", desc := "(II)I" } : Jvm.MethodName)) ∈ lw_all := lw_g (lw_at lw_m7 145 rfl) rfl
theorem q1681 : (Jvm.Cond.code ({ cls := "FieldPumps", name := "foresee", desc := "(II)I" } : Jvm.MethodName) prog_1_method_24_code (5 : Nat) (Option.some Jvm.ClassFile.FieldType.int)) ∈ lw_all := lw_g (lw_at lw_m7 146 rfl) rfl
theorem q1682 : (Jvm.Cond.constantLong "FieldPumps" (274 : Nat) (4 : Int64)) ∈ lw_all := lw_g (lw_at lw_m7 147 rfl) rfl
theorem q1683 : (Jvm.Cond.methodLink "FieldPumps" (276 : Nat) ({ cls := "FieldPumps$Station", name := "goMinute", desc := "()V" } : Jvm.MethodName)) ∈ lw_all := lw_g (lw_at lw_m7 148 rfl) rfl
theorem q1684 : (Jvm.Cond.methodLink "FieldPumps" (279 : Nat) ({ cls := "FieldPumps$Station", name := "running", desc := "()I" } : Jvm.MethodName)) ∈ lw_all := lw_g (lw_at lw_m7 149 rfl) rfl
theorem q1686 : (Jvm.Cond.instanceMethod ({ cls := "FieldPumps", name := "foreseeEvent", desc := "(I)I" } : Jvm.MethodName)) ∈ lw_all := lw_g (lw_at lw_m7 151 rfl) rfl
theorem q1687 : (Jvm.Cond.selects "FieldPumps" ({ cls := "FieldPumps", name := "foreseeEvent", desc := "(I)I" } : Jvm.MethodName) ({ cls := "FieldPumps", name := "foreseeEvent", desc := "(I)I" } : Jvm.MethodName)) ∈ lw_all := lw_g (lw_at lw_m7 152 rfl) rfl
theorem q1688 : (Jvm.Cond.code ({ cls := "FieldPumps", name := "foreseeEvent", desc := "(I)I" } : Jvm.MethodName) prog_1_method_25_code (4 : Nat) (Option.some Jvm.ClassFile.FieldType.int)) ∈ lw_all := lw_g (lw_at lw_m7 153 rfl) rfl
theorem q1689 : (Jvm.Cond.constantLong "FieldPumps" (285 : Nat) (7 : Int64)) ∈ lw_all := lw_g (lw_at lw_m7 154 rfl) rfl
theorem q1691 : (Jvm.Cond.instanceMethod ({ cls := "FieldPumps", name := "station", desc := "(I)I" } : Jvm.MethodName)) ∈ lw_all := lw_g (lw_at lw_m7 156 rfl) rfl
theorem q1692 : (Jvm.Cond.selects "FieldPumps" ({ cls := "FieldPumps", name := "station", desc := "(I)I" } : Jvm.MethodName) ({ cls := "FieldPumps", name := "station", desc := "(I)I" } : Jvm.MethodName)) ∈ lw_all := lw_g (lw_at lw_m7 157 rfl) rfl
theorem q1693 : (Jvm.Cond.code ({ cls := "FieldPumps", name := "station", desc := "(I)I" } : Jvm.MethodName) prog_1_method_27_code (2 : Nat) (Option.some Jvm.ClassFile.FieldType.int)) ∈ lw_all := lw_g (lw_at lw_m7 158 rfl) rfl
theorem q1694 : (Jvm.Cond.methodLink "FieldPumps" (300 : Nat) ({ cls := "FieldPumps$Station", name := "demand", desc := "(I)I" } : Jvm.MethodName)) ∈ lw_all := lw_g (lw_at lw_m7 159 rfl) rfl
theorem q1695 : (Jvm.Cond.methodLink "FieldPumps" (303 : Nat) ({ cls := "FieldPumps", name := "leaderNumber", desc := "()I" } : Jvm.MethodName)) ∈ lw_all := lw_g (lw_at lw_m7 160 rfl) rfl
theorem q1696 : (Jvm.Cond.privateMethod ({ cls := "FieldPumps", name := "leaderNumber", desc := "()I" } : Jvm.MethodName)) ∈ lw_tbl := lw_at lw_m7 161 rfl
theorem q1697 : (Jvm.Cond.instanceMethod ({ cls := "FieldPumps", name := "leaderNumber", desc := "()I" } : Jvm.MethodName)) ∈ lw_all := lw_g (lw_at lw_m7 162 rfl) rfl
theorem q1698 : (Jvm.Cond.code ({ cls := "FieldPumps", name := "leaderNumber", desc := "()I" } : Jvm.MethodName) prog_1_method_26_code (2 : Nat) (Option.some Jvm.ClassFile.FieldType.int)) ∈ lw_all := lw_g (lw_at lw_m7 163 rfl) rfl
theorem q1699 : (Jvm.Cond.methodLink "FieldPumps" (290 : Nat) ({ cls := "FieldPumps$Station", name := "leader", desc := "()Ljava/util/Optional;" } : Jvm.MethodName)) ∈ lw_all := lw_g (lw_at lw_m7 164 rfl) rfl
theorem q1722 : (Jvm.Cond.methodLink "FieldPumps" (294 : Nat) ({ cls := "java/util/Optional", name := "orElse", desc := "(Ljava/lang/Object;)Ljava/lang/Object;" } : Jvm.MethodName)) ∈ lw_all := lw_g (lw_at lw_m7 187 rfl) rfl
theorem q1727 : (Jvm.Cond.instanceMethod ({ cls := "FieldPumps", name := "nightAt", desc := "(I)I" } : Jvm.MethodName)) ∈ lw_all := lw_g (lw_at lw_m7 192 rfl) rfl
theorem q1728 : (Jvm.Cond.selects "FieldPumps" ({ cls := "FieldPumps", name := "nightAt", desc := "(I)I" } : Jvm.MethodName) ({ cls := "FieldPumps", name := "nightAt", desc := "(I)I" } : Jvm.MethodName)) ∈ lw_all := lw_g (lw_at lw_m7 193 rfl) rfl
theorem q1729 : (Jvm.Cond.code ({ cls := "FieldPumps", name := "nightAt", desc := "(I)I" } : Jvm.MethodName) prog_1_method_28_code (3 : Nat) (Option.some Jvm.ClassFile.FieldType.int)) ∈ lw_all := lw_g (lw_at lw_m7 194 rfl) rfl
theorem q1730 : (Jvm.Cond.classLink "FieldPumps" (330 : Nat) "java/lang/Integer") ∈ lw_all := lw_g (lw_at lw_m7 195 rfl) rfl
theorem q1731 : (Jvm.Cond.methodLink "FieldPumps" (332 : Nat) ({ cls := "java/lang/Integer", name := "intValue", desc := "()I" } : Jvm.MethodName)) ∈ lw_all := lw_g (lw_at lw_m7 196 rfl) rfl
theorem q1733 : (Jvm.Cond.instanceMethod ({ cls := "FieldPumps", name := "eventAt", desc := "(II)I" } : Jvm.MethodName)) ∈ lw_all := lw_g (lw_at lw_m7 198 rfl) rfl
theorem q1734 : (Jvm.Cond.selects "FieldPumps" ({ cls := "FieldPumps", name := "eventAt", desc := "(II)I" } : Jvm.MethodName) ({ cls := "FieldPumps", name := "eventAt", desc := "(II)I" } : Jvm.MethodName)) ∈ lw_all := lw_g (lw_at lw_m7 199 rfl) rfl
theorem q1735 : (Jvm.Cond.code ({ cls := "FieldPumps", name := "eventAt", desc := "(II)I" } : Jvm.MethodName) prog_1_method_29_code (4 : Nat) (Option.some Jvm.ClassFile.FieldType.int)) ∈ lw_all := lw_g (lw_at lw_m7 200 rfl) rfl
theorem q1737 : (Jvm.Cond.instanceMethod ({ cls := "FieldPumps", name := "count", desc := "(I)I" } : Jvm.MethodName)) ∈ lw_all := lw_g (lw_at lw_m7 202 rfl) rfl
theorem q1738 : (Jvm.Cond.selects "FieldPumps" ({ cls := "FieldPumps", name := "count", desc := "(I)I" } : Jvm.MethodName) ({ cls := "FieldPumps", name := "count", desc := "(I)I" } : Jvm.MethodName)) ∈ lw_all := lw_g (lw_at lw_m7 203 rfl) rfl
theorem q1739 : (Jvm.Cond.code ({ cls := "FieldPumps", name := "count", desc := "(I)I" } : Jvm.MethodName) prog_1_method_31_code (2 : Nat) (Option.some Jvm.ClassFile.FieldType.int)) ∈ lw_all := lw_g (lw_at lw_m7 204 rfl) rfl
theorem q1740 : (Jvm.Cond.methodLink "FieldPumps" (350 : Nat) ({ cls := "FieldPumps$Station", name := "openZones", desc := "()I" } : Jvm.MethodName)) ∈ lw_all := lw_g (lw_at lw_m7 205 rfl) rfl
theorem q1741 : (Jvm.Cond.methodLink "FieldPumps" (353 : Nat) ({ cls := "FieldPumps", name := "readyMany", desc := "()I" } : Jvm.MethodName)) ∈ lw_all := lw_g (lw_at lw_m7 206 rfl) rfl
theorem q1742 : (Jvm.Cond.privateMethod ({ cls := "FieldPumps", name := "readyMany", desc := "()I" } : Jvm.MethodName)) ∈ lw_tbl := lw_at lw_m7 207 rfl
theorem q1743 : (Jvm.Cond.instanceMethod ({ cls := "FieldPumps", name := "readyMany", desc := "()I" } : Jvm.MethodName)) ∈ lw_all := lw_g (lw_at lw_m7 208 rfl) rfl
theorem q1744 : (Jvm.Cond.code ({ cls := "FieldPumps", name := "readyMany", desc := "()I" } : Jvm.MethodName) prog_1_method_30_code (4 : Nat) (Option.some Jvm.ClassFile.FieldType.int)) ∈ lw_all := lw_g (lw_at lw_m7 209 rfl) rfl
theorem q1745 : (Jvm.Cond.methodLink "FieldPumps" (347 : Nat) ({ cls := "FieldPumps$Pump", name := "isReady", desc := "()Z" } : Jvm.MethodName)) ∈ lw_all := lw_g (lw_at lw_m7 210 rfl) rfl
theorem q1746 : (Jvm.Cond.methodLink "FieldPumps" (359 : Nat) ({ cls := "java/lang/StringBuilder", name := "length", desc := "()I" } : Jvm.MethodName)) ∈ lw_all := lw_g (lw_at lw_m7 211 rfl) rfl
theorem q1753 : (Jvm.Cond.constantLong "FieldPumps" (362 : Nat) (20 : Int64)) ∈ lw_all := lw_g (lw_at lw_m7 218 rfl) rfl
theorem q1754 : (Jvm.Cond.constantLong "FieldPumps" (364 : Nat) (38 : Int64)) ∈ lw_all := lw_g (lw_at lw_m7 219 rfl) rfl
theorem q1756 : (Jvm.Cond.instanceMethod ({ cls := "FieldPumps", name := "undo", desc := "()I" } : Jvm.MethodName)) ∈ lw_all := lw_g (lw_at lw_m7 221 rfl) rfl
theorem q1757 : (Jvm.Cond.selects "FieldPumps" ({ cls := "FieldPumps", name := "undo", desc := "()I" } : Jvm.MethodName) ({ cls := "FieldPumps", name := "undo", desc := "()I" } : Jvm.MethodName)) ∈ lw_all := lw_g (lw_at lw_m7 222 rfl) rfl
theorem q1758 : (Jvm.Cond.code ({ cls := "FieldPumps", name := "undo", desc := "()I" } : Jvm.MethodName) prog_1_method_32_code (1 : Nat) (Option.some Jvm.ClassFile.FieldType.int)) ∈ lw_all := lw_g (lw_at lw_m7 223 rfl) rfl
theorem q1759 : (Jvm.Cond.methodLink "FieldPumps" (366 : Nat) ({ cls := "java/util/ArrayDeque", name := "isEmpty", desc := "()Z" } : Jvm.MethodName)) ∈ lw_all := lw_g (lw_at lw_m7 224 rfl) rfl
theorem q1763 : (Jvm.Cond.methodLink "FieldPumps" (367 : Nat) ({ cls := "java/util/ArrayDeque", name := "removeLast", desc := "()Ljava/lang/Object;" } : Jvm.MethodName)) ∈ lw_all := lw_g (lw_at lw_m7 228 rfl) rfl
theorem q1775 : (Jvm.Cond.instanceMethod ({ cls := "FieldPumps", name := "type", desc := "(I)I" } : Jvm.MethodName)) ∈ lw_all := lw_g (lw_at lw_m8 0 rfl) rfl
theorem q1776 : (Jvm.Cond.selects "FieldPumps" ({ cls := "FieldPumps", name := "type", desc := "(I)I" } : Jvm.MethodName) ({ cls := "FieldPumps", name := "type", desc := "(I)I" } : Jvm.MethodName)) ∈ lw_all := lw_g (lw_at lw_m8 1 rfl) rfl
theorem q1777 : (Jvm.Cond.code ({ cls := "FieldPumps", name := "type", desc := "(I)I" } : Jvm.MethodName) prog_1_method_33_code (2 : Nat) (Option.some Jvm.ClassFile.FieldType.int)) ∈ lw_all := lw_g (lw_at lw_m8 2 rfl) rfl
theorem q1778 : (Jvm.Cond.constantLong "FieldPumps" (370 : Nat) (32 : Int64)) ∈ lw_all := lw_g (lw_at lw_m8 3 rfl) rfl
theorem q1779 : (Jvm.Cond.constantLong "FieldPumps" (372 : Nat) (126 : Int64)) ∈ lw_all := lw_g (lw_at lw_m8 4 rfl) rfl
theorem q1780 : (Jvm.Cond.methodLink "FieldPumps" (374 : Nat) ({ cls := "java/lang/StringBuilder", name := "append", desc := "(C)Ljava/lang/StringBuilder;" } : Jvm.MethodName)) ∈ lw_all := lw_g (lw_at lw_m8 5 rfl) rfl
theorem q1841 : (Jvm.Cond.instanceMethod ({ cls := "FieldPumps", name := "clearText", desc := "()I" } : Jvm.MethodName)) ∈ lw_all := lw_g (lw_at lw_m8 66 rfl) rfl
theorem q1842 : (Jvm.Cond.selects "FieldPumps" ({ cls := "FieldPumps", name := "clearText", desc := "()I" } : Jvm.MethodName) ({ cls := "FieldPumps", name := "clearText", desc := "()I" } : Jvm.MethodName)) ∈ lw_all := lw_g (lw_at lw_m8 67 rfl) rfl
theorem q1843 : (Jvm.Cond.code ({ cls := "FieldPumps", name := "clearText", desc := "()I" } : Jvm.MethodName) prog_1_method_34_code (2 : Nat) (Option.some Jvm.ClassFile.FieldType.int)) ∈ lw_all := lw_g (lw_at lw_m8 68 rfl) rfl
theorem q1844 : (Jvm.Cond.methodLink "FieldPumps" (378 : Nat) ({ cls := "java/lang/StringBuilder", name := "setLength", desc := "(I)V" } : Jvm.MethodName)) ∈ lw_all := lw_g (lw_at lw_m8 69 rfl) rfl
theorem q1865 : (Jvm.Cond.instanceMethod ({ cls := "FieldPumps", name := "fault", desc := "(I)I" } : Jvm.MethodName)) ∈ lw_all := lw_g (lw_at lw_m8 90 rfl) rfl
theorem q1866 : (Jvm.Cond.selects "FieldPumps" ({ cls := "FieldPumps", name := "fault", desc := "(I)I" } : Jvm.MethodName) ({ cls := "FieldPumps", name := "fault", desc := "(I)I" } : Jvm.MethodName)) ∈ lw_all := lw_g (lw_at lw_m8 91 rfl) rfl
theorem q1867 : (Jvm.Cond.code ({ cls := "FieldPumps", name := "fault", desc := "(I)I" } : Jvm.MethodName) prog_1_method_35_code (3 : Nat) (Option.some Jvm.ClassFile.FieldType.int)) ∈ lw_all := lw_g (lw_at lw_m8 92 rfl) rfl
theorem q1868 : (Jvm.Cond.classLink "FieldPumps" (382 : Nat) "FieldPumps$Reader") ∈ lw_all := lw_g (lw_at lw_m8 93 rfl) rfl
theorem q1870 : (Jvm.Cond.methodLinkNest "FieldPumps" (384 : Nat) ({ cls := "FieldPumps$Reader", name := "<init>", desc := "(LFieldPumps;)V" } : Jvm.MethodName) "FieldPumps") ∈ lw_tbl := lw_at lw_m8 95 rfl
theorem q1877 : (Jvm.Cond.fieldLinkNest "FieldPumps" (396 : Nat) "FieldPumps$Reader" "trial" "LFieldPumps$Station;" "FieldPumps") ∈ lw_tbl := lw_at lw_m8 102 rfl
theorem q1881 : (Jvm.Cond.fieldLinkNest "FieldPumps" (390 : Nat) "FieldPumps$Reader" "begins" "I" "FieldPumps") ∈ lw_tbl := lw_at lw_m8 106 rfl
theorem q1883 : (Jvm.Cond.fieldLinkNest "FieldPumps" (393 : Nat) "FieldPumps$Reader" "reason" "I" "FieldPumps") ∈ lw_tbl := lw_at lw_m8 108 rfl
theorem q1885 : (Jvm.Cond.fieldLinkNest "FieldPumps" (399 : Nat) "FieldPumps$Reader" "many" "I" "FieldPumps") ∈ lw_tbl := lw_at lw_m8 110 rfl
theorem q1902 : (Jvm.Cond.methodLink "FieldPumps" (387 : Nat) ({ cls := "FieldPumps$Reader", name := "isWell", desc := "()Z" } : Jvm.MethodName)) ∈ lw_all := lw_g (lw_at lw_m8 127 rfl) rfl
theorem q1999 : (Jvm.Cond.instanceMethod ({ cls := "FieldPumps", name := "play", desc := "()I" } : Jvm.MethodName)) ∈ lw_all := lw_g (lw_at lw_m8 224 rfl) rfl
theorem q2000 : (Jvm.Cond.selects "FieldPumps" ({ cls := "FieldPumps", name := "play", desc := "()I" } : Jvm.MethodName) ({ cls := "FieldPumps", name := "play", desc := "()I" } : Jvm.MethodName)) ∈ lw_all := lw_g (lw_at lw_m8 225 rfl) rfl
theorem q2001 : (Jvm.Cond.code ({ cls := "FieldPumps", name := "play", desc := "()I" } : Jvm.MethodName) prog_1_method_36_code (3 : Nat) (Option.some Jvm.ClassFile.FieldType.int)) ∈ lw_all := lw_g (lw_at lw_m8 226 rfl) rfl
theorem q2418 : (Jvm.Cond.castable "FieldPumps" "java/lang/Object") ∈ lw_tbl := lw_at lw_m10 163 rfl
theorem in_X0 : ∀ w ∈ wsX00, w ∈ lw_all := lw_in wsX00 [476, 478, 480] (by decide +kernel) (by decide +kernel)
