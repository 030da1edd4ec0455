set_option maxRecDepth 100000
abbrev cX2_values : ByteArray := prog_8_method_1_code
def yX2_values : MethodName := ⟨RX2, "values", "()[LFieldPumps$Stage;"⟩
def dkwX2_values_0 : List UInt8 := [178, 0, 22, 182, 0, 26, 192, 0, 27, 176]
abbrev dktX2_values_0 : List UInt8 := dkwX2_values_0 ++ []
theorem dksX2_values_0 : cX2_values.data.toList.drop 0 = dktX2_values_0 := by decide +kernel
theorem dX2_values_0 : decode cX2_values 0 = .ok (.getstatic 22, 3) := dk_178 0 22 (dk_at dksX2_values_0 0 rfl rfl)
theorem dX2_values_3 : decode cX2_values 3 = .ok (.invokevirtual 26, 3) := dk_182 0 26 (dk_at dksX2_values_0 3 rfl rfl)
theorem dX2_values_6 : decode cX2_values 6 = .ok (.checkcast 27, 3) := dk_192 0 27 (dk_at dksX2_values_0 6 rfl rfl)
theorem dX2_values_9 : decode cX2_values 9 = .ok (.areturn, 1) := dk_176 (dk_at dksX2_values_0 9 rfl rfl)
theorem q102 : (Jvm.Cond.initialized "FieldPumps$Stage") ∈ lw_all := lw_g (lw_at lw_m1 7 rfl) rfl
theorem q190 : (Jvm.Cond.static ({ cls := "FieldPumps$Stage", name := "values", desc := "()[LFieldPumps$Stage;" } : Jvm.MethodName)) ∈ lw_all := lw_g (lw_at lw_m1 95 rfl) rfl
theorem q191 : (Jvm.Cond.code ({ cls := "FieldPumps$Stage", name := "values", desc := "()[LFieldPumps$Stage;" } : Jvm.MethodName) prog_8_method_1_code (0 : Nat) (Option.some (Jvm.ClassFile.FieldType.array (Jvm.ClassFile.FieldType.object "FieldPumps$Stage")))) ∈ lw_all := lw_g (lw_at lw_m1 96 rfl) rfl
theorem q192 : (Jvm.Cond.fieldLink "FieldPumps$Stage" (22 : Nat) "FieldPumps$Stage" "$VALUES" "[LFieldPumps$Stage;") ∈ lw_all := lw_g (lw_at lw_m1 97 rfl) rfl
theorem q193 : (Jvm.Cond.laysStatic "FieldPumps$Stage" "$VALUES" "[LFieldPumps$Stage;") ∈ lw_tbl := lw_at lw_m1 98 rfl
theorem q194 : (Jvm.Cond.methodLink "FieldPumps$Stage" (26 : Nat) ({ cls := "[LFieldPumps$Stage;", name := "clone", desc := "()Ljava/lang/Object;" } : Jvm.MethodName)) ∈ lw_all := lw_g (lw_at lw_m1 99 rfl) rfl
theorem q201 : (Jvm.Cond.classLink "FieldPumps$Stage" (27 : Nat) "[LFieldPumps$Stage;") ∈ lw_all := lw_g (lw_at lw_m1 106 rfl) rfl
theorem q866 : (Jvm.Cond.declares ({ cls := "FieldPumps$Stage", name := "go", desc := "(LFieldPumps$Station;)V" } : Jvm.MethodName)) ∈ lw_tbl := lw_at lw_m4 51 rfl
theorem q867 : (Jvm.Cond.sameMethod "FieldPumps$Stage" "FieldPumps$Stage" "go" "(LFieldPumps$Station;)V") ∈ lw_all := lw_g (lw_at lw_m4 52 rfl) rfl
theorem q2417 : (Jvm.Cond.castable "FieldPumps$Stage" "java/lang/Object") ∈ lw_tbl := lw_at lw_m10 162 rfl
theorem q2464 : (Jvm.Cond.laysStatic "FieldPumps$Stage" "CLOCK" "LFieldPumps$Stage;") ∈ lw_tbl := lw_at lw_m10 209 rfl
theorem q2465 : (Jvm.Cond.laysStatic "FieldPumps$Stage" "WATER" "LFieldPumps$Stage;") ∈ lw_tbl := lw_at lw_m10 210 rfl
theorem q2466 : (Jvm.Cond.laysStatic "FieldPumps$Stage" "HOURS" "LFieldPumps$Stage;") ∈ lw_tbl := lw_at lw_m10 211 rfl
theorem q2467 : (Jvm.Cond.laysStatic "FieldPumps$Stage" "DARK" "LFieldPumps$Stage;") ∈ lw_tbl := lw_at lw_m10 212 rfl
theorem q2468 : (Jvm.Cond.laysStatic "FieldPumps$Stage" "DRY" "LFieldPumps$Stage;") ∈ lw_tbl := lw_at lw_m10 213 rfl
theorem q2469 : (Jvm.Cond.laysStatic "FieldPumps$Stage" "CONTROL" "LFieldPumps$Stage;") ∈ lw_tbl := lw_at lw_m10 214 rfl
abbrev cX3_init : ByteArray := prog_16_method_1_code
def yX3_init : MethodName := ⟨RX3, "<init>", "(LFieldPumps$Station;)V"⟩
def dkwX3_init_0 : List UInt8 := [42, 43, 181, 0, 1, 42, 183, 0, 7, 177]
abbrev dktX3_init_0 : List UInt8 := dkwX3_init_0 ++ []
theorem dksX3_init_0 : cX3_init.data.toList.drop 0 = dktX3_init_0 := by decide +kernel
theorem dX3_init_0 : decode cX3_init 0 = .ok (.aload_n 0, 1) := dk_42 (dk_at dksX3_init_0 0 rfl rfl)
theorem dX3_init_1 : decode cX3_init 1 = .ok (.aload_n 1, 1) := dk_43 (dk_at dksX3_init_0 1 rfl rfl)
theorem dX3_init_2 : decode cX3_init 2 = .ok (.putfield 1, 3) := dk_181 0 1 (dk_at dksX3_init_0 2 rfl rfl)
theorem dX3_init_5 : decode cX3_init 5 = .ok (.aload_n 0, 1) := dk_42 (dk_at dksX3_init_0 5 rfl rfl)
theorem dX3_init_6 : decode cX3_init 6 = .ok (.invokespecial 7, 3) := dk_183 0 7 (dk_at dksX3_init_0 6 rfl rfl)
theorem dX3_init_9 : decode cX3_init 9 = .ok (.return_, 1) := dk_177 (dk_at dksX3_init_0 9 rfl rfl)
abbrev cX3_compare : ByteArray := prog_16_method_4_code
def yX3_compare : MethodName := ⟨RX3, "compare", "(Ljava/lang/Object;Ljava/lang/Object;)I"⟩
def dkwX3_compare_0 : List UInt8 := [42, 43, 192, 0, 26, 44, 192, 0, 26, 182, 0, 34, 172]
abbrev dktX3_compare_0 : List UInt8 := dkwX3_compare_0 ++ []
theorem dksX3_compare_0 : cX3_compare.data.toList.drop 0 = dktX3_compare_0 := by decide +kernel
theorem dX3_compare_0 : decode cX3_compare 0 = .ok (.aload_n 0, 1) := dk_42 (dk_at dksX3_compare_0 0 rfl rfl)
theorem dX3_compare_1 : decode cX3_compare 1 = .ok (.aload_n 1, 1) := dk_43 (dk_at dksX3_compare_0 1 rfl rfl)
theorem dX3_compare_2 : decode cX3_compare 2 = .ok (.checkcast 26, 3) := dk_192 0 26 (dk_at dksX3_compare_0 2 rfl rfl)
theorem dX3_compare_5 : decode cX3_compare 5 = .ok (.aload_n 2, 1) := dk_44 (dk_at dksX3_compare_0 5 rfl rfl)
theorem dX3_compare_6 : decode cX3_compare 6 = .ok (.checkcast 26, 3) := dk_192 0 26 (dk_at dksX3_compare_0 6 rfl rfl)
theorem dX3_compare_9 : decode cX3_compare 9 = .ok (.invokevirtual 34, 3) := dk_182 0 34 (dk_at dksX3_compare_0 9 rfl rfl)
theorem dX3_compare_12 : decode cX3_compare 12 = .ok (.ireturn, 1) := dk_172 (dk_at dksX3_compare_0 12 rfl rfl)
abbrev cX3_compare_2 : ByteArray := prog_16_method_3_code
def yX3_compare_2 : MethodName := ⟨RX3, "compare", "(LFieldPumps$Pump;LFieldPumps$Pump;)I"⟩
def dkwX3_compare_2_2 : List UInt8 := [180, 0, 31, 100, 172]
abbrev dktX3_compare_2_2 : List UInt8 := dkwX3_compare_2_2 ++ []
def dkwX3_compare_2_1 : List UInt8 := [153, 0, 7, 29, 167, 0, 22, 21, 4, 153, 0, 8, 21, 4, 167, 0, 12, 43, 180, 0, 31, 44]
abbrev dktX3_compare_2_1 : List UInt8 := dkwX3_compare_2_1 ++ dktX3_compare_2_2
def dkwX3_compare_2_0 : List UInt8 := [42, 43, 182, 0, 21, 42, 44, 182, 0, 21, 100, 62, 43, 180, 0, 25, 44, 180, 0, 25, 100, 54, 4, 29]
abbrev dktX3_compare_2_0 : List UInt8 := dkwX3_compare_2_0 ++ dktX3_compare_2_1
theorem dksX3_compare_2_0 : cX3_compare_2.data.toList.drop 0 = dktX3_compare_2_0 := by decide +kernel
theorem dksX3_compare_2_1 : cX3_compare_2.data.toList.drop 24 = dktX3_compare_2_1 := dk_seg dksX3_compare_2_0 24 rfl rfl
theorem dksX3_compare_2_2 : cX3_compare_2.data.toList.drop 46 = dktX3_compare_2_2 := dk_seg dksX3_compare_2_1 22 rfl rfl
theorem dX3_compare_2_0 : decode cX3_compare_2 0 = .ok (.aload_n 0, 1) := dk_42 (dk_at dksX3_compare_2_0 0 rfl rfl)
theorem dX3_compare_2_1 : decode cX3_compare_2 1 = .ok (.aload_n 1, 1) := dk_43 (dk_at dksX3_compare_2_0 1 rfl rfl)
theorem dX3_compare_2_2 : decode cX3_compare_2 2 = .ok (.invokevirtual 21, 3) := dk_182 0 21 (dk_at dksX3_compare_2_0 2 rfl rfl)
theorem dX3_compare_2_5 : decode cX3_compare_2 5 = .ok (.aload_n 0, 1) := dk_42 (dk_at dksX3_compare_2_0 5 rfl rfl)
theorem dX3_compare_2_6 : decode cX3_compare_2 6 = .ok (.aload_n 2, 1) := dk_44 (dk_at dksX3_compare_2_0 6 rfl rfl)
theorem dX3_compare_2_7 : decode cX3_compare_2 7 = .ok (.invokevirtual 21, 3) := dk_182 0 21 (dk_at dksX3_compare_2_0 7 rfl rfl)
theorem dX3_compare_2_10 : decode cX3_compare_2 10 = .ok (.isub, 1) := dk_100 (dk_at dksX3_compare_2_0 10 rfl rfl)
theorem dX3_compare_2_11 : decode cX3_compare_2 11 = .ok (.istore_n 3, 1) := dk_62 (dk_at dksX3_compare_2_0 11 rfl rfl)
theorem dX3_compare_2_12 : decode cX3_compare_2 12 = .ok (.aload_n 1, 1) := dk_43 (dk_at dksX3_compare_2_0 12 rfl rfl)
theorem dX3_compare_2_13 : decode cX3_compare_2 13 = .ok (.getfield 25, 3) := dk_180 0 25 (dk_at dksX3_compare_2_0 13 rfl rfl)
theorem dX3_compare_2_16 : decode cX3_compare_2 16 = .ok (.aload_n 2, 1) := dk_44 (dk_at dksX3_compare_2_0 16 rfl rfl)
theorem dX3_compare_2_17 : decode cX3_compare_2 17 = .ok (.getfield 25, 3) := dk_180 0 25 (dk_at dksX3_compare_2_0 17 rfl rfl)
theorem dX3_compare_2_20 : decode cX3_compare_2 20 = .ok (.isub, 1) := dk_100 (dk_at dksX3_compare_2_0 20 rfl rfl)
theorem dX3_compare_2_21 : decode cX3_compare_2 21 = .ok (.istore 4, 2) := dk_54 4 (dk_at dksX3_compare_2_0 21 rfl rfl)
theorem dX3_compare_2_23 : decode cX3_compare_2 23 = .ok (.iload_n 3, 1) := dk_29 (dk_at dksX3_compare_2_0 23 rfl rfl)
theorem dX3_compare_2_24 : decode cX3_compare_2 24 = .ok (.ifCond .eq 7, 3) := dk_153 0 7 (dk_at dksX3_compare_2_1 0 rfl rfl)
theorem dX3_compare_2_27 : decode cX3_compare_2 27 = .ok (.iload_n 3, 1) := dk_29 (dk_at dksX3_compare_2_1 3 rfl rfl)
theorem dX3_compare_2_28 : decode cX3_compare_2 28 = .ok (.goto 22, 3) := dk_167 0 22 (dk_at dksX3_compare_2_1 4 rfl rfl)
theorem dX3_compare_2_31 : decode cX3_compare_2 31 = .ok (.iload 4, 2) := dk_21 4 (dk_at dksX3_compare_2_1 7 rfl rfl)
theorem dX3_compare_2_33 : decode cX3_compare_2 33 = .ok (.ifCond .eq 8, 3) := dk_153 0 8 (dk_at dksX3_compare_2_1 9 rfl rfl)
theorem dX3_compare_2_36 : decode cX3_compare_2 36 = .ok (.iload 4, 2) := dk_21 4 (dk_at dksX3_compare_2_1 12 rfl rfl)
theorem dX3_compare_2_38 : decode cX3_compare_2 38 = .ok (.goto 12, 3) := dk_167 0 12 (dk_at dksX3_compare_2_1 14 rfl rfl)
theorem dX3_compare_2_41 : decode cX3_compare_2 41 = .ok (.aload_n 1, 1) := dk_43 (dk_at dksX3_compare_2_1 17 rfl rfl)
theorem dX3_compare_2_42 : decode cX3_compare_2 42 = .ok (.getfield 31, 3) := dk_180 0 31 (dk_at dksX3_compare_2_1 18 rfl rfl)
theorem dX3_compare_2_45 : decode cX3_compare_2 45 = .ok (.aload_n 2, 1) := dk_44 (dk_at dksX3_compare_2_1 21 rfl rfl)
theorem dX3_compare_2_46 : decode cX3_compare_2 46 = .ok (.getfield 31, 3) := dk_180 0 31 (dk_at dksX3_compare_2_2 0 rfl rfl)
theorem dX3_compare_2_49 : decode cX3_compare_2 49 = .ok (.isub, 1) := dk_100 (dk_at dksX3_compare_2_2 3 rfl rfl)
theorem dX3_compare_2_50 : decode cX3_compare_2 50 = .ok (.ireturn, 1) := dk_172 (dk_at dksX3_compare_2_2 4 rfl rfl)
abbrev cX3_rank : ByteArray := prog_16_method_2_code
def yX3_rank : MethodName := ⟨RX3, "rank", "(LFieldPumps$Pump;)I"⟩
def dkwX3_rank_0 : List UInt8 := [43, 193, 0, 13, 42, 180, 0, 1, 180, 0, 15, 160, 0, 7, 3, 167, 0, 4, 4, 172]
abbrev dktX3_rank_0 : List UInt8 := dkwX3_rank_0 ++ []
theorem dksX3_rank_0 : cX3_rank.data.toList.drop 0 = dktX3_rank_0 := by decide +kernel
theorem dX3_rank_0 : decode cX3_rank 0 = .ok (.aload_n 1, 1) := dk_43 (dk_at dksX3_rank_0 0 rfl rfl)
theorem dX3_rank_1 : decode cX3_rank 1 = .ok (.instanceof 13, 3) := dk_193 0 13 (dk_at dksX3_rank_0 1 rfl rfl)
theorem dX3_rank_4 : decode cX3_rank 4 = .ok (.aload_n 0, 1) := dk_42 (dk_at dksX3_rank_0 4 rfl rfl)
theorem dX3_rank_5 : decode cX3_rank 5 = .ok (.getfield 1, 3) := dk_180 0 1 (dk_at dksX3_rank_0 5 rfl rfl)
theorem dX3_rank_8 : decode cX3_rank 8 = .ok (.getfield 15, 3) := dk_180 0 15 (dk_at dksX3_rank_0 8 rfl rfl)
theorem dX3_rank_11 : decode cX3_rank 11 = .ok (.if_icmp .ne 7, 3) := dk_160 0 7 (dk_at dksX3_rank_0 11 rfl rfl)
theorem dX3_rank_14 : decode cX3_rank 14 = .ok (.iconst 0, 1) := dk_3 (dk_at dksX3_rank_0 14 rfl rfl)
theorem dX3_rank_15 : decode cX3_rank 15 = .ok (.goto 4, 3) := dk_167 0 4 (dk_at dksX3_rank_0 15 rfl rfl)
theorem dX3_rank_18 : decode cX3_rank 18 = .ok (.iconst 1, 1) := dk_4 (dk_at dksX3_rank_0 18 rfl rfl)
theorem dX3_rank_19 : decode cX3_rank 19 = .ok (.ireturn, 1) := dk_172 (dk_at dksX3_rank_0 19 rfl rfl)
theorem q105 : (Jvm.Cond.initialized "FieldPumps$Station$1") ∈ lw_all := lw_g (lw_at lw_m1 10 rfl) rfl
theorem q205 : (Jvm.Cond.instantiable "FieldPumps$Station$1" (1 : Nat)) ∈ lw_all := lw_g (lw_at lw_m1 110 rfl) rfl
theorem q207 : (Jvm.Cond.instanceMethod ({ cls := "FieldPumps$Station$1", name := "<init>", desc := "(LFieldPumps$Station;)V" } : Jvm.MethodName)) ∈ lw_all := lw_g (lw_at lw_m1 112 rfl) rfl
theorem q208 : (Jvm.Cond.code ({ cls := "FieldPumps$Station$1", name := "<init>", desc := "(LFieldPumps$Station;)V" } : Jvm.MethodName) prog_16_method_1_code (2 : Nat) (Option.none : Option Jvm.ClassFile.FieldType)) ∈ lw_all := lw_g (lw_at lw_m1 113 rfl) rfl
theorem q209 : (Jvm.Cond.methodLink "FieldPumps$Station$1" (7 : Nat) ({ cls := "java/lang/Object", name := "<init>", desc := "()V" } : Jvm.MethodName)) ∈ lw_all := lw_g (lw_at lw_m1 114 rfl) rfl
theorem q210 : (Jvm.Cond.fieldLink "FieldPumps$Station$1" (1 : Nat) "FieldPumps$Station$1" "this$0" "LFieldPumps$Station;") ∈ lw_all := lw_g (lw_at lw_m1 115 rfl) rfl
theorem q211 : (Jvm.Cond.laysFinal "FieldPumps$Station$1" "FieldPumps$Station$1" "this$0" "LFieldPumps$Station;") ∈ lw_all := lw_g (lw_at lw_m1 116 rfl) rfl
theorem q212 : (Jvm.Cond.soleField "FieldPumps$Station$1" "this$0") ∈ lw_all := lw_g (lw_at lw_m1 117 rfl) rfl
theorem q213 : (Jvm.Cond.superclass "FieldPumps$Station$1" "java/lang/Object") ∈ lw_all := lw_g (lw_at lw_m1 118 rfl) rfl
theorem q317 : (Jvm.Cond.fieldLinkNest "FieldPumps$Station$1" (15 : Nat) "FieldPumps$Station" "rests" "Z" "FieldPumps") ∈ lw_tbl := lw_at lw_m1 222 rfl
theorem q583 : (Jvm.Cond.fieldLinkNest "FieldPumps$Station$1" (31 : Nat) "FieldPumps$Pump" "number" "I" "FieldPumps") ∈ lw_tbl := lw_at lw_m3 8 rfl
theorem q600 : (Jvm.Cond.fieldLinkNest "FieldPumps$Station$1" (25 : Nat) "FieldPumps$Pump" "run" "I" "FieldPumps") ∈ lw_tbl := lw_at lw_m3 25 rfl
theorem q708 : (Jvm.Cond.selects "FieldPumps$Station$1" ({ cls := "java/lang/Object", name := "getClass", desc := "()Ljava/lang/Class;" } : Jvm.MethodName) ({ cls := "java/lang/Object", name := "getClass", desc := "()Ljava/lang/Class;" } : Jvm.MethodName)) ∈ lw_all := lw_g (lw_at lw_m3 133 rfl) rfl
theorem q965 : (Jvm.Cond.castable "FieldPumps$Station$1" "java/util/Comparator") ∈ lw_tbl := lw_at lw_m4 150 rfl
theorem q966 : (Jvm.Cond.selects "FieldPumps$Station$1" ({ cls := "java/util/Comparator", name := "compare", desc := "(Ljava/lang/Object;Ljava/lang/Object;)I" } : Jvm.MethodName) ({ cls := "FieldPumps$Station$1", name := "compare", desc := "(Ljava/lang/Object;Ljava/lang/Object;)I" } : Jvm.MethodName)) ∈ lw_all := lw_g (lw_at lw_m4 151 rfl) rfl
theorem q967 : (Jvm.Cond.unhidden "FieldPumps$Station$1" "compare" "(Ljava/lang/Object;Ljava/lang/Object;)I") ∈ lw_tbl := lw_at lw_m4 152 rfl
theorem q968 : (Jvm.Cond.instanceMethod ({ cls := "FieldPumps$Station$1", name := "compare", desc := "(Ljava/lang/Object;Ljava/lang/Object;)I" } : Jvm.MethodName)) ∈ lw_all := lw_g (lw_at lw_m4 153 rfl) rfl
theorem q969 : (Jvm.Cond.publicMethod ({ cls := "FieldPumps$Station$1", name := "compare", desc := "(Ljava/lang/Object;Ljava/lang/Object;)I" } : Jvm.MethodName)) ∈ lw_tbl := lw_at lw_m4 154 rfl
theorem q970 : (Jvm.Cond.code ({ cls := "FieldPumps$Station$1", name := "compare", desc := "(Ljava/lang/Object;Ljava/lang/Object;)I" } : Jvm.MethodName) prog_16_method_4_code (3 : Nat) (Option.some Jvm.ClassFile.FieldType.int)) ∈ lw_all := lw_g (lw_at lw_m4 155 rfl) rfl
theorem q971 : (Jvm.Cond.classLink "FieldPumps$Station$1" (26 : Nat) "FieldPumps$Pump") ∈ lw_all := lw_g (lw_at lw_m4 156 rfl) rfl
theorem q972 : (Jvm.Cond.methodLink "FieldPumps$Station$1" (34 : Nat) ({ cls := "FieldPumps$Station$1", name := "compare", desc := "(LFieldPumps$Pump;LFieldPumps$Pump;)I" } : Jvm.MethodName)) ∈ lw_all := lw_g (lw_at lw_m4 157 rfl) rfl
theorem q973 : (Jvm.Cond.instanceMethod ({ cls := "FieldPumps$Station$1", name := "compare", desc := "(LFieldPumps$Pump;LFieldPumps$Pump;)I" } : Jvm.MethodName)) ∈ lw_all := lw_g (lw_at lw_m4 158 rfl) rfl
theorem q974 : (Jvm.Cond.selects "FieldPumps$Station$1" ({ cls := "FieldPumps$Station$1", name := "compare", desc := "(LFieldPumps$Pump;LFieldPumps$Pump;)I" } : Jvm.MethodName) ({ cls := "FieldPumps$Station$1", name := "compare", desc := "(LFieldPumps$Pump;LFieldPumps$Pump;)I" } : Jvm.MethodName)) ∈ lw_all := lw_g (lw_at lw_m4 159 rfl) rfl
theorem q975 : (Jvm.Cond.code ({ cls := "FieldPumps$Station$1", name := "compare", desc := "(LFieldPumps$Pump;LFieldPumps$Pump;)I" } : Jvm.MethodName) prog_16_method_3_code (5 : Nat) (Option.some Jvm.ClassFile.FieldType.int)) ∈ lw_all := lw_g (lw_at lw_m4 160 rfl) rfl
theorem q976 : (Jvm.Cond.methodLink "FieldPumps$Station$1" (21 : Nat) ({ cls := "FieldPumps$Station$1", name := "rank", desc := "(LFieldPumps$Pump;)I" } : Jvm.MethodName)) ∈ lw_all := lw_g (lw_at lw_m4 161 rfl) rfl
theorem q977 : (Jvm.Cond.privateMethod ({ cls := "FieldPumps$Station$1", name := "rank", desc := "(LFieldPumps$Pump;)I" } : Jvm.MethodName)) ∈ lw_tbl := lw_at lw_m4 162 rfl
theorem q978 : (Jvm.Cond.instanceMethod ({ cls := "FieldPumps$Station$1", name := "rank", desc := "(LFieldPumps$Pump;)I" } : Jvm.MethodName)) ∈ lw_all := lw_g (lw_at lw_m4 163 rfl) rfl
theorem q979 : (Jvm.Cond.code ({ cls := "FieldPumps$Station$1", name := "rank", desc := "(LFieldPumps$Pump;)I" } : Jvm.MethodName) prog_16_method_2_code (2 : Nat) (Option.some Jvm.ClassFile.FieldType.int)) ∈ lw_all := lw_g (lw_at lw_m4 164 rfl) rfl
theorem q980 : (Jvm.Cond.classLink "FieldPumps$Station$1" (13 : Nat) "FieldPumps$Jockey") ∈ lw_all := lw_g (lw_at lw_m4 165 rfl) rfl
theorem q2428 : (Jvm.Cond.castable "FieldPumps$Station$1" "java/lang/Object") ∈ lw_tbl := lw_at lw_m10 173 rfl
theorem in_X3 : ∀ w ∈ wsX30, w ∈ lw_all := lw_in wsX30 [211] (by decide +kernel) (by decide +kernel)
abbrev cX5_runs : ByteArray := prog_6_method_4_code
def yX5_runs : MethodName := ⟨RX5, "runs", "()Z"⟩
def dkwX5_runs_0 : List UInt8 := [42, 180, 0, 26, 158, 0, 7, 4, 167, 0, 4, 3, 172]
abbrev dktX5_runs_0 : List UInt8 := dkwX5_runs_0 ++ []
theorem dksX5_runs_0 : cX5_runs.data.toList.drop 0 = dktX5_runs_0 := by decide +kernel
theorem dX5_runs_0 : decode cX5_runs 0 = .ok (.aload_n 0, 1) := dk_42 (dk_at dksX5_runs_0 0 rfl rfl)
theorem dX5_runs_1 : decode cX5_runs 1 = .ok (.getfield 26, 3) := dk_180 0 26 (dk_at dksX5_runs_0 1 rfl rfl)
theorem dX5_runs_4 : decode cX5_runs 4 = .ok (.ifCond .le 7, 3) := dk_158 0 7 (dk_at dksX5_runs_0 4 rfl rfl)
theorem dX5_runs_7 : decode cX5_runs 7 = .ok (.iconst 1, 1) := dk_4 (dk_at dksX5_runs_0 7 rfl rfl)
theorem dX5_runs_8 : decode cX5_runs 8 = .ok (.goto 4, 3) := dk_167 0 4 (dk_at dksX5_runs_0 8 rfl rfl)
theorem dX5_runs_11 : decode cX5_runs 11 = .ok (.iconst 0, 1) := dk_3 (dk_at dksX5_runs_0 11 rfl rfl)
theorem dX5_runs_12 : decode cX5_runs 12 = .ok (.ireturn, 1) := dk_172 (dk_at dksX5_runs_0 12 rfl rfl)
abbrev cX5_init : ByteArray := prog_6_method_2_code
def yX5_init : MethodName := ⟨RX5, "<init>", "(LFieldPumps$Pump;)V"⟩
def dkwX5_init_2 : List UInt8 := [42, 43, 180, 0, 35, 181, 0, 35, 177]
abbrev dktX5_init_2 : List UInt8 := dkwX5_init_2 ++ []
def dkwX5_init_1 : List UInt8 := [42, 43, 180, 0, 26, 181, 0, 26, 42, 43, 180, 0, 29, 181, 0, 29, 42, 43, 180, 0, 32, 181, 0, 32]
abbrev dktX5_init_1 : List UInt8 := dkwX5_init_1 ++ dktX5_init_2
def dkwX5_init_0 : List UInt8 := [42, 43, 180, 0, 7, 43, 180, 0, 13, 43, 180, 0, 16, 183, 0, 19, 42, 43, 180, 0, 22, 181, 0, 22]
abbrev dktX5_init_0 : List UInt8 := dkwX5_init_0 ++ dktX5_init_1
theorem dksX5_init_0 : cX5_init.data.toList.drop 0 = dktX5_init_0 := by decide +kernel
theorem dksX5_init_1 : cX5_init.data.toList.drop 24 = dktX5_init_1 := dk_seg dksX5_init_0 24 rfl rfl
theorem dksX5_init_2 : cX5_init.data.toList.drop 48 = dktX5_init_2 := dk_seg dksX5_init_1 24 rfl rfl
theorem dX5_init_0 : decode cX5_init 0 = .ok (.aload_n 0, 1) := dk_42 (dk_at dksX5_init_0 0 rfl rfl)
theorem dX5_init_1 : decode cX5_init 1 = .ok (.aload_n 1, 1) := dk_43 (dk_at dksX5_init_0 1 rfl rfl)
theorem dX5_init_2 : decode cX5_init 2 = .ok (.getfield 7, 3) := dk_180 0 7 (dk_at dksX5_init_0 2 rfl rfl)
theorem dX5_init_5 : decode cX5_init 5 = .ok (.aload_n 1, 1) := dk_43 (dk_at dksX5_init_0 5 rfl rfl)
theorem dX5_init_6 : decode cX5_init 6 = .ok (.getfield 13, 3) := dk_180 0 13 (dk_at dksX5_init_0 6 rfl rfl)
theorem dX5_init_9 : decode cX5_init 9 = .ok (.aload_n 1, 1) := dk_43 (dk_at dksX5_init_0 9 rfl rfl)
theorem dX5_init_10 : decode cX5_init 10 = .ok (.getfield 16, 3) := dk_180 0 16 (dk_at dksX5_init_0 10 rfl rfl)
theorem dX5_init_13 : decode cX5_init 13 = .ok (.invokespecial 19, 3) := dk_183 0 19 (dk_at dksX5_init_0 13 rfl rfl)
theorem dX5_init_16 : decode cX5_init 16 = .ok (.aload_n 0, 1) := dk_42 (dk_at dksX5_init_0 16 rfl rfl)
theorem dX5_init_17 : decode cX5_init 17 = .ok (.aload_n 1, 1) := dk_43 (dk_at dksX5_init_0 17 rfl rfl)
theorem dX5_init_18 : decode cX5_init 18 = .ok (.getfield 22, 3) := dk_180 0 22 (dk_at dksX5_init_0 18 rfl rfl)
theorem dX5_init_21 : decode cX5_init 21 = .ok (.putfield 22, 3) := dk_181 0 22 (dk_at dksX5_init_0 21 rfl rfl)
theorem dX5_init_24 : decode cX5_init 24 = .ok (.aload_n 0, 1) := dk_42 (dk_at dksX5_init_1 0 rfl rfl)
theorem dX5_init_25 : decode cX5_init 25 = .ok (.aload_n 1, 1) := dk_43 (dk_at dksX5_init_1 1 rfl rfl)
theorem dX5_init_26 : decode cX5_init 26 = .ok (.getfield 26, 3) := dk_180 0 26 (dk_at dksX5_init_1 2 rfl rfl)
theorem dX5_init_29 : decode cX5_init 29 = .ok (.putfield 26, 3) := dk_181 0 26 (dk_at dksX5_init_1 5 rfl rfl)
theorem dX5_init_32 : decode cX5_init 32 = .ok (.aload_n 0, 1) := dk_42 (dk_at dksX5_init_1 8 rfl rfl)
theorem dX5_init_33 : decode cX5_init 33 = .ok (.aload_n 1, 1) := dk_43 (dk_at dksX5_init_1 9 rfl rfl)
theorem dX5_init_34 : decode cX5_init 34 = .ok (.getfield 29, 3) := dk_180 0 29 (dk_at dksX5_init_1 10 rfl rfl)
theorem dX5_init_37 : decode cX5_init 37 = .ok (.putfield 29, 3) := dk_181 0 29 (dk_at dksX5_init_1 13 rfl rfl)
theorem dX5_init_40 : decode cX5_init 40 = .ok (.aload_n 0, 1) := dk_42 (dk_at dksX5_init_1 16 rfl rfl)
theorem dX5_init_41 : decode cX5_init 41 = .ok (.aload_n 1, 1) := dk_43 (dk_at dksX5_init_1 17 rfl rfl)
theorem dX5_init_42 : decode cX5_init 42 = .ok (.getfield 32, 3) := dk_180 0 32 (dk_at dksX5_init_1 18 rfl rfl)
theorem dX5_init_45 : decode cX5_init 45 = .ok (.putfield 32, 3) := dk_181 0 32 (dk_at dksX5_init_1 21 rfl rfl)
theorem dX5_init_48 : decode cX5_init 48 = .ok (.aload_n 0, 1) := dk_42 (dk_at dksX5_init_2 0 rfl rfl)
theorem dX5_init_49 : decode cX5_init 49 = .ok (.aload_n 1, 1) := dk_43 (dk_at dksX5_init_2 1 rfl rfl)
theorem dX5_init_50 : decode cX5_init 50 = .ok (.getfield 35, 3) := dk_180 0 35 (dk_at dksX5_init_2 2 rfl rfl)
theorem dX5_init_53 : decode cX5_init 53 = .ok (.putfield 35, 3) := dk_181 0 35 (dk_at dksX5_init_2 5 rfl rfl)
theorem dX5_init_56 : decode cX5_init 56 = .ok (.return_, 1) := dk_177 (dk_at dksX5_init_2 8 rfl rfl)
abbrev cX5_init_2 : ByteArray := prog_6_method_1_code
def yX5_init_2 : MethodName := ⟨RX5, "<init>", "(III)V"⟩
def dkwX5_init_2_0 : List UInt8 := [42, 183, 0, 1, 42, 27, 181, 0, 7, 42, 28, 181, 0, 13, 42, 29, 181, 0, 16, 177]
abbrev dktX5_init_2_0 : List UInt8 := dkwX5_init_2_0 ++ []
theorem dksX5_init_2_0 : cX5_init_2.data.toList.drop 0 = dktX5_init_2_0 := by decide +kernel
theorem dX5_init_2_0 : decode cX5_init_2 0 = .ok (.aload_n 0, 1) := dk_42 (dk_at dksX5_init_2_0 0 rfl rfl)
theorem dX5_init_2_1 : decode cX5_init_2 1 = .ok (.invokespecial 1, 3) := dk_183 0 1 (dk_at dksX5_init_2_0 1 rfl rfl)
theorem dX5_init_2_4 : decode cX5_init_2 4 = .ok (.aload_n 0, 1) := dk_42 (dk_at dksX5_init_2_0 4 rfl rfl)
theorem dX5_init_2_5 : decode cX5_init_2 5 = .ok (.iload_n 1, 1) := dk_27 (dk_at dksX5_init_2_0 5 rfl rfl)
theorem dX5_init_2_6 : decode cX5_init_2 6 = .ok (.putfield 7, 3) := dk_181 0 7 (dk_at dksX5_init_2_0 6 rfl rfl)
theorem dX5_init_2_9 : decode cX5_init_2 9 = .ok (.aload_n 0, 1) := dk_42 (dk_at dksX5_init_2_0 9 rfl rfl)
theorem dX5_init_2_10 : decode cX5_init_2 10 = .ok (.iload_n 2, 1) := dk_28 (dk_at dksX5_init_2_0 10 rfl rfl)
theorem dX5_init_2_11 : decode cX5_init_2 11 = .ok (.putfield 13, 3) := dk_181 0 13 (dk_at dksX5_init_2_0 11 rfl rfl)
theorem dX5_init_2_14 : decode cX5_init_2 14 = .ok (.aload_n 0, 1) := dk_42 (dk_at dksX5_init_2_0 14 rfl rfl)
theorem dX5_init_2_15 : decode cX5_init_2 15 = .ok (.iload_n 3, 1) := dk_29 (dk_at dksX5_init_2_0 15 rfl rfl)
theorem dX5_init_2_16 : decode cX5_init_2 16 = .ok (.putfield 16, 3) := dk_181 0 16 (dk_at dksX5_init_2_0 16 rfl rfl)
theorem dX5_init_2_19 : decode cX5_init_2 19 = .ok (.return_, 1) := dk_177 (dk_at dksX5_init_2_0 19 rfl rfl)
abbrev cX5_stop : ByteArray := prog_6_method_7_code
def yX5_stop : MethodName := ⟨RX5, "stop", "()V"⟩
def dkwX5_stop_0 : List UInt8 := [42, 3, 181, 0, 26, 42, 3, 181, 0, 32, 177]
abbrev dktX5_stop_0 : List UInt8 := dkwX5_stop_0 ++ []
theorem dksX5_stop_0 : cX5_stop.data.toList.drop 0 = dktX5_stop_0 := by decide +kernel
theorem dX5_stop_0 : decode cX5_stop 0 = .ok (.aload_n 0, 1) := dk_42 (dk_at dksX5_stop_0 0 rfl rfl)
theorem dX5_stop_1 : decode cX5_stop 1 = .ok (.iconst 0, 1) := dk_3 (dk_at dksX5_stop_0 1 rfl rfl)
theorem dX5_stop_2 : decode cX5_stop 2 = .ok (.putfield 26, 3) := dk_181 0 26 (dk_at dksX5_stop_0 2 rfl rfl)
theorem dX5_stop_5 : decode cX5_stop 5 = .ok (.aload_n 0, 1) := dk_42 (dk_at dksX5_stop_0 5 rfl rfl)
theorem dX5_stop_6 : decode cX5_stop 6 = .ok (.iconst 0, 1) := dk_3 (dk_at dksX5_stop_0 6 rfl rfl)
theorem dX5_stop_7 : decode cX5_stop 7 = .ok (.putfield 32, 3) := dk_181 0 32 (dk_at dksX5_stop_0 7 rfl rfl)
theorem dX5_stop_10 : decode cX5_stop 10 = .ok (.return_, 1) := dk_177 (dk_at dksX5_stop_0 10 rfl rfl)
abbrev cX5_isReady : ByteArray := prog_6_method_5_code
def yX5_isReady : MethodName := ⟨RX5, "isReady", "()Z"⟩
def dkwX5_isReady_0 : List UInt8 := [42, 180, 0, 22, 154, 0, 14, 42, 182, 0, 38, 154, 0, 7, 4, 167, 0, 4, 3, 172]
abbrev dktX5_isReady_0 : List UInt8 := dkwX5_isReady_0 ++ []
theorem dksX5_isReady_0 : cX5_isReady.data.toList.drop 0 = dktX5_isReady_0 := by decide +kernel
theorem dX5_isReady_0 : decode cX5_isReady 0 = .ok (.aload_n 0, 1) := dk_42 (dk_at dksX5_isReady_0 0 rfl rfl)
theorem dX5_isReady_1 : decode cX5_isReady 1 = .ok (.getfield 22, 3) := dk_180 0 22 (dk_at dksX5_isReady_0 1 rfl rfl)
theorem dX5_isReady_4 : decode cX5_isReady 4 = .ok (.ifCond .ne 14, 3) := dk_154 0 14 (dk_at dksX5_isReady_0 4 rfl rfl)
theorem dX5_isReady_7 : decode cX5_isReady 7 = .ok (.aload_n 0, 1) := dk_42 (dk_at dksX5_isReady_0 7 rfl rfl)
theorem dX5_isReady_8 : decode cX5_isReady 8 = .ok (.invokevirtual 38, 3) := dk_182 0 38 (dk_at dksX5_isReady_0 8 rfl rfl)
theorem dX5_isReady_11 : decode cX5_isReady 11 = .ok (.ifCond .ne 7, 3) := dk_154 0 7 (dk_at dksX5_isReady_0 11 rfl rfl)
theorem dX5_isReady_14 : decode cX5_isReady 14 = .ok (.iconst 1, 1) := dk_4 (dk_at dksX5_isReady_0 14 rfl rfl)
theorem dX5_isReady_15 : decode cX5_isReady 15 = .ok (.goto 4, 3) := dk_167 0 4 (dk_at dksX5_isReady_0 15 rfl rfl)
theorem dX5_isReady_18 : decode cX5_isReady 18 = .ok (.iconst 0, 1) := dk_3 (dk_at dksX5_isReady_0 18 rfl rfl)
theorem dX5_isReady_19 : decode cX5_isReady 19 = .ok (.ireturn, 1) := dk_172 (dk_at dksX5_isReady_0 19 rfl rfl)
abbrev cX5_start : ByteArray := prog_6_method_6_code
def yX5_start : MethodName := ⟨RX5, "start", "(I)V"⟩
def dkwX5_start_0 : List UInt8 := [42, 27, 181, 0, 26, 42, 3, 181, 0, 32, 42, 89, 180, 0, 35, 4, 96, 181, 0, 35, 177]
abbrev dktX5_start_0 : List UInt8 := dkwX5_start_0 ++ []
theorem dksX5_start_0 : cX5_start.data.toList.drop 0 = dktX5_start_0 := by decide +kernel
theorem dX5_start_0 : decode cX5_start 0 = .ok (.aload_n 0, 1) := dk_42 (dk_at dksX5_start_0 0 rfl rfl)
theorem dX5_start_1 : decode cX5_start 1 = .ok (.iload_n 1, 1) := dk_27 (dk_at dksX5_start_0 1 rfl rfl)
theorem dX5_start_2 : decode cX5_start 2 = .ok (.putfield 26, 3) := dk_181 0 26 (dk_at dksX5_start_0 2 rfl rfl)
theorem dX5_start_5 : decode cX5_start 5 = .ok (.aload_n 0, 1) := dk_42 (dk_at dksX5_start_0 5 rfl rfl)
theorem dX5_start_6 : decode cX5_start 6 = .ok (.iconst 0, 1) := dk_3 (dk_at dksX5_start_0 6 rfl rfl)
theorem dX5_start_7 : decode cX5_start 7 = .ok (.putfield 32, 3) := dk_181 0 32 (dk_at dksX5_start_0 7 rfl rfl)
theorem dX5_start_10 : decode cX5_start 10 = .ok (.aload_n 0, 1) := dk_42 (dk_at dksX5_start_0 10 rfl rfl)
theorem dX5_start_11 : decode cX5_start 11 = .ok (.dup, 1) := dk_89 (dk_at dksX5_start_0 11 rfl rfl)
theorem dX5_start_12 : decode cX5_start 12 = .ok (.getfield 35, 3) := dk_180 0 35 (dk_at dksX5_start_0 12 rfl rfl)
theorem dX5_start_15 : decode cX5_start 15 = .ok (.iconst 1, 1) := dk_4 (dk_at dksX5_start_0 15 rfl rfl)
theorem dX5_start_16 : decode cX5_start 16 = .ok (.iadd, 1) := dk_96 (dk_at dksX5_start_0 16 rfl rfl)
theorem dX5_start_17 : decode cX5_start 17 = .ok (.putfield 35, 3) := dk_181 0 35 (dk_at dksX5_start_0 17 rfl rfl)
theorem dX5_start_20 : decode cX5_start 20 = .ok (.return_, 1) := dk_177 (dk_at dksX5_start_0 20 rfl rfl)
theorem q115 : (Jvm.Cond.initialized "FieldPumps$Pump") ∈ lw_all := lw_g (lw_at lw_m1 20 rfl) rfl
theorem q279 : (Jvm.Cond.instanceMethod ({ cls := "FieldPumps$Pump", name := "runs", desc := "()Z" } : Jvm.MethodName)) ∈ lw_all := lw_g (lw_at lw_m1 184 rfl) rfl
theorem q280 : (Jvm.Cond.sameMethod "FieldPumps$Pump" "FieldPumps$Pump" "runs" "()Z") ∈ lw_all := lw_g (lw_at lw_m1 185 rfl) rfl
theorem q284 : (Jvm.Cond.code ({ cls := "FieldPumps$Pump", name := "runs", desc := "()Z" } : Jvm.MethodName) prog_6_method_4_code (1 : Nat) (Option.some Jvm.ClassFile.FieldType.boolean)) ∈ lw_all := lw_g (lw_at lw_m1 189 rfl) rfl
theorem q576 : (Jvm.Cond.instanceMethod ({ cls := "FieldPumps$Pump", name := "<init>", desc := "(LFieldPumps$Pump;)V" } : Jvm.MethodName)) ∈ lw_all := lw_g (lw_at lw_m3 1 rfl) rfl
theorem q577 : (Jvm.Cond.code ({ cls := "FieldPumps$Pump", name := "<init>", desc := "(LFieldPumps$Pump;)V" } : Jvm.MethodName) prog_6_method_2_code (2 : Nat) (Option.none : Option Jvm.ClassFile.FieldType)) ∈ lw_all := lw_g (lw_at lw_m3 2 rfl) rfl
theorem q578 : (Jvm.Cond.methodLink "FieldPumps$Pump" (19 : Nat) ({ cls := "FieldPumps$Pump", name := "<init>", desc := "(III)V" } : Jvm.MethodName)) ∈ lw_all := lw_g (lw_at lw_m3 3 rfl) rfl
theorem q579 : (Jvm.Cond.instanceMethod ({ cls := "FieldPumps$Pump", name := "<init>", desc := "(III)V" } : Jvm.MethodName)) ∈ lw_all := lw_g (lw_at lw_m3 4 rfl) rfl
theorem q580 : (Jvm.Cond.code ({ cls := "FieldPumps$Pump", name := "<init>", desc := "(III)V" } : Jvm.MethodName) prog_6_method_1_code (4 : Nat) (Option.none : Option Jvm.ClassFile.FieldType)) ∈ lw_all := lw_g (lw_at lw_m3 5 rfl) rfl
theorem q581 : (Jvm.Cond.methodLink "FieldPumps$Pump" (1 : Nat) ({ cls := "java/lang/Object", name := "<init>", desc := "()V" } : Jvm.MethodName)) ∈ lw_all := lw_g (lw_at lw_m3 6 rfl) rfl
theorem q582 : (Jvm.Cond.fieldLink "FieldPumps$Pump" (7 : Nat) "FieldPumps$Pump" "number" "I") ∈ lw_all := lw_g (lw_at lw_m3 7 rfl) rfl
theorem q586 : (Jvm.Cond.fieldLink "FieldPumps$Pump" (13 : Nat) "FieldPumps$Pump" "shutoff" "I") ∈ lw_all := lw_g (lw_at lw_m3 11 rfl) rfl
theorem q589 : (Jvm.Cond.fieldLink "FieldPumps$Pump" (16 : Nat) "FieldPumps$Pump" "steep" "I") ∈ lw_all := lw_g (lw_at lw_m3 14 rfl) rfl
theorem q592 : (Jvm.Cond.fieldLink "FieldPumps$Pump" (22 : Nat) "FieldPumps$Pump" "isOut" "Z") ∈ lw_all := lw_g (lw_at lw_m3 17 rfl) rfl
theorem q595 : (Jvm.Cond.fieldLink "FieldPumps$Pump" (26 : Nat) "FieldPumps$Pump" "speed" "I") ∈ lw_all := lw_g (lw_at lw_m3 20 rfl) rfl
theorem q599 : (Jvm.Cond.fieldLink "FieldPumps$Pump" (29 : Nat) "FieldPumps$Pump" "run" "I") ∈ lw_all := lw_g (lw_at lw_m3 24 rfl) rfl
theorem q603 : (Jvm.Cond.fieldLink "FieldPumps$Pump" (32 : Nat) "FieldPumps$Pump" "runNow" "I") ∈ lw_all := lw_g (lw_at lw_m3 28 rfl) rfl
theorem q607 : (Jvm.Cond.fieldLink "FieldPumps$Pump" (35 : Nat) "FieldPumps$Pump" "starts" "I") ∈ lw_all := lw_g (lw_at lw_m3 32 rfl) rfl
theorem q610 : (Jvm.Cond.soleField "FieldPumps$Pump" "number") ∈ lw_all := lw_g (lw_at lw_m3 35 rfl) rfl
theorem q612 : (Jvm.Cond.soleField "FieldPumps$Pump" "shutoff") ∈ lw_all := lw_g (lw_at lw_m3 37 rfl) rfl
theorem q614 : (Jvm.Cond.soleField "FieldPumps$Pump" "steep") ∈ lw_all := lw_g (lw_at lw_m3 39 rfl) rfl
theorem q616 : (Jvm.Cond.soleField "FieldPumps$Pump" "isOut") ∈ lw_all := lw_g (lw_at lw_m3 41 rfl) rfl
theorem q618 : (Jvm.Cond.soleField "FieldPumps$Pump" "speed") ∈ lw_all := lw_g (lw_at lw_m3 43 rfl) rfl
theorem q620 : (Jvm.Cond.soleField "FieldPumps$Pump" "run") ∈ lw_all := lw_g (lw_at lw_m3 45 rfl) rfl
theorem q622 : (Jvm.Cond.soleField "FieldPumps$Pump" "runNow") ∈ lw_all := lw_g (lw_at lw_m3 47 rfl) rfl
theorem q624 : (Jvm.Cond.soleField "FieldPumps$Pump" "starts") ∈ lw_all := lw_g (lw_at lw_m3 49 rfl) rfl
theorem q849 : (Jvm.Cond.instanceMethod ({ cls := "FieldPumps$Pump", name := "stop", desc := "()V" } : Jvm.MethodName)) ∈ lw_all := lw_g (lw_at lw_m4 34 rfl) rfl
theorem q850 : (Jvm.Cond.sameMethod "FieldPumps$Pump" "FieldPumps$Pump" "stop" "()V") ∈ lw_all := lw_g (lw_at lw_m4 35 rfl) rfl
theorem q854 : (Jvm.Cond.code ({ cls := "FieldPumps$Pump", name := "stop", desc := "()V" } : Jvm.MethodName) prog_6_method_7_code (1 : Nat) (Option.none : Option Jvm.ClassFile.FieldType)) ∈ lw_all := lw_g (lw_at lw_m4 39 rfl) rfl
theorem q1454 : (Jvm.Cond.instanceMethod ({ cls := "FieldPumps$Pump", name := "isReady", desc := "()Z" } : Jvm.MethodName)) ∈ lw_all := lw_g (lw_at lw_m6 159 rfl) rfl
theorem q1455 : (Jvm.Cond.sameMethod "FieldPumps$Pump" "FieldPumps$Pump" "isReady" "()Z") ∈ lw_all := lw_g (lw_at lw_m6 160 rfl) rfl
theorem q1459 : (Jvm.Cond.code ({ cls := "FieldPumps$Pump", name := "isReady", desc := "()Z" } : Jvm.MethodName) prog_6_method_5_code (1 : Nat) (Option.some Jvm.ClassFile.FieldType.boolean)) ∈ lw_all := lw_g (lw_at lw_m6 164 rfl) rfl
theorem q1460 : (Jvm.Cond.methodLink "FieldPumps$Pump" (38 : Nat) ({ cls := "FieldPumps$Pump", name := "runs", desc := "()Z" } : Jvm.MethodName)) ∈ lw_all := lw_g (lw_at lw_m6 165 rfl) rfl
theorem q1507 : (Jvm.Cond.instanceMethod ({ cls := "FieldPumps$Pump", name := "start", desc := "(I)V" } : Jvm.MethodName)) ∈ lw_all := lw_g (lw_at lw_m6 212 rfl) rfl
theorem q1508 : (Jvm.Cond.sameMethod "FieldPumps$Pump" "FieldPumps$Pump" "start" "(I)V") ∈ lw_all := lw_g (lw_at lw_m6 213 rfl) rfl
theorem q1512 : (Jvm.Cond.code ({ cls := "FieldPumps$Pump", name := "start", desc := "(I)V" } : Jvm.MethodName) prog_6_method_6_code (2 : Nat) (Option.none : Option Jvm.ClassFile.FieldType)) ∈ lw_all := lw_g (lw_at lw_m6 217 rfl) rfl
theorem q1554 : (Jvm.Cond.declares ({ cls := "FieldPumps$Pump", name := "kind", desc := "()I" } : Jvm.MethodName)) ∈ lw_tbl := lw_at lw_m7 19 rfl
theorem q1555 : (Jvm.Cond.sameMethod "FieldPumps$Pump" "FieldPumps$Pump" "kind" "()I") ∈ lw_all := lw_g (lw_at lw_m7 20 rfl) rfl
abbrev cX6_init : ByteArray := prog_17_method_2_code
def yX6_init : MethodName := ⟨RX6, "<init>", "(LFieldPumps$Variable;)V"⟩
def dkwX6_init_0 : List UInt8 := [42, 43, 183, 0, 7, 177]
abbrev dktX6_init_0 : List UInt8 := dkwX6_init_0 ++ []
theorem dksX6_init_0 : cX6_init.data.toList.drop 0 = dktX6_init_0 := by decide +kernel
theorem dX6_init_0 : decode cX6_init 0 = .ok (.aload_n 0, 1) := dk_42 (dk_at dksX6_init_0 0 rfl rfl)
theorem dX6_init_1 : decode cX6_init 1 = .ok (.aload_n 1, 1) := dk_43 (dk_at dksX6_init_0 1 rfl rfl)
theorem dX6_init_2 : decode cX6_init 2 = .ok (.invokespecial 7, 3) := dk_183 0 7 (dk_at dksX6_init_0 2 rfl rfl)
theorem dX6_init_5 : decode cX6_init 5 = .ok (.return_, 1) := dk_177 (dk_at dksX6_init_0 5 rfl rfl)
abbrev cX6_init_2 : ByteArray := prog_17_method_1_code
def yX6_init_2 : MethodName := ⟨RX6, "<init>", "(III)V"⟩
def dkwX6_init_2_0 : List UInt8 := [42, 27, 28, 29, 183, 0, 1, 177]
abbrev dktX6_init_2_0 : List UInt8 := dkwX6_init_2_0 ++ []
theorem dksX6_init_2_0 : cX6_init_2.data.toList.drop 0 = dktX6_init_2_0 := by decide +kernel
theorem dX6_init_2_0 : decode cX6_init_2 0 = .ok (.aload_n 0, 1) := dk_42 (dk_at dksX6_init_2_0 0 rfl rfl)
theorem dX6_init_2_1 : decode cX6_init_2 1 = .ok (.iload_n 1, 1) := dk_27 (dk_at dksX6_init_2_0 1 rfl rfl)
theorem dX6_init_2_2 : decode cX6_init_2 2 = .ok (.iload_n 2, 1) := dk_28 (dk_at dksX6_init_2_0 2 rfl rfl)
theorem dX6_init_2_3 : decode cX6_init_2 3 = .ok (.iload_n 3, 1) := dk_29 (dk_at dksX6_init_2_0 3 rfl rfl)
theorem dX6_init_2_4 : decode cX6_init_2 4 = .ok (.invokespecial 1, 3) := dk_183 0 1 (dk_at dksX6_init_2_0 4 rfl rfl)
theorem dX6_init_2_7 : decode cX6_init_2 7 = .ok (.return_, 1) := dk_177 (dk_at dksX6_init_2_0 7 rfl rfl)
abbrev cX6_kind : ByteArray := prog_17_method_3_code
def yX6_kind : MethodName := ⟨RX6, "kind", "()I"⟩
theorem dX6_kind_0 : decode cX6_kind 0 = .ok (.iconst 1, 1) := by decide +kernel
theorem dX6_kind_1 : decode cX6_kind 1 = .ok (.ireturn, 1) := by decide +kernel
theorem q116 : (Jvm.Cond.initialized "FieldPumps$Variable") ∈ lw_all := lw_g (lw_at lw_m1 21 rfl) rfl
theorem q283 : (Jvm.Cond.selects "FieldPumps$Variable" ({ cls := "FieldPumps$Pump", name := "runs", desc := "()Z" } : Jvm.MethodName) ({ cls := "FieldPumps$Pump", name := "runs", desc := "()Z" } : Jvm.MethodName)) ∈ lw_all := lw_g (lw_at lw_m1 188 rfl) rfl
theorem q573 : (Jvm.Cond.instanceMethod ({ cls := "FieldPumps$Variable", name := "<init>", desc := "(LFieldPumps$Variable;)V" } : Jvm.MethodName)) ∈ lw_all := lw_g (lw_at lw_m2 238 rfl) rfl
theorem q574 : (Jvm.Cond.code ({ cls := "FieldPumps$Variable", name := "<init>", desc := "(LFieldPumps$Variable;)V" } : Jvm.MethodName) prog_17_method_2_code (2 : Nat) (Option.none : Option Jvm.ClassFile.FieldType)) ∈ lw_all := lw_g (lw_at lw_m2 239 rfl) rfl
theorem q575 : (Jvm.Cond.methodLink "FieldPumps$Variable" (7 : Nat) ({ cls := "FieldPumps$Pump", name := "<init>", desc := "(LFieldPumps$Pump;)V" } : Jvm.MethodName)) ∈ lw_all := lw_g (lw_at lw_m3 0 rfl) rfl
theorem q627 : (Jvm.Cond.instantiable "FieldPumps$Variable" (8 : Nat)) ∈ lw_all := lw_g (lw_at lw_m3 52 rfl) rfl
theorem q629 : (Jvm.Cond.laysFinal "FieldPumps$Variable" "FieldPumps$Pump" "number" "I") ∈ lw_all := lw_g (lw_at lw_m3 54 rfl) rfl
theorem q630 : (Jvm.Cond.laysFinal "FieldPumps$Variable" "FieldPumps$Pump" "shutoff" "I") ∈ lw_all := lw_g (lw_at lw_m3 55 rfl) rfl
theorem q631 : (Jvm.Cond.laysFinal "FieldPumps$Variable" "FieldPumps$Pump" "steep" "I") ∈ lw_all := lw_g (lw_at lw_m3 56 rfl) rfl
theorem q632 : (Jvm.Cond.lays "FieldPumps$Variable" "FieldPumps$Pump" "isOut" "Z") ∈ lw_all := lw_g (lw_at lw_m3 57 rfl) rfl
theorem q633 : (Jvm.Cond.lays "FieldPumps$Variable" "FieldPumps$Pump" "speed" "I") ∈ lw_all := lw_g (lw_at lw_m3 58 rfl) rfl
theorem q634 : (Jvm.Cond.lays "FieldPumps$Variable" "FieldPumps$Pump" "run" "I") ∈ lw_all := lw_g (lw_at lw_m3 59 rfl) rfl
theorem q635 : (Jvm.Cond.lays "FieldPumps$Variable" "FieldPumps$Pump" "runNow" "I") ∈ lw_all := lw_g (lw_at lw_m3 60 rfl) rfl
theorem q636 : (Jvm.Cond.lays "FieldPumps$Variable" "FieldPumps$Pump" "starts" "I") ∈ lw_all := lw_g (lw_at lw_m3 61 rfl) rfl
theorem q637 : (Jvm.Cond.superclass "FieldPumps$Variable" "FieldPumps$Pump") ∈ lw_all := lw_g (lw_at lw_m3 62 rfl) rfl
theorem q709 : (Jvm.Cond.selects "FieldPumps$Variable" ({ cls := "java/lang/Object", name := "getClass", desc := "()Ljava/lang/Class;" } : Jvm.MethodName) ({ cls := "java/lang/Object", name := "getClass", desc := "()Ljava/lang/Class;" } : Jvm.MethodName)) ∈ lw_all := lw_g (lw_at lw_m3 134 rfl) rfl
theorem q816 : (Jvm.Cond.instanceMethod ({ cls := "FieldPumps$Variable", name := "<init>", desc := "(III)V" } : Jvm.MethodName)) ∈ lw_all := lw_g (lw_at lw_m4 1 rfl) rfl
theorem q817 : (Jvm.Cond.code ({ cls := "FieldPumps$Variable", name := "<init>", desc := "(III)V" } : Jvm.MethodName) prog_17_method_1_code (4 : Nat) (Option.none : Option Jvm.ClassFile.FieldType)) ∈ lw_all := lw_g (lw_at lw_m4 2 rfl) rfl
theorem q818 : (Jvm.Cond.methodLink "FieldPumps$Variable" (1 : Nat) ({ cls := "FieldPumps$Pump", name := "<init>", desc := "(III)V" } : Jvm.MethodName)) ∈ lw_all := lw_g (lw_at lw_m4 3 rfl) rfl
theorem q853 : (Jvm.Cond.selects "FieldPumps$Variable" ({ cls := "FieldPumps$Pump", name := "stop", desc := "()V" } : Jvm.MethodName) ({ cls := "FieldPumps$Pump", name := "stop", desc := "()V" } : Jvm.MethodName)) ∈ lw_all := lw_g (lw_at lw_m4 38 rfl) rfl
theorem q1458 : (Jvm.Cond.selects "FieldPumps$Variable" ({ cls := "FieldPumps$Pump", name := "isReady", desc := "()Z" } : Jvm.MethodName) ({ cls := "FieldPumps$Pump", name := "isReady", desc := "()Z" } : Jvm.MethodName)) ∈ lw_all := lw_g (lw_at lw_m6 163 rfl) rfl
theorem q1511 : (Jvm.Cond.selects "FieldPumps$Variable" ({ cls := "FieldPumps$Pump", name := "start", desc := "(I)V" } : Jvm.MethodName) ({ cls := "FieldPumps$Pump", name := "start", desc := "(I)V" } : Jvm.MethodName)) ∈ lw_all := lw_g (lw_at lw_m6 216 rfl) rfl
theorem q1563 : (Jvm.Cond.instanceMethod ({ cls := "FieldPumps$Variable", name := "kind", desc := "()I" } : Jvm.MethodName)) ∈ lw_all := lw_g (lw_at lw_m7 28 rfl) rfl
theorem q1564 : (Jvm.Cond.code ({ cls := "FieldPumps$Variable", name := "kind", desc := "()I" } : Jvm.MethodName) prog_17_method_3_code (1 : Nat) (Option.some Jvm.ClassFile.FieldType.int)) ∈ lw_all := lw_g (lw_at lw_m7 29 rfl) rfl
theorem q1565 : (Jvm.Cond.selects "FieldPumps$Variable" ({ cls := "FieldPumps$Pump", name := "kind", desc := "()I" } : Jvm.MethodName) ({ cls := "FieldPumps$Variable", name := "kind", desc := "()I" } : Jvm.MethodName)) ∈ lw_all := lw_g (lw_at lw_m7 30 rfl) rfl
theorem q2396 : (Jvm.Cond.sameMethod "FieldPumps$Variable" "FieldPumps$Variable" "kind" "()I") ∈ lw_all := lw_g (lw_at lw_m10 141 rfl) rfl
theorem q2413 : (Jvm.Cond.castable "FieldPumps$Variable" "FieldPumps$Pump") ∈ lw_tbl := lw_at lw_m10 158 rfl
theorem q2434 : (Jvm.Cond.castable "FieldPumps$Variable" "java/lang/Object") ∈ lw_tbl := lw_at lw_m10 179 rfl
theorem in_X6 : ∀ w ∈ wsX60, w ∈ lw_all := lw_in wsX60 [629, 630, 631, 632, 633, 634, 635, 636] (by decide +kernel) (by decide +kernel)
abbrev cX7_init : ByteArray := prog_4_method_2_code
def yX7_init : MethodName := ⟨RX7, "<init>", "(LFieldPumps$Jockey;)V"⟩
def dkwX7_init_0 : List UInt8 := [42, 43, 183, 0, 7, 177]
abbrev dktX7_init_0 : List UInt8 := dkwX7_init_0 ++ []
theorem dksX7_init_0 : cX7_init.data.toList.drop 0 = dktX7_init_0 := by decide +kernel
theorem dX7_init_0 : decode cX7_init 0 = .ok (.aload_n 0, 1) := dk_42 (dk_at dksX7_init_0 0 rfl rfl)
theorem dX7_init_1 : decode cX7_init 1 = .ok (.aload_n 1, 1) := dk_43 (dk_at dksX7_init_0 1 rfl rfl)
theorem dX7_init_2 : decode cX7_init 2 = .ok (.invokespecial 7, 3) := dk_183 0 7 (dk_at dksX7_init_0 2 rfl rfl)
theorem dX7_init_5 : decode cX7_init 5 = .ok (.return_, 1) := dk_177 (dk_at dksX7_init_0 5 rfl rfl)
abbrev cX7_init_2 : ByteArray := prog_4_method_1_code
def yX7_init_2 : MethodName := ⟨RX7, "<init>", "(III)V"⟩
def dkwX7_init_2_0 : List UInt8 := [42, 27, 28, 29, 183, 0, 1, 177]
abbrev dktX7_init_2_0 : List UInt8 := dkwX7_init_2_0 ++ []
theorem dksX7_init_2_0 : cX7_init_2.data.toList.drop 0 = dktX7_init_2_0 := by decide +kernel
theorem dX7_init_2_0 : decode cX7_init_2 0 = .ok (.aload_n 0, 1) := dk_42 (dk_at dksX7_init_2_0 0 rfl rfl)
theorem dX7_init_2_1 : decode cX7_init_2 1 = .ok (.iload_n 1, 1) := dk_27 (dk_at dksX7_init_2_0 1 rfl rfl)
theorem dX7_init_2_2 : decode cX7_init_2 2 = .ok (.iload_n 2, 1) := dk_28 (dk_at dksX7_init_2_0 2 rfl rfl)
theorem dX7_init_2_3 : decode cX7_init_2 3 = .ok (.iload_n 3, 1) := dk_29 (dk_at dksX7_init_2_0 3 rfl rfl)
theorem dX7_init_2_4 : decode cX7_init_2 4 = .ok (.invokespecial 1, 3) := dk_183 0 1 (dk_at dksX7_init_2_0 4 rfl rfl)
theorem dX7_init_2_7 : decode cX7_init_2 7 = .ok (.return_, 1) := dk_177 (dk_at dksX7_init_2_0 7 rfl rfl)
abbrev cX7_kind : ByteArray := prog_4_method_3_code
def yX7_kind : MethodName := ⟨RX7, "kind", "()I"⟩
def dkwX7_kind_0 : List UInt8 := [42, 183, 0, 10, 4, 96, 172]
abbrev dktX7_kind_0 : List UInt8 := dkwX7_kind_0 ++ []
theorem dksX7_kind_0 : cX7_kind.data.toList.drop 0 = dktX7_kind_0 := by decide +kernel
theorem dX7_kind_0 : decode cX7_kind 0 = .ok (.aload_n 0, 1) := dk_42 (dk_at dksX7_kind_0 0 rfl rfl)
theorem dX7_kind_1 : decode cX7_kind 1 = .ok (.invokespecial 10, 3) := dk_183 0 10 (dk_at dksX7_kind_0 1 rfl rfl)
theorem dX7_kind_4 : decode cX7_kind 4 = .ok (.iconst 1, 1) := dk_4 (dk_at dksX7_kind_0 4 rfl rfl)
theorem dX7_kind_5 : decode cX7_kind 5 = .ok (.iadd, 1) := dk_96 (dk_at dksX7_kind_0 5 rfl rfl)
theorem dX7_kind_6 : decode cX7_kind 6 = .ok (.ireturn, 1) := dk_172 (dk_at dksX7_kind_0 6 rfl rfl)
theorem q117 : (Jvm.Cond.initialized "FieldPumps$Jockey") ∈ lw_all := lw_g (lw_at lw_m1 22 rfl) rfl
theorem q282 : (Jvm.Cond.selects "FieldPumps$Jockey" ({ cls := "FieldPumps$Pump", name := "runs", desc := "()Z" } : Jvm.MethodName) ({ cls := "FieldPumps$Pump", name := "runs", desc := "()Z" } : Jvm.MethodName)) ∈ lw_all := lw_g (lw_at lw_m1 187 rfl) rfl
theorem q568 : (Jvm.Cond.instantiable "FieldPumps$Jockey" (8 : Nat)) ∈ lw_all := lw_g (lw_at lw_m2 233 rfl) rfl
theorem q570 : (Jvm.Cond.instanceMethod ({ cls := "FieldPumps$Jockey", name := "<init>", desc := "(LFieldPumps$Jockey;)V" } : Jvm.MethodName)) ∈ lw_all := lw_g (lw_at lw_m2 235 rfl) rfl
theorem q571 : (Jvm.Cond.code ({ cls := "FieldPumps$Jockey", name := "<init>", desc := "(LFieldPumps$Jockey;)V" } : Jvm.MethodName) prog_4_method_2_code (2 : Nat) (Option.none : Option Jvm.ClassFile.FieldType)) ∈ lw_all := lw_g (lw_at lw_m2 236 rfl) rfl
theorem q572 : (Jvm.Cond.methodLink "FieldPumps$Jockey" (7 : Nat) ({ cls := "FieldPumps$Variable", name := "<init>", desc := "(LFieldPumps$Variable;)V" } : Jvm.MethodName)) ∈ lw_all := lw_g (lw_at lw_m2 237 rfl) rfl
theorem q609 : (Jvm.Cond.laysFinal "FieldPumps$Jockey" "FieldPumps$Pump" "number" "I") ∈ lw_all := lw_g (lw_at lw_m3 34 rfl) rfl
theorem q611 : (Jvm.Cond.laysFinal "FieldPumps$Jockey" "FieldPumps$Pump" "shutoff" "I") ∈ lw_all := lw_g (lw_at lw_m3 36 rfl) rfl
theorem q613 : (Jvm.Cond.laysFinal "FieldPumps$Jockey" "FieldPumps$Pump" "steep" "I") ∈ lw_all := lw_g (lw_at lw_m3 38 rfl) rfl
theorem q615 : (Jvm.Cond.lays "FieldPumps$Jockey" "FieldPumps$Pump" "isOut" "Z") ∈ lw_all := lw_g (lw_at lw_m3 40 rfl) rfl
theorem q617 : (Jvm.Cond.lays "FieldPumps$Jockey" "FieldPumps$Pump" "speed" "I") ∈ lw_all := lw_g (lw_at lw_m3 42 rfl) rfl
theorem q619 : (Jvm.Cond.lays "FieldPumps$Jockey" "FieldPumps$Pump" "run" "I") ∈ lw_all := lw_g (lw_at lw_m3 44 rfl) rfl
theorem q621 : (Jvm.Cond.lays "FieldPumps$Jockey" "FieldPumps$Pump" "runNow" "I") ∈ lw_all := lw_g (lw_at lw_m3 46 rfl) rfl
theorem q623 : (Jvm.Cond.lays "FieldPumps$Jockey" "FieldPumps$Pump" "starts" "I") ∈ lw_all := lw_g (lw_at lw_m3 48 rfl) rfl
theorem q625 : (Jvm.Cond.superclass "FieldPumps$Jockey" "FieldPumps$Variable") ∈ lw_all := lw_g (lw_at lw_m3 50 rfl) rfl
theorem q698 : (Jvm.Cond.selects "FieldPumps$Jockey" ({ cls := "java/lang/Object", name := "getClass", desc := "()Ljava/lang/Class;" } : Jvm.MethodName) ({ cls := "java/lang/Object", name := "getClass", desc := "()Ljava/lang/Class;" } : Jvm.MethodName)) ∈ lw_all := lw_g (lw_at lw_m3 123 rfl) rfl
theorem q820 : (Jvm.Cond.instanceMethod ({ cls := "FieldPumps$Jockey", name := "<init>", desc := "(III)V" } : Jvm.MethodName)) ∈ lw_all := lw_g (lw_at lw_m4 5 rfl) rfl
theorem q821 : (Jvm.Cond.code ({ cls := "FieldPumps$Jockey", name := "<init>", desc := "(III)V" } : Jvm.MethodName) prog_4_method_1_code (4 : Nat) (Option.none : Option Jvm.ClassFile.FieldType)) ∈ lw_all := lw_g (lw_at lw_m4 6 rfl) rfl
theorem q822 : (Jvm.Cond.methodLink "FieldPumps$Jockey" (1 : Nat) ({ cls := "FieldPumps$Variable", name := "<init>", desc := "(III)V" } : Jvm.MethodName)) ∈ lw_all := lw_g (lw_at lw_m4 7 rfl) rfl
theorem q852 : (Jvm.Cond.selects "FieldPumps$Jockey" ({ cls := "FieldPumps$Pump", name := "stop", desc := "()V" } : Jvm.MethodName) ({ cls := "FieldPumps$Pump", name := "stop", desc := "()V" } : Jvm.MethodName)) ∈ lw_all := lw_g (lw_at lw_m4 37 rfl) rfl
theorem q1457 : (Jvm.Cond.selects "FieldPumps$Jockey" ({ cls := "FieldPumps$Pump", name := "isReady", desc := "()Z" } : Jvm.MethodName) ({ cls := "FieldPumps$Pump", name := "isReady", desc := "()Z" } : Jvm.MethodName)) ∈ lw_all := lw_g (lw_at lw_m6 162 rfl) rfl
theorem q1510 : (Jvm.Cond.selects "FieldPumps$Jockey" ({ cls := "FieldPumps$Pump", name := "start", desc := "(I)V" } : Jvm.MethodName) ({ cls := "FieldPumps$Pump", name := "start", desc := "(I)V" } : Jvm.MethodName)) ∈ lw_all := lw_g (lw_at lw_m6 215 rfl) rfl
theorem q1559 : (Jvm.Cond.selects "FieldPumps$Jockey" ({ cls := "FieldPumps$Pump", name := "kind", desc := "()I" } : Jvm.MethodName) ({ cls := "FieldPumps$Jockey", name := "kind", desc := "()I" } : Jvm.MethodName)) ∈ lw_all := lw_g (lw_at lw_m7 24 rfl) rfl
theorem q1560 : (Jvm.Cond.instanceMethod ({ cls := "FieldPumps$Jockey", name := "kind", desc := "()I" } : Jvm.MethodName)) ∈ lw_all := lw_g (lw_at lw_m7 25 rfl) rfl
theorem q1561 : (Jvm.Cond.code ({ cls := "FieldPumps$Jockey", name := "kind", desc := "()I" } : Jvm.MethodName) prog_4_method_3_code (1 : Nat) (Option.some Jvm.ClassFile.FieldType.int)) ∈ lw_all := lw_g (lw_at lw_m7 26 rfl) rfl
theorem q1562 : (Jvm.Cond.methodLink "FieldPumps$Jockey" (10 : Nat) ({ cls := "FieldPumps$Variable", name := "kind", desc := "()I" } : Jvm.MethodName)) ∈ lw_all := lw_g (lw_at lw_m7 27 rfl) rfl
theorem q2412 : (Jvm.Cond.castable "FieldPumps$Jockey" "FieldPumps$Pump") ∈ lw_tbl := lw_at lw_m10 157 rfl
theorem q2414 : (Jvm.Cond.castable "FieldPumps$Jockey" "FieldPumps$Variable") ∈ lw_tbl := lw_at lw_m10 159 rfl
theorem q2433 : (Jvm.Cond.castable "FieldPumps$Jockey" "java/lang/Object") ∈ lw_tbl := lw_at lw_m10 178 rfl
theorem in_X7 : ∀ w ∈ wsX70, w ∈ lw_all := lw_in wsX70 [609, 611, 613, 615, 617, 619, 621, 623] (by decide +kernel) (by decide +kernel)
abbrev cX8_init : ByteArray := prog_3_method_2_code
def yX8_init : MethodName := ⟨RX8, "<init>", "(LFieldPumps$Fixed;)V"⟩
def dkwX8_init_0 : List UInt8 := [42, 43, 183, 0, 7, 177]
abbrev dktX8_init_0 : List UInt8 := dkwX8_init_0 ++ []
theorem dksX8_init_0 : cX8_init.data.toList.drop 0 = dktX8_init_0 := by decide +kernel
theorem dX8_init_0 : decode cX8_init 0 = .ok (.aload_n 0, 1) := dk_42 (dk_at dksX8_init_0 0 rfl rfl)
theorem dX8_init_1 : decode cX8_init 1 = .ok (.aload_n 1, 1) := dk_43 (dk_at dksX8_init_0 1 rfl rfl)
theorem dX8_init_2 : decode cX8_init 2 = .ok (.invokespecial 7, 3) := dk_183 0 7 (dk_at dksX8_init_0 2 rfl rfl)
theorem dX8_init_5 : decode cX8_init 5 = .ok (.return_, 1) := dk_177 (dk_at dksX8_init_0 5 rfl rfl)
abbrev cX8_init_2 : ByteArray := prog_3_method_1_code
def yX8_init_2 : MethodName := ⟨RX8, "<init>", "(III)V"⟩
def dkwX8_init_2_0 : List UInt8 := [42, 27, 28, 29, 183, 0, 1, 177]
abbrev dktX8_init_2_0 : List UInt8 := dkwX8_init_2_0 ++ []
theorem dksX8_init_2_0 : cX8_init_2.data.toList.drop 0 = dktX8_init_2_0 := by decide +kernel
theorem dX8_init_2_0 : decode cX8_init_2 0 = .ok (.aload_n 0, 1) := dk_42 (dk_at dksX8_init_2_0 0 rfl rfl)
theorem dX8_init_2_1 : decode cX8_init_2 1 = .ok (.iload_n 1, 1) := dk_27 (dk_at dksX8_init_2_0 1 rfl rfl)
theorem dX8_init_2_2 : decode cX8_init_2 2 = .ok (.iload_n 2, 1) := dk_28 (dk_at dksX8_init_2_0 2 rfl rfl)
theorem dX8_init_2_3 : decode cX8_init_2 3 = .ok (.iload_n 3, 1) := dk_29 (dk_at dksX8_init_2_0 3 rfl rfl)
theorem dX8_init_2_4 : decode cX8_init_2 4 = .ok (.invokespecial 1, 3) := dk_183 0 1 (dk_at dksX8_init_2_0 4 rfl rfl)
theorem dX8_init_2_7 : decode cX8_init_2 7 = .ok (.return_, 1) := dk_177 (dk_at dksX8_init_2_0 7 rfl rfl)
abbrev cX8_kind : ByteArray := prog_3_method_3_code
def yX8_kind : MethodName := ⟨RX8, "kind", "()I"⟩
theorem dX8_kind_0 : decode cX8_kind 0 = .ok (.iconst 0, 1) := by decide +kernel
theorem dX8_kind_1 : decode cX8_kind 1 = .ok (.ireturn, 1) := by decide +kernel
theorem q118 : (Jvm.Cond.initialized "FieldPumps$Fixed") ∈ lw_all := lw_g (lw_at lw_m1 23 rfl) rfl
theorem q281 : (Jvm.Cond.selects "FieldPumps$Fixed" ({ cls := "FieldPumps$Pump", name := "runs", desc := "()Z" } : Jvm.MethodName) ({ cls := "FieldPumps$Pump", name := "runs", desc := "()Z" } : Jvm.MethodName)) ∈ lw_all := lw_g (lw_at lw_m1 186 rfl) rfl
theorem q639 : (Jvm.Cond.instantiable "FieldPumps$Fixed" (8 : Nat)) ∈ lw_all := lw_g (lw_at lw_m3 64 rfl) rfl
theorem q641 : (Jvm.Cond.instanceMethod ({ cls := "FieldPumps$Fixed", name := "<init>", desc := "(LFieldPumps$Fixed;)V" } : Jvm.MethodName)) ∈ lw_all := lw_g (lw_at lw_m3 66 rfl) rfl
theorem q642 : (Jvm.Cond.code ({ cls := "FieldPumps$Fixed", name := "<init>", desc := "(LFieldPumps$Fixed;)V" } : Jvm.MethodName) prog_3_method_2_code (2 : Nat) (Option.none : Option Jvm.ClassFile.FieldType)) ∈ lw_all := lw_g (lw_at lw_m3 67 rfl) rfl
theorem q643 : (Jvm.Cond.methodLink "FieldPumps$Fixed" (7 : Nat) ({ cls := "FieldPumps$Pump", name := "<init>", desc := "(LFieldPumps$Pump;)V" } : Jvm.MethodName)) ∈ lw_all := lw_g (lw_at lw_m3 68 rfl) rfl
theorem q644 : (Jvm.Cond.laysFinal "FieldPumps$Fixed" "FieldPumps$Pump" "number" "I") ∈ lw_all := lw_g (lw_at lw_m3 69 rfl) rfl
theorem q645 : (Jvm.Cond.laysFinal "FieldPumps$Fixed" "FieldPumps$Pump" "shutoff" "I") ∈ lw_all := lw_g (lw_at lw_m3 70 rfl) rfl
theorem q646 : (Jvm.Cond.laysFinal "FieldPumps$Fixed" "FieldPumps$Pump" "steep" "I") ∈ lw_all := lw_g (lw_at lw_m3 71 rfl) rfl
theorem q647 : (Jvm.Cond.lays "FieldPumps$Fixed" "FieldPumps$Pump" "isOut" "Z") ∈ lw_all := lw_g (lw_at lw_m3 72 rfl) rfl
theorem q648 : (Jvm.Cond.lays "FieldPumps$Fixed" "FieldPumps$Pump" "speed" "I") ∈ lw_all := lw_g (lw_at lw_m3 73 rfl) rfl
theorem q649 : (Jvm.Cond.lays "FieldPumps$Fixed" "FieldPumps$Pump" "run" "I") ∈ lw_all := lw_g (lw_at lw_m3 74 rfl) rfl
theorem q650 : (Jvm.Cond.lays "FieldPumps$Fixed" "FieldPumps$Pump" "runNow" "I") ∈ lw_all := lw_g (lw_at lw_m3 75 rfl) rfl
theorem q651 : (Jvm.Cond.lays "FieldPumps$Fixed" "FieldPumps$Pump" "starts" "I") ∈ lw_all := lw_g (lw_at lw_m3 76 rfl) rfl
theorem q652 : (Jvm.Cond.superclass "FieldPumps$Fixed" "FieldPumps$Pump") ∈ lw_all := lw_g (lw_at lw_m3 77 rfl) rfl
theorem q697 : (Jvm.Cond.selects "FieldPumps$Fixed" ({ cls := "java/lang/Object", name := "getClass", desc := "()Ljava/lang/Class;" } : Jvm.MethodName) ({ cls := "java/lang/Object", name := "getClass", desc := "()Ljava/lang/Class;" } : Jvm.MethodName)) ∈ lw_all := lw_g (lw_at lw_m3 122 rfl) rfl
theorem q812 : (Jvm.Cond.instanceMethod ({ cls := "FieldPumps$Fixed", name := "<init>", desc := "(III)V" } : Jvm.MethodName)) ∈ lw_all := lw_g (lw_at lw_m3 237 rfl) rfl
theorem q813 : (Jvm.Cond.code ({ cls := "FieldPumps$Fixed", name := "<init>", desc := "(III)V" } : Jvm.MethodName) prog_3_method_1_code (4 : Nat) (Option.none : Option Jvm.ClassFile.FieldType)) ∈ lw_all := lw_g (lw_at lw_m3 238 rfl) rfl
theorem q814 : (Jvm.Cond.methodLink "FieldPumps$Fixed" (1 : Nat) ({ cls := "FieldPumps$Pump", name := "<init>", desc := "(III)V" } : Jvm.MethodName)) ∈ lw_all := lw_g (lw_at lw_m3 239 rfl) rfl
theorem q851 : (Jvm.Cond.selects "FieldPumps$Fixed" ({ cls := "FieldPumps$Pump", name := "stop", desc := "()V" } : Jvm.MethodName) ({ cls := "FieldPumps$Pump", name := "stop", desc := "()V" } : Jvm.MethodName)) ∈ lw_all := lw_g (lw_at lw_m4 36 rfl) rfl
theorem q1456 : (Jvm.Cond.selects "FieldPumps$Fixed" ({ cls := "FieldPumps$Pump", name := "isReady", desc := "()Z" } : Jvm.MethodName) ({ cls := "FieldPumps$Pump", name := "isReady", desc := "()Z" } : Jvm.MethodName)) ∈ lw_all := lw_g (lw_at lw_m6 161 rfl) rfl
theorem q1509 : (Jvm.Cond.selects "FieldPumps$Fixed" ({ cls := "FieldPumps$Pump", name := "start", desc := "(I)V" } : Jvm.MethodName) ({ cls := "FieldPumps$Pump", name := "start", desc := "(I)V" } : Jvm.MethodName)) ∈ lw_all := lw_g (lw_at lw_m6 214 rfl) rfl
theorem q1556 : (Jvm.Cond.selects "FieldPumps$Fixed" ({ cls := "FieldPumps$Pump", name := "kind", desc := "()I" } : Jvm.MethodName) ({ cls := "FieldPumps$Fixed", name := "kind", desc := "()I" } : Jvm.MethodName)) ∈ lw_all := lw_g (lw_at lw_m7 21 rfl) rfl
theorem q1557 : (Jvm.Cond.instanceMethod ({ cls := "FieldPumps$Fixed", name := "kind", desc := "()I" } : Jvm.MethodName)) ∈ lw_all := lw_g (lw_at lw_m7 22 rfl) rfl
theorem q1558 : (Jvm.Cond.code ({ cls := "FieldPumps$Fixed", name := "kind", desc := "()I" } : Jvm.MethodName) prog_3_method_3_code (1 : Nat) (Option.some Jvm.ClassFile.FieldType.int)) ∈ lw_all := lw_g (lw_at lw_m7 23 rfl) rfl
theorem q2411 : (Jvm.Cond.castable "FieldPumps$Fixed" "FieldPumps$Pump") ∈ lw_tbl := lw_at lw_m10 156 rfl
theorem q2435 : (Jvm.Cond.castable "FieldPumps$Fixed" "java/lang/Object") ∈ lw_tbl := lw_at lw_m10 180 rfl
theorem in_X8 : ∀ w ∈ wsX80, w ∈ lw_all := lw_in wsX80 [644, 645, 646, 647, 648, 649, 650, 651] (by decide +kernel) (by decide +kernel)
abbrev cX9_init : ByteArray := prog_5_method_1_code
def yX9_init : MethodName := ⟨RX9, "<init>", "(III)V"⟩
def dkwX9_init_0 : List UInt8 := [42, 183, 0, 1, 42, 27, 181, 0, 7, 42, 28, 181, 0, 13, 42, 29, 181, 0, 16, 177]
abbrev dktX9_init_0 : List UInt8 := dkwX9_init_0 ++ []
theorem dksX9_init_0 : cX9_init.data.toList.drop 0 = dktX9_init_0 := by decide +kernel
theorem dX9_init_0 : decode cX9_init 0 = .ok (.aload_n 0, 1) := dk_42 (dk_at dksX9_init_0 0 rfl rfl)
theorem dX9_init_1 : decode cX9_init 1 = .ok (.invokespecial 1, 3) := dk_183 0 1 (dk_at dksX9_init_0 1 rfl rfl)
theorem dX9_init_4 : decode cX9_init 4 = .ok (.aload_n 0, 1) := dk_42 (dk_at dksX9_init_0 4 rfl rfl)
theorem dX9_init_5 : decode cX9_init 5 = .ok (.iload_n 1, 1) := dk_27 (dk_at dksX9_init_0 5 rfl rfl)
theorem dX9_init_6 : decode cX9_init 6 = .ok (.putfield 7, 3) := dk_181 0 7 (dk_at dksX9_init_0 6 rfl rfl)
theorem dX9_init_9 : decode cX9_init 9 = .ok (.aload_n 0, 1) := dk_42 (dk_at dksX9_init_0 9 rfl rfl)
theorem dX9_init_10 : decode cX9_init 10 = .ok (.iload_n 2, 1) := dk_28 (dk_at dksX9_init_0 10 rfl rfl)
theorem dX9_init_11 : decode cX9_init 11 = .ok (.putfield 13, 3) := dk_181 0 13 (dk_at dksX9_init_0 11 rfl rfl)
theorem dX9_init_14 : decode cX9_init 14 = .ok (.aload_n 0, 1) := dk_42 (dk_at dksX9_init_0 14 rfl rfl)
theorem dX9_init_15 : decode cX9_init 15 = .ok (.iload_n 3, 1) := dk_29 (dk_at dksX9_init_0 15 rfl rfl)
theorem dX9_init_16 : decode cX9_init 16 = .ok (.putfield 16, 3) := dk_181 0 16 (dk_at dksX9_init_0 16 rfl rfl)
theorem dX9_init_19 : decode cX9_init 19 = .ok (.return_, 1) := dk_177 (dk_at dksX9_init_0 19 rfl rfl)
theorem q134 : (Jvm.Cond.initialized "FieldPumps$Programme") ∈ lw_all := lw_g (lw_at lw_m1 39 rfl) rfl
theorem q699 : (Jvm.Cond.selects "FieldPumps$Programme" ({ cls := "java/lang/Object", name := "getClass", desc := "()Ljava/lang/Class;" } : Jvm.MethodName) ({ cls := "java/lang/Object", name := "getClass", desc := "()Ljava/lang/Class;" } : Jvm.MethodName)) ∈ lw_all := lw_g (lw_at lw_m3 124 rfl) rfl
theorem q1634 : (Jvm.Cond.instantiable "FieldPumps$Programme" (3 : Nat)) ∈ lw_all := lw_g (lw_at lw_m7 99 rfl) rfl
theorem q1636 : (Jvm.Cond.instanceMethod ({ cls := "FieldPumps$Programme", name := "<init>", desc := "(III)V" } : Jvm.MethodName)) ∈ lw_all := lw_g (lw_at lw_m7 101 rfl) rfl
theorem q1637 : (Jvm.Cond.code ({ cls := "FieldPumps$Programme", name := "<init>", desc := "(III)V" } : Jvm.MethodName) prog_5_method_1_code (4 : Nat) (Option.none : Option Jvm.ClassFile.FieldType)) ∈ lw_all := lw_g (lw_at lw_m7 102 rfl) rfl
theorem q1638 : (Jvm.Cond.methodLink "FieldPumps$Programme" (1 : Nat) ({ cls := "java/lang/Object", name := "<init>", desc := "()V" } : Jvm.MethodName)) ∈ lw_all := lw_g (lw_at lw_m7 103 rfl) rfl
theorem q1639 : (Jvm.Cond.fieldLink "FieldPumps$Programme" (7 : Nat) "FieldPumps$Programme" "zone" "I") ∈ lw_all := lw_g (lw_at lw_m7 104 rfl) rfl
theorem q1642 : (Jvm.Cond.fieldLink "FieldPumps$Programme" (13 : Nat) "FieldPumps$Programme" "from" "I") ∈ lw_all := lw_g (lw_at lw_m7 107 rfl) rfl
theorem q1644 : (Jvm.Cond.fieldLink "FieldPumps$Programme" (16 : Nat) "FieldPumps$Programme" "to" "I") ∈ lw_all := lw_g (lw_at lw_m7 109 rfl) rfl
theorem q1646 : (Jvm.Cond.laysFinal "FieldPumps$Programme" "FieldPumps$Programme" "zone" "I") ∈ lw_all := lw_g (lw_at lw_m7 111 rfl) rfl
theorem q1647 : (Jvm.Cond.soleField "FieldPumps$Programme" "zone") ∈ lw_all := lw_g (lw_at lw_m7 112 rfl) rfl
theorem q1648 : (Jvm.Cond.laysFinal "FieldPumps$Programme" "FieldPumps$Programme" "from" "I") ∈ lw_all := lw_g (lw_at lw_m7 113 rfl) rfl
theorem q1649 : (Jvm.Cond.soleField "FieldPumps$Programme" "from") ∈ lw_all := lw_g (lw_at lw_m7 114 rfl) rfl
theorem q1650 : (Jvm.Cond.laysFinal "FieldPumps$Programme" "FieldPumps$Programme" "to" "I") ∈ lw_all := lw_g (lw_at lw_m7 115 rfl) rfl
theorem q1651 : (Jvm.Cond.soleField "FieldPumps$Programme" "to") ∈ lw_all := lw_g (lw_at lw_m7 116 rfl) rfl
theorem q1652 : (Jvm.Cond.superclass "FieldPumps$Programme" "java/lang/Object") ∈ lw_all := lw_g (lw_at lw_m7 117 rfl) rfl
theorem q2441 : (Jvm.Cond.castable "FieldPumps$Programme" "java/lang/Object") ∈ lw_tbl := lw_at lw_m10 186 rfl
theorem in_X9 : ∀ w ∈ wsX90, w ∈ lw_all := lw_in wsX90 [1646, 1648, 1650] (by decide +kernel) (by decide +kernel)
abbrev cX10_init : ByteArray := prog_7_method_1_code
def yX10_init : MethodName := ⟨RX10, "<init>", "(LFieldPumps;)V"⟩
def dkwX10_init_1 : List UInt8 := [181, 0, 24, 177]
abbrev dktX10_init_1 : List UInt8 := dkwX10_init_1 ++ []
def dkwX10_init_0 : List UInt8 := [42, 43, 181, 0, 3, 42, 183, 0, 9, 42, 187, 0, 15, 89, 42, 180, 0, 3, 180, 0, 17, 183, 0, 21]
abbrev dktX10_init_0 : List UInt8 := dkwX10_init_0 ++ dktX10_init_1
theorem dksX10_init_0 : cX10_init.data.toList.drop 0 = dktX10_init_0 := by decide +kernel
theorem dksX10_init_1 : cX10_init.data.toList.drop 24 = dktX10_init_1 := dk_seg dksX10_init_0 24 rfl rfl
theorem dX10_init_0 : decode cX10_init 0 = .ok (.aload_n 0, 1) := dk_42 (dk_at dksX10_init_0 0 rfl rfl)
theorem dX10_init_1 : decode cX10_init 1 = .ok (.aload_n 1, 1) := dk_43 (dk_at dksX10_init_0 1 rfl rfl)
theorem dX10_init_2 : decode cX10_init 2 = .ok (.putfield 3, 3) := dk_181 0 3 (dk_at dksX10_init_0 2 rfl rfl)
theorem dX10_init_5 : decode cX10_init 5 = .ok (.aload_n 0, 1) := dk_42 (dk_at dksX10_init_0 5 rfl rfl)
theorem dX10_init_6 : decode cX10_init 6 = .ok (.invokespecial 9, 3) := dk_183 0 9 (dk_at dksX10_init_0 6 rfl rfl)
theorem dX10_init_9 : decode cX10_init 9 = .ok (.aload_n 0, 1) := dk_42 (dk_at dksX10_init_0 9 rfl rfl)
theorem dX10_init_10 : decode cX10_init 10 = .ok (.new 15, 3) := dk_187 0 15 (dk_at dksX10_init_0 10 rfl rfl)
theorem dX10_init_13 : decode cX10_init 13 = .ok (.dup, 1) := dk_89 (dk_at dksX10_init_0 13 rfl rfl)
theorem dX10_init_14 : decode cX10_init 14 = .ok (.aload_n 0, 1) := dk_42 (dk_at dksX10_init_0 14 rfl rfl)
theorem dX10_init_15 : decode cX10_init 15 = .ok (.getfield 3, 3) := dk_180 0 3 (dk_at dksX10_init_0 15 rfl rfl)
theorem dX10_init_18 : decode cX10_init 18 = .ok (.getfield 17, 3) := dk_180 0 17 (dk_at dksX10_init_0 18 rfl rfl)
theorem dX10_init_21 : decode cX10_init 21 = .ok (.invokespecial 21, 3) := dk_183 0 21 (dk_at dksX10_init_0 21 rfl rfl)
theorem dX10_init_24 : decode cX10_init 24 = .ok (.putfield 24, 3) := dk_181 0 24 (dk_at dksX10_init_1 0 rfl rfl)
theorem dX10_init_27 : decode cX10_init 27 = .ok (.return_, 1) := dk_177 (dk_at dksX10_init_1 3 rfl rfl)
abbrev cX10_isWell : ByteArray := prog_7_method_6_code
def yX10_isWell : MethodName := ⟨RX10, "isWell", "()Z"⟩
def dkwX10_isWell_2 : List UInt8 := [154, 0, 7, 4, 167, 0, 4, 3, 172]
abbrev dktX10_isWell_2 : List UInt8 := dkwX10_isWell_2 ++ []
def dkwX10_isWell_1 : List UInt8 := [42, 42, 180, 0, 27, 181, 0, 96, 42, 42, 182, 0, 99, 181, 0, 93, 167, 255, 216, 42, 180, 0, 93]
abbrev dktX10_isWell_1 : List UInt8 := dkwX10_isWell_1 ++ dktX10_isWell_2
def dkwX10_isWell_0 : List UInt8 := [42, 180, 0, 93, 154, 0, 39, 42, 180, 0, 27, 42, 180, 0, 3, 180, 0, 31, 182, 0, 35, 162, 0, 22]
abbrev dktX10_isWell_0 : List UInt8 := dkwX10_isWell_0 ++ dktX10_isWell_1
theorem dksX10_isWell_0 : cX10_isWell.data.toList.drop 0 = dktX10_isWell_0 := by decide +kernel
theorem dksX10_isWell_1 : cX10_isWell.data.toList.drop 24 = dktX10_isWell_1 := dk_seg dksX10_isWell_0 24 rfl rfl
theorem dksX10_isWell_2 : cX10_isWell.data.toList.drop 47 = dktX10_isWell_2 := dk_seg dksX10_isWell_1 23 rfl rfl
theorem dX10_isWell_0 : decode cX10_isWell 0 = .ok (.aload_n 0, 1) := dk_42 (dk_at dksX10_isWell_0 0 rfl rfl)
theorem dX10_isWell_1 : decode cX10_isWell 1 = .ok (.getfield 93, 3) := dk_180 0 93 (dk_at dksX10_isWell_0 1 rfl rfl)
theorem dX10_isWell_4 : decode cX10_isWell 4 = .ok (.ifCond .ne 39, 3) := dk_154 0 39 (dk_at dksX10_isWell_0 4 rfl rfl)
theorem dX10_isWell_7 : decode cX10_isWell 7 = .ok (.aload_n 0, 1) := dk_42 (dk_at dksX10_isWell_0 7 rfl rfl)
theorem dX10_isWell_8 : decode cX10_isWell 8 = .ok (.getfield 27, 3) := dk_180 0 27 (dk_at dksX10_isWell_0 8 rfl rfl)
theorem dX10_isWell_11 : decode cX10_isWell 11 = .ok (.aload_n 0, 1) := dk_42 (dk_at dksX10_isWell_0 11 rfl rfl)
theorem dX10_isWell_12 : decode cX10_isWell 12 = .ok (.getfield 3, 3) := dk_180 0 3 (dk_at dksX10_isWell_0 12 rfl rfl)
theorem dX10_isWell_15 : decode cX10_isWell 15 = .ok (.getfield 31, 3) := dk_180 0 31 (dk_at dksX10_isWell_0 15 rfl rfl)
theorem dX10_isWell_18 : decode cX10_isWell 18 = .ok (.invokevirtual 35, 3) := dk_182 0 35 (dk_at dksX10_isWell_0 18 rfl rfl)
theorem dX10_isWell_21 : decode cX10_isWell 21 = .ok (.if_icmp .ge 22, 3) := dk_162 0 22 (dk_at dksX10_isWell_0 21 rfl rfl)
theorem dX10_isWell_24 : decode cX10_isWell 24 = .ok (.aload_n 0, 1) := dk_42 (dk_at dksX10_isWell_1 0 rfl rfl)
theorem dX10_isWell_25 : decode cX10_isWell 25 = .ok (.aload_n 0, 1) := dk_42 (dk_at dksX10_isWell_1 1 rfl rfl)
theorem dX10_isWell_26 : decode cX10_isWell 26 = .ok (.getfield 27, 3) := dk_180 0 27 (dk_at dksX10_isWell_1 2 rfl rfl)
theorem dX10_isWell_29 : decode cX10_isWell 29 = .ok (.putfield 96, 3) := dk_181 0 96 (dk_at dksX10_isWell_1 5 rfl rfl)
theorem dX10_isWell_32 : decode cX10_isWell 32 = .ok (.aload_n 0, 1) := dk_42 (dk_at dksX10_isWell_1 8 rfl rfl)
theorem dX10_isWell_33 : decode cX10_isWell 33 = .ok (.aload_n 0, 1) := dk_42 (dk_at dksX10_isWell_1 9 rfl rfl)
theorem dX10_isWell_34 : decode cX10_isWell 34 = .ok (.invokevirtual 99, 3) := dk_182 0 99 (dk_at dksX10_isWell_1 10 rfl rfl)
theorem dX10_isWell_37 : decode cX10_isWell 37 = .ok (.putfield 93, 3) := dk_181 0 93 (dk_at dksX10_isWell_1 13 rfl rfl)
theorem dX10_isWell_40 : decode cX10_isWell 40 = .ok (.goto (-40), 3) := dk_167 255 216 (dk_at dksX10_isWell_1 16 rfl rfl)
theorem dX10_isWell_43 : decode cX10_isWell 43 = .ok (.aload_n 0, 1) := dk_42 (dk_at dksX10_isWell_1 19 rfl rfl)
theorem dX10_isWell_44 : decode cX10_isWell 44 = .ok (.getfield 93, 3) := dk_180 0 93 (dk_at dksX10_isWell_1 20 rfl rfl)
theorem dX10_isWell_47 : decode cX10_isWell 47 = .ok (.ifCond .ne 7, 3) := dk_154 0 7 (dk_at dksX10_isWell_2 0 rfl rfl)
theorem dX10_isWell_50 : decode cX10_isWell 50 = .ok (.iconst 1, 1) := dk_4 (dk_at dksX10_isWell_2 3 rfl rfl)
theorem dX10_isWell_51 : decode cX10_isWell 51 = .ok (.goto 4, 3) := dk_167 0 4 (dk_at dksX10_isWell_2 4 rfl rfl)
theorem dX10_isWell_54 : decode cX10_isWell 54 = .ok (.iconst 0, 1) := dk_3 (dk_at dksX10_isWell_2 7 rfl rfl)
theorem dX10_isWell_55 : decode cX10_isWell 55 = .ok (.ireturn, 1) := dk_172 (dk_at dksX10_isWell_2 8 rfl rfl)
abbrev cX10_why : ByteArray := prog_7_method_5_code
def yX10_why : MethodName := ⟨RX10, "why", "()I"⟩
def dkwX10_why_4 : List UInt8 := [180, 0, 45, 182, 0, 86, 61, 42, 89, 180, 0, 90, 4, 96, 181, 0, 90, 3, 172]
abbrev dktX10_why_4 : List UInt8 := dkwX10_why_4 ++ []
def dkwX10_why_3 : List UInt8 := [180, 0, 24, 27, 42, 180, 0, 45, 182, 0, 82, 154, 0, 5, 6, 172, 42, 180, 0, 24, 27, 42]
abbrev dktX10_why_3 : List UInt8 := dkwX10_why_3 ++ dktX10_why_4
def dkwX10_why_2 : List UInt8 := [42, 16, 59, 182, 0, 75, 154, 0, 5, 4, 172, 42, 27, 182, 0, 79, 154, 0, 5, 5, 172, 42]
abbrev dktX10_why_2 : List UInt8 := dkwX10_why_2 ++ dktX10_why_3
def dkwX10_why_1 : List UInt8 := [180, 0, 27, 4, 96, 181, 0, 27, 27, 155, 0, 24, 27, 7, 159, 0, 10, 42, 182, 0, 71, 153, 0, 12]
abbrev dktX10_why_1 : List UInt8 := dkwX10_why_1 ++ dktX10_why_2
def dkwX10_why_0 : List UInt8 := [18, 63, 42, 180, 0, 3, 180, 0, 31, 42, 180, 0, 27, 182, 0, 41, 182, 0, 65, 60, 42, 89]
abbrev dktX10_why_0 : List UInt8 := dkwX10_why_0 ++ dktX10_why_1
theorem dksX10_why_0 : cX10_why.data.toList.drop 0 = dktX10_why_0 := by decide +kernel
theorem dksX10_why_1 : cX10_why.data.toList.drop 22 = dktX10_why_1 := dk_seg dksX10_why_0 22 rfl rfl
theorem dksX10_why_2 : cX10_why.data.toList.drop 46 = dktX10_why_2 := dk_seg dksX10_why_1 24 rfl rfl
theorem dksX10_why_3 : cX10_why.data.toList.drop 68 = dktX10_why_3 := dk_seg dksX10_why_2 22 rfl rfl
theorem dksX10_why_4 : cX10_why.data.toList.drop 90 = dktX10_why_4 := dk_seg dksX10_why_3 22 rfl rfl
theorem dX10_why_0 : decode cX10_why 0 = .ok (.ldc 63, 2) := dk_18 63 (dk_at dksX10_why_0 0 rfl rfl)
theorem dX10_why_2 : decode cX10_why 2 = .ok (.aload_n 0, 1) := dk_42 (dk_at dksX10_why_0 2 rfl rfl)
theorem dX10_why_3 : decode cX10_why 3 = .ok (.getfield 3, 3) := dk_180 0 3 (dk_at dksX10_why_0 3 rfl rfl)
theorem dX10_why_6 : decode cX10_why 6 = .ok (.getfield 31, 3) := dk_180 0 31 (dk_at dksX10_why_0 6 rfl rfl)
theorem dX10_why_9 : decode cX10_why 9 = .ok (.aload_n 0, 1) := dk_42 (dk_at dksX10_why_0 9 rfl rfl)
theorem dX10_why_10 : decode cX10_why 10 = .ok (.getfield 27, 3) := dk_180 0 27 (dk_at dksX10_why_0 10 rfl rfl)
theorem dX10_why_13 : decode cX10_why 13 = .ok (.invokevirtual 41, 3) := dk_182 0 41 (dk_at dksX10_why_0 13 rfl rfl)
theorem dX10_why_16 : decode cX10_why 16 = .ok (.invokevirtual 65, 3) := dk_182 0 65 (dk_at dksX10_why_0 16 rfl rfl)
theorem dX10_why_19 : decode cX10_why 19 = .ok (.istore_n 1, 1) := dk_60 (dk_at dksX10_why_0 19 rfl rfl)
theorem dX10_why_20 : decode cX10_why 20 = .ok (.aload_n 0, 1) := dk_42 (dk_at dksX10_why_0 20 rfl rfl)
theorem dX10_why_21 : decode cX10_why 21 = .ok (.dup, 1) := dk_89 (dk_at dksX10_why_0 21 rfl rfl)
theorem dX10_why_22 : decode cX10_why 22 = .ok (.getfield 27, 3) := dk_180 0 27 (dk_at dksX10_why_1 0 rfl rfl)
theorem dX10_why_25 : decode cX10_why 25 = .ok (.iconst 1, 1) := dk_4 (dk_at dksX10_why_1 3 rfl rfl)
theorem dX10_why_26 : decode cX10_why 26 = .ok (.iadd, 1) := dk_96 (dk_at dksX10_why_1 4 rfl rfl)
theorem dX10_why_27 : decode cX10_why 27 = .ok (.putfield 27, 3) := dk_181 0 27 (dk_at dksX10_why_1 5 rfl rfl)
theorem dX10_why_30 : decode cX10_why 30 = .ok (.iload_n 1, 1) := dk_27 (dk_at dksX10_why_1 8 rfl rfl)
theorem dX10_why_31 : decode cX10_why 31 = .ok (.ifCond .lt 24, 3) := dk_155 0 24 (dk_at dksX10_why_1 9 rfl rfl)
theorem dX10_why_34 : decode cX10_why 34 = .ok (.iload_n 1, 1) := dk_27 (dk_at dksX10_why_1 12 rfl rfl)
theorem dX10_why_35 : decode cX10_why 35 = .ok (.iconst 4, 1) := dk_7 (dk_at dksX10_why_1 13 rfl rfl)
theorem dX10_why_36 : decode cX10_why 36 = .ok (.if_icmp .eq 10, 3) := dk_159 0 10 (dk_at dksX10_why_1 14 rfl rfl)
theorem dX10_why_39 : decode cX10_why 39 = .ok (.aload_n 0, 1) := dk_42 (dk_at dksX10_why_1 17 rfl rfl)
theorem dX10_why_40 : decode cX10_why 40 = .ok (.invokevirtual 71, 3) := dk_182 0 71 (dk_at dksX10_why_1 18 rfl rfl)
theorem dX10_why_43 : decode cX10_why 43 = .ok (.ifCond .eq 12, 3) := dk_153 0 12 (dk_at dksX10_why_1 21 rfl rfl)
theorem dX10_why_46 : decode cX10_why 46 = .ok (.aload_n 0, 1) := dk_42 (dk_at dksX10_why_2 0 rfl rfl)
theorem dX10_why_47 : decode cX10_why 47 = .ok (.bipush 59, 2) := dk_16 59 (dk_at dksX10_why_2 1 rfl rfl)
theorem dX10_why_49 : decode cX10_why 49 = .ok (.invokevirtual 75, 3) := dk_182 0 75 (dk_at dksX10_why_2 3 rfl rfl)
theorem dX10_why_52 : decode cX10_why 52 = .ok (.ifCond .ne 5, 3) := dk_154 0 5 (dk_at dksX10_why_2 6 rfl rfl)
theorem dX10_why_55 : decode cX10_why 55 = .ok (.iconst 1, 1) := dk_4 (dk_at dksX10_why_2 9 rfl rfl)
theorem dX10_why_56 : decode cX10_why 56 = .ok (.ireturn, 1) := dk_172 (dk_at dksX10_why_2 10 rfl rfl)
theorem dX10_why_57 : decode cX10_why 57 = .ok (.aload_n 0, 1) := dk_42 (dk_at dksX10_why_2 11 rfl rfl)
theorem dX10_why_58 : decode cX10_why 58 = .ok (.iload_n 1, 1) := dk_27 (dk_at dksX10_why_2 12 rfl rfl)
theorem dX10_why_59 : decode cX10_why 59 = .ok (.invokevirtual 79, 3) := dk_182 0 79 (dk_at dksX10_why_2 13 rfl rfl)
theorem dX10_why_62 : decode cX10_why 62 = .ok (.ifCond .ne 5, 3) := dk_154 0 5 (dk_at dksX10_why_2 16 rfl rfl)
theorem dX10_why_65 : decode cX10_why 65 = .ok (.iconst 2, 1) := dk_5 (dk_at dksX10_why_2 19 rfl rfl)
theorem dX10_why_66 : decode cX10_why 66 = .ok (.ireturn, 1) := dk_172 (dk_at dksX10_why_2 20 rfl rfl)
theorem dX10_why_67 : decode cX10_why 67 = .ok (.aload_n 0, 1) := dk_42 (dk_at dksX10_why_2 21 rfl rfl)
theorem dX10_why_68 : decode cX10_why 68 = .ok (.getfield 24, 3) := dk_180 0 24 (dk_at dksX10_why_3 0 rfl rfl)
theorem dX10_why_71 : decode cX10_why 71 = .ok (.iload_n 1, 1) := dk_27 (dk_at dksX10_why_3 3 rfl rfl)
theorem dX10_why_72 : decode cX10_why 72 = .ok (.aload_n 0, 1) := dk_42 (dk_at dksX10_why_3 4 rfl rfl)
theorem dX10_why_73 : decode cX10_why 73 = .ok (.getfield 45, 3) := dk_180 0 45 (dk_at dksX10_why_3 5 rfl rfl)
theorem dX10_why_76 : decode cX10_why 76 = .ok (.invokevirtual 82, 3) := dk_182 0 82 (dk_at dksX10_why_3 8 rfl rfl)
theorem dX10_why_79 : decode cX10_why 79 = .ok (.ifCond .ne 5, 3) := dk_154 0 5 (dk_at dksX10_why_3 11 rfl rfl)
theorem dX10_why_82 : decode cX10_why 82 = .ok (.iconst 3, 1) := dk_6 (dk_at dksX10_why_3 14 rfl rfl)
theorem dX10_why_83 : decode cX10_why 83 = .ok (.ireturn, 1) := dk_172 (dk_at dksX10_why_3 15 rfl rfl)
theorem dX10_why_84 : decode cX10_why 84 = .ok (.aload_n 0, 1) := dk_42 (dk_at dksX10_why_3 16 rfl rfl)
theorem dX10_why_85 : decode cX10_why 85 = .ok (.getfield 24, 3) := dk_180 0 24 (dk_at dksX10_why_3 17 rfl rfl)
theorem dX10_why_88 : decode cX10_why 88 = .ok (.iload_n 1, 1) := dk_27 (dk_at dksX10_why_3 20 rfl rfl)
theorem dX10_why_89 : decode cX10_why 89 = .ok (.aload_n 0, 1) := dk_42 (dk_at dksX10_why_3 21 rfl rfl)
theorem dX10_why_90 : decode cX10_why 90 = .ok (.getfield 45, 3) := dk_180 0 45 (dk_at dksX10_why_4 0 rfl rfl)
theorem dX10_why_93 : decode cX10_why 93 = .ok (.invokevirtual 86, 3) := dk_182 0 86 (dk_at dksX10_why_4 3 rfl rfl)
theorem dX10_why_96 : decode cX10_why 96 = .ok (.istore_n 2, 1) := dk_61 (dk_at dksX10_why_4 6 rfl rfl)
theorem dX10_why_97 : decode cX10_why 97 = .ok (.aload_n 0, 1) := dk_42 (dk_at dksX10_why_4 7 rfl rfl)
theorem dX10_why_98 : decode cX10_why 98 = .ok (.dup, 1) := dk_89 (dk_at dksX10_why_4 8 rfl rfl)
theorem dX10_why_99 : decode cX10_why 99 = .ok (.getfield 90, 3) := dk_180 0 90 (dk_at dksX10_why_4 9 rfl rfl)
theorem dX10_why_102 : decode cX10_why 102 = .ok (.iconst 1, 1) := dk_4 (dk_at dksX10_why_4 12 rfl rfl)
theorem dX10_why_103 : decode cX10_why 103 = .ok (.iadd, 1) := dk_96 (dk_at dksX10_why_4 13 rfl rfl)
theorem dX10_why_104 : decode cX10_why 104 = .ok (.putfield 90, 3) := dk_181 0 90 (dk_at dksX10_why_4 14 rfl rfl)
theorem dX10_why_107 : decode cX10_why 107 = .ok (.iconst 0, 1) := dk_3 (dk_at dksX10_why_4 17 rfl rfl)
theorem dX10_why_108 : decode cX10_why 108 = .ok (.ireturn, 1) := dk_172 (dk_at dksX10_why_4 18 rfl rfl)
abbrev cX10_reads : ByteArray := prog_7_method_3_code
def yX10_reads : MethodName := ⟨RX10, "reads", "()Z"⟩
def dkwX10_reads_4 : List UInt8 := [181, 0, 27, 167, 255, 165, 27, 158, 0, 7, 4, 167, 0, 4, 3, 172]
abbrev dktX10_reads_4 : List UInt8 := dkwX10_reads_4 ++ []
def dkwX10_reads_3 : List UInt8 := [42, 180, 0, 27, 182, 0, 41, 96, 16, 48, 100, 181, 0, 45, 132, 1, 1, 42, 89, 180, 0, 27, 4, 96]
abbrev dktX10_reads_3 : List UInt8 := dkwX10_reads_3 ++ dktX10_reads_4
def dkwX10_reads_2 : List UInt8 := [20, 0, 50, 184, 0, 52, 153, 0, 48, 42, 42, 180, 0, 45, 16, 10, 104, 42, 180, 0, 3, 180, 0, 31]
abbrev dktX10_reads_2 : List UInt8 := dkwX10_reads_2 ++ dktX10_reads_3
def dkwX10_reads_1 : List UInt8 := [182, 0, 35, 162, 0, 75, 42, 180, 0, 3, 180, 0, 31, 42, 180, 0, 27, 182, 0, 41, 133, 20, 0, 48]
abbrev dktX10_reads_1 : List UInt8 := dkwX10_reads_1 ++ dktX10_reads_2
def dkwX10_reads_0 : List UInt8 := [3, 60, 42, 3, 181, 0, 45, 27, 6, 162, 0, 92, 42, 180, 0, 27, 42, 180, 0, 3, 180, 0, 31]
abbrev dktX10_reads_0 : List UInt8 := dkwX10_reads_0 ++ dktX10_reads_1
theorem dksX10_reads_0 : cX10_reads.data.toList.drop 0 = dktX10_reads_0 := by decide +kernel
theorem dksX10_reads_1 : cX10_reads.data.toList.drop 23 = dktX10_reads_1 := dk_seg dksX10_reads_0 23 rfl rfl
theorem dksX10_reads_2 : cX10_reads.data.toList.drop 47 = dktX10_reads_2 := dk_seg dksX10_reads_1 24 rfl rfl
theorem dksX10_reads_3 : cX10_reads.data.toList.drop 71 = dktX10_reads_3 := dk_seg dksX10_reads_2 24 rfl rfl
theorem dksX10_reads_4 : cX10_reads.data.toList.drop 95 = dktX10_reads_4 := dk_seg dksX10_reads_3 24 rfl rfl
theorem dX10_reads_0 : decode cX10_reads 0 = .ok (.iconst 0, 1) := dk_3 (dk_at dksX10_reads_0 0 rfl rfl)
theorem dX10_reads_1 : decode cX10_reads 1 = .ok (.istore_n 1, 1) := dk_60 (dk_at dksX10_reads_0 1 rfl rfl)
theorem dX10_reads_2 : decode cX10_reads 2 = .ok (.aload_n 0, 1) := dk_42 (dk_at dksX10_reads_0 2 rfl rfl)
theorem dX10_reads_3 : decode cX10_reads 3 = .ok (.iconst 0, 1) := dk_3 (dk_at dksX10_reads_0 3 rfl rfl)
theorem dX10_reads_4 : decode cX10_reads 4 = .ok (.putfield 45, 3) := dk_181 0 45 (dk_at dksX10_reads_0 4 rfl rfl)
theorem dX10_reads_7 : decode cX10_reads 7 = .ok (.iload_n 1, 1) := dk_27 (dk_at dksX10_reads_0 7 rfl rfl)
theorem dX10_reads_8 : decode cX10_reads 8 = .ok (.iconst 3, 1) := dk_6 (dk_at dksX10_reads_0 8 rfl rfl)
theorem dX10_reads_9 : decode cX10_reads 9 = .ok (.if_icmp .ge 92, 3) := dk_162 0 92 (dk_at dksX10_reads_0 9 rfl rfl)
theorem dX10_reads_12 : decode cX10_reads 12 = .ok (.aload_n 0, 1) := dk_42 (dk_at dksX10_reads_0 12 rfl rfl)
theorem dX10_reads_13 : decode cX10_reads 13 = .ok (.getfield 27, 3) := dk_180 0 27 (dk_at dksX10_reads_0 13 rfl rfl)
theorem dX10_reads_16 : decode cX10_reads 16 = .ok (.aload_n 0, 1) := dk_42 (dk_at dksX10_reads_0 16 rfl rfl)
theorem dX10_reads_17 : decode cX10_reads 17 = .ok (.getfield 3, 3) := dk_180 0 3 (dk_at dksX10_reads_0 17 rfl rfl)
theorem dX10_reads_20 : decode cX10_reads 20 = .ok (.getfield 31, 3) := dk_180 0 31 (dk_at dksX10_reads_0 20 rfl rfl)
theorem dX10_reads_23 : decode cX10_reads 23 = .ok (.invokevirtual 35, 3) := dk_182 0 35 (dk_at dksX10_reads_1 0 rfl rfl)
theorem dX10_reads_26 : decode cX10_reads 26 = .ok (.if_icmp .ge 75, 3) := dk_162 0 75 (dk_at dksX10_reads_1 3 rfl rfl)
theorem dX10_reads_29 : decode cX10_reads 29 = .ok (.aload_n 0, 1) := dk_42 (dk_at dksX10_reads_1 6 rfl rfl)
theorem dX10_reads_30 : decode cX10_reads 30 = .ok (.getfield 3, 3) := dk_180 0 3 (dk_at dksX10_reads_1 7 rfl rfl)
theorem dX10_reads_33 : decode cX10_reads 33 = .ok (.getfield 31, 3) := dk_180 0 31 (dk_at dksX10_reads_1 10 rfl rfl)
theorem dX10_reads_36 : decode cX10_reads 36 = .ok (.aload_n 0, 1) := dk_42 (dk_at dksX10_reads_1 13 rfl rfl)
theorem dX10_reads_37 : decode cX10_reads 37 = .ok (.getfield 27, 3) := dk_180 0 27 (dk_at dksX10_reads_1 14 rfl rfl)
theorem dX10_reads_40 : decode cX10_reads 40 = .ok (.invokevirtual 41, 3) := dk_182 0 41 (dk_at dksX10_reads_1 17 rfl rfl)
theorem dX10_reads_43 : decode cX10_reads 43 = .ok (.i2l, 1) := dk_133 (dk_at dksX10_reads_1 20 rfl rfl)
theorem dX10_reads_44 : decode cX10_reads 44 = .ok (.ldc2_w 48, 3) := dk_20 0 48 (dk_at dksX10_reads_1 21 rfl rfl)
theorem dX10_reads_47 : decode cX10_reads 47 = .ok (.ldc2_w 50, 3) := dk_20 0 50 (dk_at dksX10_reads_2 0 rfl rfl)
theorem dX10_reads_50 : decode cX10_reads 50 = .ok (.invokestatic 52, 3) := dk_184 0 52 (dk_at dksX10_reads_2 3 rfl rfl)
theorem dX10_reads_53 : decode cX10_reads 53 = .ok (.ifCond .eq 48, 3) := dk_153 0 48 (dk_at dksX10_reads_2 6 rfl rfl)
theorem dX10_reads_56 : decode cX10_reads 56 = .ok (.aload_n 0, 1) := dk_42 (dk_at dksX10_reads_2 9 rfl rfl)
theorem dX10_reads_57 : decode cX10_reads 57 = .ok (.aload_n 0, 1) := dk_42 (dk_at dksX10_reads_2 10 rfl rfl)
theorem dX10_reads_58 : decode cX10_reads 58 = .ok (.getfield 45, 3) := dk_180 0 45 (dk_at dksX10_reads_2 11 rfl rfl)
theorem dX10_reads_61 : decode cX10_reads 61 = .ok (.bipush 10, 2) := dk_16 10 (dk_at dksX10_reads_2 14 rfl rfl)
theorem dX10_reads_63 : decode cX10_reads 63 = .ok (.imul, 1) := dk_104 (dk_at dksX10_reads_2 16 rfl rfl)
theorem dX10_reads_64 : decode cX10_reads 64 = .ok (.aload_n 0, 1) := dk_42 (dk_at dksX10_reads_2 17 rfl rfl)
theorem dX10_reads_65 : decode cX10_reads 65 = .ok (.getfield 3, 3) := dk_180 0 3 (dk_at dksX10_reads_2 18 rfl rfl)
theorem dX10_reads_68 : decode cX10_reads 68 = .ok (.getfield 31, 3) := dk_180 0 31 (dk_at dksX10_reads_2 21 rfl rfl)
theorem dX10_reads_71 : decode cX10_reads 71 = .ok (.aload_n 0, 1) := dk_42 (dk_at dksX10_reads_3 0 rfl rfl)
theorem dX10_reads_72 : decode cX10_reads 72 = .ok (.getfield 27, 3) := dk_180 0 27 (dk_at dksX10_reads_3 1 rfl rfl)
theorem dX10_reads_75 : decode cX10_reads 75 = .ok (.invokevirtual 41, 3) := dk_182 0 41 (dk_at dksX10_reads_3 4 rfl rfl)
theorem dX10_reads_78 : decode cX10_reads 78 = .ok (.iadd, 1) := dk_96 (dk_at dksX10_reads_3 7 rfl rfl)
theorem dX10_reads_79 : decode cX10_reads 79 = .ok (.bipush 48, 2) := dk_16 48 (dk_at dksX10_reads_3 8 rfl rfl)
theorem dX10_reads_81 : decode cX10_reads 81 = .ok (.isub, 1) := dk_100 (dk_at dksX10_reads_3 10 rfl rfl)
theorem dX10_reads_82 : decode cX10_reads 82 = .ok (.putfield 45, 3) := dk_181 0 45 (dk_at dksX10_reads_3 11 rfl rfl)
theorem dX10_reads_85 : decode cX10_reads 85 = .ok (.iinc 1 1, 3) := dk_132 1 1 (dk_at dksX10_reads_3 14 rfl rfl)
theorem dX10_reads_88 : decode cX10_reads 88 = .ok (.aload_n 0, 1) := dk_42 (dk_at dksX10_reads_3 17 rfl rfl)
theorem dX10_reads_89 : decode cX10_reads 89 = .ok (.dup, 1) := dk_89 (dk_at dksX10_reads_3 18 rfl rfl)
theorem dX10_reads_90 : decode cX10_reads 90 = .ok (.getfield 27, 3) := dk_180 0 27 (dk_at dksX10_reads_3 19 rfl rfl)
theorem dX10_reads_93 : decode cX10_reads 93 = .ok (.iconst 1, 1) := dk_4 (dk_at dksX10_reads_3 22 rfl rfl)
theorem dX10_reads_94 : decode cX10_reads 94 = .ok (.iadd, 1) := dk_96 (dk_at dksX10_reads_3 23 rfl rfl)
theorem dX10_reads_95 : decode cX10_reads 95 = .ok (.putfield 27, 3) := dk_181 0 27 (dk_at dksX10_reads_4 0 rfl rfl)
theorem dX10_reads_98 : decode cX10_reads 98 = .ok (.goto (-91), 3) := dk_167 255 165 (dk_at dksX10_reads_4 3 rfl rfl)
theorem dX10_reads_101 : decode cX10_reads 101 = .ok (.iload_n 1, 1) := dk_27 (dk_at dksX10_reads_4 6 rfl rfl)
theorem dX10_reads_102 : decode cX10_reads 102 = .ok (.ifCond .le 7, 3) := dk_158 0 7 (dk_at dksX10_reads_4 7 rfl rfl)
theorem dX10_reads_105 : decode cX10_reads 105 = .ok (.iconst 1, 1) := dk_4 (dk_at dksX10_reads_4 10 rfl rfl)
theorem dX10_reads_106 : decode cX10_reads 106 = .ok (.goto 4, 3) := dk_167 0 4 (dk_at dksX10_reads_4 11 rfl rfl)
theorem dX10_reads_109 : decode cX10_reads 109 = .ok (.iconst 0, 1) := dk_3 (dk_at dksX10_reads_4 14 rfl rfl)
theorem dX10_reads_110 : decode cX10_reads 110 = .ok (.ireturn, 1) := dk_172 (dk_at dksX10_reads_4 15 rfl rfl)
abbrev cX10_accepts : ByteArray := prog_7_method_2_code
def yX10_accepts : MethodName := ⟨RX10, "accepts", "(C)Z"⟩
def dkwX10_accepts_2 : List UInt8 := [153, 0, 7, 4, 167, 0, 4, 3, 96, 181, 0, 27, 28, 172]
abbrev dktX10_accepts_2 : List UInt8 := dkwX10_accepts_2 ++ []
def dkwX10_accepts_1 : List UInt8 := [42, 180, 0, 27, 182, 0, 41, 27, 160, 0, 7, 4, 167, 0, 4, 3, 61, 42, 89, 180, 0, 27, 28]
abbrev dktX10_accepts_1 : List UInt8 := dkwX10_accepts_1 ++ dktX10_accepts_2
def dkwX10_accepts_0 : List UInt8 := [42, 180, 0, 27, 42, 180, 0, 3, 180, 0, 31, 182, 0, 35, 162, 0, 25, 42, 180, 0, 3, 180, 0, 31]
abbrev dktX10_accepts_0 : List UInt8 := dkwX10_accepts_0 ++ dktX10_accepts_1
theorem dksX10_accepts_0 : cX10_accepts.data.toList.drop 0 = dktX10_accepts_0 := by decide +kernel
theorem dksX10_accepts_1 : cX10_accepts.data.toList.drop 24 = dktX10_accepts_1 := dk_seg dksX10_accepts_0 24 rfl rfl
theorem dksX10_accepts_2 : cX10_accepts.data.toList.drop 47 = dktX10_accepts_2 := dk_seg dksX10_accepts_1 23 rfl rfl
theorem dX10_accepts_0 : decode cX10_accepts 0 = .ok (.aload_n 0, 1) := dk_42 (dk_at dksX10_accepts_0 0 rfl rfl)
theorem dX10_accepts_1 : decode cX10_accepts 1 = .ok (.getfield 27, 3) := dk_180 0 27 (dk_at dksX10_accepts_0 1 rfl rfl)
theorem dX10_accepts_4 : decode cX10_accepts 4 = .ok (.aload_n 0, 1) := dk_42 (dk_at dksX10_accepts_0 4 rfl rfl)
theorem dX10_accepts_5 : decode cX10_accepts 5 = .ok (.getfield 3, 3) := dk_180 0 3 (dk_at dksX10_accepts_0 5 rfl rfl)
theorem dX10_accepts_8 : decode cX10_accepts 8 = .ok (.getfield 31, 3) := dk_180 0 31 (dk_at dksX10_accepts_0 8 rfl rfl)
theorem dX10_accepts_11 : decode cX10_accepts 11 = .ok (.invokevirtual 35, 3) := dk_182 0 35 (dk_at dksX10_accepts_0 11 rfl rfl)
theorem dX10_accepts_14 : decode cX10_accepts 14 = .ok (.if_icmp .ge 25, 3) := dk_162 0 25 (dk_at dksX10_accepts_0 14 rfl rfl)
theorem dX10_accepts_17 : decode cX10_accepts 17 = .ok (.aload_n 0, 1) := dk_42 (dk_at dksX10_accepts_0 17 rfl rfl)
theorem dX10_accepts_18 : decode cX10_accepts 18 = .ok (.getfield 3, 3) := dk_180 0 3 (dk_at dksX10_accepts_0 18 rfl rfl)
theorem dX10_accepts_21 : decode cX10_accepts 21 = .ok (.getfield 31, 3) := dk_180 0 31 (dk_at dksX10_accepts_0 21 rfl rfl)
theorem dX10_accepts_24 : decode cX10_accepts 24 = .ok (.aload_n 0, 1) := dk_42 (dk_at dksX10_accepts_1 0 rfl rfl)
theorem dX10_accepts_25 : decode cX10_accepts 25 = .ok (.getfield 27, 3) := dk_180 0 27 (dk_at dksX10_accepts_1 1 rfl rfl)
theorem dX10_accepts_28 : decode cX10_accepts 28 = .ok (.invokevirtual 41, 3) := dk_182 0 41 (dk_at dksX10_accepts_1 4 rfl rfl)
theorem dX10_accepts_31 : decode cX10_accepts 31 = .ok (.iload_n 1, 1) := dk_27 (dk_at dksX10_accepts_1 7 rfl rfl)
theorem dX10_accepts_32 : decode cX10_accepts 32 = .ok (.if_icmp .ne 7, 3) := dk_160 0 7 (dk_at dksX10_accepts_1 8 rfl rfl)
theorem dX10_accepts_35 : decode cX10_accepts 35 = .ok (.iconst 1, 1) := dk_4 (dk_at dksX10_accepts_1 11 rfl rfl)
theorem dX10_accepts_36 : decode cX10_accepts 36 = .ok (.goto 4, 3) := dk_167 0 4 (dk_at dksX10_accepts_1 12 rfl rfl)
theorem dX10_accepts_39 : decode cX10_accepts 39 = .ok (.iconst 0, 1) := dk_3 (dk_at dksX10_accepts_1 15 rfl rfl)
theorem dX10_accepts_40 : decode cX10_accepts 40 = .ok (.istore_n 2, 1) := dk_61 (dk_at dksX10_accepts_1 16 rfl rfl)
theorem dX10_accepts_41 : decode cX10_accepts 41 = .ok (.aload_n 0, 1) := dk_42 (dk_at dksX10_accepts_1 17 rfl rfl)
theorem dX10_accepts_42 : decode cX10_accepts 42 = .ok (.dup, 1) := dk_89 (dk_at dksX10_accepts_1 18 rfl rfl)
theorem dX10_accepts_43 : decode cX10_accepts 43 = .ok (.getfield 27, 3) := dk_180 0 27 (dk_at dksX10_accepts_1 19 rfl rfl)
theorem dX10_accepts_46 : decode cX10_accepts 46 = .ok (.iload_n 2, 1) := dk_28 (dk_at dksX10_accepts_1 22 rfl rfl)
theorem dX10_accepts_47 : decode cX10_accepts 47 = .ok (.ifCond .eq 7, 3) := dk_153 0 7 (dk_at dksX10_accepts_2 0 rfl rfl)
theorem dX10_accepts_50 : decode cX10_accepts 50 = .ok (.iconst 1, 1) := dk_4 (dk_at dksX10_accepts_2 3 rfl rfl)
theorem dX10_accepts_51 : decode cX10_accepts 51 = .ok (.goto 4, 3) := dk_167 0 4 (dk_at dksX10_accepts_2 4 rfl rfl)
theorem dX10_accepts_54 : decode cX10_accepts 54 = .ok (.iconst 0, 1) := dk_3 (dk_at dksX10_accepts_2 7 rfl rfl)
theorem dX10_accepts_55 : decode cX10_accepts 55 = .ok (.iadd, 1) := dk_96 (dk_at dksX10_accepts_2 8 rfl rfl)
theorem dX10_accepts_56 : decode cX10_accepts 56 = .ok (.putfield 27, 3) := dk_181 0 27 (dk_at dksX10_accepts_2 9 rfl rfl)
theorem dX10_accepts_59 : decode cX10_accepts 59 = .ok (.iload_n 2, 1) := dk_28 (dk_at dksX10_accepts_2 12 rfl rfl)
theorem dX10_accepts_60 : decode cX10_accepts 60 = .ok (.ireturn, 1) := dk_172 (dk_at dksX10_accepts_2 13 rfl rfl)
abbrev cX10_isThere : ByteArray := prog_7_method_4_code
def yX10_isThere : MethodName := ⟨RX10, "isThere", "(I)Z"⟩
def dkwX10_isThere_3 : List UInt8 := [4, 172]
abbrev dktX10_isThere_3 : List UInt8 := dkwX10_isThere_3 ++ []
def dkwX10_isThere_2 : List UInt8 := [42, 180, 0, 24, 42, 180, 0, 45, 182, 0, 56, 172, 42, 180, 0, 24, 42, 180, 0, 45, 182, 0, 60, 172]
abbrev dktX10_isThere_2 : List UInt8 := dkwX10_isThere_2 ++ dktX10_isThere_3
def dkwX10_isThere_1 : List UInt8 := [170, 0, 0, 0, 0, 0, 51, 0, 0, 0, 0, 0, 0, 0, 2, 0, 0, 0, 27, 0, 0, 0, 27, 0, 0, 0, 39]
abbrev dktX10_isThere_1 : List UInt8 := dkwX10_isThere_1 ++ dktX10_isThere_2
def dkwX10_isThere_0 : List UInt8 := [27]
abbrev dktX10_isThere_0 : List UInt8 := dkwX10_isThere_0 ++ dktX10_isThere_1
theorem dksX10_isThere_0 : cX10_isThere.data.toList.drop 0 = dktX10_isThere_0 := by decide +kernel
theorem dksX10_isThere_1 : cX10_isThere.data.toList.drop 1 = dktX10_isThere_1 := dk_seg dksX10_isThere_0 1 rfl rfl
theorem dksX10_isThere_2 : cX10_isThere.data.toList.drop 28 = dktX10_isThere_2 := dk_seg dksX10_isThere_1 27 rfl rfl
theorem dksX10_isThere_3 : cX10_isThere.data.toList.drop 52 = dktX10_isThere_3 := dk_seg dksX10_isThere_2 24 rfl rfl
theorem dX10_isThere_0 : decode cX10_isThere 0 = .ok (.iload_n 1, 1) := dk_27 (dk_at dksX10_isThere_0 0 rfl rfl)
theorem dX10_isThere_1 : decode cX10_isThere 1 = .ok (.tableswitch 51 0 2 #[27, 27, 39], 27) := by decide +kernel
theorem dX10_isThere_28 : decode cX10_isThere 28 = .ok (.aload_n 0, 1) := dk_42 (dk_at dksX10_isThere_2 0 rfl rfl)
theorem dX10_isThere_29 : decode cX10_isThere 29 = .ok (.getfield 24, 3) := dk_180 0 24 (dk_at dksX10_isThere_2 1 rfl rfl)
theorem dX10_isThere_32 : decode cX10_isThere 32 = .ok (.aload_n 0, 1) := dk_42 (dk_at dksX10_isThere_2 4 rfl rfl)
theorem dX10_isThere_33 : decode cX10_isThere 33 = .ok (.getfield 45, 3) := dk_180 0 45 (dk_at dksX10_isThere_2 5 rfl rfl)
theorem dX10_isThere_36 : decode cX10_isThere 36 = .ok (.invokevirtual 56, 3) := dk_182 0 56 (dk_at dksX10_isThere_2 8 rfl rfl)
theorem dX10_isThere_39 : decode cX10_isThere 39 = .ok (.ireturn, 1) := dk_172 (dk_at dksX10_isThere_2 11 rfl rfl)
theorem dX10_isThere_40 : decode cX10_isThere 40 = .ok (.aload_n 0, 1) := dk_42 (dk_at dksX10_isThere_2 12 rfl rfl)
theorem dX10_isThere_41 : decode cX10_isThere 41 = .ok (.getfield 24, 3) := dk_180 0 24 (dk_at dksX10_isThere_2 13 rfl rfl)
theorem dX10_isThere_44 : decode cX10_isThere 44 = .ok (.aload_n 0, 1) := dk_42 (dk_at dksX10_isThere_2 16 rfl rfl)
theorem dX10_isThere_45 : decode cX10_isThere 45 = .ok (.getfield 45, 3) := dk_180 0 45 (dk_at dksX10_isThere_2 17 rfl rfl)
theorem dX10_isThere_48 : decode cX10_isThere 48 = .ok (.invokevirtual 60, 3) := dk_182 0 60 (dk_at dksX10_isThere_2 20 rfl rfl)
theorem dX10_isThere_51 : decode cX10_isThere 51 = .ok (.ireturn, 1) := dk_172 (dk_at dksX10_isThere_2 23 rfl rfl)
theorem dX10_isThere_52 : decode cX10_isThere 52 = .ok (.iconst 1, 1) := dk_4 (dk_at dksX10_isThere_3 0 rfl rfl)
theorem dX10_isThere_53 : decode cX10_isThere 53 = .ok (.ireturn, 1) := dk_172 (dk_at dksX10_isThere_3 1 rfl rfl)
theorem q136 : (Jvm.Cond.initialized "FieldPumps$Reader") ∈ lw_all := lw_g (lw_at lw_m1 41 rfl) rfl
theorem q471 : (Jvm.Cond.fieldLinkNest "FieldPumps$Reader" (17 : Nat) "FieldPumps" "now" "LFieldPumps$Station;" "FieldPumps") ∈ lw_tbl := lw_at lw_m2 136 rfl
theorem q474 : (Jvm.Cond.fieldLinkNest "FieldPumps$Reader" (31 : Nat) "FieldPumps" "text" "Ljava/lang/StringBuilder;" "FieldPumps") ∈ lw_tbl := lw_at lw_m2 139 rfl
theorem q700 : (Jvm.Cond.selects "FieldPumps$Reader" ({ cls := "java/lang/Object", name := "getClass", desc := "()Ljava/lang/Class;" } : Jvm.MethodName) ({ cls := "java/lang/Object", name := "getClass", desc := "()Ljava/lang/Class;" } : Jvm.MethodName)) ∈ lw_all := lw_g (lw_at lw_m3 125 rfl) rfl
theorem q1869 : (Jvm.Cond.instantiable "FieldPumps$Reader" (7 : Nat)) ∈ lw_all := lw_g (lw_at lw_m8 94 rfl) rfl
theorem q1871 : (Jvm.Cond.instanceMethod ({ cls := "FieldPumps$Reader", name := "<init>", desc := "(LFieldPumps;)V" } : Jvm.MethodName)) ∈ lw_all := lw_g (lw_at lw_m8 96 rfl) rfl
theorem q1872 : (Jvm.Cond.code ({ cls := "FieldPumps$Reader", name := "<init>", desc := "(LFieldPumps;)V" } : Jvm.MethodName) prog_7_method_1_code (2 : Nat) (Option.none : Option Jvm.ClassFile.FieldType)) ∈ lw_all := lw_g (lw_at lw_m8 97 rfl) rfl
theorem q1873 : (Jvm.Cond.methodLink "FieldPumps$Reader" (9 : Nat) ({ cls := "java/lang/Object", name := "<init>", desc := "()V" } : Jvm.MethodName)) ∈ lw_all := lw_g (lw_at lw_m8 98 rfl) rfl
theorem q1874 : (Jvm.Cond.classLink "FieldPumps$Reader" (15 : Nat) "FieldPumps$Station") ∈ lw_all := lw_g (lw_at lw_m8 99 rfl) rfl
theorem q1875 : (Jvm.Cond.methodLink "FieldPumps$Reader" (21 : Nat) ({ cls := "FieldPumps$Station", name := "<init>", desc := "(LFieldPumps$Station;)V" } : Jvm.MethodName)) ∈ lw_all := lw_g (lw_at lw_m8 100 rfl) rfl
theorem q1876 : (Jvm.Cond.fieldLink "FieldPumps$Reader" (24 : Nat) "FieldPumps$Reader" "trial" "LFieldPumps$Station;") ∈ lw_all := lw_g (lw_at lw_m8 101 rfl) rfl
theorem q1878 : (Jvm.Cond.fieldLink "FieldPumps$Reader" (45 : Nat) "FieldPumps$Reader" "number" "I") ∈ lw_all := lw_g (lw_at lw_m8 103 rfl) rfl
theorem q1879 : (Jvm.Cond.fieldLink "FieldPumps$Reader" (27 : Nat) "FieldPumps$Reader" "at" "I") ∈ lw_all := lw_g (lw_at lw_m8 104 rfl) rfl
theorem q1880 : (Jvm.Cond.fieldLink "FieldPumps$Reader" (96 : Nat) "FieldPumps$Reader" "begins" "I") ∈ lw_all := lw_g (lw_at lw_m8 105 rfl) rfl
theorem q1882 : (Jvm.Cond.fieldLink "FieldPumps$Reader" (93 : Nat) "FieldPumps$Reader" "reason" "I") ∈ lw_all := lw_g (lw_at lw_m8 107 rfl) rfl
theorem q1884 : (Jvm.Cond.fieldLink "FieldPumps$Reader" (90 : Nat) "FieldPumps$Reader" "many" "I") ∈ lw_all := lw_g (lw_at lw_m8 109 rfl) rfl
theorem q1886 : (Jvm.Cond.fieldLink "FieldPumps$Reader" (3 : Nat) "FieldPumps$Reader" "this$0" "LFieldPumps;") ∈ lw_all := lw_g (lw_at lw_m8 111 rfl) rfl
theorem q1887 : (Jvm.Cond.laysFinal "FieldPumps$Reader" "FieldPumps$Reader" "trial" "LFieldPumps$Station;") ∈ lw_all := lw_g (lw_at lw_m8 112 rfl) rfl
theorem q1888 : (Jvm.Cond.soleField "FieldPumps$Reader" "trial") ∈ lw_all := lw_g (lw_at lw_m8 113 rfl) rfl
theorem q1889 : (Jvm.Cond.lays "FieldPumps$Reader" "FieldPumps$Reader" "number" "I") ∈ lw_all := lw_g (lw_at lw_m8 114 rfl) rfl
theorem q1890 : (Jvm.Cond.soleField "FieldPumps$Reader" "number") ∈ lw_all := lw_g (lw_at lw_m8 115 rfl) rfl
theorem q1891 : (Jvm.Cond.lays "FieldPumps$Reader" "FieldPumps$Reader" "at" "I") ∈ lw_all := lw_g (lw_at lw_m8 116 rfl) rfl
theorem q1892 : (Jvm.Cond.soleField "FieldPumps$Reader" "at") ∈ lw_all := lw_g (lw_at lw_m8 117 rfl) rfl
theorem q1893 : (Jvm.Cond.lays "FieldPumps$Reader" "FieldPumps$Reader" "begins" "I") ∈ lw_all := lw_g (lw_at lw_m8 118 rfl) rfl
theorem q1894 : (Jvm.Cond.soleField "FieldPumps$Reader" "begins") ∈ lw_all := lw_g (lw_at lw_m8 119 rfl) rfl
theorem q1895 : (Jvm.Cond.lays "FieldPumps$Reader" "FieldPumps$Reader" "reason" "I") ∈ lw_all := lw_g (lw_at lw_m8 120 rfl) rfl
theorem q1896 : (Jvm.Cond.soleField "FieldPumps$Reader" "reason") ∈ lw_all := lw_g (lw_at lw_m8 121 rfl) rfl
theorem q1897 : (Jvm.Cond.lays "FieldPumps$Reader" "FieldPumps$Reader" "many" "I") ∈ lw_all := lw_g (lw_at lw_m8 122 rfl) rfl
theorem q1898 : (Jvm.Cond.soleField "FieldPumps$Reader" "many") ∈ lw_all := lw_g (lw_at lw_m8 123 rfl) rfl
theorem q1899 : (Jvm.Cond.laysFinal "FieldPumps$Reader" "FieldPumps$Reader" "this$0" "LFieldPumps;") ∈ lw_all := lw_g (lw_at lw_m8 124 rfl) rfl
theorem q1900 : (Jvm.Cond.soleField "FieldPumps$Reader" "this$0") ∈ lw_all := lw_g (lw_at lw_m8 125 rfl) rfl
theorem q1901 : (Jvm.Cond.superclass "FieldPumps$Reader" "java/lang/Object") ∈ lw_all := lw_g (lw_at lw_m8 126 rfl) rfl
theorem q1903 : (Jvm.Cond.instanceMethod ({ cls := "FieldPumps$Reader", name := "isWell", desc := "()Z" } : Jvm.MethodName)) ∈ lw_all := lw_g (lw_at lw_m8 128 rfl) rfl
theorem q1904 : (Jvm.Cond.selects "FieldPumps$Reader" ({ cls := "FieldPumps$Reader", name := "isWell", desc := "()Z" } : Jvm.MethodName) ({ cls := "FieldPumps$Reader", name := "isWell", desc := "()Z" } : Jvm.MethodName)) ∈ lw_all := lw_g (lw_at lw_m8 129 rfl) rfl
theorem q1905 : (Jvm.Cond.code ({ cls := "FieldPumps$Reader", name := "isWell", desc := "()Z" } : Jvm.MethodName) prog_7_method_6_code (1 : Nat) (Option.some Jvm.ClassFile.FieldType.boolean)) ∈ lw_all := lw_g (lw_at lw_m8 130 rfl) rfl
theorem q1906 : (Jvm.Cond.methodLink "FieldPumps$Reader" (35 : Nat) ({ cls := "java/lang/StringBuilder", name := "length", desc := "()I" } : Jvm.MethodName)) ∈ lw_all := lw_g (lw_at lw_m8 131 rfl) rfl
theorem q1907 : (Jvm.Cond.methodLink "FieldPumps$Reader" (99 : Nat) ({ cls := "FieldPumps$Reader", name := "why", desc := "()I" } : Jvm.MethodName)) ∈ lw_all := lw_g (lw_at lw_m8 132 rfl) rfl
theorem q1908 : (Jvm.Cond.privateMethod ({ cls := "FieldPumps$Reader", name := "why", desc := "()I" } : Jvm.MethodName)) ∈ lw_tbl := lw_at lw_m8 133 rfl
theorem q1909 : (Jvm.Cond.instanceMethod ({ cls := "FieldPumps$Reader", name := "why", desc := "()I" } : Jvm.MethodName)) ∈ lw_all := lw_g (lw_at lw_m8 134 rfl) rfl
theorem q1910 : (Jvm.Cond.code ({ cls := "FieldPumps$Reader", name := "why", desc := "()I" } : Jvm.MethodName) prog_7_method_5_code (3 : Nat) (Option.some Jvm.ClassFile.FieldType.int)) ∈ lw_all := lw_g (lw_at lw_m8 135 rfl) rfl
theorem q1911 : (Jvm.Cond.stringRef "FieldPumps$Reader" (63 : Nat) "ocspr") ∈ lw_tbl := lw_at lw_m8 136 rfl
theorem q1912 : (Jvm.Cond.methodLink "FieldPumps$Reader" (41 : Nat) ({ cls := "java/lang/StringBuilder", name := "charAt", desc := "(I)C" } : Jvm.MethodName)) ∈ lw_all := lw_g (lw_at lw_m8 137 rfl) rfl
theorem q1922 : (Jvm.Cond.methodLink "FieldPumps$Reader" (65 : Nat) ({ cls := "java/lang/String", name := "indexOf", desc := "(I)I" } : Jvm.MethodName)) ∈ lw_all := lw_g (lw_at lw_m8 147 rfl) rfl
theorem q1979 : (Jvm.Cond.methodLink "FieldPumps$Reader" (71 : Nat) ({ cls := "FieldPumps$Reader", name := "reads", desc := "()Z" } : Jvm.MethodName)) ∈ lw_all := lw_g (lw_at lw_m8 204 rfl) rfl
theorem q1980 : (Jvm.Cond.privateMethod ({ cls := "FieldPumps$Reader", name := "reads", desc := "()Z" } : Jvm.MethodName)) ∈ lw_tbl := lw_at lw_m8 205 rfl
theorem q1981 : (Jvm.Cond.instanceMethod ({ cls := "FieldPumps$Reader", name := "reads", desc := "()Z" } : Jvm.MethodName)) ∈ lw_all := lw_g (lw_at lw_m8 206 rfl) rfl
theorem q1982 : (Jvm.Cond.code ({ cls := "FieldPumps$Reader", name := "reads", desc := "()Z" } : Jvm.MethodName) prog_7_method_3_code (2 : Nat) (Option.some Jvm.ClassFile.FieldType.boolean)) ∈ lw_all := lw_g (lw_at lw_m8 207 rfl) rfl
theorem q1983 : (Jvm.Cond.constantLong "FieldPumps$Reader" (48 : Nat) (48 : Int64)) ∈ lw_all := lw_g (lw_at lw_m8 208 rfl) rfl
theorem q1984 : (Jvm.Cond.constantLong "FieldPumps$Reader" (50 : Nat) (57 : Int64)) ∈ lw_all := lw_g (lw_at lw_m8 209 rfl) rfl
theorem q1985 : (Jvm.Cond.methodLinkNest "FieldPumps$Reader" (52 : Nat) ({ cls := "FieldPumps", name := "isBetween", desc := "(JJJ)Z" } : Jvm.MethodName) "FieldPumps") ∈ lw_tbl := lw_at lw_m8 210 rfl
theorem q1986 : (Jvm.Cond.methodLink "FieldPumps$Reader" (75 : Nat) ({ cls := "FieldPumps$Reader", name := "accepts", desc := "(C)Z" } : Jvm.MethodName)) ∈ lw_all := lw_g (lw_at lw_m8 211 rfl) rfl
theorem q1987 : (Jvm.Cond.privateMethod ({ cls := "FieldPumps$Reader", name := "accepts", desc := "(C)Z" } : Jvm.MethodName)) ∈ lw_tbl := lw_at lw_m8 212 rfl
theorem q1988 : (Jvm.Cond.instanceMethod ({ cls := "FieldPumps$Reader", name := "accepts", desc := "(C)Z" } : Jvm.MethodName)) ∈ lw_all := lw_g (lw_at lw_m8 213 rfl) rfl
theorem q1989 : (Jvm.Cond.code ({ cls := "FieldPumps$Reader", name := "accepts", desc := "(C)Z" } : Jvm.MethodName) prog_7_method_2_code (3 : Nat) (Option.some Jvm.ClassFile.FieldType.boolean)) ∈ lw_all := lw_g (lw_at lw_m8 214 rfl) rfl
theorem q1990 : (Jvm.Cond.methodLink "FieldPumps$Reader" (79 : Nat) ({ cls := "FieldPumps$Reader", name := "isThere", desc := "(I)Z" } : Jvm.MethodName)) ∈ lw_all := lw_g (lw_at lw_m8 215 rfl) rfl
theorem q1991 : (Jvm.Cond.privateMethod ({ cls := "FieldPumps$Reader", name := "isThere", desc := "(I)Z" } : Jvm.MethodName)) ∈ lw_tbl := lw_at lw_m8 216 rfl
theorem q1992 : (Jvm.Cond.instanceMethod ({ cls := "FieldPumps$Reader", name := "isThere", desc := "(I)Z" } : Jvm.MethodName)) ∈ lw_all := lw_g (lw_at lw_m8 217 rfl) rfl
theorem q1993 : (Jvm.Cond.code ({ cls := "FieldPumps$Reader", name := "isThere", desc := "(I)Z" } : Jvm.MethodName) prog_7_method_4_code (2 : Nat) (Option.some Jvm.ClassFile.FieldType.boolean)) ∈ lw_all := lw_g (lw_at lw_m8 218 rfl) rfl
theorem q1994 : (Jvm.Cond.methodLink "FieldPumps$Reader" (56 : Nat) ({ cls := "FieldPumps$Station", name := "isZone", desc := "(I)Z" } : Jvm.MethodName)) ∈ lw_all := lw_g (lw_at lw_m8 219 rfl) rfl
theorem q1995 : (Jvm.Cond.methodLink "FieldPumps$Reader" (60 : Nat) ({ cls := "FieldPumps$Station", name := "isPump", desc := "(I)Z" } : Jvm.MethodName)) ∈ lw_all := lw_g (lw_at lw_m8 220 rfl) rfl
theorem q1996 : (Jvm.Cond.methodLink "FieldPumps$Reader" (82 : Nat) ({ cls := "FieldPumps$Station", name := "can", desc := "(II)Z" } : Jvm.MethodName)) ∈ lw_all := lw_g (lw_at lw_m8 221 rfl) rfl
theorem q1997 : (Jvm.Cond.methodLink "FieldPumps$Reader" (86 : Nat) ({ cls := "FieldPumps$Station", name := "make", desc := "(II)I" } : Jvm.MethodName)) ∈ lw_all := lw_g (lw_at lw_m8 222 rfl) rfl
theorem q2443 : (Jvm.Cond.castable "FieldPumps$Reader" "java/lang/Object") ∈ lw_tbl := lw_at lw_m10 188 rfl
theorem in_X10 : ∀ w ∈ wsX100, w ∈ lw_all := lw_in wsX100 [1887, 1889, 1891, 1893, 1895, 1897, 1899] (by decide +kernel) (by decide +kernel)
abbrev cX11_go : ByteArray := prog_11_method_2_code
def yX11_go : MethodName := ⟨RX11, "go", "(LFieldPumps$Station;)V"⟩
def dkwX11_go_3 : List UInt8 := [167, 255, 188, 177]
abbrev dktX11_go_3 : List UInt8 := dkwX11_go_3 ++ []
def dkwX11_go_2 : List UInt8 := [180, 0, 33, 45, 182, 0, 29, 153, 0, 7, 4, 167, 0, 4, 3, 96, 181, 0, 33, 132, 2, 1]
abbrev dktX11_go_2 : List UInt8 := dkwX11_go_2 ++ dktX11_go_3
def dkwX11_go_1 : List UInt8 := [78, 45, 89, 180, 0, 25, 45, 182, 0, 29, 153, 0, 7, 4, 167, 0, 4, 3, 96, 181, 0, 25, 45, 89]
abbrev dktX11_go_1 : List UInt8 := dkwX11_go_1 ++ dktX11_go_2
def dkwX11_go_0 : List UInt8 := [3, 61, 28, 43, 180, 0, 7, 182, 0, 13, 162, 0, 63, 43, 180, 0, 7, 28, 182, 0, 19, 192, 0, 23]
abbrev dktX11_go_0 : List UInt8 := dkwX11_go_0 ++ dktX11_go_1
theorem dksX11_go_0 : cX11_go.data.toList.drop 0 = dktX11_go_0 := by decide +kernel
theorem dksX11_go_1 : cX11_go.data.toList.drop 24 = dktX11_go_1 := dk_seg dksX11_go_0 24 rfl rfl
theorem dksX11_go_2 : cX11_go.data.toList.drop 48 = dktX11_go_2 := dk_seg dksX11_go_1 24 rfl rfl
theorem dksX11_go_3 : cX11_go.data.toList.drop 70 = dktX11_go_3 := dk_seg dksX11_go_2 22 rfl rfl
theorem dX11_go_0 : decode cX11_go 0 = .ok (.iconst 0, 1) := dk_3 (dk_at dksX11_go_0 0 rfl rfl)
theorem dX11_go_1 : decode cX11_go 1 = .ok (.istore_n 2, 1) := dk_61 (dk_at dksX11_go_0 1 rfl rfl)
theorem dX11_go_2 : decode cX11_go 2 = .ok (.iload_n 2, 1) := dk_28 (dk_at dksX11_go_0 2 rfl rfl)
theorem dX11_go_3 : decode cX11_go 3 = .ok (.aload_n 1, 1) := dk_43 (dk_at dksX11_go_0 3 rfl rfl)
theorem dX11_go_4 : decode cX11_go 4 = .ok (.getfield 7, 3) := dk_180 0 7 (dk_at dksX11_go_0 4 rfl rfl)
theorem dX11_go_7 : decode cX11_go 7 = .ok (.invokevirtual 13, 3) := dk_182 0 13 (dk_at dksX11_go_0 7 rfl rfl)
theorem dX11_go_10 : decode cX11_go 10 = .ok (.if_icmp .ge 63, 3) := dk_162 0 63 (dk_at dksX11_go_0 10 rfl rfl)
theorem dX11_go_13 : decode cX11_go 13 = .ok (.aload_n 1, 1) := dk_43 (dk_at dksX11_go_0 13 rfl rfl)
theorem dX11_go_14 : decode cX11_go 14 = .ok (.getfield 7, 3) := dk_180 0 7 (dk_at dksX11_go_0 14 rfl rfl)
theorem dX11_go_17 : decode cX11_go 17 = .ok (.iload_n 2, 1) := dk_28 (dk_at dksX11_go_0 17 rfl rfl)
theorem dX11_go_18 : decode cX11_go 18 = .ok (.invokevirtual 19, 3) := dk_182 0 19 (dk_at dksX11_go_0 18 rfl rfl)
theorem dX11_go_21 : decode cX11_go 21 = .ok (.checkcast 23, 3) := dk_192 0 23 (dk_at dksX11_go_0 21 rfl rfl)
theorem dX11_go_24 : decode cX11_go 24 = .ok (.astore_n 3, 1) := dk_78 (dk_at dksX11_go_1 0 rfl rfl)
theorem dX11_go_25 : decode cX11_go 25 = .ok (.aload_n 3, 1) := dk_45 (dk_at dksX11_go_1 1 rfl rfl)
theorem dX11_go_26 : decode cX11_go 26 = .ok (.dup, 1) := dk_89 (dk_at dksX11_go_1 2 rfl rfl)
theorem dX11_go_27 : decode cX11_go 27 = .ok (.getfield 25, 3) := dk_180 0 25 (dk_at dksX11_go_1 3 rfl rfl)
theorem dX11_go_30 : decode cX11_go 30 = .ok (.aload_n 3, 1) := dk_45 (dk_at dksX11_go_1 6 rfl rfl)
theorem dX11_go_31 : decode cX11_go 31 = .ok (.invokevirtual 29, 3) := dk_182 0 29 (dk_at dksX11_go_1 7 rfl rfl)
theorem dX11_go_34 : decode cX11_go 34 = .ok (.ifCond .eq 7, 3) := dk_153 0 7 (dk_at dksX11_go_1 10 rfl rfl)
theorem dX11_go_37 : decode cX11_go 37 = .ok (.iconst 1, 1) := dk_4 (dk_at dksX11_go_1 13 rfl rfl)
theorem dX11_go_38 : decode cX11_go 38 = .ok (.goto 4, 3) := dk_167 0 4 (dk_at dksX11_go_1 14 rfl rfl)
theorem dX11_go_41 : decode cX11_go 41 = .ok (.iconst 0, 1) := dk_3 (dk_at dksX11_go_1 17 rfl rfl)
theorem dX11_go_42 : decode cX11_go 42 = .ok (.iadd, 1) := dk_96 (dk_at dksX11_go_1 18 rfl rfl)
theorem dX11_go_43 : decode cX11_go 43 = .ok (.putfield 25, 3) := dk_181 0 25 (dk_at dksX11_go_1 19 rfl rfl)
theorem dX11_go_46 : decode cX11_go 46 = .ok (.aload_n 3, 1) := dk_45 (dk_at dksX11_go_1 22 rfl rfl)
theorem dX11_go_47 : decode cX11_go 47 = .ok (.dup, 1) := dk_89 (dk_at dksX11_go_1 23 rfl rfl)
theorem dX11_go_48 : decode cX11_go 48 = .ok (.getfield 33, 3) := dk_180 0 33 (dk_at dksX11_go_2 0 rfl rfl)
theorem dX11_go_51 : decode cX11_go 51 = .ok (.aload_n 3, 1) := dk_45 (dk_at dksX11_go_2 3 rfl rfl)
theorem dX11_go_52 : decode cX11_go 52 = .ok (.invokevirtual 29, 3) := dk_182 0 29 (dk_at dksX11_go_2 4 rfl rfl)
theorem dX11_go_55 : decode cX11_go 55 = .ok (.ifCond .eq 7, 3) := dk_153 0 7 (dk_at dksX11_go_2 7 rfl rfl)
theorem dX11_go_58 : decode cX11_go 58 = .ok (.iconst 1, 1) := dk_4 (dk_at dksX11_go_2 10 rfl rfl)
theorem dX11_go_59 : decode cX11_go 59 = .ok (.goto 4, 3) := dk_167 0 4 (dk_at dksX11_go_2 11 rfl rfl)
theorem dX11_go_62 : decode cX11_go 62 = .ok (.iconst 0, 1) := dk_3 (dk_at dksX11_go_2 14 rfl rfl)
theorem dX11_go_63 : decode cX11_go 63 = .ok (.iadd, 1) := dk_96 (dk_at dksX11_go_2 15 rfl rfl)
theorem dX11_go_64 : decode cX11_go 64 = .ok (.putfield 33, 3) := dk_181 0 33 (dk_at dksX11_go_2 16 rfl rfl)
theorem dX11_go_67 : decode cX11_go 67 = .ok (.iinc 2 1, 3) := dk_132 2 1 (dk_at dksX11_go_2 19 rfl rfl)
theorem dX11_go_70 : decode cX11_go 70 = .ok (.goto (-68), 3) := dk_167 255 188 (dk_at dksX11_go_3 0 rfl rfl)
theorem dX11_go_73 : decode cX11_go 73 = .ok (.return_, 1) := dk_177 (dk_at dksX11_go_3 3 rfl rfl)
theorem q285 : (Jvm.Cond.fieldLinkNest "FieldPumps$Stage$3" (7 : Nat) "FieldPumps$Station" "pumps" "Ljava/util/ArrayList;" "FieldPumps") ∈ lw_tbl := lw_at lw_m1 190 rfl
theorem q598 : (Jvm.Cond.fieldLinkNest "FieldPumps$Stage$3" (25 : Nat) "FieldPumps$Pump" "run" "I" "FieldPumps") ∈ lw_tbl := lw_at lw_m3 23 rfl
theorem q604 : (Jvm.Cond.fieldLinkNest "FieldPumps$Stage$3" (33 : Nat) "FieldPumps$Pump" "runNow" "I" "FieldPumps") ∈ lw_tbl := lw_at lw_m3 29 rfl
theorem q703 : (Jvm.Cond.selects "FieldPumps$Stage$3" ({ cls := "java/lang/Object", name := "getClass", desc := "()Ljava/lang/Class;" } : Jvm.MethodName) ({ cls := "java/lang/Object", name := "getClass", desc := "()Ljava/lang/Class;" } : Jvm.MethodName)) ∈ lw_all := lw_g (lw_at lw_m3 128 rfl) rfl
theorem q899 : (Jvm.Cond.selects "FieldPumps$Stage$3" ({ cls := "FieldPumps$Stage", name := "go", desc := "(LFieldPumps$Station;)V" } : Jvm.MethodName) ({ cls := "FieldPumps$Stage$3", name := "go", desc := "(LFieldPumps$Station;)V" } : Jvm.MethodName)) ∈ lw_all := lw_g (lw_at lw_m4 84 rfl) rfl
theorem q900 : (Jvm.Cond.instanceMethod ({ cls := "FieldPumps$Stage$3", name := "go", desc := "(LFieldPumps$Station;)V" } : Jvm.MethodName)) ∈ lw_all := lw_g (lw_at lw_m4 85 rfl) rfl
theorem q901 : (Jvm.Cond.code ({ cls := "FieldPumps$Stage$3", name := "go", desc := "(LFieldPumps$Station;)V" } : Jvm.MethodName) prog_11_method_2_code (4 : Nat) (Option.none : Option Jvm.ClassFile.FieldType)) ∈ lw_all := lw_g (lw_at lw_m4 86 rfl) rfl
theorem q902 : (Jvm.Cond.methodLink "FieldPumps$Stage$3" (13 : Nat) ({ cls := "java/util/ArrayList", name := "size", desc := "()I" } : Jvm.MethodName)) ∈ lw_all := lw_g (lw_at lw_m4 87 rfl) rfl
theorem q903 : (Jvm.Cond.methodLink "FieldPumps$Stage$3" (19 : Nat) ({ cls := "java/util/ArrayList", name := "get", desc := "(I)Ljava/lang/Object;" } : Jvm.MethodName)) ∈ lw_all := lw_g (lw_at lw_m4 88 rfl) rfl
theorem q904 : (Jvm.Cond.classLink "FieldPumps$Stage$3" (23 : Nat) "FieldPumps$Pump") ∈ lw_all := lw_g (lw_at lw_m4 89 rfl) rfl
theorem q905 : (Jvm.Cond.methodLink "FieldPumps$Stage$3" (29 : Nat) ({ cls := "FieldPumps$Pump", name := "runs", desc := "()Z" } : Jvm.MethodName)) ∈ lw_all := lw_g (lw_at lw_m4 90 rfl) rfl
theorem q1001 : (Jvm.Cond.selects "FieldPumps$Stage$3" ({ cls := "java/lang/Enum", name := "compareTo", desc := "(Ljava/lang/Enum;)I" } : Jvm.MethodName) ({ cls := "java/lang/Enum", name := "compareTo", desc := "(Ljava/lang/Enum;)I" } : Jvm.MethodName)) ∈ lw_all := lw_g (lw_at lw_m4 186 rfl) rfl
theorem q1012 : (Jvm.Cond.selects "FieldPumps$Stage$3" ({ cls := "java/lang/Enum", name := "getDeclaringClass", desc := "()Ljava/lang/Class;" } : Jvm.MethodName) ({ cls := "java/lang/Enum", name := "getDeclaringClass", desc := "()Ljava/lang/Class;" } : Jvm.MethodName)) ∈ lw_all := lw_g (lw_at lw_m4 197 rfl) rfl
theorem q1020 : (Jvm.Cond.castable "FieldPumps$Stage$3" "java/lang/Comparable") ∈ lw_tbl := lw_at lw_m4 205 rfl
theorem q1021 : (Jvm.Cond.selects "FieldPumps$Stage$3" ({ cls := "java/lang/Comparable", name := "compareTo", desc := "(Ljava/lang/Object;)I" } : Jvm.MethodName) ({ cls := "java/lang/Enum", name := "compareTo", desc := "(Ljava/lang/Object;)I" } : Jvm.MethodName)) ∈ lw_all := lw_g (lw_at lw_m4 206 rfl) rfl
theorem q1022 : (Jvm.Cond.unhidden "FieldPumps$Stage$3" "compareTo" "(Ljava/lang/Object;)I") ∈ lw_tbl := lw_at lw_m4 207 rfl
theorem q2407 : (Jvm.Cond.castable "FieldPumps$Stage$3" "java/lang/Enum") ∈ lw_tbl := lw_at lw_m10 152 rfl
theorem q2423 : (Jvm.Cond.castable "FieldPumps$Stage$3" "java/lang/Object") ∈ lw_tbl := lw_at lw_m10 168 rfl
theorem q2447 : (Jvm.Cond.castable "FieldPumps$Stage$3" "FieldPumps$Stage") ∈ lw_tbl := lw_at lw_m10 192 rfl
abbrev cX12_go : ByteArray := prog_9_method_2_code
def yX12_go : MethodName := ⟨RX12, "go", "(LFieldPumps$Station;)V"⟩
def dkwX12_go_4 : List UInt8 := [177]
abbrev dktX12_go_4 : List UInt8 := dkwX12_go_4 ++ []
def dkwX12_go_3 : List UInt8 := [180, 0, 41, 25, 4, 180, 0, 31, 28, 160, 0, 7, 4, 167, 0, 4, 3, 84, 132, 3, 1, 167, 255, 187]
abbrev dktX12_go_3 : List UInt8 := dkwX12_go_3 ++ dktX12_go_4
def dkwX12_go_2 : List UInt8 := [180, 0, 31, 28, 159, 0, 12, 25, 4, 180, 0, 34, 28, 160, 0, 27, 43, 180, 0, 37, 25, 4]
abbrev dktX12_go_2 : List UInt8 := dkwX12_go_2 ++ dktX12_go_3
def dkwX12_go_1 : List UInt8 := [180, 0, 15, 182, 0, 19, 162, 0, 64, 43, 180, 0, 15, 29, 182, 0, 25, 192, 0, 29, 58, 4, 25, 4]
abbrev dktX12_go_1 : List UInt8 := dkwX12_go_1 ++ dktX12_go_2
def dkwX12_go_0 : List UInt8 := [43, 89, 180, 0, 9, 4, 96, 181, 0, 9, 43, 180, 0, 9, 17, 5, 160, 112, 61, 3, 62, 29, 43]
abbrev dktX12_go_0 : List UInt8 := dkwX12_go_0 ++ dktX12_go_1
theorem dksX12_go_0 : cX12_go.data.toList.drop 0 = dktX12_go_0 := by decide +kernel
theorem dksX12_go_1 : cX12_go.data.toList.drop 23 = dktX12_go_1 := dk_seg dksX12_go_0 23 rfl rfl
theorem dksX12_go_2 : cX12_go.data.toList.drop 47 = dktX12_go_2 := dk_seg dksX12_go_1 24 rfl rfl
theorem dksX12_go_3 : cX12_go.data.toList.drop 69 = dktX12_go_3 := dk_seg dksX12_go_2 22 rfl rfl
theorem dksX12_go_4 : cX12_go.data.toList.drop 93 = dktX12_go_4 := dk_seg dksX12_go_3 24 rfl rfl
theorem dX12_go_0 : decode cX12_go 0 = .ok (.aload_n 1, 1) := dk_43 (dk_at dksX12_go_0 0 rfl rfl)
theorem dX12_go_1 : decode cX12_go 1 = .ok (.dup, 1) := dk_89 (dk_at dksX12_go_0 1 rfl rfl)
theorem dX12_go_2 : decode cX12_go 2 = .ok (.getfield 9, 3) := dk_180 0 9 (dk_at dksX12_go_0 2 rfl rfl)
theorem dX12_go_5 : decode cX12_go 5 = .ok (.iconst 1, 1) := dk_4 (dk_at dksX12_go_0 5 rfl rfl)
theorem dX12_go_6 : decode cX12_go 6 = .ok (.iadd, 1) := dk_96 (dk_at dksX12_go_0 6 rfl rfl)
theorem dX12_go_7 : decode cX12_go 7 = .ok (.putfield 9, 3) := dk_181 0 9 (dk_at dksX12_go_0 7 rfl rfl)
theorem dX12_go_10 : decode cX12_go 10 = .ok (.aload_n 1, 1) := dk_43 (dk_at dksX12_go_0 10 rfl rfl)
theorem dX12_go_11 : decode cX12_go 11 = .ok (.getfield 9, 3) := dk_180 0 9 (dk_at dksX12_go_0 11 rfl rfl)
theorem dX12_go_14 : decode cX12_go 14 = .ok (.sipush 1440, 3) := dk_17 5 160 (dk_at dksX12_go_0 14 rfl rfl)
theorem dX12_go_17 : decode cX12_go 17 = .ok (.irem, 1) := dk_112 (dk_at dksX12_go_0 17 rfl rfl)
theorem dX12_go_18 : decode cX12_go 18 = .ok (.istore_n 2, 1) := dk_61 (dk_at dksX12_go_0 18 rfl rfl)
theorem dX12_go_19 : decode cX12_go 19 = .ok (.iconst 0, 1) := dk_3 (dk_at dksX12_go_0 19 rfl rfl)
theorem dX12_go_20 : decode cX12_go 20 = .ok (.istore_n 3, 1) := dk_62 (dk_at dksX12_go_0 20 rfl rfl)
theorem dX12_go_21 : decode cX12_go 21 = .ok (.iload_n 3, 1) := dk_29 (dk_at dksX12_go_0 21 rfl rfl)
theorem dX12_go_22 : decode cX12_go 22 = .ok (.aload_n 1, 1) := dk_43 (dk_at dksX12_go_0 22 rfl rfl)
theorem dX12_go_23 : decode cX12_go 23 = .ok (.getfield 15, 3) := dk_180 0 15 (dk_at dksX12_go_1 0 rfl rfl)
theorem dX12_go_26 : decode cX12_go 26 = .ok (.invokevirtual 19, 3) := dk_182 0 19 (dk_at dksX12_go_1 3 rfl rfl)
theorem dX12_go_29 : decode cX12_go 29 = .ok (.if_icmp .ge 64, 3) := dk_162 0 64 (dk_at dksX12_go_1 6 rfl rfl)
theorem dX12_go_32 : decode cX12_go 32 = .ok (.aload_n 1, 1) := dk_43 (dk_at dksX12_go_1 9 rfl rfl)
theorem dX12_go_33 : decode cX12_go 33 = .ok (.getfield 15, 3) := dk_180 0 15 (dk_at dksX12_go_1 10 rfl rfl)
theorem dX12_go_36 : decode cX12_go 36 = .ok (.iload_n 3, 1) := dk_29 (dk_at dksX12_go_1 13 rfl rfl)
theorem dX12_go_37 : decode cX12_go 37 = .ok (.invokevirtual 25, 3) := dk_182 0 25 (dk_at dksX12_go_1 14 rfl rfl)
theorem dX12_go_40 : decode cX12_go 40 = .ok (.checkcast 29, 3) := dk_192 0 29 (dk_at dksX12_go_1 17 rfl rfl)
theorem dX12_go_43 : decode cX12_go 43 = .ok (.astore 4, 2) := dk_58 4 (dk_at dksX12_go_1 20 rfl rfl)
theorem dX12_go_45 : decode cX12_go 45 = .ok (.aload 4, 2) := dk_25 4 (dk_at dksX12_go_1 22 rfl rfl)
theorem dX12_go_47 : decode cX12_go 47 = .ok (.getfield 31, 3) := dk_180 0 31 (dk_at dksX12_go_2 0 rfl rfl)
theorem dX12_go_50 : decode cX12_go 50 = .ok (.iload_n 2, 1) := dk_28 (dk_at dksX12_go_2 3 rfl rfl)
theorem dX12_go_51 : decode cX12_go 51 = .ok (.if_icmp .eq 12, 3) := dk_159 0 12 (dk_at dksX12_go_2 4 rfl rfl)
theorem dX12_go_54 : decode cX12_go 54 = .ok (.aload 4, 2) := dk_25 4 (dk_at dksX12_go_2 7 rfl rfl)
theorem dX12_go_56 : decode cX12_go 56 = .ok (.getfield 34, 3) := dk_180 0 34 (dk_at dksX12_go_2 9 rfl rfl)
theorem dX12_go_59 : decode cX12_go 59 = .ok (.iload_n 2, 1) := dk_28 (dk_at dksX12_go_2 12 rfl rfl)
theorem dX12_go_60 : decode cX12_go 60 = .ok (.if_icmp .ne 27, 3) := dk_160 0 27 (dk_at dksX12_go_2 13 rfl rfl)
theorem dX12_go_63 : decode cX12_go 63 = .ok (.aload_n 1, 1) := dk_43 (dk_at dksX12_go_2 16 rfl rfl)
theorem dX12_go_64 : decode cX12_go 64 = .ok (.getfield 37, 3) := dk_180 0 37 (dk_at dksX12_go_2 17 rfl rfl)
theorem dX12_go_67 : decode cX12_go 67 = .ok (.aload 4, 2) := dk_25 4 (dk_at dksX12_go_2 20 rfl rfl)
theorem dX12_go_69 : decode cX12_go 69 = .ok (.getfield 41, 3) := dk_180 0 41 (dk_at dksX12_go_3 0 rfl rfl)
theorem dX12_go_72 : decode cX12_go 72 = .ok (.aload 4, 2) := dk_25 4 (dk_at dksX12_go_3 3 rfl rfl)
theorem dX12_go_74 : decode cX12_go 74 = .ok (.getfield 31, 3) := dk_180 0 31 (dk_at dksX12_go_3 5 rfl rfl)
theorem dX12_go_77 : decode cX12_go 77 = .ok (.iload_n 2, 1) := dk_28 (dk_at dksX12_go_3 8 rfl rfl)
theorem dX12_go_78 : decode cX12_go 78 = .ok (.if_icmp .ne 7, 3) := dk_160 0 7 (dk_at dksX12_go_3 9 rfl rfl)
theorem dX12_go_81 : decode cX12_go 81 = .ok (.iconst 1, 1) := dk_4 (dk_at dksX12_go_3 12 rfl rfl)
theorem dX12_go_82 : decode cX12_go 82 = .ok (.goto 4, 3) := dk_167 0 4 (dk_at dksX12_go_3 13 rfl rfl)
theorem dX12_go_85 : decode cX12_go 85 = .ok (.iconst 0, 1) := dk_3 (dk_at dksX12_go_3 16 rfl rfl)
theorem dX12_go_86 : decode cX12_go 86 = .ok (.bastore, 1) := dk_84 (dk_at dksX12_go_3 17 rfl rfl)
theorem dX12_go_87 : decode cX12_go 87 = .ok (.iinc 3 1, 3) := dk_132 3 1 (dk_at dksX12_go_3 18 rfl rfl)
theorem dX12_go_90 : decode cX12_go 90 = .ok (.goto (-69), 3) := dk_167 255 187 (dk_at dksX12_go_3 21 rfl rfl)
theorem dX12_go_93 : decode cX12_go 93 = .ok (.return_, 1) := dk_177 (dk_at dksX12_go_4 0 rfl rfl)
theorem q289 : (Jvm.Cond.fieldLinkNest "FieldPumps$Stage$1" (15 : Nat) "FieldPumps$Station" "programmes" "Ljava/util/ArrayList;" "FieldPumps") ∈ lw_tbl := lw_at lw_m1 194 rfl
theorem q305 : (Jvm.Cond.fieldLinkNest "FieldPumps$Stage$1" (37 : Nat) "FieldPumps$Station" "isOpen" "[Z" "FieldPumps") ∈ lw_tbl := lw_at lw_m1 210 rfl
theorem q325 : (Jvm.Cond.fieldLinkNest "FieldPumps$Stage$1" (9 : Nat) "FieldPumps$Station" "time" "I" "FieldPumps") ∈ lw_tbl := lw_at lw_m1 230 rfl
theorem q701 : (Jvm.Cond.selects "FieldPumps$Stage$1" ({ cls := "java/lang/Object", name := "getClass", desc := "()Ljava/lang/Class;" } : Jvm.MethodName) ({ cls := "java/lang/Object", name := "getClass", desc := "()Ljava/lang/Class;" } : Jvm.MethodName)) ∈ lw_all := lw_g (lw_at lw_m3 126 rfl) rfl
theorem q868 : (Jvm.Cond.selects "FieldPumps$Stage$1" ({ cls := "FieldPumps$Stage", name := "go", desc := "(LFieldPumps$Station;)V" } : Jvm.MethodName) ({ cls := "FieldPumps$Stage$1", name := "go", desc := "(LFieldPumps$Station;)V" } : Jvm.MethodName)) ∈ lw_all := lw_g (lw_at lw_m4 53 rfl) rfl
theorem q869 : (Jvm.Cond.instanceMethod ({ cls := "FieldPumps$Stage$1", name := "go", desc := "(LFieldPumps$Station;)V" } : Jvm.MethodName)) ∈ lw_all := lw_g (lw_at lw_m4 54 rfl) rfl
theorem q870 : (Jvm.Cond.code ({ cls := "FieldPumps$Stage$1", name := "go", desc := "(LFieldPumps$Station;)V" } : Jvm.MethodName) prog_9_method_2_code (5 : Nat) (Option.none : Option Jvm.ClassFile.FieldType)) ∈ lw_all := lw_g (lw_at lw_m4 55 rfl) rfl
theorem q871 : (Jvm.Cond.methodLink "FieldPumps$Stage$1" (19 : Nat) ({ cls := "java/util/ArrayList", name := "size", desc := "()I" } : Jvm.MethodName)) ∈ lw_all := lw_g (lw_at lw_m4 56 rfl) rfl
theorem q872 : (Jvm.Cond.methodLink "FieldPumps$Stage$1" (25 : Nat) ({ cls := "java/util/ArrayList", name := "get", desc := "(I)Ljava/lang/Object;" } : Jvm.MethodName)) ∈ lw_all := lw_g (lw_at lw_m4 57 rfl) rfl
theorem q873 : (Jvm.Cond.classLink "FieldPumps$Stage$1" (29 : Nat) "FieldPumps$Programme") ∈ lw_all := lw_g (lw_at lw_m4 58 rfl) rfl
theorem q989 : (Jvm.Cond.castable "FieldPumps$Stage$1" "java/lang/Comparable") ∈ lw_tbl := lw_at lw_m4 174 rfl
theorem q990 : (Jvm.Cond.selects "FieldPumps$Stage$1" ({ cls := "java/lang/Comparable", name := "compareTo", desc := "(Ljava/lang/Object;)I" } : Jvm.MethodName) ({ cls := "java/lang/Enum", name := "compareTo", desc := "(Ljava/lang/Object;)I" } : Jvm.MethodName)) ∈ lw_all := lw_g (lw_at lw_m4 175 rfl) rfl
theorem q991 : (Jvm.Cond.unhidden "FieldPumps$Stage$1" "compareTo" "(Ljava/lang/Object;)I") ∈ lw_tbl := lw_at lw_m4 176 rfl
theorem q999 : (Jvm.Cond.selects "FieldPumps$Stage$1" ({ cls := "java/lang/Enum", name := "compareTo", desc := "(Ljava/lang/Enum;)I" } : Jvm.MethodName) ({ cls := "java/lang/Enum", name := "compareTo", desc := "(Ljava/lang/Enum;)I" } : Jvm.MethodName)) ∈ lw_all := lw_g (lw_at lw_m4 184 rfl) rfl
theorem q1010 : (Jvm.Cond.selects "FieldPumps$Stage$1" ({ cls := "java/lang/Enum", name := "getDeclaringClass", desc := "()Ljava/lang/Class;" } : Jvm.MethodName) ({ cls := "java/lang/Enum", name := "getDeclaringClass", desc := "()Ljava/lang/Class;" } : Jvm.MethodName)) ∈ lw_all := lw_g (lw_at lw_m4 195 rfl) rfl
theorem q1640 : (Jvm.Cond.fieldLinkNest "FieldPumps$Stage$1" (41 : Nat) "FieldPumps$Programme" "zone" "I" "FieldPumps") ∈ lw_tbl := lw_at lw_m7 105 rfl
theorem q1643 : (Jvm.Cond.fieldLinkNest "FieldPumps$Stage$1" (31 : Nat) "FieldPumps$Programme" "from" "I" "FieldPumps") ∈ lw_tbl := lw_at lw_m7 108 rfl
theorem q1645 : (Jvm.Cond.fieldLinkNest "FieldPumps$Stage$1" (34 : Nat) "FieldPumps$Programme" "to" "I" "FieldPumps") ∈ lw_tbl := lw_at lw_m7 110 rfl
theorem q2405 : (Jvm.Cond.castable "FieldPumps$Stage$1" "java/lang/Enum") ∈ lw_tbl := lw_at lw_m10 150 rfl
theorem q2421 : (Jvm.Cond.castable "FieldPumps$Stage$1" "java/lang/Object") ∈ lw_tbl := lw_at lw_m10 166 rfl
theorem q2445 : (Jvm.Cond.castable "FieldPumps$Stage$1" "FieldPumps$Stage") ∈ lw_tbl := lw_at lw_m10 190 rfl
abbrev cX13_go : ByteArray := prog_13_method_2_code
def yX13_go : MethodName := ⟨RX13, "go", "(LFieldPumps$Station;)V"⟩
def dkwX13_go_3 : List UInt8 := [182, 0, 37, 177]
abbrev dktX13_go_3 : List UInt8 := dkwX13_go_3 ++ []
def dkwX13_go_2 : List UInt8 := [154, 0, 7, 43, 182, 0, 26, 43, 182, 0, 30, 153, 0, 15, 43, 180, 0, 34, 6, 162, 0, 7, 43]
abbrev dktX13_go_2 : List UInt8 := dkwX13_go_2 ++ dktX13_go_3
def dkwX13_go_1 : List UInt8 := [3, 181, 0, 19, 43, 180, 0, 19, 43, 180, 0, 15, 16, 13, 46, 161, 0, 14, 43, 180, 0, 22]
abbrev dktX13_go_1 : List UInt8 := dkwX13_go_1 ++ dktX13_go_2
def dkwX13_go_0 : List UInt8 := [43, 43, 180, 0, 9, 43, 180, 0, 15, 16, 11, 46, 162, 0, 12, 43, 180, 0, 19, 4, 96, 167, 0, 4]
abbrev dktX13_go_0 : List UInt8 := dkwX13_go_0 ++ dktX13_go_1
theorem dksX13_go_0 : cX13_go.data.toList.drop 0 = dktX13_go_0 := by decide +kernel
theorem dksX13_go_1 : cX13_go.data.toList.drop 24 = dktX13_go_1 := dk_seg dksX13_go_0 24 rfl rfl
theorem dksX13_go_2 : cX13_go.data.toList.drop 46 = dktX13_go_2 := dk_seg dksX13_go_1 22 rfl rfl
theorem dksX13_go_3 : cX13_go.data.toList.drop 69 = dktX13_go_3 := dk_seg dksX13_go_2 23 rfl rfl
theorem dX13_go_0 : decode cX13_go 0 = .ok (.aload_n 1, 1) := dk_43 (dk_at dksX13_go_0 0 rfl rfl)
theorem dX13_go_1 : decode cX13_go 1 = .ok (.aload_n 1, 1) := dk_43 (dk_at dksX13_go_0 1 rfl rfl)
theorem dX13_go_2 : decode cX13_go 2 = .ok (.getfield 9, 3) := dk_180 0 9 (dk_at dksX13_go_0 2 rfl rfl)
theorem dX13_go_5 : decode cX13_go 5 = .ok (.aload_n 1, 1) := dk_43 (dk_at dksX13_go_0 5 rfl rfl)
theorem dX13_go_6 : decode cX13_go 6 = .ok (.getfield 15, 3) := dk_180 0 15 (dk_at dksX13_go_0 6 rfl rfl)
theorem dX13_go_9 : decode cX13_go 9 = .ok (.bipush 11, 2) := dk_16 11 (dk_at dksX13_go_0 9 rfl rfl)
theorem dX13_go_11 : decode cX13_go 11 = .ok (.iaload, 1) := dk_46 (dk_at dksX13_go_0 11 rfl rfl)
theorem dX13_go_12 : decode cX13_go 12 = .ok (.if_icmp .ge 12, 3) := dk_162 0 12 (dk_at dksX13_go_0 12 rfl rfl)
theorem dX13_go_15 : decode cX13_go 15 = .ok (.aload_n 1, 1) := dk_43 (dk_at dksX13_go_0 15 rfl rfl)
theorem dX13_go_16 : decode cX13_go 16 = .ok (.getfield 19, 3) := dk_180 0 19 (dk_at dksX13_go_0 16 rfl rfl)
theorem dX13_go_19 : decode cX13_go 19 = .ok (.iconst 1, 1) := dk_4 (dk_at dksX13_go_0 19 rfl rfl)
theorem dX13_go_20 : decode cX13_go 20 = .ok (.iadd, 1) := dk_96 (dk_at dksX13_go_0 20 rfl rfl)
theorem dX13_go_21 : decode cX13_go 21 = .ok (.goto 4, 3) := dk_167 0 4 (dk_at dksX13_go_0 21 rfl rfl)
theorem dX13_go_24 : decode cX13_go 24 = .ok (.iconst 0, 1) := dk_3 (dk_at dksX13_go_1 0 rfl rfl)
theorem dX13_go_25 : decode cX13_go 25 = .ok (.putfield 19, 3) := dk_181 0 19 (dk_at dksX13_go_1 1 rfl rfl)
theorem dX13_go_28 : decode cX13_go 28 = .ok (.aload_n 1, 1) := dk_43 (dk_at dksX13_go_1 4 rfl rfl)
theorem dX13_go_29 : decode cX13_go 29 = .ok (.getfield 19, 3) := dk_180 0 19 (dk_at dksX13_go_1 5 rfl rfl)
theorem dX13_go_32 : decode cX13_go 32 = .ok (.aload_n 1, 1) := dk_43 (dk_at dksX13_go_1 8 rfl rfl)
theorem dX13_go_33 : decode cX13_go 33 = .ok (.getfield 15, 3) := dk_180 0 15 (dk_at dksX13_go_1 9 rfl rfl)
theorem dX13_go_36 : decode cX13_go 36 = .ok (.bipush 13, 2) := dk_16 13 (dk_at dksX13_go_1 12 rfl rfl)
theorem dX13_go_38 : decode cX13_go 38 = .ok (.iaload, 1) := dk_46 (dk_at dksX13_go_1 14 rfl rfl)
theorem dX13_go_39 : decode cX13_go 39 = .ok (.if_icmp .lt 14, 3) := dk_161 0 14 (dk_at dksX13_go_1 15 rfl rfl)
theorem dX13_go_42 : decode cX13_go 42 = .ok (.aload_n 1, 1) := dk_43 (dk_at dksX13_go_1 18 rfl rfl)
theorem dX13_go_43 : decode cX13_go 43 = .ok (.getfield 22, 3) := dk_180 0 22 (dk_at dksX13_go_1 19 rfl rfl)
theorem dX13_go_46 : decode cX13_go 46 = .ok (.ifCond .ne 7, 3) := dk_154 0 7 (dk_at dksX13_go_2 0 rfl rfl)
theorem dX13_go_49 : decode cX13_go 49 = .ok (.aload_n 1, 1) := dk_43 (dk_at dksX13_go_2 3 rfl rfl)
theorem dX13_go_50 : decode cX13_go 50 = .ok (.invokevirtual 26, 3) := dk_182 0 26 (dk_at dksX13_go_2 4 rfl rfl)
theorem dX13_go_53 : decode cX13_go 53 = .ok (.aload_n 1, 1) := dk_43 (dk_at dksX13_go_2 7 rfl rfl)
theorem dX13_go_54 : decode cX13_go 54 = .ok (.invokevirtual 30, 3) := dk_182 0 30 (dk_at dksX13_go_2 8 rfl rfl)
theorem dX13_go_57 : decode cX13_go 57 = .ok (.ifCond .eq 15, 3) := dk_153 0 15 (dk_at dksX13_go_2 11 rfl rfl)
theorem dX13_go_60 : decode cX13_go 60 = .ok (.aload_n 1, 1) := dk_43 (dk_at dksX13_go_2 14 rfl rfl)
theorem dX13_go_61 : decode cX13_go 61 = .ok (.getfield 34, 3) := dk_180 0 34 (dk_at dksX13_go_2 15 rfl rfl)
theorem dX13_go_64 : decode cX13_go 64 = .ok (.iconst 3, 1) := dk_6 (dk_at dksX13_go_2 18 rfl rfl)
theorem dX13_go_65 : decode cX13_go 65 = .ok (.if_icmp .ge 7, 3) := dk_162 0 7 (dk_at dksX13_go_2 19 rfl rfl)
theorem dX13_go_68 : decode cX13_go 68 = .ok (.aload_n 1, 1) := dk_43 (dk_at dksX13_go_2 22 rfl rfl)
theorem dX13_go_69 : decode cX13_go 69 = .ok (.invokevirtual 37, 3) := dk_182 0 37 (dk_at dksX13_go_3 0 rfl rfl)
theorem dX13_go_72 : decode cX13_go 72 = .ok (.return_, 1) := dk_177 (dk_at dksX13_go_3 3 rfl rfl)
theorem q308 : (Jvm.Cond.fieldLinkNest "FieldPumps$Stage$5" (15 : Nat) "FieldPumps$Station" "settings" "[I" "FieldPumps") ∈ lw_tbl := lw_at lw_m1 213 rfl
theorem q331 : (Jvm.Cond.fieldLinkNest "FieldPumps$Stage$5" (9 : Nat) "FieldPumps$Station" "level" "I" "FieldPumps") ∈ lw_tbl := lw_at lw_m1 236 rfl
theorem q351 : (Jvm.Cond.fieldLinkNest "FieldPumps$Stage$5" (19 : Nat) "FieldPumps$Station" "dryMinutes" "I" "FieldPumps") ∈ lw_tbl := lw_at lw_m2 16 rfl
theorem q354 : (Jvm.Cond.fieldLinkNest "FieldPumps$Stage$5" (34 : Nat) "FieldPumps$Station" "trips" "I" "FieldPumps") ∈ lw_tbl := lw_at lw_m2 19 rfl
theorem q358 : (Jvm.Cond.fieldLinkNest "FieldPumps$Stage$5" (22 : Nat) "FieldPumps$Station" "isDry" "Z" "FieldPumps") ∈ lw_tbl := lw_at lw_m2 23 rfl
theorem q705 : (Jvm.Cond.selects "FieldPumps$Stage$5" ({ cls := "java/lang/Object", name := "getClass", desc := "()Ljava/lang/Class;" } : Jvm.MethodName) ({ cls := "java/lang/Object", name := "getClass", desc := "()Ljava/lang/Class;" } : Jvm.MethodName)) ∈ lw_all := lw_g (lw_at lw_m3 130 rfl) rfl
theorem q1003 : (Jvm.Cond.selects "FieldPumps$Stage$5" ({ cls := "java/lang/Enum", name := "compareTo", desc := "(Ljava/lang/Enum;)I" } : Jvm.MethodName) ({ cls := "java/lang/Enum", name := "compareTo", desc := "(Ljava/lang/Enum;)I" } : Jvm.MethodName)) ∈ lw_all := lw_g (lw_at lw_m4 188 rfl) rfl
theorem q1014 : (Jvm.Cond.selects "FieldPumps$Stage$5" ({ cls := "java/lang/Enum", name := "getDeclaringClass", desc := "()Ljava/lang/Class;" } : Jvm.MethodName) ({ cls := "java/lang/Enum", name := "getDeclaringClass", desc := "()Ljava/lang/Class;" } : Jvm.MethodName)) ∈ lw_all := lw_g (lw_at lw_m4 199 rfl) rfl
theorem q1026 : (Jvm.Cond.castable "FieldPumps$Stage$5" "java/lang/Comparable") ∈ lw_tbl := lw_at lw_m4 211 rfl
theorem q1027 : (Jvm.Cond.selects "FieldPumps$Stage$5" ({ cls := "java/lang/Comparable", name := "compareTo", desc := "(Ljava/lang/Object;)I" } : Jvm.MethodName) ({ cls := "java/lang/Enum", name := "compareTo", desc := "(Ljava/lang/Object;)I" } : Jvm.MethodName)) ∈ lw_all := lw_g (lw_at lw_m4 212 rfl) rfl
theorem q1028 : (Jvm.Cond.unhidden "FieldPumps$Stage$5" "compareTo" "(Ljava/lang/Object;)I") ∈ lw_tbl := lw_at lw_m4 213 rfl
theorem q1418 : (Jvm.Cond.selects "FieldPumps$Stage$5" ({ cls := "FieldPumps$Stage", name := "go", desc := "(LFieldPumps$Station;)V" } : Jvm.MethodName) ({ cls := "FieldPumps$Stage$5", name := "go", desc := "(LFieldPumps$Station;)V" } : Jvm.MethodName)) ∈ lw_all := lw_g (lw_at lw_m6 123 rfl) rfl
theorem q1419 : (Jvm.Cond.instanceMethod ({ cls := "FieldPumps$Stage$5", name := "go", desc := "(LFieldPumps$Station;)V" } : Jvm.MethodName)) ∈ lw_all := lw_g (lw_at lw_m6 124 rfl) rfl
theorem q1420 : (Jvm.Cond.code ({ cls := "FieldPumps$Stage$5", name := "go", desc := "(LFieldPumps$Station;)V" } : Jvm.MethodName) prog_13_method_2_code (2 : Nat) (Option.none : Option Jvm.ClassFile.FieldType)) ∈ lw_all := lw_g (lw_at lw_m6 125 rfl) rfl
theorem q1421 : (Jvm.Cond.methodLinkNest "FieldPumps$Stage$5" (26 : Nat) ({ cls := "FieldPumps$Station", name := "trip", desc := "()V" } : Jvm.MethodName) "FieldPumps") ∈ lw_tbl := lw_at lw_m6 126 rfl
theorem q1425 : (Jvm.Cond.methodLinkNest "FieldPumps$Stage$5" (30 : Nat) ({ cls := "FieldPumps$Station", name := "canGoOn", desc := "()Z" } : Jvm.MethodName) "FieldPumps") ∈ lw_tbl := lw_at lw_m6 130 rfl
theorem q1429 : (Jvm.Cond.methodLinkNest "FieldPumps$Stage$5" (37 : Nat) ({ cls := "FieldPumps$Station", name := "goOn", desc := "()V" } : Jvm.MethodName) "FieldPumps") ∈ lw_tbl := lw_at lw_m6 134 rfl
theorem q2409 : (Jvm.Cond.castable "FieldPumps$Stage$5" "java/lang/Enum") ∈ lw_tbl := lw_at lw_m10 154 rfl
theorem q2425 : (Jvm.Cond.castable "FieldPumps$Stage$5" "java/lang/Object") ∈ lw_tbl := lw_at lw_m10 170 rfl
theorem q2449 : (Jvm.Cond.castable "FieldPumps$Stage$5" "FieldPumps$Stage") ∈ lw_tbl := lw_at lw_m10 194 rfl
abbrev cX14_go : ByteArray := prog_12_method_2_code
def yX14_go : MethodName := ⟨RX14, "go", "(LFieldPumps$Station;)V"⟩
def dkwX14_go_2 : List UInt8 := [3, 96, 181, 0, 19, 28, 43, 180, 0, 15, 16, 16, 46, 4, 100, 160, 0, 7, 43, 182, 0, 25, 177]
abbrev dktX14_go_2 : List UInt8 := dkwX14_go_2 ++ []
def dkwX14_go_1 : List UInt8 := [61, 43, 89, 180, 0, 19, 28, 43, 180, 0, 15, 16, 16, 46, 162, 0, 10, 43, 180, 0, 22, 167, 0, 4]
abbrev dktX14_go_1 : List UInt8 := dkwX14_go_1 ++ dktX14_go_2
def dkwX14_go_0 : List UInt8 := [43, 180, 0, 9, 17, 5, 160, 112, 43, 180, 0, 15, 16, 15, 46, 100, 17, 5, 160, 96, 17, 5, 160, 112]
abbrev dktX14_go_0 : List UInt8 := dkwX14_go_0 ++ dktX14_go_1
theorem dksX14_go_0 : cX14_go.data.toList.drop 0 = dktX14_go_0 := by decide +kernel
theorem dksX14_go_1 : cX14_go.data.toList.drop 24 = dktX14_go_1 := dk_seg dksX14_go_0 24 rfl rfl
theorem dksX14_go_2 : cX14_go.data.toList.drop 48 = dktX14_go_2 := dk_seg dksX14_go_1 24 rfl rfl
theorem dX14_go_0 : decode cX14_go 0 = .ok (.aload_n 1, 1) := dk_43 (dk_at dksX14_go_0 0 rfl rfl)
theorem dX14_go_1 : decode cX14_go 1 = .ok (.getfield 9, 3) := dk_180 0 9 (dk_at dksX14_go_0 1 rfl rfl)
theorem dX14_go_4 : decode cX14_go 4 = .ok (.sipush 1440, 3) := dk_17 5 160 (dk_at dksX14_go_0 4 rfl rfl)
theorem dX14_go_7 : decode cX14_go 7 = .ok (.irem, 1) := dk_112 (dk_at dksX14_go_0 7 rfl rfl)
theorem dX14_go_8 : decode cX14_go 8 = .ok (.aload_n 1, 1) := dk_43 (dk_at dksX14_go_0 8 rfl rfl)
theorem dX14_go_9 : decode cX14_go 9 = .ok (.getfield 15, 3) := dk_180 0 15 (dk_at dksX14_go_0 9 rfl rfl)
theorem dX14_go_12 : decode cX14_go 12 = .ok (.bipush 15, 2) := dk_16 15 (dk_at dksX14_go_0 12 rfl rfl)
theorem dX14_go_14 : decode cX14_go 14 = .ok (.iaload, 1) := dk_46 (dk_at dksX14_go_0 14 rfl rfl)
theorem dX14_go_15 : decode cX14_go 15 = .ok (.isub, 1) := dk_100 (dk_at dksX14_go_0 15 rfl rfl)
theorem dX14_go_16 : decode cX14_go 16 = .ok (.sipush 1440, 3) := dk_17 5 160 (dk_at dksX14_go_0 16 rfl rfl)
theorem dX14_go_19 : decode cX14_go 19 = .ok (.iadd, 1) := dk_96 (dk_at dksX14_go_0 19 rfl rfl)
theorem dX14_go_20 : decode cX14_go 20 = .ok (.sipush 1440, 3) := dk_17 5 160 (dk_at dksX14_go_0 20 rfl rfl)
theorem dX14_go_23 : decode cX14_go 23 = .ok (.irem, 1) := dk_112 (dk_at dksX14_go_0 23 rfl rfl)
theorem dX14_go_24 : decode cX14_go 24 = .ok (.istore_n 2, 1) := dk_61 (dk_at dksX14_go_1 0 rfl rfl)
theorem dX14_go_25 : decode cX14_go 25 = .ok (.aload_n 1, 1) := dk_43 (dk_at dksX14_go_1 1 rfl rfl)
theorem dX14_go_26 : decode cX14_go 26 = .ok (.dup, 1) := dk_89 (dk_at dksX14_go_1 2 rfl rfl)
theorem dX14_go_27 : decode cX14_go 27 = .ok (.getfield 19, 3) := dk_180 0 19 (dk_at dksX14_go_1 3 rfl rfl)
theorem dX14_go_30 : decode cX14_go 30 = .ok (.iload_n 2, 1) := dk_28 (dk_at dksX14_go_1 6 rfl rfl)
theorem dX14_go_31 : decode cX14_go 31 = .ok (.aload_n 1, 1) := dk_43 (dk_at dksX14_go_1 7 rfl rfl)
theorem dX14_go_32 : decode cX14_go 32 = .ok (.getfield 15, 3) := dk_180 0 15 (dk_at dksX14_go_1 8 rfl rfl)
theorem dX14_go_35 : decode cX14_go 35 = .ok (.bipush 16, 2) := dk_16 16 (dk_at dksX14_go_1 11 rfl rfl)
theorem dX14_go_37 : decode cX14_go 37 = .ok (.iaload, 1) := dk_46 (dk_at dksX14_go_1 13 rfl rfl)
theorem dX14_go_38 : decode cX14_go 38 = .ok (.if_icmp .ge 10, 3) := dk_162 0 10 (dk_at dksX14_go_1 14 rfl rfl)
theorem dX14_go_41 : decode cX14_go 41 = .ok (.aload_n 1, 1) := dk_43 (dk_at dksX14_go_1 17 rfl rfl)
theorem dX14_go_42 : decode cX14_go 42 = .ok (.getfield 22, 3) := dk_180 0 22 (dk_at dksX14_go_1 18 rfl rfl)
theorem dX14_go_45 : decode cX14_go 45 = .ok (.goto 4, 3) := dk_167 0 4 (dk_at dksX14_go_1 21 rfl rfl)
theorem dX14_go_48 : decode cX14_go 48 = .ok (.iconst 0, 1) := dk_3 (dk_at dksX14_go_2 0 rfl rfl)
theorem dX14_go_49 : decode cX14_go 49 = .ok (.iadd, 1) := dk_96 (dk_at dksX14_go_2 1 rfl rfl)
theorem dX14_go_50 : decode cX14_go 50 = .ok (.putfield 19, 3) := dk_181 0 19 (dk_at dksX14_go_2 2 rfl rfl)
theorem dX14_go_53 : decode cX14_go 53 = .ok (.iload_n 2, 1) := dk_28 (dk_at dksX14_go_2 5 rfl rfl)
theorem dX14_go_54 : decode cX14_go 54 = .ok (.aload_n 1, 1) := dk_43 (dk_at dksX14_go_2 6 rfl rfl)
theorem dX14_go_55 : decode cX14_go 55 = .ok (.getfield 15, 3) := dk_180 0 15 (dk_at dksX14_go_2 7 rfl rfl)
theorem dX14_go_58 : decode cX14_go 58 = .ok (.bipush 16, 2) := dk_16 16 (dk_at dksX14_go_2 10 rfl rfl)
theorem dX14_go_60 : decode cX14_go 60 = .ok (.iaload, 1) := dk_46 (dk_at dksX14_go_2 12 rfl rfl)
theorem dX14_go_61 : decode cX14_go 61 = .ok (.iconst 1, 1) := dk_4 (dk_at dksX14_go_2 13 rfl rfl)
theorem dX14_go_62 : decode cX14_go 62 = .ok (.isub, 1) := dk_100 (dk_at dksX14_go_2 14 rfl rfl)
theorem dX14_go_63 : decode cX14_go 63 = .ok (.if_icmp .ne 7, 3) := dk_160 0 7 (dk_at dksX14_go_2 15 rfl rfl)
theorem dX14_go_66 : decode cX14_go 66 = .ok (.aload_n 1, 1) := dk_43 (dk_at dksX14_go_2 18 rfl rfl)
theorem dX14_go_67 : decode cX14_go 67 = .ok (.invokevirtual 25, 3) := dk_182 0 25 (dk_at dksX14_go_2 19 rfl rfl)
theorem dX14_go_70 : decode cX14_go 70 = .ok (.return_, 1) := dk_177 (dk_at dksX14_go_2 22 rfl rfl)
theorem q309 : (Jvm.Cond.fieldLinkNest "FieldPumps$Stage$4" (15 : Nat) "FieldPumps$Station" "settings" "[I" "FieldPumps") ∈ lw_tbl := lw_at lw_m1 214 rfl
theorem q324 : (Jvm.Cond.fieldLinkNest "FieldPumps$Stage$4" (9 : Nat) "FieldPumps$Station" "time" "I" "FieldPumps") ∈ lw_tbl := lw_at lw_m1 229 rfl
theorem q340 : (Jvm.Cond.fieldLinkNest "FieldPumps$Stage$4" (22 : Nat) "FieldPumps$Station" "supply" "I" "FieldPumps") ∈ lw_tbl := lw_at lw_m2 5 rfl
theorem q346 : (Jvm.Cond.fieldLinkNest "FieldPumps$Stage$4" (19 : Nat) "FieldPumps$Station" "nightFlow" "I" "FieldPumps") ∈ lw_tbl := lw_at lw_m2 11 rfl
theorem q704 : (Jvm.Cond.selects "FieldPumps$Stage$4" ({ cls := "java/lang/Object", name := "getClass", desc := "()Ljava/lang/Class;" } : Jvm.MethodName) ({ cls := "java/lang/Object", name := "getClass", desc := "()Ljava/lang/Class;" } : Jvm.MethodName)) ∈ lw_all := lw_g (lw_at lw_m3 129 rfl) rfl
theorem q906 : (Jvm.Cond.selects "FieldPumps$Stage$4" ({ cls := "FieldPumps$Stage", name := "go", desc := "(LFieldPumps$Station;)V" } : Jvm.MethodName) ({ cls := "FieldPumps$Stage$4", name := "go", desc := "(LFieldPumps$Station;)V" } : Jvm.MethodName)) ∈ lw_all := lw_g (lw_at lw_m4 91 rfl) rfl
theorem q907 : (Jvm.Cond.instanceMethod ({ cls := "FieldPumps$Stage$4", name := "go", desc := "(LFieldPumps$Station;)V" } : Jvm.MethodName)) ∈ lw_all := lw_g (lw_at lw_m4 92 rfl) rfl
theorem q908 : (Jvm.Cond.code ({ cls := "FieldPumps$Stage$4", name := "go", desc := "(LFieldPumps$Station;)V" } : Jvm.MethodName) prog_12_method_2_code (3 : Nat) (Option.none : Option Jvm.ClassFile.FieldType)) ∈ lw_all := lw_g (lw_at lw_m4 93 rfl) rfl
theorem q909 : (Jvm.Cond.methodLinkNest "FieldPumps$Stage$4" (25 : Nat) ({ cls := "FieldPumps$Station", name := "noteNight", desc := "()V" } : Jvm.MethodName) "FieldPumps") ∈ lw_tbl := lw_at lw_m4 94 rfl
theorem q1002 : (Jvm.Cond.selects "FieldPumps$Stage$4" ({ cls := "java/lang/Enum", name := "compareTo", desc := "(Ljava/lang/Enum;)I" } : Jvm.MethodName) ({ cls := "java/lang/Enum", name := "compareTo", desc := "(Ljava/lang/Enum;)I" } : Jvm.MethodName)) ∈ lw_all := lw_g (lw_at lw_m4 187 rfl) rfl
theorem q1013 : (Jvm.Cond.selects "FieldPumps$Stage$4" ({ cls := "java/lang/Enum", name := "getDeclaringClass", desc := "()Ljava/lang/Class;" } : Jvm.MethodName) ({ cls := "java/lang/Enum", name := "getDeclaringClass", desc := "()Ljava/lang/Class;" } : Jvm.MethodName)) ∈ lw_all := lw_g (lw_at lw_m4 198 rfl) rfl
theorem q1023 : (Jvm.Cond.castable "FieldPumps$Stage$4" "java/lang/Comparable") ∈ lw_tbl := lw_at lw_m4 208 rfl
theorem q1024 : (Jvm.Cond.selects "FieldPumps$Stage$4" ({ cls := "java/lang/Comparable", name := "compareTo", desc := "(Ljava/lang/Object;)I" } : Jvm.MethodName) ({ cls := "java/lang/Enum", name := "compareTo", desc := "(Ljava/lang/Object;)I" } : Jvm.MethodName)) ∈ lw_all := lw_g (lw_at lw_m4 209 rfl) rfl
theorem q1025 : (Jvm.Cond.unhidden "FieldPumps$Stage$4" "compareTo" "(Ljava/lang/Object;)I") ∈ lw_tbl := lw_at lw_m4 210 rfl
theorem q2408 : (Jvm.Cond.castable "FieldPumps$Stage$4" "java/lang/Enum") ∈ lw_tbl := lw_at lw_m10 153 rfl
theorem q2424 : (Jvm.Cond.castable "FieldPumps$Stage$4" "java/lang/Object") ∈ lw_tbl := lw_at lw_m10 169 rfl
theorem q2448 : (Jvm.Cond.castable "FieldPumps$Stage$4" "FieldPumps$Stage") ∈ lw_tbl := lw_at lw_m10 193 rfl
abbrev cX15_go : ByteArray := prog_10_method_2_code
def yX15_go : MethodName := ⟨RX15, "go", "(LFieldPumps$Station;)V"⟩
def dkwX15_go_4 : List UInt8 := [181, 0, 9, 177]
abbrev dktX15_go_4 : List UInt8 := dkwX15_go_4 ++ []
def dkwX15_go_3 : List UInt8 := [43, 180, 0, 34, 16, 10, 46, 108, 62, 43, 3, 17, 7, 208, 28, 29, 96, 184, 0, 22, 184, 0, 42]
abbrev dktX15_go_3 : List UInt8 := dkwX15_go_3 ++ dktX15_go_4
def dkwX15_go_2 : List UInt8 := [43, 180, 0, 34, 16, 14, 46, 96, 184, 0, 22, 181, 0, 15, 43, 180, 0, 28, 43, 28, 182, 0, 38, 100]
abbrev dktX15_go_2 : List UInt8 := dkwX15_go_2 ++ dktX15_go_3
def dkwX15_go_1 : List UInt8 := [180, 0, 31, 43, 180, 0, 28, 96, 181, 0, 31, 43, 17, 78, 32, 43, 180, 0, 15, 43, 180, 0, 28, 100]
abbrev dktX15_go_1 : List UInt8 := dkwX15_go_1 ++ dktX15_go_2
def dkwX15_go_0 : List UInt8 := [43, 180, 0, 9, 61, 43, 43, 180, 0, 15, 43, 182, 0, 18, 184, 0, 22, 181, 0, 28, 43, 89]
abbrev dktX15_go_0 : List UInt8 := dkwX15_go_0 ++ dktX15_go_1
theorem dksX15_go_0 : cX15_go.data.toList.drop 0 = dktX15_go_0 := by decide +kernel
theorem dksX15_go_1 : cX15_go.data.toList.drop 22 = dktX15_go_1 := dk_seg dksX15_go_0 22 rfl rfl
theorem dksX15_go_2 : cX15_go.data.toList.drop 46 = dktX15_go_2 := dk_seg dksX15_go_1 24 rfl rfl
theorem dksX15_go_3 : cX15_go.data.toList.drop 70 = dktX15_go_3 := dk_seg dksX15_go_2 24 rfl rfl
theorem dksX15_go_4 : cX15_go.data.toList.drop 93 = dktX15_go_4 := dk_seg dksX15_go_3 23 rfl rfl
theorem dX15_go_0 : decode cX15_go 0 = .ok (.aload_n 1, 1) := dk_43 (dk_at dksX15_go_0 0 rfl rfl)
theorem dX15_go_1 : decode cX15_go 1 = .ok (.getfield 9, 3) := dk_180 0 9 (dk_at dksX15_go_0 1 rfl rfl)
theorem dX15_go_4 : decode cX15_go 4 = .ok (.istore_n 2, 1) := dk_61 (dk_at dksX15_go_0 4 rfl rfl)
theorem dX15_go_5 : decode cX15_go 5 = .ok (.aload_n 1, 1) := dk_43 (dk_at dksX15_go_0 5 rfl rfl)
theorem dX15_go_6 : decode cX15_go 6 = .ok (.aload_n 1, 1) := dk_43 (dk_at dksX15_go_0 6 rfl rfl)
theorem dX15_go_7 : decode cX15_go 7 = .ok (.getfield 15, 3) := dk_180 0 15 (dk_at dksX15_go_0 7 rfl rfl)
theorem dX15_go_10 : decode cX15_go 10 = .ok (.aload_n 1, 1) := dk_43 (dk_at dksX15_go_0 10 rfl rfl)
theorem dX15_go_11 : decode cX15_go 11 = .ok (.invokevirtual 18, 3) := dk_182 0 18 (dk_at dksX15_go_0 11 rfl rfl)
theorem dX15_go_14 : decode cX15_go 14 = .ok (.invokestatic 22, 3) := dk_184 0 22 (dk_at dksX15_go_0 14 rfl rfl)
theorem dX15_go_17 : decode cX15_go 17 = .ok (.putfield 28, 3) := dk_181 0 28 (dk_at dksX15_go_0 17 rfl rfl)
theorem dX15_go_20 : decode cX15_go 20 = .ok (.aload_n 1, 1) := dk_43 (dk_at dksX15_go_0 20 rfl rfl)
theorem dX15_go_21 : decode cX15_go 21 = .ok (.dup, 1) := dk_89 (dk_at dksX15_go_0 21 rfl rfl)
theorem dX15_go_22 : decode cX15_go 22 = .ok (.getfield 31, 3) := dk_180 0 31 (dk_at dksX15_go_1 0 rfl rfl)
theorem dX15_go_25 : decode cX15_go 25 = .ok (.aload_n 1, 1) := dk_43 (dk_at dksX15_go_1 3 rfl rfl)
theorem dX15_go_26 : decode cX15_go 26 = .ok (.getfield 28, 3) := dk_180 0 28 (dk_at dksX15_go_1 4 rfl rfl)
theorem dX15_go_29 : decode cX15_go 29 = .ok (.iadd, 1) := dk_96 (dk_at dksX15_go_1 7 rfl rfl)
theorem dX15_go_30 : decode cX15_go 30 = .ok (.putfield 31, 3) := dk_181 0 31 (dk_at dksX15_go_1 8 rfl rfl)
theorem dX15_go_33 : decode cX15_go 33 = .ok (.aload_n 1, 1) := dk_43 (dk_at dksX15_go_1 11 rfl rfl)
theorem dX15_go_34 : decode cX15_go 34 = .ok (.sipush 20000, 3) := dk_17 78 32 (dk_at dksX15_go_1 12 rfl rfl)
theorem dX15_go_37 : decode cX15_go 37 = .ok (.aload_n 1, 1) := dk_43 (dk_at dksX15_go_1 15 rfl rfl)
theorem dX15_go_38 : decode cX15_go 38 = .ok (.getfield 15, 3) := dk_180 0 15 (dk_at dksX15_go_1 16 rfl rfl)
theorem dX15_go_41 : decode cX15_go 41 = .ok (.aload_n 1, 1) := dk_43 (dk_at dksX15_go_1 19 rfl rfl)
theorem dX15_go_42 : decode cX15_go 42 = .ok (.getfield 28, 3) := dk_180 0 28 (dk_at dksX15_go_1 20 rfl rfl)
theorem dX15_go_45 : decode cX15_go 45 = .ok (.isub, 1) := dk_100 (dk_at dksX15_go_1 23 rfl rfl)
theorem dX15_go_46 : decode cX15_go 46 = .ok (.aload_n 1, 1) := dk_43 (dk_at dksX15_go_2 0 rfl rfl)
theorem dX15_go_47 : decode cX15_go 47 = .ok (.getfield 34, 3) := dk_180 0 34 (dk_at dksX15_go_2 1 rfl rfl)
theorem dX15_go_50 : decode cX15_go 50 = .ok (.bipush 14, 2) := dk_16 14 (dk_at dksX15_go_2 4 rfl rfl)
theorem dX15_go_52 : decode cX15_go 52 = .ok (.iaload, 1) := dk_46 (dk_at dksX15_go_2 6 rfl rfl)
theorem dX15_go_53 : decode cX15_go 53 = .ok (.iadd, 1) := dk_96 (dk_at dksX15_go_2 7 rfl rfl)
theorem dX15_go_54 : decode cX15_go 54 = .ok (.invokestatic 22, 3) := dk_184 0 22 (dk_at dksX15_go_2 8 rfl rfl)
theorem dX15_go_57 : decode cX15_go 57 = .ok (.putfield 15, 3) := dk_181 0 15 (dk_at dksX15_go_2 11 rfl rfl)
theorem dX15_go_60 : decode cX15_go 60 = .ok (.aload_n 1, 1) := dk_43 (dk_at dksX15_go_2 14 rfl rfl)
theorem dX15_go_61 : decode cX15_go 61 = .ok (.getfield 28, 3) := dk_180 0 28 (dk_at dksX15_go_2 15 rfl rfl)
theorem dX15_go_64 : decode cX15_go 64 = .ok (.aload_n 1, 1) := dk_43 (dk_at dksX15_go_2 18 rfl rfl)
theorem dX15_go_65 : decode cX15_go 65 = .ok (.iload_n 2, 1) := dk_28 (dk_at dksX15_go_2 19 rfl rfl)
theorem dX15_go_66 : decode cX15_go 66 = .ok (.invokevirtual 38, 3) := dk_182 0 38 (dk_at dksX15_go_2 20 rfl rfl)
theorem dX15_go_69 : decode cX15_go 69 = .ok (.isub, 1) := dk_100 (dk_at dksX15_go_2 23 rfl rfl)
theorem dX15_go_70 : decode cX15_go 70 = .ok (.aload_n 1, 1) := dk_43 (dk_at dksX15_go_3 0 rfl rfl)
theorem dX15_go_71 : decode cX15_go 71 = .ok (.getfield 34, 3) := dk_180 0 34 (dk_at dksX15_go_3 1 rfl rfl)
theorem dX15_go_74 : decode cX15_go 74 = .ok (.bipush 10, 2) := dk_16 10 (dk_at dksX15_go_3 4 rfl rfl)
theorem dX15_go_76 : decode cX15_go 76 = .ok (.iaload, 1) := dk_46 (dk_at dksX15_go_3 6 rfl rfl)
theorem dX15_go_77 : decode cX15_go 77 = .ok (.idiv, 1) := dk_108 (dk_at dksX15_go_3 7 rfl rfl)
theorem dX15_go_78 : decode cX15_go 78 = .ok (.istore_n 3, 1) := dk_62 (dk_at dksX15_go_3 8 rfl rfl)
theorem dX15_go_79 : decode cX15_go 79 = .ok (.aload_n 1, 1) := dk_43 (dk_at dksX15_go_3 9 rfl rfl)
theorem dX15_go_80 : decode cX15_go 80 = .ok (.iconst 0, 1) := dk_3 (dk_at dksX15_go_3 10 rfl rfl)
theorem dX15_go_81 : decode cX15_go 81 = .ok (.sipush 2000, 3) := dk_17 7 208 (dk_at dksX15_go_3 11 rfl rfl)
theorem dX15_go_84 : decode cX15_go 84 = .ok (.iload_n 2, 1) := dk_28 (dk_at dksX15_go_3 14 rfl rfl)
theorem dX15_go_85 : decode cX15_go 85 = .ok (.iload_n 3, 1) := dk_29 (dk_at dksX15_go_3 15 rfl rfl)
theorem dX15_go_86 : decode cX15_go 86 = .ok (.iadd, 1) := dk_96 (dk_at dksX15_go_3 16 rfl rfl)
theorem dX15_go_87 : decode cX15_go 87 = .ok (.invokestatic 22, 3) := dk_184 0 22 (dk_at dksX15_go_3 17 rfl rfl)
theorem dX15_go_90 : decode cX15_go 90 = .ok (.invokestatic 42, 3) := dk_184 0 42 (dk_at dksX15_go_3 20 rfl rfl)
theorem dX15_go_93 : decode cX15_go 93 = .ok (.putfield 9, 3) := dk_181 0 9 (dk_at dksX15_go_4 0 rfl rfl)
theorem dX15_go_96 : decode cX15_go 96 = .ok (.return_, 1) := dk_177 (dk_at dksX15_go_4 3 rfl rfl)
theorem q310 : (Jvm.Cond.fieldLinkNest "FieldPumps$Stage$2" (34 : Nat) "FieldPumps$Station" "settings" "[I" "FieldPumps") ∈ lw_tbl := lw_at lw_m1 215 rfl
theorem q328 : (Jvm.Cond.fieldLinkNest "FieldPumps$Stage$2" (9 : Nat) "FieldPumps$Station" "pressure" "I" "FieldPumps") ∈ lw_tbl := lw_at lw_m1 233 rfl
theorem q332 : (Jvm.Cond.fieldLinkNest "FieldPumps$Stage$2" (15 : Nat) "FieldPumps$Station" "level" "I" "FieldPumps") ∈ lw_tbl := lw_at lw_m1 237 rfl
theorem q339 : (Jvm.Cond.fieldLinkNest "FieldPumps$Stage$2" (28 : Nat) "FieldPumps$Station" "supply" "I" "FieldPumps") ∈ lw_tbl := lw_at lw_m2 4 rfl
theorem q343 : (Jvm.Cond.fieldLinkNest "FieldPumps$Stage$2" (31 : Nat) "FieldPumps$Station" "supplied" "I" "FieldPumps") ∈ lw_tbl := lw_at lw_m2 8 rfl
theorem q702 : (Jvm.Cond.selects "FieldPumps$Stage$2" ({ cls := "java/lang/Object", name := "getClass", desc := "()Ljava/lang/Class;" } : Jvm.MethodName) ({ cls := "java/lang/Object", name := "getClass", desc := "()Ljava/lang/Class;" } : Jvm.MethodName)) ∈ lw_all := lw_g (lw_at lw_m3 127 rfl) rfl
theorem q874 : (Jvm.Cond.selects "FieldPumps$Stage$2" ({ cls := "FieldPumps$Stage", name := "go", desc := "(LFieldPumps$Station;)V" } : Jvm.MethodName) ({ cls := "FieldPumps$Stage$2", name := "go", desc := "(LFieldPumps$Station;)V" } : Jvm.MethodName)) ∈ lw_all := lw_g (lw_at lw_m4 59 rfl) rfl
theorem q875 : (Jvm.Cond.instanceMethod ({ cls := "FieldPumps$Stage$2", name := "go", desc := "(LFieldPumps$Station;)V" } : Jvm.MethodName)) ∈ lw_all := lw_g (lw_at lw_m4 60 rfl) rfl
theorem q876 : (Jvm.Cond.code ({ cls := "FieldPumps$Stage$2", name := "go", desc := "(LFieldPumps$Station;)V" } : Jvm.MethodName) prog_10_method_2_code (4 : Nat) (Option.none : Option Jvm.ClassFile.FieldType)) ∈ lw_all := lw_g (lw_at lw_m4 61 rfl) rfl
theorem q877 : (Jvm.Cond.methodLinkNest "FieldPumps$Stage$2" (18 : Nat) ({ cls := "FieldPumps$Station", name := "flow", desc := "()I" } : Jvm.MethodName) "FieldPumps") ∈ lw_tbl := lw_at lw_m4 62 rfl
theorem q889 : (Jvm.Cond.methodLink "FieldPumps$Stage$2" (22 : Nat) ({ cls := "java/lang/Math", name := "min", desc := "(II)I" } : Jvm.MethodName)) ∈ lw_all := lw_g (lw_at lw_m4 74 rfl) rfl
theorem q890 : (Jvm.Cond.methodLink "FieldPumps$Stage$2" (38 : Nat) ({ cls := "FieldPumps$Station", name := "demand", desc := "(I)I" } : Jvm.MethodName)) ∈ lw_all := lw_g (lw_at lw_m4 75 rfl) rfl
theorem q898 : (Jvm.Cond.methodLink "FieldPumps$Stage$2" (42 : Nat) ({ cls := "java/lang/Math", name := "max", desc := "(II)I" } : Jvm.MethodName)) ∈ lw_all := lw_g (lw_at lw_m4 83 rfl) rfl
theorem q1000 : (Jvm.Cond.selects "FieldPumps$Stage$2" ({ cls := "java/lang/Enum", name := "compareTo", desc := "(Ljava/lang/Enum;)I" } : Jvm.MethodName) ({ cls := "java/lang/Enum", name := "compareTo", desc := "(Ljava/lang/Enum;)I" } : Jvm.MethodName)) ∈ lw_all := lw_g (lw_at lw_m4 185 rfl) rfl
theorem q1011 : (Jvm.Cond.selects "FieldPumps$Stage$2" ({ cls := "java/lang/Enum", name := "getDeclaringClass", desc := "()Ljava/lang/Class;" } : Jvm.MethodName) ({ cls := "java/lang/Enum", name := "getDeclaringClass", desc := "()Ljava/lang/Class;" } : Jvm.MethodName)) ∈ lw_all := lw_g (lw_at lw_m4 196 rfl) rfl
theorem q1017 : (Jvm.Cond.castable "FieldPumps$Stage$2" "java/lang/Comparable") ∈ lw_tbl := lw_at lw_m4 202 rfl
theorem q1018 : (Jvm.Cond.selects "FieldPumps$Stage$2" ({ cls := "java/lang/Comparable", name := "compareTo", desc := "(Ljava/lang/Object;)I" } : Jvm.MethodName) ({ cls := "java/lang/Enum", name := "compareTo", desc := "(Ljava/lang/Object;)I" } : Jvm.MethodName)) ∈ lw_all := lw_g (lw_at lw_m4 203 rfl) rfl
theorem q1019 : (Jvm.Cond.unhidden "FieldPumps$Stage$2" "compareTo" "(Ljava/lang/Object;)I") ∈ lw_tbl := lw_at lw_m4 204 rfl
theorem q2406 : (Jvm.Cond.castable "FieldPumps$Stage$2" "java/lang/Enum") ∈ lw_tbl := lw_at lw_m10 151 rfl
theorem q2422 : (Jvm.Cond.castable "FieldPumps$Stage$2" "java/lang/Object") ∈ lw_tbl := lw_at lw_m10 167 rfl
theorem q2446 : (Jvm.Cond.castable "FieldPumps$Stage$2" "FieldPumps$Stage") ∈ lw_tbl := lw_at lw_m10 191 rfl
abbrev cX16_go : ByteArray := prog_14_method_2_code
def yX16_go : MethodName := ⟨RX16, "go", "(LFieldPumps$Station;)V"⟩
def dkwX16_go_0 : List UInt8 := [43, 180, 0, 7, 153, 0, 10, 43, 182, 0, 13, 167, 0, 7, 43, 182, 0, 17, 177]
abbrev dktX16_go_0 : List UInt8 := dkwX16_go_0 ++ []
theorem dksX16_go_0 : cX16_go.data.toList.drop 0 = dktX16_go_0 := by decide +kernel
theorem dX16_go_0 : decode cX16_go 0 = .ok (.aload_n 1, 1) := dk_43 (dk_at dksX16_go_0 0 rfl rfl)
theorem dX16_go_1 : decode cX16_go 1 = .ok (.getfield 7, 3) := dk_180 0 7 (dk_at dksX16_go_0 1 rfl rfl)
theorem dX16_go_4 : decode cX16_go 4 = .ok (.ifCond .eq 10, 3) := dk_153 0 10 (dk_at dksX16_go_0 4 rfl rfl)
theorem dX16_go_7 : decode cX16_go 7 = .ok (.aload_n 1, 1) := dk_43 (dk_at dksX16_go_0 7 rfl rfl)
theorem dX16_go_8 : decode cX16_go 8 = .ok (.invokevirtual 13, 3) := dk_182 0 13 (dk_at dksX16_go_0 8 rfl rfl)
theorem dX16_go_11 : decode cX16_go 11 = .ok (.goto 7, 3) := dk_167 0 7 (dk_at dksX16_go_0 11 rfl rfl)
theorem dX16_go_14 : decode cX16_go 14 = .ok (.aload_n 1, 1) := dk_43 (dk_at dksX16_go_0 14 rfl rfl)
theorem dX16_go_15 : decode cX16_go 15 = .ok (.invokevirtual 17, 3) := dk_182 0 17 (dk_at dksX16_go_0 15 rfl rfl)
theorem dX16_go_18 : decode cX16_go 18 = .ok (.return_, 1) := dk_177 (dk_at dksX16_go_0 18 rfl rfl)
theorem q357 : (Jvm.Cond.fieldLinkNest "FieldPumps$Stage$6" (7 : Nat) "FieldPumps$Station" "isDry" "Z" "FieldPumps") ∈ lw_tbl := lw_at lw_m2 22 rfl
theorem q706 : (Jvm.Cond.selects "FieldPumps$Stage$6" ({ cls := "java/lang/Object", name := "getClass", desc := "()Ljava/lang/Class;" } : Jvm.MethodName) ({ cls := "java/lang/Object", name := "getClass", desc := "()Ljava/lang/Class;" } : Jvm.MethodName)) ∈ lw_all := lw_g (lw_at lw_m3 131 rfl) rfl
theorem q1004 : (Jvm.Cond.selects "FieldPumps$Stage$6" ({ cls := "java/lang/Enum", name := "compareTo", desc := "(Ljava/lang/Enum;)I" } : Jvm.MethodName) ({ cls := "java/lang/Enum", name := "compareTo", desc := "(Ljava/lang/Enum;)I" } : Jvm.MethodName)) ∈ lw_all := lw_g (lw_at lw_m4 189 rfl) rfl
theorem q1015 : (Jvm.Cond.selects "FieldPumps$Stage$6" ({ cls := "java/lang/Enum", name := "getDeclaringClass", desc := "()Ljava/lang/Class;" } : Jvm.MethodName) ({ cls := "java/lang/Enum", name := "getDeclaringClass", desc := "()Ljava/lang/Class;" } : Jvm.MethodName)) ∈ lw_all := lw_g (lw_at lw_m4 200 rfl) rfl
theorem q1029 : (Jvm.Cond.castable "FieldPumps$Stage$6" "java/lang/Comparable") ∈ lw_tbl := lw_at lw_m4 214 rfl
theorem q1030 : (Jvm.Cond.selects "FieldPumps$Stage$6" ({ cls := "java/lang/Comparable", name := "compareTo", desc := "(Ljava/lang/Object;)I" } : Jvm.MethodName) ({ cls := "java/lang/Enum", name := "compareTo", desc := "(Ljava/lang/Object;)I" } : Jvm.MethodName)) ∈ lw_all := lw_g (lw_at lw_m4 215 rfl) rfl
theorem q1031 : (Jvm.Cond.unhidden "FieldPumps$Stage$6" "compareTo" "(Ljava/lang/Object;)I") ∈ lw_tbl := lw_at lw_m4 216 rfl
theorem q1433 : (Jvm.Cond.selects "FieldPumps$Stage$6" ({ cls := "FieldPumps$Stage", name := "go", desc := "(LFieldPumps$Station;)V" } : Jvm.MethodName) ({ cls := "FieldPumps$Stage$6", name := "go", desc := "(LFieldPumps$Station;)V" } : Jvm.MethodName)) ∈ lw_all := lw_g (lw_at lw_m6 138 rfl) rfl
theorem q1434 : (Jvm.Cond.instanceMethod ({ cls := "FieldPumps$Stage$6", name := "go", desc := "(LFieldPumps$Station;)V" } : Jvm.MethodName)) ∈ lw_all := lw_g (lw_at lw_m6 139 rfl) rfl
theorem q1435 : (Jvm.Cond.code ({ cls := "FieldPumps$Stage$6", name := "go", desc := "(LFieldPumps$Station;)V" } : Jvm.MethodName) prog_14_method_2_code (2 : Nat) (Option.none : Option Jvm.ClassFile.FieldType)) ∈ lw_all := lw_g (lw_at lw_m6 140 rfl) rfl
theorem q1436 : (Jvm.Cond.methodLinkNest "FieldPumps$Stage$6" (13 : Nat) ({ cls := "FieldPumps$Station", name := "forget", desc := "()V" } : Jvm.MethodName) "FieldPumps") ∈ lw_tbl := lw_at lw_m6 141 rfl
theorem q1440 : (Jvm.Cond.methodLinkNest "FieldPumps$Stage$6" (17 : Nat) ({ cls := "FieldPumps$Station", name := "control", desc := "()V" } : Jvm.MethodName) "FieldPumps") ∈ lw_tbl := lw_at lw_m6 145 rfl
theorem q2410 : (Jvm.Cond.castable "FieldPumps$Stage$6" "java/lang/Enum") ∈ lw_tbl := lw_at lw_m10 155 rfl
theorem q2426 : (Jvm.Cond.castable "FieldPumps$Stage$6" "java/lang/Object") ∈ lw_tbl := lw_at lw_m10 171 rfl
theorem q2450 : (Jvm.Cond.castable "FieldPumps$Stage$6" "FieldPumps$Stage") ∈ lw_tbl := lw_at lw_m10 195 rfl
theorem q95 : (Jvm.Cond.initialized "FieldPumpsLaw") ∈ lw_all := lw_g (lw_at lw_m1 0 rfl) rfl
theorem q138 : (Jvm.Cond.classLink "FieldPumpsLaw" (7 : Nat) "FieldPumps") ∈ lw_all := lw_g (lw_at lw_m1 43 rfl) rfl
theorem q140 : (Jvm.Cond.methodLink "FieldPumpsLaw" (9 : Nat) ({ cls := "FieldPumps", name := "<init>", desc := "()V" } : Jvm.MethodName)) ∈ lw_all := lw_g (lw_at lw_m1 45 rfl) rfl
theorem q483 : (Jvm.Cond.methodLink "FieldPumpsLaw" (13 : Nat) ({ cls := "FieldPumps", name := "set", desc := "(II)I" } : Jvm.MethodName)) ∈ lw_all := lw_g (lw_at lw_m2 148 rfl) rfl
theorem q800 : (Jvm.Cond.methodLink "FieldPumpsLaw" (18 : Nat) ({ cls := "FieldPumps", name := "pump", desc := "(III)I" } : Jvm.MethodName)) ∈ lw_all := lw_g (lw_at lw_m3 225 rfl) rfl
theorem q824 : (Jvm.Cond.methodLink "FieldPumpsLaw" (23 : Nat) ({ cls := "FieldPumps", name := "service", desc := "(II)I" } : Jvm.MethodName)) ∈ lw_all := lw_g (lw_at lw_m4 9 rfl) rfl
theorem q1548 : (Jvm.Cond.methodLink "FieldPumpsLaw" (27 : Nat) ({ cls := "FieldPumps", name := "pumpOf", desc := "(II)I" } : Jvm.MethodName)) ∈ lw_all := lw_g (lw_at lw_m7 13 rfl) rfl
theorem q1567 : (Jvm.Cond.methodLink "FieldPumpsLaw" (31 : Nat) ({ cls := "FieldPumps", name := "curve", desc := "(III)I" } : Jvm.MethodName)) ∈ lw_all := lw_g (lw_at lw_m7 32 rfl) rfl
theorem q1573 : (Jvm.Cond.methodLink "FieldPumpsLaw" (35 : Nat) ({ cls := "FieldPumps", name := "readyAt", desc := "(I)I" } : Jvm.MethodName)) ∈ lw_all := lw_g (lw_at lw_m7 38 rfl) rfl
theorem q1593 : (Jvm.Cond.methodLink "FieldPumpsLaw" (40 : Nat) ({ cls := "FieldPumps", name := "balance", desc := "()I" } : Jvm.MethodName)) ∈ lw_all := lw_g (lw_at lw_m7 58 rfl) rfl
theorem q1608 : (Jvm.Cond.methodLink "FieldPumpsLaw" (45 : Nat) ({ cls := "FieldPumps", name := "zone", desc := "(I)I" } : Jvm.MethodName)) ∈ lw_all := lw_g (lw_at lw_m7 73 rfl) rfl
theorem q1612 : (Jvm.Cond.methodLink "FieldPumpsLaw" (49 : Nat) ({ cls := "FieldPumps", name := "open", desc := "(II)I" } : Jvm.MethodName)) ∈ lw_all := lw_g (lw_at lw_m7 77 rfl) rfl
theorem q1625 : (Jvm.Cond.methodLink "FieldPumpsLaw" (53 : Nat) ({ cls := "FieldPumps", name := "leak", desc := "(I)I" } : Jvm.MethodName)) ∈ lw_all := lw_g (lw_at lw_m7 90 rfl) rfl
theorem q1629 : (Jvm.Cond.methodLink "FieldPumpsLaw" (57 : Nat) ({ cls := "FieldPumps", name := "programme", desc := "(III)I" } : Jvm.MethodName)) ∈ lw_all := lw_g (lw_at lw_m7 94 rfl) rfl
theorem q1654 : (Jvm.Cond.methodLink "FieldPumpsLaw" (61 : Nat) ({ cls := "FieldPumps", name := "zoneOf", desc := "(II)I" } : Jvm.MethodName)) ∈ lw_all := lw_g (lw_at lw_m7 119 rfl) rfl
theorem q1664 : (Jvm.Cond.methodLink "FieldPumpsLaw" (65 : Nat) ({ cls := "FieldPumps", name := "fill", desc := "(I)I" } : Jvm.MethodName)) ∈ lw_all := lw_g (lw_at lw_m7 129 rfl) rfl
theorem q1669 : (Jvm.Cond.methodLink "FieldPumpsLaw" (69 : Nat) ({ cls := "FieldPumps", name := "reset", desc := "()I" } : Jvm.MethodName)) ∈ lw_all := lw_g (lw_at lw_m7 134 rfl) rfl
theorem q1673 : (Jvm.Cond.methodLink "FieldPumpsLaw" (73 : Nat) ({ cls := "FieldPumps", name := "pass", desc := "(I)I" } : Jvm.MethodName)) ∈ lw_all := lw_g (lw_at lw_m7 138 rfl) rfl
theorem q1678 : (Jvm.Cond.methodLink "FieldPumpsLaw" (77 : Nat) ({ cls := "FieldPumps", name := "foresee", desc := "(II)I" } : Jvm.MethodName)) ∈ lw_all := lw_g (lw_at lw_m7 143 rfl) rfl
theorem q1685 : (Jvm.Cond.methodLink "FieldPumpsLaw" (81 : Nat) ({ cls := "FieldPumps", name := "foreseeEvent", desc := "(I)I" } : Jvm.MethodName)) ∈ lw_all := lw_g (lw_at lw_m7 150 rfl) rfl
theorem q1690 : (Jvm.Cond.methodLink "FieldPumpsLaw" (85 : Nat) ({ cls := "FieldPumps", name := "station", desc := "(I)I" } : Jvm.MethodName)) ∈ lw_all := lw_g (lw_at lw_m7 155 rfl) rfl
theorem q1726 : (Jvm.Cond.methodLink "FieldPumpsLaw" (89 : Nat) ({ cls := "FieldPumps", name := "nightAt", desc := "(I)I" } : Jvm.MethodName)) ∈ lw_all := lw_g (lw_at lw_m7 191 rfl) rfl
theorem q1732 : (Jvm.Cond.methodLink "FieldPumpsLaw" (93 : Nat) ({ cls := "FieldPumps", name := "eventAt", desc := "(II)I" } : Jvm.MethodName)) ∈ lw_all := lw_g (lw_at lw_m7 197 rfl) rfl
theorem q1736 : (Jvm.Cond.methodLink "FieldPumpsLaw" (97 : Nat) ({ cls := "FieldPumps", name := "count", desc := "(I)I" } : Jvm.MethodName)) ∈ lw_all := lw_g (lw_at lw_m7 201 rfl) rfl
theorem q1755 : (Jvm.Cond.methodLink "FieldPumpsLaw" (101 : Nat) ({ cls := "FieldPumps", name := "undo", desc := "()I" } : Jvm.MethodName)) ∈ lw_all := lw_g (lw_at lw_m7 220 rfl) rfl
theorem q1774 : (Jvm.Cond.methodLink "FieldPumpsLaw" (105 : Nat) ({ cls := "FieldPumps", name := "type", desc := "(I)I" } : Jvm.MethodName)) ∈ lw_all := lw_g (lw_at lw_m7 239 rfl) rfl
theorem q1840 : (Jvm.Cond.methodLink "FieldPumpsLaw" (109 : Nat) ({ cls := "FieldPumps", name := "clearText", desc := "()I" } : Jvm.MethodName)) ∈ lw_all := lw_g (lw_at lw_m8 65 rfl) rfl
theorem q1864 : (Jvm.Cond.methodLink "FieldPumpsLaw" (113 : Nat) ({ cls := "FieldPumps", name := "fault", desc := "(I)I" } : Jvm.MethodName)) ∈ lw_all := lw_g (lw_at lw_m8 89 rfl) rfl
theorem q1998 : (Jvm.Cond.methodLink "FieldPumpsLaw" (117 : Nat) ({ cls := "FieldPumps", name := "play", desc := "()I" } : Jvm.MethodName)) ∈ lw_all := lw_g (lw_at lw_m8 223 rfl) rfl
theorem q2002 : (Jvm.Cond.classLink "FieldPumpsLaw" (10 : Nat) "FieldPumpsModel") ∈ lw_all := lw_g (lw_at lw_m8 227 rfl) rfl
theorem q2004 : (Jvm.Cond.methodLink "FieldPumpsLaw" (12 : Nat) ({ cls := "FieldPumpsModel", name := "<init>", desc := "()V" } : Jvm.MethodName)) ∈ lw_all := lw_g (lw_at lw_m8 229 rfl) rfl
theorem q2051 : (Jvm.Cond.methodLink "FieldPumpsLaw" (17 : Nat) ({ cls := "FieldPumpsModel", name := "set", desc := "(II)I" } : Jvm.MethodName)) ∈ lw_all := lw_g (lw_at lw_m9 36 rfl) rfl
theorem q2082 : (Jvm.Cond.methodLink "FieldPumpsLaw" (22 : Nat) ({ cls := "FieldPumpsModel", name := "pump", desc := "(III)I" } : Jvm.MethodName)) ∈ lw_all := lw_g (lw_at lw_m9 67 rfl) rfl
theorem q2093 : (Jvm.Cond.methodLink "FieldPumpsLaw" (26 : Nat) ({ cls := "FieldPumpsModel", name := "service", desc := "(II)I" } : Jvm.MethodName)) ∈ lw_all := lw_g (lw_at lw_m9 78 rfl) rfl
theorem q2126 : (Jvm.Cond.methodLink "FieldPumpsLaw" (30 : Nat) ({ cls := "FieldPumpsModel", name := "pumpOf", desc := "(II)I" } : Jvm.MethodName)) ∈ lw_all := lw_g (lw_at lw_m9 111 rfl) rfl
theorem q2139 : (Jvm.Cond.methodLink "FieldPumpsLaw" (34 : Nat) ({ cls := "FieldPumpsModel", name := "curve", desc := "(III)I" } : Jvm.MethodName)) ∈ lw_all := lw_g (lw_at lw_m9 124 rfl) rfl
theorem q2143 : (Jvm.Cond.methodLink "FieldPumpsLaw" (39 : Nat) ({ cls := "FieldPumpsModel", name := "readyAt", desc := "(I)I" } : Jvm.MethodName)) ∈ lw_all := lw_g (lw_at lw_m9 128 rfl) rfl
theorem q2164 : (Jvm.Cond.methodLink "FieldPumpsLaw" (44 : Nat) ({ cls := "FieldPumpsModel", name := "balance", desc := "()I" } : Jvm.MethodName)) ∈ lw_all := lw_g (lw_at lw_m9 149 rfl) rfl
theorem q2168 : (Jvm.Cond.methodLink "FieldPumpsLaw" (48 : Nat) ({ cls := "FieldPumpsModel", name := "zone", desc := "(I)I" } : Jvm.MethodName)) ∈ lw_all := lw_g (lw_at lw_m9 153 rfl) rfl
theorem q2172 : (Jvm.Cond.methodLink "FieldPumpsLaw" (52 : Nat) ({ cls := "FieldPumpsModel", name := "open", desc := "(II)I" } : Jvm.MethodName)) ∈ lw_all := lw_g (lw_at lw_m9 157 rfl) rfl
theorem q2188 : (Jvm.Cond.methodLink "FieldPumpsLaw" (56 : Nat) ({ cls := "FieldPumpsModel", name := "leak", desc := "(I)I" } : Jvm.MethodName)) ∈ lw_all := lw_g (lw_at lw_m9 173 rfl) rfl
theorem q2192 : (Jvm.Cond.methodLink "FieldPumpsLaw" (60 : Nat) ({ cls := "FieldPumpsModel", name := "programme", desc := "(III)I" } : Jvm.MethodName)) ∈ lw_all := lw_g (lw_at lw_m9 177 rfl) rfl
theorem q2196 : (Jvm.Cond.methodLink "FieldPumpsLaw" (64 : Nat) ({ cls := "FieldPumpsModel", name := "zoneOf", desc := "(II)I" } : Jvm.MethodName)) ∈ lw_all := lw_g (lw_at lw_m9 181 rfl) rfl
theorem q2205 : (Jvm.Cond.methodLink "FieldPumpsLaw" (68 : Nat) ({ cls := "FieldPumpsModel", name := "fill", desc := "(I)I" } : Jvm.MethodName)) ∈ lw_all := lw_g (lw_at lw_m9 190 rfl) rfl
theorem q2210 : (Jvm.Cond.methodLink "FieldPumpsLaw" (72 : Nat) ({ cls := "FieldPumpsModel", name := "reset", desc := "()I" } : Jvm.MethodName)) ∈ lw_all := lw_g (lw_at lw_m9 195 rfl) rfl
theorem q2218 : (Jvm.Cond.methodLink "FieldPumpsLaw" (76 : Nat) ({ cls := "FieldPumpsModel", name := "pass", desc := "(I)I" } : Jvm.MethodName)) ∈ lw_all := lw_g (lw_at lw_m9 203 rfl) rfl
theorem q2306 : (Jvm.Cond.methodLink "FieldPumpsLaw" (80 : Nat) ({ cls := "FieldPumpsModel", name := "foresee", desc := "(II)I" } : Jvm.MethodName)) ∈ lw_all := lw_g (lw_at lw_m10 51 rfl) rfl
theorem q2319 : (Jvm.Cond.methodLink "FieldPumpsLaw" (84 : Nat) ({ cls := "FieldPumpsModel", name := "foreseeEvent", desc := "(I)I" } : Jvm.MethodName)) ∈ lw_all := lw_g (lw_at lw_m10 64 rfl) rfl
theorem q2324 : (Jvm.Cond.methodLink "FieldPumpsLaw" (88 : Nat) ({ cls := "FieldPumpsModel", name := "station", desc := "(I)I" } : Jvm.MethodName)) ∈ lw_all := lw_g (lw_at lw_m10 69 rfl) rfl
theorem q2329 : (Jvm.Cond.methodLink "FieldPumpsLaw" (92 : Nat) ({ cls := "FieldPumpsModel", name := "nightAt", desc := "(I)I" } : Jvm.MethodName)) ∈ lw_all := lw_g (lw_at lw_m10 74 rfl) rfl
theorem q2333 : (Jvm.Cond.methodLink "FieldPumpsLaw" (96 : Nat) ({ cls := "FieldPumpsModel", name := "eventAt", desc := "(II)I" } : Jvm.MethodName)) ∈ lw_all := lw_g (lw_at lw_m10 78 rfl) rfl
theorem q2337 : (Jvm.Cond.methodLink "FieldPumpsLaw" (100 : Nat) ({ cls := "FieldPumpsModel", name := "count", desc := "(I)I" } : Jvm.MethodName)) ∈ lw_all := lw_g (lw_at lw_m10 82 rfl) rfl
theorem q2347 : (Jvm.Cond.methodLink "FieldPumpsLaw" (104 : Nat) ({ cls := "FieldPumpsModel", name := "undo", desc := "()I" } : Jvm.MethodName)) ∈ lw_all := lw_g (lw_at lw_m10 92 rfl) rfl
theorem q2351 : (Jvm.Cond.methodLink "FieldPumpsLaw" (108 : Nat) ({ cls := "FieldPumpsModel", name := "type", desc := "(I)I" } : Jvm.MethodName)) ∈ lw_all := lw_g (lw_at lw_m10 96 rfl) rfl
theorem q2357 : (Jvm.Cond.methodLink "FieldPumpsLaw" (112 : Nat) ({ cls := "FieldPumpsModel", name := "clearText", desc := "()I" } : Jvm.MethodName)) ∈ lw_all := lw_g (lw_at lw_m10 102 rfl) rfl
theorem q2361 : (Jvm.Cond.methodLink "FieldPumpsLaw" (116 : Nat) ({ cls := "FieldPumpsModel", name := "fault", desc := "(I)I" } : Jvm.MethodName)) ∈ lw_all := lw_g (lw_at lw_m10 106 rfl) rfl
theorem q2391 : (Jvm.Cond.methodLink "FieldPumpsLaw" (120 : Nat) ({ cls := "FieldPumpsModel", name := "play", desc := "()I" } : Jvm.MethodName)) ∈ lw_all := lw_g (lw_at lw_m10 136 rfl) rfl
theorem q887 : (Jvm.Cond.interfaceMethod "FieldPumps$Curve" "FieldPumps$Curve" "flow" "(II)I") ∈ lw_tbl := lw_at lw_m4 72 rfl
theorem q888 : (Jvm.Cond.declares ({ cls := "FieldPumps$Curve", name := "flow", desc := "(II)I" } : Jvm.MethodName)) ∈ lw_tbl := lw_at lw_m4 73 rfl
theorem q2415 : (Jvm.Cond.castable "FieldPumps$Curve" "java/lang/Object") ∈ lw_tbl := lw_at lw_m10 160 rfl
theorem q1520 : (Jvm.Cond.interfaceMethod "FieldPumps$Watch" "FieldPumps$Watch" "holds" "(LFieldPumps$Station;)Z") ∈ lw_tbl := lw_at lw_m6 225 rfl
theorem q1521 : (Jvm.Cond.declares ({ cls := "FieldPumps$Watch", name := "holds", desc := "(LFieldPumps$Station;)Z" } : Jvm.MethodName)) ∈ lw_tbl := lw_at lw_m6 226 rfl
theorem q2416 : (Jvm.Cond.castable "FieldPumps$Watch" "java/lang/Object") ∈ lw_tbl := lw_at lw_m10 161 rfl
theorem q1801 : (Jvm.Cond.sameMethod "[B" "java/lang/Object" "clone" "()Ljava/lang/Object;") ∈ lw_all := lw_g (lw_at lw_m8 26 rfl) rfl
theorem q1802 : (Jvm.Cond.selects "[B" ({ cls := "[B", name := "clone", desc := "()Ljava/lang/Object;" } : Jvm.MethodName) ({ cls := "java/lang/Object", name := "clone", desc := "()Ljava/lang/Object;" } : Jvm.MethodName)) ∈ lw_all := lw_g (lw_at lw_m8 27 rfl) rfl
theorem q1803 : (Jvm.Cond.castable "[B" "java/lang/Cloneable") ∈ lw_tbl := lw_at lw_m8 28 rfl
theorem q2460 : (Jvm.Cond.castable "[B" "java/lang/Object") ∈ lw_tbl := lw_at lw_m10 205 rfl
theorem q514 : (Jvm.Cond.sameMethod "[I" "java/lang/Object" "clone" "()Ljava/lang/Object;") ∈ lw_all := lw_g (lw_at lw_m2 179 rfl) rfl
theorem q515 : (Jvm.Cond.selects "[I" ({ cls := "[I", name := "clone", desc := "()Ljava/lang/Object;" } : Jvm.MethodName) ({ cls := "java/lang/Object", name := "clone", desc := "()Ljava/lang/Object;" } : Jvm.MethodName)) ∈ lw_all := lw_g (lw_at lw_m2 180 rfl) rfl
theorem q516 : (Jvm.Cond.castable "[I" "java/lang/Cloneable") ∈ lw_tbl := lw_at lw_m2 181 rfl
theorem q2454 : (Jvm.Cond.castable "[I" "java/lang/Object") ∈ lw_tbl := lw_at lw_m10 199 rfl
theorem q2455 : (Jvm.Cond.castable "[LFieldPumps$Curve;" "java/lang/Object") ∈ lw_tbl := lw_at lw_m10 200 rfl
theorem q195 : (Jvm.Cond.sameMethod "[LFieldPumps$Stage;" "java/lang/Object" "clone" "()Ljava/lang/Object;") ∈ lw_all := lw_g (lw_at lw_m1 100 rfl) rfl
theorem q198 : (Jvm.Cond.selects "[LFieldPumps$Stage;" ({ cls := "[LFieldPumps$Stage;", name := "clone", desc := "()Ljava/lang/Object;" } : Jvm.MethodName) ({ cls := "java/lang/Object", name := "clone", desc := "()Ljava/lang/Object;" } : Jvm.MethodName)) ∈ lw_all := lw_g (lw_at lw_m1 103 rfl) rfl
theorem q199 : (Jvm.Cond.castable "[LFieldPumps$Stage;" "java/lang/Cloneable") ∈ lw_tbl := lw_at lw_m1 104 rfl
theorem q2457 : (Jvm.Cond.castable "[LFieldPumps$Stage;" "java/lang/Object") ∈ lw_tbl := lw_at lw_m10 202 rfl
theorem q2456 : (Jvm.Cond.castable "[LFieldPumps$Watch;" "java/lang/Object") ∈ lw_tbl := lw_at lw_m10 201 rfl
theorem q2451 : (Jvm.Cond.sameMethod "[Ljava/lang/Object;" "java/lang/Object" "getClass" "()Ljava/lang/Class;") ∈ lw_all := lw_g (lw_at lw_m10 196 rfl) rfl
theorem q2452 : (Jvm.Cond.selects "[Ljava/lang/Object;" ({ cls := "java/lang/Object", name := "getClass", desc := "()Ljava/lang/Class;" } : Jvm.MethodName) ({ cls := "java/lang/Object", name := "getClass", desc := "()Ljava/lang/Class;" } : Jvm.MethodName)) ∈ lw_all := lw_g (lw_at lw_m10 197 rfl) rfl
theorem q2459 : (Jvm.Cond.castable "[Ljava/lang/Object;" "java/lang/Object") ∈ lw_tbl := lw_at lw_m10 204 rfl
theorem q2458 : (Jvm.Cond.castable "[Z" "java/lang/Object") ∈ lw_tbl := lw_at lw_m10 203 rfl
theorem q987 : (Jvm.Cond.interfaceMethod "java/lang/Comparable" "java/lang/Comparable" "compareTo" "(Ljava/lang/Object;)I") ∈ lw_tbl := lw_at lw_m4 172 rfl
theorem q988 : (Jvm.Cond.declares ({ cls := "java/lang/Comparable", name := "compareTo", desc := "(Ljava/lang/Object;)I" } : Jvm.MethodName)) ∈ lw_tbl := lw_at lw_m4 173 rfl
theorem q125 : (Jvm.Cond.initialized "java/lang/Integer$IntegerCache") ∈ lw_all := lw_g (lw_at lw_m1 30 rfl) rfl
theorem q747 : (Jvm.Cond.laysStatic "java/lang/Integer$IntegerCache" "high" "I") ∈ lw_tbl := lw_at lw_m3 172 rfl
theorem q749 : (Jvm.Cond.laysStatic "java/lang/Integer$IntegerCache" "cache" "[Ljava/lang/Integer;") ∈ lw_tbl := lw_at lw_m3 174 rfl
theorem q122 : (Jvm.Cond.initialized "java/lang/System") ∈ lw_all := lw_g (lw_at lw_m1 27 rfl) rfl
theorem q732 : (Jvm.Cond.static ({ cls := "java/lang/System", name := "arraycopy", desc := "(Ljava/lang/Object;ILjava/lang/Object;II)V" } : Jvm.MethodName)) ∈ lw_all := lw_g (lw_at lw_m3 157 rfl) rfl
theorem q733 : (Jvm.Cond.native ({ cls := "java/lang/System", name := "arraycopy", desc := "(Ljava/lang/Object;ILjava/lang/Object;II)V" } : Jvm.MethodName)) ∈ lw_all := lw_g (lw_at lw_m3 158 rfl) rfl
theorem q963 : (Jvm.Cond.interfaceMethod "java/util/Comparator" "java/util/Comparator" "compare" "(Ljava/lang/Object;Ljava/lang/Object;)I") ∈ lw_tbl := lw_at lw_m4 148 rfl
theorem q964 : (Jvm.Cond.declares ({ cls := "java/util/Comparator", name := "compare", desc := "(Ljava/lang/Object;Ljava/lang/Object;)I" } : Jvm.MethodName)) ∈ lw_tbl := lw_at lw_m4 149 rfl
theorem q543 : (Jvm.Cond.interfaceMethod "java/util/Iterator" "java/util/Iterator" "hasNext" "()Z") ∈ lw_tbl := lw_at lw_m2 208 rfl
theorem q544 : (Jvm.Cond.declares ({ cls := "java/util/Iterator", name := "hasNext", desc := "()Z" } : Jvm.MethodName)) ∈ lw_tbl := lw_at lw_m2 209 rfl
theorem q553 : (Jvm.Cond.interfaceMethod "java/util/Iterator" "java/util/Iterator" "next" "()Ljava/lang/Object;") ∈ lw_tbl := lw_at lw_m2 218 rfl
theorem q554 : (Jvm.Cond.declares ({ cls := "java/util/Iterator", name := "next", desc := "()Ljava/lang/Object;" } : Jvm.MethodName)) ∈ lw_tbl := lw_at lw_m2 219 rfl
theorem q1346 : (Jvm.Cond.interfaceMethod "java/util/Map$Entry" "java/util/Map$Entry" "getKey" "()Ljava/lang/Object;") ∈ lw_tbl := lw_at lw_m6 51 rfl
theorem q1347 : (Jvm.Cond.declares ({ cls := "java/util/Map$Entry", name := "getKey", desc := "()Ljava/lang/Object;" } : Jvm.MethodName)) ∈ lw_tbl := lw_at lw_m6 52 rfl
theorem q1362 : (Jvm.Cond.interfaceMethod "java/util/Map$Entry" "java/util/Map$Entry" "getValue" "()Ljava/lang/Object;") ∈ lw_tbl := lw_at lw_m6 67 rfl
theorem q1363 : (Jvm.Cond.declares ({ cls := "java/util/Map$Entry", name := "getValue", desc := "()Ljava/lang/Object;" } : Jvm.MethodName)) ∈ lw_tbl := lw_at lw_m6 68 rfl
theorem q130 : (Jvm.Cond.initialized "jdk/internal/misc/UnsafeConstants") ∈ lw_all := lw_g (lw_at lw_m1 35 rfl) rfl
theorem q1108 : (Jvm.Cond.laysStatic "jdk/internal/misc/UnsafeConstants" "BIG_ENDIAN" "Z") ∈ lw_tbl := lw_at lw_m5 53 rfl
