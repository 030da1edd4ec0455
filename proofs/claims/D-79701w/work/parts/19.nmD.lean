set_option maxRecDepth 100000
abbrev cJ0_init : ByteArray := prog_42_method_1_code
def yJ0_init : MethodName := ⟨RJ0, "<init>", "()V"⟩
theorem dJ0_init_0 : decode cJ0_init 0 = .ok (.aload_n 0, 1) := by decide +kernel
theorem dJ0_init_1 : decode cJ0_init 1 = .ok (.invokespecial 1, 3) := by decide +kernel
theorem dJ0_init_4 : decode cJ0_init 4 = .ok (.return_, 1) := by decide +kernel
theorem q98 : (Jvm.Cond.initialized "java/util/AbstractCollection") ∈ lw_all := lw_g (lw_at lw_m1 3 rfl) rfl
theorem q164 : (Jvm.Cond.instanceMethod ({ cls := "java/util/AbstractCollection", name := "<init>", desc := "()V" } : Jvm.MethodName)) ∈ lw_all := lw_g (lw_at lw_m1 69 rfl) rfl
theorem q165 : (Jvm.Cond.code ({ cls := "java/util/AbstractCollection", name := "<init>", desc := "()V" } : Jvm.MethodName) prog_42_method_1_code (1 : Nat) (Option.none : Option Jvm.ClassFile.FieldType)) ∈ lw_all := lw_g (lw_at lw_m1 70 rfl) rfl
theorem q166 : (Jvm.Cond.methodLink "java/util/AbstractCollection" (1 : Nat) ({ cls := "java/lang/Object", name := "<init>", desc := "()V" } : Jvm.MethodName)) ∈ lw_all := lw_g (lw_at lw_m1 71 rfl) rfl
abbrev cJ1_init : ByteArray := prog_43_method_1_code
def yJ1_init : MethodName := ⟨RJ1, "<init>", "()V"⟩
def dkwJ1_init_0 : List UInt8 := [42, 183, 0, 1, 42, 3, 181, 0, 7, 177]
abbrev dktJ1_init_0 : List UInt8 := dkwJ1_init_0 ++ []
theorem dksJ1_init_0 : cJ1_init.data.toList.drop 0 = dktJ1_init_0 := by decide +kernel
theorem dJ1_init_0 : decode cJ1_init 0 = .ok (.aload_n 0, 1) := dk_42 (dk_at dksJ1_init_0 0 rfl rfl)
theorem dJ1_init_1 : decode cJ1_init 1 = .ok (.invokespecial 1, 3) := dk_183 0 1 (dk_at dksJ1_init_0 1 rfl rfl)
theorem dJ1_init_4 : decode cJ1_init 4 = .ok (.aload_n 0, 1) := dk_42 (dk_at dksJ1_init_0 4 rfl rfl)
theorem dJ1_init_5 : decode cJ1_init 5 = .ok (.iconst 0, 1) := dk_3 (dk_at dksJ1_init_0 5 rfl rfl)
theorem dJ1_init_6 : decode cJ1_init 6 = .ok (.putfield 7, 3) := dk_181 0 7 (dk_at dksJ1_init_0 6 rfl rfl)
theorem dJ1_init_9 : decode cJ1_init 9 = .ok (.return_, 1) := dk_177 (dk_at dksJ1_init_0 9 rfl rfl)
theorem q99 : (Jvm.Cond.initialized "java/util/AbstractList") ∈ lw_all := lw_g (lw_at lw_m1 4 rfl) rfl
theorem q161 : (Jvm.Cond.instanceMethod ({ cls := "java/util/AbstractList", name := "<init>", desc := "()V" } : Jvm.MethodName)) ∈ lw_all := lw_g (lw_at lw_m1 66 rfl) rfl
theorem q162 : (Jvm.Cond.code ({ cls := "java/util/AbstractList", name := "<init>", desc := "()V" } : Jvm.MethodName) prog_43_method_1_code (1 : Nat) (Option.none : Option Jvm.ClassFile.FieldType)) ∈ lw_all := lw_g (lw_at lw_m1 67 rfl) rfl
theorem q163 : (Jvm.Cond.methodLink "java/util/AbstractList" (1 : Nat) ({ cls := "java/util/AbstractCollection", name := "<init>", desc := "()V" } : Jvm.MethodName)) ∈ lw_all := lw_g (lw_at lw_m1 68 rfl) rfl
theorem q173 : (Jvm.Cond.fieldLink "java/util/AbstractList" (7 : Nat) "java/util/AbstractList" "modCount" "I") ∈ lw_all := lw_g (lw_at lw_m1 78 rfl) rfl
theorem q182 : (Jvm.Cond.soleField "java/util/AbstractList" "modCount") ∈ lw_all := lw_g (lw_at lw_m1 87 rfl) rfl
abbrev cJ2_init : ByteArray := prog_48_method_2_code
def yJ2_init : MethodName := ⟨RJ2, "<init>", "()V"⟩
def dkwJ2_init_0 : List UInt8 := [42, 183, 0, 1, 42, 178, 0, 39, 181, 0, 9, 177]
abbrev dktJ2_init_0 : List UInt8 := dkwJ2_init_0 ++ []
theorem dksJ2_init_0 : cJ2_init.data.toList.drop 0 = dktJ2_init_0 := by decide +kernel
theorem dJ2_init_0 : decode cJ2_init 0 = .ok (.aload_n 0, 1) := dk_42 (dk_at dksJ2_init_0 0 rfl rfl)
theorem dJ2_init_1 : decode cJ2_init 1 = .ok (.invokespecial 1, 3) := dk_183 0 1 (dk_at dksJ2_init_0 1 rfl rfl)
theorem dJ2_init_4 : decode cJ2_init 4 = .ok (.aload_n 0, 1) := dk_42 (dk_at dksJ2_init_0 4 rfl rfl)
theorem dJ2_init_5 : decode cJ2_init 5 = .ok (.getstatic 39, 3) := dk_178 0 39 (dk_at dksJ2_init_0 5 rfl rfl)
theorem dJ2_init_8 : decode cJ2_init 8 = .ok (.putfield 9, 3) := dk_181 0 9 (dk_at dksJ2_init_0 8 rfl rfl)
theorem dJ2_init_11 : decode cJ2_init 11 = .ok (.return_, 1) := dk_177 (dk_at dksJ2_init_0 11 rfl rfl)
abbrev cJ2_get : ByteArray := prog_48_method_20_code
def yJ2_get : MethodName := ⟨RJ2, "get", "(I)Ljava/lang/Object;"⟩
def dkwJ2_get_0 : List UInt8 := [27, 42, 180, 0, 48, 184, 0, 118, 87, 42, 27, 182, 0, 123, 176]
abbrev dktJ2_get_0 : List UInt8 := dkwJ2_get_0 ++ []
theorem dksJ2_get_0 : cJ2_get.data.toList.drop 0 = dktJ2_get_0 := by decide +kernel
theorem dJ2_get_0 : decode cJ2_get 0 = .ok (.iload_n 1, 1) := dk_27 (dk_at dksJ2_get_0 0 rfl rfl)
theorem dJ2_get_1 : decode cJ2_get 1 = .ok (.aload_n 0, 1) := dk_42 (dk_at dksJ2_get_0 1 rfl rfl)
theorem dJ2_get_2 : decode cJ2_get 2 = .ok (.getfield 48, 3) := dk_180 0 48 (dk_at dksJ2_get_0 2 rfl rfl)
theorem dJ2_get_5 : decode cJ2_get 5 = .ok (.invokestatic 118, 3) := dk_184 0 118 (dk_at dksJ2_get_0 5 rfl rfl)
theorem dJ2_get_8 : decode cJ2_get 8 = .ok (.pop, 1) := dk_87 (dk_at dksJ2_get_0 8 rfl rfl)
theorem dJ2_get_9 : decode cJ2_get 9 = .ok (.aload_n 0, 1) := dk_42 (dk_at dksJ2_get_0 9 rfl rfl)
theorem dJ2_get_10 : decode cJ2_get 10 = .ok (.iload_n 1, 1) := dk_27 (dk_at dksJ2_get_0 10 rfl rfl)
theorem dJ2_get_11 : decode cJ2_get 11 = .ok (.invokevirtual 123, 3) := dk_182 0 123 (dk_at dksJ2_get_0 11 rfl rfl)
theorem dJ2_get_14 : decode cJ2_get 14 = .ok (.areturn, 1) := dk_176 (dk_at dksJ2_get_0 14 rfl rfl)
abbrev cJ2_elementData : ByteArray := prog_48_method_18_code
def yJ2_elementData : MethodName := ⟨RJ2, "elementData", "(I)Ljava/lang/Object;"⟩
def dkwJ2_elementData_0 : List UInt8 := [42, 180, 0, 9, 27, 50, 176]
abbrev dktJ2_elementData_0 : List UInt8 := dkwJ2_elementData_0 ++ []
theorem dksJ2_elementData_0 : cJ2_elementData.data.toList.drop 0 = dktJ2_elementData_0 := by decide +kernel
theorem dJ2_elementData_0 : decode cJ2_elementData 0 = .ok (.aload_n 0, 1) := dk_42 (dk_at dksJ2_elementData_0 0 rfl rfl)
theorem dJ2_elementData_1 : decode cJ2_elementData 1 = .ok (.getfield 9, 3) := dk_180 0 9 (dk_at dksJ2_elementData_0 1 rfl rfl)
theorem dJ2_elementData_4 : decode cJ2_elementData 4 = .ok (.iload_n 1, 1) := dk_27 (dk_at dksJ2_elementData_0 4 rfl rfl)
theorem dJ2_elementData_5 : decode cJ2_elementData 5 = .ok (.aaload, 1) := dk_50 (dk_at dksJ2_elementData_0 5 rfl rfl)
theorem dJ2_elementData_6 : decode cJ2_elementData 6 = .ok (.areturn, 1) := dk_176 (dk_at dksJ2_elementData_0 6 rfl rfl)
abbrev cJ2_size : ByteArray := prog_48_method_8_code
def yJ2_size : MethodName := ⟨RJ2, "size", "()I"⟩
theorem dJ2_size_0 : decode cJ2_size 0 = .ok (.aload_n 0, 1) := by decide +kernel
theorem dJ2_size_1 : decode cJ2_size 1 = .ok (.getfield 48, 3) := by decide +kernel
theorem dJ2_size_4 : decode cJ2_size 4 = .ok (.ireturn, 1) := by decide +kernel
abbrev cJ2_iterator : ByteArray := prog_48_method_55_code
def yJ2_iterator : MethodName := ⟨RJ2, "iterator", "()Ljava/util/Iterator;"⟩
def dkwJ2_iterator_0 : List UInt8 := [187, 1, 11, 89, 42, 183, 1, 13, 176]
abbrev dktJ2_iterator_0 : List UInt8 := dkwJ2_iterator_0 ++ []
theorem dksJ2_iterator_0 : cJ2_iterator.data.toList.drop 0 = dktJ2_iterator_0 := by decide +kernel
theorem dJ2_iterator_0 : decode cJ2_iterator 0 = .ok (.new 267, 3) := dk_187 1 11 (dk_at dksJ2_iterator_0 0 rfl rfl)
theorem dJ2_iterator_3 : decode cJ2_iterator 3 = .ok (.dup, 1) := dk_89 (dk_at dksJ2_iterator_0 3 rfl rfl)
theorem dJ2_iterator_4 : decode cJ2_iterator 4 = .ok (.aload_n 0, 1) := dk_42 (dk_at dksJ2_iterator_0 4 rfl rfl)
theorem dJ2_iterator_5 : decode cJ2_iterator 5 = .ok (.invokespecial 269, 3) := dk_183 1 13 (dk_at dksJ2_iterator_0 5 rfl rfl)
theorem dJ2_iterator_8 : decode cJ2_iterator 8 = .ok (.areturn, 1) := dk_176 (dk_at dksJ2_iterator_0 8 rfl rfl)
abbrev cJ2_add : ByteArray := prog_48_method_25_code
def yJ2_add : MethodName := ⟨RJ2, "add", "(Ljava/lang/Object;)Z"⟩
def dkwJ2_add_1 : List UInt8 := [172]
abbrev dktJ2_add_1 : List UInt8 := dkwJ2_add_1 ++ []
def dkwJ2_add_0 : List UInt8 := [42, 89, 180, 0, 63, 4, 96, 181, 0, 63, 42, 43, 42, 180, 0, 9, 42, 180, 0, 48, 182, 0, 131, 4]
abbrev dktJ2_add_0 : List UInt8 := dkwJ2_add_0 ++ dktJ2_add_1
theorem dksJ2_add_0 : cJ2_add.data.toList.drop 0 = dktJ2_add_0 := by decide +kernel
theorem dksJ2_add_1 : cJ2_add.data.toList.drop 24 = dktJ2_add_1 := dk_seg dksJ2_add_0 24 rfl rfl
theorem dJ2_add_0 : decode cJ2_add 0 = .ok (.aload_n 0, 1) := dk_42 (dk_at dksJ2_add_0 0 rfl rfl)
theorem dJ2_add_1 : decode cJ2_add 1 = .ok (.dup, 1) := dk_89 (dk_at dksJ2_add_0 1 rfl rfl)
theorem dJ2_add_2 : decode cJ2_add 2 = .ok (.getfield 63, 3) := dk_180 0 63 (dk_at dksJ2_add_0 2 rfl rfl)
theorem dJ2_add_5 : decode cJ2_add 5 = .ok (.iconst 1, 1) := dk_4 (dk_at dksJ2_add_0 5 rfl rfl)
theorem dJ2_add_6 : decode cJ2_add 6 = .ok (.iadd, 1) := dk_96 (dk_at dksJ2_add_0 6 rfl rfl)
theorem dJ2_add_7 : decode cJ2_add 7 = .ok (.putfield 63, 3) := dk_181 0 63 (dk_at dksJ2_add_0 7 rfl rfl)
theorem dJ2_add_10 : decode cJ2_add 10 = .ok (.aload_n 0, 1) := dk_42 (dk_at dksJ2_add_0 10 rfl rfl)
theorem dJ2_add_11 : decode cJ2_add 11 = .ok (.aload_n 1, 1) := dk_43 (dk_at dksJ2_add_0 11 rfl rfl)
theorem dJ2_add_12 : decode cJ2_add 12 = .ok (.aload_n 0, 1) := dk_42 (dk_at dksJ2_add_0 12 rfl rfl)
theorem dJ2_add_13 : decode cJ2_add 13 = .ok (.getfield 9, 3) := dk_180 0 9 (dk_at dksJ2_add_0 13 rfl rfl)
theorem dJ2_add_16 : decode cJ2_add 16 = .ok (.aload_n 0, 1) := dk_42 (dk_at dksJ2_add_0 16 rfl rfl)
theorem dJ2_add_17 : decode cJ2_add 17 = .ok (.getfield 48, 3) := dk_180 0 48 (dk_at dksJ2_add_0 17 rfl rfl)
theorem dJ2_add_20 : decode cJ2_add 20 = .ok (.invokevirtual 131, 3) := dk_182 0 131 (dk_at dksJ2_add_0 20 rfl rfl)
theorem dJ2_add_23 : decode cJ2_add 23 = .ok (.iconst 1, 1) := dk_4 (dk_at dksJ2_add_0 23 rfl rfl)
theorem dJ2_add_24 : decode cJ2_add 24 = .ok (.ireturn, 1) := dk_172 (dk_at dksJ2_add_1 0 rfl rfl)
abbrev cJ2_add_2 : ByteArray := prog_48_method_24_code
def yJ2_add_2 : MethodName := ⟨RJ2, "add", "(Ljava/lang/Object;[Ljava/lang/Object;I)V"⟩
def dkwJ2_add_2_0 : List UInt8 := [29, 44, 190, 160, 0, 8, 42, 182, 0, 129, 77, 44, 29, 43, 83, 42, 29, 4, 96, 181, 0, 48, 177]
abbrev dktJ2_add_2_0 : List UInt8 := dkwJ2_add_2_0 ++ []
theorem dksJ2_add_2_0 : cJ2_add_2.data.toList.drop 0 = dktJ2_add_2_0 := by decide +kernel
theorem dJ2_add_2_0 : decode cJ2_add_2 0 = .ok (.iload_n 3, 1) := dk_29 (dk_at dksJ2_add_2_0 0 rfl rfl)
theorem dJ2_add_2_1 : decode cJ2_add_2 1 = .ok (.aload_n 2, 1) := dk_44 (dk_at dksJ2_add_2_0 1 rfl rfl)
theorem dJ2_add_2_2 : decode cJ2_add_2 2 = .ok (.arraylength, 1) := dk_190 (dk_at dksJ2_add_2_0 2 rfl rfl)
theorem dJ2_add_2_3 : decode cJ2_add_2 3 = .ok (.if_icmp .ne 8, 3) := dk_160 0 8 (dk_at dksJ2_add_2_0 3 rfl rfl)
theorem dJ2_add_2_6 : decode cJ2_add_2 6 = .ok (.aload_n 0, 1) := dk_42 (dk_at dksJ2_add_2_0 6 rfl rfl)
theorem dJ2_add_2_7 : decode cJ2_add_2 7 = .ok (.invokevirtual 129, 3) := dk_182 0 129 (dk_at dksJ2_add_2_0 7 rfl rfl)
theorem dJ2_add_2_10 : decode cJ2_add_2 10 = .ok (.astore_n 2, 1) := dk_77 (dk_at dksJ2_add_2_0 10 rfl rfl)
theorem dJ2_add_2_11 : decode cJ2_add_2 11 = .ok (.aload_n 2, 1) := dk_44 (dk_at dksJ2_add_2_0 11 rfl rfl)
theorem dJ2_add_2_12 : decode cJ2_add_2 12 = .ok (.iload_n 3, 1) := dk_29 (dk_at dksJ2_add_2_0 12 rfl rfl)
theorem dJ2_add_2_13 : decode cJ2_add_2 13 = .ok (.aload_n 1, 1) := dk_43 (dk_at dksJ2_add_2_0 13 rfl rfl)
theorem dJ2_add_2_14 : decode cJ2_add_2 14 = .ok (.aastore, 1) := dk_83 (dk_at dksJ2_add_2_0 14 rfl rfl)
theorem dJ2_add_2_15 : decode cJ2_add_2 15 = .ok (.aload_n 0, 1) := dk_42 (dk_at dksJ2_add_2_0 15 rfl rfl)
theorem dJ2_add_2_16 : decode cJ2_add_2 16 = .ok (.iload_n 3, 1) := dk_29 (dk_at dksJ2_add_2_0 16 rfl rfl)
theorem dJ2_add_2_17 : decode cJ2_add_2 17 = .ok (.iconst 1, 1) := dk_4 (dk_at dksJ2_add_2_0 17 rfl rfl)
theorem dJ2_add_2_18 : decode cJ2_add_2 18 = .ok (.iadd, 1) := dk_96 (dk_at dksJ2_add_2_0 18 rfl rfl)
theorem dJ2_add_2_19 : decode cJ2_add_2 19 = .ok (.putfield 48, 3) := dk_181 0 48 (dk_at dksJ2_add_2_0 19 rfl rfl)
theorem dJ2_add_2_22 : decode cJ2_add_2 22 = .ok (.return_, 1) := dk_177 (dk_at dksJ2_add_2_0 22 rfl rfl)
abbrev cJ2_grow : ByteArray := prog_48_method_7_code
def yJ2_grow : MethodName := ⟨RJ2, "grow", "()[Ljava/lang/Object;"⟩
def dkwJ2_grow_0 : List UInt8 := [42, 42, 180, 0, 48, 4, 96, 182, 0, 69, 176]
abbrev dktJ2_grow_0 : List UInt8 := dkwJ2_grow_0 ++ []
theorem dksJ2_grow_0 : cJ2_grow.data.toList.drop 0 = dktJ2_grow_0 := by decide +kernel
theorem dJ2_grow_0 : decode cJ2_grow 0 = .ok (.aload_n 0, 1) := dk_42 (dk_at dksJ2_grow_0 0 rfl rfl)
theorem dJ2_grow_1 : decode cJ2_grow 1 = .ok (.aload_n 0, 1) := dk_42 (dk_at dksJ2_grow_0 1 rfl rfl)
theorem dJ2_grow_2 : decode cJ2_grow 2 = .ok (.getfield 48, 3) := dk_180 0 48 (dk_at dksJ2_grow_0 2 rfl rfl)
theorem dJ2_grow_5 : decode cJ2_grow 5 = .ok (.iconst 1, 1) := dk_4 (dk_at dksJ2_grow_0 5 rfl rfl)
theorem dJ2_grow_6 : decode cJ2_grow 6 = .ok (.iadd, 1) := dk_96 (dk_at dksJ2_grow_0 6 rfl rfl)
theorem dJ2_grow_7 : decode cJ2_grow 7 = .ok (.invokevirtual 69, 3) := dk_182 0 69 (dk_at dksJ2_grow_0 7 rfl rfl)
theorem dJ2_grow_10 : decode cJ2_grow 10 = .ok (.areturn, 1) := dk_176 (dk_at dksJ2_grow_0 10 rfl rfl)
abbrev cJ2_grow_2 : ByteArray := prog_48_method_6_code
def yJ2_grow_2 : MethodName := ⟨RJ2, "grow", "(I)[Ljava/lang/Object;"⟩
def dkwJ2_grow_2_2 : List UInt8 := [27, 184, 0, 79, 189, 0, 7, 90, 181, 0, 9, 176]
abbrev dktJ2_grow_2_2 : List UInt8 := dkwJ2_grow_2_2 ++ []
def dkwJ2_grow_2_1 : List UInt8 := [28, 4, 122, 184, 0, 73, 62, 42, 42, 180, 0, 9, 29, 184, 0, 66, 90, 181, 0, 9, 176, 42, 16, 10]
abbrev dktJ2_grow_2_1 : List UInt8 := dkwJ2_grow_2_1 ++ dktJ2_grow_2_2
def dkwJ2_grow_2_0 : List UInt8 := [42, 180, 0, 9, 190, 61, 28, 157, 0, 13, 42, 180, 0, 9, 178, 0, 39, 165, 0, 28, 28, 27, 28, 100]
abbrev dktJ2_grow_2_0 : List UInt8 := dkwJ2_grow_2_0 ++ dktJ2_grow_2_1
theorem dksJ2_grow_2_0 : cJ2_grow_2.data.toList.drop 0 = dktJ2_grow_2_0 := by decide +kernel
theorem dksJ2_grow_2_1 : cJ2_grow_2.data.toList.drop 24 = dktJ2_grow_2_1 := dk_seg dksJ2_grow_2_0 24 rfl rfl
theorem dksJ2_grow_2_2 : cJ2_grow_2.data.toList.drop 48 = dktJ2_grow_2_2 := dk_seg dksJ2_grow_2_1 24 rfl rfl
theorem dJ2_grow_2_0 : decode cJ2_grow_2 0 = .ok (.aload_n 0, 1) := dk_42 (dk_at dksJ2_grow_2_0 0 rfl rfl)
theorem dJ2_grow_2_1 : decode cJ2_grow_2 1 = .ok (.getfield 9, 3) := dk_180 0 9 (dk_at dksJ2_grow_2_0 1 rfl rfl)
theorem dJ2_grow_2_4 : decode cJ2_grow_2 4 = .ok (.arraylength, 1) := dk_190 (dk_at dksJ2_grow_2_0 4 rfl rfl)
theorem dJ2_grow_2_5 : decode cJ2_grow_2 5 = .ok (.istore_n 2, 1) := dk_61 (dk_at dksJ2_grow_2_0 5 rfl rfl)
theorem dJ2_grow_2_6 : decode cJ2_grow_2 6 = .ok (.iload_n 2, 1) := dk_28 (dk_at dksJ2_grow_2_0 6 rfl rfl)
theorem dJ2_grow_2_7 : decode cJ2_grow_2 7 = .ok (.ifCond .gt 13, 3) := dk_157 0 13 (dk_at dksJ2_grow_2_0 7 rfl rfl)
theorem dJ2_grow_2_10 : decode cJ2_grow_2 10 = .ok (.aload_n 0, 1) := dk_42 (dk_at dksJ2_grow_2_0 10 rfl rfl)
theorem dJ2_grow_2_11 : decode cJ2_grow_2 11 = .ok (.getfield 9, 3) := dk_180 0 9 (dk_at dksJ2_grow_2_0 11 rfl rfl)
theorem dJ2_grow_2_14 : decode cJ2_grow_2 14 = .ok (.getstatic 39, 3) := dk_178 0 39 (dk_at dksJ2_grow_2_0 14 rfl rfl)
theorem dJ2_grow_2_17 : decode cJ2_grow_2 17 = .ok (.if_acmp .eq 28, 3) := dk_165 0 28 (dk_at dksJ2_grow_2_0 17 rfl rfl)
theorem dJ2_grow_2_20 : decode cJ2_grow_2 20 = .ok (.iload_n 2, 1) := dk_28 (dk_at dksJ2_grow_2_0 20 rfl rfl)
theorem dJ2_grow_2_21 : decode cJ2_grow_2 21 = .ok (.iload_n 1, 1) := dk_27 (dk_at dksJ2_grow_2_0 21 rfl rfl)
theorem dJ2_grow_2_22 : decode cJ2_grow_2 22 = .ok (.iload_n 2, 1) := dk_28 (dk_at dksJ2_grow_2_0 22 rfl rfl)
theorem dJ2_grow_2_23 : decode cJ2_grow_2 23 = .ok (.isub, 1) := dk_100 (dk_at dksJ2_grow_2_0 23 rfl rfl)
theorem dJ2_grow_2_24 : decode cJ2_grow_2 24 = .ok (.iload_n 2, 1) := dk_28 (dk_at dksJ2_grow_2_1 0 rfl rfl)
theorem dJ2_grow_2_25 : decode cJ2_grow_2 25 = .ok (.iconst 1, 1) := dk_4 (dk_at dksJ2_grow_2_1 1 rfl rfl)
theorem dJ2_grow_2_26 : decode cJ2_grow_2 26 = .ok (.ishr, 1) := dk_122 (dk_at dksJ2_grow_2_1 2 rfl rfl)
theorem dJ2_grow_2_27 : decode cJ2_grow_2 27 = .ok (.invokestatic 73, 3) := dk_184 0 73 (dk_at dksJ2_grow_2_1 3 rfl rfl)
theorem dJ2_grow_2_30 : decode cJ2_grow_2 30 = .ok (.istore_n 3, 1) := dk_62 (dk_at dksJ2_grow_2_1 6 rfl rfl)
theorem dJ2_grow_2_31 : decode cJ2_grow_2 31 = .ok (.aload_n 0, 1) := dk_42 (dk_at dksJ2_grow_2_1 7 rfl rfl)
theorem dJ2_grow_2_32 : decode cJ2_grow_2 32 = .ok (.aload_n 0, 1) := dk_42 (dk_at dksJ2_grow_2_1 8 rfl rfl)
theorem dJ2_grow_2_33 : decode cJ2_grow_2 33 = .ok (.getfield 9, 3) := dk_180 0 9 (dk_at dksJ2_grow_2_1 9 rfl rfl)
theorem dJ2_grow_2_36 : decode cJ2_grow_2 36 = .ok (.iload_n 3, 1) := dk_29 (dk_at dksJ2_grow_2_1 12 rfl rfl)
theorem dJ2_grow_2_37 : decode cJ2_grow_2 37 = .ok (.invokestatic 66, 3) := dk_184 0 66 (dk_at dksJ2_grow_2_1 13 rfl rfl)
theorem dJ2_grow_2_40 : decode cJ2_grow_2 40 = .ok (.dup_x1, 1) := dk_90 (dk_at dksJ2_grow_2_1 16 rfl rfl)
theorem dJ2_grow_2_41 : decode cJ2_grow_2 41 = .ok (.putfield 9, 3) := dk_181 0 9 (dk_at dksJ2_grow_2_1 17 rfl rfl)
theorem dJ2_grow_2_44 : decode cJ2_grow_2 44 = .ok (.areturn, 1) := dk_176 (dk_at dksJ2_grow_2_1 20 rfl rfl)
theorem dJ2_grow_2_45 : decode cJ2_grow_2 45 = .ok (.aload_n 0, 1) := dk_42 (dk_at dksJ2_grow_2_1 21 rfl rfl)
theorem dJ2_grow_2_46 : decode cJ2_grow_2 46 = .ok (.bipush 10, 2) := dk_16 10 (dk_at dksJ2_grow_2_1 22 rfl rfl)
theorem dJ2_grow_2_48 : decode cJ2_grow_2 48 = .ok (.iload_n 1, 1) := dk_27 (dk_at dksJ2_grow_2_2 0 rfl rfl)
theorem dJ2_grow_2_49 : decode cJ2_grow_2 49 = .ok (.invokestatic 79, 3) := dk_184 0 79 (dk_at dksJ2_grow_2_2 1 rfl rfl)
theorem dJ2_grow_2_52 : decode cJ2_grow_2 52 = .ok (.anewarray 7, 3) := dk_189 0 7 (dk_at dksJ2_grow_2_2 4 rfl rfl)
theorem dJ2_grow_2_55 : decode cJ2_grow_2 55 = .ok (.dup_x1, 1) := dk_90 (dk_at dksJ2_grow_2_2 7 rfl rfl)
theorem dJ2_grow_2_56 : decode cJ2_grow_2 56 = .ok (.putfield 9, 3) := dk_181 0 9 (dk_at dksJ2_grow_2_2 8 rfl rfl)
theorem dJ2_grow_2_59 : decode cJ2_grow_2 59 = .ok (.areturn, 1) := dk_176 (dk_at dksJ2_grow_2_2 11 rfl rfl)
abbrev cJ2_remove : ByteArray := prog_48_method_29_code
def yJ2_remove : MethodName := ⟨RJ2, "remove", "(I)Ljava/lang/Object;"⟩
def dkwJ2_remove_1 : List UInt8 := [45, 176]
abbrev dktJ2_remove_1 : List UInt8 := dkwJ2_remove_1 ++ []
def dkwJ2_remove_0 : List UInt8 := [27, 42, 180, 0, 48, 184, 0, 118, 87, 42, 180, 0, 9, 77, 44, 27, 50, 78, 42, 44, 27, 182, 0, 144]
abbrev dktJ2_remove_0 : List UInt8 := dkwJ2_remove_0 ++ dktJ2_remove_1
theorem dksJ2_remove_0 : cJ2_remove.data.toList.drop 0 = dktJ2_remove_0 := by decide +kernel
theorem dksJ2_remove_1 : cJ2_remove.data.toList.drop 24 = dktJ2_remove_1 := dk_seg dksJ2_remove_0 24 rfl rfl
theorem dJ2_remove_0 : decode cJ2_remove 0 = .ok (.iload_n 1, 1) := dk_27 (dk_at dksJ2_remove_0 0 rfl rfl)
theorem dJ2_remove_1 : decode cJ2_remove 1 = .ok (.aload_n 0, 1) := dk_42 (dk_at dksJ2_remove_0 1 rfl rfl)
theorem dJ2_remove_2 : decode cJ2_remove 2 = .ok (.getfield 48, 3) := dk_180 0 48 (dk_at dksJ2_remove_0 2 rfl rfl)
theorem dJ2_remove_5 : decode cJ2_remove 5 = .ok (.invokestatic 118, 3) := dk_184 0 118 (dk_at dksJ2_remove_0 5 rfl rfl)
theorem dJ2_remove_8 : decode cJ2_remove 8 = .ok (.pop, 1) := dk_87 (dk_at dksJ2_remove_0 8 rfl rfl)
theorem dJ2_remove_9 : decode cJ2_remove 9 = .ok (.aload_n 0, 1) := dk_42 (dk_at dksJ2_remove_0 9 rfl rfl)
theorem dJ2_remove_10 : decode cJ2_remove 10 = .ok (.getfield 9, 3) := dk_180 0 9 (dk_at dksJ2_remove_0 10 rfl rfl)
theorem dJ2_remove_13 : decode cJ2_remove 13 = .ok (.astore_n 2, 1) := dk_77 (dk_at dksJ2_remove_0 13 rfl rfl)
theorem dJ2_remove_14 : decode cJ2_remove 14 = .ok (.aload_n 2, 1) := dk_44 (dk_at dksJ2_remove_0 14 rfl rfl)
theorem dJ2_remove_15 : decode cJ2_remove 15 = .ok (.iload_n 1, 1) := dk_27 (dk_at dksJ2_remove_0 15 rfl rfl)
theorem dJ2_remove_16 : decode cJ2_remove 16 = .ok (.aaload, 1) := dk_50 (dk_at dksJ2_remove_0 16 rfl rfl)
theorem dJ2_remove_17 : decode cJ2_remove 17 = .ok (.astore_n 3, 1) := dk_78 (dk_at dksJ2_remove_0 17 rfl rfl)
theorem dJ2_remove_18 : decode cJ2_remove 18 = .ok (.aload_n 0, 1) := dk_42 (dk_at dksJ2_remove_0 18 rfl rfl)
theorem dJ2_remove_19 : decode cJ2_remove 19 = .ok (.aload_n 2, 1) := dk_44 (dk_at dksJ2_remove_0 19 rfl rfl)
theorem dJ2_remove_20 : decode cJ2_remove 20 = .ok (.iload_n 1, 1) := dk_27 (dk_at dksJ2_remove_0 20 rfl rfl)
theorem dJ2_remove_21 : decode cJ2_remove 21 = .ok (.invokevirtual 144, 3) := dk_182 0 144 (dk_at dksJ2_remove_0 21 rfl rfl)
theorem dJ2_remove_24 : decode cJ2_remove 24 = .ok (.aload_n 3, 1) := dk_45 (dk_at dksJ2_remove_1 0 rfl rfl)
theorem dJ2_remove_25 : decode cJ2_remove 25 = .ok (.areturn, 1) := dk_176 (dk_at dksJ2_remove_1 1 rfl rfl)
abbrev cJ2_fastRemove : ByteArray := prog_48_method_39_code
def yJ2_fastRemove : MethodName := ⟨RJ2, "fastRemove", "([Ljava/lang/Object;I)V"⟩
def dkwJ2_fastRemove_1 : List UInt8 := [4, 96, 43, 28, 29, 28, 100, 184, 0, 112, 43, 42, 29, 90, 181, 0, 48, 1, 83, 177]
abbrev dktJ2_fastRemove_1 : List UInt8 := dkwJ2_fastRemove_1 ++ []
def dkwJ2_fastRemove_0 : List UInt8 := [42, 89, 180, 0, 63, 4, 96, 181, 0, 63, 42, 180, 0, 48, 4, 100, 89, 62, 28, 164, 0, 15, 43, 28]
abbrev dktJ2_fastRemove_0 : List UInt8 := dkwJ2_fastRemove_0 ++ dktJ2_fastRemove_1
theorem dksJ2_fastRemove_0 : cJ2_fastRemove.data.toList.drop 0 = dktJ2_fastRemove_0 := by decide +kernel
theorem dksJ2_fastRemove_1 : cJ2_fastRemove.data.toList.drop 24 = dktJ2_fastRemove_1 := dk_seg dksJ2_fastRemove_0 24 rfl rfl
theorem dJ2_fastRemove_0 : decode cJ2_fastRemove 0 = .ok (.aload_n 0, 1) := dk_42 (dk_at dksJ2_fastRemove_0 0 rfl rfl)
theorem dJ2_fastRemove_1 : decode cJ2_fastRemove 1 = .ok (.dup, 1) := dk_89 (dk_at dksJ2_fastRemove_0 1 rfl rfl)
theorem dJ2_fastRemove_2 : decode cJ2_fastRemove 2 = .ok (.getfield 63, 3) := dk_180 0 63 (dk_at dksJ2_fastRemove_0 2 rfl rfl)
theorem dJ2_fastRemove_5 : decode cJ2_fastRemove 5 = .ok (.iconst 1, 1) := dk_4 (dk_at dksJ2_fastRemove_0 5 rfl rfl)
theorem dJ2_fastRemove_6 : decode cJ2_fastRemove 6 = .ok (.iadd, 1) := dk_96 (dk_at dksJ2_fastRemove_0 6 rfl rfl)
theorem dJ2_fastRemove_7 : decode cJ2_fastRemove 7 = .ok (.putfield 63, 3) := dk_181 0 63 (dk_at dksJ2_fastRemove_0 7 rfl rfl)
theorem dJ2_fastRemove_10 : decode cJ2_fastRemove 10 = .ok (.aload_n 0, 1) := dk_42 (dk_at dksJ2_fastRemove_0 10 rfl rfl)
theorem dJ2_fastRemove_11 : decode cJ2_fastRemove 11 = .ok (.getfield 48, 3) := dk_180 0 48 (dk_at dksJ2_fastRemove_0 11 rfl rfl)
theorem dJ2_fastRemove_14 : decode cJ2_fastRemove 14 = .ok (.iconst 1, 1) := dk_4 (dk_at dksJ2_fastRemove_0 14 rfl rfl)
theorem dJ2_fastRemove_15 : decode cJ2_fastRemove 15 = .ok (.isub, 1) := dk_100 (dk_at dksJ2_fastRemove_0 15 rfl rfl)
theorem dJ2_fastRemove_16 : decode cJ2_fastRemove 16 = .ok (.dup, 1) := dk_89 (dk_at dksJ2_fastRemove_0 16 rfl rfl)
theorem dJ2_fastRemove_17 : decode cJ2_fastRemove 17 = .ok (.istore_n 3, 1) := dk_62 (dk_at dksJ2_fastRemove_0 17 rfl rfl)
theorem dJ2_fastRemove_18 : decode cJ2_fastRemove 18 = .ok (.iload_n 2, 1) := dk_28 (dk_at dksJ2_fastRemove_0 18 rfl rfl)
theorem dJ2_fastRemove_19 : decode cJ2_fastRemove 19 = .ok (.if_icmp .le 15, 3) := dk_164 0 15 (dk_at dksJ2_fastRemove_0 19 rfl rfl)
theorem dJ2_fastRemove_22 : decode cJ2_fastRemove 22 = .ok (.aload_n 1, 1) := dk_43 (dk_at dksJ2_fastRemove_0 22 rfl rfl)
theorem dJ2_fastRemove_23 : decode cJ2_fastRemove 23 = .ok (.iload_n 2, 1) := dk_28 (dk_at dksJ2_fastRemove_0 23 rfl rfl)
theorem dJ2_fastRemove_24 : decode cJ2_fastRemove 24 = .ok (.iconst 1, 1) := dk_4 (dk_at dksJ2_fastRemove_1 0 rfl rfl)
theorem dJ2_fastRemove_25 : decode cJ2_fastRemove 25 = .ok (.iadd, 1) := dk_96 (dk_at dksJ2_fastRemove_1 1 rfl rfl)
theorem dJ2_fastRemove_26 : decode cJ2_fastRemove 26 = .ok (.aload_n 1, 1) := dk_43 (dk_at dksJ2_fastRemove_1 2 rfl rfl)
theorem dJ2_fastRemove_27 : decode cJ2_fastRemove 27 = .ok (.iload_n 2, 1) := dk_28 (dk_at dksJ2_fastRemove_1 3 rfl rfl)
theorem dJ2_fastRemove_28 : decode cJ2_fastRemove 28 = .ok (.iload_n 3, 1) := dk_29 (dk_at dksJ2_fastRemove_1 4 rfl rfl)
theorem dJ2_fastRemove_29 : decode cJ2_fastRemove 29 = .ok (.iload_n 2, 1) := dk_28 (dk_at dksJ2_fastRemove_1 5 rfl rfl)
theorem dJ2_fastRemove_30 : decode cJ2_fastRemove 30 = .ok (.isub, 1) := dk_100 (dk_at dksJ2_fastRemove_1 6 rfl rfl)
theorem dJ2_fastRemove_31 : decode cJ2_fastRemove 31 = .ok (.invokestatic 112, 3) := dk_184 0 112 (dk_at dksJ2_fastRemove_1 7 rfl rfl)
theorem dJ2_fastRemove_34 : decode cJ2_fastRemove 34 = .ok (.aload_n 1, 1) := dk_43 (dk_at dksJ2_fastRemove_1 10 rfl rfl)
theorem dJ2_fastRemove_35 : decode cJ2_fastRemove 35 = .ok (.aload_n 0, 1) := dk_42 (dk_at dksJ2_fastRemove_1 11 rfl rfl)
theorem dJ2_fastRemove_36 : decode cJ2_fastRemove 36 = .ok (.iload_n 3, 1) := dk_29 (dk_at dksJ2_fastRemove_1 12 rfl rfl)
theorem dJ2_fastRemove_37 : decode cJ2_fastRemove 37 = .ok (.dup_x1, 1) := dk_90 (dk_at dksJ2_fastRemove_1 13 rfl rfl)
theorem dJ2_fastRemove_38 : decode cJ2_fastRemove 38 = .ok (.putfield 48, 3) := dk_181 0 48 (dk_at dksJ2_fastRemove_1 14 rfl rfl)
theorem dJ2_fastRemove_41 : decode cJ2_fastRemove 41 = .ok (.aconst_null, 1) := dk_1 (dk_at dksJ2_fastRemove_1 17 rfl rfl)
theorem dJ2_fastRemove_42 : decode cJ2_fastRemove 42 = .ok (.aastore, 1) := dk_83 (dk_at dksJ2_fastRemove_1 18 rfl rfl)
theorem dJ2_fastRemove_43 : decode cJ2_fastRemove 43 = .ok (.return_, 1) := dk_177 (dk_at dksJ2_fastRemove_1 19 rfl rfl)
abbrev cJ2_isEmpty : ByteArray := prog_48_method_9_code
def yJ2_isEmpty : MethodName := ⟨RJ2, "isEmpty", "()Z"⟩
def dkwJ2_isEmpty_0 : List UInt8 := [42, 180, 0, 48, 154, 0, 7, 4, 167, 0, 4, 3, 172]
abbrev dktJ2_isEmpty_0 : List UInt8 := dkwJ2_isEmpty_0 ++ []
theorem dksJ2_isEmpty_0 : cJ2_isEmpty.data.toList.drop 0 = dktJ2_isEmpty_0 := by decide +kernel
theorem dJ2_isEmpty_0 : decode cJ2_isEmpty 0 = .ok (.aload_n 0, 1) := dk_42 (dk_at dksJ2_isEmpty_0 0 rfl rfl)
theorem dJ2_isEmpty_1 : decode cJ2_isEmpty 1 = .ok (.getfield 48, 3) := dk_180 0 48 (dk_at dksJ2_isEmpty_0 1 rfl rfl)
theorem dJ2_isEmpty_4 : decode cJ2_isEmpty 4 = .ok (.ifCond .ne 7, 3) := dk_154 0 7 (dk_at dksJ2_isEmpty_0 4 rfl rfl)
theorem dJ2_isEmpty_7 : decode cJ2_isEmpty 7 = .ok (.iconst 1, 1) := dk_4 (dk_at dksJ2_isEmpty_0 7 rfl rfl)
theorem dJ2_isEmpty_8 : decode cJ2_isEmpty 8 = .ok (.goto 4, 3) := dk_167 0 4 (dk_at dksJ2_isEmpty_0 8 rfl rfl)
theorem dJ2_isEmpty_11 : decode cJ2_isEmpty 11 = .ok (.iconst 0, 1) := dk_3 (dk_at dksJ2_isEmpty_0 11 rfl rfl)
theorem dJ2_isEmpty_12 : decode cJ2_isEmpty 12 = .ok (.ireturn, 1) := dk_172 (dk_at dksJ2_isEmpty_0 12 rfl rfl)
theorem q100 : (Jvm.Cond.initialized "java/util/ArrayList") ∈ lw_all := lw_g (lw_at lw_m1 5 rfl) rfl
theorem q156 : (Jvm.Cond.instantiable "java/util/ArrayList" (3 : Nat)) ∈ lw_all := lw_g (lw_at lw_m1 61 rfl) rfl
theorem q158 : (Jvm.Cond.instanceMethod ({ cls := "java/util/ArrayList", name := "<init>", desc := "()V" } : Jvm.MethodName)) ∈ lw_all := lw_g (lw_at lw_m1 63 rfl) rfl
theorem q159 : (Jvm.Cond.code ({ cls := "java/util/ArrayList", name := "<init>", desc := "()V" } : Jvm.MethodName) prog_48_method_2_code (1 : Nat) (Option.none : Option Jvm.ClassFile.FieldType)) ∈ lw_all := lw_g (lw_at lw_m1 64 rfl) rfl
theorem q160 : (Jvm.Cond.methodLink "java/util/ArrayList" (1 : Nat) ({ cls := "java/util/AbstractList", name := "<init>", desc := "()V" } : Jvm.MethodName)) ∈ lw_all := lw_g (lw_at lw_m1 65 rfl) rfl
theorem q167 : (Jvm.Cond.fieldLink "java/util/ArrayList" (39 : Nat) "java/util/ArrayList" "DEFAULTCAPACITY_EMPTY_ELEMENTDATA" "[Ljava/lang/Object;") ∈ lw_all := lw_g (lw_at lw_m1 72 rfl) rfl
theorem q168 : (Jvm.Cond.laysStatic "java/util/ArrayList" "DEFAULTCAPACITY_EMPTY_ELEMENTDATA" "[Ljava/lang/Object;") ∈ lw_tbl := lw_at lw_m1 73 rfl
theorem q169 : (Jvm.Cond.fieldLink "java/util/ArrayList" (9 : Nat) "java/util/ArrayList" "elementData" "[Ljava/lang/Object;") ∈ lw_all := lw_g (lw_at lw_m1 74 rfl) rfl
theorem q172 : (Jvm.Cond.fieldLink "java/util/ArrayList" (48 : Nat) "java/util/ArrayList" "size" "I") ∈ lw_all := lw_g (lw_at lw_m1 77 rfl) rfl
theorem q175 : (Jvm.Cond.sameField "java/util/ArrayList" "java/util/AbstractList" "modCount" "I") ∈ lw_all := lw_g (lw_at lw_m1 80 rfl) rfl
theorem q176 : (Jvm.Cond.fieldLink "java/util/ArrayList" (63 : Nat) "java/util/ArrayList" "modCount" "I") ∈ lw_all := lw_g (lw_at lw_m1 81 rfl) rfl
theorem q177 : (Jvm.Cond.lays "java/util/ArrayList" "java/util/ArrayList" "elementData" "[Ljava/lang/Object;") ∈ lw_all := lw_g (lw_at lw_m1 82 rfl) rfl
theorem q178 : (Jvm.Cond.soleField "java/util/ArrayList" "elementData") ∈ lw_all := lw_g (lw_at lw_m1 83 rfl) rfl
theorem q179 : (Jvm.Cond.lays "java/util/ArrayList" "java/util/ArrayList" "size" "I") ∈ lw_all := lw_g (lw_at lw_m1 84 rfl) rfl
theorem q180 : (Jvm.Cond.soleField "java/util/ArrayList" "size") ∈ lw_all := lw_g (lw_at lw_m1 85 rfl) rfl
theorem q181 : (Jvm.Cond.lays "java/util/ArrayList" "java/util/AbstractList" "modCount" "I") ∈ lw_all := lw_g (lw_at lw_m1 86 rfl) rfl
theorem q183 : (Jvm.Cond.superclass "java/util/ArrayList" "java/util/AbstractList") ∈ lw_all := lw_g (lw_at lw_m1 88 rfl) rfl
theorem q248 : (Jvm.Cond.instanceMethod ({ cls := "java/util/ArrayList", name := "get", desc := "(I)Ljava/lang/Object;" } : Jvm.MethodName)) ∈ lw_all := lw_g (lw_at lw_m1 153 rfl) rfl
theorem q249 : (Jvm.Cond.selects "java/util/ArrayList" ({ cls := "java/util/ArrayList", name := "get", desc := "(I)Ljava/lang/Object;" } : Jvm.MethodName) ({ cls := "java/util/ArrayList", name := "get", desc := "(I)Ljava/lang/Object;" } : Jvm.MethodName)) ∈ lw_all := lw_g (lw_at lw_m1 154 rfl) rfl
theorem q250 : (Jvm.Cond.code ({ cls := "java/util/ArrayList", name := "get", desc := "(I)Ljava/lang/Object;" } : Jvm.MethodName) prog_48_method_20_code (2 : Nat) (Option.some (Jvm.ClassFile.FieldType.object "java/lang/Object"))) ∈ lw_all := lw_g (lw_at lw_m1 155 rfl) rfl
theorem q251 : (Jvm.Cond.methodLink "java/util/ArrayList" (118 : Nat) ({ cls := "java/util/Objects", name := "checkIndex", desc := "(II)I" } : Jvm.MethodName)) ∈ lw_all := lw_g (lw_at lw_m1 156 rfl) rfl
theorem q257 : (Jvm.Cond.methodLink "java/util/ArrayList" (123 : Nat) ({ cls := "java/util/ArrayList", name := "elementData", desc := "(I)Ljava/lang/Object;" } : Jvm.MethodName)) ∈ lw_all := lw_g (lw_at lw_m1 162 rfl) rfl
theorem q258 : (Jvm.Cond.instanceMethod ({ cls := "java/util/ArrayList", name := "elementData", desc := "(I)Ljava/lang/Object;" } : Jvm.MethodName)) ∈ lw_all := lw_g (lw_at lw_m1 163 rfl) rfl
theorem q259 : (Jvm.Cond.selects "java/util/ArrayList" ({ cls := "java/util/ArrayList", name := "elementData", desc := "(I)Ljava/lang/Object;" } : Jvm.MethodName) ({ cls := "java/util/ArrayList", name := "elementData", desc := "(I)Ljava/lang/Object;" } : Jvm.MethodName)) ∈ lw_all := lw_g (lw_at lw_m1 164 rfl) rfl
theorem q260 : (Jvm.Cond.code ({ cls := "java/util/ArrayList", name := "elementData", desc := "(I)Ljava/lang/Object;" } : Jvm.MethodName) prog_48_method_18_code (2 : Nat) (Option.some (Jvm.ClassFile.FieldType.object "java/lang/Object"))) ∈ lw_all := lw_g (lw_at lw_m1 165 rfl) rfl
theorem q275 : (Jvm.Cond.instanceMethod ({ cls := "java/util/ArrayList", name := "size", desc := "()I" } : Jvm.MethodName)) ∈ lw_all := lw_g (lw_at lw_m1 180 rfl) rfl
theorem q276 : (Jvm.Cond.selects "java/util/ArrayList" ({ cls := "java/util/ArrayList", name := "size", desc := "()I" } : Jvm.MethodName) ({ cls := "java/util/ArrayList", name := "size", desc := "()I" } : Jvm.MethodName)) ∈ lw_all := lw_g (lw_at lw_m1 181 rfl) rfl
theorem q277 : (Jvm.Cond.code ({ cls := "java/util/ArrayList", name := "size", desc := "()I" } : Jvm.MethodName) prog_48_method_8_code (1 : Nat) (Option.some Jvm.ClassFile.FieldType.int)) ∈ lw_all := lw_g (lw_at lw_m1 182 rfl) rfl
theorem q519 : (Jvm.Cond.instanceMethod ({ cls := "java/util/ArrayList", name := "iterator", desc := "()Ljava/util/Iterator;" } : Jvm.MethodName)) ∈ lw_all := lw_g (lw_at lw_m2 184 rfl) rfl
theorem q520 : (Jvm.Cond.selects "java/util/ArrayList" ({ cls := "java/util/ArrayList", name := "iterator", desc := "()Ljava/util/Iterator;" } : Jvm.MethodName) ({ cls := "java/util/ArrayList", name := "iterator", desc := "()Ljava/util/Iterator;" } : Jvm.MethodName)) ∈ lw_all := lw_g (lw_at lw_m2 185 rfl) rfl
theorem q521 : (Jvm.Cond.code ({ cls := "java/util/ArrayList", name := "iterator", desc := "()Ljava/util/Iterator;" } : Jvm.MethodName) prog_48_method_55_code (1 : Nat) (Option.some (Jvm.ClassFile.FieldType.object "java/util/Iterator"))) ∈ lw_all := lw_g (lw_at lw_m2 186 rfl) rfl
theorem q522 : (Jvm.Cond.classLink "java/util/ArrayList" (267 : Nat) "java/util/ArrayList$Itr") ∈ lw_all := lw_g (lw_at lw_m2 187 rfl) rfl
theorem q524 : (Jvm.Cond.methodLink "java/util/ArrayList" (269 : Nat) ({ cls := "java/util/ArrayList$Itr", name := "<init>", desc := "(Ljava/util/ArrayList;)V" } : Jvm.MethodName)) ∈ lw_all := lw_g (lw_at lw_m2 189 rfl) rfl
theorem q665 : (Jvm.Cond.instanceMethod ({ cls := "java/util/ArrayList", name := "add", desc := "(Ljava/lang/Object;)Z" } : Jvm.MethodName)) ∈ lw_all := lw_g (lw_at lw_m3 90 rfl) rfl
theorem q666 : (Jvm.Cond.selects "java/util/ArrayList" ({ cls := "java/util/ArrayList", name := "add", desc := "(Ljava/lang/Object;)Z" } : Jvm.MethodName) ({ cls := "java/util/ArrayList", name := "add", desc := "(Ljava/lang/Object;)Z" } : Jvm.MethodName)) ∈ lw_all := lw_g (lw_at lw_m3 91 rfl) rfl
theorem q667 : (Jvm.Cond.code ({ cls := "java/util/ArrayList", name := "add", desc := "(Ljava/lang/Object;)Z" } : Jvm.MethodName) prog_48_method_25_code (2 : Nat) (Option.some Jvm.ClassFile.FieldType.boolean)) ∈ lw_all := lw_g (lw_at lw_m3 92 rfl) rfl
theorem q668 : (Jvm.Cond.methodLink "java/util/ArrayList" (131 : Nat) ({ cls := "java/util/ArrayList", name := "add", desc := "(Ljava/lang/Object;[Ljava/lang/Object;I)V" } : Jvm.MethodName)) ∈ lw_all := lw_g (lw_at lw_m3 93 rfl) rfl
theorem q669 : (Jvm.Cond.privateMethod ({ cls := "java/util/ArrayList", name := "add", desc := "(Ljava/lang/Object;[Ljava/lang/Object;I)V" } : Jvm.MethodName)) ∈ lw_tbl := lw_at lw_m3 94 rfl
theorem q670 : (Jvm.Cond.instanceMethod ({ cls := "java/util/ArrayList", name := "add", desc := "(Ljava/lang/Object;[Ljava/lang/Object;I)V" } : Jvm.MethodName)) ∈ lw_all := lw_g (lw_at lw_m3 95 rfl) rfl
theorem q671 : (Jvm.Cond.code ({ cls := "java/util/ArrayList", name := "add", desc := "(Ljava/lang/Object;[Ljava/lang/Object;I)V" } : Jvm.MethodName) prog_48_method_24_code (4 : Nat) (Option.none : Option Jvm.ClassFile.FieldType)) ∈ lw_all := lw_g (lw_at lw_m3 96 rfl) rfl
theorem q672 : (Jvm.Cond.methodLink "java/util/ArrayList" (129 : Nat) ({ cls := "java/util/ArrayList", name := "grow", desc := "()[Ljava/lang/Object;" } : Jvm.MethodName)) ∈ lw_all := lw_g (lw_at lw_m3 97 rfl) rfl
theorem q673 : (Jvm.Cond.privateMethod ({ cls := "java/util/ArrayList", name := "grow", desc := "()[Ljava/lang/Object;" } : Jvm.MethodName)) ∈ lw_tbl := lw_at lw_m3 98 rfl
theorem q674 : (Jvm.Cond.instanceMethod ({ cls := "java/util/ArrayList", name := "grow", desc := "()[Ljava/lang/Object;" } : Jvm.MethodName)) ∈ lw_all := lw_g (lw_at lw_m3 99 rfl) rfl
theorem q675 : (Jvm.Cond.code ({ cls := "java/util/ArrayList", name := "grow", desc := "()[Ljava/lang/Object;" } : Jvm.MethodName) prog_48_method_7_code (1 : Nat) (Option.some (Jvm.ClassFile.FieldType.array (Jvm.ClassFile.FieldType.object "java/lang/Object")))) ∈ lw_all := lw_g (lw_at lw_m3 100 rfl) rfl
theorem q676 : (Jvm.Cond.methodLink "java/util/ArrayList" (69 : Nat) ({ cls := "java/util/ArrayList", name := "grow", desc := "(I)[Ljava/lang/Object;" } : Jvm.MethodName)) ∈ lw_all := lw_g (lw_at lw_m3 101 rfl) rfl
theorem q677 : (Jvm.Cond.privateMethod ({ cls := "java/util/ArrayList", name := "grow", desc := "(I)[Ljava/lang/Object;" } : Jvm.MethodName)) ∈ lw_tbl := lw_at lw_m3 102 rfl
theorem q678 : (Jvm.Cond.instanceMethod ({ cls := "java/util/ArrayList", name := "grow", desc := "(I)[Ljava/lang/Object;" } : Jvm.MethodName)) ∈ lw_all := lw_g (lw_at lw_m3 103 rfl) rfl
theorem q679 : (Jvm.Cond.code ({ cls := "java/util/ArrayList", name := "grow", desc := "(I)[Ljava/lang/Object;" } : Jvm.MethodName) prog_48_method_6_code (4 : Nat) (Option.some (Jvm.ClassFile.FieldType.array (Jvm.ClassFile.FieldType.object "java/lang/Object")))) ∈ lw_all := lw_g (lw_at lw_m3 104 rfl) rfl
theorem q680 : (Jvm.Cond.methodLink "java/util/ArrayList" (73 : Nat) ({ cls := "jdk/internal/util/ArraysSupport", name := "newLength", desc := "(III)I" } : Jvm.MethodName)) ∈ lw_all := lw_g (lw_at lw_m3 105 rfl) rfl
theorem q690 : (Jvm.Cond.methodLink "java/util/ArrayList" (66 : Nat) ({ cls := "java/util/Arrays", name := "copyOf", desc := "([Ljava/lang/Object;I)[Ljava/lang/Object;" } : Jvm.MethodName)) ∈ lw_all := lw_g (lw_at lw_m3 115 rfl) rfl
theorem q715 : (Jvm.Cond.selects "java/util/ArrayList" ({ cls := "java/lang/Object", name := "getClass", desc := "()Ljava/lang/Class;" } : Jvm.MethodName) ({ cls := "java/lang/Object", name := "getClass", desc := "()Ljava/lang/Class;" } : Jvm.MethodName)) ∈ lw_all := lw_g (lw_at lw_m3 140 rfl) rfl
theorem q734 : (Jvm.Cond.methodLink "java/util/ArrayList" (79 : Nat) ({ cls := "java/lang/Math", name := "max", desc := "(II)I" } : Jvm.MethodName)) ∈ lw_all := lw_g (lw_at lw_m3 159 rfl) rfl
theorem q735 : (Jvm.Cond.classLink "java/util/ArrayList" (7 : Nat) "java/lang/Object") ∈ lw_all := lw_g (lw_at lw_m3 160 rfl) rfl
theorem q1410 : (Jvm.Cond.instanceMethod ({ cls := "java/util/ArrayList", name := "remove", desc := "(I)Ljava/lang/Object;" } : Jvm.MethodName)) ∈ lw_all := lw_g (lw_at lw_m6 115 rfl) rfl
theorem q1411 : (Jvm.Cond.selects "java/util/ArrayList" ({ cls := "java/util/ArrayList", name := "remove", desc := "(I)Ljava/lang/Object;" } : Jvm.MethodName) ({ cls := "java/util/ArrayList", name := "remove", desc := "(I)Ljava/lang/Object;" } : Jvm.MethodName)) ∈ lw_all := lw_g (lw_at lw_m6 116 rfl) rfl
theorem q1412 : (Jvm.Cond.code ({ cls := "java/util/ArrayList", name := "remove", desc := "(I)Ljava/lang/Object;" } : Jvm.MethodName) prog_48_method_29_code (4 : Nat) (Option.some (Jvm.ClassFile.FieldType.object "java/lang/Object"))) ∈ lw_all := lw_g (lw_at lw_m6 117 rfl) rfl
theorem q1413 : (Jvm.Cond.methodLink "java/util/ArrayList" (144 : Nat) ({ cls := "java/util/ArrayList", name := "fastRemove", desc := "([Ljava/lang/Object;I)V" } : Jvm.MethodName)) ∈ lw_all := lw_g (lw_at lw_m6 118 rfl) rfl
theorem q1414 : (Jvm.Cond.privateMethod ({ cls := "java/util/ArrayList", name := "fastRemove", desc := "([Ljava/lang/Object;I)V" } : Jvm.MethodName)) ∈ lw_tbl := lw_at lw_m6 119 rfl
theorem q1415 : (Jvm.Cond.instanceMethod ({ cls := "java/util/ArrayList", name := "fastRemove", desc := "([Ljava/lang/Object;I)V" } : Jvm.MethodName)) ∈ lw_all := lw_g (lw_at lw_m6 120 rfl) rfl
theorem q1416 : (Jvm.Cond.code ({ cls := "java/util/ArrayList", name := "fastRemove", desc := "([Ljava/lang/Object;I)V" } : Jvm.MethodName) prog_48_method_39_code (4 : Nat) (Option.none : Option Jvm.ClassFile.FieldType)) ∈ lw_all := lw_g (lw_at lw_m6 121 rfl) rfl
theorem q1417 : (Jvm.Cond.methodLink "java/util/ArrayList" (112 : Nat) ({ cls := "java/lang/System", name := "arraycopy", desc := "(Ljava/lang/Object;ILjava/lang/Object;II)V" } : Jvm.MethodName)) ∈ lw_all := lw_g (lw_at lw_m6 122 rfl) rfl
theorem q1598 : (Jvm.Cond.instanceMethod ({ cls := "java/util/ArrayList", name := "isEmpty", desc := "()Z" } : Jvm.MethodName)) ∈ lw_all := lw_g (lw_at lw_m7 63 rfl) rfl
theorem q1599 : (Jvm.Cond.selects "java/util/ArrayList" ({ cls := "java/util/ArrayList", name := "isEmpty", desc := "()Z" } : Jvm.MethodName) ({ cls := "java/util/ArrayList", name := "isEmpty", desc := "()Z" } : Jvm.MethodName)) ∈ lw_all := lw_g (lw_at lw_m7 64 rfl) rfl
theorem q1600 : (Jvm.Cond.code ({ cls := "java/util/ArrayList", name := "isEmpty", desc := "()Z" } : Jvm.MethodName) prog_48_method_9_code (1 : Nat) (Option.some Jvm.ClassFile.FieldType.boolean)) ∈ lw_all := lw_g (lw_at lw_m7 65 rfl) rfl
theorem q2420 : (Jvm.Cond.castable "java/util/ArrayList" "java/lang/Object") ∈ lw_tbl := lw_at lw_m10 165 rfl
theorem in_J2 : ∀ w ∈ wsJ20, w ∈ lw_all := lw_in wsJ20 [181, 177, 179] (by decide +kernel) (by decide +kernel)
abbrev cJ3_compareTo : ByteArray := prog_28_method_15_code
def yJ3_compareTo : MethodName := ⟨RJ3, "compareTo", "(Ljava/lang/Object;)I"⟩
def dkwJ3_compareTo_0 : List UInt8 := [42, 43, 192, 0, 2, 182, 0, 101, 172]
abbrev dktJ3_compareTo_0 : List UInt8 := dkwJ3_compareTo_0 ++ []
theorem dksJ3_compareTo_0 : cJ3_compareTo.data.toList.drop 0 = dktJ3_compareTo_0 := by decide +kernel
theorem dJ3_compareTo_0 : decode cJ3_compareTo 0 = .ok (.aload_n 0, 1) := dk_42 (dk_at dksJ3_compareTo_0 0 rfl rfl)
theorem dJ3_compareTo_1 : decode cJ3_compareTo 1 = .ok (.aload_n 1, 1) := dk_43 (dk_at dksJ3_compareTo_0 1 rfl rfl)
theorem dJ3_compareTo_2 : decode cJ3_compareTo 2 = .ok (.checkcast 2, 3) := dk_192 0 2 (dk_at dksJ3_compareTo_0 2 rfl rfl)
theorem dJ3_compareTo_5 : decode cJ3_compareTo 5 = .ok (.invokevirtual 101, 3) := dk_182 0 101 (dk_at dksJ3_compareTo_0 5 rfl rfl)
theorem dJ3_compareTo_8 : decode cJ3_compareTo 8 = .ok (.ireturn, 1) := dk_172 (dk_at dksJ3_compareTo_0 8 rfl rfl)
abbrev cJ3_compareTo_2 : ByteArray := prog_28_method_8_code
def yJ3_compareTo_2 : MethodName := ⟨RJ3, "compareTo", "(Ljava/lang/Enum;)I"⟩
def dkwJ3_compareTo_2_1 : List UInt8 := [165, 0, 11, 187, 0, 36, 89, 183, 0, 38, 191, 45, 180, 0, 7, 44, 180, 0, 7, 100, 172]
abbrev dktJ3_compareTo_2_1 : List UInt8 := dkwJ3_compareTo_2_1 ++ []
def dkwJ3_compareTo_2_0 : List UInt8 := [43, 77, 42, 78, 45, 182, 0, 29, 44, 182, 0, 29, 165, 0, 22, 45, 182, 0, 33, 44, 182, 0, 33]
abbrev dktJ3_compareTo_2_0 : List UInt8 := dkwJ3_compareTo_2_0 ++ dktJ3_compareTo_2_1
theorem dksJ3_compareTo_2_0 : cJ3_compareTo_2.data.toList.drop 0 = dktJ3_compareTo_2_0 := by decide +kernel
theorem dksJ3_compareTo_2_1 : cJ3_compareTo_2.data.toList.drop 23 = dktJ3_compareTo_2_1 := dk_seg dksJ3_compareTo_2_0 23 rfl rfl
theorem dJ3_compareTo_2_0 : decode cJ3_compareTo_2 0 = .ok (.aload_n 1, 1) := dk_43 (dk_at dksJ3_compareTo_2_0 0 rfl rfl)
theorem dJ3_compareTo_2_1 : decode cJ3_compareTo_2 1 = .ok (.astore_n 2, 1) := dk_77 (dk_at dksJ3_compareTo_2_0 1 rfl rfl)
theorem dJ3_compareTo_2_2 : decode cJ3_compareTo_2 2 = .ok (.aload_n 0, 1) := dk_42 (dk_at dksJ3_compareTo_2_0 2 rfl rfl)
theorem dJ3_compareTo_2_3 : decode cJ3_compareTo_2 3 = .ok (.astore_n 3, 1) := dk_78 (dk_at dksJ3_compareTo_2_0 3 rfl rfl)
theorem dJ3_compareTo_2_4 : decode cJ3_compareTo_2 4 = .ok (.aload_n 3, 1) := dk_45 (dk_at dksJ3_compareTo_2_0 4 rfl rfl)
theorem dJ3_compareTo_2_5 : decode cJ3_compareTo_2 5 = .ok (.invokevirtual 29, 3) := dk_182 0 29 (dk_at dksJ3_compareTo_2_0 5 rfl rfl)
theorem dJ3_compareTo_2_8 : decode cJ3_compareTo_2 8 = .ok (.aload_n 2, 1) := dk_44 (dk_at dksJ3_compareTo_2_0 8 rfl rfl)
theorem dJ3_compareTo_2_9 : decode cJ3_compareTo_2 9 = .ok (.invokevirtual 29, 3) := dk_182 0 29 (dk_at dksJ3_compareTo_2_0 9 rfl rfl)
theorem dJ3_compareTo_2_12 : decode cJ3_compareTo_2 12 = .ok (.if_acmp .eq 22, 3) := dk_165 0 22 (dk_at dksJ3_compareTo_2_0 12 rfl rfl)
theorem dJ3_compareTo_2_15 : decode cJ3_compareTo_2 15 = .ok (.aload_n 3, 1) := dk_45 (dk_at dksJ3_compareTo_2_0 15 rfl rfl)
theorem dJ3_compareTo_2_16 : decode cJ3_compareTo_2 16 = .ok (.invokevirtual 33, 3) := dk_182 0 33 (dk_at dksJ3_compareTo_2_0 16 rfl rfl)
theorem dJ3_compareTo_2_19 : decode cJ3_compareTo_2 19 = .ok (.aload_n 2, 1) := dk_44 (dk_at dksJ3_compareTo_2_0 19 rfl rfl)
theorem dJ3_compareTo_2_20 : decode cJ3_compareTo_2 20 = .ok (.invokevirtual 33, 3) := dk_182 0 33 (dk_at dksJ3_compareTo_2_0 20 rfl rfl)
theorem dJ3_compareTo_2_23 : decode cJ3_compareTo_2 23 = .ok (.if_acmp .eq 11, 3) := dk_165 0 11 (dk_at dksJ3_compareTo_2_1 0 rfl rfl)
theorem dJ3_compareTo_2_26 : decode cJ3_compareTo_2 26 = .ok (.new 36, 3) := dk_187 0 36 (dk_at dksJ3_compareTo_2_1 3 rfl rfl)
theorem dJ3_compareTo_2_29 : decode cJ3_compareTo_2 29 = .ok (.dup, 1) := dk_89 (dk_at dksJ3_compareTo_2_1 6 rfl rfl)
theorem dJ3_compareTo_2_30 : decode cJ3_compareTo_2 30 = .ok (.invokespecial 38, 3) := dk_183 0 38 (dk_at dksJ3_compareTo_2_1 7 rfl rfl)
theorem dJ3_compareTo_2_33 : decode cJ3_compareTo_2 33 = .ok (.athrow, 1) := dk_191 (dk_at dksJ3_compareTo_2_1 10 rfl rfl)
theorem dJ3_compareTo_2_34 : decode cJ3_compareTo_2 34 = .ok (.aload_n 3, 1) := dk_45 (dk_at dksJ3_compareTo_2_1 11 rfl rfl)
theorem dJ3_compareTo_2_35 : decode cJ3_compareTo_2 35 = .ok (.getfield 7, 3) := dk_180 0 7 (dk_at dksJ3_compareTo_2_1 12 rfl rfl)
theorem dJ3_compareTo_2_38 : decode cJ3_compareTo_2 38 = .ok (.aload_n 2, 1) := dk_44 (dk_at dksJ3_compareTo_2_1 15 rfl rfl)
theorem dJ3_compareTo_2_39 : decode cJ3_compareTo_2 39 = .ok (.getfield 7, 3) := dk_180 0 7 (dk_at dksJ3_compareTo_2_1 16 rfl rfl)
theorem dJ3_compareTo_2_42 : decode cJ3_compareTo_2 42 = .ok (.isub, 1) := dk_100 (dk_at dksJ3_compareTo_2_1 19 rfl rfl)
theorem dJ3_compareTo_2_43 : decode cJ3_compareTo_2 43 = .ok (.ireturn, 1) := dk_172 (dk_at dksJ3_compareTo_2_1 20 rfl rfl)
abbrev cJ3_getDeclaringClass : ByteArray := prog_28_method_9_code
def yJ3_getDeclaringClass : MethodName := ⟨RJ3, "getDeclaringClass", "()Ljava/lang/Class;"⟩
def dkwJ3_getDeclaringClass_0 : List UInt8 := [42, 182, 0, 29, 76, 43, 182, 0, 39, 77, 44, 18, 2, 166, 0, 7, 43, 167, 0, 4, 44, 176]
abbrev dktJ3_getDeclaringClass_0 : List UInt8 := dkwJ3_getDeclaringClass_0 ++ []
theorem dksJ3_getDeclaringClass_0 : cJ3_getDeclaringClass.data.toList.drop 0 = dktJ3_getDeclaringClass_0 := by decide +kernel
theorem dJ3_getDeclaringClass_0 : decode cJ3_getDeclaringClass 0 = .ok (.aload_n 0, 1) := dk_42 (dk_at dksJ3_getDeclaringClass_0 0 rfl rfl)
theorem dJ3_getDeclaringClass_1 : decode cJ3_getDeclaringClass 1 = .ok (.invokevirtual 29, 3) := dk_182 0 29 (dk_at dksJ3_getDeclaringClass_0 1 rfl rfl)
theorem dJ3_getDeclaringClass_4 : decode cJ3_getDeclaringClass 4 = .ok (.astore_n 1, 1) := dk_76 (dk_at dksJ3_getDeclaringClass_0 4 rfl rfl)
theorem dJ3_getDeclaringClass_5 : decode cJ3_getDeclaringClass 5 = .ok (.aload_n 1, 1) := dk_43 (dk_at dksJ3_getDeclaringClass_0 5 rfl rfl)
theorem dJ3_getDeclaringClass_6 : decode cJ3_getDeclaringClass 6 = .ok (.invokevirtual 39, 3) := dk_182 0 39 (dk_at dksJ3_getDeclaringClass_0 6 rfl rfl)
theorem dJ3_getDeclaringClass_9 : decode cJ3_getDeclaringClass 9 = .ok (.astore_n 2, 1) := dk_77 (dk_at dksJ3_getDeclaringClass_0 9 rfl rfl)
theorem dJ3_getDeclaringClass_10 : decode cJ3_getDeclaringClass 10 = .ok (.aload_n 2, 1) := dk_44 (dk_at dksJ3_getDeclaringClass_0 10 rfl rfl)
theorem dJ3_getDeclaringClass_11 : decode cJ3_getDeclaringClass 11 = .ok (.ldc 2, 2) := dk_18 2 (dk_at dksJ3_getDeclaringClass_0 11 rfl rfl)
theorem dJ3_getDeclaringClass_13 : decode cJ3_getDeclaringClass 13 = .ok (.if_acmp .ne 7, 3) := dk_166 0 7 (dk_at dksJ3_getDeclaringClass_0 13 rfl rfl)
theorem dJ3_getDeclaringClass_16 : decode cJ3_getDeclaringClass 16 = .ok (.aload_n 1, 1) := dk_43 (dk_at dksJ3_getDeclaringClass_0 16 rfl rfl)
theorem dJ3_getDeclaringClass_17 : decode cJ3_getDeclaringClass 17 = .ok (.goto 4, 3) := dk_167 0 4 (dk_at dksJ3_getDeclaringClass_0 17 rfl rfl)
theorem dJ3_getDeclaringClass_20 : decode cJ3_getDeclaringClass 20 = .ok (.aload_n 2, 1) := dk_44 (dk_at dksJ3_getDeclaringClass_0 20 rfl rfl)
theorem dJ3_getDeclaringClass_21 : decode cJ3_getDeclaringClass 21 = .ok (.areturn, 1) := dk_176 (dk_at dksJ3_getDeclaringClass_0 21 rfl rfl)
theorem q101 : (Jvm.Cond.initialized "java/lang/Enum") ∈ lw_all := lw_g (lw_at lw_m1 6 rfl) rfl
theorem q992 : (Jvm.Cond.instanceMethod ({ cls := "java/lang/Enum", name := "compareTo", desc := "(Ljava/lang/Object;)I" } : Jvm.MethodName)) ∈ lw_all := lw_g (lw_at lw_m4 177 rfl) rfl
theorem q993 : (Jvm.Cond.publicMethod ({ cls := "java/lang/Enum", name := "compareTo", desc := "(Ljava/lang/Object;)I" } : Jvm.MethodName)) ∈ lw_tbl := lw_at lw_m4 178 rfl
theorem q994 : (Jvm.Cond.code ({ cls := "java/lang/Enum", name := "compareTo", desc := "(Ljava/lang/Object;)I" } : Jvm.MethodName) prog_28_method_15_code (2 : Nat) (Option.some Jvm.ClassFile.FieldType.int)) ∈ lw_all := lw_g (lw_at lw_m4 179 rfl) rfl
theorem q995 : (Jvm.Cond.classLink "java/lang/Enum" (2 : Nat) "java/lang/Enum") ∈ lw_all := lw_g (lw_at lw_m4 180 rfl) rfl
theorem q996 : (Jvm.Cond.methodLink "java/lang/Enum" (101 : Nat) ({ cls := "java/lang/Enum", name := "compareTo", desc := "(Ljava/lang/Enum;)I" } : Jvm.MethodName)) ∈ lw_all := lw_g (lw_at lw_m4 181 rfl) rfl
theorem q997 : (Jvm.Cond.instanceMethod ({ cls := "java/lang/Enum", name := "compareTo", desc := "(Ljava/lang/Enum;)I" } : Jvm.MethodName)) ∈ lw_all := lw_g (lw_at lw_m4 182 rfl) rfl
theorem q998 : (Jvm.Cond.sameMethod "java/lang/Enum" "java/lang/Enum" "compareTo" "(Ljava/lang/Enum;)I") ∈ lw_all := lw_g (lw_at lw_m4 183 rfl) rfl
theorem q1005 : (Jvm.Cond.code ({ cls := "java/lang/Enum", name := "compareTo", desc := "(Ljava/lang/Enum;)I" } : Jvm.MethodName) prog_28_method_8_code (4 : Nat) (Option.some Jvm.ClassFile.FieldType.int)) ∈ lw_all := lw_g (lw_at lw_m4 190 rfl) rfl
theorem q1006 : (Jvm.Cond.methodLink "java/lang/Enum" (29 : Nat) ({ cls := "java/lang/Object", name := "getClass", desc := "()Ljava/lang/Class;" } : Jvm.MethodName)) ∈ lw_all := lw_g (lw_at lw_m4 191 rfl) rfl
theorem q1007 : (Jvm.Cond.methodLink "java/lang/Enum" (33 : Nat) ({ cls := "java/lang/Enum", name := "getDeclaringClass", desc := "()Ljava/lang/Class;" } : Jvm.MethodName)) ∈ lw_all := lw_g (lw_at lw_m4 192 rfl) rfl
theorem q1008 : (Jvm.Cond.instanceMethod ({ cls := "java/lang/Enum", name := "getDeclaringClass", desc := "()Ljava/lang/Class;" } : Jvm.MethodName)) ∈ lw_all := lw_g (lw_at lw_m4 193 rfl) rfl
theorem q1009 : (Jvm.Cond.sameMethod "java/lang/Enum" "java/lang/Enum" "getDeclaringClass" "()Ljava/lang/Class;") ∈ lw_all := lw_g (lw_at lw_m4 194 rfl) rfl
theorem q1016 : (Jvm.Cond.code ({ cls := "java/lang/Enum", name := "getDeclaringClass", desc := "()Ljava/lang/Class;" } : Jvm.MethodName) prog_28_method_9_code (3 : Nat) (Option.some (Jvm.ClassFile.FieldType.object "java/lang/Class"))) ∈ lw_all := lw_g (lw_at lw_m4 201 rfl) rfl
theorem q2461 : (Jvm.Cond.fieldLink "java/lang/Enum" (7 : Nat) "java/lang/Enum" "ordinal" "I") ∈ lw_all := lw_g (lw_at lw_m10 206 rfl) rfl
abbrev cJ4_init : ByteArray := prog_46_method_1_code
def yJ4_init : MethodName := ⟨RJ4, "<init>", "()V"⟩
theorem dJ4_init_0 : decode cJ4_init 0 = .ok (.aload_n 0, 1) := by decide +kernel
theorem dJ4_init_1 : decode cJ4_init 1 = .ok (.invokespecial 1, 3) := by decide +kernel
theorem dJ4_init_4 : decode cJ4_init 4 = .ok (.return_, 1) := by decide +kernel
theorem q103 : (Jvm.Cond.initialized "java/util/AbstractQueue") ∈ lw_all := lw_g (lw_at lw_m1 8 rfl) rfl
theorem q219 : (Jvm.Cond.instanceMethod ({ cls := "java/util/AbstractQueue", name := "<init>", desc := "()V" } : Jvm.MethodName)) ∈ lw_all := lw_g (lw_at lw_m1 124 rfl) rfl
theorem q220 : (Jvm.Cond.code ({ cls := "java/util/AbstractQueue", name := "<init>", desc := "()V" } : Jvm.MethodName) prog_46_method_1_code (1 : Nat) (Option.none : Option Jvm.ClassFile.FieldType)) ∈ lw_all := lw_g (lw_at lw_m1 125 rfl) rfl
theorem q221 : (Jvm.Cond.methodLink "java/util/AbstractQueue" (1 : Nat) ({ cls := "java/util/AbstractCollection", name := "<init>", desc := "()V" } : Jvm.MethodName)) ∈ lw_all := lw_g (lw_at lw_m1 126 rfl) rfl
abbrev cJ5_init : ByteArray := prog_61_method_4_code
def yJ5_init : MethodName := ⟨RJ5, "<init>", "(ILjava/util/Comparator;)V"⟩
def dkwJ5_init_1 : List UInt8 := [181, 0, 17, 42, 44, 181, 0, 21, 177]
abbrev dktJ5_init_1 : List UInt8 := dkwJ5_init_1 ++ []
def dkwJ5_init_0 : List UInt8 := [42, 183, 0, 7, 27, 4, 162, 0, 11, 187, 0, 12, 89, 183, 0, 14, 191, 42, 27, 189, 0, 15]
abbrev dktJ5_init_0 : List UInt8 := dkwJ5_init_0 ++ dktJ5_init_1
theorem dksJ5_init_0 : cJ5_init.data.toList.drop 0 = dktJ5_init_0 := by decide +kernel
theorem dksJ5_init_1 : cJ5_init.data.toList.drop 22 = dktJ5_init_1 := dk_seg dksJ5_init_0 22 rfl rfl
theorem dJ5_init_0 : decode cJ5_init 0 = .ok (.aload_n 0, 1) := dk_42 (dk_at dksJ5_init_0 0 rfl rfl)
theorem dJ5_init_1 : decode cJ5_init 1 = .ok (.invokespecial 7, 3) := dk_183 0 7 (dk_at dksJ5_init_0 1 rfl rfl)
theorem dJ5_init_4 : decode cJ5_init 4 = .ok (.iload_n 1, 1) := dk_27 (dk_at dksJ5_init_0 4 rfl rfl)
theorem dJ5_init_5 : decode cJ5_init 5 = .ok (.iconst 1, 1) := dk_4 (dk_at dksJ5_init_0 5 rfl rfl)
theorem dJ5_init_6 : decode cJ5_init 6 = .ok (.if_icmp .ge 11, 3) := dk_162 0 11 (dk_at dksJ5_init_0 6 rfl rfl)
theorem dJ5_init_9 : decode cJ5_init 9 = .ok (.new 12, 3) := dk_187 0 12 (dk_at dksJ5_init_0 9 rfl rfl)
theorem dJ5_init_12 : decode cJ5_init 12 = .ok (.dup, 1) := dk_89 (dk_at dksJ5_init_0 12 rfl rfl)
theorem dJ5_init_13 : decode cJ5_init 13 = .ok (.invokespecial 14, 3) := dk_183 0 14 (dk_at dksJ5_init_0 13 rfl rfl)
theorem dJ5_init_16 : decode cJ5_init 16 = .ok (.athrow, 1) := dk_191 (dk_at dksJ5_init_0 16 rfl rfl)
theorem dJ5_init_17 : decode cJ5_init 17 = .ok (.aload_n 0, 1) := dk_42 (dk_at dksJ5_init_0 17 rfl rfl)
theorem dJ5_init_18 : decode cJ5_init 18 = .ok (.iload_n 1, 1) := dk_27 (dk_at dksJ5_init_0 18 rfl rfl)
theorem dJ5_init_19 : decode cJ5_init 19 = .ok (.anewarray 15, 3) := dk_189 0 15 (dk_at dksJ5_init_0 19 rfl rfl)
theorem dJ5_init_22 : decode cJ5_init 22 = .ok (.putfield 17, 3) := dk_181 0 17 (dk_at dksJ5_init_1 0 rfl rfl)
theorem dJ5_init_25 : decode cJ5_init 25 = .ok (.aload_n 0, 1) := dk_42 (dk_at dksJ5_init_1 3 rfl rfl)
theorem dJ5_init_26 : decode cJ5_init 26 = .ok (.aload_n 2, 1) := dk_44 (dk_at dksJ5_init_1 4 rfl rfl)
theorem dJ5_init_27 : decode cJ5_init 27 = .ok (.putfield 21, 3) := dk_181 0 21 (dk_at dksJ5_init_1 5 rfl rfl)
theorem dJ5_init_30 : decode cJ5_init 30 = .ok (.return_, 1) := dk_177 (dk_at dksJ5_init_1 8 rfl rfl)
abbrev cJ5_clear : ByteArray := prog_61_method_24_code
def yJ5_clear : MethodName := ⟨RJ5, "clear", "()V"⟩
def dkwJ5_clear_1 : List UInt8 := [162, 0, 13, 43, 28, 1, 83, 132, 2, 1, 167, 255, 244, 42, 3, 181, 0, 58, 177]
abbrev dktJ5_clear_1 : List UInt8 := dkwJ5_clear_1 ++ []
def dkwJ5_clear_0 : List UInt8 := [42, 89, 180, 0, 93, 4, 96, 181, 0, 93, 42, 180, 0, 17, 76, 3, 61, 42, 180, 0, 58, 62, 28, 29]
abbrev dktJ5_clear_0 : List UInt8 := dkwJ5_clear_0 ++ dktJ5_clear_1
theorem dksJ5_clear_0 : cJ5_clear.data.toList.drop 0 = dktJ5_clear_0 := by decide +kernel
theorem dksJ5_clear_1 : cJ5_clear.data.toList.drop 24 = dktJ5_clear_1 := dk_seg dksJ5_clear_0 24 rfl rfl
theorem dJ5_clear_0 : decode cJ5_clear 0 = .ok (.aload_n 0, 1) := dk_42 (dk_at dksJ5_clear_0 0 rfl rfl)
theorem dJ5_clear_1 : decode cJ5_clear 1 = .ok (.dup, 1) := dk_89 (dk_at dksJ5_clear_0 1 rfl rfl)
theorem dJ5_clear_2 : decode cJ5_clear 2 = .ok (.getfield 93, 3) := dk_180 0 93 (dk_at dksJ5_clear_0 2 rfl rfl)
theorem dJ5_clear_5 : decode cJ5_clear 5 = .ok (.iconst 1, 1) := dk_4 (dk_at dksJ5_clear_0 5 rfl rfl)
theorem dJ5_clear_6 : decode cJ5_clear 6 = .ok (.iadd, 1) := dk_96 (dk_at dksJ5_clear_0 6 rfl rfl)
theorem dJ5_clear_7 : decode cJ5_clear 7 = .ok (.putfield 93, 3) := dk_181 0 93 (dk_at dksJ5_clear_0 7 rfl rfl)
theorem dJ5_clear_10 : decode cJ5_clear 10 = .ok (.aload_n 0, 1) := dk_42 (dk_at dksJ5_clear_0 10 rfl rfl)
theorem dJ5_clear_11 : decode cJ5_clear 11 = .ok (.getfield 17, 3) := dk_180 0 17 (dk_at dksJ5_clear_0 11 rfl rfl)
theorem dJ5_clear_14 : decode cJ5_clear 14 = .ok (.astore_n 1, 1) := dk_76 (dk_at dksJ5_clear_0 14 rfl rfl)
theorem dJ5_clear_15 : decode cJ5_clear 15 = .ok (.iconst 0, 1) := dk_3 (dk_at dksJ5_clear_0 15 rfl rfl)
theorem dJ5_clear_16 : decode cJ5_clear 16 = .ok (.istore_n 2, 1) := dk_61 (dk_at dksJ5_clear_0 16 rfl rfl)
theorem dJ5_clear_17 : decode cJ5_clear 17 = .ok (.aload_n 0, 1) := dk_42 (dk_at dksJ5_clear_0 17 rfl rfl)
theorem dJ5_clear_18 : decode cJ5_clear 18 = .ok (.getfield 58, 3) := dk_180 0 58 (dk_at dksJ5_clear_0 18 rfl rfl)
theorem dJ5_clear_21 : decode cJ5_clear 21 = .ok (.istore_n 3, 1) := dk_62 (dk_at dksJ5_clear_0 21 rfl rfl)
theorem dJ5_clear_22 : decode cJ5_clear 22 = .ok (.iload_n 2, 1) := dk_28 (dk_at dksJ5_clear_0 22 rfl rfl)
theorem dJ5_clear_23 : decode cJ5_clear 23 = .ok (.iload_n 3, 1) := dk_29 (dk_at dksJ5_clear_0 23 rfl rfl)
theorem dJ5_clear_24 : decode cJ5_clear 24 = .ok (.if_icmp .ge 13, 3) := dk_162 0 13 (dk_at dksJ5_clear_1 0 rfl rfl)
theorem dJ5_clear_27 : decode cJ5_clear 27 = .ok (.aload_n 1, 1) := dk_43 (dk_at dksJ5_clear_1 3 rfl rfl)
theorem dJ5_clear_28 : decode cJ5_clear 28 = .ok (.iload_n 2, 1) := dk_28 (dk_at dksJ5_clear_1 4 rfl rfl)
theorem dJ5_clear_29 : decode cJ5_clear 29 = .ok (.aconst_null, 1) := dk_1 (dk_at dksJ5_clear_1 5 rfl rfl)
theorem dJ5_clear_30 : decode cJ5_clear 30 = .ok (.aastore, 1) := dk_83 (dk_at dksJ5_clear_1 6 rfl rfl)
theorem dJ5_clear_31 : decode cJ5_clear 31 = .ok (.iinc 2 1, 3) := dk_132 2 1 (dk_at dksJ5_clear_1 7 rfl rfl)
theorem dJ5_clear_34 : decode cJ5_clear 34 = .ok (.goto (-12), 3) := dk_167 255 244 (dk_at dksJ5_clear_1 10 rfl rfl)
theorem dJ5_clear_37 : decode cJ5_clear 37 = .ok (.aload_n 0, 1) := dk_42 (dk_at dksJ5_clear_1 13 rfl rfl)
theorem dJ5_clear_38 : decode cJ5_clear 38 = .ok (.iconst 0, 1) := dk_3 (dk_at dksJ5_clear_1 14 rfl rfl)
theorem dJ5_clear_39 : decode cJ5_clear 39 = .ok (.putfield 58, 3) := dk_181 0 58 (dk_at dksJ5_clear_1 15 rfl rfl)
theorem dJ5_clear_42 : decode cJ5_clear 42 = .ok (.return_, 1) := dk_177 (dk_at dksJ5_clear_1 18 rfl rfl)
abbrev cJ5_add : ByteArray := prog_61_method_13_code
def yJ5_add : MethodName := ⟨RJ5, "add", "(Ljava/lang/Object;)Z"⟩
def dkwJ5_add_0 : List UInt8 := [42, 43, 182, 0, 89, 172]
abbrev dktJ5_add_0 : List UInt8 := dkwJ5_add_0 ++ []
theorem dksJ5_add_0 : cJ5_add.data.toList.drop 0 = dktJ5_add_0 := by decide +kernel
theorem dJ5_add_0 : decode cJ5_add 0 = .ok (.aload_n 0, 1) := dk_42 (dk_at dksJ5_add_0 0 rfl rfl)
theorem dJ5_add_1 : decode cJ5_add 1 = .ok (.aload_n 1, 1) := dk_43 (dk_at dksJ5_add_0 1 rfl rfl)
theorem dJ5_add_2 : decode cJ5_add 2 = .ok (.invokevirtual 89, 3) := dk_182 0 89 (dk_at dksJ5_add_0 2 rfl rfl)
theorem dJ5_add_5 : decode cJ5_add 5 = .ok (.ireturn, 1) := dk_172 (dk_at dksJ5_add_0 5 rfl rfl)
abbrev cJ5_offer : ByteArray := prog_61_method_14_code
def yJ5_offer : MethodName := ⟨RJ5, "offer", "(Ljava/lang/Object;)Z"⟩
def dkwJ5_offer_2 : List UInt8 := [182, 0, 100, 42, 28, 4, 96, 181, 0, 58, 4, 172]
abbrev dktJ5_offer_2 : List UInt8 := dkwJ5_offer_2 ++ []
def dkwJ5_offer_1 : List UInt8 := [180, 0, 58, 61, 28, 42, 180, 0, 17, 190, 161, 0, 10, 42, 28, 4, 96, 182, 0, 96, 42, 28, 43]
abbrev dktJ5_offer_1 : List UInt8 := dkwJ5_offer_1 ++ dktJ5_offer_2
def dkwJ5_offer_0 : List UInt8 := [43, 199, 0, 11, 187, 0, 74, 89, 183, 0, 76, 191, 42, 89, 180, 0, 93, 4, 96, 181, 0, 93, 42]
abbrev dktJ5_offer_0 : List UInt8 := dkwJ5_offer_0 ++ dktJ5_offer_1
theorem dksJ5_offer_0 : cJ5_offer.data.toList.drop 0 = dktJ5_offer_0 := by decide +kernel
theorem dksJ5_offer_1 : cJ5_offer.data.toList.drop 23 = dktJ5_offer_1 := dk_seg dksJ5_offer_0 23 rfl rfl
theorem dksJ5_offer_2 : cJ5_offer.data.toList.drop 46 = dktJ5_offer_2 := dk_seg dksJ5_offer_1 23 rfl rfl
theorem dJ5_offer_0 : decode cJ5_offer 0 = .ok (.aload_n 1, 1) := dk_43 (dk_at dksJ5_offer_0 0 rfl rfl)
theorem dJ5_offer_1 : decode cJ5_offer 1 = .ok (.ifnonnull 11, 3) := dk_199 0 11 (dk_at dksJ5_offer_0 1 rfl rfl)
theorem dJ5_offer_4 : decode cJ5_offer 4 = .ok (.new 74, 3) := dk_187 0 74 (dk_at dksJ5_offer_0 4 rfl rfl)
theorem dJ5_offer_7 : decode cJ5_offer 7 = .ok (.dup, 1) := dk_89 (dk_at dksJ5_offer_0 7 rfl rfl)
theorem dJ5_offer_8 : decode cJ5_offer 8 = .ok (.invokespecial 76, 3) := dk_183 0 76 (dk_at dksJ5_offer_0 8 rfl rfl)
theorem dJ5_offer_11 : decode cJ5_offer 11 = .ok (.athrow, 1) := dk_191 (dk_at dksJ5_offer_0 11 rfl rfl)
theorem dJ5_offer_12 : decode cJ5_offer 12 = .ok (.aload_n 0, 1) := dk_42 (dk_at dksJ5_offer_0 12 rfl rfl)
theorem dJ5_offer_13 : decode cJ5_offer 13 = .ok (.dup, 1) := dk_89 (dk_at dksJ5_offer_0 13 rfl rfl)
theorem dJ5_offer_14 : decode cJ5_offer 14 = .ok (.getfield 93, 3) := dk_180 0 93 (dk_at dksJ5_offer_0 14 rfl rfl)
theorem dJ5_offer_17 : decode cJ5_offer 17 = .ok (.iconst 1, 1) := dk_4 (dk_at dksJ5_offer_0 17 rfl rfl)
theorem dJ5_offer_18 : decode cJ5_offer 18 = .ok (.iadd, 1) := dk_96 (dk_at dksJ5_offer_0 18 rfl rfl)
theorem dJ5_offer_19 : decode cJ5_offer 19 = .ok (.putfield 93, 3) := dk_181 0 93 (dk_at dksJ5_offer_0 19 rfl rfl)
theorem dJ5_offer_22 : decode cJ5_offer 22 = .ok (.aload_n 0, 1) := dk_42 (dk_at dksJ5_offer_0 22 rfl rfl)
theorem dJ5_offer_23 : decode cJ5_offer 23 = .ok (.getfield 58, 3) := dk_180 0 58 (dk_at dksJ5_offer_1 0 rfl rfl)
theorem dJ5_offer_26 : decode cJ5_offer 26 = .ok (.istore_n 2, 1) := dk_61 (dk_at dksJ5_offer_1 3 rfl rfl)
theorem dJ5_offer_27 : decode cJ5_offer 27 = .ok (.iload_n 2, 1) := dk_28 (dk_at dksJ5_offer_1 4 rfl rfl)
theorem dJ5_offer_28 : decode cJ5_offer 28 = .ok (.aload_n 0, 1) := dk_42 (dk_at dksJ5_offer_1 5 rfl rfl)
theorem dJ5_offer_29 : decode cJ5_offer 29 = .ok (.getfield 17, 3) := dk_180 0 17 (dk_at dksJ5_offer_1 6 rfl rfl)
theorem dJ5_offer_32 : decode cJ5_offer 32 = .ok (.arraylength, 1) := dk_190 (dk_at dksJ5_offer_1 9 rfl rfl)
theorem dJ5_offer_33 : decode cJ5_offer 33 = .ok (.if_icmp .lt 10, 3) := dk_161 0 10 (dk_at dksJ5_offer_1 10 rfl rfl)
theorem dJ5_offer_36 : decode cJ5_offer 36 = .ok (.aload_n 0, 1) := dk_42 (dk_at dksJ5_offer_1 13 rfl rfl)
theorem dJ5_offer_37 : decode cJ5_offer 37 = .ok (.iload_n 2, 1) := dk_28 (dk_at dksJ5_offer_1 14 rfl rfl)
theorem dJ5_offer_38 : decode cJ5_offer 38 = .ok (.iconst 1, 1) := dk_4 (dk_at dksJ5_offer_1 15 rfl rfl)
theorem dJ5_offer_39 : decode cJ5_offer 39 = .ok (.iadd, 1) := dk_96 (dk_at dksJ5_offer_1 16 rfl rfl)
theorem dJ5_offer_40 : decode cJ5_offer 40 = .ok (.invokevirtual 96, 3) := dk_182 0 96 (dk_at dksJ5_offer_1 17 rfl rfl)
theorem dJ5_offer_43 : decode cJ5_offer 43 = .ok (.aload_n 0, 1) := dk_42 (dk_at dksJ5_offer_1 20 rfl rfl)
theorem dJ5_offer_44 : decode cJ5_offer 44 = .ok (.iload_n 2, 1) := dk_28 (dk_at dksJ5_offer_1 21 rfl rfl)
theorem dJ5_offer_45 : decode cJ5_offer 45 = .ok (.aload_n 1, 1) := dk_43 (dk_at dksJ5_offer_1 22 rfl rfl)
theorem dJ5_offer_46 : decode cJ5_offer 46 = .ok (.invokevirtual 100, 3) := dk_182 0 100 (dk_at dksJ5_offer_2 0 rfl rfl)
theorem dJ5_offer_49 : decode cJ5_offer 49 = .ok (.aload_n 0, 1) := dk_42 (dk_at dksJ5_offer_2 3 rfl rfl)
theorem dJ5_offer_50 : decode cJ5_offer 50 = .ok (.iload_n 2, 1) := dk_28 (dk_at dksJ5_offer_2 4 rfl rfl)
theorem dJ5_offer_51 : decode cJ5_offer 51 = .ok (.iconst 1, 1) := dk_4 (dk_at dksJ5_offer_2 5 rfl rfl)
theorem dJ5_offer_52 : decode cJ5_offer 52 = .ok (.iadd, 1) := dk_96 (dk_at dksJ5_offer_2 6 rfl rfl)
theorem dJ5_offer_53 : decode cJ5_offer 53 = .ok (.putfield 58, 3) := dk_181 0 58 (dk_at dksJ5_offer_2 7 rfl rfl)
theorem dJ5_offer_56 : decode cJ5_offer 56 = .ok (.iconst 1, 1) := dk_4 (dk_at dksJ5_offer_2 10 rfl rfl)
theorem dJ5_offer_57 : decode cJ5_offer 57 = .ok (.ireturn, 1) := dk_172 (dk_at dksJ5_offer_2 11 rfl rfl)
abbrev cJ5_grow : ByteArray := prog_61_method_12_code
def yJ5_grow : MethodName := ⟨RJ5, "grow", "(I)V"⟩
def dkwJ5_grow_1 : List UInt8 := [122, 184, 0, 80, 62, 42, 42, 180, 0, 17, 29, 184, 0, 86, 181, 0, 17, 177]
abbrev dktJ5_grow_1 : List UInt8 := dkwJ5_grow_1 ++ []
def dkwJ5_grow_0 : List UInt8 := [42, 180, 0, 17, 190, 61, 28, 27, 28, 100, 28, 16, 64, 162, 0, 9, 28, 5, 96, 167, 0, 6, 28, 4]
abbrev dktJ5_grow_0 : List UInt8 := dkwJ5_grow_0 ++ dktJ5_grow_1
theorem dksJ5_grow_0 : cJ5_grow.data.toList.drop 0 = dktJ5_grow_0 := by decide +kernel
theorem dksJ5_grow_1 : cJ5_grow.data.toList.drop 24 = dktJ5_grow_1 := dk_seg dksJ5_grow_0 24 rfl rfl
theorem dJ5_grow_0 : decode cJ5_grow 0 = .ok (.aload_n 0, 1) := dk_42 (dk_at dksJ5_grow_0 0 rfl rfl)
theorem dJ5_grow_1 : decode cJ5_grow 1 = .ok (.getfield 17, 3) := dk_180 0 17 (dk_at dksJ5_grow_0 1 rfl rfl)
theorem dJ5_grow_4 : decode cJ5_grow 4 = .ok (.arraylength, 1) := dk_190 (dk_at dksJ5_grow_0 4 rfl rfl)
theorem dJ5_grow_5 : decode cJ5_grow 5 = .ok (.istore_n 2, 1) := dk_61 (dk_at dksJ5_grow_0 5 rfl rfl)
theorem dJ5_grow_6 : decode cJ5_grow 6 = .ok (.iload_n 2, 1) := dk_28 (dk_at dksJ5_grow_0 6 rfl rfl)
theorem dJ5_grow_7 : decode cJ5_grow 7 = .ok (.iload_n 1, 1) := dk_27 (dk_at dksJ5_grow_0 7 rfl rfl)
theorem dJ5_grow_8 : decode cJ5_grow 8 = .ok (.iload_n 2, 1) := dk_28 (dk_at dksJ5_grow_0 8 rfl rfl)
theorem dJ5_grow_9 : decode cJ5_grow 9 = .ok (.isub, 1) := dk_100 (dk_at dksJ5_grow_0 9 rfl rfl)
theorem dJ5_grow_10 : decode cJ5_grow 10 = .ok (.iload_n 2, 1) := dk_28 (dk_at dksJ5_grow_0 10 rfl rfl)
theorem dJ5_grow_11 : decode cJ5_grow 11 = .ok (.bipush 64, 2) := dk_16 64 (dk_at dksJ5_grow_0 11 rfl rfl)
theorem dJ5_grow_13 : decode cJ5_grow 13 = .ok (.if_icmp .ge 9, 3) := dk_162 0 9 (dk_at dksJ5_grow_0 13 rfl rfl)
theorem dJ5_grow_16 : decode cJ5_grow 16 = .ok (.iload_n 2, 1) := dk_28 (dk_at dksJ5_grow_0 16 rfl rfl)
theorem dJ5_grow_17 : decode cJ5_grow 17 = .ok (.iconst 2, 1) := dk_5 (dk_at dksJ5_grow_0 17 rfl rfl)
theorem dJ5_grow_18 : decode cJ5_grow 18 = .ok (.iadd, 1) := dk_96 (dk_at dksJ5_grow_0 18 rfl rfl)
theorem dJ5_grow_19 : decode cJ5_grow 19 = .ok (.goto 6, 3) := dk_167 0 6 (dk_at dksJ5_grow_0 19 rfl rfl)
theorem dJ5_grow_22 : decode cJ5_grow 22 = .ok (.iload_n 2, 1) := dk_28 (dk_at dksJ5_grow_0 22 rfl rfl)
theorem dJ5_grow_23 : decode cJ5_grow 23 = .ok (.iconst 1, 1) := dk_4 (dk_at dksJ5_grow_0 23 rfl rfl)
theorem dJ5_grow_24 : decode cJ5_grow 24 = .ok (.ishr, 1) := dk_122 (dk_at dksJ5_grow_1 0 rfl rfl)
theorem dJ5_grow_25 : decode cJ5_grow 25 = .ok (.invokestatic 80, 3) := dk_184 0 80 (dk_at dksJ5_grow_1 1 rfl rfl)
theorem dJ5_grow_28 : decode cJ5_grow 28 = .ok (.istore_n 3, 1) := dk_62 (dk_at dksJ5_grow_1 4 rfl rfl)
theorem dJ5_grow_29 : decode cJ5_grow 29 = .ok (.aload_n 0, 1) := dk_42 (dk_at dksJ5_grow_1 5 rfl rfl)
theorem dJ5_grow_30 : decode cJ5_grow 30 = .ok (.aload_n 0, 1) := dk_42 (dk_at dksJ5_grow_1 6 rfl rfl)
theorem dJ5_grow_31 : decode cJ5_grow 31 = .ok (.getfield 17, 3) := dk_180 0 17 (dk_at dksJ5_grow_1 7 rfl rfl)
theorem dJ5_grow_34 : decode cJ5_grow 34 = .ok (.iload_n 3, 1) := dk_29 (dk_at dksJ5_grow_1 10 rfl rfl)
theorem dJ5_grow_35 : decode cJ5_grow 35 = .ok (.invokestatic 86, 3) := dk_184 0 86 (dk_at dksJ5_grow_1 11 rfl rfl)
theorem dJ5_grow_38 : decode cJ5_grow 38 = .ok (.putfield 17, 3) := dk_181 0 17 (dk_at dksJ5_grow_1 14 rfl rfl)
theorem dJ5_grow_41 : decode cJ5_grow 41 = .ok (.return_, 1) := dk_177 (dk_at dksJ5_grow_1 17 rfl rfl)
abbrev cJ5_siftUp : ByteArray := prog_61_method_27_code
def yJ5_siftUp : MethodName := ⟨RJ5, "siftUp", "(ILjava/lang/Object;)V"⟩
def dkwJ5_siftUp_1 : List UInt8 := [44, 42, 180, 0, 17, 184, 0, 140, 177]
abbrev dktJ5_siftUp_1 : List UInt8 := dkwJ5_siftUp_1 ++ []
def dkwJ5_siftUp_0 : List UInt8 := [42, 180, 0, 21, 198, 0, 19, 27, 44, 42, 180, 0, 17, 42, 180, 0, 21, 184, 0, 136, 167, 0, 12, 27]
abbrev dktJ5_siftUp_0 : List UInt8 := dkwJ5_siftUp_0 ++ dktJ5_siftUp_1
theorem dksJ5_siftUp_0 : cJ5_siftUp.data.toList.drop 0 = dktJ5_siftUp_0 := by decide +kernel
theorem dksJ5_siftUp_1 : cJ5_siftUp.data.toList.drop 24 = dktJ5_siftUp_1 := dk_seg dksJ5_siftUp_0 24 rfl rfl
theorem dJ5_siftUp_0 : decode cJ5_siftUp 0 = .ok (.aload_n 0, 1) := dk_42 (dk_at dksJ5_siftUp_0 0 rfl rfl)
theorem dJ5_siftUp_1 : decode cJ5_siftUp 1 = .ok (.getfield 21, 3) := dk_180 0 21 (dk_at dksJ5_siftUp_0 1 rfl rfl)
theorem dJ5_siftUp_4 : decode cJ5_siftUp 4 = .ok (.ifnull 19, 3) := dk_198 0 19 (dk_at dksJ5_siftUp_0 4 rfl rfl)
theorem dJ5_siftUp_7 : decode cJ5_siftUp 7 = .ok (.iload_n 1, 1) := dk_27 (dk_at dksJ5_siftUp_0 7 rfl rfl)
theorem dJ5_siftUp_8 : decode cJ5_siftUp 8 = .ok (.aload_n 2, 1) := dk_44 (dk_at dksJ5_siftUp_0 8 rfl rfl)
theorem dJ5_siftUp_9 : decode cJ5_siftUp 9 = .ok (.aload_n 0, 1) := dk_42 (dk_at dksJ5_siftUp_0 9 rfl rfl)
theorem dJ5_siftUp_10 : decode cJ5_siftUp 10 = .ok (.getfield 17, 3) := dk_180 0 17 (dk_at dksJ5_siftUp_0 10 rfl rfl)
theorem dJ5_siftUp_13 : decode cJ5_siftUp 13 = .ok (.aload_n 0, 1) := dk_42 (dk_at dksJ5_siftUp_0 13 rfl rfl)
theorem dJ5_siftUp_14 : decode cJ5_siftUp 14 = .ok (.getfield 21, 3) := dk_180 0 21 (dk_at dksJ5_siftUp_0 14 rfl rfl)
theorem dJ5_siftUp_17 : decode cJ5_siftUp 17 = .ok (.invokestatic 136, 3) := dk_184 0 136 (dk_at dksJ5_siftUp_0 17 rfl rfl)
theorem dJ5_siftUp_20 : decode cJ5_siftUp 20 = .ok (.goto 12, 3) := dk_167 0 12 (dk_at dksJ5_siftUp_0 20 rfl rfl)
theorem dJ5_siftUp_23 : decode cJ5_siftUp 23 = .ok (.iload_n 1, 1) := dk_27 (dk_at dksJ5_siftUp_0 23 rfl rfl)
theorem dJ5_siftUp_24 : decode cJ5_siftUp 24 = .ok (.aload_n 2, 1) := dk_44 (dk_at dksJ5_siftUp_1 0 rfl rfl)
theorem dJ5_siftUp_25 : decode cJ5_siftUp 25 = .ok (.aload_n 0, 1) := dk_42 (dk_at dksJ5_siftUp_1 1 rfl rfl)
theorem dJ5_siftUp_26 : decode cJ5_siftUp 26 = .ok (.getfield 17, 3) := dk_180 0 17 (dk_at dksJ5_siftUp_1 2 rfl rfl)
theorem dJ5_siftUp_29 : decode cJ5_siftUp 29 = .ok (.invokestatic 140, 3) := dk_184 0 140 (dk_at dksJ5_siftUp_1 5 rfl rfl)
theorem dJ5_siftUp_32 : decode cJ5_siftUp 32 = .ok (.return_, 1) := dk_177 (dk_at dksJ5_siftUp_1 8 rfl rfl)
abbrev cJ5_siftUpUsingComparator : ByteArray := prog_61_method_29_code
def yJ5_siftUpUsingComparator : MethodName := ⟨RJ5, "siftUpUsingComparator", "(ILjava/lang/Object;[Ljava/lang/Object;Ljava/util/Comparator;)V"⟩
def dkwJ5_siftUpUsingComparator_2 : List UInt8 := [43, 83, 177]
abbrev dktJ5_siftUpUsingComparator_2 : List UInt8 := dkwJ5_siftUpUsingComparator_2 ++ []
def dkwJ5_siftUpUsingComparator_1 : List UInt8 := [185, 0, 149, 3, 0, 155, 0, 6, 167, 0, 14, 44, 26, 25, 5, 83, 21, 4, 59, 167, 255, 216, 44, 26]
abbrev dktJ5_siftUpUsingComparator_1 : List UInt8 := dkwJ5_siftUpUsingComparator_1 ++ dktJ5_siftUpUsingComparator_2
def dkwJ5_siftUpUsingComparator_0 : List UInt8 := [26, 158, 0, 42, 26, 4, 100, 4, 124, 54, 4, 44, 21, 4, 50, 58, 5, 45, 43, 25, 5]
abbrev dktJ5_siftUpUsingComparator_0 : List UInt8 := dkwJ5_siftUpUsingComparator_0 ++ dktJ5_siftUpUsingComparator_1
theorem dksJ5_siftUpUsingComparator_0 : cJ5_siftUpUsingComparator.data.toList.drop 0 = dktJ5_siftUpUsingComparator_0 := by decide +kernel
theorem dksJ5_siftUpUsingComparator_1 : cJ5_siftUpUsingComparator.data.toList.drop 21 = dktJ5_siftUpUsingComparator_1 := dk_seg dksJ5_siftUpUsingComparator_0 21 rfl rfl
theorem dksJ5_siftUpUsingComparator_2 : cJ5_siftUpUsingComparator.data.toList.drop 45 = dktJ5_siftUpUsingComparator_2 := dk_seg dksJ5_siftUpUsingComparator_1 24 rfl rfl
theorem dJ5_siftUpUsingComparator_0 : decode cJ5_siftUpUsingComparator 0 = .ok (.iload_n 0, 1) := dk_26 (dk_at dksJ5_siftUpUsingComparator_0 0 rfl rfl)
theorem dJ5_siftUpUsingComparator_1 : decode cJ5_siftUpUsingComparator 1 = .ok (.ifCond .le 42, 3) := dk_158 0 42 (dk_at dksJ5_siftUpUsingComparator_0 1 rfl rfl)
theorem dJ5_siftUpUsingComparator_4 : decode cJ5_siftUpUsingComparator 4 = .ok (.iload_n 0, 1) := dk_26 (dk_at dksJ5_siftUpUsingComparator_0 4 rfl rfl)
theorem dJ5_siftUpUsingComparator_5 : decode cJ5_siftUpUsingComparator 5 = .ok (.iconst 1, 1) := dk_4 (dk_at dksJ5_siftUpUsingComparator_0 5 rfl rfl)
theorem dJ5_siftUpUsingComparator_6 : decode cJ5_siftUpUsingComparator 6 = .ok (.isub, 1) := dk_100 (dk_at dksJ5_siftUpUsingComparator_0 6 rfl rfl)
theorem dJ5_siftUpUsingComparator_7 : decode cJ5_siftUpUsingComparator 7 = .ok (.iconst 1, 1) := dk_4 (dk_at dksJ5_siftUpUsingComparator_0 7 rfl rfl)
theorem dJ5_siftUpUsingComparator_8 : decode cJ5_siftUpUsingComparator 8 = .ok (.iushr, 1) := dk_124 (dk_at dksJ5_siftUpUsingComparator_0 8 rfl rfl)
theorem dJ5_siftUpUsingComparator_9 : decode cJ5_siftUpUsingComparator 9 = .ok (.istore 4, 2) := dk_54 4 (dk_at dksJ5_siftUpUsingComparator_0 9 rfl rfl)
theorem dJ5_siftUpUsingComparator_11 : decode cJ5_siftUpUsingComparator 11 = .ok (.aload_n 2, 1) := dk_44 (dk_at dksJ5_siftUpUsingComparator_0 11 rfl rfl)
theorem dJ5_siftUpUsingComparator_12 : decode cJ5_siftUpUsingComparator 12 = .ok (.iload 4, 2) := dk_21 4 (dk_at dksJ5_siftUpUsingComparator_0 12 rfl rfl)
theorem dJ5_siftUpUsingComparator_14 : decode cJ5_siftUpUsingComparator 14 = .ok (.aaload, 1) := dk_50 (dk_at dksJ5_siftUpUsingComparator_0 14 rfl rfl)
theorem dJ5_siftUpUsingComparator_15 : decode cJ5_siftUpUsingComparator 15 = .ok (.astore 5, 2) := dk_58 5 (dk_at dksJ5_siftUpUsingComparator_0 15 rfl rfl)
theorem dJ5_siftUpUsingComparator_17 : decode cJ5_siftUpUsingComparator 17 = .ok (.aload_n 3, 1) := dk_45 (dk_at dksJ5_siftUpUsingComparator_0 17 rfl rfl)
theorem dJ5_siftUpUsingComparator_18 : decode cJ5_siftUpUsingComparator 18 = .ok (.aload_n 1, 1) := dk_43 (dk_at dksJ5_siftUpUsingComparator_0 18 rfl rfl)
theorem dJ5_siftUpUsingComparator_19 : decode cJ5_siftUpUsingComparator 19 = .ok (.aload 5, 2) := dk_25 5 (dk_at dksJ5_siftUpUsingComparator_0 19 rfl rfl)
theorem dJ5_siftUpUsingComparator_21 : decode cJ5_siftUpUsingComparator 21 = .ok (.invokeinterface 149 3, 5) := by decide +kernel
theorem dJ5_siftUpUsingComparator_26 : decode cJ5_siftUpUsingComparator 26 = .ok (.ifCond .lt 6, 3) := dk_155 0 6 (dk_at dksJ5_siftUpUsingComparator_1 5 rfl rfl)
theorem dJ5_siftUpUsingComparator_29 : decode cJ5_siftUpUsingComparator 29 = .ok (.goto 14, 3) := dk_167 0 14 (dk_at dksJ5_siftUpUsingComparator_1 8 rfl rfl)
theorem dJ5_siftUpUsingComparator_32 : decode cJ5_siftUpUsingComparator 32 = .ok (.aload_n 2, 1) := dk_44 (dk_at dksJ5_siftUpUsingComparator_1 11 rfl rfl)
theorem dJ5_siftUpUsingComparator_33 : decode cJ5_siftUpUsingComparator 33 = .ok (.iload_n 0, 1) := dk_26 (dk_at dksJ5_siftUpUsingComparator_1 12 rfl rfl)
theorem dJ5_siftUpUsingComparator_34 : decode cJ5_siftUpUsingComparator 34 = .ok (.aload 5, 2) := dk_25 5 (dk_at dksJ5_siftUpUsingComparator_1 13 rfl rfl)
theorem dJ5_siftUpUsingComparator_36 : decode cJ5_siftUpUsingComparator 36 = .ok (.aastore, 1) := dk_83 (dk_at dksJ5_siftUpUsingComparator_1 15 rfl rfl)
theorem dJ5_siftUpUsingComparator_37 : decode cJ5_siftUpUsingComparator 37 = .ok (.iload 4, 2) := dk_21 4 (dk_at dksJ5_siftUpUsingComparator_1 16 rfl rfl)
theorem dJ5_siftUpUsingComparator_39 : decode cJ5_siftUpUsingComparator 39 = .ok (.istore_n 0, 1) := dk_59 (dk_at dksJ5_siftUpUsingComparator_1 18 rfl rfl)
theorem dJ5_siftUpUsingComparator_40 : decode cJ5_siftUpUsingComparator 40 = .ok (.goto (-40), 3) := dk_167 255 216 (dk_at dksJ5_siftUpUsingComparator_1 19 rfl rfl)
theorem dJ5_siftUpUsingComparator_43 : decode cJ5_siftUpUsingComparator 43 = .ok (.aload_n 2, 1) := dk_44 (dk_at dksJ5_siftUpUsingComparator_1 22 rfl rfl)
theorem dJ5_siftUpUsingComparator_44 : decode cJ5_siftUpUsingComparator 44 = .ok (.iload_n 0, 1) := dk_26 (dk_at dksJ5_siftUpUsingComparator_1 23 rfl rfl)
theorem dJ5_siftUpUsingComparator_45 : decode cJ5_siftUpUsingComparator 45 = .ok (.aload_n 1, 1) := dk_43 (dk_at dksJ5_siftUpUsingComparator_2 0 rfl rfl)
theorem dJ5_siftUpUsingComparator_46 : decode cJ5_siftUpUsingComparator 46 = .ok (.aastore, 1) := dk_83 (dk_at dksJ5_siftUpUsingComparator_2 1 rfl rfl)
theorem dJ5_siftUpUsingComparator_47 : decode cJ5_siftUpUsingComparator 47 = .ok (.return_, 1) := dk_177 (dk_at dksJ5_siftUpUsingComparator_2 2 rfl rfl)
abbrev cJ5_siftUpComparable : ByteArray := prog_61_method_28_code
def yJ5_siftUpComparable : MethodName := ⟨RJ5, "siftUpComparable", "(ILjava/lang/Object;[Ljava/lang/Object;)V"⟩
def dkwJ5_siftUpComparable_2 : List UInt8 := [44, 26, 45, 83, 177]
abbrev dktJ5_siftUpComparable_2 : List UInt8 := dkwJ5_siftUpComparable_2 ++ []
def dkwJ5_siftUpComparable_1 : List UInt8 := [25, 5, 185, 0, 146, 2, 0, 155, 0, 6, 167, 0, 14, 44, 26, 25, 5, 83, 21, 4, 59, 167, 255, 217]
abbrev dktJ5_siftUpComparable_1 : List UInt8 := dkwJ5_siftUpComparable_1 ++ dktJ5_siftUpComparable_2
def dkwJ5_siftUpComparable_0 : List UInt8 := [43, 192, 0, 144, 78, 26, 158, 0, 41, 26, 4, 100, 4, 124, 54, 4, 44, 21, 4, 50, 58, 5, 45]
abbrev dktJ5_siftUpComparable_0 : List UInt8 := dkwJ5_siftUpComparable_0 ++ dktJ5_siftUpComparable_1
theorem dksJ5_siftUpComparable_0 : cJ5_siftUpComparable.data.toList.drop 0 = dktJ5_siftUpComparable_0 := by decide +kernel
theorem dksJ5_siftUpComparable_1 : cJ5_siftUpComparable.data.toList.drop 23 = dktJ5_siftUpComparable_1 := dk_seg dksJ5_siftUpComparable_0 23 rfl rfl
theorem dksJ5_siftUpComparable_2 : cJ5_siftUpComparable.data.toList.drop 47 = dktJ5_siftUpComparable_2 := dk_seg dksJ5_siftUpComparable_1 24 rfl rfl
theorem dJ5_siftUpComparable_0 : decode cJ5_siftUpComparable 0 = .ok (.aload_n 1, 1) := dk_43 (dk_at dksJ5_siftUpComparable_0 0 rfl rfl)
theorem dJ5_siftUpComparable_1 : decode cJ5_siftUpComparable 1 = .ok (.checkcast 144, 3) := dk_192 0 144 (dk_at dksJ5_siftUpComparable_0 1 rfl rfl)
theorem dJ5_siftUpComparable_4 : decode cJ5_siftUpComparable 4 = .ok (.astore_n 3, 1) := dk_78 (dk_at dksJ5_siftUpComparable_0 4 rfl rfl)
theorem dJ5_siftUpComparable_5 : decode cJ5_siftUpComparable 5 = .ok (.iload_n 0, 1) := dk_26 (dk_at dksJ5_siftUpComparable_0 5 rfl rfl)
theorem dJ5_siftUpComparable_6 : decode cJ5_siftUpComparable 6 = .ok (.ifCond .le 41, 3) := dk_158 0 41 (dk_at dksJ5_siftUpComparable_0 6 rfl rfl)
theorem dJ5_siftUpComparable_9 : decode cJ5_siftUpComparable 9 = .ok (.iload_n 0, 1) := dk_26 (dk_at dksJ5_siftUpComparable_0 9 rfl rfl)
theorem dJ5_siftUpComparable_10 : decode cJ5_siftUpComparable 10 = .ok (.iconst 1, 1) := dk_4 (dk_at dksJ5_siftUpComparable_0 10 rfl rfl)
theorem dJ5_siftUpComparable_11 : decode cJ5_siftUpComparable 11 = .ok (.isub, 1) := dk_100 (dk_at dksJ5_siftUpComparable_0 11 rfl rfl)
theorem dJ5_siftUpComparable_12 : decode cJ5_siftUpComparable 12 = .ok (.iconst 1, 1) := dk_4 (dk_at dksJ5_siftUpComparable_0 12 rfl rfl)
theorem dJ5_siftUpComparable_13 : decode cJ5_siftUpComparable 13 = .ok (.iushr, 1) := dk_124 (dk_at dksJ5_siftUpComparable_0 13 rfl rfl)
theorem dJ5_siftUpComparable_14 : decode cJ5_siftUpComparable 14 = .ok (.istore 4, 2) := dk_54 4 (dk_at dksJ5_siftUpComparable_0 14 rfl rfl)
theorem dJ5_siftUpComparable_16 : decode cJ5_siftUpComparable 16 = .ok (.aload_n 2, 1) := dk_44 (dk_at dksJ5_siftUpComparable_0 16 rfl rfl)
theorem dJ5_siftUpComparable_17 : decode cJ5_siftUpComparable 17 = .ok (.iload 4, 2) := dk_21 4 (dk_at dksJ5_siftUpComparable_0 17 rfl rfl)
theorem dJ5_siftUpComparable_19 : decode cJ5_siftUpComparable 19 = .ok (.aaload, 1) := dk_50 (dk_at dksJ5_siftUpComparable_0 19 rfl rfl)
theorem dJ5_siftUpComparable_20 : decode cJ5_siftUpComparable 20 = .ok (.astore 5, 2) := dk_58 5 (dk_at dksJ5_siftUpComparable_0 20 rfl rfl)
theorem dJ5_siftUpComparable_22 : decode cJ5_siftUpComparable 22 = .ok (.aload_n 3, 1) := dk_45 (dk_at dksJ5_siftUpComparable_0 22 rfl rfl)
theorem dJ5_siftUpComparable_23 : decode cJ5_siftUpComparable 23 = .ok (.aload 5, 2) := dk_25 5 (dk_at dksJ5_siftUpComparable_1 0 rfl rfl)
theorem dJ5_siftUpComparable_25 : decode cJ5_siftUpComparable 25 = .ok (.invokeinterface 146 2, 5) := by decide +kernel
theorem dJ5_siftUpComparable_30 : decode cJ5_siftUpComparable 30 = .ok (.ifCond .lt 6, 3) := dk_155 0 6 (dk_at dksJ5_siftUpComparable_1 7 rfl rfl)
theorem dJ5_siftUpComparable_33 : decode cJ5_siftUpComparable 33 = .ok (.goto 14, 3) := dk_167 0 14 (dk_at dksJ5_siftUpComparable_1 10 rfl rfl)
theorem dJ5_siftUpComparable_36 : decode cJ5_siftUpComparable 36 = .ok (.aload_n 2, 1) := dk_44 (dk_at dksJ5_siftUpComparable_1 13 rfl rfl)
theorem dJ5_siftUpComparable_37 : decode cJ5_siftUpComparable 37 = .ok (.iload_n 0, 1) := dk_26 (dk_at dksJ5_siftUpComparable_1 14 rfl rfl)
theorem dJ5_siftUpComparable_38 : decode cJ5_siftUpComparable 38 = .ok (.aload 5, 2) := dk_25 5 (dk_at dksJ5_siftUpComparable_1 15 rfl rfl)
theorem dJ5_siftUpComparable_40 : decode cJ5_siftUpComparable 40 = .ok (.aastore, 1) := dk_83 (dk_at dksJ5_siftUpComparable_1 17 rfl rfl)
theorem dJ5_siftUpComparable_41 : decode cJ5_siftUpComparable 41 = .ok (.iload 4, 2) := dk_21 4 (dk_at dksJ5_siftUpComparable_1 18 rfl rfl)
theorem dJ5_siftUpComparable_43 : decode cJ5_siftUpComparable 43 = .ok (.istore_n 0, 1) := dk_59 (dk_at dksJ5_siftUpComparable_1 20 rfl rfl)
theorem dJ5_siftUpComparable_44 : decode cJ5_siftUpComparable 44 = .ok (.goto (-39), 3) := dk_167 255 217 (dk_at dksJ5_siftUpComparable_1 21 rfl rfl)
theorem dJ5_siftUpComparable_47 : decode cJ5_siftUpComparable 47 = .ok (.aload_n 2, 1) := dk_44 (dk_at dksJ5_siftUpComparable_2 0 rfl rfl)
theorem dJ5_siftUpComparable_48 : decode cJ5_siftUpComparable 48 = .ok (.iload_n 0, 1) := dk_26 (dk_at dksJ5_siftUpComparable_2 1 rfl rfl)
theorem dJ5_siftUpComparable_49 : decode cJ5_siftUpComparable 49 = .ok (.aload_n 3, 1) := dk_45 (dk_at dksJ5_siftUpComparable_2 2 rfl rfl)
theorem dJ5_siftUpComparable_50 : decode cJ5_siftUpComparable 50 = .ok (.aastore, 1) := dk_83 (dk_at dksJ5_siftUpComparable_2 3 rfl rfl)
theorem dJ5_siftUpComparable_51 : decode cJ5_siftUpComparable 51 = .ok (.return_, 1) := dk_177 (dk_at dksJ5_siftUpComparable_2 4 rfl rfl)
abbrev cJ5_peek : ByteArray := prog_61_method_15_code
def yJ5_peek : MethodName := ⟨RJ5, "peek", "()Ljava/lang/Object;"⟩
def dkwJ5_peek_0 : List UInt8 := [42, 180, 0, 17, 3, 50, 176]
abbrev dktJ5_peek_0 : List UInt8 := dkwJ5_peek_0 ++ []
theorem dksJ5_peek_0 : cJ5_peek.data.toList.drop 0 = dktJ5_peek_0 := by decide +kernel
theorem dJ5_peek_0 : decode cJ5_peek 0 = .ok (.aload_n 0, 1) := dk_42 (dk_at dksJ5_peek_0 0 rfl rfl)
theorem dJ5_peek_1 : decode cJ5_peek 1 = .ok (.getfield 17, 3) := dk_180 0 17 (dk_at dksJ5_peek_0 1 rfl rfl)
theorem dJ5_peek_4 : decode cJ5_peek 4 = .ok (.iconst 0, 1) := dk_3 (dk_at dksJ5_peek_0 4 rfl rfl)
theorem dJ5_peek_5 : decode cJ5_peek 5 = .ok (.aaload, 1) := dk_50 (dk_at dksJ5_peek_0 5 rfl rfl)
theorem dJ5_peek_6 : decode cJ5_peek 6 = .ok (.areturn, 1) := dk_176 (dk_at dksJ5_peek_0 6 rfl rfl)
abbrev cJ5_size : ByteArray := prog_61_method_23_code
def yJ5_size : MethodName := ⟨RJ5, "size", "()I"⟩
theorem dJ5_size_0 : decode cJ5_size 0 = .ok (.aload_n 0, 1) := by decide +kernel
theorem dJ5_size_1 : decode cJ5_size 1 = .ok (.getfield 58, 3) := by decide +kernel
theorem dJ5_size_4 : decode cJ5_size 4 = .ok (.ireturn, 1) := by decide +kernel
abbrev cJ5_poll : ByteArray := prog_61_method_25_code
def yJ5_poll : MethodName := ⟨RJ5, "poll", "()Ljava/lang/Object;"⟩
def dkwJ5_poll_3 : List UInt8 := [43, 29, 25, 5, 184, 0, 129, 44, 176]
abbrev dktJ5_poll_3 : List UInt8 := dkwJ5_poll_3 ++ []
def dkwJ5_poll_2 : List UInt8 := [42, 180, 0, 21, 89, 58, 5, 199, 0, 14, 3, 25, 4, 43, 29, 184, 0, 125, 167, 0, 13, 3, 25, 4]
abbrev dktJ5_poll_2 : List UInt8 := dkwJ5_poll_2 ++ dktJ5_poll_3
def dkwJ5_poll_1 : List UInt8 := [42, 89, 180, 0, 58, 4, 100, 90, 181, 0, 58, 89, 62, 50, 58, 4, 43, 29, 1, 83, 29, 158, 0, 34]
abbrev dktJ5_poll_1 : List UInt8 := dkwJ5_poll_1 ++ dktJ5_poll_2
def dkwJ5_poll_0 : List UInt8 := [42, 180, 0, 17, 89, 76, 3, 50, 89, 77, 198, 0, 69, 42, 89, 180, 0, 93, 4, 96, 181, 0, 93, 43]
abbrev dktJ5_poll_0 : List UInt8 := dkwJ5_poll_0 ++ dktJ5_poll_1
theorem dksJ5_poll_0 : cJ5_poll.data.toList.drop 0 = dktJ5_poll_0 := by decide +kernel
theorem dksJ5_poll_1 : cJ5_poll.data.toList.drop 24 = dktJ5_poll_1 := dk_seg dksJ5_poll_0 24 rfl rfl
theorem dksJ5_poll_2 : cJ5_poll.data.toList.drop 48 = dktJ5_poll_2 := dk_seg dksJ5_poll_1 24 rfl rfl
theorem dksJ5_poll_3 : cJ5_poll.data.toList.drop 72 = dktJ5_poll_3 := dk_seg dksJ5_poll_2 24 rfl rfl
theorem dJ5_poll_0 : decode cJ5_poll 0 = .ok (.aload_n 0, 1) := dk_42 (dk_at dksJ5_poll_0 0 rfl rfl)
theorem dJ5_poll_1 : decode cJ5_poll 1 = .ok (.getfield 17, 3) := dk_180 0 17 (dk_at dksJ5_poll_0 1 rfl rfl)
theorem dJ5_poll_4 : decode cJ5_poll 4 = .ok (.dup, 1) := dk_89 (dk_at dksJ5_poll_0 4 rfl rfl)
theorem dJ5_poll_5 : decode cJ5_poll 5 = .ok (.astore_n 1, 1) := dk_76 (dk_at dksJ5_poll_0 5 rfl rfl)
theorem dJ5_poll_6 : decode cJ5_poll 6 = .ok (.iconst 0, 1) := dk_3 (dk_at dksJ5_poll_0 6 rfl rfl)
theorem dJ5_poll_7 : decode cJ5_poll 7 = .ok (.aaload, 1) := dk_50 (dk_at dksJ5_poll_0 7 rfl rfl)
theorem dJ5_poll_8 : decode cJ5_poll 8 = .ok (.dup, 1) := dk_89 (dk_at dksJ5_poll_0 8 rfl rfl)
theorem dJ5_poll_9 : decode cJ5_poll 9 = .ok (.astore_n 2, 1) := dk_77 (dk_at dksJ5_poll_0 9 rfl rfl)
theorem dJ5_poll_10 : decode cJ5_poll 10 = .ok (.ifnull 69, 3) := dk_198 0 69 (dk_at dksJ5_poll_0 10 rfl rfl)
theorem dJ5_poll_13 : decode cJ5_poll 13 = .ok (.aload_n 0, 1) := dk_42 (dk_at dksJ5_poll_0 13 rfl rfl)
theorem dJ5_poll_14 : decode cJ5_poll 14 = .ok (.dup, 1) := dk_89 (dk_at dksJ5_poll_0 14 rfl rfl)
theorem dJ5_poll_15 : decode cJ5_poll 15 = .ok (.getfield 93, 3) := dk_180 0 93 (dk_at dksJ5_poll_0 15 rfl rfl)
theorem dJ5_poll_18 : decode cJ5_poll 18 = .ok (.iconst 1, 1) := dk_4 (dk_at dksJ5_poll_0 18 rfl rfl)
theorem dJ5_poll_19 : decode cJ5_poll 19 = .ok (.iadd, 1) := dk_96 (dk_at dksJ5_poll_0 19 rfl rfl)
theorem dJ5_poll_20 : decode cJ5_poll 20 = .ok (.putfield 93, 3) := dk_181 0 93 (dk_at dksJ5_poll_0 20 rfl rfl)
theorem dJ5_poll_23 : decode cJ5_poll 23 = .ok (.aload_n 1, 1) := dk_43 (dk_at dksJ5_poll_0 23 rfl rfl)
theorem dJ5_poll_24 : decode cJ5_poll 24 = .ok (.aload_n 0, 1) := dk_42 (dk_at dksJ5_poll_1 0 rfl rfl)
theorem dJ5_poll_25 : decode cJ5_poll 25 = .ok (.dup, 1) := dk_89 (dk_at dksJ5_poll_1 1 rfl rfl)
theorem dJ5_poll_26 : decode cJ5_poll 26 = .ok (.getfield 58, 3) := dk_180 0 58 (dk_at dksJ5_poll_1 2 rfl rfl)
theorem dJ5_poll_29 : decode cJ5_poll 29 = .ok (.iconst 1, 1) := dk_4 (dk_at dksJ5_poll_1 5 rfl rfl)
theorem dJ5_poll_30 : decode cJ5_poll 30 = .ok (.isub, 1) := dk_100 (dk_at dksJ5_poll_1 6 rfl rfl)
theorem dJ5_poll_31 : decode cJ5_poll 31 = .ok (.dup_x1, 1) := dk_90 (dk_at dksJ5_poll_1 7 rfl rfl)
theorem dJ5_poll_32 : decode cJ5_poll 32 = .ok (.putfield 58, 3) := dk_181 0 58 (dk_at dksJ5_poll_1 8 rfl rfl)
theorem dJ5_poll_35 : decode cJ5_poll 35 = .ok (.dup, 1) := dk_89 (dk_at dksJ5_poll_1 11 rfl rfl)
theorem dJ5_poll_36 : decode cJ5_poll 36 = .ok (.istore_n 3, 1) := dk_62 (dk_at dksJ5_poll_1 12 rfl rfl)
theorem dJ5_poll_37 : decode cJ5_poll 37 = .ok (.aaload, 1) := dk_50 (dk_at dksJ5_poll_1 13 rfl rfl)
theorem dJ5_poll_38 : decode cJ5_poll 38 = .ok (.astore 4, 2) := dk_58 4 (dk_at dksJ5_poll_1 14 rfl rfl)
theorem dJ5_poll_40 : decode cJ5_poll 40 = .ok (.aload_n 1, 1) := dk_43 (dk_at dksJ5_poll_1 16 rfl rfl)
theorem dJ5_poll_41 : decode cJ5_poll 41 = .ok (.iload_n 3, 1) := dk_29 (dk_at dksJ5_poll_1 17 rfl rfl)
theorem dJ5_poll_42 : decode cJ5_poll 42 = .ok (.aconst_null, 1) := dk_1 (dk_at dksJ5_poll_1 18 rfl rfl)
theorem dJ5_poll_43 : decode cJ5_poll 43 = .ok (.aastore, 1) := dk_83 (dk_at dksJ5_poll_1 19 rfl rfl)
theorem dJ5_poll_44 : decode cJ5_poll 44 = .ok (.iload_n 3, 1) := dk_29 (dk_at dksJ5_poll_1 20 rfl rfl)
theorem dJ5_poll_45 : decode cJ5_poll 45 = .ok (.ifCond .le 34, 3) := dk_158 0 34 (dk_at dksJ5_poll_1 21 rfl rfl)
theorem dJ5_poll_48 : decode cJ5_poll 48 = .ok (.aload_n 0, 1) := dk_42 (dk_at dksJ5_poll_2 0 rfl rfl)
theorem dJ5_poll_49 : decode cJ5_poll 49 = .ok (.getfield 21, 3) := dk_180 0 21 (dk_at dksJ5_poll_2 1 rfl rfl)
theorem dJ5_poll_52 : decode cJ5_poll 52 = .ok (.dup, 1) := dk_89 (dk_at dksJ5_poll_2 4 rfl rfl)
theorem dJ5_poll_53 : decode cJ5_poll 53 = .ok (.astore 5, 2) := dk_58 5 (dk_at dksJ5_poll_2 5 rfl rfl)
theorem dJ5_poll_55 : decode cJ5_poll 55 = .ok (.ifnonnull 14, 3) := dk_199 0 14 (dk_at dksJ5_poll_2 7 rfl rfl)
theorem dJ5_poll_58 : decode cJ5_poll 58 = .ok (.iconst 0, 1) := dk_3 (dk_at dksJ5_poll_2 10 rfl rfl)
theorem dJ5_poll_59 : decode cJ5_poll 59 = .ok (.aload 4, 2) := dk_25 4 (dk_at dksJ5_poll_2 11 rfl rfl)
theorem dJ5_poll_61 : decode cJ5_poll 61 = .ok (.aload_n 1, 1) := dk_43 (dk_at dksJ5_poll_2 13 rfl rfl)
theorem dJ5_poll_62 : decode cJ5_poll 62 = .ok (.iload_n 3, 1) := dk_29 (dk_at dksJ5_poll_2 14 rfl rfl)
theorem dJ5_poll_63 : decode cJ5_poll 63 = .ok (.invokestatic 125, 3) := dk_184 0 125 (dk_at dksJ5_poll_2 15 rfl rfl)
theorem dJ5_poll_66 : decode cJ5_poll 66 = .ok (.goto 13, 3) := dk_167 0 13 (dk_at dksJ5_poll_2 18 rfl rfl)
theorem dJ5_poll_69 : decode cJ5_poll 69 = .ok (.iconst 0, 1) := dk_3 (dk_at dksJ5_poll_2 21 rfl rfl)
theorem dJ5_poll_70 : decode cJ5_poll 70 = .ok (.aload 4, 2) := dk_25 4 (dk_at dksJ5_poll_2 22 rfl rfl)
theorem dJ5_poll_72 : decode cJ5_poll 72 = .ok (.aload_n 1, 1) := dk_43 (dk_at dksJ5_poll_3 0 rfl rfl)
theorem dJ5_poll_73 : decode cJ5_poll 73 = .ok (.iload_n 3, 1) := dk_29 (dk_at dksJ5_poll_3 1 rfl rfl)
theorem dJ5_poll_74 : decode cJ5_poll 74 = .ok (.aload 5, 2) := dk_25 5 (dk_at dksJ5_poll_3 2 rfl rfl)
theorem dJ5_poll_76 : decode cJ5_poll 76 = .ok (.invokestatic 129, 3) := dk_184 0 129 (dk_at dksJ5_poll_3 4 rfl rfl)
theorem dJ5_poll_79 : decode cJ5_poll 79 = .ok (.aload_n 2, 1) := dk_44 (dk_at dksJ5_poll_3 7 rfl rfl)
theorem dJ5_poll_80 : decode cJ5_poll 80 = .ok (.areturn, 1) := dk_176 (dk_at dksJ5_poll_3 8 rfl rfl)
abbrev cJ5_siftDownComparable : ByteArray := prog_61_method_31_code
def yJ5_siftDownComparable : MethodName := ⟨RJ5, "siftDownComparable", "(ILjava/lang/Object;[Ljava/lang/Object;I)V"⟩
def dkwJ5_siftDownComparable_4 : List UInt8 := [25, 4, 83, 177]
abbrev dktJ5_siftDownComparable_4 : List UInt8 := dkwJ5_siftDownComparable_4 ++ []
def dkwJ5_siftDownComparable_3 : List UInt8 := [185, 0, 146, 2, 0, 157, 0, 6, 167, 0, 14, 44, 26, 25, 7, 83, 21, 6, 59, 167, 255, 176, 44, 26]
abbrev dktJ5_siftDownComparable_3 : List UInt8 := dkwJ5_siftDownComparable_3 ++ dktJ5_siftDownComparable_4
def dkwJ5_siftDownComparable_2 : List UInt8 := [21, 8, 50, 185, 0, 146, 2, 0, 158, 0, 12, 44, 21, 8, 89, 54, 6, 50, 58, 7, 25, 4, 25, 7]
abbrev dktJ5_siftDownComparable_2 : List UInt8 := dkwJ5_siftDownComparable_2 ++ dktJ5_siftDownComparable_3
def dkwJ5_siftDownComparable_1 : List UInt8 := [44, 21, 6, 50, 58, 7, 21, 6, 4, 96, 54, 8, 21, 8, 29, 162, 0, 29, 25, 7, 192, 0, 144, 44]
abbrev dktJ5_siftDownComparable_1 : List UInt8 := dkwJ5_siftDownComparable_1 ++ dktJ5_siftDownComparable_2
def dkwJ5_siftDownComparable_0 : List UInt8 := [43, 192, 0, 144, 58, 4, 29, 4, 124, 54, 5, 26, 21, 5, 162, 0, 80, 26, 4, 120, 4, 96, 54, 6]
abbrev dktJ5_siftDownComparable_0 : List UInt8 := dkwJ5_siftDownComparable_0 ++ dktJ5_siftDownComparable_1
theorem dksJ5_siftDownComparable_0 : cJ5_siftDownComparable.data.toList.drop 0 = dktJ5_siftDownComparable_0 := by decide +kernel
theorem dksJ5_siftDownComparable_1 : cJ5_siftDownComparable.data.toList.drop 24 = dktJ5_siftDownComparable_1 := dk_seg dksJ5_siftDownComparable_0 24 rfl rfl
theorem dksJ5_siftDownComparable_2 : cJ5_siftDownComparable.data.toList.drop 48 = dktJ5_siftDownComparable_2 := dk_seg dksJ5_siftDownComparable_1 24 rfl rfl
theorem dksJ5_siftDownComparable_3 : cJ5_siftDownComparable.data.toList.drop 72 = dktJ5_siftDownComparable_3 := dk_seg dksJ5_siftDownComparable_2 24 rfl rfl
theorem dksJ5_siftDownComparable_4 : cJ5_siftDownComparable.data.toList.drop 96 = dktJ5_siftDownComparable_4 := dk_seg dksJ5_siftDownComparable_3 24 rfl rfl
theorem dJ5_siftDownComparable_0 : decode cJ5_siftDownComparable 0 = .ok (.aload_n 1, 1) := dk_43 (dk_at dksJ5_siftDownComparable_0 0 rfl rfl)
theorem dJ5_siftDownComparable_1 : decode cJ5_siftDownComparable 1 = .ok (.checkcast 144, 3) := dk_192 0 144 (dk_at dksJ5_siftDownComparable_0 1 rfl rfl)
theorem dJ5_siftDownComparable_4 : decode cJ5_siftDownComparable 4 = .ok (.astore 4, 2) := dk_58 4 (dk_at dksJ5_siftDownComparable_0 4 rfl rfl)
theorem dJ5_siftDownComparable_6 : decode cJ5_siftDownComparable 6 = .ok (.iload_n 3, 1) := dk_29 (dk_at dksJ5_siftDownComparable_0 6 rfl rfl)
theorem dJ5_siftDownComparable_7 : decode cJ5_siftDownComparable 7 = .ok (.iconst 1, 1) := dk_4 (dk_at dksJ5_siftDownComparable_0 7 rfl rfl)
theorem dJ5_siftDownComparable_8 : decode cJ5_siftDownComparable 8 = .ok (.iushr, 1) := dk_124 (dk_at dksJ5_siftDownComparable_0 8 rfl rfl)
theorem dJ5_siftDownComparable_9 : decode cJ5_siftDownComparable 9 = .ok (.istore 5, 2) := dk_54 5 (dk_at dksJ5_siftDownComparable_0 9 rfl rfl)
theorem dJ5_siftDownComparable_11 : decode cJ5_siftDownComparable 11 = .ok (.iload_n 0, 1) := dk_26 (dk_at dksJ5_siftDownComparable_0 11 rfl rfl)
theorem dJ5_siftDownComparable_12 : decode cJ5_siftDownComparable 12 = .ok (.iload 5, 2) := dk_21 5 (dk_at dksJ5_siftDownComparable_0 12 rfl rfl)
theorem dJ5_siftDownComparable_14 : decode cJ5_siftDownComparable 14 = .ok (.if_icmp .ge 80, 3) := dk_162 0 80 (dk_at dksJ5_siftDownComparable_0 14 rfl rfl)
theorem dJ5_siftDownComparable_17 : decode cJ5_siftDownComparable 17 = .ok (.iload_n 0, 1) := dk_26 (dk_at dksJ5_siftDownComparable_0 17 rfl rfl)
theorem dJ5_siftDownComparable_18 : decode cJ5_siftDownComparable 18 = .ok (.iconst 1, 1) := dk_4 (dk_at dksJ5_siftDownComparable_0 18 rfl rfl)
theorem dJ5_siftDownComparable_19 : decode cJ5_siftDownComparable 19 = .ok (.ishl, 1) := dk_120 (dk_at dksJ5_siftDownComparable_0 19 rfl rfl)
theorem dJ5_siftDownComparable_20 : decode cJ5_siftDownComparable 20 = .ok (.iconst 1, 1) := dk_4 (dk_at dksJ5_siftDownComparable_0 20 rfl rfl)
theorem dJ5_siftDownComparable_21 : decode cJ5_siftDownComparable 21 = .ok (.iadd, 1) := dk_96 (dk_at dksJ5_siftDownComparable_0 21 rfl rfl)
theorem dJ5_siftDownComparable_22 : decode cJ5_siftDownComparable 22 = .ok (.istore 6, 2) := dk_54 6 (dk_at dksJ5_siftDownComparable_0 22 rfl rfl)
theorem dJ5_siftDownComparable_24 : decode cJ5_siftDownComparable 24 = .ok (.aload_n 2, 1) := dk_44 (dk_at dksJ5_siftDownComparable_1 0 rfl rfl)
theorem dJ5_siftDownComparable_25 : decode cJ5_siftDownComparable 25 = .ok (.iload 6, 2) := dk_21 6 (dk_at dksJ5_siftDownComparable_1 1 rfl rfl)
theorem dJ5_siftDownComparable_27 : decode cJ5_siftDownComparable 27 = .ok (.aaload, 1) := dk_50 (dk_at dksJ5_siftDownComparable_1 3 rfl rfl)
theorem dJ5_siftDownComparable_28 : decode cJ5_siftDownComparable 28 = .ok (.astore 7, 2) := dk_58 7 (dk_at dksJ5_siftDownComparable_1 4 rfl rfl)
theorem dJ5_siftDownComparable_30 : decode cJ5_siftDownComparable 30 = .ok (.iload 6, 2) := dk_21 6 (dk_at dksJ5_siftDownComparable_1 6 rfl rfl)
theorem dJ5_siftDownComparable_32 : decode cJ5_siftDownComparable 32 = .ok (.iconst 1, 1) := dk_4 (dk_at dksJ5_siftDownComparable_1 8 rfl rfl)
theorem dJ5_siftDownComparable_33 : decode cJ5_siftDownComparable 33 = .ok (.iadd, 1) := dk_96 (dk_at dksJ5_siftDownComparable_1 9 rfl rfl)
theorem dJ5_siftDownComparable_34 : decode cJ5_siftDownComparable 34 = .ok (.istore 8, 2) := dk_54 8 (dk_at dksJ5_siftDownComparable_1 10 rfl rfl)
theorem dJ5_siftDownComparable_36 : decode cJ5_siftDownComparable 36 = .ok (.iload 8, 2) := dk_21 8 (dk_at dksJ5_siftDownComparable_1 12 rfl rfl)
theorem dJ5_siftDownComparable_38 : decode cJ5_siftDownComparable 38 = .ok (.iload_n 3, 1) := dk_29 (dk_at dksJ5_siftDownComparable_1 14 rfl rfl)
theorem dJ5_siftDownComparable_39 : decode cJ5_siftDownComparable 39 = .ok (.if_icmp .ge 29, 3) := dk_162 0 29 (dk_at dksJ5_siftDownComparable_1 15 rfl rfl)
theorem dJ5_siftDownComparable_42 : decode cJ5_siftDownComparable 42 = .ok (.aload 7, 2) := dk_25 7 (dk_at dksJ5_siftDownComparable_1 18 rfl rfl)
theorem dJ5_siftDownComparable_44 : decode cJ5_siftDownComparable 44 = .ok (.checkcast 144, 3) := dk_192 0 144 (dk_at dksJ5_siftDownComparable_1 20 rfl rfl)
theorem dJ5_siftDownComparable_47 : decode cJ5_siftDownComparable 47 = .ok (.aload_n 2, 1) := dk_44 (dk_at dksJ5_siftDownComparable_1 23 rfl rfl)
theorem dJ5_siftDownComparable_48 : decode cJ5_siftDownComparable 48 = .ok (.iload 8, 2) := dk_21 8 (dk_at dksJ5_siftDownComparable_2 0 rfl rfl)
theorem dJ5_siftDownComparable_50 : decode cJ5_siftDownComparable 50 = .ok (.aaload, 1) := dk_50 (dk_at dksJ5_siftDownComparable_2 2 rfl rfl)
theorem dJ5_siftDownComparable_51 : decode cJ5_siftDownComparable 51 = .ok (.invokeinterface 146 2, 5) := by decide +kernel
theorem dJ5_siftDownComparable_56 : decode cJ5_siftDownComparable 56 = .ok (.ifCond .le 12, 3) := dk_158 0 12 (dk_at dksJ5_siftDownComparable_2 8 rfl rfl)
theorem dJ5_siftDownComparable_59 : decode cJ5_siftDownComparable 59 = .ok (.aload_n 2, 1) := dk_44 (dk_at dksJ5_siftDownComparable_2 11 rfl rfl)
theorem dJ5_siftDownComparable_60 : decode cJ5_siftDownComparable 60 = .ok (.iload 8, 2) := dk_21 8 (dk_at dksJ5_siftDownComparable_2 12 rfl rfl)
theorem dJ5_siftDownComparable_62 : decode cJ5_siftDownComparable 62 = .ok (.dup, 1) := dk_89 (dk_at dksJ5_siftDownComparable_2 14 rfl rfl)
theorem dJ5_siftDownComparable_63 : decode cJ5_siftDownComparable 63 = .ok (.istore 6, 2) := dk_54 6 (dk_at dksJ5_siftDownComparable_2 15 rfl rfl)
theorem dJ5_siftDownComparable_65 : decode cJ5_siftDownComparable 65 = .ok (.aaload, 1) := dk_50 (dk_at dksJ5_siftDownComparable_2 17 rfl rfl)
theorem dJ5_siftDownComparable_66 : decode cJ5_siftDownComparable 66 = .ok (.astore 7, 2) := dk_58 7 (dk_at dksJ5_siftDownComparable_2 18 rfl rfl)
theorem dJ5_siftDownComparable_68 : decode cJ5_siftDownComparable 68 = .ok (.aload 4, 2) := dk_25 4 (dk_at dksJ5_siftDownComparable_2 20 rfl rfl)
theorem dJ5_siftDownComparable_70 : decode cJ5_siftDownComparable 70 = .ok (.aload 7, 2) := dk_25 7 (dk_at dksJ5_siftDownComparable_2 22 rfl rfl)
theorem dJ5_siftDownComparable_72 : decode cJ5_siftDownComparable 72 = .ok (.invokeinterface 146 2, 5) := by decide +kernel
theorem dJ5_siftDownComparable_77 : decode cJ5_siftDownComparable 77 = .ok (.ifCond .gt 6, 3) := dk_157 0 6 (dk_at dksJ5_siftDownComparable_3 5 rfl rfl)
theorem dJ5_siftDownComparable_80 : decode cJ5_siftDownComparable 80 = .ok (.goto 14, 3) := dk_167 0 14 (dk_at dksJ5_siftDownComparable_3 8 rfl rfl)
theorem dJ5_siftDownComparable_83 : decode cJ5_siftDownComparable 83 = .ok (.aload_n 2, 1) := dk_44 (dk_at dksJ5_siftDownComparable_3 11 rfl rfl)
theorem dJ5_siftDownComparable_84 : decode cJ5_siftDownComparable 84 = .ok (.iload_n 0, 1) := dk_26 (dk_at dksJ5_siftDownComparable_3 12 rfl rfl)
theorem dJ5_siftDownComparable_85 : decode cJ5_siftDownComparable 85 = .ok (.aload 7, 2) := dk_25 7 (dk_at dksJ5_siftDownComparable_3 13 rfl rfl)
theorem dJ5_siftDownComparable_87 : decode cJ5_siftDownComparable 87 = .ok (.aastore, 1) := dk_83 (dk_at dksJ5_siftDownComparable_3 15 rfl rfl)
theorem dJ5_siftDownComparable_88 : decode cJ5_siftDownComparable 88 = .ok (.iload 6, 2) := dk_21 6 (dk_at dksJ5_siftDownComparable_3 16 rfl rfl)
theorem dJ5_siftDownComparable_90 : decode cJ5_siftDownComparable 90 = .ok (.istore_n 0, 1) := dk_59 (dk_at dksJ5_siftDownComparable_3 18 rfl rfl)
theorem dJ5_siftDownComparable_91 : decode cJ5_siftDownComparable 91 = .ok (.goto (-80), 3) := dk_167 255 176 (dk_at dksJ5_siftDownComparable_3 19 rfl rfl)
theorem dJ5_siftDownComparable_94 : decode cJ5_siftDownComparable 94 = .ok (.aload_n 2, 1) := dk_44 (dk_at dksJ5_siftDownComparable_3 22 rfl rfl)
theorem dJ5_siftDownComparable_95 : decode cJ5_siftDownComparable 95 = .ok (.iload_n 0, 1) := dk_26 (dk_at dksJ5_siftDownComparable_3 23 rfl rfl)
theorem dJ5_siftDownComparable_96 : decode cJ5_siftDownComparable 96 = .ok (.aload 4, 2) := dk_25 4 (dk_at dksJ5_siftDownComparable_4 0 rfl rfl)
theorem dJ5_siftDownComparable_98 : decode cJ5_siftDownComparable 98 = .ok (.aastore, 1) := dk_83 (dk_at dksJ5_siftDownComparable_4 2 rfl rfl)
theorem dJ5_siftDownComparable_99 : decode cJ5_siftDownComparable 99 = .ok (.return_, 1) := dk_177 (dk_at dksJ5_siftDownComparable_4 3 rfl rfl)
abbrev cJ5_siftDownUsingComparator : ByteArray := prog_61_method_32_code
def yJ5_siftDownUsingComparator : MethodName := ⟨RJ5, "siftDownUsingComparator", "(ILjava/lang/Object;[Ljava/lang/Object;ILjava/util/Comparator;)V"⟩
def dkwJ5_siftDownUsingComparator_4 : List UInt8 := [43, 83, 177]
abbrev dktJ5_siftDownUsingComparator_4 : List UInt8 := dkwJ5_siftDownUsingComparator_4 ++ []
def dkwJ5_siftDownUsingComparator_3 : List UInt8 := [185, 0, 149, 3, 0, 157, 0, 6, 167, 0, 14, 44, 26, 25, 7, 83, 21, 6, 59, 167, 255, 176, 44, 26]
abbrev dktJ5_siftDownUsingComparator_3 : List UInt8 := dkwJ5_siftDownUsingComparator_3 ++ dktJ5_siftDownUsingComparator_4
def dkwJ5_siftDownUsingComparator_2 : List UInt8 := [185, 0, 149, 3, 0, 158, 0, 12, 44, 21, 8, 89, 54, 6, 50, 58, 7, 25, 4, 43, 25, 7]
abbrev dktJ5_siftDownUsingComparator_2 : List UInt8 := dkwJ5_siftDownUsingComparator_2 ++ dktJ5_siftDownUsingComparator_3
def dkwJ5_siftDownUsingComparator_1 : List UInt8 := [21, 6, 4, 96, 54, 8, 21, 8, 29, 162, 0, 28, 25, 4, 25, 7, 44, 21, 8, 50]
abbrev dktJ5_siftDownUsingComparator_1 : List UInt8 := dkwJ5_siftDownUsingComparator_1 ++ dktJ5_siftDownUsingComparator_2
def dkwJ5_siftDownUsingComparator_0 : List UInt8 := [29, 4, 124, 54, 5, 26, 21, 5, 162, 0, 80, 26, 4, 120, 4, 96, 54, 6, 44, 21, 6, 50, 58, 7]
abbrev dktJ5_siftDownUsingComparator_0 : List UInt8 := dkwJ5_siftDownUsingComparator_0 ++ dktJ5_siftDownUsingComparator_1
theorem dksJ5_siftDownUsingComparator_0 : cJ5_siftDownUsingComparator.data.toList.drop 0 = dktJ5_siftDownUsingComparator_0 := by decide +kernel
theorem dksJ5_siftDownUsingComparator_1 : cJ5_siftDownUsingComparator.data.toList.drop 24 = dktJ5_siftDownUsingComparator_1 := dk_seg dksJ5_siftDownUsingComparator_0 24 rfl rfl
theorem dksJ5_siftDownUsingComparator_2 : cJ5_siftDownUsingComparator.data.toList.drop 44 = dktJ5_siftDownUsingComparator_2 := dk_seg dksJ5_siftDownUsingComparator_1 20 rfl rfl
theorem dksJ5_siftDownUsingComparator_3 : cJ5_siftDownUsingComparator.data.toList.drop 66 = dktJ5_siftDownUsingComparator_3 := dk_seg dksJ5_siftDownUsingComparator_2 22 rfl rfl
theorem dksJ5_siftDownUsingComparator_4 : cJ5_siftDownUsingComparator.data.toList.drop 90 = dktJ5_siftDownUsingComparator_4 := dk_seg dksJ5_siftDownUsingComparator_3 24 rfl rfl
theorem dJ5_siftDownUsingComparator_0 : decode cJ5_siftDownUsingComparator 0 = .ok (.iload_n 3, 1) := dk_29 (dk_at dksJ5_siftDownUsingComparator_0 0 rfl rfl)
theorem dJ5_siftDownUsingComparator_1 : decode cJ5_siftDownUsingComparator 1 = .ok (.iconst 1, 1) := dk_4 (dk_at dksJ5_siftDownUsingComparator_0 1 rfl rfl)
theorem dJ5_siftDownUsingComparator_2 : decode cJ5_siftDownUsingComparator 2 = .ok (.iushr, 1) := dk_124 (dk_at dksJ5_siftDownUsingComparator_0 2 rfl rfl)
theorem dJ5_siftDownUsingComparator_3 : decode cJ5_siftDownUsingComparator 3 = .ok (.istore 5, 2) := dk_54 5 (dk_at dksJ5_siftDownUsingComparator_0 3 rfl rfl)
theorem dJ5_siftDownUsingComparator_5 : decode cJ5_siftDownUsingComparator 5 = .ok (.iload_n 0, 1) := dk_26 (dk_at dksJ5_siftDownUsingComparator_0 5 rfl rfl)
theorem dJ5_siftDownUsingComparator_6 : decode cJ5_siftDownUsingComparator 6 = .ok (.iload 5, 2) := dk_21 5 (dk_at dksJ5_siftDownUsingComparator_0 6 rfl rfl)
theorem dJ5_siftDownUsingComparator_8 : decode cJ5_siftDownUsingComparator 8 = .ok (.if_icmp .ge 80, 3) := dk_162 0 80 (dk_at dksJ5_siftDownUsingComparator_0 8 rfl rfl)
theorem dJ5_siftDownUsingComparator_11 : decode cJ5_siftDownUsingComparator 11 = .ok (.iload_n 0, 1) := dk_26 (dk_at dksJ5_siftDownUsingComparator_0 11 rfl rfl)
theorem dJ5_siftDownUsingComparator_12 : decode cJ5_siftDownUsingComparator 12 = .ok (.iconst 1, 1) := dk_4 (dk_at dksJ5_siftDownUsingComparator_0 12 rfl rfl)
theorem dJ5_siftDownUsingComparator_13 : decode cJ5_siftDownUsingComparator 13 = .ok (.ishl, 1) := dk_120 (dk_at dksJ5_siftDownUsingComparator_0 13 rfl rfl)
theorem dJ5_siftDownUsingComparator_14 : decode cJ5_siftDownUsingComparator 14 = .ok (.iconst 1, 1) := dk_4 (dk_at dksJ5_siftDownUsingComparator_0 14 rfl rfl)
theorem dJ5_siftDownUsingComparator_15 : decode cJ5_siftDownUsingComparator 15 = .ok (.iadd, 1) := dk_96 (dk_at dksJ5_siftDownUsingComparator_0 15 rfl rfl)
theorem dJ5_siftDownUsingComparator_16 : decode cJ5_siftDownUsingComparator 16 = .ok (.istore 6, 2) := dk_54 6 (dk_at dksJ5_siftDownUsingComparator_0 16 rfl rfl)
theorem dJ5_siftDownUsingComparator_18 : decode cJ5_siftDownUsingComparator 18 = .ok (.aload_n 2, 1) := dk_44 (dk_at dksJ5_siftDownUsingComparator_0 18 rfl rfl)
theorem dJ5_siftDownUsingComparator_19 : decode cJ5_siftDownUsingComparator 19 = .ok (.iload 6, 2) := dk_21 6 (dk_at dksJ5_siftDownUsingComparator_0 19 rfl rfl)
theorem dJ5_siftDownUsingComparator_21 : decode cJ5_siftDownUsingComparator 21 = .ok (.aaload, 1) := dk_50 (dk_at dksJ5_siftDownUsingComparator_0 21 rfl rfl)
theorem dJ5_siftDownUsingComparator_22 : decode cJ5_siftDownUsingComparator 22 = .ok (.astore 7, 2) := dk_58 7 (dk_at dksJ5_siftDownUsingComparator_0 22 rfl rfl)
theorem dJ5_siftDownUsingComparator_24 : decode cJ5_siftDownUsingComparator 24 = .ok (.iload 6, 2) := dk_21 6 (dk_at dksJ5_siftDownUsingComparator_1 0 rfl rfl)
theorem dJ5_siftDownUsingComparator_26 : decode cJ5_siftDownUsingComparator 26 = .ok (.iconst 1, 1) := dk_4 (dk_at dksJ5_siftDownUsingComparator_1 2 rfl rfl)
theorem dJ5_siftDownUsingComparator_27 : decode cJ5_siftDownUsingComparator 27 = .ok (.iadd, 1) := dk_96 (dk_at dksJ5_siftDownUsingComparator_1 3 rfl rfl)
theorem dJ5_siftDownUsingComparator_28 : decode cJ5_siftDownUsingComparator 28 = .ok (.istore 8, 2) := dk_54 8 (dk_at dksJ5_siftDownUsingComparator_1 4 rfl rfl)
theorem dJ5_siftDownUsingComparator_30 : decode cJ5_siftDownUsingComparator 30 = .ok (.iload 8, 2) := dk_21 8 (dk_at dksJ5_siftDownUsingComparator_1 6 rfl rfl)
theorem dJ5_siftDownUsingComparator_32 : decode cJ5_siftDownUsingComparator 32 = .ok (.iload_n 3, 1) := dk_29 (dk_at dksJ5_siftDownUsingComparator_1 8 rfl rfl)
theorem dJ5_siftDownUsingComparator_33 : decode cJ5_siftDownUsingComparator 33 = .ok (.if_icmp .ge 28, 3) := dk_162 0 28 (dk_at dksJ5_siftDownUsingComparator_1 9 rfl rfl)
theorem dJ5_siftDownUsingComparator_36 : decode cJ5_siftDownUsingComparator 36 = .ok (.aload 4, 2) := dk_25 4 (dk_at dksJ5_siftDownUsingComparator_1 12 rfl rfl)
theorem dJ5_siftDownUsingComparator_38 : decode cJ5_siftDownUsingComparator 38 = .ok (.aload 7, 2) := dk_25 7 (dk_at dksJ5_siftDownUsingComparator_1 14 rfl rfl)
theorem dJ5_siftDownUsingComparator_40 : decode cJ5_siftDownUsingComparator 40 = .ok (.aload_n 2, 1) := dk_44 (dk_at dksJ5_siftDownUsingComparator_1 16 rfl rfl)
theorem dJ5_siftDownUsingComparator_41 : decode cJ5_siftDownUsingComparator 41 = .ok (.iload 8, 2) := dk_21 8 (dk_at dksJ5_siftDownUsingComparator_1 17 rfl rfl)
theorem dJ5_siftDownUsingComparator_43 : decode cJ5_siftDownUsingComparator 43 = .ok (.aaload, 1) := dk_50 (dk_at dksJ5_siftDownUsingComparator_1 19 rfl rfl)
theorem dJ5_siftDownUsingComparator_44 : decode cJ5_siftDownUsingComparator 44 = .ok (.invokeinterface 149 3, 5) := by decide +kernel
theorem dJ5_siftDownUsingComparator_49 : decode cJ5_siftDownUsingComparator 49 = .ok (.ifCond .le 12, 3) := dk_158 0 12 (dk_at dksJ5_siftDownUsingComparator_2 5 rfl rfl)
theorem dJ5_siftDownUsingComparator_52 : decode cJ5_siftDownUsingComparator 52 = .ok (.aload_n 2, 1) := dk_44 (dk_at dksJ5_siftDownUsingComparator_2 8 rfl rfl)
theorem dJ5_siftDownUsingComparator_53 : decode cJ5_siftDownUsingComparator 53 = .ok (.iload 8, 2) := dk_21 8 (dk_at dksJ5_siftDownUsingComparator_2 9 rfl rfl)
theorem dJ5_siftDownUsingComparator_55 : decode cJ5_siftDownUsingComparator 55 = .ok (.dup, 1) := dk_89 (dk_at dksJ5_siftDownUsingComparator_2 11 rfl rfl)
theorem dJ5_siftDownUsingComparator_56 : decode cJ5_siftDownUsingComparator 56 = .ok (.istore 6, 2) := dk_54 6 (dk_at dksJ5_siftDownUsingComparator_2 12 rfl rfl)
theorem dJ5_siftDownUsingComparator_58 : decode cJ5_siftDownUsingComparator 58 = .ok (.aaload, 1) := dk_50 (dk_at dksJ5_siftDownUsingComparator_2 14 rfl rfl)
theorem dJ5_siftDownUsingComparator_59 : decode cJ5_siftDownUsingComparator 59 = .ok (.astore 7, 2) := dk_58 7 (dk_at dksJ5_siftDownUsingComparator_2 15 rfl rfl)
theorem dJ5_siftDownUsingComparator_61 : decode cJ5_siftDownUsingComparator 61 = .ok (.aload 4, 2) := dk_25 4 (dk_at dksJ5_siftDownUsingComparator_2 17 rfl rfl)
theorem dJ5_siftDownUsingComparator_63 : decode cJ5_siftDownUsingComparator 63 = .ok (.aload_n 1, 1) := dk_43 (dk_at dksJ5_siftDownUsingComparator_2 19 rfl rfl)
theorem dJ5_siftDownUsingComparator_64 : decode cJ5_siftDownUsingComparator 64 = .ok (.aload 7, 2) := dk_25 7 (dk_at dksJ5_siftDownUsingComparator_2 20 rfl rfl)
theorem dJ5_siftDownUsingComparator_66 : decode cJ5_siftDownUsingComparator 66 = .ok (.invokeinterface 149 3, 5) := by decide +kernel
theorem dJ5_siftDownUsingComparator_71 : decode cJ5_siftDownUsingComparator 71 = .ok (.ifCond .gt 6, 3) := dk_157 0 6 (dk_at dksJ5_siftDownUsingComparator_3 5 rfl rfl)
theorem dJ5_siftDownUsingComparator_74 : decode cJ5_siftDownUsingComparator 74 = .ok (.goto 14, 3) := dk_167 0 14 (dk_at dksJ5_siftDownUsingComparator_3 8 rfl rfl)
theorem dJ5_siftDownUsingComparator_77 : decode cJ5_siftDownUsingComparator 77 = .ok (.aload_n 2, 1) := dk_44 (dk_at dksJ5_siftDownUsingComparator_3 11 rfl rfl)
theorem dJ5_siftDownUsingComparator_78 : decode cJ5_siftDownUsingComparator 78 = .ok (.iload_n 0, 1) := dk_26 (dk_at dksJ5_siftDownUsingComparator_3 12 rfl rfl)
theorem dJ5_siftDownUsingComparator_79 : decode cJ5_siftDownUsingComparator 79 = .ok (.aload 7, 2) := dk_25 7 (dk_at dksJ5_siftDownUsingComparator_3 13 rfl rfl)
theorem dJ5_siftDownUsingComparator_81 : decode cJ5_siftDownUsingComparator 81 = .ok (.aastore, 1) := dk_83 (dk_at dksJ5_siftDownUsingComparator_3 15 rfl rfl)
theorem dJ5_siftDownUsingComparator_82 : decode cJ5_siftDownUsingComparator 82 = .ok (.iload 6, 2) := dk_21 6 (dk_at dksJ5_siftDownUsingComparator_3 16 rfl rfl)
theorem dJ5_siftDownUsingComparator_84 : decode cJ5_siftDownUsingComparator 84 = .ok (.istore_n 0, 1) := dk_59 (dk_at dksJ5_siftDownUsingComparator_3 18 rfl rfl)
theorem dJ5_siftDownUsingComparator_85 : decode cJ5_siftDownUsingComparator 85 = .ok (.goto (-80), 3) := dk_167 255 176 (dk_at dksJ5_siftDownUsingComparator_3 19 rfl rfl)
theorem dJ5_siftDownUsingComparator_88 : decode cJ5_siftDownUsingComparator 88 = .ok (.aload_n 2, 1) := dk_44 (dk_at dksJ5_siftDownUsingComparator_3 22 rfl rfl)
theorem dJ5_siftDownUsingComparator_89 : decode cJ5_siftDownUsingComparator 89 = .ok (.iload_n 0, 1) := dk_26 (dk_at dksJ5_siftDownUsingComparator_3 23 rfl rfl)
theorem dJ5_siftDownUsingComparator_90 : decode cJ5_siftDownUsingComparator 90 = .ok (.aload_n 1, 1) := dk_43 (dk_at dksJ5_siftDownUsingComparator_4 0 rfl rfl)
theorem dJ5_siftDownUsingComparator_91 : decode cJ5_siftDownUsingComparator 91 = .ok (.aastore, 1) := dk_83 (dk_at dksJ5_siftDownUsingComparator_4 1 rfl rfl)
theorem dJ5_siftDownUsingComparator_92 : decode cJ5_siftDownUsingComparator 92 = .ok (.return_, 1) := dk_177 (dk_at dksJ5_siftDownUsingComparator_4 2 rfl rfl)
theorem q104 : (Jvm.Cond.initialized "java/util/PriorityQueue") ∈ lw_all := lw_g (lw_at lw_m1 9 rfl) rfl
theorem q203 : (Jvm.Cond.instantiable "java/util/PriorityQueue" (4 : Nat)) ∈ lw_all := lw_g (lw_at lw_m1 108 rfl) rfl
theorem q216 : (Jvm.Cond.instanceMethod ({ cls := "java/util/PriorityQueue", name := "<init>", desc := "(ILjava/util/Comparator;)V" } : Jvm.MethodName)) ∈ lw_all := lw_g (lw_at lw_m1 121 rfl) rfl
theorem q217 : (Jvm.Cond.code ({ cls := "java/util/PriorityQueue", name := "<init>", desc := "(ILjava/util/Comparator;)V" } : Jvm.MethodName) prog_61_method_4_code (3 : Nat) (Option.none : Option Jvm.ClassFile.FieldType)) ∈ lw_all := lw_g (lw_at lw_m1 122 rfl) rfl
theorem q218 : (Jvm.Cond.methodLink "java/util/PriorityQueue" (7 : Nat) ({ cls := "java/util/AbstractQueue", name := "<init>", desc := "()V" } : Jvm.MethodName)) ∈ lw_all := lw_g (lw_at lw_m1 123 rfl) rfl
theorem q222 : (Jvm.Cond.classLink "java/util/PriorityQueue" (15 : Nat) "java/lang/Object") ∈ lw_all := lw_g (lw_at lw_m1 127 rfl) rfl
theorem q224 : (Jvm.Cond.fieldLink "java/util/PriorityQueue" (17 : Nat) "java/util/PriorityQueue" "queue" "[Ljava/lang/Object;") ∈ lw_all := lw_g (lw_at lw_m1 129 rfl) rfl
theorem q225 : (Jvm.Cond.fieldLink "java/util/PriorityQueue" (58 : Nat) "java/util/PriorityQueue" "size" "I") ∈ lw_all := lw_g (lw_at lw_m1 130 rfl) rfl
theorem q226 : (Jvm.Cond.fieldLink "java/util/PriorityQueue" (21 : Nat) "java/util/PriorityQueue" "comparator" "Ljava/util/Comparator;") ∈ lw_all := lw_g (lw_at lw_m1 131 rfl) rfl
theorem q227 : (Jvm.Cond.fieldLink "java/util/PriorityQueue" (93 : Nat) "java/util/PriorityQueue" "modCount" "I") ∈ lw_all := lw_g (lw_at lw_m1 132 rfl) rfl
theorem q228 : (Jvm.Cond.lays "java/util/PriorityQueue" "java/util/PriorityQueue" "queue" "[Ljava/lang/Object;") ∈ lw_all := lw_g (lw_at lw_m1 133 rfl) rfl
theorem q229 : (Jvm.Cond.soleField "java/util/PriorityQueue" "queue") ∈ lw_all := lw_g (lw_at lw_m1 134 rfl) rfl
theorem q230 : (Jvm.Cond.lays "java/util/PriorityQueue" "java/util/PriorityQueue" "size" "I") ∈ lw_all := lw_g (lw_at lw_m1 135 rfl) rfl
theorem q231 : (Jvm.Cond.soleField "java/util/PriorityQueue" "size") ∈ lw_all := lw_g (lw_at lw_m1 136 rfl) rfl
theorem q232 : (Jvm.Cond.laysFinal "java/util/PriorityQueue" "java/util/PriorityQueue" "comparator" "Ljava/util/Comparator;") ∈ lw_all := lw_g (lw_at lw_m1 137 rfl) rfl
theorem q233 : (Jvm.Cond.soleField "java/util/PriorityQueue" "comparator") ∈ lw_all := lw_g (lw_at lw_m1 138 rfl) rfl
theorem q234 : (Jvm.Cond.lays "java/util/PriorityQueue" "java/util/PriorityQueue" "modCount" "I") ∈ lw_all := lw_g (lw_at lw_m1 139 rfl) rfl
theorem q235 : (Jvm.Cond.soleField "java/util/PriorityQueue" "modCount") ∈ lw_all := lw_g (lw_at lw_m1 140 rfl) rfl
theorem q236 : (Jvm.Cond.superclass "java/util/PriorityQueue" "java/util/AbstractQueue") ∈ lw_all := lw_g (lw_at lw_m1 141 rfl) rfl
theorem q718 : (Jvm.Cond.selects "java/util/PriorityQueue" ({ cls := "java/lang/Object", name := "getClass", desc := "()Ljava/lang/Class;" } : Jvm.MethodName) ({ cls := "java/lang/Object", name := "getClass", desc := "()Ljava/lang/Class;" } : Jvm.MethodName)) ∈ lw_all := lw_g (lw_at lw_m3 143 rfl) rfl
theorem q1466 : (Jvm.Cond.instanceMethod ({ cls := "java/util/PriorityQueue", name := "clear", desc := "()V" } : Jvm.MethodName)) ∈ lw_all := lw_g (lw_at lw_m6 171 rfl) rfl
theorem q1467 : (Jvm.Cond.selects "java/util/PriorityQueue" ({ cls := "java/util/PriorityQueue", name := "clear", desc := "()V" } : Jvm.MethodName) ({ cls := "java/util/PriorityQueue", name := "clear", desc := "()V" } : Jvm.MethodName)) ∈ lw_all := lw_g (lw_at lw_m6 172 rfl) rfl
theorem q1468 : (Jvm.Cond.code ({ cls := "java/util/PriorityQueue", name := "clear", desc := "()V" } : Jvm.MethodName) prog_61_method_24_code (4 : Nat) (Option.none : Option Jvm.ClassFile.FieldType)) ∈ lw_all := lw_g (lw_at lw_m6 173 rfl) rfl
theorem q1470 : (Jvm.Cond.instanceMethod ({ cls := "java/util/PriorityQueue", name := "add", desc := "(Ljava/lang/Object;)Z" } : Jvm.MethodName)) ∈ lw_all := lw_g (lw_at lw_m6 175 rfl) rfl
theorem q1471 : (Jvm.Cond.selects "java/util/PriorityQueue" ({ cls := "java/util/PriorityQueue", name := "add", desc := "(Ljava/lang/Object;)Z" } : Jvm.MethodName) ({ cls := "java/util/PriorityQueue", name := "add", desc := "(Ljava/lang/Object;)Z" } : Jvm.MethodName)) ∈ lw_all := lw_g (lw_at lw_m6 176 rfl) rfl
theorem q1472 : (Jvm.Cond.code ({ cls := "java/util/PriorityQueue", name := "add", desc := "(Ljava/lang/Object;)Z" } : Jvm.MethodName) prog_61_method_13_code (2 : Nat) (Option.some Jvm.ClassFile.FieldType.boolean)) ∈ lw_all := lw_g (lw_at lw_m6 177 rfl) rfl
theorem q1473 : (Jvm.Cond.methodLink "java/util/PriorityQueue" (89 : Nat) ({ cls := "java/util/PriorityQueue", name := "offer", desc := "(Ljava/lang/Object;)Z" } : Jvm.MethodName)) ∈ lw_all := lw_g (lw_at lw_m6 178 rfl) rfl
theorem q1474 : (Jvm.Cond.instanceMethod ({ cls := "java/util/PriorityQueue", name := "offer", desc := "(Ljava/lang/Object;)Z" } : Jvm.MethodName)) ∈ lw_all := lw_g (lw_at lw_m6 179 rfl) rfl
theorem q1475 : (Jvm.Cond.selects "java/util/PriorityQueue" ({ cls := "java/util/PriorityQueue", name := "offer", desc := "(Ljava/lang/Object;)Z" } : Jvm.MethodName) ({ cls := "java/util/PriorityQueue", name := "offer", desc := "(Ljava/lang/Object;)Z" } : Jvm.MethodName)) ∈ lw_all := lw_g (lw_at lw_m6 180 rfl) rfl
theorem q1476 : (Jvm.Cond.code ({ cls := "java/util/PriorityQueue", name := "offer", desc := "(Ljava/lang/Object;)Z" } : Jvm.MethodName) prog_61_method_14_code (3 : Nat) (Option.some Jvm.ClassFile.FieldType.boolean)) ∈ lw_all := lw_g (lw_at lw_m6 181 rfl) rfl
theorem q1477 : (Jvm.Cond.methodLink "java/util/PriorityQueue" (96 : Nat) ({ cls := "java/util/PriorityQueue", name := "grow", desc := "(I)V" } : Jvm.MethodName)) ∈ lw_all := lw_g (lw_at lw_m6 182 rfl) rfl
theorem q1478 : (Jvm.Cond.privateMethod ({ cls := "java/util/PriorityQueue", name := "grow", desc := "(I)V" } : Jvm.MethodName)) ∈ lw_tbl := lw_at lw_m6 183 rfl
theorem q1479 : (Jvm.Cond.instanceMethod ({ cls := "java/util/PriorityQueue", name := "grow", desc := "(I)V" } : Jvm.MethodName)) ∈ lw_all := lw_g (lw_at lw_m6 184 rfl) rfl
theorem q1480 : (Jvm.Cond.code ({ cls := "java/util/PriorityQueue", name := "grow", desc := "(I)V" } : Jvm.MethodName) prog_61_method_12_code (4 : Nat) (Option.none : Option Jvm.ClassFile.FieldType)) ∈ lw_all := lw_g (lw_at lw_m6 185 rfl) rfl
theorem q1481 : (Jvm.Cond.methodLink "java/util/PriorityQueue" (80 : Nat) ({ cls := "jdk/internal/util/ArraysSupport", name := "newLength", desc := "(III)I" } : Jvm.MethodName)) ∈ lw_all := lw_g (lw_at lw_m6 186 rfl) rfl
theorem q1482 : (Jvm.Cond.methodLink "java/util/PriorityQueue" (86 : Nat) ({ cls := "java/util/Arrays", name := "copyOf", desc := "([Ljava/lang/Object;I)[Ljava/lang/Object;" } : Jvm.MethodName)) ∈ lw_all := lw_g (lw_at lw_m6 187 rfl) rfl
theorem q1483 : (Jvm.Cond.methodLink "java/util/PriorityQueue" (100 : Nat) ({ cls := "java/util/PriorityQueue", name := "siftUp", desc := "(ILjava/lang/Object;)V" } : Jvm.MethodName)) ∈ lw_all := lw_g (lw_at lw_m6 188 rfl) rfl
theorem q1484 : (Jvm.Cond.privateMethod ({ cls := "java/util/PriorityQueue", name := "siftUp", desc := "(ILjava/lang/Object;)V" } : Jvm.MethodName)) ∈ lw_tbl := lw_at lw_m6 189 rfl
theorem q1485 : (Jvm.Cond.instanceMethod ({ cls := "java/util/PriorityQueue", name := "siftUp", desc := "(ILjava/lang/Object;)V" } : Jvm.MethodName)) ∈ lw_all := lw_g (lw_at lw_m6 190 rfl) rfl
theorem q1486 : (Jvm.Cond.code ({ cls := "java/util/PriorityQueue", name := "siftUp", desc := "(ILjava/lang/Object;)V" } : Jvm.MethodName) prog_61_method_27_code (3 : Nat) (Option.none : Option Jvm.ClassFile.FieldType)) ∈ lw_all := lw_g (lw_at lw_m6 191 rfl) rfl
theorem q1487 : (Jvm.Cond.methodLink "java/util/PriorityQueue" (136 : Nat) ({ cls := "java/util/PriorityQueue", name := "siftUpUsingComparator", desc := "(ILjava/lang/Object;[Ljava/lang/Object;Ljava/util/Comparator;)V" } : Jvm.MethodName)) ∈ lw_all := lw_g (lw_at lw_m6 192 rfl) rfl
theorem q1488 : (Jvm.Cond.static ({ cls := "java/util/PriorityQueue", name := "siftUpUsingComparator", desc := "(ILjava/lang/Object;[Ljava/lang/Object;Ljava/util/Comparator;)V" } : Jvm.MethodName)) ∈ lw_all := lw_g (lw_at lw_m6 193 rfl) rfl
theorem q1489 : (Jvm.Cond.code ({ cls := "java/util/PriorityQueue", name := "siftUpUsingComparator", desc := "(ILjava/lang/Object;[Ljava/lang/Object;Ljava/util/Comparator;)V" } : Jvm.MethodName) prog_61_method_29_code (6 : Nat) (Option.none : Option Jvm.ClassFile.FieldType)) ∈ lw_all := lw_g (lw_at lw_m6 194 rfl) rfl
theorem q1490 : (Jvm.Cond.interfaceEntry "java/util/PriorityQueue" (149 : Nat)) ∈ lw_tbl := lw_at lw_m6 195 rfl
theorem q1491 : (Jvm.Cond.methodLink "java/util/PriorityQueue" (149 : Nat) ({ cls := "java/util/Comparator", name := "compare", desc := "(Ljava/lang/Object;Ljava/lang/Object;)I" } : Jvm.MethodName)) ∈ lw_all := lw_g (lw_at lw_m6 196 rfl) rfl
theorem q1492 : (Jvm.Cond.methodLink "java/util/PriorityQueue" (140 : Nat) ({ cls := "java/util/PriorityQueue", name := "siftUpComparable", desc := "(ILjava/lang/Object;[Ljava/lang/Object;)V" } : Jvm.MethodName)) ∈ lw_all := lw_g (lw_at lw_m6 197 rfl) rfl
theorem q1493 : (Jvm.Cond.static ({ cls := "java/util/PriorityQueue", name := "siftUpComparable", desc := "(ILjava/lang/Object;[Ljava/lang/Object;)V" } : Jvm.MethodName)) ∈ lw_all := lw_g (lw_at lw_m6 198 rfl) rfl
theorem q1494 : (Jvm.Cond.code ({ cls := "java/util/PriorityQueue", name := "siftUpComparable", desc := "(ILjava/lang/Object;[Ljava/lang/Object;)V" } : Jvm.MethodName) prog_61_method_28_code (6 : Nat) (Option.none : Option Jvm.ClassFile.FieldType)) ∈ lw_all := lw_g (lw_at lw_m6 199 rfl) rfl
theorem q1495 : (Jvm.Cond.classLink "java/util/PriorityQueue" (144 : Nat) "java/lang/Comparable") ∈ lw_all := lw_g (lw_at lw_m6 200 rfl) rfl
theorem q1496 : (Jvm.Cond.interfaceEntry "java/util/PriorityQueue" (146 : Nat)) ∈ lw_tbl := lw_at lw_m6 201 rfl
theorem q1497 : (Jvm.Cond.methodLink "java/util/PriorityQueue" (146 : Nat) ({ cls := "java/lang/Comparable", name := "compareTo", desc := "(Ljava/lang/Object;)I" } : Jvm.MethodName)) ∈ lw_all := lw_g (lw_at lw_m6 202 rfl) rfl
theorem q1499 : (Jvm.Cond.instanceMethod ({ cls := "java/util/PriorityQueue", name := "peek", desc := "()Ljava/lang/Object;" } : Jvm.MethodName)) ∈ lw_all := lw_g (lw_at lw_m6 204 rfl) rfl
theorem q1500 : (Jvm.Cond.selects "java/util/PriorityQueue" ({ cls := "java/util/PriorityQueue", name := "peek", desc := "()Ljava/lang/Object;" } : Jvm.MethodName) ({ cls := "java/util/PriorityQueue", name := "peek", desc := "()Ljava/lang/Object;" } : Jvm.MethodName)) ∈ lw_all := lw_g (lw_at lw_m6 205 rfl) rfl
theorem q1501 : (Jvm.Cond.code ({ cls := "java/util/PriorityQueue", name := "peek", desc := "()Ljava/lang/Object;" } : Jvm.MethodName) prog_61_method_15_code (1 : Nat) (Option.some (Jvm.ClassFile.FieldType.object "java/lang/Object"))) ∈ lw_all := lw_g (lw_at lw_m6 206 rfl) rfl
theorem q1579 : (Jvm.Cond.instanceMethod ({ cls := "java/util/PriorityQueue", name := "size", desc := "()I" } : Jvm.MethodName)) ∈ lw_all := lw_g (lw_at lw_m7 44 rfl) rfl
theorem q1580 : (Jvm.Cond.selects "java/util/PriorityQueue" ({ cls := "java/util/PriorityQueue", name := "size", desc := "()I" } : Jvm.MethodName) ({ cls := "java/util/PriorityQueue", name := "size", desc := "()I" } : Jvm.MethodName)) ∈ lw_all := lw_g (lw_at lw_m7 45 rfl) rfl
theorem q1581 : (Jvm.Cond.code ({ cls := "java/util/PriorityQueue", name := "size", desc := "()I" } : Jvm.MethodName) prog_61_method_23_code (1 : Nat) (Option.some Jvm.ClassFile.FieldType.int)) ∈ lw_all := lw_g (lw_at lw_m7 46 rfl) rfl
theorem q1584 : (Jvm.Cond.instanceMethod ({ cls := "java/util/PriorityQueue", name := "poll", desc := "()Ljava/lang/Object;" } : Jvm.MethodName)) ∈ lw_all := lw_g (lw_at lw_m7 49 rfl) rfl
theorem q1585 : (Jvm.Cond.selects "java/util/PriorityQueue" ({ cls := "java/util/PriorityQueue", name := "poll", desc := "()Ljava/lang/Object;" } : Jvm.MethodName) ({ cls := "java/util/PriorityQueue", name := "poll", desc := "()Ljava/lang/Object;" } : Jvm.MethodName)) ∈ lw_all := lw_g (lw_at lw_m7 50 rfl) rfl
theorem q1586 : (Jvm.Cond.code ({ cls := "java/util/PriorityQueue", name := "poll", desc := "()Ljava/lang/Object;" } : Jvm.MethodName) prog_61_method_25_code (6 : Nat) (Option.some (Jvm.ClassFile.FieldType.object "java/lang/Object"))) ∈ lw_all := lw_g (lw_at lw_m7 51 rfl) rfl
theorem q1587 : (Jvm.Cond.methodLink "java/util/PriorityQueue" (125 : Nat) ({ cls := "java/util/PriorityQueue", name := "siftDownComparable", desc := "(ILjava/lang/Object;[Ljava/lang/Object;I)V" } : Jvm.MethodName)) ∈ lw_all := lw_g (lw_at lw_m7 52 rfl) rfl
theorem q1588 : (Jvm.Cond.static ({ cls := "java/util/PriorityQueue", name := "siftDownComparable", desc := "(ILjava/lang/Object;[Ljava/lang/Object;I)V" } : Jvm.MethodName)) ∈ lw_all := lw_g (lw_at lw_m7 53 rfl) rfl
theorem q1589 : (Jvm.Cond.code ({ cls := "java/util/PriorityQueue", name := "siftDownComparable", desc := "(ILjava/lang/Object;[Ljava/lang/Object;I)V" } : Jvm.MethodName) prog_61_method_31_code (9 : Nat) (Option.none : Option Jvm.ClassFile.FieldType)) ∈ lw_all := lw_g (lw_at lw_m7 54 rfl) rfl
theorem q1590 : (Jvm.Cond.methodLink "java/util/PriorityQueue" (129 : Nat) ({ cls := "java/util/PriorityQueue", name := "siftDownUsingComparator", desc := "(ILjava/lang/Object;[Ljava/lang/Object;ILjava/util/Comparator;)V" } : Jvm.MethodName)) ∈ lw_all := lw_g (lw_at lw_m7 55 rfl) rfl
theorem q1591 : (Jvm.Cond.static ({ cls := "java/util/PriorityQueue", name := "siftDownUsingComparator", desc := "(ILjava/lang/Object;[Ljava/lang/Object;ILjava/util/Comparator;)V" } : Jvm.MethodName)) ∈ lw_all := lw_g (lw_at lw_m7 56 rfl) rfl
theorem q1592 : (Jvm.Cond.code ({ cls := "java/util/PriorityQueue", name := "siftDownUsingComparator", desc := "(ILjava/lang/Object;[Ljava/lang/Object;ILjava/util/Comparator;)V" } : Jvm.MethodName) prog_61_method_32_code (9 : Nat) (Option.none : Option Jvm.ClassFile.FieldType)) ∈ lw_all := lw_g (lw_at lw_m7 57 rfl) rfl
theorem q2427 : (Jvm.Cond.castable "java/util/PriorityQueue" "java/lang/Object") ∈ lw_tbl := lw_at lw_m10 172 rfl
theorem in_J5 : ∀ w ∈ wsJ50, w ∈ lw_all := lw_in wsJ50 [228, 230, 232, 234] (by decide +kernel) (by decide +kernel)
abbrev cJ6_checkIndex : ByteArray := prog_59_method_17_code
def yJ6_checkIndex : MethodName := ⟨RJ6, "checkIndex", "(II)I"⟩
def dkwJ6_checkIndex_0 : List UInt8 := [26, 27, 1, 184, 0, 105, 172]
abbrev dktJ6_checkIndex_0 : List UInt8 := dkwJ6_checkIndex_0 ++ []
theorem dksJ6_checkIndex_0 : cJ6_checkIndex.data.toList.drop 0 = dktJ6_checkIndex_0 := by decide +kernel
theorem dJ6_checkIndex_0 : decode cJ6_checkIndex 0 = .ok (.iload_n 0, 1) := dk_26 (dk_at dksJ6_checkIndex_0 0 rfl rfl)
theorem dJ6_checkIndex_1 : decode cJ6_checkIndex 1 = .ok (.iload_n 1, 1) := dk_27 (dk_at dksJ6_checkIndex_0 1 rfl rfl)
theorem dJ6_checkIndex_2 : decode cJ6_checkIndex 2 = .ok (.aconst_null, 1) := dk_1 (dk_at dksJ6_checkIndex_0 2 rfl rfl)
theorem dJ6_checkIndex_3 : decode cJ6_checkIndex 3 = .ok (.invokestatic 105, 3) := dk_184 0 105 (dk_at dksJ6_checkIndex_0 3 rfl rfl)
theorem dJ6_checkIndex_6 : decode cJ6_checkIndex 6 = .ok (.ireturn, 1) := dk_172 (dk_at dksJ6_checkIndex_0 6 rfl rfl)
abbrev cJ6_requireNonNull : ByteArray := prog_59_method_10_code
def yJ6_requireNonNull : MethodName := ⟨RJ6, "requireNonNull", "(Ljava/lang/Object;)Ljava/lang/Object;"⟩
def dkwJ6_requireNonNull_0 : List UInt8 := [42, 199, 0, 11, 187, 0, 84, 89, 183, 0, 86, 191, 42, 176]
abbrev dktJ6_requireNonNull_0 : List UInt8 := dkwJ6_requireNonNull_0 ++ []
theorem dksJ6_requireNonNull_0 : cJ6_requireNonNull.data.toList.drop 0 = dktJ6_requireNonNull_0 := by decide +kernel
theorem dJ6_requireNonNull_0 : decode cJ6_requireNonNull 0 = .ok (.aload_n 0, 1) := dk_42 (dk_at dksJ6_requireNonNull_0 0 rfl rfl)
theorem dJ6_requireNonNull_1 : decode cJ6_requireNonNull 1 = .ok (.ifnonnull 11, 3) := dk_199 0 11 (dk_at dksJ6_requireNonNull_0 1 rfl rfl)
theorem dJ6_requireNonNull_4 : decode cJ6_requireNonNull 4 = .ok (.new 84, 3) := dk_187 0 84 (dk_at dksJ6_requireNonNull_0 4 rfl rfl)
theorem dJ6_requireNonNull_7 : decode cJ6_requireNonNull 7 = .ok (.dup, 1) := dk_89 (dk_at dksJ6_requireNonNull_0 7 rfl rfl)
theorem dJ6_requireNonNull_8 : decode cJ6_requireNonNull 8 = .ok (.invokespecial 86, 3) := dk_183 0 86 (dk_at dksJ6_requireNonNull_0 8 rfl rfl)
theorem dJ6_requireNonNull_11 : decode cJ6_requireNonNull 11 = .ok (.athrow, 1) := dk_191 (dk_at dksJ6_requireNonNull_0 11 rfl rfl)
theorem dJ6_requireNonNull_12 : decode cJ6_requireNonNull 12 = .ok (.aload_n 0, 1) := dk_42 (dk_at dksJ6_requireNonNull_0 12 rfl rfl)
theorem dJ6_requireNonNull_13 : decode cJ6_requireNonNull 13 = .ok (.areturn, 1) := dk_176 (dk_at dksJ6_requireNonNull_0 13 rfl rfl)
theorem q106 : (Jvm.Cond.initialized "java/util/Objects") ∈ lw_all := lw_g (lw_at lw_m1 11 rfl) rfl
theorem q252 : (Jvm.Cond.static ({ cls := "java/util/Objects", name := "checkIndex", desc := "(II)I" } : Jvm.MethodName)) ∈ lw_all := lw_g (lw_at lw_m1 157 rfl) rfl
theorem q253 : (Jvm.Cond.code ({ cls := "java/util/Objects", name := "checkIndex", desc := "(II)I" } : Jvm.MethodName) prog_59_method_17_code (2 : Nat) (Option.some Jvm.ClassFile.FieldType.int)) ∈ lw_all := lw_g (lw_at lw_m1 158 rfl) rfl
theorem q254 : (Jvm.Cond.methodLink "java/util/Objects" (105 : Nat) ({ cls := "jdk/internal/util/Preconditions", name := "checkIndex", desc := "(IILjava/util/function/BiFunction;)I" } : Jvm.MethodName)) ∈ lw_all := lw_g (lw_at lw_m1 159 rfl) rfl
theorem q982 : (Jvm.Cond.static ({ cls := "java/util/Objects", name := "requireNonNull", desc := "(Ljava/lang/Object;)Ljava/lang/Object;" } : Jvm.MethodName)) ∈ lw_all := lw_g (lw_at lw_m4 167 rfl) rfl
theorem q983 : (Jvm.Cond.code ({ cls := "java/util/Objects", name := "requireNonNull", desc := "(Ljava/lang/Object;)Ljava/lang/Object;" } : Jvm.MethodName) prog_59_method_10_code (1 : Nat) (Option.some (Jvm.ClassFile.FieldType.object "java/lang/Object"))) ∈ lw_all := lw_g (lw_at lw_m4 168 rfl) rfl
abbrev cJ7_checkIndex : ByteArray := prog_72_method_11_code
def yJ7_checkIndex : MethodName := ⟨RJ7, "checkIndex", "(IILjava/util/function/BiFunction;)I"⟩
def dkwJ7_checkIndex_0 : List UInt8 := [26, 155, 0, 8, 26, 27, 161, 0, 10, 44, 26, 27, 184, 0, 95, 191, 26, 172]
abbrev dktJ7_checkIndex_0 : List UInt8 := dkwJ7_checkIndex_0 ++ []
theorem dksJ7_checkIndex_0 : cJ7_checkIndex.data.toList.drop 0 = dktJ7_checkIndex_0 := by decide +kernel
theorem dJ7_checkIndex_0 : decode cJ7_checkIndex 0 = .ok (.iload_n 0, 1) := dk_26 (dk_at dksJ7_checkIndex_0 0 rfl rfl)
theorem dJ7_checkIndex_1 : decode cJ7_checkIndex 1 = .ok (.ifCond .lt 8, 3) := dk_155 0 8 (dk_at dksJ7_checkIndex_0 1 rfl rfl)
theorem dJ7_checkIndex_4 : decode cJ7_checkIndex 4 = .ok (.iload_n 0, 1) := dk_26 (dk_at dksJ7_checkIndex_0 4 rfl rfl)
theorem dJ7_checkIndex_5 : decode cJ7_checkIndex 5 = .ok (.iload_n 1, 1) := dk_27 (dk_at dksJ7_checkIndex_0 5 rfl rfl)
theorem dJ7_checkIndex_6 : decode cJ7_checkIndex 6 = .ok (.if_icmp .lt 10, 3) := dk_161 0 10 (dk_at dksJ7_checkIndex_0 6 rfl rfl)
theorem dJ7_checkIndex_9 : decode cJ7_checkIndex 9 = .ok (.aload_n 2, 1) := dk_44 (dk_at dksJ7_checkIndex_0 9 rfl rfl)
theorem dJ7_checkIndex_10 : decode cJ7_checkIndex 10 = .ok (.iload_n 0, 1) := dk_26 (dk_at dksJ7_checkIndex_0 10 rfl rfl)
theorem dJ7_checkIndex_11 : decode cJ7_checkIndex 11 = .ok (.iload_n 1, 1) := dk_27 (dk_at dksJ7_checkIndex_0 11 rfl rfl)
theorem dJ7_checkIndex_12 : decode cJ7_checkIndex 12 = .ok (.invokestatic 95, 3) := dk_184 0 95 (dk_at dksJ7_checkIndex_0 12 rfl rfl)
theorem dJ7_checkIndex_15 : decode cJ7_checkIndex 15 = .ok (.athrow, 1) := dk_191 (dk_at dksJ7_checkIndex_0 15 rfl rfl)
theorem dJ7_checkIndex_16 : decode cJ7_checkIndex 16 = .ok (.iload_n 0, 1) := dk_26 (dk_at dksJ7_checkIndex_0 16 rfl rfl)
theorem dJ7_checkIndex_17 : decode cJ7_checkIndex 17 = .ok (.ireturn, 1) := dk_172 (dk_at dksJ7_checkIndex_0 17 rfl rfl)
abbrev cJ7_checkFromToIndex : ByteArray := prog_72_method_12_code
def yJ7_checkFromToIndex : MethodName := ⟨RJ7, "checkFromToIndex", "(IIILjava/util/function/BiFunction;)I"⟩
def dkwJ7_checkFromToIndex_0 : List UInt8 := [26, 155, 0, 13, 26, 27, 163, 0, 8, 27, 28, 164, 0, 11, 45, 26, 27, 28, 184, 0, 99, 191, 26, 172]
abbrev dktJ7_checkFromToIndex_0 : List UInt8 := dkwJ7_checkFromToIndex_0 ++ []
theorem dksJ7_checkFromToIndex_0 : cJ7_checkFromToIndex.data.toList.drop 0 = dktJ7_checkFromToIndex_0 := by decide +kernel
theorem dJ7_checkFromToIndex_0 : decode cJ7_checkFromToIndex 0 = .ok (.iload_n 0, 1) := dk_26 (dk_at dksJ7_checkFromToIndex_0 0 rfl rfl)
theorem dJ7_checkFromToIndex_1 : decode cJ7_checkFromToIndex 1 = .ok (.ifCond .lt 13, 3) := dk_155 0 13 (dk_at dksJ7_checkFromToIndex_0 1 rfl rfl)
theorem dJ7_checkFromToIndex_4 : decode cJ7_checkFromToIndex 4 = .ok (.iload_n 0, 1) := dk_26 (dk_at dksJ7_checkFromToIndex_0 4 rfl rfl)
theorem dJ7_checkFromToIndex_5 : decode cJ7_checkFromToIndex 5 = .ok (.iload_n 1, 1) := dk_27 (dk_at dksJ7_checkFromToIndex_0 5 rfl rfl)
theorem dJ7_checkFromToIndex_6 : decode cJ7_checkFromToIndex 6 = .ok (.if_icmp .gt 8, 3) := dk_163 0 8 (dk_at dksJ7_checkFromToIndex_0 6 rfl rfl)
theorem dJ7_checkFromToIndex_9 : decode cJ7_checkFromToIndex 9 = .ok (.iload_n 1, 1) := dk_27 (dk_at dksJ7_checkFromToIndex_0 9 rfl rfl)
theorem dJ7_checkFromToIndex_10 : decode cJ7_checkFromToIndex 10 = .ok (.iload_n 2, 1) := dk_28 (dk_at dksJ7_checkFromToIndex_0 10 rfl rfl)
theorem dJ7_checkFromToIndex_11 : decode cJ7_checkFromToIndex 11 = .ok (.if_icmp .le 11, 3) := dk_164 0 11 (dk_at dksJ7_checkFromToIndex_0 11 rfl rfl)
theorem dJ7_checkFromToIndex_14 : decode cJ7_checkFromToIndex 14 = .ok (.aload_n 3, 1) := dk_45 (dk_at dksJ7_checkFromToIndex_0 14 rfl rfl)
theorem dJ7_checkFromToIndex_15 : decode cJ7_checkFromToIndex 15 = .ok (.iload_n 0, 1) := dk_26 (dk_at dksJ7_checkFromToIndex_0 15 rfl rfl)
theorem dJ7_checkFromToIndex_16 : decode cJ7_checkFromToIndex 16 = .ok (.iload_n 1, 1) := dk_27 (dk_at dksJ7_checkFromToIndex_0 16 rfl rfl)
theorem dJ7_checkFromToIndex_17 : decode cJ7_checkFromToIndex 17 = .ok (.iload_n 2, 1) := dk_28 (dk_at dksJ7_checkFromToIndex_0 17 rfl rfl)
theorem dJ7_checkFromToIndex_18 : decode cJ7_checkFromToIndex 18 = .ok (.invokestatic 99, 3) := dk_184 0 99 (dk_at dksJ7_checkFromToIndex_0 18 rfl rfl)
theorem dJ7_checkFromToIndex_21 : decode cJ7_checkFromToIndex 21 = .ok (.athrow, 1) := dk_191 (dk_at dksJ7_checkFromToIndex_0 21 rfl rfl)
theorem dJ7_checkFromToIndex_22 : decode cJ7_checkFromToIndex 22 = .ok (.iload_n 0, 1) := dk_26 (dk_at dksJ7_checkFromToIndex_0 22 rfl rfl)
theorem dJ7_checkFromToIndex_23 : decode cJ7_checkFromToIndex 23 = .ok (.ireturn, 1) := dk_172 (dk_at dksJ7_checkFromToIndex_0 23 rfl rfl)
abbrev cJ7_checkFromIndexSize : ByteArray := prog_72_method_13_code
def yJ7_checkFromIndexSize : MethodName := ⟨RJ7, "checkFromIndexSize", "(IIILjava/util/function/BiFunction;)I"⟩
def dkwJ7_checkFromIndexSize_1 : List UInt8 := [172]
abbrev dktJ7_checkFromIndexSize_1 : List UInt8 := dkwJ7_checkFromIndexSize_1 ++ []
def dkwJ7_checkFromIndexSize_0 : List UInt8 := [28, 26, 128, 27, 128, 155, 0, 10, 27, 28, 26, 100, 164, 0, 11, 45, 26, 27, 28, 184, 0, 103, 191, 26]
abbrev dktJ7_checkFromIndexSize_0 : List UInt8 := dkwJ7_checkFromIndexSize_0 ++ dktJ7_checkFromIndexSize_1
theorem dksJ7_checkFromIndexSize_0 : cJ7_checkFromIndexSize.data.toList.drop 0 = dktJ7_checkFromIndexSize_0 := by decide +kernel
theorem dksJ7_checkFromIndexSize_1 : cJ7_checkFromIndexSize.data.toList.drop 24 = dktJ7_checkFromIndexSize_1 := dk_seg dksJ7_checkFromIndexSize_0 24 rfl rfl
theorem dJ7_checkFromIndexSize_0 : decode cJ7_checkFromIndexSize 0 = .ok (.iload_n 2, 1) := dk_28 (dk_at dksJ7_checkFromIndexSize_0 0 rfl rfl)
theorem dJ7_checkFromIndexSize_1 : decode cJ7_checkFromIndexSize 1 = .ok (.iload_n 0, 1) := dk_26 (dk_at dksJ7_checkFromIndexSize_0 1 rfl rfl)
theorem dJ7_checkFromIndexSize_2 : decode cJ7_checkFromIndexSize 2 = .ok (.ior, 1) := dk_128 (dk_at dksJ7_checkFromIndexSize_0 2 rfl rfl)
theorem dJ7_checkFromIndexSize_3 : decode cJ7_checkFromIndexSize 3 = .ok (.iload_n 1, 1) := dk_27 (dk_at dksJ7_checkFromIndexSize_0 3 rfl rfl)
theorem dJ7_checkFromIndexSize_4 : decode cJ7_checkFromIndexSize 4 = .ok (.ior, 1) := dk_128 (dk_at dksJ7_checkFromIndexSize_0 4 rfl rfl)
theorem dJ7_checkFromIndexSize_5 : decode cJ7_checkFromIndexSize 5 = .ok (.ifCond .lt 10, 3) := dk_155 0 10 (dk_at dksJ7_checkFromIndexSize_0 5 rfl rfl)
theorem dJ7_checkFromIndexSize_8 : decode cJ7_checkFromIndexSize 8 = .ok (.iload_n 1, 1) := dk_27 (dk_at dksJ7_checkFromIndexSize_0 8 rfl rfl)
theorem dJ7_checkFromIndexSize_9 : decode cJ7_checkFromIndexSize 9 = .ok (.iload_n 2, 1) := dk_28 (dk_at dksJ7_checkFromIndexSize_0 9 rfl rfl)
theorem dJ7_checkFromIndexSize_10 : decode cJ7_checkFromIndexSize 10 = .ok (.iload_n 0, 1) := dk_26 (dk_at dksJ7_checkFromIndexSize_0 10 rfl rfl)
theorem dJ7_checkFromIndexSize_11 : decode cJ7_checkFromIndexSize 11 = .ok (.isub, 1) := dk_100 (dk_at dksJ7_checkFromIndexSize_0 11 rfl rfl)
theorem dJ7_checkFromIndexSize_12 : decode cJ7_checkFromIndexSize 12 = .ok (.if_icmp .le 11, 3) := dk_164 0 11 (dk_at dksJ7_checkFromIndexSize_0 12 rfl rfl)
theorem dJ7_checkFromIndexSize_15 : decode cJ7_checkFromIndexSize 15 = .ok (.aload_n 3, 1) := dk_45 (dk_at dksJ7_checkFromIndexSize_0 15 rfl rfl)
theorem dJ7_checkFromIndexSize_16 : decode cJ7_checkFromIndexSize 16 = .ok (.iload_n 0, 1) := dk_26 (dk_at dksJ7_checkFromIndexSize_0 16 rfl rfl)
theorem dJ7_checkFromIndexSize_17 : decode cJ7_checkFromIndexSize 17 = .ok (.iload_n 1, 1) := dk_27 (dk_at dksJ7_checkFromIndexSize_0 17 rfl rfl)
theorem dJ7_checkFromIndexSize_18 : decode cJ7_checkFromIndexSize 18 = .ok (.iload_n 2, 1) := dk_28 (dk_at dksJ7_checkFromIndexSize_0 18 rfl rfl)
theorem dJ7_checkFromIndexSize_19 : decode cJ7_checkFromIndexSize 19 = .ok (.invokestatic 103, 3) := dk_184 0 103 (dk_at dksJ7_checkFromIndexSize_0 19 rfl rfl)
theorem dJ7_checkFromIndexSize_22 : decode cJ7_checkFromIndexSize 22 = .ok (.athrow, 1) := dk_191 (dk_at dksJ7_checkFromIndexSize_0 22 rfl rfl)
theorem dJ7_checkFromIndexSize_23 : decode cJ7_checkFromIndexSize 23 = .ok (.iload_n 0, 1) := dk_26 (dk_at dksJ7_checkFromIndexSize_0 23 rfl rfl)
theorem dJ7_checkFromIndexSize_24 : decode cJ7_checkFromIndexSize 24 = .ok (.ireturn, 1) := dk_172 (dk_at dksJ7_checkFromIndexSize_1 0 rfl rfl)
theorem q107 : (Jvm.Cond.initialized "jdk/internal/util/Preconditions") ∈ lw_all := lw_g (lw_at lw_m1 12 rfl) rfl
theorem q255 : (Jvm.Cond.static ({ cls := "jdk/internal/util/Preconditions", name := "checkIndex", desc := "(IILjava/util/function/BiFunction;)I" } : Jvm.MethodName)) ∈ lw_all := lw_g (lw_at lw_m1 160 rfl) rfl
theorem q256 : (Jvm.Cond.code ({ cls := "jdk/internal/util/Preconditions", name := "checkIndex", desc := "(IILjava/util/function/BiFunction;)I" } : Jvm.MethodName) prog_72_method_11_code (3 : Nat) (Option.some Jvm.ClassFile.FieldType.int)) ∈ lw_all := lw_g (lw_at lw_m1 161 rfl) rfl
theorem q1239 : (Jvm.Cond.laysStatic "jdk/internal/util/Preconditions" "SIOOBE_FORMATTER" "Ljava/util/function/BiFunction;") ∈ lw_tbl := lw_at lw_m5 184 rfl
theorem q1241 : (Jvm.Cond.static ({ cls := "jdk/internal/util/Preconditions", name := "checkFromToIndex", desc := "(IIILjava/util/function/BiFunction;)I" } : Jvm.MethodName)) ∈ lw_all := lw_g (lw_at lw_m5 186 rfl) rfl
theorem q1242 : (Jvm.Cond.code ({ cls := "jdk/internal/util/Preconditions", name := "checkFromToIndex", desc := "(IIILjava/util/function/BiFunction;)I" } : Jvm.MethodName) prog_72_method_12_code (4 : Nat) (Option.some Jvm.ClassFile.FieldType.int)) ∈ lw_all := lw_g (lw_at lw_m5 187 rfl) rfl
theorem q1825 : (Jvm.Cond.static ({ cls := "jdk/internal/util/Preconditions", name := "checkFromIndexSize", desc := "(IIILjava/util/function/BiFunction;)I" } : Jvm.MethodName)) ∈ lw_all := lw_g (lw_at lw_m8 50 rfl) rfl
theorem q1826 : (Jvm.Cond.code ({ cls := "jdk/internal/util/Preconditions", name := "checkFromIndexSize", desc := "(IIILjava/util/function/BiFunction;)I" } : Jvm.MethodName) prog_72_method_13_code (4 : Nat) (Option.some Jvm.ClassFile.FieldType.int)) ∈ lw_all := lw_g (lw_at lw_m8 51 rfl) rfl
abbrev cJ8_init : ByteArray := prog_47_method_3_code
def yJ8_init : MethodName := ⟨RJ8, "<init>", "()V"⟩
def dkwJ8_init_0 : List UInt8 := [42, 183, 0, 42, 42, 16, 17, 189, 0, 47, 181, 0, 3, 177]
abbrev dktJ8_init_0 : List UInt8 := dkwJ8_init_0 ++ []
theorem dksJ8_init_0 : cJ8_init.data.toList.drop 0 = dktJ8_init_0 := by decide +kernel
theorem dJ8_init_0 : decode cJ8_init 0 = .ok (.aload_n 0, 1) := dk_42 (dk_at dksJ8_init_0 0 rfl rfl)
theorem dJ8_init_1 : decode cJ8_init 1 = .ok (.invokespecial 42, 3) := dk_183 0 42 (dk_at dksJ8_init_0 1 rfl rfl)
theorem dJ8_init_4 : decode cJ8_init 4 = .ok (.aload_n 0, 1) := dk_42 (dk_at dksJ8_init_0 4 rfl rfl)
theorem dJ8_init_5 : decode cJ8_init 5 = .ok (.bipush 17, 2) := dk_16 17 (dk_at dksJ8_init_0 5 rfl rfl)
theorem dJ8_init_7 : decode cJ8_init 7 = .ok (.anewarray 47, 3) := dk_189 0 47 (dk_at dksJ8_init_0 7 rfl rfl)
theorem dJ8_init_10 : decode cJ8_init 10 = .ok (.putfield 3, 3) := dk_181 0 3 (dk_at dksJ8_init_0 10 rfl rfl)
theorem dJ8_init_13 : decode cJ8_init 13 = .ok (.return_, 1) := dk_177 (dk_at dksJ8_init_0 13 rfl rfl)
abbrev cJ8_addLast : ByteArray := prog_47_method_13_code
def yJ8_addLast : MethodName := ⟨RJ8, "addLast", "(Ljava/lang/Object;)V"⟩
def dkwJ8_addLast_2 : List UInt8 := [182, 0, 71, 177]
abbrev dktJ8_addLast_2 : List UInt8 := dkwJ8_addLast_2 ++ []
def dkwJ8_addLast_1 : List UInt8 := [42, 180, 0, 24, 42, 42, 180, 0, 20, 44, 190, 184, 0, 74, 90, 181, 0, 20, 160, 0, 8, 42, 4]
abbrev dktJ8_addLast_1 : List UInt8 := dkwJ8_addLast_1 ++ dktJ8_addLast_2
def dkwJ8_addLast_0 : List UInt8 := [43, 199, 0, 11, 187, 0, 65, 89, 183, 0, 67, 191, 42, 180, 0, 3, 77, 44, 42, 180, 0, 20, 43, 83]
abbrev dktJ8_addLast_0 : List UInt8 := dkwJ8_addLast_0 ++ dktJ8_addLast_1
theorem dksJ8_addLast_0 : cJ8_addLast.data.toList.drop 0 = dktJ8_addLast_0 := by decide +kernel
theorem dksJ8_addLast_1 : cJ8_addLast.data.toList.drop 24 = dktJ8_addLast_1 := dk_seg dksJ8_addLast_0 24 rfl rfl
theorem dksJ8_addLast_2 : cJ8_addLast.data.toList.drop 47 = dktJ8_addLast_2 := dk_seg dksJ8_addLast_1 23 rfl rfl
theorem dJ8_addLast_0 : decode cJ8_addLast 0 = .ok (.aload_n 1, 1) := dk_43 (dk_at dksJ8_addLast_0 0 rfl rfl)
theorem dJ8_addLast_1 : decode cJ8_addLast 1 = .ok (.ifnonnull 11, 3) := dk_199 0 11 (dk_at dksJ8_addLast_0 1 rfl rfl)
theorem dJ8_addLast_4 : decode cJ8_addLast 4 = .ok (.new 65, 3) := dk_187 0 65 (dk_at dksJ8_addLast_0 4 rfl rfl)
theorem dJ8_addLast_7 : decode cJ8_addLast 7 = .ok (.dup, 1) := dk_89 (dk_at dksJ8_addLast_0 7 rfl rfl)
theorem dJ8_addLast_8 : decode cJ8_addLast 8 = .ok (.invokespecial 67, 3) := dk_183 0 67 (dk_at dksJ8_addLast_0 8 rfl rfl)
theorem dJ8_addLast_11 : decode cJ8_addLast 11 = .ok (.athrow, 1) := dk_191 (dk_at dksJ8_addLast_0 11 rfl rfl)
theorem dJ8_addLast_12 : decode cJ8_addLast 12 = .ok (.aload_n 0, 1) := dk_42 (dk_at dksJ8_addLast_0 12 rfl rfl)
theorem dJ8_addLast_13 : decode cJ8_addLast 13 = .ok (.getfield 3, 3) := dk_180 0 3 (dk_at dksJ8_addLast_0 13 rfl rfl)
theorem dJ8_addLast_16 : decode cJ8_addLast 16 = .ok (.astore_n 2, 1) := dk_77 (dk_at dksJ8_addLast_0 16 rfl rfl)
theorem dJ8_addLast_17 : decode cJ8_addLast 17 = .ok (.aload_n 2, 1) := dk_44 (dk_at dksJ8_addLast_0 17 rfl rfl)
theorem dJ8_addLast_18 : decode cJ8_addLast 18 = .ok (.aload_n 0, 1) := dk_42 (dk_at dksJ8_addLast_0 18 rfl rfl)
theorem dJ8_addLast_19 : decode cJ8_addLast 19 = .ok (.getfield 20, 3) := dk_180 0 20 (dk_at dksJ8_addLast_0 19 rfl rfl)
theorem dJ8_addLast_22 : decode cJ8_addLast 22 = .ok (.aload_n 1, 1) := dk_43 (dk_at dksJ8_addLast_0 22 rfl rfl)
theorem dJ8_addLast_23 : decode cJ8_addLast 23 = .ok (.aastore, 1) := dk_83 (dk_at dksJ8_addLast_0 23 rfl rfl)
theorem dJ8_addLast_24 : decode cJ8_addLast 24 = .ok (.aload_n 0, 1) := dk_42 (dk_at dksJ8_addLast_1 0 rfl rfl)
theorem dJ8_addLast_25 : decode cJ8_addLast 25 = .ok (.getfield 24, 3) := dk_180 0 24 (dk_at dksJ8_addLast_1 1 rfl rfl)
theorem dJ8_addLast_28 : decode cJ8_addLast 28 = .ok (.aload_n 0, 1) := dk_42 (dk_at dksJ8_addLast_1 4 rfl rfl)
theorem dJ8_addLast_29 : decode cJ8_addLast 29 = .ok (.aload_n 0, 1) := dk_42 (dk_at dksJ8_addLast_1 5 rfl rfl)
theorem dJ8_addLast_30 : decode cJ8_addLast 30 = .ok (.getfield 20, 3) := dk_180 0 20 (dk_at dksJ8_addLast_1 6 rfl rfl)
theorem dJ8_addLast_33 : decode cJ8_addLast 33 = .ok (.aload_n 2, 1) := dk_44 (dk_at dksJ8_addLast_1 9 rfl rfl)
theorem dJ8_addLast_34 : decode cJ8_addLast 34 = .ok (.arraylength, 1) := dk_190 (dk_at dksJ8_addLast_1 10 rfl rfl)
theorem dJ8_addLast_35 : decode cJ8_addLast 35 = .ok (.invokestatic 74, 3) := dk_184 0 74 (dk_at dksJ8_addLast_1 11 rfl rfl)
theorem dJ8_addLast_38 : decode cJ8_addLast 38 = .ok (.dup_x1, 1) := dk_90 (dk_at dksJ8_addLast_1 14 rfl rfl)
theorem dJ8_addLast_39 : decode cJ8_addLast 39 = .ok (.putfield 20, 3) := dk_181 0 20 (dk_at dksJ8_addLast_1 15 rfl rfl)
theorem dJ8_addLast_42 : decode cJ8_addLast 42 = .ok (.if_icmp .ne 8, 3) := dk_160 0 8 (dk_at dksJ8_addLast_1 18 rfl rfl)
theorem dJ8_addLast_45 : decode cJ8_addLast 45 = .ok (.aload_n 0, 1) := dk_42 (dk_at dksJ8_addLast_1 21 rfl rfl)
theorem dJ8_addLast_46 : decode cJ8_addLast 46 = .ok (.iconst 1, 1) := dk_4 (dk_at dksJ8_addLast_1 22 rfl rfl)
theorem dJ8_addLast_47 : decode cJ8_addLast 47 = .ok (.invokevirtual 71, 3) := dk_182 0 71 (dk_at dksJ8_addLast_2 0 rfl rfl)
theorem dJ8_addLast_50 : decode cJ8_addLast 50 = .ok (.return_, 1) := dk_177 (dk_at dksJ8_addLast_2 3 rfl rfl)
abbrev cJ8_inc : ByteArray := prog_47_method_6_code
def yJ8_inc : MethodName := ⟨RJ8, "inc", "(II)I"⟩
def dkwJ8_inc_0 : List UInt8 := [132, 0, 1, 26, 27, 161, 0, 5, 3, 59, 26, 172]
abbrev dktJ8_inc_0 : List UInt8 := dkwJ8_inc_0 ++ []
theorem dksJ8_inc_0 : cJ8_inc.data.toList.drop 0 = dktJ8_inc_0 := by decide +kernel
theorem dJ8_inc_0 : decode cJ8_inc 0 = .ok (.iinc 0 1, 3) := dk_132 0 1 (dk_at dksJ8_inc_0 0 rfl rfl)
theorem dJ8_inc_3 : decode cJ8_inc 3 = .ok (.iload_n 0, 1) := dk_26 (dk_at dksJ8_inc_0 3 rfl rfl)
theorem dJ8_inc_4 : decode cJ8_inc 4 = .ok (.iload_n 1, 1) := dk_27 (dk_at dksJ8_inc_0 4 rfl rfl)
theorem dJ8_inc_5 : decode cJ8_inc 5 = .ok (.if_icmp .lt 5, 3) := dk_161 0 5 (dk_at dksJ8_inc_0 5 rfl rfl)
theorem dJ8_inc_8 : decode cJ8_inc 8 = .ok (.iconst 0, 1) := dk_3 (dk_at dksJ8_inc_0 8 rfl rfl)
theorem dJ8_inc_9 : decode cJ8_inc 9 = .ok (.istore_n 0, 1) := dk_59 (dk_at dksJ8_inc_0 9 rfl rfl)
theorem dJ8_inc_10 : decode cJ8_inc 10 = .ok (.iload_n 0, 1) := dk_26 (dk_at dksJ8_inc_0 10 rfl rfl)
theorem dJ8_inc_11 : decode cJ8_inc 11 = .ok (.ireturn, 1) := dk_172 (dk_at dksJ8_inc_0 11 rfl rfl)
abbrev cJ8_grow : ByteArray := prog_47_method_1_code
def yJ8_grow : MethodName := ⟨RJ8, "grow", "(I)V"⟩
def dkwJ8_grow_7 : List UInt8 := [177]
abbrev dktJ8_grow_7 : List UInt8 := dkwJ8_grow_7 ++ []
def dkwJ8_grow_6 : List UInt8 := [181, 0, 24, 54, 8, 21, 7, 21, 8, 162, 0, 15, 25, 5, 21, 7, 1, 83, 132, 7, 1, 167, 255, 240]
abbrev dktJ8_grow_6 : List UInt8 := dkwJ8_grow_6 ++ dktJ8_grow_7
def dkwJ8_grow_5 : List UInt8 := [42, 180, 0, 24, 100, 184, 0, 27, 42, 180, 0, 24, 54, 7, 42, 89, 180, 0, 24, 21, 6, 96, 90]
abbrev dktJ8_grow_5 : List UInt8 := dkwJ8_grow_5 ++ dktJ8_grow_6
def dkwJ8_grow_4 : List UInt8 := [198, 0, 71, 29, 28, 100, 54, 6, 25, 5, 42, 180, 0, 24, 25, 5, 42, 180, 0, 24, 21, 6, 96, 28]
abbrev dktJ8_grow_4 : List UInt8 := dkwJ8_grow_4 ++ dktJ8_grow_5
def dkwJ8_grow_3 : List UInt8 := [180, 0, 24, 161, 0, 24, 42, 180, 0, 20, 42, 180, 0, 24, 160, 0, 81, 25, 5, 42, 180, 0, 24, 50]
abbrev dktJ8_grow_3 : List UInt8 := dkwJ8_grow_3 ++ dktJ8_grow_4
def dkwJ8_grow_2 : List UInt8 := [182, 0, 10, 62, 42, 42, 180, 0, 3, 29, 184, 0, 14, 90, 181, 0, 3, 58, 5, 42, 180, 0, 20, 42]
abbrev dktJ8_grow_2 : List UInt8 := dkwJ8_grow_2 ++ dktJ8_grow_3
def dkwJ8_grow_1 : List UInt8 := [21, 4, 27, 161, 0, 15, 28, 21, 4, 96, 89, 62, 18, 9, 100, 158, 0, 11, 42, 27, 21, 4]
abbrev dktJ8_grow_1 : List UInt8 := dkwJ8_grow_1 ++ dktJ8_grow_2
def dkwJ8_grow_0 : List UInt8 := [42, 180, 0, 3, 190, 61, 28, 16, 64, 162, 0, 9, 28, 5, 96, 167, 0, 6, 28, 4, 122, 54, 4]
abbrev dktJ8_grow_0 : List UInt8 := dkwJ8_grow_0 ++ dktJ8_grow_1
theorem dksJ8_grow_0 : cJ8_grow.data.toList.drop 0 = dktJ8_grow_0 := by decide +kernel
theorem dksJ8_grow_1 : cJ8_grow.data.toList.drop 23 = dktJ8_grow_1 := dk_seg dksJ8_grow_0 23 rfl rfl
theorem dksJ8_grow_2 : cJ8_grow.data.toList.drop 45 = dktJ8_grow_2 := dk_seg dksJ8_grow_1 22 rfl rfl
theorem dksJ8_grow_3 : cJ8_grow.data.toList.drop 69 = dktJ8_grow_3 := dk_seg dksJ8_grow_2 24 rfl rfl
theorem dksJ8_grow_4 : cJ8_grow.data.toList.drop 93 = dktJ8_grow_4 := dk_seg dksJ8_grow_3 24 rfl rfl
theorem dksJ8_grow_5 : cJ8_grow.data.toList.drop 117 = dktJ8_grow_5 := dk_seg dksJ8_grow_4 24 rfl rfl
theorem dksJ8_grow_6 : cJ8_grow.data.toList.drop 140 = dktJ8_grow_6 := dk_seg dksJ8_grow_5 23 rfl rfl
theorem dksJ8_grow_7 : cJ8_grow.data.toList.drop 164 = dktJ8_grow_7 := dk_seg dksJ8_grow_6 24 rfl rfl
theorem dJ8_grow_0 : decode cJ8_grow 0 = .ok (.aload_n 0, 1) := dk_42 (dk_at dksJ8_grow_0 0 rfl rfl)
theorem dJ8_grow_1 : decode cJ8_grow 1 = .ok (.getfield 3, 3) := dk_180 0 3 (dk_at dksJ8_grow_0 1 rfl rfl)
theorem dJ8_grow_4 : decode cJ8_grow 4 = .ok (.arraylength, 1) := dk_190 (dk_at dksJ8_grow_0 4 rfl rfl)
theorem dJ8_grow_5 : decode cJ8_grow 5 = .ok (.istore_n 2, 1) := dk_61 (dk_at dksJ8_grow_0 5 rfl rfl)
theorem dJ8_grow_6 : decode cJ8_grow 6 = .ok (.iload_n 2, 1) := dk_28 (dk_at dksJ8_grow_0 6 rfl rfl)
theorem dJ8_grow_7 : decode cJ8_grow 7 = .ok (.bipush 64, 2) := dk_16 64 (dk_at dksJ8_grow_0 7 rfl rfl)
theorem dJ8_grow_9 : decode cJ8_grow 9 = .ok (.if_icmp .ge 9, 3) := dk_162 0 9 (dk_at dksJ8_grow_0 9 rfl rfl)
theorem dJ8_grow_12 : decode cJ8_grow 12 = .ok (.iload_n 2, 1) := dk_28 (dk_at dksJ8_grow_0 12 rfl rfl)
theorem dJ8_grow_13 : decode cJ8_grow 13 = .ok (.iconst 2, 1) := dk_5 (dk_at dksJ8_grow_0 13 rfl rfl)
theorem dJ8_grow_14 : decode cJ8_grow 14 = .ok (.iadd, 1) := dk_96 (dk_at dksJ8_grow_0 14 rfl rfl)
theorem dJ8_grow_15 : decode cJ8_grow 15 = .ok (.goto 6, 3) := dk_167 0 6 (dk_at dksJ8_grow_0 15 rfl rfl)
theorem dJ8_grow_18 : decode cJ8_grow 18 = .ok (.iload_n 2, 1) := dk_28 (dk_at dksJ8_grow_0 18 rfl rfl)
theorem dJ8_grow_19 : decode cJ8_grow 19 = .ok (.iconst 1, 1) := dk_4 (dk_at dksJ8_grow_0 19 rfl rfl)
theorem dJ8_grow_20 : decode cJ8_grow 20 = .ok (.ishr, 1) := dk_122 (dk_at dksJ8_grow_0 20 rfl rfl)
theorem dJ8_grow_21 : decode cJ8_grow 21 = .ok (.istore 4, 2) := dk_54 4 (dk_at dksJ8_grow_0 21 rfl rfl)
theorem dJ8_grow_23 : decode cJ8_grow 23 = .ok (.iload 4, 2) := dk_21 4 (dk_at dksJ8_grow_1 0 rfl rfl)
theorem dJ8_grow_25 : decode cJ8_grow 25 = .ok (.iload_n 1, 1) := dk_27 (dk_at dksJ8_grow_1 2 rfl rfl)
theorem dJ8_grow_26 : decode cJ8_grow 26 = .ok (.if_icmp .lt 15, 3) := dk_161 0 15 (dk_at dksJ8_grow_1 3 rfl rfl)
theorem dJ8_grow_29 : decode cJ8_grow 29 = .ok (.iload_n 2, 1) := dk_28 (dk_at dksJ8_grow_1 6 rfl rfl)
theorem dJ8_grow_30 : decode cJ8_grow 30 = .ok (.iload 4, 2) := dk_21 4 (dk_at dksJ8_grow_1 7 rfl rfl)
theorem dJ8_grow_32 : decode cJ8_grow 32 = .ok (.iadd, 1) := dk_96 (dk_at dksJ8_grow_1 9 rfl rfl)
theorem dJ8_grow_33 : decode cJ8_grow 33 = .ok (.dup, 1) := dk_89 (dk_at dksJ8_grow_1 10 rfl rfl)
theorem dJ8_grow_34 : decode cJ8_grow 34 = .ok (.istore_n 3, 1) := dk_62 (dk_at dksJ8_grow_1 11 rfl rfl)
theorem dJ8_grow_35 : decode cJ8_grow 35 = .ok (.ldc 9, 2) := dk_18 9 (dk_at dksJ8_grow_1 12 rfl rfl)
theorem dJ8_grow_37 : decode cJ8_grow 37 = .ok (.isub, 1) := dk_100 (dk_at dksJ8_grow_1 14 rfl rfl)
theorem dJ8_grow_38 : decode cJ8_grow 38 = .ok (.ifCond .le 11, 3) := dk_158 0 11 (dk_at dksJ8_grow_1 15 rfl rfl)
theorem dJ8_grow_41 : decode cJ8_grow 41 = .ok (.aload_n 0, 1) := dk_42 (dk_at dksJ8_grow_1 18 rfl rfl)
theorem dJ8_grow_42 : decode cJ8_grow 42 = .ok (.iload_n 1, 1) := dk_27 (dk_at dksJ8_grow_1 19 rfl rfl)
theorem dJ8_grow_43 : decode cJ8_grow 43 = .ok (.iload 4, 2) := dk_21 4 (dk_at dksJ8_grow_1 20 rfl rfl)
theorem dJ8_grow_45 : decode cJ8_grow 45 = .ok (.invokevirtual 10, 3) := dk_182 0 10 (dk_at dksJ8_grow_2 0 rfl rfl)
theorem dJ8_grow_48 : decode cJ8_grow 48 = .ok (.istore_n 3, 1) := dk_62 (dk_at dksJ8_grow_2 3 rfl rfl)
theorem dJ8_grow_49 : decode cJ8_grow 49 = .ok (.aload_n 0, 1) := dk_42 (dk_at dksJ8_grow_2 4 rfl rfl)
theorem dJ8_grow_50 : decode cJ8_grow 50 = .ok (.aload_n 0, 1) := dk_42 (dk_at dksJ8_grow_2 5 rfl rfl)
theorem dJ8_grow_51 : decode cJ8_grow 51 = .ok (.getfield 3, 3) := dk_180 0 3 (dk_at dksJ8_grow_2 6 rfl rfl)
theorem dJ8_grow_54 : decode cJ8_grow 54 = .ok (.iload_n 3, 1) := dk_29 (dk_at dksJ8_grow_2 9 rfl rfl)
theorem dJ8_grow_55 : decode cJ8_grow 55 = .ok (.invokestatic 14, 3) := dk_184 0 14 (dk_at dksJ8_grow_2 10 rfl rfl)
theorem dJ8_grow_58 : decode cJ8_grow 58 = .ok (.dup_x1, 1) := dk_90 (dk_at dksJ8_grow_2 13 rfl rfl)
theorem dJ8_grow_59 : decode cJ8_grow 59 = .ok (.putfield 3, 3) := dk_181 0 3 (dk_at dksJ8_grow_2 14 rfl rfl)
theorem dJ8_grow_62 : decode cJ8_grow 62 = .ok (.astore 5, 2) := dk_58 5 (dk_at dksJ8_grow_2 17 rfl rfl)
theorem dJ8_grow_64 : decode cJ8_grow 64 = .ok (.aload_n 0, 1) := dk_42 (dk_at dksJ8_grow_2 19 rfl rfl)
theorem dJ8_grow_65 : decode cJ8_grow 65 = .ok (.getfield 20, 3) := dk_180 0 20 (dk_at dksJ8_grow_2 20 rfl rfl)
theorem dJ8_grow_68 : decode cJ8_grow 68 = .ok (.aload_n 0, 1) := dk_42 (dk_at dksJ8_grow_2 23 rfl rfl)
theorem dJ8_grow_69 : decode cJ8_grow 69 = .ok (.getfield 24, 3) := dk_180 0 24 (dk_at dksJ8_grow_3 0 rfl rfl)
theorem dJ8_grow_72 : decode cJ8_grow 72 = .ok (.if_icmp .lt 24, 3) := dk_161 0 24 (dk_at dksJ8_grow_3 3 rfl rfl)
theorem dJ8_grow_75 : decode cJ8_grow 75 = .ok (.aload_n 0, 1) := dk_42 (dk_at dksJ8_grow_3 6 rfl rfl)
theorem dJ8_grow_76 : decode cJ8_grow 76 = .ok (.getfield 20, 3) := dk_180 0 20 (dk_at dksJ8_grow_3 7 rfl rfl)
theorem dJ8_grow_79 : decode cJ8_grow 79 = .ok (.aload_n 0, 1) := dk_42 (dk_at dksJ8_grow_3 10 rfl rfl)
theorem dJ8_grow_80 : decode cJ8_grow 80 = .ok (.getfield 24, 3) := dk_180 0 24 (dk_at dksJ8_grow_3 11 rfl rfl)
theorem dJ8_grow_83 : decode cJ8_grow 83 = .ok (.if_icmp .ne 81, 3) := dk_160 0 81 (dk_at dksJ8_grow_3 14 rfl rfl)
theorem dJ8_grow_86 : decode cJ8_grow 86 = .ok (.aload 5, 2) := dk_25 5 (dk_at dksJ8_grow_3 17 rfl rfl)
theorem dJ8_grow_88 : decode cJ8_grow 88 = .ok (.aload_n 0, 1) := dk_42 (dk_at dksJ8_grow_3 19 rfl rfl)
theorem dJ8_grow_89 : decode cJ8_grow 89 = .ok (.getfield 24, 3) := dk_180 0 24 (dk_at dksJ8_grow_3 20 rfl rfl)
theorem dJ8_grow_92 : decode cJ8_grow 92 = .ok (.aaload, 1) := dk_50 (dk_at dksJ8_grow_3 23 rfl rfl)
theorem dJ8_grow_93 : decode cJ8_grow 93 = .ok (.ifnull 71, 3) := dk_198 0 71 (dk_at dksJ8_grow_4 0 rfl rfl)
theorem dJ8_grow_96 : decode cJ8_grow 96 = .ok (.iload_n 3, 1) := dk_29 (dk_at dksJ8_grow_4 3 rfl rfl)
theorem dJ8_grow_97 : decode cJ8_grow 97 = .ok (.iload_n 2, 1) := dk_28 (dk_at dksJ8_grow_4 4 rfl rfl)
theorem dJ8_grow_98 : decode cJ8_grow 98 = .ok (.isub, 1) := dk_100 (dk_at dksJ8_grow_4 5 rfl rfl)
theorem dJ8_grow_99 : decode cJ8_grow 99 = .ok (.istore 6, 2) := dk_54 6 (dk_at dksJ8_grow_4 6 rfl rfl)
theorem dJ8_grow_101 : decode cJ8_grow 101 = .ok (.aload 5, 2) := dk_25 5 (dk_at dksJ8_grow_4 8 rfl rfl)
theorem dJ8_grow_103 : decode cJ8_grow 103 = .ok (.aload_n 0, 1) := dk_42 (dk_at dksJ8_grow_4 10 rfl rfl)
theorem dJ8_grow_104 : decode cJ8_grow 104 = .ok (.getfield 24, 3) := dk_180 0 24 (dk_at dksJ8_grow_4 11 rfl rfl)
theorem dJ8_grow_107 : decode cJ8_grow 107 = .ok (.aload 5, 2) := dk_25 5 (dk_at dksJ8_grow_4 14 rfl rfl)
theorem dJ8_grow_109 : decode cJ8_grow 109 = .ok (.aload_n 0, 1) := dk_42 (dk_at dksJ8_grow_4 16 rfl rfl)
theorem dJ8_grow_110 : decode cJ8_grow 110 = .ok (.getfield 24, 3) := dk_180 0 24 (dk_at dksJ8_grow_4 17 rfl rfl)
theorem dJ8_grow_113 : decode cJ8_grow 113 = .ok (.iload 6, 2) := dk_21 6 (dk_at dksJ8_grow_4 20 rfl rfl)
theorem dJ8_grow_115 : decode cJ8_grow 115 = .ok (.iadd, 1) := dk_96 (dk_at dksJ8_grow_4 22 rfl rfl)
theorem dJ8_grow_116 : decode cJ8_grow 116 = .ok (.iload_n 2, 1) := dk_28 (dk_at dksJ8_grow_4 23 rfl rfl)
theorem dJ8_grow_117 : decode cJ8_grow 117 = .ok (.aload_n 0, 1) := dk_42 (dk_at dksJ8_grow_5 0 rfl rfl)
theorem dJ8_grow_118 : decode cJ8_grow 118 = .ok (.getfield 24, 3) := dk_180 0 24 (dk_at dksJ8_grow_5 1 rfl rfl)
theorem dJ8_grow_121 : decode cJ8_grow 121 = .ok (.isub, 1) := dk_100 (dk_at dksJ8_grow_5 4 rfl rfl)
theorem dJ8_grow_122 : decode cJ8_grow 122 = .ok (.invokestatic 27, 3) := dk_184 0 27 (dk_at dksJ8_grow_5 5 rfl rfl)
theorem dJ8_grow_125 : decode cJ8_grow 125 = .ok (.aload_n 0, 1) := dk_42 (dk_at dksJ8_grow_5 8 rfl rfl)
theorem dJ8_grow_126 : decode cJ8_grow 126 = .ok (.getfield 24, 3) := dk_180 0 24 (dk_at dksJ8_grow_5 9 rfl rfl)
theorem dJ8_grow_129 : decode cJ8_grow 129 = .ok (.istore 7, 2) := dk_54 7 (dk_at dksJ8_grow_5 12 rfl rfl)
theorem dJ8_grow_131 : decode cJ8_grow 131 = .ok (.aload_n 0, 1) := dk_42 (dk_at dksJ8_grow_5 14 rfl rfl)
theorem dJ8_grow_132 : decode cJ8_grow 132 = .ok (.dup, 1) := dk_89 (dk_at dksJ8_grow_5 15 rfl rfl)
theorem dJ8_grow_133 : decode cJ8_grow 133 = .ok (.getfield 24, 3) := dk_180 0 24 (dk_at dksJ8_grow_5 16 rfl rfl)
theorem dJ8_grow_136 : decode cJ8_grow 136 = .ok (.iload 6, 2) := dk_21 6 (dk_at dksJ8_grow_5 19 rfl rfl)
theorem dJ8_grow_138 : decode cJ8_grow 138 = .ok (.iadd, 1) := dk_96 (dk_at dksJ8_grow_5 21 rfl rfl)
theorem dJ8_grow_139 : decode cJ8_grow 139 = .ok (.dup_x1, 1) := dk_90 (dk_at dksJ8_grow_5 22 rfl rfl)
theorem dJ8_grow_140 : decode cJ8_grow 140 = .ok (.putfield 24, 3) := dk_181 0 24 (dk_at dksJ8_grow_6 0 rfl rfl)
theorem dJ8_grow_143 : decode cJ8_grow 143 = .ok (.istore 8, 2) := dk_54 8 (dk_at dksJ8_grow_6 3 rfl rfl)
theorem dJ8_grow_145 : decode cJ8_grow 145 = .ok (.iload 7, 2) := dk_21 7 (dk_at dksJ8_grow_6 5 rfl rfl)
theorem dJ8_grow_147 : decode cJ8_grow 147 = .ok (.iload 8, 2) := dk_21 8 (dk_at dksJ8_grow_6 7 rfl rfl)
theorem dJ8_grow_149 : decode cJ8_grow 149 = .ok (.if_icmp .ge 15, 3) := dk_162 0 15 (dk_at dksJ8_grow_6 9 rfl rfl)
theorem dJ8_grow_152 : decode cJ8_grow 152 = .ok (.aload 5, 2) := dk_25 5 (dk_at dksJ8_grow_6 12 rfl rfl)
theorem dJ8_grow_154 : decode cJ8_grow 154 = .ok (.iload 7, 2) := dk_21 7 (dk_at dksJ8_grow_6 14 rfl rfl)
theorem dJ8_grow_156 : decode cJ8_grow 156 = .ok (.aconst_null, 1) := dk_1 (dk_at dksJ8_grow_6 16 rfl rfl)
theorem dJ8_grow_157 : decode cJ8_grow 157 = .ok (.aastore, 1) := dk_83 (dk_at dksJ8_grow_6 17 rfl rfl)
theorem dJ8_grow_158 : decode cJ8_grow 158 = .ok (.iinc 7 1, 3) := dk_132 7 1 (dk_at dksJ8_grow_6 18 rfl rfl)
theorem dJ8_grow_161 : decode cJ8_grow 161 = .ok (.goto (-16), 3) := dk_167 255 240 (dk_at dksJ8_grow_6 21 rfl rfl)
theorem dJ8_grow_164 : decode cJ8_grow 164 = .ok (.return_, 1) := dk_177 (dk_at dksJ8_grow_7 0 rfl rfl)
abbrev cJ8_newCapacity : ByteArray := prog_47_method_2_code
def yJ8_newCapacity : MethodName := ⟨RJ8, "newCapacity", "(II)I"⟩
def dkwJ8_newCapacity_2 : List UInt8 := [18, 9, 100, 156, 0, 9, 29, 28, 96, 167, 0, 5, 18, 9, 172]
abbrev dktJ8_newCapacity_2 : List UInt8 := dkwJ8_newCapacity_2 ++ []
def dkwJ8_newCapacity_1 : List UInt8 := [187, 0, 33, 89, 18, 35, 183, 0, 37, 191, 18, 41, 172, 27, 28, 164, 0, 6, 21, 4, 172, 29, 28, 96]
abbrev dktJ8_newCapacity_1 : List UInt8 := dkwJ8_newCapacity_1 ++ dktJ8_newCapacity_2
def dkwJ8_newCapacity_0 : List UInt8 := [42, 180, 0, 3, 190, 62, 29, 27, 96, 89, 54, 4, 18, 9, 100, 158, 0, 21, 21, 4, 156, 0, 13]
abbrev dktJ8_newCapacity_0 : List UInt8 := dkwJ8_newCapacity_0 ++ dktJ8_newCapacity_1
theorem dksJ8_newCapacity_0 : cJ8_newCapacity.data.toList.drop 0 = dktJ8_newCapacity_0 := by decide +kernel
theorem dksJ8_newCapacity_1 : cJ8_newCapacity.data.toList.drop 23 = dktJ8_newCapacity_1 := dk_seg dksJ8_newCapacity_0 23 rfl rfl
theorem dksJ8_newCapacity_2 : cJ8_newCapacity.data.toList.drop 47 = dktJ8_newCapacity_2 := dk_seg dksJ8_newCapacity_1 24 rfl rfl
theorem dJ8_newCapacity_0 : decode cJ8_newCapacity 0 = .ok (.aload_n 0, 1) := dk_42 (dk_at dksJ8_newCapacity_0 0 rfl rfl)
theorem dJ8_newCapacity_1 : decode cJ8_newCapacity 1 = .ok (.getfield 3, 3) := dk_180 0 3 (dk_at dksJ8_newCapacity_0 1 rfl rfl)
theorem dJ8_newCapacity_4 : decode cJ8_newCapacity 4 = .ok (.arraylength, 1) := dk_190 (dk_at dksJ8_newCapacity_0 4 rfl rfl)
theorem dJ8_newCapacity_5 : decode cJ8_newCapacity 5 = .ok (.istore_n 3, 1) := dk_62 (dk_at dksJ8_newCapacity_0 5 rfl rfl)
theorem dJ8_newCapacity_6 : decode cJ8_newCapacity 6 = .ok (.iload_n 3, 1) := dk_29 (dk_at dksJ8_newCapacity_0 6 rfl rfl)
theorem dJ8_newCapacity_7 : decode cJ8_newCapacity 7 = .ok (.iload_n 1, 1) := dk_27 (dk_at dksJ8_newCapacity_0 7 rfl rfl)
theorem dJ8_newCapacity_8 : decode cJ8_newCapacity 8 = .ok (.iadd, 1) := dk_96 (dk_at dksJ8_newCapacity_0 8 rfl rfl)
theorem dJ8_newCapacity_9 : decode cJ8_newCapacity 9 = .ok (.dup, 1) := dk_89 (dk_at dksJ8_newCapacity_0 9 rfl rfl)
theorem dJ8_newCapacity_10 : decode cJ8_newCapacity 10 = .ok (.istore 4, 2) := dk_54 4 (dk_at dksJ8_newCapacity_0 10 rfl rfl)
theorem dJ8_newCapacity_12 : decode cJ8_newCapacity 12 = .ok (.ldc 9, 2) := dk_18 9 (dk_at dksJ8_newCapacity_0 12 rfl rfl)
theorem dJ8_newCapacity_14 : decode cJ8_newCapacity 14 = .ok (.isub, 1) := dk_100 (dk_at dksJ8_newCapacity_0 14 rfl rfl)
theorem dJ8_newCapacity_15 : decode cJ8_newCapacity 15 = .ok (.ifCond .le 21, 3) := dk_158 0 21 (dk_at dksJ8_newCapacity_0 15 rfl rfl)
theorem dJ8_newCapacity_18 : decode cJ8_newCapacity 18 = .ok (.iload 4, 2) := dk_21 4 (dk_at dksJ8_newCapacity_0 18 rfl rfl)
theorem dJ8_newCapacity_20 : decode cJ8_newCapacity 20 = .ok (.ifCond .ge 13, 3) := dk_156 0 13 (dk_at dksJ8_newCapacity_0 20 rfl rfl)
theorem dJ8_newCapacity_23 : decode cJ8_newCapacity 23 = .ok (.new 33, 3) := dk_187 0 33 (dk_at dksJ8_newCapacity_1 0 rfl rfl)
theorem dJ8_newCapacity_26 : decode cJ8_newCapacity 26 = .ok (.dup, 1) := dk_89 (dk_at dksJ8_newCapacity_1 3 rfl rfl)
theorem dJ8_newCapacity_27 : decode cJ8_newCapacity 27 = .ok (.ldc 35, 2) := dk_18 35 (dk_at dksJ8_newCapacity_1 4 rfl rfl)
theorem dJ8_newCapacity_29 : decode cJ8_newCapacity 29 = .ok (.invokespecial 37, 3) := dk_183 0 37 (dk_at dksJ8_newCapacity_1 6 rfl rfl)
theorem dJ8_newCapacity_32 : decode cJ8_newCapacity 32 = .ok (.athrow, 1) := dk_191 (dk_at dksJ8_newCapacity_1 9 rfl rfl)
theorem dJ8_newCapacity_33 : decode cJ8_newCapacity 33 = .ok (.ldc 41, 2) := dk_18 41 (dk_at dksJ8_newCapacity_1 10 rfl rfl)
theorem dJ8_newCapacity_35 : decode cJ8_newCapacity 35 = .ok (.ireturn, 1) := dk_172 (dk_at dksJ8_newCapacity_1 12 rfl rfl)
theorem dJ8_newCapacity_36 : decode cJ8_newCapacity 36 = .ok (.iload_n 1, 1) := dk_27 (dk_at dksJ8_newCapacity_1 13 rfl rfl)
theorem dJ8_newCapacity_37 : decode cJ8_newCapacity 37 = .ok (.iload_n 2, 1) := dk_28 (dk_at dksJ8_newCapacity_1 14 rfl rfl)
theorem dJ8_newCapacity_38 : decode cJ8_newCapacity 38 = .ok (.if_icmp .le 6, 3) := dk_164 0 6 (dk_at dksJ8_newCapacity_1 15 rfl rfl)
theorem dJ8_newCapacity_41 : decode cJ8_newCapacity 41 = .ok (.iload 4, 2) := dk_21 4 (dk_at dksJ8_newCapacity_1 18 rfl rfl)
theorem dJ8_newCapacity_43 : decode cJ8_newCapacity 43 = .ok (.ireturn, 1) := dk_172 (dk_at dksJ8_newCapacity_1 20 rfl rfl)
theorem dJ8_newCapacity_44 : decode cJ8_newCapacity 44 = .ok (.iload_n 3, 1) := dk_29 (dk_at dksJ8_newCapacity_1 21 rfl rfl)
theorem dJ8_newCapacity_45 : decode cJ8_newCapacity 45 = .ok (.iload_n 2, 1) := dk_28 (dk_at dksJ8_newCapacity_1 22 rfl rfl)
theorem dJ8_newCapacity_46 : decode cJ8_newCapacity 46 = .ok (.iadd, 1) := dk_96 (dk_at dksJ8_newCapacity_1 23 rfl rfl)
theorem dJ8_newCapacity_47 : decode cJ8_newCapacity 47 = .ok (.ldc 9, 2) := dk_18 9 (dk_at dksJ8_newCapacity_2 0 rfl rfl)
theorem dJ8_newCapacity_49 : decode cJ8_newCapacity 49 = .ok (.isub, 1) := dk_100 (dk_at dksJ8_newCapacity_2 2 rfl rfl)
theorem dJ8_newCapacity_50 : decode cJ8_newCapacity 50 = .ok (.ifCond .ge 9, 3) := dk_156 0 9 (dk_at dksJ8_newCapacity_2 3 rfl rfl)
theorem dJ8_newCapacity_53 : decode cJ8_newCapacity 53 = .ok (.iload_n 3, 1) := dk_29 (dk_at dksJ8_newCapacity_2 6 rfl rfl)
theorem dJ8_newCapacity_54 : decode cJ8_newCapacity 54 = .ok (.iload_n 2, 1) := dk_28 (dk_at dksJ8_newCapacity_2 7 rfl rfl)
theorem dJ8_newCapacity_55 : decode cJ8_newCapacity 55 = .ok (.iadd, 1) := dk_96 (dk_at dksJ8_newCapacity_2 8 rfl rfl)
theorem dJ8_newCapacity_56 : decode cJ8_newCapacity 56 = .ok (.goto 5, 3) := dk_167 0 5 (dk_at dksJ8_newCapacity_2 9 rfl rfl)
theorem dJ8_newCapacity_59 : decode cJ8_newCapacity 59 = .ok (.ldc 9, 2) := dk_18 9 (dk_at dksJ8_newCapacity_2 12 rfl rfl)
theorem dJ8_newCapacity_61 : decode cJ8_newCapacity 61 = .ok (.ireturn, 1) := dk_172 (dk_at dksJ8_newCapacity_2 14 rfl rfl)
abbrev cJ8_size : ByteArray := prog_47_method_37_code
def yJ8_size : MethodName := ⟨RJ8, "size", "()I"⟩
def dkwJ8_size_0 : List UInt8 := [42, 180, 0, 20, 42, 180, 0, 24, 42, 180, 0, 3, 190, 184, 0, 127, 172]
abbrev dktJ8_size_0 : List UInt8 := dkwJ8_size_0 ++ []
theorem dksJ8_size_0 : cJ8_size.data.toList.drop 0 = dktJ8_size_0 := by decide +kernel
theorem dJ8_size_0 : decode cJ8_size 0 = .ok (.aload_n 0, 1) := dk_42 (dk_at dksJ8_size_0 0 rfl rfl)
theorem dJ8_size_1 : decode cJ8_size 1 = .ok (.getfield 20, 3) := dk_180 0 20 (dk_at dksJ8_size_0 1 rfl rfl)
theorem dJ8_size_4 : decode cJ8_size 4 = .ok (.aload_n 0, 1) := dk_42 (dk_at dksJ8_size_0 4 rfl rfl)
theorem dJ8_size_5 : decode cJ8_size 5 = .ok (.getfield 24, 3) := dk_180 0 24 (dk_at dksJ8_size_0 5 rfl rfl)
theorem dJ8_size_8 : decode cJ8_size 8 = .ok (.aload_n 0, 1) := dk_42 (dk_at dksJ8_size_0 8 rfl rfl)
theorem dJ8_size_9 : decode cJ8_size 9 = .ok (.getfield 3, 3) := dk_180 0 3 (dk_at dksJ8_size_0 9 rfl rfl)
theorem dJ8_size_12 : decode cJ8_size 12 = .ok (.arraylength, 1) := dk_190 (dk_at dksJ8_size_0 12 rfl rfl)
theorem dJ8_size_13 : decode cJ8_size 13 = .ok (.invokestatic 127, 3) := dk_184 0 127 (dk_at dksJ8_size_0 13 rfl rfl)
theorem dJ8_size_16 : decode cJ8_size 16 = .ok (.ireturn, 1) := dk_172 (dk_at dksJ8_size_0 16 rfl rfl)
abbrev cJ8_sub : ByteArray := prog_47_method_9_code
def yJ8_sub : MethodName := ⟨RJ8, "sub", "(III)I"⟩
def dkwJ8_sub_0 : List UInt8 := [26, 27, 100, 89, 59, 156, 0, 7, 26, 28, 96, 59, 26, 172]
abbrev dktJ8_sub_0 : List UInt8 := dkwJ8_sub_0 ++ []
theorem dksJ8_sub_0 : cJ8_sub.data.toList.drop 0 = dktJ8_sub_0 := by decide +kernel
theorem dJ8_sub_0 : decode cJ8_sub 0 = .ok (.iload_n 0, 1) := dk_26 (dk_at dksJ8_sub_0 0 rfl rfl)
theorem dJ8_sub_1 : decode cJ8_sub 1 = .ok (.iload_n 1, 1) := dk_27 (dk_at dksJ8_sub_0 1 rfl rfl)
theorem dJ8_sub_2 : decode cJ8_sub 2 = .ok (.isub, 1) := dk_100 (dk_at dksJ8_sub_0 2 rfl rfl)
theorem dJ8_sub_3 : decode cJ8_sub 3 = .ok (.dup, 1) := dk_89 (dk_at dksJ8_sub_0 3 rfl rfl)
theorem dJ8_sub_4 : decode cJ8_sub 4 = .ok (.istore_n 0, 1) := dk_59 (dk_at dksJ8_sub_0 4 rfl rfl)
theorem dJ8_sub_5 : decode cJ8_sub 5 = .ok (.ifCond .ge 7, 3) := dk_156 0 7 (dk_at dksJ8_sub_0 5 rfl rfl)
theorem dJ8_sub_8 : decode cJ8_sub 8 = .ok (.iload_n 0, 1) := dk_26 (dk_at dksJ8_sub_0 8 rfl rfl)
theorem dJ8_sub_9 : decode cJ8_sub 9 = .ok (.iload_n 2, 1) := dk_28 (dk_at dksJ8_sub_0 9 rfl rfl)
theorem dJ8_sub_10 : decode cJ8_sub 10 = .ok (.iadd, 1) := dk_96 (dk_at dksJ8_sub_0 10 rfl rfl)
theorem dJ8_sub_11 : decode cJ8_sub 11 = .ok (.istore_n 0, 1) := dk_59 (dk_at dksJ8_sub_0 11 rfl rfl)
theorem dJ8_sub_12 : decode cJ8_sub 12 = .ok (.iload_n 0, 1) := dk_26 (dk_at dksJ8_sub_0 12 rfl rfl)
theorem dJ8_sub_13 : decode cJ8_sub 13 = .ok (.ireturn, 1) := dk_172 (dk_at dksJ8_sub_0 13 rfl rfl)
abbrev cJ8_removeFirst : ByteArray := prog_47_method_18_code
def yJ8_removeFirst : MethodName := ⟨RJ8, "removeFirst", "()Ljava/lang/Object;"⟩
def dkwJ8_removeFirst_0 : List UInt8 := [42, 182, 0, 93, 76, 43, 199, 0, 11, 187, 0, 97, 89, 183, 0, 99, 191, 43, 176]
abbrev dktJ8_removeFirst_0 : List UInt8 := dkwJ8_removeFirst_0 ++ []
theorem dksJ8_removeFirst_0 : cJ8_removeFirst.data.toList.drop 0 = dktJ8_removeFirst_0 := by decide +kernel
theorem dJ8_removeFirst_0 : decode cJ8_removeFirst 0 = .ok (.aload_n 0, 1) := dk_42 (dk_at dksJ8_removeFirst_0 0 rfl rfl)
theorem dJ8_removeFirst_1 : decode cJ8_removeFirst 1 = .ok (.invokevirtual 93, 3) := dk_182 0 93 (dk_at dksJ8_removeFirst_0 1 rfl rfl)
theorem dJ8_removeFirst_4 : decode cJ8_removeFirst 4 = .ok (.astore_n 1, 1) := dk_76 (dk_at dksJ8_removeFirst_0 4 rfl rfl)
theorem dJ8_removeFirst_5 : decode cJ8_removeFirst 5 = .ok (.aload_n 1, 1) := dk_43 (dk_at dksJ8_removeFirst_0 5 rfl rfl)
theorem dJ8_removeFirst_6 : decode cJ8_removeFirst 6 = .ok (.ifnonnull 11, 3) := dk_199 0 11 (dk_at dksJ8_removeFirst_0 6 rfl rfl)
theorem dJ8_removeFirst_9 : decode cJ8_removeFirst 9 = .ok (.new 97, 3) := dk_187 0 97 (dk_at dksJ8_removeFirst_0 9 rfl rfl)
theorem dJ8_removeFirst_12 : decode cJ8_removeFirst 12 = .ok (.dup, 1) := dk_89 (dk_at dksJ8_removeFirst_0 12 rfl rfl)
theorem dJ8_removeFirst_13 : decode cJ8_removeFirst 13 = .ok (.invokespecial 99, 3) := dk_183 0 99 (dk_at dksJ8_removeFirst_0 13 rfl rfl)
theorem dJ8_removeFirst_16 : decode cJ8_removeFirst 16 = .ok (.athrow, 1) := dk_191 (dk_at dksJ8_removeFirst_0 16 rfl rfl)
theorem dJ8_removeFirst_17 : decode cJ8_removeFirst 17 = .ok (.aload_n 1, 1) := dk_43 (dk_at dksJ8_removeFirst_0 17 rfl rfl)
theorem dJ8_removeFirst_18 : decode cJ8_removeFirst 18 = .ok (.areturn, 1) := dk_176 (dk_at dksJ8_removeFirst_0 18 rfl rfl)
abbrev cJ8_pollFirst : ByteArray := prog_47_method_20_code
def yJ8_pollFirst : MethodName := ⟨RJ8, "pollFirst", "()Ljava/lang/Object;"⟩
def dkwJ8_pollFirst_1 : List UInt8 := [42, 28, 43, 190, 184, 0, 74, 181, 0, 24, 45, 176]
abbrev dktJ8_pollFirst_1 : List UInt8 := dkwJ8_pollFirst_1 ++ []
def dkwJ8_pollFirst_0 : List UInt8 := [42, 180, 0, 3, 89, 76, 42, 180, 0, 24, 89, 61, 184, 0, 103, 78, 45, 198, 0, 17, 43, 28, 1, 83]
abbrev dktJ8_pollFirst_0 : List UInt8 := dkwJ8_pollFirst_0 ++ dktJ8_pollFirst_1
theorem dksJ8_pollFirst_0 : cJ8_pollFirst.data.toList.drop 0 = dktJ8_pollFirst_0 := by decide +kernel
theorem dksJ8_pollFirst_1 : cJ8_pollFirst.data.toList.drop 24 = dktJ8_pollFirst_1 := dk_seg dksJ8_pollFirst_0 24 rfl rfl
theorem dJ8_pollFirst_0 : decode cJ8_pollFirst 0 = .ok (.aload_n 0, 1) := dk_42 (dk_at dksJ8_pollFirst_0 0 rfl rfl)
theorem dJ8_pollFirst_1 : decode cJ8_pollFirst 1 = .ok (.getfield 3, 3) := dk_180 0 3 (dk_at dksJ8_pollFirst_0 1 rfl rfl)
theorem dJ8_pollFirst_4 : decode cJ8_pollFirst 4 = .ok (.dup, 1) := dk_89 (dk_at dksJ8_pollFirst_0 4 rfl rfl)
theorem dJ8_pollFirst_5 : decode cJ8_pollFirst 5 = .ok (.astore_n 1, 1) := dk_76 (dk_at dksJ8_pollFirst_0 5 rfl rfl)
theorem dJ8_pollFirst_6 : decode cJ8_pollFirst 6 = .ok (.aload_n 0, 1) := dk_42 (dk_at dksJ8_pollFirst_0 6 rfl rfl)
theorem dJ8_pollFirst_7 : decode cJ8_pollFirst 7 = .ok (.getfield 24, 3) := dk_180 0 24 (dk_at dksJ8_pollFirst_0 7 rfl rfl)
theorem dJ8_pollFirst_10 : decode cJ8_pollFirst 10 = .ok (.dup, 1) := dk_89 (dk_at dksJ8_pollFirst_0 10 rfl rfl)
theorem dJ8_pollFirst_11 : decode cJ8_pollFirst 11 = .ok (.istore_n 2, 1) := dk_61 (dk_at dksJ8_pollFirst_0 11 rfl rfl)
theorem dJ8_pollFirst_12 : decode cJ8_pollFirst 12 = .ok (.invokestatic 103, 3) := dk_184 0 103 (dk_at dksJ8_pollFirst_0 12 rfl rfl)
theorem dJ8_pollFirst_15 : decode cJ8_pollFirst 15 = .ok (.astore_n 3, 1) := dk_78 (dk_at dksJ8_pollFirst_0 15 rfl rfl)
theorem dJ8_pollFirst_16 : decode cJ8_pollFirst 16 = .ok (.aload_n 3, 1) := dk_45 (dk_at dksJ8_pollFirst_0 16 rfl rfl)
theorem dJ8_pollFirst_17 : decode cJ8_pollFirst 17 = .ok (.ifnull 17, 3) := dk_198 0 17 (dk_at dksJ8_pollFirst_0 17 rfl rfl)
theorem dJ8_pollFirst_20 : decode cJ8_pollFirst 20 = .ok (.aload_n 1, 1) := dk_43 (dk_at dksJ8_pollFirst_0 20 rfl rfl)
theorem dJ8_pollFirst_21 : decode cJ8_pollFirst 21 = .ok (.iload_n 2, 1) := dk_28 (dk_at dksJ8_pollFirst_0 21 rfl rfl)
theorem dJ8_pollFirst_22 : decode cJ8_pollFirst 22 = .ok (.aconst_null, 1) := dk_1 (dk_at dksJ8_pollFirst_0 22 rfl rfl)
theorem dJ8_pollFirst_23 : decode cJ8_pollFirst 23 = .ok (.aastore, 1) := dk_83 (dk_at dksJ8_pollFirst_0 23 rfl rfl)
theorem dJ8_pollFirst_24 : decode cJ8_pollFirst 24 = .ok (.aload_n 0, 1) := dk_42 (dk_at dksJ8_pollFirst_1 0 rfl rfl)
theorem dJ8_pollFirst_25 : decode cJ8_pollFirst 25 = .ok (.iload_n 2, 1) := dk_28 (dk_at dksJ8_pollFirst_1 1 rfl rfl)
theorem dJ8_pollFirst_26 : decode cJ8_pollFirst 26 = .ok (.aload_n 1, 1) := dk_43 (dk_at dksJ8_pollFirst_1 2 rfl rfl)
theorem dJ8_pollFirst_27 : decode cJ8_pollFirst 27 = .ok (.arraylength, 1) := dk_190 (dk_at dksJ8_pollFirst_1 3 rfl rfl)
theorem dJ8_pollFirst_28 : decode cJ8_pollFirst 28 = .ok (.invokestatic 74, 3) := dk_184 0 74 (dk_at dksJ8_pollFirst_1 4 rfl rfl)
theorem dJ8_pollFirst_31 : decode cJ8_pollFirst 31 = .ok (.putfield 24, 3) := dk_181 0 24 (dk_at dksJ8_pollFirst_1 7 rfl rfl)
theorem dJ8_pollFirst_34 : decode cJ8_pollFirst 34 = .ok (.aload_n 3, 1) := dk_45 (dk_at dksJ8_pollFirst_1 10 rfl rfl)
theorem dJ8_pollFirst_35 : decode cJ8_pollFirst 35 = .ok (.areturn, 1) := dk_176 (dk_at dksJ8_pollFirst_1 11 rfl rfl)
abbrev cJ8_elementAt : ByteArray := prog_47_method_10_code
def yJ8_elementAt : MethodName := ⟨RJ8, "elementAt", "([Ljava/lang/Object;I)Ljava/lang/Object;"⟩
def dkwJ8_elementAt_0 : List UInt8 := [42, 27, 50, 176]
abbrev dktJ8_elementAt_0 : List UInt8 := dkwJ8_elementAt_0 ++ []
theorem dksJ8_elementAt_0 : cJ8_elementAt.data.toList.drop 0 = dktJ8_elementAt_0 := by decide +kernel
theorem dJ8_elementAt_0 : decode cJ8_elementAt 0 = .ok (.aload_n 0, 1) := dk_42 (dk_at dksJ8_elementAt_0 0 rfl rfl)
theorem dJ8_elementAt_1 : decode cJ8_elementAt 1 = .ok (.iload_n 1, 1) := dk_27 (dk_at dksJ8_elementAt_0 1 rfl rfl)
theorem dJ8_elementAt_2 : decode cJ8_elementAt 2 = .ok (.aaload, 1) := dk_50 (dk_at dksJ8_elementAt_0 2 rfl rfl)
theorem dJ8_elementAt_3 : decode cJ8_elementAt 3 = .ok (.areturn, 1) := dk_176 (dk_at dksJ8_elementAt_0 3 rfl rfl)
abbrev cJ8_isEmpty : ByteArray := prog_47_method_38_code
def yJ8_isEmpty : MethodName := ⟨RJ8, "isEmpty", "()Z"⟩
def dkwJ8_isEmpty_0 : List UInt8 := [42, 180, 0, 24, 42, 180, 0, 20, 160, 0, 7, 4, 167, 0, 4, 3, 172]
abbrev dktJ8_isEmpty_0 : List UInt8 := dkwJ8_isEmpty_0 ++ []
theorem dksJ8_isEmpty_0 : cJ8_isEmpty.data.toList.drop 0 = dktJ8_isEmpty_0 := by decide +kernel
theorem dJ8_isEmpty_0 : decode cJ8_isEmpty 0 = .ok (.aload_n 0, 1) := dk_42 (dk_at dksJ8_isEmpty_0 0 rfl rfl)
theorem dJ8_isEmpty_1 : decode cJ8_isEmpty 1 = .ok (.getfield 24, 3) := dk_180 0 24 (dk_at dksJ8_isEmpty_0 1 rfl rfl)
theorem dJ8_isEmpty_4 : decode cJ8_isEmpty 4 = .ok (.aload_n 0, 1) := dk_42 (dk_at dksJ8_isEmpty_0 4 rfl rfl)
theorem dJ8_isEmpty_5 : decode cJ8_isEmpty 5 = .ok (.getfield 20, 3) := dk_180 0 20 (dk_at dksJ8_isEmpty_0 5 rfl rfl)
theorem dJ8_isEmpty_8 : decode cJ8_isEmpty 8 = .ok (.if_icmp .ne 7, 3) := dk_160 0 7 (dk_at dksJ8_isEmpty_0 8 rfl rfl)
theorem dJ8_isEmpty_11 : decode cJ8_isEmpty 11 = .ok (.iconst 1, 1) := dk_4 (dk_at dksJ8_isEmpty_0 11 rfl rfl)
theorem dJ8_isEmpty_12 : decode cJ8_isEmpty 12 = .ok (.goto 4, 3) := dk_167 0 4 (dk_at dksJ8_isEmpty_0 12 rfl rfl)
theorem dJ8_isEmpty_15 : decode cJ8_isEmpty 15 = .ok (.iconst 0, 1) := dk_3 (dk_at dksJ8_isEmpty_0 15 rfl rfl)
theorem dJ8_isEmpty_16 : decode cJ8_isEmpty 16 = .ok (.ireturn, 1) := dk_172 (dk_at dksJ8_isEmpty_0 16 rfl rfl)
abbrev cJ8_removeLast : ByteArray := prog_47_method_19_code
def yJ8_removeLast : MethodName := ⟨RJ8, "removeLast", "()Ljava/lang/Object;"⟩
def dkwJ8_removeLast_0 : List UInt8 := [42, 182, 0, 100, 76, 43, 199, 0, 11, 187, 0, 97, 89, 183, 0, 99, 191, 43, 176]
abbrev dktJ8_removeLast_0 : List UInt8 := dkwJ8_removeLast_0 ++ []
theorem dksJ8_removeLast_0 : cJ8_removeLast.data.toList.drop 0 = dktJ8_removeLast_0 := by decide +kernel
theorem dJ8_removeLast_0 : decode cJ8_removeLast 0 = .ok (.aload_n 0, 1) := dk_42 (dk_at dksJ8_removeLast_0 0 rfl rfl)
theorem dJ8_removeLast_1 : decode cJ8_removeLast 1 = .ok (.invokevirtual 100, 3) := dk_182 0 100 (dk_at dksJ8_removeLast_0 1 rfl rfl)
theorem dJ8_removeLast_4 : decode cJ8_removeLast 4 = .ok (.astore_n 1, 1) := dk_76 (dk_at dksJ8_removeLast_0 4 rfl rfl)
theorem dJ8_removeLast_5 : decode cJ8_removeLast 5 = .ok (.aload_n 1, 1) := dk_43 (dk_at dksJ8_removeLast_0 5 rfl rfl)
theorem dJ8_removeLast_6 : decode cJ8_removeLast 6 = .ok (.ifnonnull 11, 3) := dk_199 0 11 (dk_at dksJ8_removeLast_0 6 rfl rfl)
theorem dJ8_removeLast_9 : decode cJ8_removeLast 9 = .ok (.new 97, 3) := dk_187 0 97 (dk_at dksJ8_removeLast_0 9 rfl rfl)
theorem dJ8_removeLast_12 : decode cJ8_removeLast 12 = .ok (.dup, 1) := dk_89 (dk_at dksJ8_removeLast_0 12 rfl rfl)
theorem dJ8_removeLast_13 : decode cJ8_removeLast 13 = .ok (.invokespecial 99, 3) := dk_183 0 99 (dk_at dksJ8_removeLast_0 13 rfl rfl)
theorem dJ8_removeLast_16 : decode cJ8_removeLast 16 = .ok (.athrow, 1) := dk_191 (dk_at dksJ8_removeLast_0 16 rfl rfl)
theorem dJ8_removeLast_17 : decode cJ8_removeLast 17 = .ok (.aload_n 1, 1) := dk_43 (dk_at dksJ8_removeLast_0 17 rfl rfl)
theorem dJ8_removeLast_18 : decode cJ8_removeLast 18 = .ok (.areturn, 1) := dk_176 (dk_at dksJ8_removeLast_0 18 rfl rfl)
abbrev cJ8_pollLast : ByteArray := prog_47_method_21_code
def yJ8_pollLast : MethodName := ⟨RJ8, "pollLast", "()Ljava/lang/Object;"⟩
def dkwJ8_pollLast_1 : List UInt8 := [198, 0, 12, 43, 42, 28, 90, 181, 0, 20, 1, 83, 45, 176]
abbrev dktJ8_pollLast_1 : List UInt8 := dkwJ8_pollLast_1 ++ []
def dkwJ8_pollLast_0 : List UInt8 := [42, 180, 0, 3, 89, 76, 42, 180, 0, 20, 43, 190, 184, 0, 68, 89, 61, 184, 0, 103, 78, 45]
abbrev dktJ8_pollLast_0 : List UInt8 := dkwJ8_pollLast_0 ++ dktJ8_pollLast_1
theorem dksJ8_pollLast_0 : cJ8_pollLast.data.toList.drop 0 = dktJ8_pollLast_0 := by decide +kernel
theorem dksJ8_pollLast_1 : cJ8_pollLast.data.toList.drop 22 = dktJ8_pollLast_1 := dk_seg dksJ8_pollLast_0 22 rfl rfl
theorem dJ8_pollLast_0 : decode cJ8_pollLast 0 = .ok (.aload_n 0, 1) := dk_42 (dk_at dksJ8_pollLast_0 0 rfl rfl)
theorem dJ8_pollLast_1 : decode cJ8_pollLast 1 = .ok (.getfield 3, 3) := dk_180 0 3 (dk_at dksJ8_pollLast_0 1 rfl rfl)
theorem dJ8_pollLast_4 : decode cJ8_pollLast 4 = .ok (.dup, 1) := dk_89 (dk_at dksJ8_pollLast_0 4 rfl rfl)
theorem dJ8_pollLast_5 : decode cJ8_pollLast 5 = .ok (.astore_n 1, 1) := dk_76 (dk_at dksJ8_pollLast_0 5 rfl rfl)
theorem dJ8_pollLast_6 : decode cJ8_pollLast 6 = .ok (.aload_n 0, 1) := dk_42 (dk_at dksJ8_pollLast_0 6 rfl rfl)
theorem dJ8_pollLast_7 : decode cJ8_pollLast 7 = .ok (.getfield 20, 3) := dk_180 0 20 (dk_at dksJ8_pollLast_0 7 rfl rfl)
theorem dJ8_pollLast_10 : decode cJ8_pollLast 10 = .ok (.aload_n 1, 1) := dk_43 (dk_at dksJ8_pollLast_0 10 rfl rfl)
theorem dJ8_pollLast_11 : decode cJ8_pollLast 11 = .ok (.arraylength, 1) := dk_190 (dk_at dksJ8_pollLast_0 11 rfl rfl)
theorem dJ8_pollLast_12 : decode cJ8_pollLast 12 = .ok (.invokestatic 68, 3) := dk_184 0 68 (dk_at dksJ8_pollLast_0 12 rfl rfl)
theorem dJ8_pollLast_15 : decode cJ8_pollLast 15 = .ok (.dup, 1) := dk_89 (dk_at dksJ8_pollLast_0 15 rfl rfl)
theorem dJ8_pollLast_16 : decode cJ8_pollLast 16 = .ok (.istore_n 2, 1) := dk_61 (dk_at dksJ8_pollLast_0 16 rfl rfl)
theorem dJ8_pollLast_17 : decode cJ8_pollLast 17 = .ok (.invokestatic 103, 3) := dk_184 0 103 (dk_at dksJ8_pollLast_0 17 rfl rfl)
theorem dJ8_pollLast_20 : decode cJ8_pollLast 20 = .ok (.astore_n 3, 1) := dk_78 (dk_at dksJ8_pollLast_0 20 rfl rfl)
theorem dJ8_pollLast_21 : decode cJ8_pollLast 21 = .ok (.aload_n 3, 1) := dk_45 (dk_at dksJ8_pollLast_0 21 rfl rfl)
theorem dJ8_pollLast_22 : decode cJ8_pollLast 22 = .ok (.ifnull 12, 3) := dk_198 0 12 (dk_at dksJ8_pollLast_1 0 rfl rfl)
theorem dJ8_pollLast_25 : decode cJ8_pollLast 25 = .ok (.aload_n 1, 1) := dk_43 (dk_at dksJ8_pollLast_1 3 rfl rfl)
theorem dJ8_pollLast_26 : decode cJ8_pollLast 26 = .ok (.aload_n 0, 1) := dk_42 (dk_at dksJ8_pollLast_1 4 rfl rfl)
theorem dJ8_pollLast_27 : decode cJ8_pollLast 27 = .ok (.iload_n 2, 1) := dk_28 (dk_at dksJ8_pollLast_1 5 rfl rfl)
theorem dJ8_pollLast_28 : decode cJ8_pollLast 28 = .ok (.dup_x1, 1) := dk_90 (dk_at dksJ8_pollLast_1 6 rfl rfl)
theorem dJ8_pollLast_29 : decode cJ8_pollLast 29 = .ok (.putfield 20, 3) := dk_181 0 20 (dk_at dksJ8_pollLast_1 7 rfl rfl)
theorem dJ8_pollLast_32 : decode cJ8_pollLast 32 = .ok (.aconst_null, 1) := dk_1 (dk_at dksJ8_pollLast_1 10 rfl rfl)
theorem dJ8_pollLast_33 : decode cJ8_pollLast 33 = .ok (.aastore, 1) := dk_83 (dk_at dksJ8_pollLast_1 11 rfl rfl)
theorem dJ8_pollLast_34 : decode cJ8_pollLast 34 = .ok (.aload_n 3, 1) := dk_45 (dk_at dksJ8_pollLast_1 12 rfl rfl)
theorem dJ8_pollLast_35 : decode cJ8_pollLast 35 = .ok (.areturn, 1) := dk_176 (dk_at dksJ8_pollLast_1 13 rfl rfl)
abbrev cJ8_dec : ByteArray := prog_47_method_7_code
def yJ8_dec : MethodName := ⟨RJ8, "dec", "(II)I"⟩
def dkwJ8_dec_0 : List UInt8 := [132, 0, 255, 26, 156, 0, 7, 27, 4, 100, 59, 26, 172]
abbrev dktJ8_dec_0 : List UInt8 := dkwJ8_dec_0 ++ []
theorem dksJ8_dec_0 : cJ8_dec.data.toList.drop 0 = dktJ8_dec_0 := by decide +kernel
theorem dJ8_dec_0 : decode cJ8_dec 0 = .ok (.iinc 0 (-1), 3) := dk_132 0 255 (dk_at dksJ8_dec_0 0 rfl rfl)
theorem dJ8_dec_3 : decode cJ8_dec 3 = .ok (.iload_n 0, 1) := dk_26 (dk_at dksJ8_dec_0 3 rfl rfl)
theorem dJ8_dec_4 : decode cJ8_dec 4 = .ok (.ifCond .ge 7, 3) := dk_156 0 7 (dk_at dksJ8_dec_0 4 rfl rfl)
theorem dJ8_dec_7 : decode cJ8_dec 7 = .ok (.iload_n 1, 1) := dk_27 (dk_at dksJ8_dec_0 7 rfl rfl)
theorem dJ8_dec_8 : decode cJ8_dec 8 = .ok (.iconst 1, 1) := dk_4 (dk_at dksJ8_dec_0 8 rfl rfl)
theorem dJ8_dec_9 : decode cJ8_dec 9 = .ok (.isub, 1) := dk_100 (dk_at dksJ8_dec_0 9 rfl rfl)
theorem dJ8_dec_10 : decode cJ8_dec 10 = .ok (.istore_n 0, 1) := dk_59 (dk_at dksJ8_dec_0 10 rfl rfl)
theorem dJ8_dec_11 : decode cJ8_dec 11 = .ok (.iload_n 0, 1) := dk_26 (dk_at dksJ8_dec_0 11 rfl rfl)
theorem dJ8_dec_12 : decode cJ8_dec 12 = .ok (.ireturn, 1) := dk_172 (dk_at dksJ8_dec_0 12 rfl rfl)
theorem q108 : (Jvm.Cond.initialized "java/util/ArrayDeque") ∈ lw_all := lw_g (lw_at lw_m1 13 rfl) rfl
theorem q423 : (Jvm.Cond.instantiable "java/util/ArrayDeque" (3 : Nat)) ∈ lw_all := lw_g (lw_at lw_m2 88 rfl) rfl
theorem q425 : (Jvm.Cond.instanceMethod ({ cls := "java/util/ArrayDeque", name := "<init>", desc := "()V" } : Jvm.MethodName)) ∈ lw_all := lw_g (lw_at lw_m2 90 rfl) rfl
theorem q426 : (Jvm.Cond.code ({ cls := "java/util/ArrayDeque", name := "<init>", desc := "()V" } : Jvm.MethodName) prog_47_method_3_code (1 : Nat) (Option.none : Option Jvm.ClassFile.FieldType)) ∈ lw_all := lw_g (lw_at lw_m2 91 rfl) rfl
theorem q427 : (Jvm.Cond.methodLink "java/util/ArrayDeque" (42 : Nat) ({ cls := "java/util/AbstractCollection", name := "<init>", desc := "()V" } : Jvm.MethodName)) ∈ lw_all := lw_g (lw_at lw_m2 92 rfl) rfl
theorem q428 : (Jvm.Cond.classLink "java/util/ArrayDeque" (47 : Nat) "java/lang/Object") ∈ lw_all := lw_g (lw_at lw_m2 93 rfl) rfl
theorem q429 : (Jvm.Cond.fieldLink "java/util/ArrayDeque" (3 : Nat) "java/util/ArrayDeque" "elements" "[Ljava/lang/Object;") ∈ lw_all := lw_g (lw_at lw_m2 94 rfl) rfl
theorem q430 : (Jvm.Cond.fieldLink "java/util/ArrayDeque" (24 : Nat) "java/util/ArrayDeque" "head" "I") ∈ lw_all := lw_g (lw_at lw_m2 95 rfl) rfl
theorem q431 : (Jvm.Cond.fieldLink "java/util/ArrayDeque" (20 : Nat) "java/util/ArrayDeque" "tail" "I") ∈ lw_all := lw_g (lw_at lw_m2 96 rfl) rfl
theorem q432 : (Jvm.Cond.lays "java/util/ArrayDeque" "java/util/ArrayDeque" "elements" "[Ljava/lang/Object;") ∈ lw_all := lw_g (lw_at lw_m2 97 rfl) rfl
theorem q433 : (Jvm.Cond.soleField "java/util/ArrayDeque" "elements") ∈ lw_all := lw_g (lw_at lw_m2 98 rfl) rfl
theorem q434 : (Jvm.Cond.lays "java/util/ArrayDeque" "java/util/ArrayDeque" "head" "I") ∈ lw_all := lw_g (lw_at lw_m2 99 rfl) rfl
theorem q435 : (Jvm.Cond.soleField "java/util/ArrayDeque" "head") ∈ lw_all := lw_g (lw_at lw_m2 100 rfl) rfl
theorem q436 : (Jvm.Cond.lays "java/util/ArrayDeque" "java/util/ArrayDeque" "tail" "I") ∈ lw_all := lw_g (lw_at lw_m2 101 rfl) rfl
theorem q437 : (Jvm.Cond.soleField "java/util/ArrayDeque" "tail") ∈ lw_all := lw_g (lw_at lw_m2 102 rfl) rfl
theorem q438 : (Jvm.Cond.superclass "java/util/ArrayDeque" "java/util/AbstractCollection") ∈ lw_all := lw_g (lw_at lw_m2 103 rfl) rfl
theorem q714 : (Jvm.Cond.selects "java/util/ArrayDeque" ({ cls := "java/lang/Object", name := "getClass", desc := "()Ljava/lang/Class;" } : Jvm.MethodName) ({ cls := "java/lang/Object", name := "getClass", desc := "()Ljava/lang/Class;" } : Jvm.MethodName)) ∈ lw_all := lw_g (lw_at lw_m3 139 rfl) rfl
theorem q764 : (Jvm.Cond.instanceMethod ({ cls := "java/util/ArrayDeque", name := "addLast", desc := "(Ljava/lang/Object;)V" } : Jvm.MethodName)) ∈ lw_all := lw_g (lw_at lw_m3 189 rfl) rfl
theorem q765 : (Jvm.Cond.selects "java/util/ArrayDeque" ({ cls := "java/util/ArrayDeque", name := "addLast", desc := "(Ljava/lang/Object;)V" } : Jvm.MethodName) ({ cls := "java/util/ArrayDeque", name := "addLast", desc := "(Ljava/lang/Object;)V" } : Jvm.MethodName)) ∈ lw_all := lw_g (lw_at lw_m3 190 rfl) rfl
theorem q766 : (Jvm.Cond.code ({ cls := "java/util/ArrayDeque", name := "addLast", desc := "(Ljava/lang/Object;)V" } : Jvm.MethodName) prog_47_method_13_code (3 : Nat) (Option.none : Option Jvm.ClassFile.FieldType)) ∈ lw_all := lw_g (lw_at lw_m3 191 rfl) rfl
theorem q767 : (Jvm.Cond.methodLink "java/util/ArrayDeque" (74 : Nat) ({ cls := "java/util/ArrayDeque", name := "inc", desc := "(II)I" } : Jvm.MethodName)) ∈ lw_all := lw_g (lw_at lw_m3 192 rfl) rfl
theorem q768 : (Jvm.Cond.static ({ cls := "java/util/ArrayDeque", name := "inc", desc := "(II)I" } : Jvm.MethodName)) ∈ lw_all := lw_g (lw_at lw_m3 193 rfl) rfl
theorem q769 : (Jvm.Cond.code ({ cls := "java/util/ArrayDeque", name := "inc", desc := "(II)I" } : Jvm.MethodName) prog_47_method_6_code (2 : Nat) (Option.some Jvm.ClassFile.FieldType.int)) ∈ lw_all := lw_g (lw_at lw_m3 194 rfl) rfl
theorem q770 : (Jvm.Cond.methodLink "java/util/ArrayDeque" (71 : Nat) ({ cls := "java/util/ArrayDeque", name := "grow", desc := "(I)V" } : Jvm.MethodName)) ∈ lw_all := lw_g (lw_at lw_m3 195 rfl) rfl
theorem q771 : (Jvm.Cond.privateMethod ({ cls := "java/util/ArrayDeque", name := "grow", desc := "(I)V" } : Jvm.MethodName)) ∈ lw_tbl := lw_at lw_m3 196 rfl
theorem q772 : (Jvm.Cond.instanceMethod ({ cls := "java/util/ArrayDeque", name := "grow", desc := "(I)V" } : Jvm.MethodName)) ∈ lw_all := lw_g (lw_at lw_m3 197 rfl) rfl
theorem q773 : (Jvm.Cond.code ({ cls := "java/util/ArrayDeque", name := "grow", desc := "(I)V" } : Jvm.MethodName) prog_47_method_1_code (9 : Nat) (Option.none : Option Jvm.ClassFile.FieldType)) ∈ lw_all := lw_g (lw_at lw_m3 198 rfl) rfl
theorem q774 : (Jvm.Cond.constant "java/util/ArrayDeque" (9 : Nat) (2147483639 : Int32)) ∈ lw_all := lw_g (lw_at lw_m3 199 rfl) rfl
theorem q775 : (Jvm.Cond.methodLink "java/util/ArrayDeque" (10 : Nat) ({ cls := "java/util/ArrayDeque", name := "newCapacity", desc := "(II)I" } : Jvm.MethodName)) ∈ lw_all := lw_g (lw_at lw_m3 200 rfl) rfl
theorem q776 : (Jvm.Cond.privateMethod ({ cls := "java/util/ArrayDeque", name := "newCapacity", desc := "(II)I" } : Jvm.MethodName)) ∈ lw_tbl := lw_at lw_m3 201 rfl
theorem q777 : (Jvm.Cond.instanceMethod ({ cls := "java/util/ArrayDeque", name := "newCapacity", desc := "(II)I" } : Jvm.MethodName)) ∈ lw_all := lw_g (lw_at lw_m3 202 rfl) rfl
theorem q778 : (Jvm.Cond.code ({ cls := "java/util/ArrayDeque", name := "newCapacity", desc := "(II)I" } : Jvm.MethodName) prog_47_method_2_code (5 : Nat) (Option.some Jvm.ClassFile.FieldType.int)) ∈ lw_all := lw_g (lw_at lw_m3 203 rfl) rfl
theorem q779 : (Jvm.Cond.constant "java/util/ArrayDeque" (41 : Nat) (2147483647 : Int32)) ∈ lw_all := lw_g (lw_at lw_m3 204 rfl) rfl
theorem q780 : (Jvm.Cond.methodLink "java/util/ArrayDeque" (14 : Nat) ({ cls := "java/util/Arrays", name := "copyOf", desc := "([Ljava/lang/Object;I)[Ljava/lang/Object;" } : Jvm.MethodName)) ∈ lw_all := lw_g (lw_at lw_m3 205 rfl) rfl
theorem q781 : (Jvm.Cond.methodLink "java/util/ArrayDeque" (27 : Nat) ({ cls := "java/lang/System", name := "arraycopy", desc := "(Ljava/lang/Object;ILjava/lang/Object;II)V" } : Jvm.MethodName)) ∈ lw_all := lw_g (lw_at lw_m3 206 rfl) rfl
theorem q783 : (Jvm.Cond.instanceMethod ({ cls := "java/util/ArrayDeque", name := "size", desc := "()I" } : Jvm.MethodName)) ∈ lw_all := lw_g (lw_at lw_m3 208 rfl) rfl
theorem q784 : (Jvm.Cond.selects "java/util/ArrayDeque" ({ cls := "java/util/ArrayDeque", name := "size", desc := "()I" } : Jvm.MethodName) ({ cls := "java/util/ArrayDeque", name := "size", desc := "()I" } : Jvm.MethodName)) ∈ lw_all := lw_g (lw_at lw_m3 209 rfl) rfl
theorem q785 : (Jvm.Cond.code ({ cls := "java/util/ArrayDeque", name := "size", desc := "()I" } : Jvm.MethodName) prog_47_method_37_code (1 : Nat) (Option.some Jvm.ClassFile.FieldType.int)) ∈ lw_all := lw_g (lw_at lw_m3 210 rfl) rfl
theorem q786 : (Jvm.Cond.methodLink "java/util/ArrayDeque" (127 : Nat) ({ cls := "java/util/ArrayDeque", name := "sub", desc := "(III)I" } : Jvm.MethodName)) ∈ lw_all := lw_g (lw_at lw_m3 211 rfl) rfl
theorem q787 : (Jvm.Cond.static ({ cls := "java/util/ArrayDeque", name := "sub", desc := "(III)I" } : Jvm.MethodName)) ∈ lw_all := lw_g (lw_at lw_m3 212 rfl) rfl
theorem q788 : (Jvm.Cond.code ({ cls := "java/util/ArrayDeque", name := "sub", desc := "(III)I" } : Jvm.MethodName) prog_47_method_9_code (3 : Nat) (Option.some Jvm.ClassFile.FieldType.int)) ∈ lw_all := lw_g (lw_at lw_m3 213 rfl) rfl
theorem q790 : (Jvm.Cond.instanceMethod ({ cls := "java/util/ArrayDeque", name := "removeFirst", desc := "()Ljava/lang/Object;" } : Jvm.MethodName)) ∈ lw_all := lw_g (lw_at lw_m3 215 rfl) rfl
theorem q791 : (Jvm.Cond.selects "java/util/ArrayDeque" ({ cls := "java/util/ArrayDeque", name := "removeFirst", desc := "()Ljava/lang/Object;" } : Jvm.MethodName) ({ cls := "java/util/ArrayDeque", name := "removeFirst", desc := "()Ljava/lang/Object;" } : Jvm.MethodName)) ∈ lw_all := lw_g (lw_at lw_m3 216 rfl) rfl
theorem q792 : (Jvm.Cond.code ({ cls := "java/util/ArrayDeque", name := "removeFirst", desc := "()Ljava/lang/Object;" } : Jvm.MethodName) prog_47_method_18_code (2 : Nat) (Option.some (Jvm.ClassFile.FieldType.object "java/lang/Object"))) ∈ lw_all := lw_g (lw_at lw_m3 217 rfl) rfl
theorem q793 : (Jvm.Cond.methodLink "java/util/ArrayDeque" (93 : Nat) ({ cls := "java/util/ArrayDeque", name := "pollFirst", desc := "()Ljava/lang/Object;" } : Jvm.MethodName)) ∈ lw_all := lw_g (lw_at lw_m3 218 rfl) rfl
theorem q794 : (Jvm.Cond.instanceMethod ({ cls := "java/util/ArrayDeque", name := "pollFirst", desc := "()Ljava/lang/Object;" } : Jvm.MethodName)) ∈ lw_all := lw_g (lw_at lw_m3 219 rfl) rfl
theorem q795 : (Jvm.Cond.selects "java/util/ArrayDeque" ({ cls := "java/util/ArrayDeque", name := "pollFirst", desc := "()Ljava/lang/Object;" } : Jvm.MethodName) ({ cls := "java/util/ArrayDeque", name := "pollFirst", desc := "()Ljava/lang/Object;" } : Jvm.MethodName)) ∈ lw_all := lw_g (lw_at lw_m3 220 rfl) rfl
theorem q796 : (Jvm.Cond.code ({ cls := "java/util/ArrayDeque", name := "pollFirst", desc := "()Ljava/lang/Object;" } : Jvm.MethodName) prog_47_method_20_code (4 : Nat) (Option.some (Jvm.ClassFile.FieldType.object "java/lang/Object"))) ∈ lw_all := lw_g (lw_at lw_m3 221 rfl) rfl
theorem q797 : (Jvm.Cond.methodLink "java/util/ArrayDeque" (103 : Nat) ({ cls := "java/util/ArrayDeque", name := "elementAt", desc := "([Ljava/lang/Object;I)Ljava/lang/Object;" } : Jvm.MethodName)) ∈ lw_all := lw_g (lw_at lw_m3 222 rfl) rfl
theorem q798 : (Jvm.Cond.static ({ cls := "java/util/ArrayDeque", name := "elementAt", desc := "([Ljava/lang/Object;I)Ljava/lang/Object;" } : Jvm.MethodName)) ∈ lw_all := lw_g (lw_at lw_m3 223 rfl) rfl
theorem q799 : (Jvm.Cond.code ({ cls := "java/util/ArrayDeque", name := "elementAt", desc := "([Ljava/lang/Object;I)Ljava/lang/Object;" } : Jvm.MethodName) prog_47_method_10_code (2 : Nat) (Option.some (Jvm.ClassFile.FieldType.object "java/lang/Object"))) ∈ lw_all := lw_g (lw_at lw_m3 224 rfl) rfl
theorem q1760 : (Jvm.Cond.instanceMethod ({ cls := "java/util/ArrayDeque", name := "isEmpty", desc := "()Z" } : Jvm.MethodName)) ∈ lw_all := lw_g (lw_at lw_m7 225 rfl) rfl
theorem q1761 : (Jvm.Cond.selects "java/util/ArrayDeque" ({ cls := "java/util/ArrayDeque", name := "isEmpty", desc := "()Z" } : Jvm.MethodName) ({ cls := "java/util/ArrayDeque", name := "isEmpty", desc := "()Z" } : Jvm.MethodName)) ∈ lw_all := lw_g (lw_at lw_m7 226 rfl) rfl
theorem q1762 : (Jvm.Cond.code ({ cls := "java/util/ArrayDeque", name := "isEmpty", desc := "()Z" } : Jvm.MethodName) prog_47_method_38_code (1 : Nat) (Option.some Jvm.ClassFile.FieldType.boolean)) ∈ lw_all := lw_g (lw_at lw_m7 227 rfl) rfl
theorem q1764 : (Jvm.Cond.instanceMethod ({ cls := "java/util/ArrayDeque", name := "removeLast", desc := "()Ljava/lang/Object;" } : Jvm.MethodName)) ∈ lw_all := lw_g (lw_at lw_m7 229 rfl) rfl
theorem q1765 : (Jvm.Cond.selects "java/util/ArrayDeque" ({ cls := "java/util/ArrayDeque", name := "removeLast", desc := "()Ljava/lang/Object;" } : Jvm.MethodName) ({ cls := "java/util/ArrayDeque", name := "removeLast", desc := "()Ljava/lang/Object;" } : Jvm.MethodName)) ∈ lw_all := lw_g (lw_at lw_m7 230 rfl) rfl
theorem q1766 : (Jvm.Cond.code ({ cls := "java/util/ArrayDeque", name := "removeLast", desc := "()Ljava/lang/Object;" } : Jvm.MethodName) prog_47_method_19_code (2 : Nat) (Option.some (Jvm.ClassFile.FieldType.object "java/lang/Object"))) ∈ lw_all := lw_g (lw_at lw_m7 231 rfl) rfl
theorem q1767 : (Jvm.Cond.methodLink "java/util/ArrayDeque" (100 : Nat) ({ cls := "java/util/ArrayDeque", name := "pollLast", desc := "()Ljava/lang/Object;" } : Jvm.MethodName)) ∈ lw_all := lw_g (lw_at lw_m7 232 rfl) rfl
theorem q1768 : (Jvm.Cond.instanceMethod ({ cls := "java/util/ArrayDeque", name := "pollLast", desc := "()Ljava/lang/Object;" } : Jvm.MethodName)) ∈ lw_all := lw_g (lw_at lw_m7 233 rfl) rfl
theorem q1769 : (Jvm.Cond.selects "java/util/ArrayDeque" ({ cls := "java/util/ArrayDeque", name := "pollLast", desc := "()Ljava/lang/Object;" } : Jvm.MethodName) ({ cls := "java/util/ArrayDeque", name := "pollLast", desc := "()Ljava/lang/Object;" } : Jvm.MethodName)) ∈ lw_all := lw_g (lw_at lw_m7 234 rfl) rfl
theorem q1770 : (Jvm.Cond.code ({ cls := "java/util/ArrayDeque", name := "pollLast", desc := "()Ljava/lang/Object;" } : Jvm.MethodName) prog_47_method_21_code (4 : Nat) (Option.some (Jvm.ClassFile.FieldType.object "java/lang/Object"))) ∈ lw_all := lw_g (lw_at lw_m7 235 rfl) rfl
theorem q1771 : (Jvm.Cond.methodLink "java/util/ArrayDeque" (68 : Nat) ({ cls := "java/util/ArrayDeque", name := "dec", desc := "(II)I" } : Jvm.MethodName)) ∈ lw_all := lw_g (lw_at lw_m7 236 rfl) rfl
theorem q1772 : (Jvm.Cond.static ({ cls := "java/util/ArrayDeque", name := "dec", desc := "(II)I" } : Jvm.MethodName)) ∈ lw_all := lw_g (lw_at lw_m7 237 rfl) rfl
theorem q1773 : (Jvm.Cond.code ({ cls := "java/util/ArrayDeque", name := "dec", desc := "(II)I" } : Jvm.MethodName) prog_47_method_7_code (2 : Nat) (Option.some Jvm.ClassFile.FieldType.int)) ∈ lw_all := lw_g (lw_at lw_m7 238 rfl) rfl
theorem q2429 : (Jvm.Cond.castable "java/util/ArrayDeque" "java/lang/Object") ∈ lw_tbl := lw_at lw_m10 174 rfl
theorem in_J8 : ∀ w ∈ wsJ80, w ∈ lw_all := lw_in wsJ80 [432, 434, 436] (by decide +kernel) (by decide +kernel)
abbrev cJ9_init : ByteArray := prog_22_method_2_code
def yJ9_init : MethodName := ⟨RJ9, "<init>", "(I)V"⟩
def dkwJ9_init_1 : List UInt8 := [167, 0, 16, 42, 27, 184, 0, 26, 181, 0, 15, 42, 4, 181, 0, 22, 177]
abbrev dktJ9_init_1 : List UInt8 := dkwJ9_init_1 ++ []
def dkwJ9_init_0 : List UInt8 := [42, 183, 0, 3, 178, 0, 18, 153, 0, 18, 42, 27, 188, 8, 181, 0, 15, 42, 3, 181, 0, 22]
abbrev dktJ9_init_0 : List UInt8 := dkwJ9_init_0 ++ dktJ9_init_1
theorem dksJ9_init_0 : cJ9_init.data.toList.drop 0 = dktJ9_init_0 := by decide +kernel
theorem dksJ9_init_1 : cJ9_init.data.toList.drop 22 = dktJ9_init_1 := dk_seg dksJ9_init_0 22 rfl rfl
theorem dJ9_init_0 : decode cJ9_init 0 = .ok (.aload_n 0, 1) := dk_42 (dk_at dksJ9_init_0 0 rfl rfl)
theorem dJ9_init_1 : decode cJ9_init 1 = .ok (.invokespecial 3, 3) := dk_183 0 3 (dk_at dksJ9_init_0 1 rfl rfl)
theorem dJ9_init_4 : decode cJ9_init 4 = .ok (.getstatic 18, 3) := dk_178 0 18 (dk_at dksJ9_init_0 4 rfl rfl)
theorem dJ9_init_7 : decode cJ9_init 7 = .ok (.ifCond .eq 18, 3) := dk_153 0 18 (dk_at dksJ9_init_0 7 rfl rfl)
theorem dJ9_init_10 : decode cJ9_init 10 = .ok (.aload_n 0, 1) := dk_42 (dk_at dksJ9_init_0 10 rfl rfl)
theorem dJ9_init_11 : decode cJ9_init 11 = .ok (.iload_n 1, 1) := dk_27 (dk_at dksJ9_init_0 11 rfl rfl)
theorem dJ9_init_12 : decode cJ9_init 12 = .ok (.newarray .byte, 2) := dk_188_8 (dk_at dksJ9_init_0 12 rfl rfl)
theorem dJ9_init_14 : decode cJ9_init 14 = .ok (.putfield 15, 3) := dk_181 0 15 (dk_at dksJ9_init_0 14 rfl rfl)
theorem dJ9_init_17 : decode cJ9_init 17 = .ok (.aload_n 0, 1) := dk_42 (dk_at dksJ9_init_0 17 rfl rfl)
theorem dJ9_init_18 : decode cJ9_init 18 = .ok (.iconst 0, 1) := dk_3 (dk_at dksJ9_init_0 18 rfl rfl)
theorem dJ9_init_19 : decode cJ9_init 19 = .ok (.putfield 22, 3) := dk_181 0 22 (dk_at dksJ9_init_0 19 rfl rfl)
theorem dJ9_init_22 : decode cJ9_init 22 = .ok (.goto 16, 3) := dk_167 0 16 (dk_at dksJ9_init_1 0 rfl rfl)
theorem dJ9_init_25 : decode cJ9_init 25 = .ok (.aload_n 0, 1) := dk_42 (dk_at dksJ9_init_1 3 rfl rfl)
theorem dJ9_init_26 : decode cJ9_init 26 = .ok (.iload_n 1, 1) := dk_27 (dk_at dksJ9_init_1 4 rfl rfl)
theorem dJ9_init_27 : decode cJ9_init 27 = .ok (.invokestatic 26, 3) := dk_184 0 26 (dk_at dksJ9_init_1 5 rfl rfl)
theorem dJ9_init_30 : decode cJ9_init 30 = .ok (.putfield 15, 3) := dk_181 0 15 (dk_at dksJ9_init_1 8 rfl rfl)
theorem dJ9_init_33 : decode cJ9_init 33 = .ok (.aload_n 0, 1) := dk_42 (dk_at dksJ9_init_1 11 rfl rfl)
theorem dJ9_init_34 : decode cJ9_init 34 = .ok (.iconst 1, 1) := dk_4 (dk_at dksJ9_init_1 12 rfl rfl)
theorem dJ9_init_35 : decode cJ9_init 35 = .ok (.putfield 22, 3) := dk_181 0 22 (dk_at dksJ9_init_1 13 rfl rfl)
theorem dJ9_init_38 : decode cJ9_init 38 = .ok (.return_, 1) := dk_177 (dk_at dksJ9_init_1 16 rfl rfl)
abbrev cJ9_compareTo : ByteArray := prog_22_method_5_code
def yJ9_compareTo : MethodName := ⟨RJ9, "compareTo", "(Ljava/lang/AbstractStringBuilder;)I"⟩
def dkwJ9_compareTo_4 : List UInt8 := [184, 0, 97, 172]
abbrev dktJ9_compareTo_4 : List UInt8 := dkwJ9_compareTo_4 ++ []
def dkwJ9_compareTo_3 : List UInt8 := [182, 0, 83, 153, 0, 15, 44, 45, 21, 4, 21, 5, 184, 0, 94, 167, 0, 12, 44, 45, 21, 4, 21, 5]
abbrev dktJ9_compareTo_3 : List UInt8 := dkwJ9_compareTo_3 ++ dktJ9_compareTo_4
def dkwJ9_compareTo_2 : List UInt8 := [45, 21, 4, 21, 5, 184, 0, 87, 167, 0, 12, 44, 45, 21, 4, 21, 5, 184, 0, 93, 172, 42]
abbrev dktJ9_compareTo_2 : List UInt8 := dkwJ9_compareTo_2 ++ dktJ9_compareTo_3
def dkwJ9_compareTo_1 : List UInt8 := [180, 0, 79, 54, 5, 42, 180, 0, 22, 43, 180, 0, 22, 160, 0, 32, 42, 182, 0, 83, 153, 0, 15, 44]
abbrev dktJ9_compareTo_1 : List UInt8 := dkwJ9_compareTo_1 ++ dktJ9_compareTo_2
def dkwJ9_compareTo_0 : List UInt8 := [42, 43, 166, 0, 5, 3, 172, 42, 180, 0, 15, 77, 43, 180, 0, 15, 78, 42, 180, 0, 79, 54, 4, 43]
abbrev dktJ9_compareTo_0 : List UInt8 := dkwJ9_compareTo_0 ++ dktJ9_compareTo_1
theorem dksJ9_compareTo_0 : cJ9_compareTo.data.toList.drop 0 = dktJ9_compareTo_0 := by decide +kernel
theorem dksJ9_compareTo_1 : cJ9_compareTo.data.toList.drop 24 = dktJ9_compareTo_1 := dk_seg dksJ9_compareTo_0 24 rfl rfl
theorem dksJ9_compareTo_2 : cJ9_compareTo.data.toList.drop 48 = dktJ9_compareTo_2 := dk_seg dksJ9_compareTo_1 24 rfl rfl
theorem dksJ9_compareTo_3 : cJ9_compareTo.data.toList.drop 70 = dktJ9_compareTo_3 := dk_seg dksJ9_compareTo_2 22 rfl rfl
theorem dksJ9_compareTo_4 : cJ9_compareTo.data.toList.drop 94 = dktJ9_compareTo_4 := dk_seg dksJ9_compareTo_3 24 rfl rfl
theorem dJ9_compareTo_0 : decode cJ9_compareTo 0 = .ok (.aload_n 0, 1) := dk_42 (dk_at dksJ9_compareTo_0 0 rfl rfl)
theorem dJ9_compareTo_1 : decode cJ9_compareTo 1 = .ok (.aload_n 1, 1) := dk_43 (dk_at dksJ9_compareTo_0 1 rfl rfl)
theorem dJ9_compareTo_2 : decode cJ9_compareTo 2 = .ok (.if_acmp .ne 5, 3) := dk_166 0 5 (dk_at dksJ9_compareTo_0 2 rfl rfl)
theorem dJ9_compareTo_5 : decode cJ9_compareTo 5 = .ok (.iconst 0, 1) := dk_3 (dk_at dksJ9_compareTo_0 5 rfl rfl)
theorem dJ9_compareTo_6 : decode cJ9_compareTo 6 = .ok (.ireturn, 1) := dk_172 (dk_at dksJ9_compareTo_0 6 rfl rfl)
theorem dJ9_compareTo_7 : decode cJ9_compareTo 7 = .ok (.aload_n 0, 1) := dk_42 (dk_at dksJ9_compareTo_0 7 rfl rfl)
theorem dJ9_compareTo_8 : decode cJ9_compareTo 8 = .ok (.getfield 15, 3) := dk_180 0 15 (dk_at dksJ9_compareTo_0 8 rfl rfl)
theorem dJ9_compareTo_11 : decode cJ9_compareTo 11 = .ok (.astore_n 2, 1) := dk_77 (dk_at dksJ9_compareTo_0 11 rfl rfl)
theorem dJ9_compareTo_12 : decode cJ9_compareTo 12 = .ok (.aload_n 1, 1) := dk_43 (dk_at dksJ9_compareTo_0 12 rfl rfl)
theorem dJ9_compareTo_13 : decode cJ9_compareTo 13 = .ok (.getfield 15, 3) := dk_180 0 15 (dk_at dksJ9_compareTo_0 13 rfl rfl)
theorem dJ9_compareTo_16 : decode cJ9_compareTo 16 = .ok (.astore_n 3, 1) := dk_78 (dk_at dksJ9_compareTo_0 16 rfl rfl)
theorem dJ9_compareTo_17 : decode cJ9_compareTo 17 = .ok (.aload_n 0, 1) := dk_42 (dk_at dksJ9_compareTo_0 17 rfl rfl)
theorem dJ9_compareTo_18 : decode cJ9_compareTo 18 = .ok (.getfield 79, 3) := dk_180 0 79 (dk_at dksJ9_compareTo_0 18 rfl rfl)
theorem dJ9_compareTo_21 : decode cJ9_compareTo 21 = .ok (.istore 4, 2) := dk_54 4 (dk_at dksJ9_compareTo_0 21 rfl rfl)
theorem dJ9_compareTo_23 : decode cJ9_compareTo 23 = .ok (.aload_n 1, 1) := dk_43 (dk_at dksJ9_compareTo_0 23 rfl rfl)
theorem dJ9_compareTo_24 : decode cJ9_compareTo 24 = .ok (.getfield 79, 3) := dk_180 0 79 (dk_at dksJ9_compareTo_1 0 rfl rfl)
theorem dJ9_compareTo_27 : decode cJ9_compareTo 27 = .ok (.istore 5, 2) := dk_54 5 (dk_at dksJ9_compareTo_1 3 rfl rfl)
theorem dJ9_compareTo_29 : decode cJ9_compareTo 29 = .ok (.aload_n 0, 1) := dk_42 (dk_at dksJ9_compareTo_1 5 rfl rfl)
theorem dJ9_compareTo_30 : decode cJ9_compareTo 30 = .ok (.getfield 22, 3) := dk_180 0 22 (dk_at dksJ9_compareTo_1 6 rfl rfl)
theorem dJ9_compareTo_33 : decode cJ9_compareTo 33 = .ok (.aload_n 1, 1) := dk_43 (dk_at dksJ9_compareTo_1 9 rfl rfl)
theorem dJ9_compareTo_34 : decode cJ9_compareTo 34 = .ok (.getfield 22, 3) := dk_180 0 22 (dk_at dksJ9_compareTo_1 10 rfl rfl)
theorem dJ9_compareTo_37 : decode cJ9_compareTo 37 = .ok (.if_icmp .ne 32, 3) := dk_160 0 32 (dk_at dksJ9_compareTo_1 13 rfl rfl)
theorem dJ9_compareTo_40 : decode cJ9_compareTo 40 = .ok (.aload_n 0, 1) := dk_42 (dk_at dksJ9_compareTo_1 16 rfl rfl)
theorem dJ9_compareTo_41 : decode cJ9_compareTo 41 = .ok (.invokevirtual 83, 3) := dk_182 0 83 (dk_at dksJ9_compareTo_1 17 rfl rfl)
theorem dJ9_compareTo_44 : decode cJ9_compareTo 44 = .ok (.ifCond .eq 15, 3) := dk_153 0 15 (dk_at dksJ9_compareTo_1 20 rfl rfl)
theorem dJ9_compareTo_47 : decode cJ9_compareTo 47 = .ok (.aload_n 2, 1) := dk_44 (dk_at dksJ9_compareTo_1 23 rfl rfl)
theorem dJ9_compareTo_48 : decode cJ9_compareTo 48 = .ok (.aload_n 3, 1) := dk_45 (dk_at dksJ9_compareTo_2 0 rfl rfl)
theorem dJ9_compareTo_49 : decode cJ9_compareTo 49 = .ok (.iload 4, 2) := dk_21 4 (dk_at dksJ9_compareTo_2 1 rfl rfl)
theorem dJ9_compareTo_51 : decode cJ9_compareTo 51 = .ok (.iload 5, 2) := dk_21 5 (dk_at dksJ9_compareTo_2 3 rfl rfl)
theorem dJ9_compareTo_53 : decode cJ9_compareTo 53 = .ok (.invokestatic 87, 3) := dk_184 0 87 (dk_at dksJ9_compareTo_2 5 rfl rfl)
theorem dJ9_compareTo_56 : decode cJ9_compareTo 56 = .ok (.goto 12, 3) := dk_167 0 12 (dk_at dksJ9_compareTo_2 8 rfl rfl)
theorem dJ9_compareTo_59 : decode cJ9_compareTo 59 = .ok (.aload_n 2, 1) := dk_44 (dk_at dksJ9_compareTo_2 11 rfl rfl)
theorem dJ9_compareTo_60 : decode cJ9_compareTo 60 = .ok (.aload_n 3, 1) := dk_45 (dk_at dksJ9_compareTo_2 12 rfl rfl)
theorem dJ9_compareTo_61 : decode cJ9_compareTo 61 = .ok (.iload 4, 2) := dk_21 4 (dk_at dksJ9_compareTo_2 13 rfl rfl)
theorem dJ9_compareTo_63 : decode cJ9_compareTo 63 = .ok (.iload 5, 2) := dk_21 5 (dk_at dksJ9_compareTo_2 15 rfl rfl)
theorem dJ9_compareTo_65 : decode cJ9_compareTo 65 = .ok (.invokestatic 93, 3) := dk_184 0 93 (dk_at dksJ9_compareTo_2 17 rfl rfl)
theorem dJ9_compareTo_68 : decode cJ9_compareTo 68 = .ok (.ireturn, 1) := dk_172 (dk_at dksJ9_compareTo_2 20 rfl rfl)
theorem dJ9_compareTo_69 : decode cJ9_compareTo 69 = .ok (.aload_n 0, 1) := dk_42 (dk_at dksJ9_compareTo_2 21 rfl rfl)
theorem dJ9_compareTo_70 : decode cJ9_compareTo 70 = .ok (.invokevirtual 83, 3) := dk_182 0 83 (dk_at dksJ9_compareTo_3 0 rfl rfl)
theorem dJ9_compareTo_73 : decode cJ9_compareTo 73 = .ok (.ifCond .eq 15, 3) := dk_153 0 15 (dk_at dksJ9_compareTo_3 3 rfl rfl)
theorem dJ9_compareTo_76 : decode cJ9_compareTo 76 = .ok (.aload_n 2, 1) := dk_44 (dk_at dksJ9_compareTo_3 6 rfl rfl)
theorem dJ9_compareTo_77 : decode cJ9_compareTo 77 = .ok (.aload_n 3, 1) := dk_45 (dk_at dksJ9_compareTo_3 7 rfl rfl)
theorem dJ9_compareTo_78 : decode cJ9_compareTo 78 = .ok (.iload 4, 2) := dk_21 4 (dk_at dksJ9_compareTo_3 8 rfl rfl)
theorem dJ9_compareTo_80 : decode cJ9_compareTo 80 = .ok (.iload 5, 2) := dk_21 5 (dk_at dksJ9_compareTo_3 10 rfl rfl)
theorem dJ9_compareTo_82 : decode cJ9_compareTo 82 = .ok (.invokestatic 94, 3) := dk_184 0 94 (dk_at dksJ9_compareTo_3 12 rfl rfl)
theorem dJ9_compareTo_85 : decode cJ9_compareTo 85 = .ok (.goto 12, 3) := dk_167 0 12 (dk_at dksJ9_compareTo_3 15 rfl rfl)
theorem dJ9_compareTo_88 : decode cJ9_compareTo 88 = .ok (.aload_n 2, 1) := dk_44 (dk_at dksJ9_compareTo_3 18 rfl rfl)
theorem dJ9_compareTo_89 : decode cJ9_compareTo 89 = .ok (.aload_n 3, 1) := dk_45 (dk_at dksJ9_compareTo_3 19 rfl rfl)
theorem dJ9_compareTo_90 : decode cJ9_compareTo 90 = .ok (.iload 4, 2) := dk_21 4 (dk_at dksJ9_compareTo_3 20 rfl rfl)
theorem dJ9_compareTo_92 : decode cJ9_compareTo 92 = .ok (.iload 5, 2) := dk_21 5 (dk_at dksJ9_compareTo_3 22 rfl rfl)
theorem dJ9_compareTo_94 : decode cJ9_compareTo 94 = .ok (.invokestatic 97, 3) := dk_184 0 97 (dk_at dksJ9_compareTo_4 0 rfl rfl)
theorem dJ9_compareTo_97 : decode cJ9_compareTo 97 = .ok (.ireturn, 1) := dk_172 (dk_at dksJ9_compareTo_4 3 rfl rfl)
abbrev cJ9_isLatin1 : ByteArray := prog_22_method_68_code
def yJ9_isLatin1 : MethodName := ⟨RJ9, "isLatin1", "()Z"⟩
def dkwJ9_isLatin1_0 : List UInt8 := [178, 0, 18, 153, 0, 14, 42, 180, 0, 22, 154, 0, 7, 4, 167, 0, 4, 3, 172]
abbrev dktJ9_isLatin1_0 : List UInt8 := dkwJ9_isLatin1_0 ++ []
theorem dksJ9_isLatin1_0 : cJ9_isLatin1.data.toList.drop 0 = dktJ9_isLatin1_0 := by decide +kernel
theorem dJ9_isLatin1_0 : decode cJ9_isLatin1 0 = .ok (.getstatic 18, 3) := dk_178 0 18 (dk_at dksJ9_isLatin1_0 0 rfl rfl)
theorem dJ9_isLatin1_3 : decode cJ9_isLatin1 3 = .ok (.ifCond .eq 14, 3) := dk_153 0 14 (dk_at dksJ9_isLatin1_0 3 rfl rfl)
theorem dJ9_isLatin1_6 : decode cJ9_isLatin1 6 = .ok (.aload_n 0, 1) := dk_42 (dk_at dksJ9_isLatin1_0 6 rfl rfl)
theorem dJ9_isLatin1_7 : decode cJ9_isLatin1 7 = .ok (.getfield 22, 3) := dk_180 0 22 (dk_at dksJ9_isLatin1_0 7 rfl rfl)
theorem dJ9_isLatin1_10 : decode cJ9_isLatin1 10 = .ok (.ifCond .ne 7, 3) := dk_154 0 7 (dk_at dksJ9_isLatin1_0 10 rfl rfl)
theorem dJ9_isLatin1_13 : decode cJ9_isLatin1 13 = .ok (.iconst 1, 1) := dk_4 (dk_at dksJ9_isLatin1_0 13 rfl rfl)
theorem dJ9_isLatin1_14 : decode cJ9_isLatin1 14 = .ok (.goto 4, 3) := dk_167 0 4 (dk_at dksJ9_isLatin1_0 14 rfl rfl)
theorem dJ9_isLatin1_17 : decode cJ9_isLatin1 17 = .ok (.iconst 0, 1) := dk_3 (dk_at dksJ9_isLatin1_0 17 rfl rfl)
theorem dJ9_isLatin1_18 : decode cJ9_isLatin1 18 = .ok (.ireturn, 1) := dk_172 (dk_at dksJ9_isLatin1_0 18 rfl rfl)
abbrev cJ9_length : ByteArray := prog_22_method_6_code
def yJ9_length : MethodName := ⟨RJ9, "length", "()I"⟩
theorem dJ9_length_0 : decode cJ9_length 0 = .ok (.aload_n 0, 1) := by decide +kernel
theorem dJ9_length_1 : decode cJ9_length 1 = .ok (.getfield 79, 3) := by decide +kernel
theorem dJ9_length_4 : decode cJ9_length 4 = .ok (.ireturn, 1) := by decide +kernel
abbrev cJ9_append : ByteArray := prog_22_method_31_code
def yJ9_append : MethodName := ⟨RJ9, "append", "(C)Ljava/lang/AbstractStringBuilder;"⟩
def dkwJ9_append_3 : List UInt8 := [181, 0, 79, 27, 184, 0, 197, 42, 176]
abbrev dktJ9_append_3 : List UInt8 := dkwJ9_append_3 ++ []
def dkwJ9_append_2 : List UInt8 := [182, 0, 83, 153, 0, 7, 42, 182, 0, 195, 42, 180, 0, 15, 42, 89, 180, 0, 79, 90, 4, 96]
abbrev dktJ9_append_2 : List UInt8 := dkwJ9_append_2 ++ dktJ9_append_3
def dkwJ9_append_1 : List UInt8 := [42, 180, 0, 15, 42, 89, 180, 0, 79, 90, 4, 96, 181, 0, 79, 27, 145, 84, 167, 0, 33, 42]
abbrev dktJ9_append_1 : List UInt8 := dkwJ9_append_1 ++ dktJ9_append_2
def dkwJ9_append_0 : List UInt8 := [42, 42, 180, 0, 79, 4, 96, 182, 0, 100, 42, 182, 0, 83, 153, 0, 31, 27, 184, 0, 191, 153, 0, 24]
abbrev dktJ9_append_0 : List UInt8 := dkwJ9_append_0 ++ dktJ9_append_1
theorem dksJ9_append_0 : cJ9_append.data.toList.drop 0 = dktJ9_append_0 := by decide +kernel
theorem dksJ9_append_1 : cJ9_append.data.toList.drop 24 = dktJ9_append_1 := dk_seg dksJ9_append_0 24 rfl rfl
theorem dksJ9_append_2 : cJ9_append.data.toList.drop 46 = dktJ9_append_2 := dk_seg dksJ9_append_1 22 rfl rfl
theorem dksJ9_append_3 : cJ9_append.data.toList.drop 68 = dktJ9_append_3 := dk_seg dksJ9_append_2 22 rfl rfl
theorem dJ9_append_0 : decode cJ9_append 0 = .ok (.aload_n 0, 1) := dk_42 (dk_at dksJ9_append_0 0 rfl rfl)
theorem dJ9_append_1 : decode cJ9_append 1 = .ok (.aload_n 0, 1) := dk_42 (dk_at dksJ9_append_0 1 rfl rfl)
theorem dJ9_append_2 : decode cJ9_append 2 = .ok (.getfield 79, 3) := dk_180 0 79 (dk_at dksJ9_append_0 2 rfl rfl)
theorem dJ9_append_5 : decode cJ9_append 5 = .ok (.iconst 1, 1) := dk_4 (dk_at dksJ9_append_0 5 rfl rfl)
theorem dJ9_append_6 : decode cJ9_append 6 = .ok (.iadd, 1) := dk_96 (dk_at dksJ9_append_0 6 rfl rfl)
theorem dJ9_append_7 : decode cJ9_append 7 = .ok (.invokevirtual 100, 3) := dk_182 0 100 (dk_at dksJ9_append_0 7 rfl rfl)
theorem dJ9_append_10 : decode cJ9_append 10 = .ok (.aload_n 0, 1) := dk_42 (dk_at dksJ9_append_0 10 rfl rfl)
theorem dJ9_append_11 : decode cJ9_append 11 = .ok (.invokevirtual 83, 3) := dk_182 0 83 (dk_at dksJ9_append_0 11 rfl rfl)
theorem dJ9_append_14 : decode cJ9_append 14 = .ok (.ifCond .eq 31, 3) := dk_153 0 31 (dk_at dksJ9_append_0 14 rfl rfl)
theorem dJ9_append_17 : decode cJ9_append 17 = .ok (.iload_n 1, 1) := dk_27 (dk_at dksJ9_append_0 17 rfl rfl)
theorem dJ9_append_18 : decode cJ9_append 18 = .ok (.invokestatic 191, 3) := dk_184 0 191 (dk_at dksJ9_append_0 18 rfl rfl)
theorem dJ9_append_21 : decode cJ9_append 21 = .ok (.ifCond .eq 24, 3) := dk_153 0 24 (dk_at dksJ9_append_0 21 rfl rfl)
theorem dJ9_append_24 : decode cJ9_append 24 = .ok (.aload_n 0, 1) := dk_42 (dk_at dksJ9_append_1 0 rfl rfl)
theorem dJ9_append_25 : decode cJ9_append 25 = .ok (.getfield 15, 3) := dk_180 0 15 (dk_at dksJ9_append_1 1 rfl rfl)
theorem dJ9_append_28 : decode cJ9_append 28 = .ok (.aload_n 0, 1) := dk_42 (dk_at dksJ9_append_1 4 rfl rfl)
theorem dJ9_append_29 : decode cJ9_append 29 = .ok (.dup, 1) := dk_89 (dk_at dksJ9_append_1 5 rfl rfl)
theorem dJ9_append_30 : decode cJ9_append 30 = .ok (.getfield 79, 3) := dk_180 0 79 (dk_at dksJ9_append_1 6 rfl rfl)
theorem dJ9_append_33 : decode cJ9_append 33 = .ok (.dup_x1, 1) := dk_90 (dk_at dksJ9_append_1 9 rfl rfl)
theorem dJ9_append_34 : decode cJ9_append 34 = .ok (.iconst 1, 1) := dk_4 (dk_at dksJ9_append_1 10 rfl rfl)
theorem dJ9_append_35 : decode cJ9_append 35 = .ok (.iadd, 1) := dk_96 (dk_at dksJ9_append_1 11 rfl rfl)
theorem dJ9_append_36 : decode cJ9_append 36 = .ok (.putfield 79, 3) := dk_181 0 79 (dk_at dksJ9_append_1 12 rfl rfl)
theorem dJ9_append_39 : decode cJ9_append 39 = .ok (.iload_n 1, 1) := dk_27 (dk_at dksJ9_append_1 15 rfl rfl)
theorem dJ9_append_40 : decode cJ9_append 40 = .ok (.i2b, 1) := dk_145 (dk_at dksJ9_append_1 16 rfl rfl)
theorem dJ9_append_41 : decode cJ9_append 41 = .ok (.bastore, 1) := dk_84 (dk_at dksJ9_append_1 17 rfl rfl)
theorem dJ9_append_42 : decode cJ9_append 42 = .ok (.goto 33, 3) := dk_167 0 33 (dk_at dksJ9_append_1 18 rfl rfl)
theorem dJ9_append_45 : decode cJ9_append 45 = .ok (.aload_n 0, 1) := dk_42 (dk_at dksJ9_append_1 21 rfl rfl)
theorem dJ9_append_46 : decode cJ9_append 46 = .ok (.invokevirtual 83, 3) := dk_182 0 83 (dk_at dksJ9_append_2 0 rfl rfl)
theorem dJ9_append_49 : decode cJ9_append 49 = .ok (.ifCond .eq 7, 3) := dk_153 0 7 (dk_at dksJ9_append_2 3 rfl rfl)
theorem dJ9_append_52 : decode cJ9_append 52 = .ok (.aload_n 0, 1) := dk_42 (dk_at dksJ9_append_2 6 rfl rfl)
theorem dJ9_append_53 : decode cJ9_append 53 = .ok (.invokevirtual 195, 3) := dk_182 0 195 (dk_at dksJ9_append_2 7 rfl rfl)
theorem dJ9_append_56 : decode cJ9_append 56 = .ok (.aload_n 0, 1) := dk_42 (dk_at dksJ9_append_2 10 rfl rfl)
theorem dJ9_append_57 : decode cJ9_append 57 = .ok (.getfield 15, 3) := dk_180 0 15 (dk_at dksJ9_append_2 11 rfl rfl)
theorem dJ9_append_60 : decode cJ9_append 60 = .ok (.aload_n 0, 1) := dk_42 (dk_at dksJ9_append_2 14 rfl rfl)
theorem dJ9_append_61 : decode cJ9_append 61 = .ok (.dup, 1) := dk_89 (dk_at dksJ9_append_2 15 rfl rfl)
theorem dJ9_append_62 : decode cJ9_append 62 = .ok (.getfield 79, 3) := dk_180 0 79 (dk_at dksJ9_append_2 16 rfl rfl)
theorem dJ9_append_65 : decode cJ9_append 65 = .ok (.dup_x1, 1) := dk_90 (dk_at dksJ9_append_2 19 rfl rfl)
theorem dJ9_append_66 : decode cJ9_append 66 = .ok (.iconst 1, 1) := dk_4 (dk_at dksJ9_append_2 20 rfl rfl)
theorem dJ9_append_67 : decode cJ9_append 67 = .ok (.iadd, 1) := dk_96 (dk_at dksJ9_append_2 21 rfl rfl)
theorem dJ9_append_68 : decode cJ9_append 68 = .ok (.putfield 79, 3) := dk_181 0 79 (dk_at dksJ9_append_3 0 rfl rfl)
theorem dJ9_append_71 : decode cJ9_append 71 = .ok (.iload_n 1, 1) := dk_27 (dk_at dksJ9_append_3 3 rfl rfl)
theorem dJ9_append_72 : decode cJ9_append 72 = .ok (.invokestatic 197, 3) := dk_184 0 197 (dk_at dksJ9_append_3 4 rfl rfl)
theorem dJ9_append_75 : decode cJ9_append 75 = .ok (.aload_n 0, 1) := dk_42 (dk_at dksJ9_append_3 7 rfl rfl)
theorem dJ9_append_76 : decode cJ9_append 76 = .ok (.areturn, 1) := dk_176 (dk_at dksJ9_append_3 8 rfl rfl)
abbrev cJ9_ensureCapacityInternal : ByteArray := prog_22_method_9_code
def yJ9_ensureCapacityInternal : MethodName := ⟨RJ9, "ensureCapacityInternal", "(I)V"⟩
def dkwJ9_ensureCapacityInternal_1 : List UInt8 := [182, 0, 104, 42, 180, 0, 22, 120, 184, 0, 108, 181, 0, 15, 177]
abbrev dktJ9_ensureCapacityInternal_1 : List UInt8 := dkwJ9_ensureCapacityInternal_1 ++ []
def dkwJ9_ensureCapacityInternal_0 : List UInt8 := [42, 180, 0, 15, 190, 42, 180, 0, 22, 122, 61, 27, 28, 100, 158, 0, 24, 42, 42, 180, 0, 15, 42, 27]
abbrev dktJ9_ensureCapacityInternal_0 : List UInt8 := dkwJ9_ensureCapacityInternal_0 ++ dktJ9_ensureCapacityInternal_1
theorem dksJ9_ensureCapacityInternal_0 : cJ9_ensureCapacityInternal.data.toList.drop 0 = dktJ9_ensureCapacityInternal_0 := by decide +kernel
theorem dksJ9_ensureCapacityInternal_1 : cJ9_ensureCapacityInternal.data.toList.drop 24 = dktJ9_ensureCapacityInternal_1 := dk_seg dksJ9_ensureCapacityInternal_0 24 rfl rfl
theorem dJ9_ensureCapacityInternal_0 : decode cJ9_ensureCapacityInternal 0 = .ok (.aload_n 0, 1) := dk_42 (dk_at dksJ9_ensureCapacityInternal_0 0 rfl rfl)
theorem dJ9_ensureCapacityInternal_1 : decode cJ9_ensureCapacityInternal 1 = .ok (.getfield 15, 3) := dk_180 0 15 (dk_at dksJ9_ensureCapacityInternal_0 1 rfl rfl)
theorem dJ9_ensureCapacityInternal_4 : decode cJ9_ensureCapacityInternal 4 = .ok (.arraylength, 1) := dk_190 (dk_at dksJ9_ensureCapacityInternal_0 4 rfl rfl)
theorem dJ9_ensureCapacityInternal_5 : decode cJ9_ensureCapacityInternal 5 = .ok (.aload_n 0, 1) := dk_42 (dk_at dksJ9_ensureCapacityInternal_0 5 rfl rfl)
theorem dJ9_ensureCapacityInternal_6 : decode cJ9_ensureCapacityInternal 6 = .ok (.getfield 22, 3) := dk_180 0 22 (dk_at dksJ9_ensureCapacityInternal_0 6 rfl rfl)
theorem dJ9_ensureCapacityInternal_9 : decode cJ9_ensureCapacityInternal 9 = .ok (.ishr, 1) := dk_122 (dk_at dksJ9_ensureCapacityInternal_0 9 rfl rfl)
theorem dJ9_ensureCapacityInternal_10 : decode cJ9_ensureCapacityInternal 10 = .ok (.istore_n 2, 1) := dk_61 (dk_at dksJ9_ensureCapacityInternal_0 10 rfl rfl)
theorem dJ9_ensureCapacityInternal_11 : decode cJ9_ensureCapacityInternal 11 = .ok (.iload_n 1, 1) := dk_27 (dk_at dksJ9_ensureCapacityInternal_0 11 rfl rfl)
theorem dJ9_ensureCapacityInternal_12 : decode cJ9_ensureCapacityInternal 12 = .ok (.iload_n 2, 1) := dk_28 (dk_at dksJ9_ensureCapacityInternal_0 12 rfl rfl)
theorem dJ9_ensureCapacityInternal_13 : decode cJ9_ensureCapacityInternal 13 = .ok (.isub, 1) := dk_100 (dk_at dksJ9_ensureCapacityInternal_0 13 rfl rfl)
theorem dJ9_ensureCapacityInternal_14 : decode cJ9_ensureCapacityInternal 14 = .ok (.ifCond .le 24, 3) := dk_158 0 24 (dk_at dksJ9_ensureCapacityInternal_0 14 rfl rfl)
theorem dJ9_ensureCapacityInternal_17 : decode cJ9_ensureCapacityInternal 17 = .ok (.aload_n 0, 1) := dk_42 (dk_at dksJ9_ensureCapacityInternal_0 17 rfl rfl)
theorem dJ9_ensureCapacityInternal_18 : decode cJ9_ensureCapacityInternal 18 = .ok (.aload_n 0, 1) := dk_42 (dk_at dksJ9_ensureCapacityInternal_0 18 rfl rfl)
theorem dJ9_ensureCapacityInternal_19 : decode cJ9_ensureCapacityInternal 19 = .ok (.getfield 15, 3) := dk_180 0 15 (dk_at dksJ9_ensureCapacityInternal_0 19 rfl rfl)
theorem dJ9_ensureCapacityInternal_22 : decode cJ9_ensureCapacityInternal 22 = .ok (.aload_n 0, 1) := dk_42 (dk_at dksJ9_ensureCapacityInternal_0 22 rfl rfl)
theorem dJ9_ensureCapacityInternal_23 : decode cJ9_ensureCapacityInternal 23 = .ok (.iload_n 1, 1) := dk_27 (dk_at dksJ9_ensureCapacityInternal_0 23 rfl rfl)
theorem dJ9_ensureCapacityInternal_24 : decode cJ9_ensureCapacityInternal 24 = .ok (.invokevirtual 104, 3) := dk_182 0 104 (dk_at dksJ9_ensureCapacityInternal_1 0 rfl rfl)
theorem dJ9_ensureCapacityInternal_27 : decode cJ9_ensureCapacityInternal 27 = .ok (.aload_n 0, 1) := dk_42 (dk_at dksJ9_ensureCapacityInternal_1 3 rfl rfl)
theorem dJ9_ensureCapacityInternal_28 : decode cJ9_ensureCapacityInternal 28 = .ok (.getfield 22, 3) := dk_180 0 22 (dk_at dksJ9_ensureCapacityInternal_1 4 rfl rfl)
theorem dJ9_ensureCapacityInternal_31 : decode cJ9_ensureCapacityInternal 31 = .ok (.ishl, 1) := dk_120 (dk_at dksJ9_ensureCapacityInternal_1 7 rfl rfl)
theorem dJ9_ensureCapacityInternal_32 : decode cJ9_ensureCapacityInternal 32 = .ok (.invokestatic 108, 3) := dk_184 0 108 (dk_at dksJ9_ensureCapacityInternal_1 8 rfl rfl)
theorem dJ9_ensureCapacityInternal_35 : decode cJ9_ensureCapacityInternal 35 = .ok (.putfield 15, 3) := dk_181 0 15 (dk_at dksJ9_ensureCapacityInternal_1 11 rfl rfl)
theorem dJ9_ensureCapacityInternal_38 : decode cJ9_ensureCapacityInternal 38 = .ok (.return_, 1) := dk_177 (dk_at dksJ9_ensureCapacityInternal_1 14 rfl rfl)
abbrev cJ9_newCapacity : ByteArray := prog_22_method_10_code
def yJ9_newCapacity : MethodName := ⟨RJ9, "newCapacity", "(I)I"⟩
def dkwJ9_newCapacity_2 : List UInt8 := [183, 0, 124, 191, 21, 5, 42, 180, 0, 22, 122, 172]
abbrev dktJ9_newCapacity_2 : List UInt8 := dkwJ9_newCapacity_2 ++ []
def dkwJ9_newCapacity_1 : List UInt8 := [180, 0, 22, 120, 96, 184, 0, 114, 54, 5, 21, 5, 18, 39, 160, 0, 13, 187, 0, 120, 89, 18, 122]
abbrev dktJ9_newCapacity_1 : List UInt8 := dkwJ9_newCapacity_1 ++ dktJ9_newCapacity_2
def dkwJ9_newCapacity_0 : List UInt8 := [42, 180, 0, 15, 190, 61, 27, 42, 180, 0, 22, 120, 62, 29, 28, 100, 54, 4, 28, 21, 4, 28, 5, 42]
abbrev dktJ9_newCapacity_0 : List UInt8 := dkwJ9_newCapacity_0 ++ dktJ9_newCapacity_1
theorem dksJ9_newCapacity_0 : cJ9_newCapacity.data.toList.drop 0 = dktJ9_newCapacity_0 := by decide +kernel
theorem dksJ9_newCapacity_1 : cJ9_newCapacity.data.toList.drop 24 = dktJ9_newCapacity_1 := dk_seg dksJ9_newCapacity_0 24 rfl rfl
theorem dksJ9_newCapacity_2 : cJ9_newCapacity.data.toList.drop 47 = dktJ9_newCapacity_2 := dk_seg dksJ9_newCapacity_1 23 rfl rfl
theorem dJ9_newCapacity_0 : decode cJ9_newCapacity 0 = .ok (.aload_n 0, 1) := dk_42 (dk_at dksJ9_newCapacity_0 0 rfl rfl)
theorem dJ9_newCapacity_1 : decode cJ9_newCapacity 1 = .ok (.getfield 15, 3) := dk_180 0 15 (dk_at dksJ9_newCapacity_0 1 rfl rfl)
theorem dJ9_newCapacity_4 : decode cJ9_newCapacity 4 = .ok (.arraylength, 1) := dk_190 (dk_at dksJ9_newCapacity_0 4 rfl rfl)
theorem dJ9_newCapacity_5 : decode cJ9_newCapacity 5 = .ok (.istore_n 2, 1) := dk_61 (dk_at dksJ9_newCapacity_0 5 rfl rfl)
theorem dJ9_newCapacity_6 : decode cJ9_newCapacity 6 = .ok (.iload_n 1, 1) := dk_27 (dk_at dksJ9_newCapacity_0 6 rfl rfl)
theorem dJ9_newCapacity_7 : decode cJ9_newCapacity 7 = .ok (.aload_n 0, 1) := dk_42 (dk_at dksJ9_newCapacity_0 7 rfl rfl)
theorem dJ9_newCapacity_8 : decode cJ9_newCapacity 8 = .ok (.getfield 22, 3) := dk_180 0 22 (dk_at dksJ9_newCapacity_0 8 rfl rfl)
theorem dJ9_newCapacity_11 : decode cJ9_newCapacity 11 = .ok (.ishl, 1) := dk_120 (dk_at dksJ9_newCapacity_0 11 rfl rfl)
theorem dJ9_newCapacity_12 : decode cJ9_newCapacity 12 = .ok (.istore_n 3, 1) := dk_62 (dk_at dksJ9_newCapacity_0 12 rfl rfl)
theorem dJ9_newCapacity_13 : decode cJ9_newCapacity 13 = .ok (.iload_n 3, 1) := dk_29 (dk_at dksJ9_newCapacity_0 13 rfl rfl)
theorem dJ9_newCapacity_14 : decode cJ9_newCapacity 14 = .ok (.iload_n 2, 1) := dk_28 (dk_at dksJ9_newCapacity_0 14 rfl rfl)
theorem dJ9_newCapacity_15 : decode cJ9_newCapacity 15 = .ok (.isub, 1) := dk_100 (dk_at dksJ9_newCapacity_0 15 rfl rfl)
theorem dJ9_newCapacity_16 : decode cJ9_newCapacity 16 = .ok (.istore 4, 2) := dk_54 4 (dk_at dksJ9_newCapacity_0 16 rfl rfl)
theorem dJ9_newCapacity_18 : decode cJ9_newCapacity 18 = .ok (.iload_n 2, 1) := dk_28 (dk_at dksJ9_newCapacity_0 18 rfl rfl)
theorem dJ9_newCapacity_19 : decode cJ9_newCapacity 19 = .ok (.iload 4, 2) := dk_21 4 (dk_at dksJ9_newCapacity_0 19 rfl rfl)
theorem dJ9_newCapacity_21 : decode cJ9_newCapacity 21 = .ok (.iload_n 2, 1) := dk_28 (dk_at dksJ9_newCapacity_0 21 rfl rfl)
theorem dJ9_newCapacity_22 : decode cJ9_newCapacity 22 = .ok (.iconst 2, 1) := dk_5 (dk_at dksJ9_newCapacity_0 22 rfl rfl)
theorem dJ9_newCapacity_23 : decode cJ9_newCapacity 23 = .ok (.aload_n 0, 1) := dk_42 (dk_at dksJ9_newCapacity_0 23 rfl rfl)
theorem dJ9_newCapacity_24 : decode cJ9_newCapacity 24 = .ok (.getfield 22, 3) := dk_180 0 22 (dk_at dksJ9_newCapacity_1 0 rfl rfl)
theorem dJ9_newCapacity_27 : decode cJ9_newCapacity 27 = .ok (.ishl, 1) := dk_120 (dk_at dksJ9_newCapacity_1 3 rfl rfl)
theorem dJ9_newCapacity_28 : decode cJ9_newCapacity 28 = .ok (.iadd, 1) := dk_96 (dk_at dksJ9_newCapacity_1 4 rfl rfl)
theorem dJ9_newCapacity_29 : decode cJ9_newCapacity 29 = .ok (.invokestatic 114, 3) := dk_184 0 114 (dk_at dksJ9_newCapacity_1 5 rfl rfl)
theorem dJ9_newCapacity_32 : decode cJ9_newCapacity 32 = .ok (.istore 5, 2) := dk_54 5 (dk_at dksJ9_newCapacity_1 8 rfl rfl)
theorem dJ9_newCapacity_34 : decode cJ9_newCapacity 34 = .ok (.iload 5, 2) := dk_21 5 (dk_at dksJ9_newCapacity_1 10 rfl rfl)
theorem dJ9_newCapacity_36 : decode cJ9_newCapacity 36 = .ok (.ldc 39, 2) := dk_18 39 (dk_at dksJ9_newCapacity_1 12 rfl rfl)
theorem dJ9_newCapacity_38 : decode cJ9_newCapacity 38 = .ok (.if_icmp .ne 13, 3) := dk_160 0 13 (dk_at dksJ9_newCapacity_1 14 rfl rfl)
theorem dJ9_newCapacity_41 : decode cJ9_newCapacity 41 = .ok (.new 120, 3) := dk_187 0 120 (dk_at dksJ9_newCapacity_1 17 rfl rfl)
theorem dJ9_newCapacity_44 : decode cJ9_newCapacity 44 = .ok (.dup, 1) := dk_89 (dk_at dksJ9_newCapacity_1 20 rfl rfl)
theorem dJ9_newCapacity_45 : decode cJ9_newCapacity 45 = .ok (.ldc 122, 2) := dk_18 122 (dk_at dksJ9_newCapacity_1 21 rfl rfl)
theorem dJ9_newCapacity_47 : decode cJ9_newCapacity 47 = .ok (.invokespecial 124, 3) := dk_183 0 124 (dk_at dksJ9_newCapacity_2 0 rfl rfl)
theorem dJ9_newCapacity_50 : decode cJ9_newCapacity 50 = .ok (.athrow, 1) := dk_191 (dk_at dksJ9_newCapacity_2 3 rfl rfl)
theorem dJ9_newCapacity_51 : decode cJ9_newCapacity 51 = .ok (.iload 5, 2) := dk_21 5 (dk_at dksJ9_newCapacity_2 4 rfl rfl)
theorem dJ9_newCapacity_53 : decode cJ9_newCapacity 53 = .ok (.aload_n 0, 1) := dk_42 (dk_at dksJ9_newCapacity_2 6 rfl rfl)
theorem dJ9_newCapacity_54 : decode cJ9_newCapacity 54 = .ok (.getfield 22, 3) := dk_180 0 22 (dk_at dksJ9_newCapacity_2 7 rfl rfl)
theorem dJ9_newCapacity_57 : decode cJ9_newCapacity 57 = .ok (.ishr, 1) := dk_122 (dk_at dksJ9_newCapacity_2 10 rfl rfl)
theorem dJ9_newCapacity_58 : decode cJ9_newCapacity 58 = .ok (.ireturn, 1) := dk_172 (dk_at dksJ9_newCapacity_2 11 rfl rfl)
abbrev cJ9_inflate : ByteArray := prog_22_method_11_code
def yJ9_inflate : MethodName := ⟨RJ9, "inflate", "()V"⟩
def dkwJ9_inflate_1 : List UInt8 := [42, 180, 0, 79, 184, 0, 125, 42, 43, 181, 0, 15, 42, 4, 181, 0, 22, 177]
abbrev dktJ9_inflate_1 : List UInt8 := dkwJ9_inflate_1 ++ []
def dkwJ9_inflate_0 : List UInt8 := [42, 182, 0, 83, 154, 0, 4, 177, 42, 180, 0, 15, 190, 184, 0, 26, 76, 42, 180, 0, 15, 3, 43, 3]
abbrev dktJ9_inflate_0 : List UInt8 := dkwJ9_inflate_0 ++ dktJ9_inflate_1
theorem dksJ9_inflate_0 : cJ9_inflate.data.toList.drop 0 = dktJ9_inflate_0 := by decide +kernel
theorem dksJ9_inflate_1 : cJ9_inflate.data.toList.drop 24 = dktJ9_inflate_1 := dk_seg dksJ9_inflate_0 24 rfl rfl
theorem dJ9_inflate_0 : decode cJ9_inflate 0 = .ok (.aload_n 0, 1) := dk_42 (dk_at dksJ9_inflate_0 0 rfl rfl)
theorem dJ9_inflate_1 : decode cJ9_inflate 1 = .ok (.invokevirtual 83, 3) := dk_182 0 83 (dk_at dksJ9_inflate_0 1 rfl rfl)
theorem dJ9_inflate_4 : decode cJ9_inflate 4 = .ok (.ifCond .ne 4, 3) := dk_154 0 4 (dk_at dksJ9_inflate_0 4 rfl rfl)
theorem dJ9_inflate_7 : decode cJ9_inflate 7 = .ok (.return_, 1) := dk_177 (dk_at dksJ9_inflate_0 7 rfl rfl)
theorem dJ9_inflate_8 : decode cJ9_inflate 8 = .ok (.aload_n 0, 1) := dk_42 (dk_at dksJ9_inflate_0 8 rfl rfl)
theorem dJ9_inflate_9 : decode cJ9_inflate 9 = .ok (.getfield 15, 3) := dk_180 0 15 (dk_at dksJ9_inflate_0 9 rfl rfl)
theorem dJ9_inflate_12 : decode cJ9_inflate 12 = .ok (.arraylength, 1) := dk_190 (dk_at dksJ9_inflate_0 12 rfl rfl)
theorem dJ9_inflate_13 : decode cJ9_inflate 13 = .ok (.invokestatic 26, 3) := dk_184 0 26 (dk_at dksJ9_inflate_0 13 rfl rfl)
theorem dJ9_inflate_16 : decode cJ9_inflate 16 = .ok (.astore_n 1, 1) := dk_76 (dk_at dksJ9_inflate_0 16 rfl rfl)
theorem dJ9_inflate_17 : decode cJ9_inflate 17 = .ok (.aload_n 0, 1) := dk_42 (dk_at dksJ9_inflate_0 17 rfl rfl)
theorem dJ9_inflate_18 : decode cJ9_inflate 18 = .ok (.getfield 15, 3) := dk_180 0 15 (dk_at dksJ9_inflate_0 18 rfl rfl)
theorem dJ9_inflate_21 : decode cJ9_inflate 21 = .ok (.iconst 0, 1) := dk_3 (dk_at dksJ9_inflate_0 21 rfl rfl)
theorem dJ9_inflate_22 : decode cJ9_inflate 22 = .ok (.aload_n 1, 1) := dk_43 (dk_at dksJ9_inflate_0 22 rfl rfl)
theorem dJ9_inflate_23 : decode cJ9_inflate 23 = .ok (.iconst 0, 1) := dk_3 (dk_at dksJ9_inflate_0 23 rfl rfl)
theorem dJ9_inflate_24 : decode cJ9_inflate 24 = .ok (.aload_n 0, 1) := dk_42 (dk_at dksJ9_inflate_1 0 rfl rfl)
theorem dJ9_inflate_25 : decode cJ9_inflate 25 = .ok (.getfield 79, 3) := dk_180 0 79 (dk_at dksJ9_inflate_1 1 rfl rfl)
theorem dJ9_inflate_28 : decode cJ9_inflate 28 = .ok (.invokestatic 125, 3) := dk_184 0 125 (dk_at dksJ9_inflate_1 4 rfl rfl)
theorem dJ9_inflate_31 : decode cJ9_inflate 31 = .ok (.aload_n 0, 1) := dk_42 (dk_at dksJ9_inflate_1 7 rfl rfl)
theorem dJ9_inflate_32 : decode cJ9_inflate 32 = .ok (.aload_n 1, 1) := dk_43 (dk_at dksJ9_inflate_1 8 rfl rfl)
theorem dJ9_inflate_33 : decode cJ9_inflate 33 = .ok (.putfield 15, 3) := dk_181 0 15 (dk_at dksJ9_inflate_1 9 rfl rfl)
theorem dJ9_inflate_36 : decode cJ9_inflate 36 = .ok (.aload_n 0, 1) := dk_42 (dk_at dksJ9_inflate_1 12 rfl rfl)
theorem dJ9_inflate_37 : decode cJ9_inflate 37 = .ok (.iconst 1, 1) := dk_4 (dk_at dksJ9_inflate_1 13 rfl rfl)
theorem dJ9_inflate_38 : decode cJ9_inflate 38 = .ok (.putfield 22, 3) := dk_181 0 22 (dk_at dksJ9_inflate_1 14 rfl rfl)
theorem dJ9_inflate_41 : decode cJ9_inflate 41 = .ok (.return_, 1) := dk_177 (dk_at dksJ9_inflate_1 17 rfl rfl)
abbrev cJ9_setLength : ByteArray := prog_22_method_13_code
def yJ9_setLength : MethodName := ⟨RJ9, "setLength", "(I)V"⟩
def dkwJ9_setLength_3 : List UInt8 := [164, 0, 8, 42, 4, 181, 0, 73, 42, 27, 181, 0, 79, 177]
abbrev dktJ9_setLength_3 : List UInt8 := dkwJ9_setLength_3 ++ []
def dkwJ9_setLength_2 : List UInt8 := [167, 0, 31, 42, 180, 0, 15, 42, 180, 0, 79, 27, 184, 0, 137, 167, 0, 16, 42, 180, 0, 79, 27]
abbrev dktJ9_setLength_2 : List UInt8 := dkwJ9_setLength_2 ++ dktJ9_setLength_3
def dkwJ9_setLength_1 : List UInt8 := [162, 0, 40, 42, 182, 0, 83, 153, 0, 18, 42, 180, 0, 15, 42, 180, 0, 79, 27, 184, 0, 133]
abbrev dktJ9_setLength_1 : List UInt8 := dkwJ9_setLength_1 ++ dktJ9_setLength_2
def dkwJ9_setLength_0 : List UInt8 := [27, 156, 0, 12, 187, 0, 129, 89, 27, 183, 0, 131, 191, 42, 27, 182, 0, 100, 42, 180, 0, 79, 27]
abbrev dktJ9_setLength_0 : List UInt8 := dkwJ9_setLength_0 ++ dktJ9_setLength_1
theorem dksJ9_setLength_0 : cJ9_setLength.data.toList.drop 0 = dktJ9_setLength_0 := by decide +kernel
theorem dksJ9_setLength_1 : cJ9_setLength.data.toList.drop 23 = dktJ9_setLength_1 := dk_seg dksJ9_setLength_0 23 rfl rfl
theorem dksJ9_setLength_2 : cJ9_setLength.data.toList.drop 45 = dktJ9_setLength_2 := dk_seg dksJ9_setLength_1 22 rfl rfl
theorem dksJ9_setLength_3 : cJ9_setLength.data.toList.drop 68 = dktJ9_setLength_3 := dk_seg dksJ9_setLength_2 23 rfl rfl
theorem dJ9_setLength_0 : decode cJ9_setLength 0 = .ok (.iload_n 1, 1) := dk_27 (dk_at dksJ9_setLength_0 0 rfl rfl)
theorem dJ9_setLength_1 : decode cJ9_setLength 1 = .ok (.ifCond .ge 12, 3) := dk_156 0 12 (dk_at dksJ9_setLength_0 1 rfl rfl)
theorem dJ9_setLength_4 : decode cJ9_setLength 4 = .ok (.new 129, 3) := dk_187 0 129 (dk_at dksJ9_setLength_0 4 rfl rfl)
theorem dJ9_setLength_7 : decode cJ9_setLength 7 = .ok (.dup, 1) := dk_89 (dk_at dksJ9_setLength_0 7 rfl rfl)
theorem dJ9_setLength_8 : decode cJ9_setLength 8 = .ok (.iload_n 1, 1) := dk_27 (dk_at dksJ9_setLength_0 8 rfl rfl)
theorem dJ9_setLength_9 : decode cJ9_setLength 9 = .ok (.invokespecial 131, 3) := dk_183 0 131 (dk_at dksJ9_setLength_0 9 rfl rfl)
theorem dJ9_setLength_12 : decode cJ9_setLength 12 = .ok (.athrow, 1) := dk_191 (dk_at dksJ9_setLength_0 12 rfl rfl)
theorem dJ9_setLength_13 : decode cJ9_setLength 13 = .ok (.aload_n 0, 1) := dk_42 (dk_at dksJ9_setLength_0 13 rfl rfl)
theorem dJ9_setLength_14 : decode cJ9_setLength 14 = .ok (.iload_n 1, 1) := dk_27 (dk_at dksJ9_setLength_0 14 rfl rfl)
theorem dJ9_setLength_15 : decode cJ9_setLength 15 = .ok (.invokevirtual 100, 3) := dk_182 0 100 (dk_at dksJ9_setLength_0 15 rfl rfl)
theorem dJ9_setLength_18 : decode cJ9_setLength 18 = .ok (.aload_n 0, 1) := dk_42 (dk_at dksJ9_setLength_0 18 rfl rfl)
theorem dJ9_setLength_19 : decode cJ9_setLength 19 = .ok (.getfield 79, 3) := dk_180 0 79 (dk_at dksJ9_setLength_0 19 rfl rfl)
theorem dJ9_setLength_22 : decode cJ9_setLength 22 = .ok (.iload_n 1, 1) := dk_27 (dk_at dksJ9_setLength_0 22 rfl rfl)
theorem dJ9_setLength_23 : decode cJ9_setLength 23 = .ok (.if_icmp .ge 40, 3) := dk_162 0 40 (dk_at dksJ9_setLength_1 0 rfl rfl)
theorem dJ9_setLength_26 : decode cJ9_setLength 26 = .ok (.aload_n 0, 1) := dk_42 (dk_at dksJ9_setLength_1 3 rfl rfl)
theorem dJ9_setLength_27 : decode cJ9_setLength 27 = .ok (.invokevirtual 83, 3) := dk_182 0 83 (dk_at dksJ9_setLength_1 4 rfl rfl)
theorem dJ9_setLength_30 : decode cJ9_setLength 30 = .ok (.ifCond .eq 18, 3) := dk_153 0 18 (dk_at dksJ9_setLength_1 7 rfl rfl)
theorem dJ9_setLength_33 : decode cJ9_setLength 33 = .ok (.aload_n 0, 1) := dk_42 (dk_at dksJ9_setLength_1 10 rfl rfl)
theorem dJ9_setLength_34 : decode cJ9_setLength 34 = .ok (.getfield 15, 3) := dk_180 0 15 (dk_at dksJ9_setLength_1 11 rfl rfl)
theorem dJ9_setLength_37 : decode cJ9_setLength 37 = .ok (.aload_n 0, 1) := dk_42 (dk_at dksJ9_setLength_1 14 rfl rfl)
theorem dJ9_setLength_38 : decode cJ9_setLength 38 = .ok (.getfield 79, 3) := dk_180 0 79 (dk_at dksJ9_setLength_1 15 rfl rfl)
theorem dJ9_setLength_41 : decode cJ9_setLength 41 = .ok (.iload_n 1, 1) := dk_27 (dk_at dksJ9_setLength_1 18 rfl rfl)
theorem dJ9_setLength_42 : decode cJ9_setLength 42 = .ok (.invokestatic 133, 3) := dk_184 0 133 (dk_at dksJ9_setLength_1 19 rfl rfl)
theorem dJ9_setLength_45 : decode cJ9_setLength 45 = .ok (.goto 31, 3) := dk_167 0 31 (dk_at dksJ9_setLength_2 0 rfl rfl)
theorem dJ9_setLength_48 : decode cJ9_setLength 48 = .ok (.aload_n 0, 1) := dk_42 (dk_at dksJ9_setLength_2 3 rfl rfl)
theorem dJ9_setLength_49 : decode cJ9_setLength 49 = .ok (.getfield 15, 3) := dk_180 0 15 (dk_at dksJ9_setLength_2 4 rfl rfl)
theorem dJ9_setLength_52 : decode cJ9_setLength 52 = .ok (.aload_n 0, 1) := dk_42 (dk_at dksJ9_setLength_2 7 rfl rfl)
theorem dJ9_setLength_53 : decode cJ9_setLength 53 = .ok (.getfield 79, 3) := dk_180 0 79 (dk_at dksJ9_setLength_2 8 rfl rfl)
theorem dJ9_setLength_56 : decode cJ9_setLength 56 = .ok (.iload_n 1, 1) := dk_27 (dk_at dksJ9_setLength_2 11 rfl rfl)
theorem dJ9_setLength_57 : decode cJ9_setLength 57 = .ok (.invokestatic 137, 3) := dk_184 0 137 (dk_at dksJ9_setLength_2 12 rfl rfl)
theorem dJ9_setLength_60 : decode cJ9_setLength 60 = .ok (.goto 16, 3) := dk_167 0 16 (dk_at dksJ9_setLength_2 15 rfl rfl)
theorem dJ9_setLength_63 : decode cJ9_setLength 63 = .ok (.aload_n 0, 1) := dk_42 (dk_at dksJ9_setLength_2 18 rfl rfl)
theorem dJ9_setLength_64 : decode cJ9_setLength 64 = .ok (.getfield 79, 3) := dk_180 0 79 (dk_at dksJ9_setLength_2 19 rfl rfl)
theorem dJ9_setLength_67 : decode cJ9_setLength 67 = .ok (.iload_n 1, 1) := dk_27 (dk_at dksJ9_setLength_2 22 rfl rfl)
theorem dJ9_setLength_68 : decode cJ9_setLength 68 = .ok (.if_icmp .le 8, 3) := dk_164 0 8 (dk_at dksJ9_setLength_3 0 rfl rfl)
theorem dJ9_setLength_71 : decode cJ9_setLength 71 = .ok (.aload_n 0, 1) := dk_42 (dk_at dksJ9_setLength_3 3 rfl rfl)
theorem dJ9_setLength_72 : decode cJ9_setLength 72 = .ok (.iconst 1, 1) := dk_4 (dk_at dksJ9_setLength_3 4 rfl rfl)
theorem dJ9_setLength_73 : decode cJ9_setLength 73 = .ok (.putfield 73, 3) := dk_181 0 73 (dk_at dksJ9_setLength_3 5 rfl rfl)
theorem dJ9_setLength_76 : decode cJ9_setLength 76 = .ok (.aload_n 0, 1) := dk_42 (dk_at dksJ9_setLength_3 8 rfl rfl)
theorem dJ9_setLength_77 : decode cJ9_setLength 77 = .ok (.iload_n 1, 1) := dk_27 (dk_at dksJ9_setLength_3 9 rfl rfl)
theorem dJ9_setLength_78 : decode cJ9_setLength 78 = .ok (.putfield 79, 3) := dk_181 0 79 (dk_at dksJ9_setLength_3 10 rfl rfl)
theorem dJ9_setLength_81 : decode cJ9_setLength 81 = .ok (.return_, 1) := dk_177 (dk_at dksJ9_setLength_3 13 rfl rfl)
abbrev cJ9_charAt : ByteArray := prog_22_method_14_code
def yJ9_charAt : MethodName := ⟨RJ9, "charAt", "(I)C"⟩
def dkwJ9_charAt_1 : List UInt8 := [21, 4, 184, 0, 144, 28, 154, 0, 12, 45, 27, 51, 17, 0, 255, 126, 146, 172, 45, 27, 184, 0, 148, 172]
abbrev dktJ9_charAt_1 : List UInt8 := dkwJ9_charAt_1 ++ []
def dkwJ9_charAt_0 : List UInt8 := [42, 180, 0, 22, 61, 42, 180, 0, 15, 78, 42, 180, 0, 79, 45, 190, 28, 122, 184, 0, 138, 54, 4, 27]
abbrev dktJ9_charAt_0 : List UInt8 := dkwJ9_charAt_0 ++ dktJ9_charAt_1
theorem dksJ9_charAt_0 : cJ9_charAt.data.toList.drop 0 = dktJ9_charAt_0 := by decide +kernel
theorem dksJ9_charAt_1 : cJ9_charAt.data.toList.drop 24 = dktJ9_charAt_1 := dk_seg dksJ9_charAt_0 24 rfl rfl
theorem dJ9_charAt_0 : decode cJ9_charAt 0 = .ok (.aload_n 0, 1) := dk_42 (dk_at dksJ9_charAt_0 0 rfl rfl)
theorem dJ9_charAt_1 : decode cJ9_charAt 1 = .ok (.getfield 22, 3) := dk_180 0 22 (dk_at dksJ9_charAt_0 1 rfl rfl)
theorem dJ9_charAt_4 : decode cJ9_charAt 4 = .ok (.istore_n 2, 1) := dk_61 (dk_at dksJ9_charAt_0 4 rfl rfl)
theorem dJ9_charAt_5 : decode cJ9_charAt 5 = .ok (.aload_n 0, 1) := dk_42 (dk_at dksJ9_charAt_0 5 rfl rfl)
theorem dJ9_charAt_6 : decode cJ9_charAt 6 = .ok (.getfield 15, 3) := dk_180 0 15 (dk_at dksJ9_charAt_0 6 rfl rfl)
theorem dJ9_charAt_9 : decode cJ9_charAt 9 = .ok (.astore_n 3, 1) := dk_78 (dk_at dksJ9_charAt_0 9 rfl rfl)
theorem dJ9_charAt_10 : decode cJ9_charAt 10 = .ok (.aload_n 0, 1) := dk_42 (dk_at dksJ9_charAt_0 10 rfl rfl)
theorem dJ9_charAt_11 : decode cJ9_charAt 11 = .ok (.getfield 79, 3) := dk_180 0 79 (dk_at dksJ9_charAt_0 11 rfl rfl)
theorem dJ9_charAt_14 : decode cJ9_charAt 14 = .ok (.aload_n 3, 1) := dk_45 (dk_at dksJ9_charAt_0 14 rfl rfl)
theorem dJ9_charAt_15 : decode cJ9_charAt 15 = .ok (.arraylength, 1) := dk_190 (dk_at dksJ9_charAt_0 15 rfl rfl)
theorem dJ9_charAt_16 : decode cJ9_charAt 16 = .ok (.iload_n 2, 1) := dk_28 (dk_at dksJ9_charAt_0 16 rfl rfl)
theorem dJ9_charAt_17 : decode cJ9_charAt 17 = .ok (.ishr, 1) := dk_122 (dk_at dksJ9_charAt_0 17 rfl rfl)
theorem dJ9_charAt_18 : decode cJ9_charAt 18 = .ok (.invokestatic 138, 3) := dk_184 0 138 (dk_at dksJ9_charAt_0 18 rfl rfl)
theorem dJ9_charAt_21 : decode cJ9_charAt 21 = .ok (.istore 4, 2) := dk_54 4 (dk_at dksJ9_charAt_0 21 rfl rfl)
theorem dJ9_charAt_23 : decode cJ9_charAt 23 = .ok (.iload_n 1, 1) := dk_27 (dk_at dksJ9_charAt_0 23 rfl rfl)
theorem dJ9_charAt_24 : decode cJ9_charAt 24 = .ok (.iload 4, 2) := dk_21 4 (dk_at dksJ9_charAt_1 0 rfl rfl)
theorem dJ9_charAt_26 : decode cJ9_charAt 26 = .ok (.invokestatic 144, 3) := dk_184 0 144 (dk_at dksJ9_charAt_1 2 rfl rfl)
theorem dJ9_charAt_29 : decode cJ9_charAt 29 = .ok (.iload_n 2, 1) := dk_28 (dk_at dksJ9_charAt_1 5 rfl rfl)
theorem dJ9_charAt_30 : decode cJ9_charAt 30 = .ok (.ifCond .ne 12, 3) := dk_154 0 12 (dk_at dksJ9_charAt_1 6 rfl rfl)
theorem dJ9_charAt_33 : decode cJ9_charAt 33 = .ok (.aload_n 3, 1) := dk_45 (dk_at dksJ9_charAt_1 9 rfl rfl)
theorem dJ9_charAt_34 : decode cJ9_charAt 34 = .ok (.iload_n 1, 1) := dk_27 (dk_at dksJ9_charAt_1 10 rfl rfl)
theorem dJ9_charAt_35 : decode cJ9_charAt 35 = .ok (.baload, 1) := dk_51 (dk_at dksJ9_charAt_1 11 rfl rfl)
theorem dJ9_charAt_36 : decode cJ9_charAt 36 = .ok (.sipush 255, 3) := dk_17 0 255 (dk_at dksJ9_charAt_1 12 rfl rfl)
theorem dJ9_charAt_39 : decode cJ9_charAt 39 = .ok (.iand, 1) := dk_126 (dk_at dksJ9_charAt_1 15 rfl rfl)
theorem dJ9_charAt_40 : decode cJ9_charAt 40 = .ok (.i2c, 1) := dk_146 (dk_at dksJ9_charAt_1 16 rfl rfl)
theorem dJ9_charAt_41 : decode cJ9_charAt 41 = .ok (.ireturn, 1) := dk_172 (dk_at dksJ9_charAt_1 17 rfl rfl)
theorem dJ9_charAt_42 : decode cJ9_charAt 42 = .ok (.aload_n 3, 1) := dk_45 (dk_at dksJ9_charAt_1 18 rfl rfl)
theorem dJ9_charAt_43 : decode cJ9_charAt 43 = .ok (.iload_n 1, 1) := dk_27 (dk_at dksJ9_charAt_1 19 rfl rfl)
theorem dJ9_charAt_44 : decode cJ9_charAt 44 = .ok (.invokestatic 148, 3) := dk_184 0 148 (dk_at dksJ9_charAt_1 20 rfl rfl)
theorem dJ9_charAt_47 : decode cJ9_charAt 47 = .ok (.ireturn, 1) := dk_172 (dk_at dksJ9_charAt_1 23 rfl rfl)
theorem q109 : (Jvm.Cond.initialized "java/lang/AbstractStringBuilder") ∈ lw_all := lw_g (lw_at lw_m1 14 rfl) rfl
theorem q445 : (Jvm.Cond.instanceMethod ({ cls := "java/lang/AbstractStringBuilder", name := "<init>", desc := "(I)V" } : Jvm.MethodName)) ∈ lw_all := lw_g (lw_at lw_m2 110 rfl) rfl
theorem q446 : (Jvm.Cond.code ({ cls := "java/lang/AbstractStringBuilder", name := "<init>", desc := "(I)V" } : Jvm.MethodName) prog_22_method_2_code (2 : Nat) (Option.none : Option Jvm.ClassFile.FieldType)) ∈ lw_all := lw_g (lw_at lw_m2 111 rfl) rfl
theorem q447 : (Jvm.Cond.methodLink "java/lang/AbstractStringBuilder" (3 : Nat) ({ cls := "java/lang/Object", name := "<init>", desc := "()V" } : Jvm.MethodName)) ∈ lw_all := lw_g (lw_at lw_m2 112 rfl) rfl
theorem q448 : (Jvm.Cond.fieldLink "java/lang/AbstractStringBuilder" (18 : Nat) "java/lang/String" "COMPACT_STRINGS" "Z") ∈ lw_all := lw_g (lw_at lw_m2 113 rfl) rfl
theorem q450 : (Jvm.Cond.methodLink "java/lang/AbstractStringBuilder" (26 : Nat) ({ cls := "java/lang/StringUTF16", name := "newBytesFor", desc := "(I)[B" } : Jvm.MethodName)) ∈ lw_all := lw_g (lw_at lw_m2 115 rfl) rfl
theorem q457 : (Jvm.Cond.fieldLink "java/lang/AbstractStringBuilder" (15 : Nat) "java/lang/AbstractStringBuilder" "value" "[B") ∈ lw_all := lw_g (lw_at lw_m2 122 rfl) rfl
theorem q458 : (Jvm.Cond.fieldLink "java/lang/AbstractStringBuilder" (22 : Nat) "java/lang/AbstractStringBuilder" "coder" "B") ∈ lw_all := lw_g (lw_at lw_m2 123 rfl) rfl
theorem q459 : (Jvm.Cond.fieldLink "java/lang/AbstractStringBuilder" (73 : Nat) "java/lang/AbstractStringBuilder" "maybeLatin1" "Z") ∈ lw_all := lw_g (lw_at lw_m2 124 rfl) rfl
theorem q460 : (Jvm.Cond.fieldLink "java/lang/AbstractStringBuilder" (79 : Nat) "java/lang/AbstractStringBuilder" "count" "I") ∈ lw_all := lw_g (lw_at lw_m2 125 rfl) rfl
theorem q462 : (Jvm.Cond.soleField "java/lang/AbstractStringBuilder" "value") ∈ lw_all := lw_g (lw_at lw_m2 127 rfl) rfl
theorem q464 : (Jvm.Cond.soleField "java/lang/AbstractStringBuilder" "coder") ∈ lw_all := lw_g (lw_at lw_m2 129 rfl) rfl
theorem q466 : (Jvm.Cond.soleField "java/lang/AbstractStringBuilder" "maybeLatin1") ∈ lw_all := lw_g (lw_at lw_m2 131 rfl) rfl
theorem q468 : (Jvm.Cond.soleField "java/lang/AbstractStringBuilder" "count") ∈ lw_all := lw_g (lw_at lw_m2 133 rfl) rfl
theorem q1221 : (Jvm.Cond.instanceMethod ({ cls := "java/lang/AbstractStringBuilder", name := "compareTo", desc := "(Ljava/lang/AbstractStringBuilder;)I" } : Jvm.MethodName)) ∈ lw_all := lw_g (lw_at lw_m5 166 rfl) rfl
theorem q1222 : (Jvm.Cond.code ({ cls := "java/lang/AbstractStringBuilder", name := "compareTo", desc := "(Ljava/lang/AbstractStringBuilder;)I" } : Jvm.MethodName) prog_22_method_5_code (6 : Nat) (Option.some Jvm.ClassFile.FieldType.int)) ∈ lw_all := lw_g (lw_at lw_m5 167 rfl) rfl
theorem q1223 : (Jvm.Cond.methodLink "java/lang/AbstractStringBuilder" (83 : Nat) ({ cls := "java/lang/AbstractStringBuilder", name := "isLatin1", desc := "()Z" } : Jvm.MethodName)) ∈ lw_all := lw_g (lw_at lw_m5 168 rfl) rfl
theorem q1224 : (Jvm.Cond.instanceMethod ({ cls := "java/lang/AbstractStringBuilder", name := "isLatin1", desc := "()Z" } : Jvm.MethodName)) ∈ lw_all := lw_g (lw_at lw_m5 169 rfl) rfl
theorem q1225 : (Jvm.Cond.sameMethod "java/lang/AbstractStringBuilder" "java/lang/AbstractStringBuilder" "isLatin1" "()Z") ∈ lw_all := lw_g (lw_at lw_m5 170 rfl) rfl
theorem q1227 : (Jvm.Cond.code ({ cls := "java/lang/AbstractStringBuilder", name := "isLatin1", desc := "()Z" } : Jvm.MethodName) prog_22_method_68_code (1 : Nat) (Option.some Jvm.ClassFile.FieldType.boolean)) ∈ lw_all := lw_g (lw_at lw_m5 172 rfl) rfl
theorem q1228 : (Jvm.Cond.methodLink "java/lang/AbstractStringBuilder" (87 : Nat) ({ cls := "java/lang/StringLatin1", name := "compareTo", desc := "([B[BII)I" } : Jvm.MethodName)) ∈ lw_all := lw_g (lw_at lw_m5 173 rfl) rfl
theorem q1229 : (Jvm.Cond.methodLink "java/lang/AbstractStringBuilder" (93 : Nat) ({ cls := "java/lang/StringUTF16", name := "compareTo", desc := "([B[BII)I" } : Jvm.MethodName)) ∈ lw_all := lw_g (lw_at lw_m5 174 rfl) rfl
theorem q1243 : (Jvm.Cond.methodLink "java/lang/AbstractStringBuilder" (94 : Nat) ({ cls := "java/lang/StringLatin1", name := "compareToUTF16", desc := "([B[BII)I" } : Jvm.MethodName)) ∈ lw_all := lw_g (lw_at lw_m5 188 rfl) rfl
theorem q1247 : (Jvm.Cond.methodLink "java/lang/AbstractStringBuilder" (97 : Nat) ({ cls := "java/lang/StringUTF16", name := "compareToLatin1", desc := "([B[BII)I" } : Jvm.MethodName)) ∈ lw_all := lw_g (lw_at lw_m5 192 rfl) rfl
theorem q1751 : (Jvm.Cond.instanceMethod ({ cls := "java/lang/AbstractStringBuilder", name := "length", desc := "()I" } : Jvm.MethodName)) ∈ lw_all := lw_g (lw_at lw_m7 216 rfl) rfl
theorem q1752 : (Jvm.Cond.code ({ cls := "java/lang/AbstractStringBuilder", name := "length", desc := "()I" } : Jvm.MethodName) prog_22_method_6_code (1 : Nat) (Option.some Jvm.ClassFile.FieldType.int)) ∈ lw_all := lw_g (lw_at lw_m7 217 rfl) rfl
theorem q1785 : (Jvm.Cond.instanceMethod ({ cls := "java/lang/AbstractStringBuilder", name := "append", desc := "(C)Ljava/lang/AbstractStringBuilder;" } : Jvm.MethodName)) ∈ lw_all := lw_g (lw_at lw_m8 10 rfl) rfl
theorem q1786 : (Jvm.Cond.code ({ cls := "java/lang/AbstractStringBuilder", name := "append", desc := "(C)Ljava/lang/AbstractStringBuilder;" } : Jvm.MethodName) prog_22_method_31_code (2 : Nat) (Option.some (Jvm.ClassFile.FieldType.object "java/lang/AbstractStringBuilder"))) ∈ lw_all := lw_g (lw_at lw_m8 11 rfl) rfl
theorem q1787 : (Jvm.Cond.methodLink "java/lang/AbstractStringBuilder" (100 : Nat) ({ cls := "java/lang/AbstractStringBuilder", name := "ensureCapacityInternal", desc := "(I)V" } : Jvm.MethodName)) ∈ lw_all := lw_g (lw_at lw_m8 12 rfl) rfl
theorem q1788 : (Jvm.Cond.privateMethod ({ cls := "java/lang/AbstractStringBuilder", name := "ensureCapacityInternal", desc := "(I)V" } : Jvm.MethodName)) ∈ lw_tbl := lw_at lw_m8 13 rfl
theorem q1789 : (Jvm.Cond.instanceMethod ({ cls := "java/lang/AbstractStringBuilder", name := "ensureCapacityInternal", desc := "(I)V" } : Jvm.MethodName)) ∈ lw_all := lw_g (lw_at lw_m8 14 rfl) rfl
theorem q1790 : (Jvm.Cond.code ({ cls := "java/lang/AbstractStringBuilder", name := "ensureCapacityInternal", desc := "(I)V" } : Jvm.MethodName) prog_22_method_9_code (3 : Nat) (Option.none : Option Jvm.ClassFile.FieldType)) ∈ lw_all := lw_g (lw_at lw_m8 15 rfl) rfl
theorem q1791 : (Jvm.Cond.methodLink "java/lang/AbstractStringBuilder" (104 : Nat) ({ cls := "java/lang/AbstractStringBuilder", name := "newCapacity", desc := "(I)I" } : Jvm.MethodName)) ∈ lw_all := lw_g (lw_at lw_m8 16 rfl) rfl
theorem q1792 : (Jvm.Cond.privateMethod ({ cls := "java/lang/AbstractStringBuilder", name := "newCapacity", desc := "(I)I" } : Jvm.MethodName)) ∈ lw_tbl := lw_at lw_m8 17 rfl
theorem q1793 : (Jvm.Cond.instanceMethod ({ cls := "java/lang/AbstractStringBuilder", name := "newCapacity", desc := "(I)I" } : Jvm.MethodName)) ∈ lw_all := lw_g (lw_at lw_m8 18 rfl) rfl
theorem q1794 : (Jvm.Cond.code ({ cls := "java/lang/AbstractStringBuilder", name := "newCapacity", desc := "(I)I" } : Jvm.MethodName) prog_22_method_10_code (6 : Nat) (Option.some Jvm.ClassFile.FieldType.int)) ∈ lw_all := lw_g (lw_at lw_m8 19 rfl) rfl
theorem q1795 : (Jvm.Cond.methodLink "java/lang/AbstractStringBuilder" (114 : Nat) ({ cls := "jdk/internal/util/ArraysSupport", name := "newLength", desc := "(III)I" } : Jvm.MethodName)) ∈ lw_all := lw_g (lw_at lw_m8 20 rfl) rfl
theorem q1796 : (Jvm.Cond.constant "java/lang/AbstractStringBuilder" (39 : Nat) (2147483647 : Int32)) ∈ lw_all := lw_g (lw_at lw_m8 21 rfl) rfl
theorem q1797 : (Jvm.Cond.methodLink "java/lang/AbstractStringBuilder" (108 : Nat) ({ cls := "java/util/Arrays", name := "copyOf", desc := "([BI)[B" } : Jvm.MethodName)) ∈ lw_all := lw_g (lw_at lw_m8 22 rfl) rfl
theorem q1805 : (Jvm.Cond.methodLink "java/lang/AbstractStringBuilder" (191 : Nat) ({ cls := "java/lang/StringLatin1", name := "canEncode", desc := "(C)Z" } : Jvm.MethodName)) ∈ lw_all := lw_g (lw_at lw_m8 30 rfl) rfl
theorem q1808 : (Jvm.Cond.methodLink "java/lang/AbstractStringBuilder" (195 : Nat) ({ cls := "java/lang/AbstractStringBuilder", name := "inflate", desc := "()V" } : Jvm.MethodName)) ∈ lw_all := lw_g (lw_at lw_m8 33 rfl) rfl
theorem q1809 : (Jvm.Cond.privateMethod ({ cls := "java/lang/AbstractStringBuilder", name := "inflate", desc := "()V" } : Jvm.MethodName)) ∈ lw_tbl := lw_at lw_m8 34 rfl
theorem q1810 : (Jvm.Cond.instanceMethod ({ cls := "java/lang/AbstractStringBuilder", name := "inflate", desc := "()V" } : Jvm.MethodName)) ∈ lw_all := lw_g (lw_at lw_m8 35 rfl) rfl
theorem q1811 : (Jvm.Cond.code ({ cls := "java/lang/AbstractStringBuilder", name := "inflate", desc := "()V" } : Jvm.MethodName) prog_22_method_11_code (2 : Nat) (Option.none : Option Jvm.ClassFile.FieldType)) ∈ lw_all := lw_g (lw_at lw_m8 36 rfl) rfl
theorem q1812 : (Jvm.Cond.methodLink "java/lang/AbstractStringBuilder" (125 : Nat) ({ cls := "java/lang/StringLatin1", name := "inflate", desc := "([BI[BII)V" } : Jvm.MethodName)) ∈ lw_all := lw_g (lw_at lw_m8 37 rfl) rfl
theorem q1830 : (Jvm.Cond.methodLink "java/lang/AbstractStringBuilder" (197 : Nat) ({ cls := "java/lang/StringUTF16", name := "putCharSB", desc := "([BII)V" } : Jvm.MethodName)) ∈ lw_all := lw_g (lw_at lw_m8 55 rfl) rfl
theorem q1849 : (Jvm.Cond.instanceMethod ({ cls := "java/lang/AbstractStringBuilder", name := "setLength", desc := "(I)V" } : Jvm.MethodName)) ∈ lw_all := lw_g (lw_at lw_m8 74 rfl) rfl
theorem q1850 : (Jvm.Cond.code ({ cls := "java/lang/AbstractStringBuilder", name := "setLength", desc := "(I)V" } : Jvm.MethodName) prog_22_method_13_code (2 : Nat) (Option.none : Option Jvm.ClassFile.FieldType)) ∈ lw_all := lw_g (lw_at lw_m8 75 rfl) rfl
theorem q1851 : (Jvm.Cond.methodLink "java/lang/AbstractStringBuilder" (133 : Nat) ({ cls := "java/lang/StringLatin1", name := "fillNull", desc := "([BII)V" } : Jvm.MethodName)) ∈ lw_all := lw_g (lw_at lw_m8 76 rfl) rfl
theorem q1860 : (Jvm.Cond.methodLink "java/lang/AbstractStringBuilder" (137 : Nat) ({ cls := "java/lang/StringUTF16", name := "fillNull", desc := "([BII)V" } : Jvm.MethodName)) ∈ lw_all := lw_g (lw_at lw_m8 85 rfl) rfl
theorem q1917 : (Jvm.Cond.instanceMethod ({ cls := "java/lang/AbstractStringBuilder", name := "charAt", desc := "(I)C" } : Jvm.MethodName)) ∈ lw_all := lw_g (lw_at lw_m8 142 rfl) rfl
theorem q1918 : (Jvm.Cond.code ({ cls := "java/lang/AbstractStringBuilder", name := "charAt", desc := "(I)C" } : Jvm.MethodName) prog_22_method_14_code (5 : Nat) (Option.some Jvm.ClassFile.FieldType.char)) ∈ lw_all := lw_g (lw_at lw_m8 143 rfl) rfl
theorem q1919 : (Jvm.Cond.methodLink "java/lang/AbstractStringBuilder" (138 : Nat) ({ cls := "java/lang/Math", name := "min", desc := "(II)I" } : Jvm.MethodName)) ∈ lw_all := lw_g (lw_at lw_m8 144 rfl) rfl
theorem q1920 : (Jvm.Cond.methodLink "java/lang/AbstractStringBuilder" (144 : Nat) ({ cls := "java/lang/String", name := "checkIndex", desc := "(II)V" } : Jvm.MethodName)) ∈ lw_all := lw_g (lw_at lw_m8 145 rfl) rfl
theorem q1921 : (Jvm.Cond.methodLink "java/lang/AbstractStringBuilder" (148 : Nat) ({ cls := "java/lang/StringUTF16", name := "getChar", desc := "([BI)C" } : Jvm.MethodName)) ∈ lw_all := lw_g (lw_at lw_m8 146 rfl) rfl
theorem q2395 : (Jvm.Cond.sameMethod "java/lang/AbstractStringBuilder" "java/lang/AbstractStringBuilder" "compareTo" "(Ljava/lang/AbstractStringBuilder;)I") ∈ lw_all := lw_g (lw_at lw_m10 140 rfl) rfl
theorem q2397 : (Jvm.Cond.sameMethod "java/lang/AbstractStringBuilder" "java/lang/AbstractStringBuilder" "length" "()I") ∈ lw_all := lw_g (lw_at lw_m10 142 rfl) rfl
theorem q2398 : (Jvm.Cond.sameMethod "java/lang/AbstractStringBuilder" "java/lang/AbstractStringBuilder" "append" "(C)Ljava/lang/AbstractStringBuilder;") ∈ lw_all := lw_g (lw_at lw_m10 143 rfl) rfl
theorem q2399 : (Jvm.Cond.sameMethod "java/lang/AbstractStringBuilder" "java/lang/AbstractStringBuilder" "ensureCapacityInternal" "(I)V") ∈ lw_all := lw_g (lw_at lw_m10 144 rfl) rfl
theorem q2400 : (Jvm.Cond.sameMethod "java/lang/AbstractStringBuilder" "java/lang/AbstractStringBuilder" "newCapacity" "(I)I") ∈ lw_all := lw_g (lw_at lw_m10 145 rfl) rfl
theorem q2401 : (Jvm.Cond.sameMethod "java/lang/AbstractStringBuilder" "java/lang/AbstractStringBuilder" "inflate" "()V") ∈ lw_all := lw_g (lw_at lw_m10 146 rfl) rfl
theorem q2402 : (Jvm.Cond.sameMethod "java/lang/AbstractStringBuilder" "java/lang/AbstractStringBuilder" "setLength" "(I)V") ∈ lw_all := lw_g (lw_at lw_m10 147 rfl) rfl
theorem q2403 : (Jvm.Cond.sameMethod "java/lang/AbstractStringBuilder" "java/lang/AbstractStringBuilder" "charAt" "(I)C") ∈ lw_all := lw_g (lw_at lw_m10 148 rfl) rfl
abbrev cJ10_init : ByteArray := prog_36_method_1_code
def yJ10_init : MethodName := ⟨RJ10, "<init>", "()V"⟩
def dkwJ10_init_0 : List UInt8 := [42, 16, 16, 183, 0, 1, 177]
abbrev dktJ10_init_0 : List UInt8 := dkwJ10_init_0 ++ []
theorem dksJ10_init_0 : cJ10_init.data.toList.drop 0 = dktJ10_init_0 := by decide +kernel
theorem dJ10_init_0 : decode cJ10_init 0 = .ok (.aload_n 0, 1) := dk_42 (dk_at dksJ10_init_0 0 rfl rfl)
theorem dJ10_init_1 : decode cJ10_init 1 = .ok (.bipush 16, 2) := dk_16 16 (dk_at dksJ10_init_0 1 rfl rfl)
theorem dJ10_init_3 : decode cJ10_init 3 = .ok (.invokespecial 1, 3) := dk_183 0 1 (dk_at dksJ10_init_0 3 rfl rfl)
theorem dJ10_init_6 : decode cJ10_init 6 = .ok (.return_, 1) := dk_177 (dk_at dksJ10_init_0 6 rfl rfl)
abbrev cJ10_compareTo : ByteArray := prog_36_method_97_code
def yJ10_compareTo : MethodName := ⟨RJ10, "compareTo", "(Ljava/lang/Object;)I"⟩
def dkwJ10_compareTo_0 : List UInt8 := [42, 43, 192, 0, 24, 182, 1, 90, 172]
abbrev dktJ10_compareTo_0 : List UInt8 := dkwJ10_compareTo_0 ++ []
theorem dksJ10_compareTo_0 : cJ10_compareTo.data.toList.drop 0 = dktJ10_compareTo_0 := by decide +kernel
theorem dJ10_compareTo_0 : decode cJ10_compareTo 0 = .ok (.aload_n 0, 1) := dk_42 (dk_at dksJ10_compareTo_0 0 rfl rfl)
theorem dJ10_compareTo_1 : decode cJ10_compareTo 1 = .ok (.aload_n 1, 1) := dk_43 (dk_at dksJ10_compareTo_0 1 rfl rfl)
theorem dJ10_compareTo_2 : decode cJ10_compareTo 2 = .ok (.checkcast 24, 3) := dk_192 0 24 (dk_at dksJ10_compareTo_0 2 rfl rfl)
theorem dJ10_compareTo_5 : decode cJ10_compareTo 5 = .ok (.invokevirtual 346, 3) := dk_182 1 90 (dk_at dksJ10_compareTo_0 5 rfl rfl)
theorem dJ10_compareTo_8 : decode cJ10_compareTo 8 = .ok (.ireturn, 1) := dk_172 (dk_at dksJ10_compareTo_0 8 rfl rfl)
abbrev cJ10_compareTo_2 : ByteArray := prog_36_method_5_code
def yJ10_compareTo_2 : MethodName := ⟨RJ10, "compareTo", "(Ljava/lang/StringBuilder;)I"⟩
def dkwJ10_compareTo_2_0 : List UInt8 := [42, 43, 183, 0, 13, 172]
abbrev dktJ10_compareTo_2_0 : List UInt8 := dkwJ10_compareTo_2_0 ++ []
theorem dksJ10_compareTo_2_0 : cJ10_compareTo_2.data.toList.drop 0 = dktJ10_compareTo_2_0 := by decide +kernel
theorem dJ10_compareTo_2_0 : decode cJ10_compareTo_2 0 = .ok (.aload_n 0, 1) := dk_42 (dk_at dksJ10_compareTo_2_0 0 rfl rfl)
theorem dJ10_compareTo_2_1 : decode cJ10_compareTo_2 1 = .ok (.aload_n 1, 1) := dk_43 (dk_at dksJ10_compareTo_2_0 1 rfl rfl)
theorem dJ10_compareTo_2_2 : decode cJ10_compareTo_2 2 = .ok (.invokespecial 13, 3) := dk_183 0 13 (dk_at dksJ10_compareTo_2_0 2 rfl rfl)
theorem dJ10_compareTo_2_5 : decode cJ10_compareTo_2 5 = .ok (.ireturn, 1) := dk_172 (dk_at dksJ10_compareTo_2_0 5 rfl rfl)
abbrev cJ10_length : ByteArray := prog_36_method_93_code
def yJ10_length : MethodName := ⟨RJ10, "length", "()I"⟩
theorem dJ10_length_0 : decode cJ10_length 0 = .ok (.aload_n 0, 1) := by decide +kernel
theorem dJ10_length_1 : decode cJ10_length 1 = .ok (.invokespecial 343, 3) := by decide +kernel
theorem dJ10_length_4 : decode cJ10_length 4 = .ok (.ireturn, 1) := by decide +kernel
abbrev cJ10_append : ByteArray := prog_36_method_14_code
def yJ10_append : MethodName := ⟨RJ10, "append", "(C)Ljava/lang/StringBuilder;"⟩
def dkwJ10_append_0 : List UInt8 := [42, 27, 183, 0, 50, 87, 42, 176]
abbrev dktJ10_append_0 : List UInt8 := dkwJ10_append_0 ++ []
theorem dksJ10_append_0 : cJ10_append.data.toList.drop 0 = dktJ10_append_0 := by decide +kernel
theorem dJ10_append_0 : decode cJ10_append 0 = .ok (.aload_n 0, 1) := dk_42 (dk_at dksJ10_append_0 0 rfl rfl)
theorem dJ10_append_1 : decode cJ10_append 1 = .ok (.iload_n 1, 1) := dk_27 (dk_at dksJ10_append_0 1 rfl rfl)
theorem dJ10_append_2 : decode cJ10_append 2 = .ok (.invokespecial 50, 3) := dk_183 0 50 (dk_at dksJ10_append_0 2 rfl rfl)
theorem dJ10_append_5 : decode cJ10_append 5 = .ok (.pop, 1) := dk_87 (dk_at dksJ10_append_0 5 rfl rfl)
theorem dJ10_append_6 : decode cJ10_append 6 = .ok (.aload_n 0, 1) := dk_42 (dk_at dksJ10_append_0 6 rfl rfl)
theorem dJ10_append_7 : decode cJ10_append 7 = .ok (.areturn, 1) := dk_176 (dk_at dksJ10_append_0 7 rfl rfl)
abbrev cJ10_setLength : ByteArray := prog_36_method_89_code
def yJ10_setLength : MethodName := ⟨RJ10, "setLength", "(I)V"⟩
def dkwJ10_setLength_0 : List UInt8 := [42, 27, 183, 1, 77, 177]
abbrev dktJ10_setLength_0 : List UInt8 := dkwJ10_setLength_0 ++ []
theorem dksJ10_setLength_0 : cJ10_setLength.data.toList.drop 0 = dktJ10_setLength_0 := by decide +kernel
theorem dJ10_setLength_0 : decode cJ10_setLength 0 = .ok (.aload_n 0, 1) := dk_42 (dk_at dksJ10_setLength_0 0 rfl rfl)
theorem dJ10_setLength_1 : decode cJ10_setLength 1 = .ok (.iload_n 1, 1) := dk_27 (dk_at dksJ10_setLength_0 1 rfl rfl)
theorem dJ10_setLength_2 : decode cJ10_setLength 2 = .ok (.invokespecial 333, 3) := dk_183 1 77 (dk_at dksJ10_setLength_0 2 rfl rfl)
theorem dJ10_setLength_5 : decode cJ10_setLength 5 = .ok (.return_, 1) := dk_177 (dk_at dksJ10_setLength_0 5 rfl rfl)
abbrev cJ10_charAt : ByteArray := prog_36_method_88_code
def yJ10_charAt : MethodName := ⟨RJ10, "charAt", "(I)C"⟩
def dkwJ10_charAt_0 : List UInt8 := [42, 27, 183, 1, 73, 172]
abbrev dktJ10_charAt_0 : List UInt8 := dkwJ10_charAt_0 ++ []
theorem dksJ10_charAt_0 : cJ10_charAt.data.toList.drop 0 = dktJ10_charAt_0 := by decide +kernel
theorem dJ10_charAt_0 : decode cJ10_charAt 0 = .ok (.aload_n 0, 1) := dk_42 (dk_at dksJ10_charAt_0 0 rfl rfl)
theorem dJ10_charAt_1 : decode cJ10_charAt 1 = .ok (.iload_n 1, 1) := dk_27 (dk_at dksJ10_charAt_0 1 rfl rfl)
theorem dJ10_charAt_2 : decode cJ10_charAt 2 = .ok (.invokespecial 329, 3) := dk_183 1 73 (dk_at dksJ10_charAt_0 2 rfl rfl)
theorem dJ10_charAt_5 : decode cJ10_charAt 5 = .ok (.ireturn, 1) := dk_172 (dk_at dksJ10_charAt_0 5 rfl rfl)
theorem q110 : (Jvm.Cond.initialized "java/lang/StringBuilder") ∈ lw_all := lw_g (lw_at lw_m1 15 rfl) rfl
theorem q440 : (Jvm.Cond.instantiable "java/lang/StringBuilder" (4 : Nat)) ∈ lw_all := lw_g (lw_at lw_m2 105 rfl) rfl
theorem q442 : (Jvm.Cond.instanceMethod ({ cls := "java/lang/StringBuilder", name := "<init>", desc := "()V" } : Jvm.MethodName)) ∈ lw_all := lw_g (lw_at lw_m2 107 rfl) rfl
theorem q443 : (Jvm.Cond.code ({ cls := "java/lang/StringBuilder", name := "<init>", desc := "()V" } : Jvm.MethodName) prog_36_method_1_code (1 : Nat) (Option.none : Option Jvm.ClassFile.FieldType)) ∈ lw_all := lw_g (lw_at lw_m2 108 rfl) rfl
theorem q444 : (Jvm.Cond.methodLink "java/lang/StringBuilder" (1 : Nat) ({ cls := "java/lang/AbstractStringBuilder", name := "<init>", desc := "(I)V" } : Jvm.MethodName)) ∈ lw_all := lw_g (lw_at lw_m2 109 rfl) rfl
theorem q461 : (Jvm.Cond.lays "java/lang/StringBuilder" "java/lang/AbstractStringBuilder" "value" "[B") ∈ lw_all := lw_g (lw_at lw_m2 126 rfl) rfl
theorem q463 : (Jvm.Cond.lays "java/lang/StringBuilder" "java/lang/AbstractStringBuilder" "coder" "B") ∈ lw_all := lw_g (lw_at lw_m2 128 rfl) rfl
theorem q465 : (Jvm.Cond.lays "java/lang/StringBuilder" "java/lang/AbstractStringBuilder" "maybeLatin1" "Z") ∈ lw_all := lw_g (lw_at lw_m2 130 rfl) rfl
theorem q467 : (Jvm.Cond.lays "java/lang/StringBuilder" "java/lang/AbstractStringBuilder" "count" "I") ∈ lw_all := lw_g (lw_at lw_m2 132 rfl) rfl
theorem q469 : (Jvm.Cond.superclass "java/lang/StringBuilder" "java/lang/AbstractStringBuilder") ∈ lw_all := lw_g (lw_at lw_m2 134 rfl) rfl
theorem q712 : (Jvm.Cond.selects "java/lang/StringBuilder" ({ cls := "java/lang/Object", name := "getClass", desc := "()Ljava/lang/Class;" } : Jvm.MethodName) ({ cls := "java/lang/Object", name := "getClass", desc := "()Ljava/lang/Class;" } : Jvm.MethodName)) ∈ lw_all := lw_g (lw_at lw_m3 137 rfl) rfl
theorem q1209 : (Jvm.Cond.castable "java/lang/StringBuilder" "java/lang/Comparable") ∈ lw_tbl := lw_at lw_m5 154 rfl
theorem q1210 : (Jvm.Cond.selects "java/lang/StringBuilder" ({ cls := "java/lang/Comparable", name := "compareTo", desc := "(Ljava/lang/Object;)I" } : Jvm.MethodName) ({ cls := "java/lang/StringBuilder", name := "compareTo", desc := "(Ljava/lang/Object;)I" } : Jvm.MethodName)) ∈ lw_all := lw_g (lw_at lw_m5 155 rfl) rfl
theorem q1211 : (Jvm.Cond.unhidden "java/lang/StringBuilder" "compareTo" "(Ljava/lang/Object;)I") ∈ lw_tbl := lw_at lw_m5 156 rfl
theorem q1212 : (Jvm.Cond.instanceMethod ({ cls := "java/lang/StringBuilder", name := "compareTo", desc := "(Ljava/lang/Object;)I" } : Jvm.MethodName)) ∈ lw_all := lw_g (lw_at lw_m5 157 rfl) rfl
theorem q1213 : (Jvm.Cond.publicMethod ({ cls := "java/lang/StringBuilder", name := "compareTo", desc := "(Ljava/lang/Object;)I" } : Jvm.MethodName)) ∈ lw_tbl := lw_at lw_m5 158 rfl
theorem q1214 : (Jvm.Cond.code ({ cls := "java/lang/StringBuilder", name := "compareTo", desc := "(Ljava/lang/Object;)I" } : Jvm.MethodName) prog_36_method_97_code (2 : Nat) (Option.some Jvm.ClassFile.FieldType.int)) ∈ lw_all := lw_g (lw_at lw_m5 159 rfl) rfl
theorem q1215 : (Jvm.Cond.classLink "java/lang/StringBuilder" (24 : Nat) "java/lang/StringBuilder") ∈ lw_all := lw_g (lw_at lw_m5 160 rfl) rfl
theorem q1216 : (Jvm.Cond.methodLink "java/lang/StringBuilder" (346 : Nat) ({ cls := "java/lang/StringBuilder", name := "compareTo", desc := "(Ljava/lang/StringBuilder;)I" } : Jvm.MethodName)) ∈ lw_all := lw_g (lw_at lw_m5 161 rfl) rfl
theorem q1217 : (Jvm.Cond.instanceMethod ({ cls := "java/lang/StringBuilder", name := "compareTo", desc := "(Ljava/lang/StringBuilder;)I" } : Jvm.MethodName)) ∈ lw_all := lw_g (lw_at lw_m5 162 rfl) rfl
theorem q1218 : (Jvm.Cond.selects "java/lang/StringBuilder" ({ cls := "java/lang/StringBuilder", name := "compareTo", desc := "(Ljava/lang/StringBuilder;)I" } : Jvm.MethodName) ({ cls := "java/lang/StringBuilder", name := "compareTo", desc := "(Ljava/lang/StringBuilder;)I" } : Jvm.MethodName)) ∈ lw_all := lw_g (lw_at lw_m5 163 rfl) rfl
theorem q1219 : (Jvm.Cond.code ({ cls := "java/lang/StringBuilder", name := "compareTo", desc := "(Ljava/lang/StringBuilder;)I" } : Jvm.MethodName) prog_36_method_5_code (2 : Nat) (Option.some Jvm.ClassFile.FieldType.int)) ∈ lw_all := lw_g (lw_at lw_m5 164 rfl) rfl
theorem q1220 : (Jvm.Cond.methodLink "java/lang/StringBuilder" (13 : Nat) ({ cls := "java/lang/AbstractStringBuilder", name := "compareTo", desc := "(Ljava/lang/AbstractStringBuilder;)I" } : Jvm.MethodName)) ∈ lw_all := lw_g (lw_at lw_m5 165 rfl) rfl
theorem q1226 : (Jvm.Cond.selects "java/lang/StringBuilder" ({ cls := "java/lang/AbstractStringBuilder", name := "isLatin1", desc := "()Z" } : Jvm.MethodName) ({ cls := "java/lang/AbstractStringBuilder", name := "isLatin1", desc := "()Z" } : Jvm.MethodName)) ∈ lw_all := lw_g (lw_at lw_m5 171 rfl) rfl
theorem q1747 : (Jvm.Cond.instanceMethod ({ cls := "java/lang/StringBuilder", name := "length", desc := "()I" } : Jvm.MethodName)) ∈ lw_all := lw_g (lw_at lw_m7 212 rfl) rfl
theorem q1748 : (Jvm.Cond.selects "java/lang/StringBuilder" ({ cls := "java/lang/StringBuilder", name := "length", desc := "()I" } : Jvm.MethodName) ({ cls := "java/lang/StringBuilder", name := "length", desc := "()I" } : Jvm.MethodName)) ∈ lw_all := lw_g (lw_at lw_m7 213 rfl) rfl
theorem q1749 : (Jvm.Cond.code ({ cls := "java/lang/StringBuilder", name := "length", desc := "()I" } : Jvm.MethodName) prog_36_method_93_code (1 : Nat) (Option.some Jvm.ClassFile.FieldType.int)) ∈ lw_all := lw_g (lw_at lw_m7 214 rfl) rfl
theorem q1750 : (Jvm.Cond.methodLink "java/lang/StringBuilder" (343 : Nat) ({ cls := "java/lang/AbstractStringBuilder", name := "length", desc := "()I" } : Jvm.MethodName)) ∈ lw_all := lw_g (lw_at lw_m7 215 rfl) rfl
theorem q1781 : (Jvm.Cond.instanceMethod ({ cls := "java/lang/StringBuilder", name := "append", desc := "(C)Ljava/lang/StringBuilder;" } : Jvm.MethodName)) ∈ lw_all := lw_g (lw_at lw_m8 6 rfl) rfl
theorem q1782 : (Jvm.Cond.selects "java/lang/StringBuilder" ({ cls := "java/lang/StringBuilder", name := "append", desc := "(C)Ljava/lang/StringBuilder;" } : Jvm.MethodName) ({ cls := "java/lang/StringBuilder", name := "append", desc := "(C)Ljava/lang/StringBuilder;" } : Jvm.MethodName)) ∈ lw_all := lw_g (lw_at lw_m8 7 rfl) rfl
theorem q1783 : (Jvm.Cond.code ({ cls := "java/lang/StringBuilder", name := "append", desc := "(C)Ljava/lang/StringBuilder;" } : Jvm.MethodName) prog_36_method_14_code (2 : Nat) (Option.some (Jvm.ClassFile.FieldType.object "java/lang/StringBuilder"))) ∈ lw_all := lw_g (lw_at lw_m8 8 rfl) rfl
theorem q1784 : (Jvm.Cond.methodLink "java/lang/StringBuilder" (50 : Nat) ({ cls := "java/lang/AbstractStringBuilder", name := "append", desc := "(C)Ljava/lang/AbstractStringBuilder;" } : Jvm.MethodName)) ∈ lw_all := lw_g (lw_at lw_m8 9 rfl) rfl
theorem q1845 : (Jvm.Cond.instanceMethod ({ cls := "java/lang/StringBuilder", name := "setLength", desc := "(I)V" } : Jvm.MethodName)) ∈ lw_all := lw_g (lw_at lw_m8 70 rfl) rfl
theorem q1846 : (Jvm.Cond.selects "java/lang/StringBuilder" ({ cls := "java/lang/StringBuilder", name := "setLength", desc := "(I)V" } : Jvm.MethodName) ({ cls := "java/lang/StringBuilder", name := "setLength", desc := "(I)V" } : Jvm.MethodName)) ∈ lw_all := lw_g (lw_at lw_m8 71 rfl) rfl
theorem q1847 : (Jvm.Cond.code ({ cls := "java/lang/StringBuilder", name := "setLength", desc := "(I)V" } : Jvm.MethodName) prog_36_method_89_code (2 : Nat) (Option.none : Option Jvm.ClassFile.FieldType)) ∈ lw_all := lw_g (lw_at lw_m8 72 rfl) rfl
theorem q1848 : (Jvm.Cond.methodLink "java/lang/StringBuilder" (333 : Nat) ({ cls := "java/lang/AbstractStringBuilder", name := "setLength", desc := "(I)V" } : Jvm.MethodName)) ∈ lw_all := lw_g (lw_at lw_m8 73 rfl) rfl
theorem q1913 : (Jvm.Cond.instanceMethod ({ cls := "java/lang/StringBuilder", name := "charAt", desc := "(I)C" } : Jvm.MethodName)) ∈ lw_all := lw_g (lw_at lw_m8 138 rfl) rfl
theorem q1914 : (Jvm.Cond.selects "java/lang/StringBuilder" ({ cls := "java/lang/StringBuilder", name := "charAt", desc := "(I)C" } : Jvm.MethodName) ({ cls := "java/lang/StringBuilder", name := "charAt", desc := "(I)C" } : Jvm.MethodName)) ∈ lw_all := lw_g (lw_at lw_m8 139 rfl) rfl
theorem q1915 : (Jvm.Cond.code ({ cls := "java/lang/StringBuilder", name := "charAt", desc := "(I)C" } : Jvm.MethodName) prog_36_method_88_code (2 : Nat) (Option.some Jvm.ClassFile.FieldType.char)) ∈ lw_all := lw_g (lw_at lw_m8 140 rfl) rfl
theorem q1916 : (Jvm.Cond.methodLink "java/lang/StringBuilder" (329 : Nat) ({ cls := "java/lang/AbstractStringBuilder", name := "charAt", desc := "(I)C" } : Jvm.MethodName)) ∈ lw_all := lw_g (lw_at lw_m8 141 rfl) rfl
theorem q2430 : (Jvm.Cond.castable "java/lang/StringBuilder" "java/lang/Object") ∈ lw_tbl := lw_at lw_m10 175 rfl
theorem in_J10 : ∀ w ∈ wsJ100, w ∈ lw_all := lw_in wsJ100 [461, 463, 465, 467] (by decide +kernel) (by decide +kernel)
abbrev cJ11_compareTo : ByteArray := prog_35_method_162_code
def yJ11_compareTo : MethodName := ⟨RJ11, "compareTo", "(Ljava/lang/Object;)I"⟩
def dkwJ11_compareTo_0 : List UInt8 := [42, 43, 192, 0, 10, 182, 4, 60, 172]
abbrev dktJ11_compareTo_0 : List UInt8 := dkwJ11_compareTo_0 ++ []
theorem dksJ11_compareTo_0 : cJ11_compareTo.data.toList.drop 0 = dktJ11_compareTo_0 := by decide +kernel
theorem dJ11_compareTo_0 : decode cJ11_compareTo 0 = .ok (.aload_n 0, 1) := dk_42 (dk_at dksJ11_compareTo_0 0 rfl rfl)
theorem dJ11_compareTo_1 : decode cJ11_compareTo 1 = .ok (.aload_n 1, 1) := dk_43 (dk_at dksJ11_compareTo_0 1 rfl rfl)
theorem dJ11_compareTo_2 : decode cJ11_compareTo 2 = .ok (.checkcast 10, 3) := dk_192 0 10 (dk_at dksJ11_compareTo_0 2 rfl rfl)
theorem dJ11_compareTo_5 : decode cJ11_compareTo 5 = .ok (.invokevirtual 1084, 3) := dk_182 4 60 (dk_at dksJ11_compareTo_0 5 rfl rfl)
theorem dJ11_compareTo_8 : decode cJ11_compareTo 8 = .ok (.ireturn, 1) := dk_172 (dk_at dksJ11_compareTo_0 8 rfl rfl)
abbrev cJ11_compareTo_2 : ByteArray := prog_35_method_71_code
def yJ11_compareTo_2 : MethodName := ⟨RJ11, "compareTo", "(Ljava/lang/String;)I"⟩
def dkwJ11_compareTo_2_2 : List UInt8 := [154, 0, 11, 44, 45, 184, 2, 79, 167, 0, 8, 44, 45, 184, 2, 82, 172]
abbrev dktJ11_compareTo_2_2 : List UInt8 := dkwJ11_compareTo_2_2 ++ []
def dkwJ11_compareTo_2_1 : List UInt8 := [160, 0, 22, 21, 4, 154, 0, 11, 44, 45, 184, 2, 74, 167, 0, 8, 44, 45, 184, 2, 78, 172, 21, 4]
abbrev dktJ11_compareTo_2_1 : List UInt8 := dkwJ11_compareTo_2_1 ++ dktJ11_compareTo_2_2
def dkwJ11_compareTo_2_0 : List UInt8 := [42, 180, 0, 9, 77, 43, 180, 0, 9, 78, 42, 182, 1, 79, 54, 4, 21, 4, 43, 182, 1, 79]
abbrev dktJ11_compareTo_2_0 : List UInt8 := dkwJ11_compareTo_2_0 ++ dktJ11_compareTo_2_1
theorem dksJ11_compareTo_2_0 : cJ11_compareTo_2.data.toList.drop 0 = dktJ11_compareTo_2_0 := by decide +kernel
theorem dksJ11_compareTo_2_1 : cJ11_compareTo_2.data.toList.drop 22 = dktJ11_compareTo_2_1 := dk_seg dksJ11_compareTo_2_0 22 rfl rfl
theorem dksJ11_compareTo_2_2 : cJ11_compareTo_2.data.toList.drop 46 = dktJ11_compareTo_2_2 := dk_seg dksJ11_compareTo_2_1 24 rfl rfl
theorem dJ11_compareTo_2_0 : decode cJ11_compareTo_2 0 = .ok (.aload_n 0, 1) := dk_42 (dk_at dksJ11_compareTo_2_0 0 rfl rfl)
theorem dJ11_compareTo_2_1 : decode cJ11_compareTo_2 1 = .ok (.getfield 9, 3) := dk_180 0 9 (dk_at dksJ11_compareTo_2_0 1 rfl rfl)
theorem dJ11_compareTo_2_4 : decode cJ11_compareTo_2 4 = .ok (.astore_n 2, 1) := dk_77 (dk_at dksJ11_compareTo_2_0 4 rfl rfl)
theorem dJ11_compareTo_2_5 : decode cJ11_compareTo_2 5 = .ok (.aload_n 1, 1) := dk_43 (dk_at dksJ11_compareTo_2_0 5 rfl rfl)
theorem dJ11_compareTo_2_6 : decode cJ11_compareTo_2 6 = .ok (.getfield 9, 3) := dk_180 0 9 (dk_at dksJ11_compareTo_2_0 6 rfl rfl)
theorem dJ11_compareTo_2_9 : decode cJ11_compareTo_2 9 = .ok (.astore_n 3, 1) := dk_78 (dk_at dksJ11_compareTo_2_0 9 rfl rfl)
theorem dJ11_compareTo_2_10 : decode cJ11_compareTo_2 10 = .ok (.aload_n 0, 1) := dk_42 (dk_at dksJ11_compareTo_2_0 10 rfl rfl)
theorem dJ11_compareTo_2_11 : decode cJ11_compareTo_2 11 = .ok (.invokevirtual 335, 3) := dk_182 1 79 (dk_at dksJ11_compareTo_2_0 11 rfl rfl)
theorem dJ11_compareTo_2_14 : decode cJ11_compareTo_2 14 = .ok (.istore 4, 2) := dk_54 4 (dk_at dksJ11_compareTo_2_0 14 rfl rfl)
theorem dJ11_compareTo_2_16 : decode cJ11_compareTo_2 16 = .ok (.iload 4, 2) := dk_21 4 (dk_at dksJ11_compareTo_2_0 16 rfl rfl)
theorem dJ11_compareTo_2_18 : decode cJ11_compareTo_2 18 = .ok (.aload_n 1, 1) := dk_43 (dk_at dksJ11_compareTo_2_0 18 rfl rfl)
theorem dJ11_compareTo_2_19 : decode cJ11_compareTo_2 19 = .ok (.invokevirtual 335, 3) := dk_182 1 79 (dk_at dksJ11_compareTo_2_0 19 rfl rfl)
theorem dJ11_compareTo_2_22 : decode cJ11_compareTo_2 22 = .ok (.if_icmp .ne 22, 3) := dk_160 0 22 (dk_at dksJ11_compareTo_2_1 0 rfl rfl)
theorem dJ11_compareTo_2_25 : decode cJ11_compareTo_2 25 = .ok (.iload 4, 2) := dk_21 4 (dk_at dksJ11_compareTo_2_1 3 rfl rfl)
theorem dJ11_compareTo_2_27 : decode cJ11_compareTo_2 27 = .ok (.ifCond .ne 11, 3) := dk_154 0 11 (dk_at dksJ11_compareTo_2_1 5 rfl rfl)
theorem dJ11_compareTo_2_30 : decode cJ11_compareTo_2 30 = .ok (.aload_n 2, 1) := dk_44 (dk_at dksJ11_compareTo_2_1 8 rfl rfl)
theorem dJ11_compareTo_2_31 : decode cJ11_compareTo_2 31 = .ok (.aload_n 3, 1) := dk_45 (dk_at dksJ11_compareTo_2_1 9 rfl rfl)
theorem dJ11_compareTo_2_32 : decode cJ11_compareTo_2 32 = .ok (.invokestatic 586, 3) := dk_184 2 74 (dk_at dksJ11_compareTo_2_1 10 rfl rfl)
theorem dJ11_compareTo_2_35 : decode cJ11_compareTo_2 35 = .ok (.goto 8, 3) := dk_167 0 8 (dk_at dksJ11_compareTo_2_1 13 rfl rfl)
theorem dJ11_compareTo_2_38 : decode cJ11_compareTo_2 38 = .ok (.aload_n 2, 1) := dk_44 (dk_at dksJ11_compareTo_2_1 16 rfl rfl)
theorem dJ11_compareTo_2_39 : decode cJ11_compareTo_2 39 = .ok (.aload_n 3, 1) := dk_45 (dk_at dksJ11_compareTo_2_1 17 rfl rfl)
theorem dJ11_compareTo_2_40 : decode cJ11_compareTo_2 40 = .ok (.invokestatic 590, 3) := dk_184 2 78 (dk_at dksJ11_compareTo_2_1 18 rfl rfl)
theorem dJ11_compareTo_2_43 : decode cJ11_compareTo_2 43 = .ok (.ireturn, 1) := dk_172 (dk_at dksJ11_compareTo_2_1 21 rfl rfl)
theorem dJ11_compareTo_2_44 : decode cJ11_compareTo_2 44 = .ok (.iload 4, 2) := dk_21 4 (dk_at dksJ11_compareTo_2_1 22 rfl rfl)
theorem dJ11_compareTo_2_46 : decode cJ11_compareTo_2 46 = .ok (.ifCond .ne 11, 3) := dk_154 0 11 (dk_at dksJ11_compareTo_2_2 0 rfl rfl)
theorem dJ11_compareTo_2_49 : decode cJ11_compareTo_2 49 = .ok (.aload_n 2, 1) := dk_44 (dk_at dksJ11_compareTo_2_2 3 rfl rfl)
theorem dJ11_compareTo_2_50 : decode cJ11_compareTo_2 50 = .ok (.aload_n 3, 1) := dk_45 (dk_at dksJ11_compareTo_2_2 4 rfl rfl)
theorem dJ11_compareTo_2_51 : decode cJ11_compareTo_2 51 = .ok (.invokestatic 591, 3) := dk_184 2 79 (dk_at dksJ11_compareTo_2_2 5 rfl rfl)
theorem dJ11_compareTo_2_54 : decode cJ11_compareTo_2 54 = .ok (.goto 8, 3) := dk_167 0 8 (dk_at dksJ11_compareTo_2_2 8 rfl rfl)
theorem dJ11_compareTo_2_57 : decode cJ11_compareTo_2 57 = .ok (.aload_n 2, 1) := dk_44 (dk_at dksJ11_compareTo_2_2 11 rfl rfl)
theorem dJ11_compareTo_2_58 : decode cJ11_compareTo_2 58 = .ok (.aload_n 3, 1) := dk_45 (dk_at dksJ11_compareTo_2_2 12 rfl rfl)
theorem dJ11_compareTo_2_59 : decode cJ11_compareTo_2 59 = .ok (.invokestatic 594, 3) := dk_184 2 82 (dk_at dksJ11_compareTo_2_2 13 rfl rfl)
theorem dJ11_compareTo_2_62 : decode cJ11_compareTo_2 62 = .ok (.ireturn, 1) := dk_172 (dk_at dksJ11_compareTo_2_2 16 rfl rfl)
abbrev cJ11_coder : ByteArray := prog_35_method_152_code
def yJ11_coder : MethodName := ⟨RJ11, "coder", "()B"⟩
def dkwJ11_coder_0 : List UInt8 := [178, 0, 38, 153, 0, 10, 42, 180, 0, 15, 167, 0, 4, 4, 172]
abbrev dktJ11_coder_0 : List UInt8 := dkwJ11_coder_0 ++ []
theorem dksJ11_coder_0 : cJ11_coder.data.toList.drop 0 = dktJ11_coder_0 := by decide +kernel
theorem dJ11_coder_0 : decode cJ11_coder 0 = .ok (.getstatic 38, 3) := dk_178 0 38 (dk_at dksJ11_coder_0 0 rfl rfl)
theorem dJ11_coder_3 : decode cJ11_coder 3 = .ok (.ifCond .eq 10, 3) := dk_153 0 10 (dk_at dksJ11_coder_0 3 rfl rfl)
theorem dJ11_coder_6 : decode cJ11_coder 6 = .ok (.aload_n 0, 1) := dk_42 (dk_at dksJ11_coder_0 6 rfl rfl)
theorem dJ11_coder_7 : decode cJ11_coder 7 = .ok (.getfield 15, 3) := dk_180 0 15 (dk_at dksJ11_coder_0 7 rfl rfl)
theorem dJ11_coder_10 : decode cJ11_coder 10 = .ok (.goto 4, 3) := dk_167 0 4 (dk_at dksJ11_coder_0 10 rfl rfl)
theorem dJ11_coder_13 : decode cJ11_coder 13 = .ok (.iconst 1, 1) := dk_4 (dk_at dksJ11_coder_0 13 rfl rfl)
theorem dJ11_coder_14 : decode cJ11_coder 14 = .ok (.ireturn, 1) := dk_172 (dk_at dksJ11_coder_0 14 rfl rfl)
abbrev cJ11_checkOffset : ByteArray := prog_35_method_156_code
def yJ11_checkOffset : MethodName := ⟨RJ11, "checkOffset", "(II)V"⟩
def dkwJ11_checkOffset_0 : List UInt8 := [26, 27, 27, 178, 4, 29, 184, 4, 38, 87, 177]
abbrev dktJ11_checkOffset_0 : List UInt8 := dkwJ11_checkOffset_0 ++ []
theorem dksJ11_checkOffset_0 : cJ11_checkOffset.data.toList.drop 0 = dktJ11_checkOffset_0 := by decide +kernel
theorem dJ11_checkOffset_0 : decode cJ11_checkOffset 0 = .ok (.iload_n 0, 1) := dk_26 (dk_at dksJ11_checkOffset_0 0 rfl rfl)
theorem dJ11_checkOffset_1 : decode cJ11_checkOffset 1 = .ok (.iload_n 1, 1) := dk_27 (dk_at dksJ11_checkOffset_0 1 rfl rfl)
theorem dJ11_checkOffset_2 : decode cJ11_checkOffset 2 = .ok (.iload_n 1, 1) := dk_27 (dk_at dksJ11_checkOffset_0 2 rfl rfl)
theorem dJ11_checkOffset_3 : decode cJ11_checkOffset 3 = .ok (.getstatic 1053, 3) := dk_178 4 29 (dk_at dksJ11_checkOffset_0 3 rfl rfl)
theorem dJ11_checkOffset_6 : decode cJ11_checkOffset 6 = .ok (.invokestatic 1062, 3) := dk_184 4 38 (dk_at dksJ11_checkOffset_0 6 rfl rfl)
theorem dJ11_checkOffset_9 : decode cJ11_checkOffset 9 = .ok (.pop, 1) := dk_87 (dk_at dksJ11_checkOffset_0 9 rfl rfl)
theorem dJ11_checkOffset_10 : decode cJ11_checkOffset 10 = .ok (.return_, 1) := dk_177 (dk_at dksJ11_checkOffset_0 10 rfl rfl)
abbrev cJ11_checkBoundsOffCount : ByteArray := prog_35_method_157_code
def yJ11_checkBoundsOffCount : MethodName := ⟨RJ11, "checkBoundsOffCount", "(III)I"⟩
def dkwJ11_checkBoundsOffCount_0 : List UInt8 := [26, 27, 28, 178, 4, 29, 184, 4, 41, 172]
abbrev dktJ11_checkBoundsOffCount_0 : List UInt8 := dkwJ11_checkBoundsOffCount_0 ++ []
theorem dksJ11_checkBoundsOffCount_0 : cJ11_checkBoundsOffCount.data.toList.drop 0 = dktJ11_checkBoundsOffCount_0 := by decide +kernel
theorem dJ11_checkBoundsOffCount_0 : decode cJ11_checkBoundsOffCount 0 = .ok (.iload_n 0, 1) := dk_26 (dk_at dksJ11_checkBoundsOffCount_0 0 rfl rfl)
theorem dJ11_checkBoundsOffCount_1 : decode cJ11_checkBoundsOffCount 1 = .ok (.iload_n 1, 1) := dk_27 (dk_at dksJ11_checkBoundsOffCount_0 1 rfl rfl)
theorem dJ11_checkBoundsOffCount_2 : decode cJ11_checkBoundsOffCount 2 = .ok (.iload_n 2, 1) := dk_28 (dk_at dksJ11_checkBoundsOffCount_0 2 rfl rfl)
theorem dJ11_checkBoundsOffCount_3 : decode cJ11_checkBoundsOffCount 3 = .ok (.getstatic 1053, 3) := dk_178 4 29 (dk_at dksJ11_checkBoundsOffCount_0 3 rfl rfl)
theorem dJ11_checkBoundsOffCount_6 : decode cJ11_checkBoundsOffCount 6 = .ok (.invokestatic 1065, 3) := dk_184 4 41 (dk_at dksJ11_checkBoundsOffCount_0 6 rfl rfl)
theorem dJ11_checkBoundsOffCount_9 : decode cJ11_checkBoundsOffCount 9 = .ok (.ireturn, 1) := dk_172 (dk_at dksJ11_checkBoundsOffCount_0 9 rfl rfl)
abbrev cJ11_checkIndex : ByteArray := prog_35_method_155_code
def yJ11_checkIndex : MethodName := ⟨RJ11, "checkIndex", "(II)V"⟩
def dkwJ11_checkIndex_0 : List UInt8 := [26, 27, 178, 4, 29, 184, 4, 35, 87, 177]
abbrev dktJ11_checkIndex_0 : List UInt8 := dkwJ11_checkIndex_0 ++ []
theorem dksJ11_checkIndex_0 : cJ11_checkIndex.data.toList.drop 0 = dktJ11_checkIndex_0 := by decide +kernel
theorem dJ11_checkIndex_0 : decode cJ11_checkIndex 0 = .ok (.iload_n 0, 1) := dk_26 (dk_at dksJ11_checkIndex_0 0 rfl rfl)
theorem dJ11_checkIndex_1 : decode cJ11_checkIndex 1 = .ok (.iload_n 1, 1) := dk_27 (dk_at dksJ11_checkIndex_0 1 rfl rfl)
theorem dJ11_checkIndex_2 : decode cJ11_checkIndex 2 = .ok (.getstatic 1053, 3) := dk_178 4 29 (dk_at dksJ11_checkIndex_0 2 rfl rfl)
theorem dJ11_checkIndex_5 : decode cJ11_checkIndex 5 = .ok (.invokestatic 1059, 3) := dk_184 4 35 (dk_at dksJ11_checkIndex_0 5 rfl rfl)
theorem dJ11_checkIndex_8 : decode cJ11_checkIndex 8 = .ok (.pop, 1) := dk_87 (dk_at dksJ11_checkIndex_0 8 rfl rfl)
theorem dJ11_checkIndex_9 : decode cJ11_checkIndex 9 = .ok (.return_, 1) := dk_177 (dk_at dksJ11_checkIndex_0 9 rfl rfl)
abbrev cJ11_indexOf : ByteArray := prog_35_method_79_code
def yJ11_indexOf : MethodName := ⟨RJ11, "indexOf", "(I)I"⟩
def dkwJ11_indexOf_0 : List UInt8 := [42, 27, 3, 182, 2, 121, 172]
abbrev dktJ11_indexOf_0 : List UInt8 := dkwJ11_indexOf_0 ++ []
theorem dksJ11_indexOf_0 : cJ11_indexOf.data.toList.drop 0 = dktJ11_indexOf_0 := by decide +kernel
theorem dJ11_indexOf_0 : decode cJ11_indexOf 0 = .ok (.aload_n 0, 1) := dk_42 (dk_at dksJ11_indexOf_0 0 rfl rfl)
theorem dJ11_indexOf_1 : decode cJ11_indexOf 1 = .ok (.iload_n 1, 1) := dk_27 (dk_at dksJ11_indexOf_0 1 rfl rfl)
theorem dJ11_indexOf_2 : decode cJ11_indexOf 2 = .ok (.iconst 0, 1) := dk_3 (dk_at dksJ11_indexOf_0 2 rfl rfl)
theorem dJ11_indexOf_3 : decode cJ11_indexOf 3 = .ok (.invokevirtual 633, 3) := dk_182 2 121 (dk_at dksJ11_indexOf_0 3 rfl rfl)
theorem dJ11_indexOf_6 : decode cJ11_indexOf 6 = .ok (.ireturn, 1) := dk_172 (dk_at dksJ11_indexOf_0 6 rfl rfl)
abbrev cJ11_indexOf_2 : ByteArray := prog_35_method_80_code
def yJ11_indexOf_2 : MethodName := ⟨RJ11, "indexOf", "(II)I"⟩
def dkwJ11_indexOf_2_1 : List UInt8 := [180, 0, 9, 27, 28, 42, 182, 1, 249, 184, 2, 128, 172]
abbrev dktJ11_indexOf_2_1 : List UInt8 := dkwJ11_indexOf_2_1 ++ []
def dkwJ11_indexOf_2_0 : List UInt8 := [42, 182, 1, 236, 153, 0, 19, 42, 180, 0, 9, 27, 28, 42, 182, 1, 249, 184, 2, 125, 167, 0, 16, 42]
abbrev dktJ11_indexOf_2_0 : List UInt8 := dkwJ11_indexOf_2_0 ++ dktJ11_indexOf_2_1
theorem dksJ11_indexOf_2_0 : cJ11_indexOf_2.data.toList.drop 0 = dktJ11_indexOf_2_0 := by decide +kernel
theorem dksJ11_indexOf_2_1 : cJ11_indexOf_2.data.toList.drop 24 = dktJ11_indexOf_2_1 := dk_seg dksJ11_indexOf_2_0 24 rfl rfl
theorem dJ11_indexOf_2_0 : decode cJ11_indexOf_2 0 = .ok (.aload_n 0, 1) := dk_42 (dk_at dksJ11_indexOf_2_0 0 rfl rfl)
theorem dJ11_indexOf_2_1 : decode cJ11_indexOf_2 1 = .ok (.invokevirtual 492, 3) := dk_182 1 236 (dk_at dksJ11_indexOf_2_0 1 rfl rfl)
theorem dJ11_indexOf_2_4 : decode cJ11_indexOf_2 4 = .ok (.ifCond .eq 19, 3) := dk_153 0 19 (dk_at dksJ11_indexOf_2_0 4 rfl rfl)
theorem dJ11_indexOf_2_7 : decode cJ11_indexOf_2 7 = .ok (.aload_n 0, 1) := dk_42 (dk_at dksJ11_indexOf_2_0 7 rfl rfl)
theorem dJ11_indexOf_2_8 : decode cJ11_indexOf_2 8 = .ok (.getfield 9, 3) := dk_180 0 9 (dk_at dksJ11_indexOf_2_0 8 rfl rfl)
theorem dJ11_indexOf_2_11 : decode cJ11_indexOf_2 11 = .ok (.iload_n 1, 1) := dk_27 (dk_at dksJ11_indexOf_2_0 11 rfl rfl)
theorem dJ11_indexOf_2_12 : decode cJ11_indexOf_2 12 = .ok (.iload_n 2, 1) := dk_28 (dk_at dksJ11_indexOf_2_0 12 rfl rfl)
theorem dJ11_indexOf_2_13 : decode cJ11_indexOf_2 13 = .ok (.aload_n 0, 1) := dk_42 (dk_at dksJ11_indexOf_2_0 13 rfl rfl)
theorem dJ11_indexOf_2_14 : decode cJ11_indexOf_2 14 = .ok (.invokevirtual 505, 3) := dk_182 1 249 (dk_at dksJ11_indexOf_2_0 14 rfl rfl)
theorem dJ11_indexOf_2_17 : decode cJ11_indexOf_2 17 = .ok (.invokestatic 637, 3) := dk_184 2 125 (dk_at dksJ11_indexOf_2_0 17 rfl rfl)
theorem dJ11_indexOf_2_20 : decode cJ11_indexOf_2 20 = .ok (.goto 16, 3) := dk_167 0 16 (dk_at dksJ11_indexOf_2_0 20 rfl rfl)
theorem dJ11_indexOf_2_23 : decode cJ11_indexOf_2 23 = .ok (.aload_n 0, 1) := dk_42 (dk_at dksJ11_indexOf_2_0 23 rfl rfl)
theorem dJ11_indexOf_2_24 : decode cJ11_indexOf_2 24 = .ok (.getfield 9, 3) := dk_180 0 9 (dk_at dksJ11_indexOf_2_1 0 rfl rfl)
theorem dJ11_indexOf_2_27 : decode cJ11_indexOf_2 27 = .ok (.iload_n 1, 1) := dk_27 (dk_at dksJ11_indexOf_2_1 3 rfl rfl)
theorem dJ11_indexOf_2_28 : decode cJ11_indexOf_2 28 = .ok (.iload_n 2, 1) := dk_28 (dk_at dksJ11_indexOf_2_1 4 rfl rfl)
theorem dJ11_indexOf_2_29 : decode cJ11_indexOf_2 29 = .ok (.aload_n 0, 1) := dk_42 (dk_at dksJ11_indexOf_2_1 5 rfl rfl)
theorem dJ11_indexOf_2_30 : decode cJ11_indexOf_2 30 = .ok (.invokevirtual 505, 3) := dk_182 1 249 (dk_at dksJ11_indexOf_2_1 6 rfl rfl)
theorem dJ11_indexOf_2_33 : decode cJ11_indexOf_2 33 = .ok (.invokestatic 640, 3) := dk_184 2 128 (dk_at dksJ11_indexOf_2_1 9 rfl rfl)
theorem dJ11_indexOf_2_36 : decode cJ11_indexOf_2 36 = .ok (.ireturn, 1) := dk_172 (dk_at dksJ11_indexOf_2_1 12 rfl rfl)
abbrev cJ11_isLatin1 : ByteArray := prog_35_method_154_code
def yJ11_isLatin1 : MethodName := ⟨RJ11, "isLatin1", "()Z"⟩
def dkwJ11_isLatin1_0 : List UInt8 := [178, 0, 38, 153, 0, 14, 42, 180, 0, 15, 154, 0, 7, 4, 167, 0, 4, 3, 172]
abbrev dktJ11_isLatin1_0 : List UInt8 := dkwJ11_isLatin1_0 ++ []
theorem dksJ11_isLatin1_0 : cJ11_isLatin1.data.toList.drop 0 = dktJ11_isLatin1_0 := by decide +kernel
theorem dJ11_isLatin1_0 : decode cJ11_isLatin1 0 = .ok (.getstatic 38, 3) := dk_178 0 38 (dk_at dksJ11_isLatin1_0 0 rfl rfl)
theorem dJ11_isLatin1_3 : decode cJ11_isLatin1 3 = .ok (.ifCond .eq 14, 3) := dk_153 0 14 (dk_at dksJ11_isLatin1_0 3 rfl rfl)
theorem dJ11_isLatin1_6 : decode cJ11_isLatin1 6 = .ok (.aload_n 0, 1) := dk_42 (dk_at dksJ11_isLatin1_0 6 rfl rfl)
theorem dJ11_isLatin1_7 : decode cJ11_isLatin1 7 = .ok (.getfield 15, 3) := dk_180 0 15 (dk_at dksJ11_isLatin1_0 7 rfl rfl)
theorem dJ11_isLatin1_10 : decode cJ11_isLatin1 10 = .ok (.ifCond .ne 7, 3) := dk_154 0 7 (dk_at dksJ11_isLatin1_0 10 rfl rfl)
theorem dJ11_isLatin1_13 : decode cJ11_isLatin1 13 = .ok (.iconst 1, 1) := dk_4 (dk_at dksJ11_isLatin1_0 13 rfl rfl)
theorem dJ11_isLatin1_14 : decode cJ11_isLatin1 14 = .ok (.goto 4, 3) := dk_167 0 4 (dk_at dksJ11_isLatin1_0 14 rfl rfl)
theorem dJ11_isLatin1_17 : decode cJ11_isLatin1 17 = .ok (.iconst 0, 1) := dk_3 (dk_at dksJ11_isLatin1_0 17 rfl rfl)
theorem dJ11_isLatin1_18 : decode cJ11_isLatin1 18 = .ok (.ireturn, 1) := dk_172 (dk_at dksJ11_isLatin1_0 18 rfl rfl)
abbrev cJ11_length : ByteArray := prog_35_method_54_code
def yJ11_length : MethodName := ⟨RJ11, "length", "()I"⟩
def dkwJ11_length_0 : List UInt8 := [42, 180, 0, 9, 190, 42, 182, 1, 79, 122, 172]
abbrev dktJ11_length_0 : List UInt8 := dkwJ11_length_0 ++ []
theorem dksJ11_length_0 : cJ11_length.data.toList.drop 0 = dktJ11_length_0 := by decide +kernel
theorem dJ11_length_0 : decode cJ11_length 0 = .ok (.aload_n 0, 1) := dk_42 (dk_at dksJ11_length_0 0 rfl rfl)
theorem dJ11_length_1 : decode cJ11_length 1 = .ok (.getfield 9, 3) := dk_180 0 9 (dk_at dksJ11_length_0 1 rfl rfl)
theorem dJ11_length_4 : decode cJ11_length 4 = .ok (.arraylength, 1) := dk_190 (dk_at dksJ11_length_0 4 rfl rfl)
theorem dJ11_length_5 : decode cJ11_length 5 = .ok (.aload_n 0, 1) := dk_42 (dk_at dksJ11_length_0 5 rfl rfl)
theorem dJ11_length_6 : decode cJ11_length 6 = .ok (.invokevirtual 335, 3) := dk_182 1 79 (dk_at dksJ11_length_0 6 rfl rfl)
theorem dJ11_length_9 : decode cJ11_length 9 = .ok (.ishr, 1) := dk_122 (dk_at dksJ11_length_0 9 rfl rfl)
theorem dJ11_length_10 : decode cJ11_length 10 = .ok (.ireturn, 1) := dk_172 (dk_at dksJ11_length_0 10 rfl rfl)
abbrev cJ11_checkBoundsBeginEnd : ByteArray := prog_35_method_158_code
def yJ11_checkBoundsBeginEnd : MethodName := ⟨RJ11, "checkBoundsBeginEnd", "(III)V"⟩
def dkwJ11_checkBoundsBeginEnd_0 : List UInt8 := [26, 27, 28, 178, 4, 29, 184, 4, 38, 87, 177]
abbrev dktJ11_checkBoundsBeginEnd_0 : List UInt8 := dkwJ11_checkBoundsBeginEnd_0 ++ []
theorem dksJ11_checkBoundsBeginEnd_0 : cJ11_checkBoundsBeginEnd.data.toList.drop 0 = dktJ11_checkBoundsBeginEnd_0 := by decide +kernel
theorem dJ11_checkBoundsBeginEnd_0 : decode cJ11_checkBoundsBeginEnd 0 = .ok (.iload_n 0, 1) := dk_26 (dk_at dksJ11_checkBoundsBeginEnd_0 0 rfl rfl)
theorem dJ11_checkBoundsBeginEnd_1 : decode cJ11_checkBoundsBeginEnd 1 = .ok (.iload_n 1, 1) := dk_27 (dk_at dksJ11_checkBoundsBeginEnd_0 1 rfl rfl)
theorem dJ11_checkBoundsBeginEnd_2 : decode cJ11_checkBoundsBeginEnd 2 = .ok (.iload_n 2, 1) := dk_28 (dk_at dksJ11_checkBoundsBeginEnd_0 2 rfl rfl)
theorem dJ11_checkBoundsBeginEnd_3 : decode cJ11_checkBoundsBeginEnd 3 = .ok (.getstatic 1053, 3) := dk_178 4 29 (dk_at dksJ11_checkBoundsBeginEnd_0 3 rfl rfl)
theorem dJ11_checkBoundsBeginEnd_6 : decode cJ11_checkBoundsBeginEnd 6 = .ok (.invokestatic 1062, 3) := dk_184 4 38 (dk_at dksJ11_checkBoundsBeginEnd_0 6 rfl rfl)
theorem dJ11_checkBoundsBeginEnd_9 : decode cJ11_checkBoundsBeginEnd 9 = .ok (.pop, 1) := dk_87 (dk_at dksJ11_checkBoundsBeginEnd_0 9 rfl rfl)
theorem dJ11_checkBoundsBeginEnd_10 : decode cJ11_checkBoundsBeginEnd 10 = .ok (.return_, 1) := dk_177 (dk_at dksJ11_checkBoundsBeginEnd_0 10 rfl rfl)
theorem q111 : (Jvm.Cond.initialized "java/lang/String") ∈ lw_all := lw_g (lw_at lw_m1 16 rfl) rfl
theorem q449 : (Jvm.Cond.laysStatic "java/lang/String" "COMPACT_STRINGS" "Z") ∈ lw_tbl := lw_at lw_m2 114 rfl
theorem q1045 : (Jvm.Cond.castable "java/lang/String" "java/lang/Comparable") ∈ lw_tbl := lw_at lw_m4 230 rfl
theorem q1046 : (Jvm.Cond.selects "java/lang/String" ({ cls := "java/lang/Comparable", name := "compareTo", desc := "(Ljava/lang/Object;)I" } : Jvm.MethodName) ({ cls := "java/lang/String", name := "compareTo", desc := "(Ljava/lang/Object;)I" } : Jvm.MethodName)) ∈ lw_all := lw_g (lw_at lw_m4 231 rfl) rfl
theorem q1047 : (Jvm.Cond.unhidden "java/lang/String" "compareTo" "(Ljava/lang/Object;)I") ∈ lw_tbl := lw_at lw_m4 232 rfl
theorem q1048 : (Jvm.Cond.instanceMethod ({ cls := "java/lang/String", name := "compareTo", desc := "(Ljava/lang/Object;)I" } : Jvm.MethodName)) ∈ lw_all := lw_g (lw_at lw_m4 233 rfl) rfl
theorem q1049 : (Jvm.Cond.publicMethod ({ cls := "java/lang/String", name := "compareTo", desc := "(Ljava/lang/Object;)I" } : Jvm.MethodName)) ∈ lw_tbl := lw_at lw_m4 234 rfl
theorem q1050 : (Jvm.Cond.code ({ cls := "java/lang/String", name := "compareTo", desc := "(Ljava/lang/Object;)I" } : Jvm.MethodName) prog_35_method_162_code (2 : Nat) (Option.some Jvm.ClassFile.FieldType.int)) ∈ lw_all := lw_g (lw_at lw_m4 235 rfl) rfl
theorem q1051 : (Jvm.Cond.classLink "java/lang/String" (10 : Nat) "java/lang/String") ∈ lw_all := lw_g (lw_at lw_m4 236 rfl) rfl
theorem q1052 : (Jvm.Cond.methodLink "java/lang/String" (1084 : Nat) ({ cls := "java/lang/String", name := "compareTo", desc := "(Ljava/lang/String;)I" } : Jvm.MethodName)) ∈ lw_all := lw_g (lw_at lw_m4 237 rfl) rfl
theorem q1053 : (Jvm.Cond.instanceMethod ({ cls := "java/lang/String", name := "compareTo", desc := "(Ljava/lang/String;)I" } : Jvm.MethodName)) ∈ lw_all := lw_g (lw_at lw_m4 238 rfl) rfl
theorem q1054 : (Jvm.Cond.selects "java/lang/String" ({ cls := "java/lang/String", name := "compareTo", desc := "(Ljava/lang/String;)I" } : Jvm.MethodName) ({ cls := "java/lang/String", name := "compareTo", desc := "(Ljava/lang/String;)I" } : Jvm.MethodName)) ∈ lw_all := lw_g (lw_at lw_m4 239 rfl) rfl
theorem q1055 : (Jvm.Cond.code ({ cls := "java/lang/String", name := "compareTo", desc := "(Ljava/lang/String;)I" } : Jvm.MethodName) prog_35_method_71_code (5 : Nat) (Option.some Jvm.ClassFile.FieldType.int)) ∈ lw_all := lw_g (lw_at lw_m5 0 rfl) rfl
theorem q1056 : (Jvm.Cond.methodLink "java/lang/String" (335 : Nat) ({ cls := "java/lang/String", name := "coder", desc := "()B" } : Jvm.MethodName)) ∈ lw_all := lw_g (lw_at lw_m5 1 rfl) rfl
theorem q1057 : (Jvm.Cond.instanceMethod ({ cls := "java/lang/String", name := "coder", desc := "()B" } : Jvm.MethodName)) ∈ lw_all := lw_g (lw_at lw_m5 2 rfl) rfl
theorem q1058 : (Jvm.Cond.selects "java/lang/String" ({ cls := "java/lang/String", name := "coder", desc := "()B" } : Jvm.MethodName) ({ cls := "java/lang/String", name := "coder", desc := "()B" } : Jvm.MethodName)) ∈ lw_all := lw_g (lw_at lw_m5 3 rfl) rfl
theorem q1059 : (Jvm.Cond.code ({ cls := "java/lang/String", name := "coder", desc := "()B" } : Jvm.MethodName) prog_35_method_152_code (1 : Nat) (Option.some Jvm.ClassFile.FieldType.byte)) ∈ lw_all := lw_g (lw_at lw_m5 4 rfl) rfl
theorem q1060 : (Jvm.Cond.fieldLink "java/lang/String" (38 : Nat) "java/lang/String" "COMPACT_STRINGS" "Z") ∈ lw_all := lw_g (lw_at lw_m5 5 rfl) rfl
theorem q1061 : (Jvm.Cond.methodLink "java/lang/String" (586 : Nat) ({ cls := "java/lang/StringLatin1", name := "compareTo", desc := "([B[B)I" } : Jvm.MethodName)) ∈ lw_all := lw_g (lw_at lw_m5 6 rfl) rfl
theorem q1175 : (Jvm.Cond.methodLink "java/lang/String" (590 : Nat) ({ cls := "java/lang/StringUTF16", name := "compareTo", desc := "([B[B)I" } : Jvm.MethodName)) ∈ lw_all := lw_g (lw_at lw_m5 120 rfl) rfl
theorem q1194 : (Jvm.Cond.methodLink "java/lang/String" (591 : Nat) ({ cls := "java/lang/StringLatin1", name := "compareToUTF16", desc := "([B[B)I" } : Jvm.MethodName)) ∈ lw_all := lw_g (lw_at lw_m5 139 rfl) rfl
theorem q1205 : (Jvm.Cond.methodLink "java/lang/String" (594 : Nat) ({ cls := "java/lang/StringUTF16", name := "compareToLatin1", desc := "([B[B)I" } : Jvm.MethodName)) ∈ lw_all := lw_g (lw_at lw_m5 150 rfl) rfl
theorem q1236 : (Jvm.Cond.static ({ cls := "java/lang/String", name := "checkOffset", desc := "(II)V" } : Jvm.MethodName)) ∈ lw_all := lw_g (lw_at lw_m5 181 rfl) rfl
theorem q1237 : (Jvm.Cond.code ({ cls := "java/lang/String", name := "checkOffset", desc := "(II)V" } : Jvm.MethodName) prog_35_method_156_code (2 : Nat) (Option.none : Option Jvm.ClassFile.FieldType)) ∈ lw_all := lw_g (lw_at lw_m5 182 rfl) rfl
theorem q1238 : (Jvm.Cond.fieldLink "java/lang/String" (1053 : Nat) "jdk/internal/util/Preconditions" "SIOOBE_FORMATTER" "Ljava/util/function/BiFunction;") ∈ lw_all := lw_g (lw_at lw_m5 183 rfl) rfl
theorem q1240 : (Jvm.Cond.methodLink "java/lang/String" (1062 : Nat) ({ cls := "jdk/internal/util/Preconditions", name := "checkFromToIndex", desc := "(IIILjava/util/function/BiFunction;)I" } : Jvm.MethodName)) ∈ lw_all := lw_g (lw_at lw_m5 185 rfl) rfl
theorem q1822 : (Jvm.Cond.static ({ cls := "java/lang/String", name := "checkBoundsOffCount", desc := "(III)I" } : Jvm.MethodName)) ∈ lw_all := lw_g (lw_at lw_m8 47 rfl) rfl
theorem q1823 : (Jvm.Cond.code ({ cls := "java/lang/String", name := "checkBoundsOffCount", desc := "(III)I" } : Jvm.MethodName) prog_35_method_157_code (3 : Nat) (Option.some Jvm.ClassFile.FieldType.int)) ∈ lw_all := lw_g (lw_at lw_m8 48 rfl) rfl
theorem q1824 : (Jvm.Cond.methodLink "java/lang/String" (1065 : Nat) ({ cls := "jdk/internal/util/Preconditions", name := "checkFromIndexSize", desc := "(IIILjava/util/function/BiFunction;)I" } : Jvm.MethodName)) ∈ lw_all := lw_g (lw_at lw_m8 49 rfl) rfl
theorem q1837 : (Jvm.Cond.static ({ cls := "java/lang/String", name := "checkIndex", desc := "(II)V" } : Jvm.MethodName)) ∈ lw_all := lw_g (lw_at lw_m8 62 rfl) rfl
theorem q1838 : (Jvm.Cond.code ({ cls := "java/lang/String", name := "checkIndex", desc := "(II)V" } : Jvm.MethodName) prog_35_method_155_code (2 : Nat) (Option.none : Option Jvm.ClassFile.FieldType)) ∈ lw_all := lw_g (lw_at lw_m8 63 rfl) rfl
theorem q1839 : (Jvm.Cond.methodLink "java/lang/String" (1059 : Nat) ({ cls := "jdk/internal/util/Preconditions", name := "checkIndex", desc := "(IILjava/util/function/BiFunction;)I" } : Jvm.MethodName)) ∈ lw_all := lw_g (lw_at lw_m8 64 rfl) rfl
theorem q1923 : (Jvm.Cond.instanceMethod ({ cls := "java/lang/String", name := "indexOf", desc := "(I)I" } : Jvm.MethodName)) ∈ lw_all := lw_g (lw_at lw_m8 148 rfl) rfl
theorem q1924 : (Jvm.Cond.selects "java/lang/String" ({ cls := "java/lang/String", name := "indexOf", desc := "(I)I" } : Jvm.MethodName) ({ cls := "java/lang/String", name := "indexOf", desc := "(I)I" } : Jvm.MethodName)) ∈ lw_all := lw_g (lw_at lw_m8 149 rfl) rfl
theorem q1925 : (Jvm.Cond.code ({ cls := "java/lang/String", name := "indexOf", desc := "(I)I" } : Jvm.MethodName) prog_35_method_79_code (2 : Nat) (Option.some Jvm.ClassFile.FieldType.int)) ∈ lw_all := lw_g (lw_at lw_m8 150 rfl) rfl
theorem q1926 : (Jvm.Cond.methodLink "java/lang/String" (633 : Nat) ({ cls := "java/lang/String", name := "indexOf", desc := "(II)I" } : Jvm.MethodName)) ∈ lw_all := lw_g (lw_at lw_m8 151 rfl) rfl
theorem q1927 : (Jvm.Cond.instanceMethod ({ cls := "java/lang/String", name := "indexOf", desc := "(II)I" } : Jvm.MethodName)) ∈ lw_all := lw_g (lw_at lw_m8 152 rfl) rfl
theorem q1928 : (Jvm.Cond.selects "java/lang/String" ({ cls := "java/lang/String", name := "indexOf", desc := "(II)I" } : Jvm.MethodName) ({ cls := "java/lang/String", name := "indexOf", desc := "(II)I" } : Jvm.MethodName)) ∈ lw_all := lw_g (lw_at lw_m8 153 rfl) rfl
theorem q1929 : (Jvm.Cond.code ({ cls := "java/lang/String", name := "indexOf", desc := "(II)I" } : Jvm.MethodName) prog_35_method_80_code (3 : Nat) (Option.some Jvm.ClassFile.FieldType.int)) ∈ lw_all := lw_g (lw_at lw_m8 154 rfl) rfl
theorem q1930 : (Jvm.Cond.methodLink "java/lang/String" (492 : Nat) ({ cls := "java/lang/String", name := "isLatin1", desc := "()Z" } : Jvm.MethodName)) ∈ lw_all := lw_g (lw_at lw_m8 155 rfl) rfl
theorem q1931 : (Jvm.Cond.instanceMethod ({ cls := "java/lang/String", name := "isLatin1", desc := "()Z" } : Jvm.MethodName)) ∈ lw_all := lw_g (lw_at lw_m8 156 rfl) rfl
theorem q1932 : (Jvm.Cond.selects "java/lang/String" ({ cls := "java/lang/String", name := "isLatin1", desc := "()Z" } : Jvm.MethodName) ({ cls := "java/lang/String", name := "isLatin1", desc := "()Z" } : Jvm.MethodName)) ∈ lw_all := lw_g (lw_at lw_m8 157 rfl) rfl
theorem q1933 : (Jvm.Cond.code ({ cls := "java/lang/String", name := "isLatin1", desc := "()Z" } : Jvm.MethodName) prog_35_method_154_code (1 : Nat) (Option.some Jvm.ClassFile.FieldType.boolean)) ∈ lw_all := lw_g (lw_at lw_m8 158 rfl) rfl
theorem q1934 : (Jvm.Cond.methodLink "java/lang/String" (505 : Nat) ({ cls := "java/lang/String", name := "length", desc := "()I" } : Jvm.MethodName)) ∈ lw_all := lw_g (lw_at lw_m8 159 rfl) rfl
theorem q1935 : (Jvm.Cond.instanceMethod ({ cls := "java/lang/String", name := "length", desc := "()I" } : Jvm.MethodName)) ∈ lw_all := lw_g (lw_at lw_m8 160 rfl) rfl
theorem q1936 : (Jvm.Cond.selects "java/lang/String" ({ cls := "java/lang/String", name := "length", desc := "()I" } : Jvm.MethodName) ({ cls := "java/lang/String", name := "length", desc := "()I" } : Jvm.MethodName)) ∈ lw_all := lw_g (lw_at lw_m8 161 rfl) rfl
theorem q1937 : (Jvm.Cond.code ({ cls := "java/lang/String", name := "length", desc := "()I" } : Jvm.MethodName) prog_35_method_54_code (1 : Nat) (Option.some Jvm.ClassFile.FieldType.int)) ∈ lw_all := lw_g (lw_at lw_m8 162 rfl) rfl
theorem q1938 : (Jvm.Cond.methodLink "java/lang/String" (637 : Nat) ({ cls := "java/lang/StringLatin1", name := "indexOf", desc := "([BIII)I" } : Jvm.MethodName)) ∈ lw_all := lw_g (lw_at lw_m8 163 rfl) rfl
theorem q1948 : (Jvm.Cond.methodLink "java/lang/String" (640 : Nat) ({ cls := "java/lang/StringUTF16", name := "indexOf", desc := "([BIII)I" } : Jvm.MethodName)) ∈ lw_all := lw_g (lw_at lw_m8 173 rfl) rfl
theorem q1960 : (Jvm.Cond.static ({ cls := "java/lang/String", name := "checkBoundsBeginEnd", desc := "(III)V" } : Jvm.MethodName)) ∈ lw_all := lw_g (lw_at lw_m8 185 rfl) rfl
theorem q1961 : (Jvm.Cond.code ({ cls := "java/lang/String", name := "checkBoundsBeginEnd", desc := "(III)V" } : Jvm.MethodName) prog_35_method_158_code (3 : Nat) (Option.none : Option Jvm.ClassFile.FieldType)) ∈ lw_all := lw_g (lw_at lw_m8 186 rfl) rfl
theorem q2444 : (Jvm.Cond.castable "java/lang/String" "java/lang/Object") ∈ lw_tbl := lw_at lw_m10 189 rfl
theorem q2462 : (Jvm.Cond.fieldLink "java/lang/String" (9 : Nat) "java/lang/String" "value" "[B") ∈ lw_all := lw_g (lw_at lw_m10 207 rfl) rfl
theorem q2463 : (Jvm.Cond.fieldLink "java/lang/String" (15 : Nat) "java/lang/String" "coder" "B") ∈ lw_all := lw_g (lw_at lw_m10 208 rfl) rfl
abbrev cJ13_init : ByteArray := prog_49_method_1_code
def yJ13_init : MethodName := ⟨RJ13, "<init>", "(Ljava/util/ArrayList;)V"⟩
def dkwJ13_init_1 : List UInt8 := [181, 0, 22, 177]
abbrev dktJ13_init_1 : List UInt8 := dkwJ13_init_1 ++ []
def dkwJ13_init_0 : List UInt8 := [42, 43, 181, 0, 1, 42, 183, 0, 7, 42, 2, 181, 0, 13, 42, 42, 180, 0, 1, 180, 0, 17]
abbrev dktJ13_init_0 : List UInt8 := dkwJ13_init_0 ++ dktJ13_init_1
theorem dksJ13_init_0 : cJ13_init.data.toList.drop 0 = dktJ13_init_0 := by decide +kernel
theorem dksJ13_init_1 : cJ13_init.data.toList.drop 22 = dktJ13_init_1 := dk_seg dksJ13_init_0 22 rfl rfl
theorem dJ13_init_0 : decode cJ13_init 0 = .ok (.aload_n 0, 1) := dk_42 (dk_at dksJ13_init_0 0 rfl rfl)
theorem dJ13_init_1 : decode cJ13_init 1 = .ok (.aload_n 1, 1) := dk_43 (dk_at dksJ13_init_0 1 rfl rfl)
theorem dJ13_init_2 : decode cJ13_init 2 = .ok (.putfield 1, 3) := dk_181 0 1 (dk_at dksJ13_init_0 2 rfl rfl)
theorem dJ13_init_5 : decode cJ13_init 5 = .ok (.aload_n 0, 1) := dk_42 (dk_at dksJ13_init_0 5 rfl rfl)
theorem dJ13_init_6 : decode cJ13_init 6 = .ok (.invokespecial 7, 3) := dk_183 0 7 (dk_at dksJ13_init_0 6 rfl rfl)
theorem dJ13_init_9 : decode cJ13_init 9 = .ok (.aload_n 0, 1) := dk_42 (dk_at dksJ13_init_0 9 rfl rfl)
theorem dJ13_init_10 : decode cJ13_init 10 = .ok (.iconst (-1), 1) := dk_2 (dk_at dksJ13_init_0 10 rfl rfl)
theorem dJ13_init_11 : decode cJ13_init 11 = .ok (.putfield 13, 3) := dk_181 0 13 (dk_at dksJ13_init_0 11 rfl rfl)
theorem dJ13_init_14 : decode cJ13_init 14 = .ok (.aload_n 0, 1) := dk_42 (dk_at dksJ13_init_0 14 rfl rfl)
theorem dJ13_init_15 : decode cJ13_init 15 = .ok (.aload_n 0, 1) := dk_42 (dk_at dksJ13_init_0 15 rfl rfl)
theorem dJ13_init_16 : decode cJ13_init 16 = .ok (.getfield 1, 3) := dk_180 0 1 (dk_at dksJ13_init_0 16 rfl rfl)
theorem dJ13_init_19 : decode cJ13_init 19 = .ok (.getfield 17, 3) := dk_180 0 17 (dk_at dksJ13_init_0 19 rfl rfl)
theorem dJ13_init_22 : decode cJ13_init 22 = .ok (.putfield 22, 3) := dk_181 0 22 (dk_at dksJ13_init_1 0 rfl rfl)
theorem dJ13_init_25 : decode cJ13_init 25 = .ok (.return_, 1) := dk_177 (dk_at dksJ13_init_1 3 rfl rfl)
abbrev cJ13_hasNext : ByteArray := prog_49_method_2_code
def yJ13_hasNext : MethodName := ⟨RJ13, "hasNext", "()Z"⟩
def dkwJ13_hasNext_0 : List UInt8 := [42, 180, 0, 25, 42, 180, 0, 1, 180, 0, 28, 159, 0, 7, 4, 167, 0, 4, 3, 172]
abbrev dktJ13_hasNext_0 : List UInt8 := dkwJ13_hasNext_0 ++ []
theorem dksJ13_hasNext_0 : cJ13_hasNext.data.toList.drop 0 = dktJ13_hasNext_0 := by decide +kernel
theorem dJ13_hasNext_0 : decode cJ13_hasNext 0 = .ok (.aload_n 0, 1) := dk_42 (dk_at dksJ13_hasNext_0 0 rfl rfl)
theorem dJ13_hasNext_1 : decode cJ13_hasNext 1 = .ok (.getfield 25, 3) := dk_180 0 25 (dk_at dksJ13_hasNext_0 1 rfl rfl)
theorem dJ13_hasNext_4 : decode cJ13_hasNext 4 = .ok (.aload_n 0, 1) := dk_42 (dk_at dksJ13_hasNext_0 4 rfl rfl)
theorem dJ13_hasNext_5 : decode cJ13_hasNext 5 = .ok (.getfield 1, 3) := dk_180 0 1 (dk_at dksJ13_hasNext_0 5 rfl rfl)
theorem dJ13_hasNext_8 : decode cJ13_hasNext 8 = .ok (.getfield 28, 3) := dk_180 0 28 (dk_at dksJ13_hasNext_0 8 rfl rfl)
theorem dJ13_hasNext_11 : decode cJ13_hasNext 11 = .ok (.if_icmp .eq 7, 3) := dk_159 0 7 (dk_at dksJ13_hasNext_0 11 rfl rfl)
theorem dJ13_hasNext_14 : decode cJ13_hasNext 14 = .ok (.iconst 1, 1) := dk_4 (dk_at dksJ13_hasNext_0 14 rfl rfl)
theorem dJ13_hasNext_15 : decode cJ13_hasNext 15 = .ok (.goto 4, 3) := dk_167 0 4 (dk_at dksJ13_hasNext_0 15 rfl rfl)
theorem dJ13_hasNext_18 : decode cJ13_hasNext 18 = .ok (.iconst 0, 1) := dk_3 (dk_at dksJ13_hasNext_0 18 rfl rfl)
theorem dJ13_hasNext_19 : decode cJ13_hasNext 19 = .ok (.ireturn, 1) := dk_172 (dk_at dksJ13_hasNext_0 19 rfl rfl)
abbrev cJ13_next : ByteArray := prog_49_method_3_code
def yJ13_next : MethodName := ⟨RJ13, "next", "()Ljava/lang/Object;"⟩
def dkwJ13_next_2 : List UInt8 := [183, 0, 43, 191, 42, 27, 4, 96, 181, 0, 25, 44, 42, 27, 90, 181, 0, 13, 50, 176]
abbrev dktJ13_next_2 : List UInt8 := dkwJ13_next_2 ++ []
def dkwJ13_next_1 : List UInt8 := [183, 0, 36, 191, 42, 180, 0, 1, 180, 0, 37, 77, 27, 44, 190, 161, 0, 11, 187, 0, 41, 89]
abbrev dktJ13_next_1 : List UInt8 := dkwJ13_next_1 ++ dktJ13_next_2
def dkwJ13_next_0 : List UInt8 := [42, 182, 0, 31, 42, 180, 0, 25, 60, 27, 42, 180, 0, 1, 180, 0, 28, 161, 0, 11, 187, 0, 34, 89]
abbrev dktJ13_next_0 : List UInt8 := dkwJ13_next_0 ++ dktJ13_next_1
theorem dksJ13_next_0 : cJ13_next.data.toList.drop 0 = dktJ13_next_0 := by decide +kernel
theorem dksJ13_next_1 : cJ13_next.data.toList.drop 24 = dktJ13_next_1 := dk_seg dksJ13_next_0 24 rfl rfl
theorem dksJ13_next_2 : cJ13_next.data.toList.drop 46 = dktJ13_next_2 := dk_seg dksJ13_next_1 22 rfl rfl
theorem dJ13_next_0 : decode cJ13_next 0 = .ok (.aload_n 0, 1) := dk_42 (dk_at dksJ13_next_0 0 rfl rfl)
theorem dJ13_next_1 : decode cJ13_next 1 = .ok (.invokevirtual 31, 3) := dk_182 0 31 (dk_at dksJ13_next_0 1 rfl rfl)
theorem dJ13_next_4 : decode cJ13_next 4 = .ok (.aload_n 0, 1) := dk_42 (dk_at dksJ13_next_0 4 rfl rfl)
theorem dJ13_next_5 : decode cJ13_next 5 = .ok (.getfield 25, 3) := dk_180 0 25 (dk_at dksJ13_next_0 5 rfl rfl)
theorem dJ13_next_8 : decode cJ13_next 8 = .ok (.istore_n 1, 1) := dk_60 (dk_at dksJ13_next_0 8 rfl rfl)
theorem dJ13_next_9 : decode cJ13_next 9 = .ok (.iload_n 1, 1) := dk_27 (dk_at dksJ13_next_0 9 rfl rfl)
theorem dJ13_next_10 : decode cJ13_next 10 = .ok (.aload_n 0, 1) := dk_42 (dk_at dksJ13_next_0 10 rfl rfl)
theorem dJ13_next_11 : decode cJ13_next 11 = .ok (.getfield 1, 3) := dk_180 0 1 (dk_at dksJ13_next_0 11 rfl rfl)
theorem dJ13_next_14 : decode cJ13_next 14 = .ok (.getfield 28, 3) := dk_180 0 28 (dk_at dksJ13_next_0 14 rfl rfl)
theorem dJ13_next_17 : decode cJ13_next 17 = .ok (.if_icmp .lt 11, 3) := dk_161 0 11 (dk_at dksJ13_next_0 17 rfl rfl)
theorem dJ13_next_20 : decode cJ13_next 20 = .ok (.new 34, 3) := dk_187 0 34 (dk_at dksJ13_next_0 20 rfl rfl)
theorem dJ13_next_23 : decode cJ13_next 23 = .ok (.dup, 1) := dk_89 (dk_at dksJ13_next_0 23 rfl rfl)
theorem dJ13_next_24 : decode cJ13_next 24 = .ok (.invokespecial 36, 3) := dk_183 0 36 (dk_at dksJ13_next_1 0 rfl rfl)
theorem dJ13_next_27 : decode cJ13_next 27 = .ok (.athrow, 1) := dk_191 (dk_at dksJ13_next_1 3 rfl rfl)
theorem dJ13_next_28 : decode cJ13_next 28 = .ok (.aload_n 0, 1) := dk_42 (dk_at dksJ13_next_1 4 rfl rfl)
theorem dJ13_next_29 : decode cJ13_next 29 = .ok (.getfield 1, 3) := dk_180 0 1 (dk_at dksJ13_next_1 5 rfl rfl)
theorem dJ13_next_32 : decode cJ13_next 32 = .ok (.getfield 37, 3) := dk_180 0 37 (dk_at dksJ13_next_1 8 rfl rfl)
theorem dJ13_next_35 : decode cJ13_next 35 = .ok (.astore_n 2, 1) := dk_77 (dk_at dksJ13_next_1 11 rfl rfl)
theorem dJ13_next_36 : decode cJ13_next 36 = .ok (.iload_n 1, 1) := dk_27 (dk_at dksJ13_next_1 12 rfl rfl)
theorem dJ13_next_37 : decode cJ13_next 37 = .ok (.aload_n 2, 1) := dk_44 (dk_at dksJ13_next_1 13 rfl rfl)
theorem dJ13_next_38 : decode cJ13_next 38 = .ok (.arraylength, 1) := dk_190 (dk_at dksJ13_next_1 14 rfl rfl)
theorem dJ13_next_39 : decode cJ13_next 39 = .ok (.if_icmp .lt 11, 3) := dk_161 0 11 (dk_at dksJ13_next_1 15 rfl rfl)
theorem dJ13_next_42 : decode cJ13_next 42 = .ok (.new 41, 3) := dk_187 0 41 (dk_at dksJ13_next_1 18 rfl rfl)
theorem dJ13_next_45 : decode cJ13_next 45 = .ok (.dup, 1) := dk_89 (dk_at dksJ13_next_1 21 rfl rfl)
theorem dJ13_next_46 : decode cJ13_next 46 = .ok (.invokespecial 43, 3) := dk_183 0 43 (dk_at dksJ13_next_2 0 rfl rfl)
theorem dJ13_next_49 : decode cJ13_next 49 = .ok (.athrow, 1) := dk_191 (dk_at dksJ13_next_2 3 rfl rfl)
theorem dJ13_next_50 : decode cJ13_next 50 = .ok (.aload_n 0, 1) := dk_42 (dk_at dksJ13_next_2 4 rfl rfl)
theorem dJ13_next_51 : decode cJ13_next 51 = .ok (.iload_n 1, 1) := dk_27 (dk_at dksJ13_next_2 5 rfl rfl)
theorem dJ13_next_52 : decode cJ13_next 52 = .ok (.iconst 1, 1) := dk_4 (dk_at dksJ13_next_2 6 rfl rfl)
theorem dJ13_next_53 : decode cJ13_next 53 = .ok (.iadd, 1) := dk_96 (dk_at dksJ13_next_2 7 rfl rfl)
theorem dJ13_next_54 : decode cJ13_next 54 = .ok (.putfield 25, 3) := dk_181 0 25 (dk_at dksJ13_next_2 8 rfl rfl)
theorem dJ13_next_57 : decode cJ13_next 57 = .ok (.aload_n 2, 1) := dk_44 (dk_at dksJ13_next_2 11 rfl rfl)
theorem dJ13_next_58 : decode cJ13_next 58 = .ok (.aload_n 0, 1) := dk_42 (dk_at dksJ13_next_2 12 rfl rfl)
theorem dJ13_next_59 : decode cJ13_next 59 = .ok (.iload_n 1, 1) := dk_27 (dk_at dksJ13_next_2 13 rfl rfl)
theorem dJ13_next_60 : decode cJ13_next 60 = .ok (.dup_x1, 1) := dk_90 (dk_at dksJ13_next_2 14 rfl rfl)
theorem dJ13_next_61 : decode cJ13_next 61 = .ok (.putfield 13, 3) := dk_181 0 13 (dk_at dksJ13_next_2 15 rfl rfl)
theorem dJ13_next_64 : decode cJ13_next 64 = .ok (.aaload, 1) := dk_50 (dk_at dksJ13_next_2 18 rfl rfl)
theorem dJ13_next_65 : decode cJ13_next 65 = .ok (.areturn, 1) := dk_176 (dk_at dksJ13_next_2 19 rfl rfl)
abbrev cJ13_checkForComodification : ByteArray := prog_49_method_6_code
def yJ13_checkForComodification : MethodName := ⟨RJ13, "checkForComodification", "()V"⟩
def dkwJ13_checkForComodification_0 : List UInt8 := [42, 180, 0, 1, 180, 0, 17, 42, 180, 0, 22, 159, 0, 11, 187, 0, 41, 89, 183, 0, 43, 191, 177]
abbrev dktJ13_checkForComodification_0 : List UInt8 := dkwJ13_checkForComodification_0 ++ []
theorem dksJ13_checkForComodification_0 : cJ13_checkForComodification.data.toList.drop 0 = dktJ13_checkForComodification_0 := by decide +kernel
theorem dJ13_checkForComodification_0 : decode cJ13_checkForComodification 0 = .ok (.aload_n 0, 1) := dk_42 (dk_at dksJ13_checkForComodification_0 0 rfl rfl)
theorem dJ13_checkForComodification_1 : decode cJ13_checkForComodification 1 = .ok (.getfield 1, 3) := dk_180 0 1 (dk_at dksJ13_checkForComodification_0 1 rfl rfl)
theorem dJ13_checkForComodification_4 : decode cJ13_checkForComodification 4 = .ok (.getfield 17, 3) := dk_180 0 17 (dk_at dksJ13_checkForComodification_0 4 rfl rfl)
theorem dJ13_checkForComodification_7 : decode cJ13_checkForComodification 7 = .ok (.aload_n 0, 1) := dk_42 (dk_at dksJ13_checkForComodification_0 7 rfl rfl)
theorem dJ13_checkForComodification_8 : decode cJ13_checkForComodification 8 = .ok (.getfield 22, 3) := dk_180 0 22 (dk_at dksJ13_checkForComodification_0 8 rfl rfl)
theorem dJ13_checkForComodification_11 : decode cJ13_checkForComodification 11 = .ok (.if_icmp .eq 11, 3) := dk_159 0 11 (dk_at dksJ13_checkForComodification_0 11 rfl rfl)
theorem dJ13_checkForComodification_14 : decode cJ13_checkForComodification 14 = .ok (.new 41, 3) := dk_187 0 41 (dk_at dksJ13_checkForComodification_0 14 rfl rfl)
theorem dJ13_checkForComodification_17 : decode cJ13_checkForComodification 17 = .ok (.dup, 1) := dk_89 (dk_at dksJ13_checkForComodification_0 17 rfl rfl)
theorem dJ13_checkForComodification_18 : decode cJ13_checkForComodification 18 = .ok (.invokespecial 43, 3) := dk_183 0 43 (dk_at dksJ13_checkForComodification_0 18 rfl rfl)
theorem dJ13_checkForComodification_21 : decode cJ13_checkForComodification 21 = .ok (.athrow, 1) := dk_191 (dk_at dksJ13_checkForComodification_0 21 rfl rfl)
theorem dJ13_checkForComodification_22 : decode cJ13_checkForComodification 22 = .ok (.return_, 1) := dk_177 (dk_at dksJ13_checkForComodification_0 22 rfl rfl)
theorem q114 : (Jvm.Cond.initialized "java/util/ArrayList$Itr") ∈ lw_all := lw_g (lw_at lw_m1 19 rfl) rfl
theorem q170 : (Jvm.Cond.fieldLink "java/util/ArrayList$Itr" (37 : Nat) "java/util/ArrayList" "elementData" "[Ljava/lang/Object;") ∈ lw_all := lw_g (lw_at lw_m1 75 rfl) rfl
theorem q171 : (Jvm.Cond.fieldLinkNest "java/util/ArrayList$Itr" (28 : Nat) "java/util/ArrayList" "size" "I" "java/util/ArrayList") ∈ lw_tbl := lw_at lw_m1 76 rfl
theorem q174 : (Jvm.Cond.fieldLink "java/util/ArrayList$Itr" (17 : Nat) "java/util/ArrayList" "modCount" "I") ∈ lw_all := lw_g (lw_at lw_m1 79 rfl) rfl
theorem q523 : (Jvm.Cond.instantiable "java/util/ArrayList$Itr" (4 : Nat)) ∈ lw_all := lw_g (lw_at lw_m2 188 rfl) rfl
theorem q525 : (Jvm.Cond.instanceMethod ({ cls := "java/util/ArrayList$Itr", name := "<init>", desc := "(Ljava/util/ArrayList;)V" } : Jvm.MethodName)) ∈ lw_all := lw_g (lw_at lw_m2 190 rfl) rfl
theorem q526 : (Jvm.Cond.code ({ cls := "java/util/ArrayList$Itr", name := "<init>", desc := "(Ljava/util/ArrayList;)V" } : Jvm.MethodName) prog_49_method_1_code (2 : Nat) (Option.none : Option Jvm.ClassFile.FieldType)) ∈ lw_all := lw_g (lw_at lw_m2 191 rfl) rfl
theorem q527 : (Jvm.Cond.methodLink "java/util/ArrayList$Itr" (7 : Nat) ({ cls := "java/lang/Object", name := "<init>", desc := "()V" } : Jvm.MethodName)) ∈ lw_all := lw_g (lw_at lw_m2 192 rfl) rfl
theorem q528 : (Jvm.Cond.fieldLink "java/util/ArrayList$Itr" (25 : Nat) "java/util/ArrayList$Itr" "cursor" "I") ∈ lw_all := lw_g (lw_at lw_m2 193 rfl) rfl
theorem q529 : (Jvm.Cond.fieldLink "java/util/ArrayList$Itr" (13 : Nat) "java/util/ArrayList$Itr" "lastRet" "I") ∈ lw_all := lw_g (lw_at lw_m2 194 rfl) rfl
theorem q530 : (Jvm.Cond.fieldLink "java/util/ArrayList$Itr" (22 : Nat) "java/util/ArrayList$Itr" "expectedModCount" "I") ∈ lw_all := lw_g (lw_at lw_m2 195 rfl) rfl
theorem q531 : (Jvm.Cond.fieldLink "java/util/ArrayList$Itr" (1 : Nat) "java/util/ArrayList$Itr" "this$0" "Ljava/util/ArrayList;") ∈ lw_all := lw_g (lw_at lw_m2 196 rfl) rfl
theorem q532 : (Jvm.Cond.lays "java/util/ArrayList$Itr" "java/util/ArrayList$Itr" "cursor" "I") ∈ lw_all := lw_g (lw_at lw_m2 197 rfl) rfl
theorem q533 : (Jvm.Cond.soleField "java/util/ArrayList$Itr" "cursor") ∈ lw_all := lw_g (lw_at lw_m2 198 rfl) rfl
theorem q534 : (Jvm.Cond.lays "java/util/ArrayList$Itr" "java/util/ArrayList$Itr" "lastRet" "I") ∈ lw_all := lw_g (lw_at lw_m2 199 rfl) rfl
theorem q535 : (Jvm.Cond.soleField "java/util/ArrayList$Itr" "lastRet") ∈ lw_all := lw_g (lw_at lw_m2 200 rfl) rfl
theorem q536 : (Jvm.Cond.lays "java/util/ArrayList$Itr" "java/util/ArrayList$Itr" "expectedModCount" "I") ∈ lw_all := lw_g (lw_at lw_m2 201 rfl) rfl
theorem q537 : (Jvm.Cond.soleField "java/util/ArrayList$Itr" "expectedModCount") ∈ lw_all := lw_g (lw_at lw_m2 202 rfl) rfl
theorem q538 : (Jvm.Cond.laysFinal "java/util/ArrayList$Itr" "java/util/ArrayList$Itr" "this$0" "Ljava/util/ArrayList;") ∈ lw_all := lw_g (lw_at lw_m2 203 rfl) rfl
theorem q539 : (Jvm.Cond.soleField "java/util/ArrayList$Itr" "this$0") ∈ lw_all := lw_g (lw_at lw_m2 204 rfl) rfl
theorem q540 : (Jvm.Cond.superclass "java/util/ArrayList$Itr" "java/lang/Object") ∈ lw_all := lw_g (lw_at lw_m2 205 rfl) rfl
theorem q545 : (Jvm.Cond.castable "java/util/ArrayList$Itr" "java/util/Iterator") ∈ lw_tbl := lw_at lw_m2 210 rfl
theorem q546 : (Jvm.Cond.selects "java/util/ArrayList$Itr" ({ cls := "java/util/Iterator", name := "hasNext", desc := "()Z" } : Jvm.MethodName) ({ cls := "java/util/ArrayList$Itr", name := "hasNext", desc := "()Z" } : Jvm.MethodName)) ∈ lw_all := lw_g (lw_at lw_m2 211 rfl) rfl
theorem q547 : (Jvm.Cond.unhidden "java/util/ArrayList$Itr" "hasNext" "()Z") ∈ lw_tbl := lw_at lw_m2 212 rfl
theorem q548 : (Jvm.Cond.instanceMethod ({ cls := "java/util/ArrayList$Itr", name := "hasNext", desc := "()Z" } : Jvm.MethodName)) ∈ lw_all := lw_g (lw_at lw_m2 213 rfl) rfl
theorem q549 : (Jvm.Cond.publicMethod ({ cls := "java/util/ArrayList$Itr", name := "hasNext", desc := "()Z" } : Jvm.MethodName)) ∈ lw_tbl := lw_at lw_m2 214 rfl
theorem q550 : (Jvm.Cond.code ({ cls := "java/util/ArrayList$Itr", name := "hasNext", desc := "()Z" } : Jvm.MethodName) prog_49_method_2_code (1 : Nat) (Option.some Jvm.ClassFile.FieldType.boolean)) ∈ lw_all := lw_g (lw_at lw_m2 215 rfl) rfl
theorem q555 : (Jvm.Cond.selects "java/util/ArrayList$Itr" ({ cls := "java/util/Iterator", name := "next", desc := "()Ljava/lang/Object;" } : Jvm.MethodName) ({ cls := "java/util/ArrayList$Itr", name := "next", desc := "()Ljava/lang/Object;" } : Jvm.MethodName)) ∈ lw_all := lw_g (lw_at lw_m2 220 rfl) rfl
theorem q556 : (Jvm.Cond.unhidden "java/util/ArrayList$Itr" "next" "()Ljava/lang/Object;") ∈ lw_tbl := lw_at lw_m2 221 rfl
theorem q557 : (Jvm.Cond.instanceMethod ({ cls := "java/util/ArrayList$Itr", name := "next", desc := "()Ljava/lang/Object;" } : Jvm.MethodName)) ∈ lw_all := lw_g (lw_at lw_m2 222 rfl) rfl
theorem q558 : (Jvm.Cond.publicMethod ({ cls := "java/util/ArrayList$Itr", name := "next", desc := "()Ljava/lang/Object;" } : Jvm.MethodName)) ∈ lw_tbl := lw_at lw_m2 223 rfl
theorem q559 : (Jvm.Cond.code ({ cls := "java/util/ArrayList$Itr", name := "next", desc := "()Ljava/lang/Object;" } : Jvm.MethodName) prog_49_method_3_code (3 : Nat) (Option.some (Jvm.ClassFile.FieldType.object "java/lang/Object"))) ∈ lw_all := lw_g (lw_at lw_m2 224 rfl) rfl
theorem q560 : (Jvm.Cond.methodLink "java/util/ArrayList$Itr" (31 : Nat) ({ cls := "java/util/ArrayList$Itr", name := "checkForComodification", desc := "()V" } : Jvm.MethodName)) ∈ lw_all := lw_g (lw_at lw_m2 225 rfl) rfl
theorem q561 : (Jvm.Cond.instanceMethod ({ cls := "java/util/ArrayList$Itr", name := "checkForComodification", desc := "()V" } : Jvm.MethodName)) ∈ lw_all := lw_g (lw_at lw_m2 226 rfl) rfl
theorem q562 : (Jvm.Cond.selects "java/util/ArrayList$Itr" ({ cls := "java/util/ArrayList$Itr", name := "checkForComodification", desc := "()V" } : Jvm.MethodName) ({ cls := "java/util/ArrayList$Itr", name := "checkForComodification", desc := "()V" } : Jvm.MethodName)) ∈ lw_all := lw_g (lw_at lw_m2 227 rfl) rfl
theorem q563 : (Jvm.Cond.code ({ cls := "java/util/ArrayList$Itr", name := "checkForComodification", desc := "()V" } : Jvm.MethodName) prog_49_method_6_code (1 : Nat) (Option.none : Option Jvm.ClassFile.FieldType)) ∈ lw_all := lw_g (lw_at lw_m2 228 rfl) rfl
theorem q716 : (Jvm.Cond.selects "java/util/ArrayList$Itr" ({ cls := "java/lang/Object", name := "getClass", desc := "()Ljava/lang/Class;" } : Jvm.MethodName) ({ cls := "java/lang/Object", name := "getClass", desc := "()Ljava/lang/Class;" } : Jvm.MethodName)) ∈ lw_all := lw_g (lw_at lw_m3 141 rfl) rfl
theorem q2432 : (Jvm.Cond.castable "java/util/ArrayList$Itr" "java/lang/Object") ∈ lw_tbl := lw_at lw_m10 177 rfl
theorem in_J13 : ∀ w ∈ wsJ130, w ∈ lw_all := lw_in wsJ130 [532, 534, 536, 538] (by decide +kernel) (by decide +kernel)
abbrev cJ15_max : ByteArray := prog_33_method_65_code
def yJ15_max : MethodName := ⟨RJ15, "max", "(II)I"⟩
def dkwJ15_max_0 : List UInt8 := [26, 27, 161, 0, 7, 26, 167, 0, 4, 27, 172]
abbrev dktJ15_max_0 : List UInt8 := dkwJ15_max_0 ++ []
theorem dksJ15_max_0 : cJ15_max.data.toList.drop 0 = dktJ15_max_0 := by decide +kernel
theorem dJ15_max_0 : decode cJ15_max 0 = .ok (.iload_n 0, 1) := dk_26 (dk_at dksJ15_max_0 0 rfl rfl)
theorem dJ15_max_1 : decode cJ15_max 1 = .ok (.iload_n 1, 1) := dk_27 (dk_at dksJ15_max_0 1 rfl rfl)
theorem dJ15_max_2 : decode cJ15_max 2 = .ok (.if_icmp .lt 7, 3) := dk_161 0 7 (dk_at dksJ15_max_0 2 rfl rfl)
theorem dJ15_max_5 : decode cJ15_max 5 = .ok (.iload_n 0, 1) := dk_26 (dk_at dksJ15_max_0 5 rfl rfl)
theorem dJ15_max_6 : decode cJ15_max 6 = .ok (.goto 4, 3) := dk_167 0 4 (dk_at dksJ15_max_0 6 rfl rfl)
theorem dJ15_max_9 : decode cJ15_max 9 = .ok (.iload_n 1, 1) := dk_27 (dk_at dksJ15_max_0 9 rfl rfl)
theorem dJ15_max_10 : decode cJ15_max 10 = .ok (.ireturn, 1) := dk_172 (dk_at dksJ15_max_0 10 rfl rfl)
abbrev cJ15_min : ByteArray := prog_33_method_69_code
def yJ15_min : MethodName := ⟨RJ15, "min", "(II)I"⟩
def dkwJ15_min_0 : List UInt8 := [26, 27, 163, 0, 7, 26, 167, 0, 4, 27, 172]
abbrev dktJ15_min_0 : List UInt8 := dkwJ15_min_0 ++ []
theorem dksJ15_min_0 : cJ15_min.data.toList.drop 0 = dktJ15_min_0 := by decide +kernel
theorem dJ15_min_0 : decode cJ15_min 0 = .ok (.iload_n 0, 1) := dk_26 (dk_at dksJ15_min_0 0 rfl rfl)
theorem dJ15_min_1 : decode cJ15_min 1 = .ok (.iload_n 1, 1) := dk_27 (dk_at dksJ15_min_0 1 rfl rfl)
theorem dJ15_min_2 : decode cJ15_min 2 = .ok (.if_icmp .gt 7, 3) := dk_163 0 7 (dk_at dksJ15_min_0 2 rfl rfl)
theorem dJ15_min_5 : decode cJ15_min 5 = .ok (.iload_n 0, 1) := dk_26 (dk_at dksJ15_min_0 5 rfl rfl)
theorem dJ15_min_6 : decode cJ15_min 6 = .ok (.goto 4, 3) := dk_167 0 4 (dk_at dksJ15_min_0 6 rfl rfl)
theorem dJ15_min_9 : decode cJ15_min 9 = .ok (.iload_n 1, 1) := dk_27 (dk_at dksJ15_min_0 9 rfl rfl)
theorem dJ15_min_10 : decode cJ15_min 10 = .ok (.ireturn, 1) := dk_172 (dk_at dksJ15_min_0 10 rfl rfl)
theorem q120 : (Jvm.Cond.initialized "java/lang/Math") ∈ lw_all := lw_g (lw_at lw_m1 25 rfl) rfl
theorem q684 : (Jvm.Cond.static ({ cls := "java/lang/Math", name := "max", desc := "(II)I" } : Jvm.MethodName)) ∈ lw_all := lw_g (lw_at lw_m3 109 rfl) rfl
theorem q685 : (Jvm.Cond.code ({ cls := "java/lang/Math", name := "max", desc := "(II)I" } : Jvm.MethodName) prog_33_method_65_code (2 : Nat) (Option.some Jvm.ClassFile.FieldType.int)) ∈ lw_all := lw_g (lw_at lw_m3 110 rfl) rfl
theorem q729 : (Jvm.Cond.static ({ cls := "java/lang/Math", name := "min", desc := "(II)I" } : Jvm.MethodName)) ∈ lw_all := lw_g (lw_at lw_m3 154 rfl) rfl
theorem q730 : (Jvm.Cond.code ({ cls := "java/lang/Math", name := "min", desc := "(II)I" } : Jvm.MethodName) prog_33_method_69_code (2 : Nat) (Option.some Jvm.ClassFile.FieldType.int)) ∈ lw_all := lw_g (lw_at lw_m3 155 rfl) rfl
abbrev cJ16_copyOf : ByteArray := prog_50_method_119_code
def yJ16_copyOf : MethodName := ⟨RJ16, "copyOf", "([Ljava/lang/Object;I)[Ljava/lang/Object;"⟩
def dkwJ16_copyOf_0 : List UInt8 := [42, 27, 42, 182, 0, 86, 184, 1, 44, 176]
abbrev dktJ16_copyOf_0 : List UInt8 := dkwJ16_copyOf_0 ++ []
theorem dksJ16_copyOf_0 : cJ16_copyOf.data.toList.drop 0 = dktJ16_copyOf_0 := by decide +kernel
theorem dJ16_copyOf_0 : decode cJ16_copyOf 0 = .ok (.aload_n 0, 1) := dk_42 (dk_at dksJ16_copyOf_0 0 rfl rfl)
theorem dJ16_copyOf_1 : decode cJ16_copyOf 1 = .ok (.iload_n 1, 1) := dk_27 (dk_at dksJ16_copyOf_0 1 rfl rfl)
theorem dJ16_copyOf_2 : decode cJ16_copyOf 2 = .ok (.aload_n 0, 1) := dk_42 (dk_at dksJ16_copyOf_0 2 rfl rfl)
theorem dJ16_copyOf_3 : decode cJ16_copyOf 3 = .ok (.invokevirtual 86, 3) := dk_182 0 86 (dk_at dksJ16_copyOf_0 3 rfl rfl)
theorem dJ16_copyOf_6 : decode cJ16_copyOf 6 = .ok (.invokestatic 300, 3) := dk_184 1 44 (dk_at dksJ16_copyOf_0 6 rfl rfl)
theorem dJ16_copyOf_9 : decode cJ16_copyOf 9 = .ok (.areturn, 1) := dk_176 (dk_at dksJ16_copyOf_0 9 rfl rfl)
abbrev cJ16_copyOf_2 : ByteArray := prog_50_method_120_code
def yJ16_copyOf_2 : MethodName := ⟨RJ16, "copyOf", "([Ljava/lang/Object;ILjava/lang/Class;)[Ljava/lang/Object;"⟩
def dkwJ16_copyOf_2_1 : List UInt8 := [78, 42, 3, 45, 3, 42, 190, 27, 184, 1, 48, 184, 0, 150, 45, 176]
abbrev dktJ16_copyOf_2_1 : List UInt8 := dkwJ16_copyOf_2_1 ++ []
def dkwJ16_copyOf_2_0 : List UInt8 := [44, 18, 110, 166, 0, 10, 27, 189, 0, 2, 167, 0, 14, 44, 182, 0, 90, 27, 184, 0, 95, 192, 0, 110]
abbrev dktJ16_copyOf_2_0 : List UInt8 := dkwJ16_copyOf_2_0 ++ dktJ16_copyOf_2_1
theorem dksJ16_copyOf_2_0 : cJ16_copyOf_2.data.toList.drop 0 = dktJ16_copyOf_2_0 := by decide +kernel
theorem dksJ16_copyOf_2_1 : cJ16_copyOf_2.data.toList.drop 24 = dktJ16_copyOf_2_1 := dk_seg dksJ16_copyOf_2_0 24 rfl rfl
theorem dJ16_copyOf_2_0 : decode cJ16_copyOf_2 0 = .ok (.aload_n 2, 1) := dk_44 (dk_at dksJ16_copyOf_2_0 0 rfl rfl)
theorem dJ16_copyOf_2_1 : decode cJ16_copyOf_2 1 = .ok (.ldc 110, 2) := dk_18 110 (dk_at dksJ16_copyOf_2_0 1 rfl rfl)
theorem dJ16_copyOf_2_3 : decode cJ16_copyOf_2 3 = .ok (.if_acmp .ne 10, 3) := dk_166 0 10 (dk_at dksJ16_copyOf_2_0 3 rfl rfl)
theorem dJ16_copyOf_2_6 : decode cJ16_copyOf_2 6 = .ok (.iload_n 1, 1) := dk_27 (dk_at dksJ16_copyOf_2_0 6 rfl rfl)
theorem dJ16_copyOf_2_7 : decode cJ16_copyOf_2 7 = .ok (.anewarray 2, 3) := dk_189 0 2 (dk_at dksJ16_copyOf_2_0 7 rfl rfl)
theorem dJ16_copyOf_2_10 : decode cJ16_copyOf_2 10 = .ok (.goto 14, 3) := dk_167 0 14 (dk_at dksJ16_copyOf_2_0 10 rfl rfl)
theorem dJ16_copyOf_2_13 : decode cJ16_copyOf_2 13 = .ok (.aload_n 2, 1) := dk_44 (dk_at dksJ16_copyOf_2_0 13 rfl rfl)
theorem dJ16_copyOf_2_14 : decode cJ16_copyOf_2 14 = .ok (.invokevirtual 90, 3) := dk_182 0 90 (dk_at dksJ16_copyOf_2_0 14 rfl rfl)
theorem dJ16_copyOf_2_17 : decode cJ16_copyOf_2 17 = .ok (.iload_n 1, 1) := dk_27 (dk_at dksJ16_copyOf_2_0 17 rfl rfl)
theorem dJ16_copyOf_2_18 : decode cJ16_copyOf_2 18 = .ok (.invokestatic 95, 3) := dk_184 0 95 (dk_at dksJ16_copyOf_2_0 18 rfl rfl)
theorem dJ16_copyOf_2_21 : decode cJ16_copyOf_2 21 = .ok (.checkcast 110, 3) := dk_192 0 110 (dk_at dksJ16_copyOf_2_0 21 rfl rfl)
theorem dJ16_copyOf_2_24 : decode cJ16_copyOf_2 24 = .ok (.astore_n 3, 1) := dk_78 (dk_at dksJ16_copyOf_2_1 0 rfl rfl)
theorem dJ16_copyOf_2_25 : decode cJ16_copyOf_2 25 = .ok (.aload_n 0, 1) := dk_42 (dk_at dksJ16_copyOf_2_1 1 rfl rfl)
theorem dJ16_copyOf_2_26 : decode cJ16_copyOf_2 26 = .ok (.iconst 0, 1) := dk_3 (dk_at dksJ16_copyOf_2_1 2 rfl rfl)
theorem dJ16_copyOf_2_27 : decode cJ16_copyOf_2 27 = .ok (.aload_n 3, 1) := dk_45 (dk_at dksJ16_copyOf_2_1 3 rfl rfl)
theorem dJ16_copyOf_2_28 : decode cJ16_copyOf_2 28 = .ok (.iconst 0, 1) := dk_3 (dk_at dksJ16_copyOf_2_1 4 rfl rfl)
theorem dJ16_copyOf_2_29 : decode cJ16_copyOf_2 29 = .ok (.aload_n 0, 1) := dk_42 (dk_at dksJ16_copyOf_2_1 5 rfl rfl)
theorem dJ16_copyOf_2_30 : decode cJ16_copyOf_2 30 = .ok (.arraylength, 1) := dk_190 (dk_at dksJ16_copyOf_2_1 6 rfl rfl)
theorem dJ16_copyOf_2_31 : decode cJ16_copyOf_2 31 = .ok (.iload_n 1, 1) := dk_27 (dk_at dksJ16_copyOf_2_1 7 rfl rfl)
theorem dJ16_copyOf_2_32 : decode cJ16_copyOf_2 32 = .ok (.invokestatic 304, 3) := dk_184 1 48 (dk_at dksJ16_copyOf_2_1 8 rfl rfl)
theorem dJ16_copyOf_2_35 : decode cJ16_copyOf_2 35 = .ok (.invokestatic 150, 3) := dk_184 0 150 (dk_at dksJ16_copyOf_2_1 11 rfl rfl)
theorem dJ16_copyOf_2_38 : decode cJ16_copyOf_2 38 = .ok (.aload_n 3, 1) := dk_45 (dk_at dksJ16_copyOf_2_1 14 rfl rfl)
theorem dJ16_copyOf_2_39 : decode cJ16_copyOf_2 39 = .ok (.areturn, 1) := dk_176 (dk_at dksJ16_copyOf_2_1 15 rfl rfl)
abbrev cJ16_copyOf_3 : ByteArray := prog_50_method_121_code
def yJ16_copyOf_3 : MethodName := ⟨RJ16, "copyOf", "([BI)[B"⟩
def dkwJ16_copyOf_3_1 : List UInt8 := [27, 184, 1, 48, 184, 0, 150, 44, 176]
abbrev dktJ16_copyOf_3_1 : List UInt8 := dkwJ16_copyOf_3_1 ++ []
def dkwJ16_copyOf_3_0 : List UInt8 := [27, 42, 190, 160, 0, 11, 42, 182, 1, 54, 192, 1, 55, 176, 27, 188, 8, 77, 42, 3, 44, 3, 42, 190]
abbrev dktJ16_copyOf_3_0 : List UInt8 := dkwJ16_copyOf_3_0 ++ dktJ16_copyOf_3_1
theorem dksJ16_copyOf_3_0 : cJ16_copyOf_3.data.toList.drop 0 = dktJ16_copyOf_3_0 := by decide +kernel
theorem dksJ16_copyOf_3_1 : cJ16_copyOf_3.data.toList.drop 24 = dktJ16_copyOf_3_1 := dk_seg dksJ16_copyOf_3_0 24 rfl rfl
theorem dJ16_copyOf_3_0 : decode cJ16_copyOf_3 0 = .ok (.iload_n 1, 1) := dk_27 (dk_at dksJ16_copyOf_3_0 0 rfl rfl)
theorem dJ16_copyOf_3_1 : decode cJ16_copyOf_3 1 = .ok (.aload_n 0, 1) := dk_42 (dk_at dksJ16_copyOf_3_0 1 rfl rfl)
theorem dJ16_copyOf_3_2 : decode cJ16_copyOf_3 2 = .ok (.arraylength, 1) := dk_190 (dk_at dksJ16_copyOf_3_0 2 rfl rfl)
theorem dJ16_copyOf_3_3 : decode cJ16_copyOf_3 3 = .ok (.if_icmp .ne 11, 3) := dk_160 0 11 (dk_at dksJ16_copyOf_3_0 3 rfl rfl)
theorem dJ16_copyOf_3_6 : decode cJ16_copyOf_3 6 = .ok (.aload_n 0, 1) := dk_42 (dk_at dksJ16_copyOf_3_0 6 rfl rfl)
theorem dJ16_copyOf_3_7 : decode cJ16_copyOf_3 7 = .ok (.invokevirtual 310, 3) := dk_182 1 54 (dk_at dksJ16_copyOf_3_0 7 rfl rfl)
theorem dJ16_copyOf_3_10 : decode cJ16_copyOf_3 10 = .ok (.checkcast 311, 3) := dk_192 1 55 (dk_at dksJ16_copyOf_3_0 10 rfl rfl)
theorem dJ16_copyOf_3_13 : decode cJ16_copyOf_3 13 = .ok (.areturn, 1) := dk_176 (dk_at dksJ16_copyOf_3_0 13 rfl rfl)
theorem dJ16_copyOf_3_14 : decode cJ16_copyOf_3 14 = .ok (.iload_n 1, 1) := dk_27 (dk_at dksJ16_copyOf_3_0 14 rfl rfl)
theorem dJ16_copyOf_3_15 : decode cJ16_copyOf_3 15 = .ok (.newarray .byte, 2) := dk_188_8 (dk_at dksJ16_copyOf_3_0 15 rfl rfl)
theorem dJ16_copyOf_3_17 : decode cJ16_copyOf_3 17 = .ok (.astore_n 2, 1) := dk_77 (dk_at dksJ16_copyOf_3_0 17 rfl rfl)
theorem dJ16_copyOf_3_18 : decode cJ16_copyOf_3 18 = .ok (.aload_n 0, 1) := dk_42 (dk_at dksJ16_copyOf_3_0 18 rfl rfl)
theorem dJ16_copyOf_3_19 : decode cJ16_copyOf_3 19 = .ok (.iconst 0, 1) := dk_3 (dk_at dksJ16_copyOf_3_0 19 rfl rfl)
theorem dJ16_copyOf_3_20 : decode cJ16_copyOf_3 20 = .ok (.aload_n 2, 1) := dk_44 (dk_at dksJ16_copyOf_3_0 20 rfl rfl)
theorem dJ16_copyOf_3_21 : decode cJ16_copyOf_3 21 = .ok (.iconst 0, 1) := dk_3 (dk_at dksJ16_copyOf_3_0 21 rfl rfl)
theorem dJ16_copyOf_3_22 : decode cJ16_copyOf_3 22 = .ok (.aload_n 0, 1) := dk_42 (dk_at dksJ16_copyOf_3_0 22 rfl rfl)
theorem dJ16_copyOf_3_23 : decode cJ16_copyOf_3 23 = .ok (.arraylength, 1) := dk_190 (dk_at dksJ16_copyOf_3_0 23 rfl rfl)
theorem dJ16_copyOf_3_24 : decode cJ16_copyOf_3 24 = .ok (.iload_n 1, 1) := dk_27 (dk_at dksJ16_copyOf_3_1 0 rfl rfl)
theorem dJ16_copyOf_3_25 : decode cJ16_copyOf_3 25 = .ok (.invokestatic 304, 3) := dk_184 1 48 (dk_at dksJ16_copyOf_3_1 1 rfl rfl)
theorem dJ16_copyOf_3_28 : decode cJ16_copyOf_3 28 = .ok (.invokestatic 150, 3) := dk_184 0 150 (dk_at dksJ16_copyOf_3_1 4 rfl rfl)
theorem dJ16_copyOf_3_31 : decode cJ16_copyOf_3 31 = .ok (.aload_n 2, 1) := dk_44 (dk_at dksJ16_copyOf_3_1 7 rfl rfl)
theorem dJ16_copyOf_3_32 : decode cJ16_copyOf_3 32 = .ok (.areturn, 1) := dk_176 (dk_at dksJ16_copyOf_3_1 8 rfl rfl)
abbrev cJ16_fill : ByteArray := prog_50_method_110_code
def yJ16_fill : MethodName := ⟨RJ16, "fill", "([BIIB)V"⟩
def dkwJ16_fill_1 : List UInt8 := [167, 255, 242, 177]
abbrev dktJ16_fill_1 : List UInt8 := dkwJ16_fill_1 ++ []
def dkwJ16_fill_0 : List UInt8 := [42, 190, 27, 28, 184, 0, 13, 27, 54, 4, 21, 4, 28, 162, 0, 14, 42, 21, 4, 29, 84, 132, 4, 1]
abbrev dktJ16_fill_0 : List UInt8 := dkwJ16_fill_0 ++ dktJ16_fill_1
theorem dksJ16_fill_0 : cJ16_fill.data.toList.drop 0 = dktJ16_fill_0 := by decide +kernel
theorem dksJ16_fill_1 : cJ16_fill.data.toList.drop 24 = dktJ16_fill_1 := dk_seg dksJ16_fill_0 24 rfl rfl
theorem dJ16_fill_0 : decode cJ16_fill 0 = .ok (.aload_n 0, 1) := dk_42 (dk_at dksJ16_fill_0 0 rfl rfl)
theorem dJ16_fill_1 : decode cJ16_fill 1 = .ok (.arraylength, 1) := dk_190 (dk_at dksJ16_fill_0 1 rfl rfl)
theorem dJ16_fill_2 : decode cJ16_fill 2 = .ok (.iload_n 1, 1) := dk_27 (dk_at dksJ16_fill_0 2 rfl rfl)
theorem dJ16_fill_3 : decode cJ16_fill 3 = .ok (.iload_n 2, 1) := dk_28 (dk_at dksJ16_fill_0 3 rfl rfl)
theorem dJ16_fill_4 : decode cJ16_fill 4 = .ok (.invokestatic 13, 3) := dk_184 0 13 (dk_at dksJ16_fill_0 4 rfl rfl)
theorem dJ16_fill_7 : decode cJ16_fill 7 = .ok (.iload_n 1, 1) := dk_27 (dk_at dksJ16_fill_0 7 rfl rfl)
theorem dJ16_fill_8 : decode cJ16_fill 8 = .ok (.istore 4, 2) := dk_54 4 (dk_at dksJ16_fill_0 8 rfl rfl)
theorem dJ16_fill_10 : decode cJ16_fill 10 = .ok (.iload 4, 2) := dk_21 4 (dk_at dksJ16_fill_0 10 rfl rfl)
theorem dJ16_fill_12 : decode cJ16_fill 12 = .ok (.iload_n 2, 1) := dk_28 (dk_at dksJ16_fill_0 12 rfl rfl)
theorem dJ16_fill_13 : decode cJ16_fill 13 = .ok (.if_icmp .ge 14, 3) := dk_162 0 14 (dk_at dksJ16_fill_0 13 rfl rfl)
theorem dJ16_fill_16 : decode cJ16_fill 16 = .ok (.aload_n 0, 1) := dk_42 (dk_at dksJ16_fill_0 16 rfl rfl)
theorem dJ16_fill_17 : decode cJ16_fill 17 = .ok (.iload 4, 2) := dk_21 4 (dk_at dksJ16_fill_0 17 rfl rfl)
theorem dJ16_fill_19 : decode cJ16_fill 19 = .ok (.iload_n 3, 1) := dk_29 (dk_at dksJ16_fill_0 19 rfl rfl)
theorem dJ16_fill_20 : decode cJ16_fill 20 = .ok (.bastore, 1) := dk_84 (dk_at dksJ16_fill_0 20 rfl rfl)
theorem dJ16_fill_21 : decode cJ16_fill 21 = .ok (.iinc 4 1, 3) := dk_132 4 1 (dk_at dksJ16_fill_0 21 rfl rfl)
theorem dJ16_fill_24 : decode cJ16_fill 24 = .ok (.goto (-14), 3) := dk_167 255 242 (dk_at dksJ16_fill_1 0 rfl rfl)
theorem dJ16_fill_27 : decode cJ16_fill 27 = .ok (.return_, 1) := dk_177 (dk_at dksJ16_fill_1 3 rfl rfl)
abbrev cJ16_rangeCheck : ByteArray := prog_50_method_30_code
def yJ16_rangeCheck : MethodName := ⟨RJ16, "rangeCheck", "(III)V"⟩
def dkwJ16_rangeCheck_3 : List UInt8 := [183, 0, 70, 191, 177]
abbrev dktJ16_rangeCheck_3 : List UInt8 := dkwJ16_rangeCheck_3 ++ []
def dkwJ16_rangeCheck_2 : List UInt8 := [27, 156, 0, 12, 187, 0, 68, 89, 27, 183, 0, 70, 191, 28, 26, 164, 0, 12, 187, 0, 68, 89, 28]
abbrev dktJ16_rangeCheck_2 : List UInt8 := dkwJ16_rangeCheck_2 ++ dktJ16_rangeCheck_3
def dkwJ16_rangeCheck_1 : List UInt8 := [182, 0, 54, 18, 57, 182, 0, 50, 28, 182, 0, 54, 18, 59, 182, 0, 50, 182, 0, 61, 183, 0, 65, 191]
abbrev dktJ16_rangeCheck_1 : List UInt8 := dkwJ16_rangeCheck_1 ++ dktJ16_rangeCheck_2
def dkwJ16_rangeCheck_0 : List UInt8 := [27, 28, 164, 0, 44, 187, 0, 43, 89, 187, 0, 45, 89, 183, 0, 47, 18, 48, 182, 0, 50, 27]
abbrev dktJ16_rangeCheck_0 : List UInt8 := dkwJ16_rangeCheck_0 ++ dktJ16_rangeCheck_1
theorem dksJ16_rangeCheck_0 : cJ16_rangeCheck.data.toList.drop 0 = dktJ16_rangeCheck_0 := by decide +kernel
theorem dksJ16_rangeCheck_1 : cJ16_rangeCheck.data.toList.drop 22 = dktJ16_rangeCheck_1 := dk_seg dksJ16_rangeCheck_0 22 rfl rfl
theorem dksJ16_rangeCheck_2 : cJ16_rangeCheck.data.toList.drop 46 = dktJ16_rangeCheck_2 := dk_seg dksJ16_rangeCheck_1 24 rfl rfl
theorem dksJ16_rangeCheck_3 : cJ16_rangeCheck.data.toList.drop 69 = dktJ16_rangeCheck_3 := dk_seg dksJ16_rangeCheck_2 23 rfl rfl
theorem dJ16_rangeCheck_0 : decode cJ16_rangeCheck 0 = .ok (.iload_n 1, 1) := dk_27 (dk_at dksJ16_rangeCheck_0 0 rfl rfl)
theorem dJ16_rangeCheck_1 : decode cJ16_rangeCheck 1 = .ok (.iload_n 2, 1) := dk_28 (dk_at dksJ16_rangeCheck_0 1 rfl rfl)
theorem dJ16_rangeCheck_2 : decode cJ16_rangeCheck 2 = .ok (.if_icmp .le 44, 3) := dk_164 0 44 (dk_at dksJ16_rangeCheck_0 2 rfl rfl)
theorem dJ16_rangeCheck_5 : decode cJ16_rangeCheck 5 = .ok (.new 43, 3) := dk_187 0 43 (dk_at dksJ16_rangeCheck_0 5 rfl rfl)
theorem dJ16_rangeCheck_8 : decode cJ16_rangeCheck 8 = .ok (.dup, 1) := dk_89 (dk_at dksJ16_rangeCheck_0 8 rfl rfl)
theorem dJ16_rangeCheck_9 : decode cJ16_rangeCheck 9 = .ok (.new 45, 3) := dk_187 0 45 (dk_at dksJ16_rangeCheck_0 9 rfl rfl)
theorem dJ16_rangeCheck_12 : decode cJ16_rangeCheck 12 = .ok (.dup, 1) := dk_89 (dk_at dksJ16_rangeCheck_0 12 rfl rfl)
theorem dJ16_rangeCheck_13 : decode cJ16_rangeCheck 13 = .ok (.invokespecial 47, 3) := dk_183 0 47 (dk_at dksJ16_rangeCheck_0 13 rfl rfl)
theorem dJ16_rangeCheck_16 : decode cJ16_rangeCheck 16 = .ok (.ldc 48, 2) := dk_18 48 (dk_at dksJ16_rangeCheck_0 16 rfl rfl)
theorem dJ16_rangeCheck_18 : decode cJ16_rangeCheck 18 = .ok (.invokevirtual 50, 3) := dk_182 0 50 (dk_at dksJ16_rangeCheck_0 18 rfl rfl)
theorem dJ16_rangeCheck_21 : decode cJ16_rangeCheck 21 = .ok (.iload_n 1, 1) := dk_27 (dk_at dksJ16_rangeCheck_0 21 rfl rfl)
theorem dJ16_rangeCheck_22 : decode cJ16_rangeCheck 22 = .ok (.invokevirtual 54, 3) := dk_182 0 54 (dk_at dksJ16_rangeCheck_1 0 rfl rfl)
theorem dJ16_rangeCheck_25 : decode cJ16_rangeCheck 25 = .ok (.ldc 57, 2) := dk_18 57 (dk_at dksJ16_rangeCheck_1 3 rfl rfl)
theorem dJ16_rangeCheck_27 : decode cJ16_rangeCheck 27 = .ok (.invokevirtual 50, 3) := dk_182 0 50 (dk_at dksJ16_rangeCheck_1 5 rfl rfl)
theorem dJ16_rangeCheck_30 : decode cJ16_rangeCheck 30 = .ok (.iload_n 2, 1) := dk_28 (dk_at dksJ16_rangeCheck_1 8 rfl rfl)
theorem dJ16_rangeCheck_31 : decode cJ16_rangeCheck 31 = .ok (.invokevirtual 54, 3) := dk_182 0 54 (dk_at dksJ16_rangeCheck_1 9 rfl rfl)
theorem dJ16_rangeCheck_34 : decode cJ16_rangeCheck 34 = .ok (.ldc 59, 2) := dk_18 59 (dk_at dksJ16_rangeCheck_1 12 rfl rfl)
theorem dJ16_rangeCheck_36 : decode cJ16_rangeCheck 36 = .ok (.invokevirtual 50, 3) := dk_182 0 50 (dk_at dksJ16_rangeCheck_1 14 rfl rfl)
theorem dJ16_rangeCheck_39 : decode cJ16_rangeCheck 39 = .ok (.invokevirtual 61, 3) := dk_182 0 61 (dk_at dksJ16_rangeCheck_1 17 rfl rfl)
theorem dJ16_rangeCheck_42 : decode cJ16_rangeCheck 42 = .ok (.invokespecial 65, 3) := dk_183 0 65 (dk_at dksJ16_rangeCheck_1 20 rfl rfl)
theorem dJ16_rangeCheck_45 : decode cJ16_rangeCheck 45 = .ok (.athrow, 1) := dk_191 (dk_at dksJ16_rangeCheck_1 23 rfl rfl)
theorem dJ16_rangeCheck_46 : decode cJ16_rangeCheck 46 = .ok (.iload_n 1, 1) := dk_27 (dk_at dksJ16_rangeCheck_2 0 rfl rfl)
theorem dJ16_rangeCheck_47 : decode cJ16_rangeCheck 47 = .ok (.ifCond .ge 12, 3) := dk_156 0 12 (dk_at dksJ16_rangeCheck_2 1 rfl rfl)
theorem dJ16_rangeCheck_50 : decode cJ16_rangeCheck 50 = .ok (.new 68, 3) := dk_187 0 68 (dk_at dksJ16_rangeCheck_2 4 rfl rfl)
theorem dJ16_rangeCheck_53 : decode cJ16_rangeCheck 53 = .ok (.dup, 1) := dk_89 (dk_at dksJ16_rangeCheck_2 7 rfl rfl)
theorem dJ16_rangeCheck_54 : decode cJ16_rangeCheck 54 = .ok (.iload_n 1, 1) := dk_27 (dk_at dksJ16_rangeCheck_2 8 rfl rfl)
theorem dJ16_rangeCheck_55 : decode cJ16_rangeCheck 55 = .ok (.invokespecial 70, 3) := dk_183 0 70 (dk_at dksJ16_rangeCheck_2 9 rfl rfl)
theorem dJ16_rangeCheck_58 : decode cJ16_rangeCheck 58 = .ok (.athrow, 1) := dk_191 (dk_at dksJ16_rangeCheck_2 12 rfl rfl)
theorem dJ16_rangeCheck_59 : decode cJ16_rangeCheck 59 = .ok (.iload_n 2, 1) := dk_28 (dk_at dksJ16_rangeCheck_2 13 rfl rfl)
theorem dJ16_rangeCheck_60 : decode cJ16_rangeCheck 60 = .ok (.iload_n 0, 1) := dk_26 (dk_at dksJ16_rangeCheck_2 14 rfl rfl)
theorem dJ16_rangeCheck_61 : decode cJ16_rangeCheck 61 = .ok (.if_icmp .le 12, 3) := dk_164 0 12 (dk_at dksJ16_rangeCheck_2 15 rfl rfl)
theorem dJ16_rangeCheck_64 : decode cJ16_rangeCheck 64 = .ok (.new 68, 3) := dk_187 0 68 (dk_at dksJ16_rangeCheck_2 18 rfl rfl)
theorem dJ16_rangeCheck_67 : decode cJ16_rangeCheck 67 = .ok (.dup, 1) := dk_89 (dk_at dksJ16_rangeCheck_2 21 rfl rfl)
theorem dJ16_rangeCheck_68 : decode cJ16_rangeCheck 68 = .ok (.iload_n 2, 1) := dk_28 (dk_at dksJ16_rangeCheck_2 22 rfl rfl)
theorem dJ16_rangeCheck_69 : decode cJ16_rangeCheck 69 = .ok (.invokespecial 70, 3) := dk_183 0 70 (dk_at dksJ16_rangeCheck_3 0 rfl rfl)
theorem dJ16_rangeCheck_72 : decode cJ16_rangeCheck 72 = .ok (.athrow, 1) := dk_191 (dk_at dksJ16_rangeCheck_3 3 rfl rfl)
theorem dJ16_rangeCheck_73 : decode cJ16_rangeCheck 73 = .ok (.return_, 1) := dk_177 (dk_at dksJ16_rangeCheck_3 4 rfl rfl)
theorem q121 : (Jvm.Cond.initialized "java/util/Arrays") ∈ lw_all := lw_g (lw_at lw_m1 26 rfl) rfl
theorem q691 : (Jvm.Cond.static ({ cls := "java/util/Arrays", name := "copyOf", desc := "([Ljava/lang/Object;I)[Ljava/lang/Object;" } : Jvm.MethodName)) ∈ lw_all := lw_g (lw_at lw_m3 116 rfl) rfl
theorem q692 : (Jvm.Cond.code ({ cls := "java/util/Arrays", name := "copyOf", desc := "([Ljava/lang/Object;I)[Ljava/lang/Object;" } : Jvm.MethodName) prog_50_method_119_code (2 : Nat) (Option.some (Jvm.ClassFile.FieldType.array (Jvm.ClassFile.FieldType.object "java/lang/Object")))) ∈ lw_all := lw_g (lw_at lw_m3 117 rfl) rfl
theorem q693 : (Jvm.Cond.methodLink "java/util/Arrays" (86 : Nat) ({ cls := "java/lang/Object", name := "getClass", desc := "()Ljava/lang/Class;" } : Jvm.MethodName)) ∈ lw_all := lw_g (lw_at lw_m3 118 rfl) rfl
theorem q723 : (Jvm.Cond.methodLink "java/util/Arrays" (300 : Nat) ({ cls := "java/util/Arrays", name := "copyOf", desc := "([Ljava/lang/Object;ILjava/lang/Class;)[Ljava/lang/Object;" } : Jvm.MethodName)) ∈ lw_all := lw_g (lw_at lw_m3 148 rfl) rfl
theorem q724 : (Jvm.Cond.static ({ cls := "java/util/Arrays", name := "copyOf", desc := "([Ljava/lang/Object;ILjava/lang/Class;)[Ljava/lang/Object;" } : Jvm.MethodName)) ∈ lw_all := lw_g (lw_at lw_m3 149 rfl) rfl
theorem q725 : (Jvm.Cond.code ({ cls := "java/util/Arrays", name := "copyOf", desc := "([Ljava/lang/Object;ILjava/lang/Class;)[Ljava/lang/Object;" } : Jvm.MethodName) prog_50_method_120_code (4 : Nat) (Option.some (Jvm.ClassFile.FieldType.array (Jvm.ClassFile.FieldType.object "java/lang/Object")))) ∈ lw_all := lw_g (lw_at lw_m3 150 rfl) rfl
theorem q726 : (Jvm.Cond.classLink "java/util/Arrays" (110 : Nat) "[Ljava/lang/Object;") ∈ lw_all := lw_g (lw_at lw_m3 151 rfl) rfl
theorem q727 : (Jvm.Cond.classLink "java/util/Arrays" (2 : Nat) "java/lang/Object") ∈ lw_all := lw_g (lw_at lw_m3 152 rfl) rfl
theorem q728 : (Jvm.Cond.methodLink "java/util/Arrays" (304 : Nat) ({ cls := "java/lang/Math", name := "min", desc := "(II)I" } : Jvm.MethodName)) ∈ lw_all := lw_g (lw_at lw_m3 153 rfl) rfl
theorem q731 : (Jvm.Cond.methodLink "java/util/Arrays" (150 : Nat) ({ cls := "java/lang/System", name := "arraycopy", desc := "(Ljava/lang/Object;ILjava/lang/Object;II)V" } : Jvm.MethodName)) ∈ lw_all := lw_g (lw_at lw_m3 156 rfl) rfl
theorem q1798 : (Jvm.Cond.static ({ cls := "java/util/Arrays", name := "copyOf", desc := "([BI)[B" } : Jvm.MethodName)) ∈ lw_all := lw_g (lw_at lw_m8 23 rfl) rfl
theorem q1799 : (Jvm.Cond.code ({ cls := "java/util/Arrays", name := "copyOf", desc := "([BI)[B" } : Jvm.MethodName) prog_50_method_121_code (3 : Nat) (Option.some (Jvm.ClassFile.FieldType.array Jvm.ClassFile.FieldType.byte))) ∈ lw_all := lw_g (lw_at lw_m8 24 rfl) rfl
theorem q1800 : (Jvm.Cond.methodLink "java/util/Arrays" (310 : Nat) ({ cls := "[B", name := "clone", desc := "()Ljava/lang/Object;" } : Jvm.MethodName)) ∈ lw_all := lw_g (lw_at lw_m8 25 rfl) rfl
theorem q1804 : (Jvm.Cond.classLink "java/util/Arrays" (311 : Nat) "[B") ∈ lw_all := lw_g (lw_at lw_m8 29 rfl) rfl
theorem q1855 : (Jvm.Cond.static ({ cls := "java/util/Arrays", name := "fill", desc := "([BIIB)V" } : Jvm.MethodName)) ∈ lw_all := lw_g (lw_at lw_m8 80 rfl) rfl
theorem q1856 : (Jvm.Cond.code ({ cls := "java/util/Arrays", name := "fill", desc := "([BIIB)V" } : Jvm.MethodName) prog_50_method_110_code (5 : Nat) (Option.none : Option Jvm.ClassFile.FieldType)) ∈ lw_all := lw_g (lw_at lw_m8 81 rfl) rfl
theorem q1857 : (Jvm.Cond.methodLink "java/util/Arrays" (13 : Nat) ({ cls := "java/util/Arrays", name := "rangeCheck", desc := "(III)V" } : Jvm.MethodName)) ∈ lw_all := lw_g (lw_at lw_m8 82 rfl) rfl
theorem q1858 : (Jvm.Cond.static ({ cls := "java/util/Arrays", name := "rangeCheck", desc := "(III)V" } : Jvm.MethodName)) ∈ lw_all := lw_g (lw_at lw_m8 83 rfl) rfl
theorem q1859 : (Jvm.Cond.code ({ cls := "java/util/Arrays", name := "rangeCheck", desc := "(III)V" } : Jvm.MethodName) prog_50_method_30_code (3 : Nat) (Option.none : Option Jvm.ClassFile.FieldType)) ∈ lw_all := lw_g (lw_at lw_m8 84 rfl) rfl
abbrev cJ17_init : ByteArray := prog_34_method_1_code
def yJ17_init : MethodName := ⟨RJ17, "<init>", "()V"⟩
theorem dJ17_init_0 : decode cJ17_init 0 = .ok (.aload_n 0, 1) := by decide +kernel
theorem dJ17_init_1 : decode cJ17_init 1 = .ok (.invokespecial 1, 3) := by decide +kernel
theorem dJ17_init_4 : decode cJ17_init 4 = .ok (.return_, 1) := by decide +kernel
theorem q123 : (Jvm.Cond.initialized "java/lang/Number") ∈ lw_all := lw_g (lw_at lw_m1 28 rfl) rfl
theorem q756 : (Jvm.Cond.instanceMethod ({ cls := "java/lang/Number", name := "<init>", desc := "()V" } : Jvm.MethodName)) ∈ lw_all := lw_g (lw_at lw_m3 181 rfl) rfl
theorem q757 : (Jvm.Cond.code ({ cls := "java/lang/Number", name := "<init>", desc := "()V" } : Jvm.MethodName) prog_34_method_1_code (1 : Nat) (Option.none : Option Jvm.ClassFile.FieldType)) ∈ lw_all := lw_g (lw_at lw_m3 182 rfl) rfl
theorem q758 : (Jvm.Cond.methodLink "java/lang/Number" (1 : Nat) ({ cls := "java/lang/Object", name := "<init>", desc := "()V" } : Jvm.MethodName)) ∈ lw_all := lw_g (lw_at lw_m3 183 rfl) rfl
abbrev cJ18_intValue : ByteArray := prog_29_method_27_code
def yJ18_intValue : MethodName := ⟨RJ18, "intValue", "()I"⟩
theorem dJ18_intValue_0 : decode cJ18_intValue 0 = .ok (.aload_n 0, 1) := by decide +kernel
theorem dJ18_intValue_1 : decode cJ18_intValue 1 = .ok (.getfield 205, 3) := by decide +kernel
theorem dJ18_intValue_4 : decode cJ18_intValue 4 = .ok (.ireturn, 1) := by decide +kernel
abbrev cJ18_valueOf : ByteArray := prog_29_method_22_code
def yJ18_valueOf : MethodName := ⟨RJ18, "valueOf", "(I)Ljava/lang/Integer;"⟩
def dkwJ18_valueOf_1 : List UInt8 := [187, 0, 1, 89, 26, 183, 0, 199, 176]
abbrev dktJ18_valueOf_1 : List UInt8 := dkwJ18_valueOf_1 ++ []
def dkwJ18_valueOf_0 : List UInt8 := [26, 16, 128, 161, 0, 20, 26, 178, 0, 191, 163, 0, 13, 178, 0, 195, 26, 17, 0, 128, 96, 50, 176]
abbrev dktJ18_valueOf_0 : List UInt8 := dkwJ18_valueOf_0 ++ dktJ18_valueOf_1
theorem dksJ18_valueOf_0 : cJ18_valueOf.data.toList.drop 0 = dktJ18_valueOf_0 := by decide +kernel
theorem dksJ18_valueOf_1 : cJ18_valueOf.data.toList.drop 23 = dktJ18_valueOf_1 := dk_seg dksJ18_valueOf_0 23 rfl rfl
theorem dJ18_valueOf_0 : decode cJ18_valueOf 0 = .ok (.iload_n 0, 1) := dk_26 (dk_at dksJ18_valueOf_0 0 rfl rfl)
theorem dJ18_valueOf_1 : decode cJ18_valueOf 1 = .ok (.bipush (-128), 2) := dk_16 128 (dk_at dksJ18_valueOf_0 1 rfl rfl)
theorem dJ18_valueOf_3 : decode cJ18_valueOf 3 = .ok (.if_icmp .lt 20, 3) := dk_161 0 20 (dk_at dksJ18_valueOf_0 3 rfl rfl)
theorem dJ18_valueOf_6 : decode cJ18_valueOf 6 = .ok (.iload_n 0, 1) := dk_26 (dk_at dksJ18_valueOf_0 6 rfl rfl)
theorem dJ18_valueOf_7 : decode cJ18_valueOf 7 = .ok (.getstatic 191, 3) := dk_178 0 191 (dk_at dksJ18_valueOf_0 7 rfl rfl)
theorem dJ18_valueOf_10 : decode cJ18_valueOf 10 = .ok (.if_icmp .gt 13, 3) := dk_163 0 13 (dk_at dksJ18_valueOf_0 10 rfl rfl)
theorem dJ18_valueOf_13 : decode cJ18_valueOf 13 = .ok (.getstatic 195, 3) := dk_178 0 195 (dk_at dksJ18_valueOf_0 13 rfl rfl)
theorem dJ18_valueOf_16 : decode cJ18_valueOf 16 = .ok (.iload_n 0, 1) := dk_26 (dk_at dksJ18_valueOf_0 16 rfl rfl)
theorem dJ18_valueOf_17 : decode cJ18_valueOf 17 = .ok (.sipush 128, 3) := dk_17 0 128 (dk_at dksJ18_valueOf_0 17 rfl rfl)
theorem dJ18_valueOf_20 : decode cJ18_valueOf 20 = .ok (.iadd, 1) := dk_96 (dk_at dksJ18_valueOf_0 20 rfl rfl)
theorem dJ18_valueOf_21 : decode cJ18_valueOf 21 = .ok (.aaload, 1) := dk_50 (dk_at dksJ18_valueOf_0 21 rfl rfl)
theorem dJ18_valueOf_22 : decode cJ18_valueOf 22 = .ok (.areturn, 1) := dk_176 (dk_at dksJ18_valueOf_0 22 rfl rfl)
theorem dJ18_valueOf_23 : decode cJ18_valueOf 23 = .ok (.new 1, 3) := dk_187 0 1 (dk_at dksJ18_valueOf_1 0 rfl rfl)
theorem dJ18_valueOf_26 : decode cJ18_valueOf 26 = .ok (.dup, 1) := dk_89 (dk_at dksJ18_valueOf_1 3 rfl rfl)
theorem dJ18_valueOf_27 : decode cJ18_valueOf 27 = .ok (.iload_n 0, 1) := dk_26 (dk_at dksJ18_valueOf_1 4 rfl rfl)
theorem dJ18_valueOf_28 : decode cJ18_valueOf 28 = .ok (.invokespecial 199, 3) := dk_183 0 199 (dk_at dksJ18_valueOf_1 5 rfl rfl)
theorem dJ18_valueOf_31 : decode cJ18_valueOf 31 = .ok (.areturn, 1) := dk_176 (dk_at dksJ18_valueOf_1 8 rfl rfl)
abbrev cJ18_init : ByteArray := prog_29_method_23_code
def yJ18_init : MethodName := ⟨RJ18, "<init>", "(I)V"⟩
def dkwJ18_init_0 : List UInt8 := [42, 183, 0, 202, 42, 27, 181, 0, 205, 177]
abbrev dktJ18_init_0 : List UInt8 := dkwJ18_init_0 ++ []
theorem dksJ18_init_0 : cJ18_init.data.toList.drop 0 = dktJ18_init_0 := by decide +kernel
theorem dJ18_init_0 : decode cJ18_init 0 = .ok (.aload_n 0, 1) := dk_42 (dk_at dksJ18_init_0 0 rfl rfl)
theorem dJ18_init_1 : decode cJ18_init 1 = .ok (.invokespecial 202, 3) := dk_183 0 202 (dk_at dksJ18_init_0 1 rfl rfl)
theorem dJ18_init_4 : decode cJ18_init 4 = .ok (.aload_n 0, 1) := dk_42 (dk_at dksJ18_init_0 4 rfl rfl)
theorem dJ18_init_5 : decode cJ18_init 5 = .ok (.iload_n 1, 1) := dk_27 (dk_at dksJ18_init_0 5 rfl rfl)
theorem dJ18_init_6 : decode cJ18_init 6 = .ok (.putfield 205, 3) := dk_181 0 205 (dk_at dksJ18_init_0 6 rfl rfl)
theorem dJ18_init_9 : decode cJ18_init 9 = .ok (.return_, 1) := dk_177 (dk_at dksJ18_init_0 9 rfl rfl)
abbrev cJ18_compareTo : ByteArray := prog_29_method_63_code
def yJ18_compareTo : MethodName := ⟨RJ18, "compareTo", "(Ljava/lang/Object;)I"⟩
def dkwJ18_compareTo_0 : List UInt8 := [42, 43, 192, 0, 1, 182, 1, 28, 172]
abbrev dktJ18_compareTo_0 : List UInt8 := dkwJ18_compareTo_0 ++ []
theorem dksJ18_compareTo_0 : cJ18_compareTo.data.toList.drop 0 = dktJ18_compareTo_0 := by decide +kernel
theorem dJ18_compareTo_0 : decode cJ18_compareTo 0 = .ok (.aload_n 0, 1) := dk_42 (dk_at dksJ18_compareTo_0 0 rfl rfl)
theorem dJ18_compareTo_1 : decode cJ18_compareTo 1 = .ok (.aload_n 1, 1) := dk_43 (dk_at dksJ18_compareTo_0 1 rfl rfl)
theorem dJ18_compareTo_2 : decode cJ18_compareTo 2 = .ok (.checkcast 1, 3) := dk_192 0 1 (dk_at dksJ18_compareTo_0 2 rfl rfl)
theorem dJ18_compareTo_5 : decode cJ18_compareTo 5 = .ok (.invokevirtual 284, 3) := dk_182 1 28 (dk_at dksJ18_compareTo_0 5 rfl rfl)
theorem dJ18_compareTo_8 : decode cJ18_compareTo 8 = .ok (.ireturn, 1) := dk_172 (dk_at dksJ18_compareTo_0 8 rfl rfl)
abbrev cJ18_compareTo_2 : ByteArray := prog_29_method_39_code
def yJ18_compareTo_2 : MethodName := ⟨RJ18, "compareTo", "(Ljava/lang/Integer;)I"⟩
def dkwJ18_compareTo_2_0 : List UInt8 := [42, 180, 0, 205, 43, 180, 0, 205, 184, 1, 3, 172]
abbrev dktJ18_compareTo_2_0 : List UInt8 := dkwJ18_compareTo_2_0 ++ []
theorem dksJ18_compareTo_2_0 : cJ18_compareTo_2.data.toList.drop 0 = dktJ18_compareTo_2_0 := by decide +kernel
theorem dJ18_compareTo_2_0 : decode cJ18_compareTo_2 0 = .ok (.aload_n 0, 1) := dk_42 (dk_at dksJ18_compareTo_2_0 0 rfl rfl)
theorem dJ18_compareTo_2_1 : decode cJ18_compareTo_2 1 = .ok (.getfield 205, 3) := dk_180 0 205 (dk_at dksJ18_compareTo_2_0 1 rfl rfl)
theorem dJ18_compareTo_2_4 : decode cJ18_compareTo_2 4 = .ok (.aload_n 1, 1) := dk_43 (dk_at dksJ18_compareTo_2_0 4 rfl rfl)
theorem dJ18_compareTo_2_5 : decode cJ18_compareTo_2 5 = .ok (.getfield 205, 3) := dk_180 0 205 (dk_at dksJ18_compareTo_2_0 5 rfl rfl)
theorem dJ18_compareTo_2_8 : decode cJ18_compareTo_2 8 = .ok (.invokestatic 259, 3) := dk_184 1 3 (dk_at dksJ18_compareTo_2_0 8 rfl rfl)
theorem dJ18_compareTo_2_11 : decode cJ18_compareTo_2 11 = .ok (.ireturn, 1) := dk_172 (dk_at dksJ18_compareTo_2_0 11 rfl rfl)
abbrev cJ18_compare : ByteArray := prog_29_method_40_code
def yJ18_compare : MethodName := ⟨RJ18, "compare", "(II)I"⟩
def dkwJ18_compare_0 : List UInt8 := [26, 27, 162, 0, 7, 2, 167, 0, 13, 26, 27, 160, 0, 7, 3, 167, 0, 4, 4, 172]
abbrev dktJ18_compare_0 : List UInt8 := dkwJ18_compare_0 ++ []
theorem dksJ18_compare_0 : cJ18_compare.data.toList.drop 0 = dktJ18_compare_0 := by decide +kernel
theorem dJ18_compare_0 : decode cJ18_compare 0 = .ok (.iload_n 0, 1) := dk_26 (dk_at dksJ18_compare_0 0 rfl rfl)
theorem dJ18_compare_1 : decode cJ18_compare 1 = .ok (.iload_n 1, 1) := dk_27 (dk_at dksJ18_compare_0 1 rfl rfl)
theorem dJ18_compare_2 : decode cJ18_compare 2 = .ok (.if_icmp .ge 7, 3) := dk_162 0 7 (dk_at dksJ18_compare_0 2 rfl rfl)
theorem dJ18_compare_5 : decode cJ18_compare 5 = .ok (.iconst (-1), 1) := dk_2 (dk_at dksJ18_compare_0 5 rfl rfl)
theorem dJ18_compare_6 : decode cJ18_compare 6 = .ok (.goto 13, 3) := dk_167 0 13 (dk_at dksJ18_compare_0 6 rfl rfl)
theorem dJ18_compare_9 : decode cJ18_compare 9 = .ok (.iload_n 0, 1) := dk_26 (dk_at dksJ18_compare_0 9 rfl rfl)
theorem dJ18_compare_10 : decode cJ18_compare 10 = .ok (.iload_n 1, 1) := dk_27 (dk_at dksJ18_compare_0 10 rfl rfl)
theorem dJ18_compare_11 : decode cJ18_compare 11 = .ok (.if_icmp .ne 7, 3) := dk_160 0 7 (dk_at dksJ18_compare_0 11 rfl rfl)
theorem dJ18_compare_14 : decode cJ18_compare 14 = .ok (.iconst 0, 1) := dk_3 (dk_at dksJ18_compare_0 14 rfl rfl)
theorem dJ18_compare_15 : decode cJ18_compare 15 = .ok (.goto 4, 3) := dk_167 0 4 (dk_at dksJ18_compare_0 15 rfl rfl)
theorem dJ18_compare_18 : decode cJ18_compare 18 = .ok (.iconst 1, 1) := dk_4 (dk_at dksJ18_compare_0 18 rfl rfl)
theorem dJ18_compare_19 : decode cJ18_compare 19 = .ok (.ireturn, 1) := dk_172 (dk_at dksJ18_compare_0 19 rfl rfl)
abbrev cJ18_numberOfLeadingZeros : ByteArray := prog_29_method_47_code
def yJ18_numberOfLeadingZeros : MethodName := ⟨RJ18, "numberOfLeadingZeros", "(I)I"⟩
def dkwJ18_numberOfLeadingZeros_3 : List UInt8 := [5, 124, 59, 27, 26, 4, 124, 100, 172]
abbrev dktJ18_numberOfLeadingZeros_3 : List UInt8 := dkwJ18_numberOfLeadingZeros_3 ++ []
def dkwJ18_numberOfLeadingZeros_2 : List UInt8 := [124, 59, 26, 16, 16, 161, 0, 10, 132, 1, 252, 26, 7, 124, 59, 26, 7, 161, 0, 10, 132, 1, 254, 26]
abbrev dktJ18_numberOfLeadingZeros_2 : List UInt8 := dkwJ18_numberOfLeadingZeros_2 ++ dktJ18_numberOfLeadingZeros_3
def dkwJ18_numberOfLeadingZeros_1 : List UInt8 := [161, 0, 11, 132, 1, 240, 26, 16, 16, 124, 59, 26, 17, 1, 0, 161, 0, 11, 132, 1, 248, 26, 16, 8]
abbrev dktJ18_numberOfLeadingZeros_1 : List UInt8 := dkwJ18_numberOfLeadingZeros_1 ++ dktJ18_numberOfLeadingZeros_2
def dkwJ18_numberOfLeadingZeros_0 : List UInt8 := [26, 157, 0, 14, 26, 154, 0, 8, 16, 32, 167, 0, 4, 3, 172, 16, 31, 60, 26, 19, 1, 8]
abbrev dktJ18_numberOfLeadingZeros_0 : List UInt8 := dkwJ18_numberOfLeadingZeros_0 ++ dktJ18_numberOfLeadingZeros_1
theorem dksJ18_numberOfLeadingZeros_0 : cJ18_numberOfLeadingZeros.data.toList.drop 0 = dktJ18_numberOfLeadingZeros_0 := by decide +kernel
theorem dksJ18_numberOfLeadingZeros_1 : cJ18_numberOfLeadingZeros.data.toList.drop 22 = dktJ18_numberOfLeadingZeros_1 := dk_seg dksJ18_numberOfLeadingZeros_0 22 rfl rfl
theorem dksJ18_numberOfLeadingZeros_2 : cJ18_numberOfLeadingZeros.data.toList.drop 46 = dktJ18_numberOfLeadingZeros_2 := dk_seg dksJ18_numberOfLeadingZeros_1 24 rfl rfl
theorem dksJ18_numberOfLeadingZeros_3 : cJ18_numberOfLeadingZeros.data.toList.drop 70 = dktJ18_numberOfLeadingZeros_3 := dk_seg dksJ18_numberOfLeadingZeros_2 24 rfl rfl
theorem dJ18_numberOfLeadingZeros_0 : decode cJ18_numberOfLeadingZeros 0 = .ok (.iload_n 0, 1) := dk_26 (dk_at dksJ18_numberOfLeadingZeros_0 0 rfl rfl)
theorem dJ18_numberOfLeadingZeros_1 : decode cJ18_numberOfLeadingZeros 1 = .ok (.ifCond .gt 14, 3) := dk_157 0 14 (dk_at dksJ18_numberOfLeadingZeros_0 1 rfl rfl)
theorem dJ18_numberOfLeadingZeros_4 : decode cJ18_numberOfLeadingZeros 4 = .ok (.iload_n 0, 1) := dk_26 (dk_at dksJ18_numberOfLeadingZeros_0 4 rfl rfl)
theorem dJ18_numberOfLeadingZeros_5 : decode cJ18_numberOfLeadingZeros 5 = .ok (.ifCond .ne 8, 3) := dk_154 0 8 (dk_at dksJ18_numberOfLeadingZeros_0 5 rfl rfl)
theorem dJ18_numberOfLeadingZeros_8 : decode cJ18_numberOfLeadingZeros 8 = .ok (.bipush 32, 2) := dk_16 32 (dk_at dksJ18_numberOfLeadingZeros_0 8 rfl rfl)
theorem dJ18_numberOfLeadingZeros_10 : decode cJ18_numberOfLeadingZeros 10 = .ok (.goto 4, 3) := dk_167 0 4 (dk_at dksJ18_numberOfLeadingZeros_0 10 rfl rfl)
theorem dJ18_numberOfLeadingZeros_13 : decode cJ18_numberOfLeadingZeros 13 = .ok (.iconst 0, 1) := dk_3 (dk_at dksJ18_numberOfLeadingZeros_0 13 rfl rfl)
theorem dJ18_numberOfLeadingZeros_14 : decode cJ18_numberOfLeadingZeros 14 = .ok (.ireturn, 1) := dk_172 (dk_at dksJ18_numberOfLeadingZeros_0 14 rfl rfl)
theorem dJ18_numberOfLeadingZeros_15 : decode cJ18_numberOfLeadingZeros 15 = .ok (.bipush 31, 2) := dk_16 31 (dk_at dksJ18_numberOfLeadingZeros_0 15 rfl rfl)
theorem dJ18_numberOfLeadingZeros_17 : decode cJ18_numberOfLeadingZeros 17 = .ok (.istore_n 1, 1) := dk_60 (dk_at dksJ18_numberOfLeadingZeros_0 17 rfl rfl)
theorem dJ18_numberOfLeadingZeros_18 : decode cJ18_numberOfLeadingZeros 18 = .ok (.iload_n 0, 1) := dk_26 (dk_at dksJ18_numberOfLeadingZeros_0 18 rfl rfl)
theorem dJ18_numberOfLeadingZeros_19 : decode cJ18_numberOfLeadingZeros 19 = .ok (.ldc_w 264, 3) := dk_19 1 8 (dk_at dksJ18_numberOfLeadingZeros_0 19 rfl rfl)
theorem dJ18_numberOfLeadingZeros_22 : decode cJ18_numberOfLeadingZeros 22 = .ok (.if_icmp .lt 11, 3) := dk_161 0 11 (dk_at dksJ18_numberOfLeadingZeros_1 0 rfl rfl)
theorem dJ18_numberOfLeadingZeros_25 : decode cJ18_numberOfLeadingZeros 25 = .ok (.iinc 1 (-16), 3) := dk_132 1 240 (dk_at dksJ18_numberOfLeadingZeros_1 3 rfl rfl)
theorem dJ18_numberOfLeadingZeros_28 : decode cJ18_numberOfLeadingZeros 28 = .ok (.iload_n 0, 1) := dk_26 (dk_at dksJ18_numberOfLeadingZeros_1 6 rfl rfl)
theorem dJ18_numberOfLeadingZeros_29 : decode cJ18_numberOfLeadingZeros 29 = .ok (.bipush 16, 2) := dk_16 16 (dk_at dksJ18_numberOfLeadingZeros_1 7 rfl rfl)
theorem dJ18_numberOfLeadingZeros_31 : decode cJ18_numberOfLeadingZeros 31 = .ok (.iushr, 1) := dk_124 (dk_at dksJ18_numberOfLeadingZeros_1 9 rfl rfl)
theorem dJ18_numberOfLeadingZeros_32 : decode cJ18_numberOfLeadingZeros 32 = .ok (.istore_n 0, 1) := dk_59 (dk_at dksJ18_numberOfLeadingZeros_1 10 rfl rfl)
theorem dJ18_numberOfLeadingZeros_33 : decode cJ18_numberOfLeadingZeros 33 = .ok (.iload_n 0, 1) := dk_26 (dk_at dksJ18_numberOfLeadingZeros_1 11 rfl rfl)
theorem dJ18_numberOfLeadingZeros_34 : decode cJ18_numberOfLeadingZeros 34 = .ok (.sipush 256, 3) := dk_17 1 0 (dk_at dksJ18_numberOfLeadingZeros_1 12 rfl rfl)
theorem dJ18_numberOfLeadingZeros_37 : decode cJ18_numberOfLeadingZeros 37 = .ok (.if_icmp .lt 11, 3) := dk_161 0 11 (dk_at dksJ18_numberOfLeadingZeros_1 15 rfl rfl)
theorem dJ18_numberOfLeadingZeros_40 : decode cJ18_numberOfLeadingZeros 40 = .ok (.iinc 1 (-8), 3) := dk_132 1 248 (dk_at dksJ18_numberOfLeadingZeros_1 18 rfl rfl)
theorem dJ18_numberOfLeadingZeros_43 : decode cJ18_numberOfLeadingZeros 43 = .ok (.iload_n 0, 1) := dk_26 (dk_at dksJ18_numberOfLeadingZeros_1 21 rfl rfl)
theorem dJ18_numberOfLeadingZeros_44 : decode cJ18_numberOfLeadingZeros 44 = .ok (.bipush 8, 2) := dk_16 8 (dk_at dksJ18_numberOfLeadingZeros_1 22 rfl rfl)
theorem dJ18_numberOfLeadingZeros_46 : decode cJ18_numberOfLeadingZeros 46 = .ok (.iushr, 1) := dk_124 (dk_at dksJ18_numberOfLeadingZeros_2 0 rfl rfl)
theorem dJ18_numberOfLeadingZeros_47 : decode cJ18_numberOfLeadingZeros 47 = .ok (.istore_n 0, 1) := dk_59 (dk_at dksJ18_numberOfLeadingZeros_2 1 rfl rfl)
theorem dJ18_numberOfLeadingZeros_48 : decode cJ18_numberOfLeadingZeros 48 = .ok (.iload_n 0, 1) := dk_26 (dk_at dksJ18_numberOfLeadingZeros_2 2 rfl rfl)
theorem dJ18_numberOfLeadingZeros_49 : decode cJ18_numberOfLeadingZeros 49 = .ok (.bipush 16, 2) := dk_16 16 (dk_at dksJ18_numberOfLeadingZeros_2 3 rfl rfl)
theorem dJ18_numberOfLeadingZeros_51 : decode cJ18_numberOfLeadingZeros 51 = .ok (.if_icmp .lt 10, 3) := dk_161 0 10 (dk_at dksJ18_numberOfLeadingZeros_2 5 rfl rfl)
theorem dJ18_numberOfLeadingZeros_54 : decode cJ18_numberOfLeadingZeros 54 = .ok (.iinc 1 (-4), 3) := dk_132 1 252 (dk_at dksJ18_numberOfLeadingZeros_2 8 rfl rfl)
theorem dJ18_numberOfLeadingZeros_57 : decode cJ18_numberOfLeadingZeros 57 = .ok (.iload_n 0, 1) := dk_26 (dk_at dksJ18_numberOfLeadingZeros_2 11 rfl rfl)
theorem dJ18_numberOfLeadingZeros_58 : decode cJ18_numberOfLeadingZeros 58 = .ok (.iconst 4, 1) := dk_7 (dk_at dksJ18_numberOfLeadingZeros_2 12 rfl rfl)
theorem dJ18_numberOfLeadingZeros_59 : decode cJ18_numberOfLeadingZeros 59 = .ok (.iushr, 1) := dk_124 (dk_at dksJ18_numberOfLeadingZeros_2 13 rfl rfl)
theorem dJ18_numberOfLeadingZeros_60 : decode cJ18_numberOfLeadingZeros 60 = .ok (.istore_n 0, 1) := dk_59 (dk_at dksJ18_numberOfLeadingZeros_2 14 rfl rfl)
theorem dJ18_numberOfLeadingZeros_61 : decode cJ18_numberOfLeadingZeros 61 = .ok (.iload_n 0, 1) := dk_26 (dk_at dksJ18_numberOfLeadingZeros_2 15 rfl rfl)
theorem dJ18_numberOfLeadingZeros_62 : decode cJ18_numberOfLeadingZeros 62 = .ok (.iconst 4, 1) := dk_7 (dk_at dksJ18_numberOfLeadingZeros_2 16 rfl rfl)
theorem dJ18_numberOfLeadingZeros_63 : decode cJ18_numberOfLeadingZeros 63 = .ok (.if_icmp .lt 10, 3) := dk_161 0 10 (dk_at dksJ18_numberOfLeadingZeros_2 17 rfl rfl)
theorem dJ18_numberOfLeadingZeros_66 : decode cJ18_numberOfLeadingZeros 66 = .ok (.iinc 1 (-2), 3) := dk_132 1 254 (dk_at dksJ18_numberOfLeadingZeros_2 20 rfl rfl)
theorem dJ18_numberOfLeadingZeros_69 : decode cJ18_numberOfLeadingZeros 69 = .ok (.iload_n 0, 1) := dk_26 (dk_at dksJ18_numberOfLeadingZeros_2 23 rfl rfl)
theorem dJ18_numberOfLeadingZeros_70 : decode cJ18_numberOfLeadingZeros 70 = .ok (.iconst 2, 1) := dk_5 (dk_at dksJ18_numberOfLeadingZeros_3 0 rfl rfl)
theorem dJ18_numberOfLeadingZeros_71 : decode cJ18_numberOfLeadingZeros 71 = .ok (.iushr, 1) := dk_124 (dk_at dksJ18_numberOfLeadingZeros_3 1 rfl rfl)
theorem dJ18_numberOfLeadingZeros_72 : decode cJ18_numberOfLeadingZeros 72 = .ok (.istore_n 0, 1) := dk_59 (dk_at dksJ18_numberOfLeadingZeros_3 2 rfl rfl)
theorem dJ18_numberOfLeadingZeros_73 : decode cJ18_numberOfLeadingZeros 73 = .ok (.iload_n 1, 1) := dk_27 (dk_at dksJ18_numberOfLeadingZeros_3 3 rfl rfl)
theorem dJ18_numberOfLeadingZeros_74 : decode cJ18_numberOfLeadingZeros 74 = .ok (.iload_n 0, 1) := dk_26 (dk_at dksJ18_numberOfLeadingZeros_3 4 rfl rfl)
theorem dJ18_numberOfLeadingZeros_75 : decode cJ18_numberOfLeadingZeros 75 = .ok (.iconst 1, 1) := dk_4 (dk_at dksJ18_numberOfLeadingZeros_3 5 rfl rfl)
theorem dJ18_numberOfLeadingZeros_76 : decode cJ18_numberOfLeadingZeros 76 = .ok (.iushr, 1) := dk_124 (dk_at dksJ18_numberOfLeadingZeros_3 6 rfl rfl)
theorem dJ18_numberOfLeadingZeros_77 : decode cJ18_numberOfLeadingZeros 77 = .ok (.isub, 1) := dk_100 (dk_at dksJ18_numberOfLeadingZeros_3 7 rfl rfl)
theorem dJ18_numberOfLeadingZeros_78 : decode cJ18_numberOfLeadingZeros 78 = .ok (.ireturn, 1) := dk_172 (dk_at dksJ18_numberOfLeadingZeros_3 8 rfl rfl)
abbrev cJ18_numberOfTrailingZeros : ByteArray := prog_29_method_48_code
def yJ18_numberOfTrailingZeros : MethodName := ⟨RJ18, "numberOfTrailingZeros", "(I)I"⟩
def dkwJ18_numberOfTrailingZeros_3 : List UInt8 := [5, 124, 59, 27, 26, 4, 124, 96, 172]
abbrev dktJ18_numberOfTrailingZeros_3 : List UInt8 := dkwJ18_numberOfTrailingZeros_3 ++ []
def dkwJ18_numberOfTrailingZeros_2 : List UInt8 := [124, 59, 26, 16, 16, 164, 0, 10, 132, 1, 4, 26, 7, 124, 59, 26, 7, 164, 0, 10, 132, 1, 2, 26]
abbrev dktJ18_numberOfTrailingZeros_2 : List UInt8 := dkwJ18_numberOfTrailingZeros_2 ++ dktJ18_numberOfTrailingZeros_3
def dkwJ18_numberOfTrailingZeros_1 : List UInt8 := [164, 0, 11, 132, 1, 16, 26, 16, 16, 124, 59, 26, 17, 1, 0, 164, 0, 11, 132, 1, 8, 26, 16, 8]
abbrev dktJ18_numberOfTrailingZeros_1 : List UInt8 := dkwJ18_numberOfTrailingZeros_1 ++ dktJ18_numberOfTrailingZeros_2
def dkwJ18_numberOfTrailingZeros_0 : List UInt8 := [26, 2, 130, 26, 4, 100, 126, 59, 26, 157, 0, 8, 26, 16, 32, 126, 172, 4, 60, 26, 19, 1, 8]
abbrev dktJ18_numberOfTrailingZeros_0 : List UInt8 := dkwJ18_numberOfTrailingZeros_0 ++ dktJ18_numberOfTrailingZeros_1
theorem dksJ18_numberOfTrailingZeros_0 : cJ18_numberOfTrailingZeros.data.toList.drop 0 = dktJ18_numberOfTrailingZeros_0 := by decide +kernel
theorem dksJ18_numberOfTrailingZeros_1 : cJ18_numberOfTrailingZeros.data.toList.drop 23 = dktJ18_numberOfTrailingZeros_1 := dk_seg dksJ18_numberOfTrailingZeros_0 23 rfl rfl
theorem dksJ18_numberOfTrailingZeros_2 : cJ18_numberOfTrailingZeros.data.toList.drop 47 = dktJ18_numberOfTrailingZeros_2 := dk_seg dksJ18_numberOfTrailingZeros_1 24 rfl rfl
theorem dksJ18_numberOfTrailingZeros_3 : cJ18_numberOfTrailingZeros.data.toList.drop 71 = dktJ18_numberOfTrailingZeros_3 := dk_seg dksJ18_numberOfTrailingZeros_2 24 rfl rfl
theorem dJ18_numberOfTrailingZeros_0 : decode cJ18_numberOfTrailingZeros 0 = .ok (.iload_n 0, 1) := dk_26 (dk_at dksJ18_numberOfTrailingZeros_0 0 rfl rfl)
theorem dJ18_numberOfTrailingZeros_1 : decode cJ18_numberOfTrailingZeros 1 = .ok (.iconst (-1), 1) := dk_2 (dk_at dksJ18_numberOfTrailingZeros_0 1 rfl rfl)
theorem dJ18_numberOfTrailingZeros_2 : decode cJ18_numberOfTrailingZeros 2 = .ok (.ixor, 1) := dk_130 (dk_at dksJ18_numberOfTrailingZeros_0 2 rfl rfl)
theorem dJ18_numberOfTrailingZeros_3 : decode cJ18_numberOfTrailingZeros 3 = .ok (.iload_n 0, 1) := dk_26 (dk_at dksJ18_numberOfTrailingZeros_0 3 rfl rfl)
theorem dJ18_numberOfTrailingZeros_4 : decode cJ18_numberOfTrailingZeros 4 = .ok (.iconst 1, 1) := dk_4 (dk_at dksJ18_numberOfTrailingZeros_0 4 rfl rfl)
theorem dJ18_numberOfTrailingZeros_5 : decode cJ18_numberOfTrailingZeros 5 = .ok (.isub, 1) := dk_100 (dk_at dksJ18_numberOfTrailingZeros_0 5 rfl rfl)
theorem dJ18_numberOfTrailingZeros_6 : decode cJ18_numberOfTrailingZeros 6 = .ok (.iand, 1) := dk_126 (dk_at dksJ18_numberOfTrailingZeros_0 6 rfl rfl)
theorem dJ18_numberOfTrailingZeros_7 : decode cJ18_numberOfTrailingZeros 7 = .ok (.istore_n 0, 1) := dk_59 (dk_at dksJ18_numberOfTrailingZeros_0 7 rfl rfl)
theorem dJ18_numberOfTrailingZeros_8 : decode cJ18_numberOfTrailingZeros 8 = .ok (.iload_n 0, 1) := dk_26 (dk_at dksJ18_numberOfTrailingZeros_0 8 rfl rfl)
theorem dJ18_numberOfTrailingZeros_9 : decode cJ18_numberOfTrailingZeros 9 = .ok (.ifCond .gt 8, 3) := dk_157 0 8 (dk_at dksJ18_numberOfTrailingZeros_0 9 rfl rfl)
theorem dJ18_numberOfTrailingZeros_12 : decode cJ18_numberOfTrailingZeros 12 = .ok (.iload_n 0, 1) := dk_26 (dk_at dksJ18_numberOfTrailingZeros_0 12 rfl rfl)
theorem dJ18_numberOfTrailingZeros_13 : decode cJ18_numberOfTrailingZeros 13 = .ok (.bipush 32, 2) := dk_16 32 (dk_at dksJ18_numberOfTrailingZeros_0 13 rfl rfl)
theorem dJ18_numberOfTrailingZeros_15 : decode cJ18_numberOfTrailingZeros 15 = .ok (.iand, 1) := dk_126 (dk_at dksJ18_numberOfTrailingZeros_0 15 rfl rfl)
theorem dJ18_numberOfTrailingZeros_16 : decode cJ18_numberOfTrailingZeros 16 = .ok (.ireturn, 1) := dk_172 (dk_at dksJ18_numberOfTrailingZeros_0 16 rfl rfl)
theorem dJ18_numberOfTrailingZeros_17 : decode cJ18_numberOfTrailingZeros 17 = .ok (.iconst 1, 1) := dk_4 (dk_at dksJ18_numberOfTrailingZeros_0 17 rfl rfl)
theorem dJ18_numberOfTrailingZeros_18 : decode cJ18_numberOfTrailingZeros 18 = .ok (.istore_n 1, 1) := dk_60 (dk_at dksJ18_numberOfTrailingZeros_0 18 rfl rfl)
theorem dJ18_numberOfTrailingZeros_19 : decode cJ18_numberOfTrailingZeros 19 = .ok (.iload_n 0, 1) := dk_26 (dk_at dksJ18_numberOfTrailingZeros_0 19 rfl rfl)
theorem dJ18_numberOfTrailingZeros_20 : decode cJ18_numberOfTrailingZeros 20 = .ok (.ldc_w 264, 3) := dk_19 1 8 (dk_at dksJ18_numberOfTrailingZeros_0 20 rfl rfl)
theorem dJ18_numberOfTrailingZeros_23 : decode cJ18_numberOfTrailingZeros 23 = .ok (.if_icmp .le 11, 3) := dk_164 0 11 (dk_at dksJ18_numberOfTrailingZeros_1 0 rfl rfl)
theorem dJ18_numberOfTrailingZeros_26 : decode cJ18_numberOfTrailingZeros 26 = .ok (.iinc 1 16, 3) := dk_132 1 16 (dk_at dksJ18_numberOfTrailingZeros_1 3 rfl rfl)
theorem dJ18_numberOfTrailingZeros_29 : decode cJ18_numberOfTrailingZeros 29 = .ok (.iload_n 0, 1) := dk_26 (dk_at dksJ18_numberOfTrailingZeros_1 6 rfl rfl)
theorem dJ18_numberOfTrailingZeros_30 : decode cJ18_numberOfTrailingZeros 30 = .ok (.bipush 16, 2) := dk_16 16 (dk_at dksJ18_numberOfTrailingZeros_1 7 rfl rfl)
theorem dJ18_numberOfTrailingZeros_32 : decode cJ18_numberOfTrailingZeros 32 = .ok (.iushr, 1) := dk_124 (dk_at dksJ18_numberOfTrailingZeros_1 9 rfl rfl)
theorem dJ18_numberOfTrailingZeros_33 : decode cJ18_numberOfTrailingZeros 33 = .ok (.istore_n 0, 1) := dk_59 (dk_at dksJ18_numberOfTrailingZeros_1 10 rfl rfl)
theorem dJ18_numberOfTrailingZeros_34 : decode cJ18_numberOfTrailingZeros 34 = .ok (.iload_n 0, 1) := dk_26 (dk_at dksJ18_numberOfTrailingZeros_1 11 rfl rfl)
theorem dJ18_numberOfTrailingZeros_35 : decode cJ18_numberOfTrailingZeros 35 = .ok (.sipush 256, 3) := dk_17 1 0 (dk_at dksJ18_numberOfTrailingZeros_1 12 rfl rfl)
theorem dJ18_numberOfTrailingZeros_38 : decode cJ18_numberOfTrailingZeros 38 = .ok (.if_icmp .le 11, 3) := dk_164 0 11 (dk_at dksJ18_numberOfTrailingZeros_1 15 rfl rfl)
theorem dJ18_numberOfTrailingZeros_41 : decode cJ18_numberOfTrailingZeros 41 = .ok (.iinc 1 8, 3) := dk_132 1 8 (dk_at dksJ18_numberOfTrailingZeros_1 18 rfl rfl)
theorem dJ18_numberOfTrailingZeros_44 : decode cJ18_numberOfTrailingZeros 44 = .ok (.iload_n 0, 1) := dk_26 (dk_at dksJ18_numberOfTrailingZeros_1 21 rfl rfl)
theorem dJ18_numberOfTrailingZeros_45 : decode cJ18_numberOfTrailingZeros 45 = .ok (.bipush 8, 2) := dk_16 8 (dk_at dksJ18_numberOfTrailingZeros_1 22 rfl rfl)
theorem dJ18_numberOfTrailingZeros_47 : decode cJ18_numberOfTrailingZeros 47 = .ok (.iushr, 1) := dk_124 (dk_at dksJ18_numberOfTrailingZeros_2 0 rfl rfl)
theorem dJ18_numberOfTrailingZeros_48 : decode cJ18_numberOfTrailingZeros 48 = .ok (.istore_n 0, 1) := dk_59 (dk_at dksJ18_numberOfTrailingZeros_2 1 rfl rfl)
theorem dJ18_numberOfTrailingZeros_49 : decode cJ18_numberOfTrailingZeros 49 = .ok (.iload_n 0, 1) := dk_26 (dk_at dksJ18_numberOfTrailingZeros_2 2 rfl rfl)
theorem dJ18_numberOfTrailingZeros_50 : decode cJ18_numberOfTrailingZeros 50 = .ok (.bipush 16, 2) := dk_16 16 (dk_at dksJ18_numberOfTrailingZeros_2 3 rfl rfl)
theorem dJ18_numberOfTrailingZeros_52 : decode cJ18_numberOfTrailingZeros 52 = .ok (.if_icmp .le 10, 3) := dk_164 0 10 (dk_at dksJ18_numberOfTrailingZeros_2 5 rfl rfl)
theorem dJ18_numberOfTrailingZeros_55 : decode cJ18_numberOfTrailingZeros 55 = .ok (.iinc 1 4, 3) := dk_132 1 4 (dk_at dksJ18_numberOfTrailingZeros_2 8 rfl rfl)
theorem dJ18_numberOfTrailingZeros_58 : decode cJ18_numberOfTrailingZeros 58 = .ok (.iload_n 0, 1) := dk_26 (dk_at dksJ18_numberOfTrailingZeros_2 11 rfl rfl)
theorem dJ18_numberOfTrailingZeros_59 : decode cJ18_numberOfTrailingZeros 59 = .ok (.iconst 4, 1) := dk_7 (dk_at dksJ18_numberOfTrailingZeros_2 12 rfl rfl)
theorem dJ18_numberOfTrailingZeros_60 : decode cJ18_numberOfTrailingZeros 60 = .ok (.iushr, 1) := dk_124 (dk_at dksJ18_numberOfTrailingZeros_2 13 rfl rfl)
theorem dJ18_numberOfTrailingZeros_61 : decode cJ18_numberOfTrailingZeros 61 = .ok (.istore_n 0, 1) := dk_59 (dk_at dksJ18_numberOfTrailingZeros_2 14 rfl rfl)
theorem dJ18_numberOfTrailingZeros_62 : decode cJ18_numberOfTrailingZeros 62 = .ok (.iload_n 0, 1) := dk_26 (dk_at dksJ18_numberOfTrailingZeros_2 15 rfl rfl)
theorem dJ18_numberOfTrailingZeros_63 : decode cJ18_numberOfTrailingZeros 63 = .ok (.iconst 4, 1) := dk_7 (dk_at dksJ18_numberOfTrailingZeros_2 16 rfl rfl)
theorem dJ18_numberOfTrailingZeros_64 : decode cJ18_numberOfTrailingZeros 64 = .ok (.if_icmp .le 10, 3) := dk_164 0 10 (dk_at dksJ18_numberOfTrailingZeros_2 17 rfl rfl)
theorem dJ18_numberOfTrailingZeros_67 : decode cJ18_numberOfTrailingZeros 67 = .ok (.iinc 1 2, 3) := dk_132 1 2 (dk_at dksJ18_numberOfTrailingZeros_2 20 rfl rfl)
theorem dJ18_numberOfTrailingZeros_70 : decode cJ18_numberOfTrailingZeros 70 = .ok (.iload_n 0, 1) := dk_26 (dk_at dksJ18_numberOfTrailingZeros_2 23 rfl rfl)
theorem dJ18_numberOfTrailingZeros_71 : decode cJ18_numberOfTrailingZeros 71 = .ok (.iconst 2, 1) := dk_5 (dk_at dksJ18_numberOfTrailingZeros_3 0 rfl rfl)
theorem dJ18_numberOfTrailingZeros_72 : decode cJ18_numberOfTrailingZeros 72 = .ok (.iushr, 1) := dk_124 (dk_at dksJ18_numberOfTrailingZeros_3 1 rfl rfl)
theorem dJ18_numberOfTrailingZeros_73 : decode cJ18_numberOfTrailingZeros 73 = .ok (.istore_n 0, 1) := dk_59 (dk_at dksJ18_numberOfTrailingZeros_3 2 rfl rfl)
theorem dJ18_numberOfTrailingZeros_74 : decode cJ18_numberOfTrailingZeros 74 = .ok (.iload_n 1, 1) := dk_27 (dk_at dksJ18_numberOfTrailingZeros_3 3 rfl rfl)
theorem dJ18_numberOfTrailingZeros_75 : decode cJ18_numberOfTrailingZeros 75 = .ok (.iload_n 0, 1) := dk_26 (dk_at dksJ18_numberOfTrailingZeros_3 4 rfl rfl)
theorem dJ18_numberOfTrailingZeros_76 : decode cJ18_numberOfTrailingZeros 76 = .ok (.iconst 1, 1) := dk_4 (dk_at dksJ18_numberOfTrailingZeros_3 5 rfl rfl)
theorem dJ18_numberOfTrailingZeros_77 : decode cJ18_numberOfTrailingZeros 77 = .ok (.iushr, 1) := dk_124 (dk_at dksJ18_numberOfTrailingZeros_3 6 rfl rfl)
theorem dJ18_numberOfTrailingZeros_78 : decode cJ18_numberOfTrailingZeros 78 = .ok (.iadd, 1) := dk_96 (dk_at dksJ18_numberOfTrailingZeros_3 7 rfl rfl)
theorem dJ18_numberOfTrailingZeros_79 : decode cJ18_numberOfTrailingZeros 79 = .ok (.ireturn, 1) := dk_172 (dk_at dksJ18_numberOfTrailingZeros_3 8 rfl rfl)
theorem q124 : (Jvm.Cond.initialized "java/lang/Integer") ∈ lw_all := lw_g (lw_at lw_m1 29 rfl) rfl
theorem q711 : (Jvm.Cond.selects "java/lang/Integer" ({ cls := "java/lang/Object", name := "getClass", desc := "()Ljava/lang/Class;" } : Jvm.MethodName) ({ cls := "java/lang/Object", name := "getClass", desc := "()Ljava/lang/Class;" } : Jvm.MethodName)) ∈ lw_all := lw_g (lw_at lw_m3 136 rfl) rfl
theorem q740 : (Jvm.Cond.instanceMethod ({ cls := "java/lang/Integer", name := "intValue", desc := "()I" } : Jvm.MethodName)) ∈ lw_all := lw_g (lw_at lw_m3 165 rfl) rfl
theorem q741 : (Jvm.Cond.selects "java/lang/Integer" ({ cls := "java/lang/Integer", name := "intValue", desc := "()I" } : Jvm.MethodName) ({ cls := "java/lang/Integer", name := "intValue", desc := "()I" } : Jvm.MethodName)) ∈ lw_all := lw_g (lw_at lw_m3 166 rfl) rfl
theorem q742 : (Jvm.Cond.code ({ cls := "java/lang/Integer", name := "intValue", desc := "()I" } : Jvm.MethodName) prog_29_method_27_code (1 : Nat) (Option.some Jvm.ClassFile.FieldType.int)) ∈ lw_all := lw_g (lw_at lw_m3 167 rfl) rfl
theorem q744 : (Jvm.Cond.static ({ cls := "java/lang/Integer", name := "valueOf", desc := "(I)Ljava/lang/Integer;" } : Jvm.MethodName)) ∈ lw_all := lw_g (lw_at lw_m3 169 rfl) rfl
theorem q745 : (Jvm.Cond.code ({ cls := "java/lang/Integer", name := "valueOf", desc := "(I)Ljava/lang/Integer;" } : Jvm.MethodName) prog_29_method_22_code (1 : Nat) (Option.some (Jvm.ClassFile.FieldType.object "java/lang/Integer"))) ∈ lw_all := lw_g (lw_at lw_m3 170 rfl) rfl
theorem q746 : (Jvm.Cond.fieldLink "java/lang/Integer" (191 : Nat) "java/lang/Integer$IntegerCache" "high" "I") ∈ lw_all := lw_g (lw_at lw_m3 171 rfl) rfl
theorem q748 : (Jvm.Cond.fieldLink "java/lang/Integer" (195 : Nat) "java/lang/Integer$IntegerCache" "cache" "[Ljava/lang/Integer;") ∈ lw_all := lw_g (lw_at lw_m3 173 rfl) rfl
theorem q750 : (Jvm.Cond.classLink "java/lang/Integer" (1 : Nat) "java/lang/Integer") ∈ lw_all := lw_g (lw_at lw_m3 175 rfl) rfl
theorem q751 : (Jvm.Cond.instantiable "java/lang/Integer" (1 : Nat)) ∈ lw_all := lw_g (lw_at lw_m3 176 rfl) rfl
theorem q752 : (Jvm.Cond.methodLink "java/lang/Integer" (199 : Nat) ({ cls := "java/lang/Integer", name := "<init>", desc := "(I)V" } : Jvm.MethodName)) ∈ lw_all := lw_g (lw_at lw_m3 177 rfl) rfl
theorem q753 : (Jvm.Cond.instanceMethod ({ cls := "java/lang/Integer", name := "<init>", desc := "(I)V" } : Jvm.MethodName)) ∈ lw_all := lw_g (lw_at lw_m3 178 rfl) rfl
theorem q754 : (Jvm.Cond.code ({ cls := "java/lang/Integer", name := "<init>", desc := "(I)V" } : Jvm.MethodName) prog_29_method_23_code (2 : Nat) (Option.none : Option Jvm.ClassFile.FieldType)) ∈ lw_all := lw_g (lw_at lw_m3 179 rfl) rfl
theorem q755 : (Jvm.Cond.methodLink "java/lang/Integer" (202 : Nat) ({ cls := "java/lang/Number", name := "<init>", desc := "()V" } : Jvm.MethodName)) ∈ lw_all := lw_g (lw_at lw_m3 180 rfl) rfl
theorem q759 : (Jvm.Cond.fieldLink "java/lang/Integer" (205 : Nat) "java/lang/Integer" "value" "I") ∈ lw_all := lw_g (lw_at lw_m3 184 rfl) rfl
theorem q760 : (Jvm.Cond.laysFinal "java/lang/Integer" "java/lang/Integer" "value" "I") ∈ lw_all := lw_g (lw_at lw_m3 185 rfl) rfl
theorem q761 : (Jvm.Cond.soleField "java/lang/Integer" "value") ∈ lw_all := lw_g (lw_at lw_m3 186 rfl) rfl
theorem q762 : (Jvm.Cond.superclass "java/lang/Integer" "java/lang/Number") ∈ lw_all := lw_g (lw_at lw_m3 187 rfl) rfl
theorem q1032 : (Jvm.Cond.castable "java/lang/Integer" "java/lang/Comparable") ∈ lw_tbl := lw_at lw_m4 217 rfl
theorem q1033 : (Jvm.Cond.selects "java/lang/Integer" ({ cls := "java/lang/Comparable", name := "compareTo", desc := "(Ljava/lang/Object;)I" } : Jvm.MethodName) ({ cls := "java/lang/Integer", name := "compareTo", desc := "(Ljava/lang/Object;)I" } : Jvm.MethodName)) ∈ lw_all := lw_g (lw_at lw_m4 218 rfl) rfl
theorem q1034 : (Jvm.Cond.unhidden "java/lang/Integer" "compareTo" "(Ljava/lang/Object;)I") ∈ lw_tbl := lw_at lw_m4 219 rfl
theorem q1035 : (Jvm.Cond.instanceMethod ({ cls := "java/lang/Integer", name := "compareTo", desc := "(Ljava/lang/Object;)I" } : Jvm.MethodName)) ∈ lw_all := lw_g (lw_at lw_m4 220 rfl) rfl
theorem q1036 : (Jvm.Cond.publicMethod ({ cls := "java/lang/Integer", name := "compareTo", desc := "(Ljava/lang/Object;)I" } : Jvm.MethodName)) ∈ lw_tbl := lw_at lw_m4 221 rfl
theorem q1037 : (Jvm.Cond.code ({ cls := "java/lang/Integer", name := "compareTo", desc := "(Ljava/lang/Object;)I" } : Jvm.MethodName) prog_29_method_63_code (2 : Nat) (Option.some Jvm.ClassFile.FieldType.int)) ∈ lw_all := lw_g (lw_at lw_m4 222 rfl) rfl
theorem q1038 : (Jvm.Cond.methodLink "java/lang/Integer" (284 : Nat) ({ cls := "java/lang/Integer", name := "compareTo", desc := "(Ljava/lang/Integer;)I" } : Jvm.MethodName)) ∈ lw_all := lw_g (lw_at lw_m4 223 rfl) rfl
theorem q1039 : (Jvm.Cond.instanceMethod ({ cls := "java/lang/Integer", name := "compareTo", desc := "(Ljava/lang/Integer;)I" } : Jvm.MethodName)) ∈ lw_all := lw_g (lw_at lw_m4 224 rfl) rfl
theorem q1040 : (Jvm.Cond.selects "java/lang/Integer" ({ cls := "java/lang/Integer", name := "compareTo", desc := "(Ljava/lang/Integer;)I" } : Jvm.MethodName) ({ cls := "java/lang/Integer", name := "compareTo", desc := "(Ljava/lang/Integer;)I" } : Jvm.MethodName)) ∈ lw_all := lw_g (lw_at lw_m4 225 rfl) rfl
theorem q1041 : (Jvm.Cond.code ({ cls := "java/lang/Integer", name := "compareTo", desc := "(Ljava/lang/Integer;)I" } : Jvm.MethodName) prog_29_method_39_code (2 : Nat) (Option.some Jvm.ClassFile.FieldType.int)) ∈ lw_all := lw_g (lw_at lw_m4 226 rfl) rfl
theorem q1042 : (Jvm.Cond.methodLink "java/lang/Integer" (259 : Nat) ({ cls := "java/lang/Integer", name := "compare", desc := "(II)I" } : Jvm.MethodName)) ∈ lw_all := lw_g (lw_at lw_m4 227 rfl) rfl
theorem q1043 : (Jvm.Cond.static ({ cls := "java/lang/Integer", name := "compare", desc := "(II)I" } : Jvm.MethodName)) ∈ lw_all := lw_g (lw_at lw_m4 228 rfl) rfl
theorem q1044 : (Jvm.Cond.code ({ cls := "java/lang/Integer", name := "compare", desc := "(II)I" } : Jvm.MethodName) prog_29_method_40_code (2 : Nat) (Option.some Jvm.ClassFile.FieldType.int)) ∈ lw_all := lw_g (lw_at lw_m4 229 rfl) rfl
theorem q1140 : (Jvm.Cond.static ({ cls := "java/lang/Integer", name := "numberOfLeadingZeros", desc := "(I)I" } : Jvm.MethodName)) ∈ lw_all := lw_g (lw_at lw_m5 85 rfl) rfl
theorem q1141 : (Jvm.Cond.code ({ cls := "java/lang/Integer", name := "numberOfLeadingZeros", desc := "(I)I" } : Jvm.MethodName) prog_29_method_47_code (2 : Nat) (Option.some Jvm.ClassFile.FieldType.int)) ∈ lw_all := lw_g (lw_at lw_m5 86 rfl) rfl
theorem q1142 : (Jvm.Cond.constant "java/lang/Integer" (264 : Nat) (65536 : Int32)) ∈ lw_all := lw_g (lw_at lw_m5 87 rfl) rfl
theorem q1149 : (Jvm.Cond.static ({ cls := "java/lang/Integer", name := "numberOfTrailingZeros", desc := "(I)I" } : Jvm.MethodName)) ∈ lw_all := lw_g (lw_at lw_m5 94 rfl) rfl
theorem q1150 : (Jvm.Cond.code ({ cls := "java/lang/Integer", name := "numberOfTrailingZeros", desc := "(I)I" } : Jvm.MethodName) prog_29_method_48_code (2 : Nat) (Option.some Jvm.ClassFile.FieldType.int)) ∈ lw_all := lw_g (lw_at lw_m5 95 rfl) rfl
theorem q2436 : (Jvm.Cond.castable "java/lang/Integer" "java/lang/Object") ∈ lw_tbl := lw_at lw_m10 181 rfl
theorem in_J18 : ∀ w ∈ wsJ180, w ∈ lw_all := lw_in wsJ180 [760] (by decide +kernel) (by decide +kernel)
abbrev cJ19_init : ByteArray := prog_44_method_1_code
def yJ19_init : MethodName := ⟨RJ19, "<init>", "()V"⟩
theorem dJ19_init_0 : decode cJ19_init 0 = .ok (.aload_n 0, 1) := by decide +kernel
theorem dJ19_init_1 : decode cJ19_init 1 = .ok (.invokespecial 1, 3) := by decide +kernel
theorem dJ19_init_4 : decode cJ19_init 4 = .ok (.return_, 1) := by decide +kernel
theorem q126 : (Jvm.Cond.initialized "java/util/AbstractMap") ∈ lw_all := lw_g (lw_at lw_m1 31 rfl) rfl
theorem q923 : (Jvm.Cond.instanceMethod ({ cls := "java/util/AbstractMap", name := "<init>", desc := "()V" } : Jvm.MethodName)) ∈ lw_all := lw_g (lw_at lw_m4 108 rfl) rfl
theorem q924 : (Jvm.Cond.code ({ cls := "java/util/AbstractMap", name := "<init>", desc := "()V" } : Jvm.MethodName) prog_44_method_1_code (1 : Nat) (Option.none : Option Jvm.ClassFile.FieldType)) ∈ lw_all := lw_g (lw_at lw_m4 109 rfl) rfl
theorem q925 : (Jvm.Cond.methodLink "java/util/AbstractMap" (1 : Nat) ({ cls := "java/lang/Object", name := "<init>", desc := "()V" } : Jvm.MethodName)) ∈ lw_all := lw_g (lw_at lw_m4 110 rfl) rfl
theorem q945 : (Jvm.Cond.soleField "java/util/AbstractMap" "keySet") ∈ lw_all := lw_g (lw_at lw_m4 130 rfl) rfl
theorem q947 : (Jvm.Cond.soleField "java/util/AbstractMap" "values") ∈ lw_all := lw_g (lw_at lw_m4 132 rfl) rfl
abbrev cJ21_compareTo : ByteArray := prog_37_method_14_code
def yJ21_compareTo : MethodName := ⟨RJ21, "compareTo", "([B[B)I"⟩
def dkwJ21_compareTo_0 : List UInt8 := [42, 190, 61, 43, 190, 62, 42, 43, 28, 29, 184, 0, 34, 172]
abbrev dktJ21_compareTo_0 : List UInt8 := dkwJ21_compareTo_0 ++ []
theorem dksJ21_compareTo_0 : cJ21_compareTo.data.toList.drop 0 = dktJ21_compareTo_0 := by decide +kernel
theorem dJ21_compareTo_0 : decode cJ21_compareTo 0 = .ok (.aload_n 0, 1) := dk_42 (dk_at dksJ21_compareTo_0 0 rfl rfl)
theorem dJ21_compareTo_1 : decode cJ21_compareTo 1 = .ok (.arraylength, 1) := dk_190 (dk_at dksJ21_compareTo_0 1 rfl rfl)
theorem dJ21_compareTo_2 : decode cJ21_compareTo 2 = .ok (.istore_n 2, 1) := dk_61 (dk_at dksJ21_compareTo_0 2 rfl rfl)
theorem dJ21_compareTo_3 : decode cJ21_compareTo 3 = .ok (.aload_n 1, 1) := dk_43 (dk_at dksJ21_compareTo_0 3 rfl rfl)
theorem dJ21_compareTo_4 : decode cJ21_compareTo 4 = .ok (.arraylength, 1) := dk_190 (dk_at dksJ21_compareTo_0 4 rfl rfl)
theorem dJ21_compareTo_5 : decode cJ21_compareTo 5 = .ok (.istore_n 3, 1) := dk_62 (dk_at dksJ21_compareTo_0 5 rfl rfl)
theorem dJ21_compareTo_6 : decode cJ21_compareTo 6 = .ok (.aload_n 0, 1) := dk_42 (dk_at dksJ21_compareTo_0 6 rfl rfl)
theorem dJ21_compareTo_7 : decode cJ21_compareTo 7 = .ok (.aload_n 1, 1) := dk_43 (dk_at dksJ21_compareTo_0 7 rfl rfl)
theorem dJ21_compareTo_8 : decode cJ21_compareTo 8 = .ok (.iload_n 2, 1) := dk_28 (dk_at dksJ21_compareTo_0 8 rfl rfl)
theorem dJ21_compareTo_9 : decode cJ21_compareTo 9 = .ok (.iload_n 3, 1) := dk_29 (dk_at dksJ21_compareTo_0 9 rfl rfl)
theorem dJ21_compareTo_10 : decode cJ21_compareTo 10 = .ok (.invokestatic 34, 3) := dk_184 0 34 (dk_at dksJ21_compareTo_0 10 rfl rfl)
theorem dJ21_compareTo_13 : decode cJ21_compareTo 13 = .ok (.ireturn, 1) := dk_172 (dk_at dksJ21_compareTo_0 13 rfl rfl)
abbrev cJ21_compareTo_2 : ByteArray := prog_37_method_15_code
def yJ21_compareTo_2 : MethodName := ⟨RJ21, "compareTo", "([B[BII)I"⟩
def dkwJ21_compareTo_2_1 : List UInt8 := [167, 0, 16, 42, 21, 5, 184, 0, 50, 43, 21, 5, 184, 0, 50, 100, 172]
abbrev dktJ21_compareTo_2_1 : List UInt8 := dkwJ21_compareTo_2_1 ++ []
def dkwJ21_compareTo_2_0 : List UInt8 := [28, 29, 184, 0, 38, 54, 4, 42, 43, 21, 4, 184, 0, 44, 54, 5, 21, 5, 156, 0, 9, 28, 29, 100]
abbrev dktJ21_compareTo_2_0 : List UInt8 := dkwJ21_compareTo_2_0 ++ dktJ21_compareTo_2_1
theorem dksJ21_compareTo_2_0 : cJ21_compareTo_2.data.toList.drop 0 = dktJ21_compareTo_2_0 := by decide +kernel
theorem dksJ21_compareTo_2_1 : cJ21_compareTo_2.data.toList.drop 24 = dktJ21_compareTo_2_1 := dk_seg dksJ21_compareTo_2_0 24 rfl rfl
theorem dJ21_compareTo_2_0 : decode cJ21_compareTo_2 0 = .ok (.iload_n 2, 1) := dk_28 (dk_at dksJ21_compareTo_2_0 0 rfl rfl)
theorem dJ21_compareTo_2_1 : decode cJ21_compareTo_2 1 = .ok (.iload_n 3, 1) := dk_29 (dk_at dksJ21_compareTo_2_0 1 rfl rfl)
theorem dJ21_compareTo_2_2 : decode cJ21_compareTo_2 2 = .ok (.invokestatic 38, 3) := dk_184 0 38 (dk_at dksJ21_compareTo_2_0 2 rfl rfl)
theorem dJ21_compareTo_2_5 : decode cJ21_compareTo_2 5 = .ok (.istore 4, 2) := dk_54 4 (dk_at dksJ21_compareTo_2_0 5 rfl rfl)
theorem dJ21_compareTo_2_7 : decode cJ21_compareTo_2 7 = .ok (.aload_n 0, 1) := dk_42 (dk_at dksJ21_compareTo_2_0 7 rfl rfl)
theorem dJ21_compareTo_2_8 : decode cJ21_compareTo_2 8 = .ok (.aload_n 1, 1) := dk_43 (dk_at dksJ21_compareTo_2_0 8 rfl rfl)
theorem dJ21_compareTo_2_9 : decode cJ21_compareTo_2 9 = .ok (.iload 4, 2) := dk_21 4 (dk_at dksJ21_compareTo_2_0 9 rfl rfl)
theorem dJ21_compareTo_2_11 : decode cJ21_compareTo_2 11 = .ok (.invokestatic 44, 3) := dk_184 0 44 (dk_at dksJ21_compareTo_2_0 11 rfl rfl)
theorem dJ21_compareTo_2_14 : decode cJ21_compareTo_2 14 = .ok (.istore 5, 2) := dk_54 5 (dk_at dksJ21_compareTo_2_0 14 rfl rfl)
theorem dJ21_compareTo_2_16 : decode cJ21_compareTo_2 16 = .ok (.iload 5, 2) := dk_21 5 (dk_at dksJ21_compareTo_2_0 16 rfl rfl)
theorem dJ21_compareTo_2_18 : decode cJ21_compareTo_2 18 = .ok (.ifCond .ge 9, 3) := dk_156 0 9 (dk_at dksJ21_compareTo_2_0 18 rfl rfl)
theorem dJ21_compareTo_2_21 : decode cJ21_compareTo_2 21 = .ok (.iload_n 2, 1) := dk_28 (dk_at dksJ21_compareTo_2_0 21 rfl rfl)
theorem dJ21_compareTo_2_22 : decode cJ21_compareTo_2 22 = .ok (.iload_n 3, 1) := dk_29 (dk_at dksJ21_compareTo_2_0 22 rfl rfl)
theorem dJ21_compareTo_2_23 : decode cJ21_compareTo_2 23 = .ok (.isub, 1) := dk_100 (dk_at dksJ21_compareTo_2_0 23 rfl rfl)
theorem dJ21_compareTo_2_24 : decode cJ21_compareTo_2 24 = .ok (.goto 16, 3) := dk_167 0 16 (dk_at dksJ21_compareTo_2_1 0 rfl rfl)
theorem dJ21_compareTo_2_27 : decode cJ21_compareTo_2 27 = .ok (.aload_n 0, 1) := dk_42 (dk_at dksJ21_compareTo_2_1 3 rfl rfl)
theorem dJ21_compareTo_2_28 : decode cJ21_compareTo_2 28 = .ok (.iload 5, 2) := dk_21 5 (dk_at dksJ21_compareTo_2_1 4 rfl rfl)
theorem dJ21_compareTo_2_30 : decode cJ21_compareTo_2 30 = .ok (.invokestatic 50, 3) := dk_184 0 50 (dk_at dksJ21_compareTo_2_1 6 rfl rfl)
theorem dJ21_compareTo_2_33 : decode cJ21_compareTo_2 33 = .ok (.aload_n 1, 1) := dk_43 (dk_at dksJ21_compareTo_2_1 9 rfl rfl)
theorem dJ21_compareTo_2_34 : decode cJ21_compareTo_2 34 = .ok (.iload 5, 2) := dk_21 5 (dk_at dksJ21_compareTo_2_1 10 rfl rfl)
theorem dJ21_compareTo_2_36 : decode cJ21_compareTo_2 36 = .ok (.invokestatic 50, 3) := dk_184 0 50 (dk_at dksJ21_compareTo_2_1 12 rfl rfl)
theorem dJ21_compareTo_2_39 : decode cJ21_compareTo_2 39 = .ok (.isub, 1) := dk_100 (dk_at dksJ21_compareTo_2_1 15 rfl rfl)
theorem dJ21_compareTo_2_40 : decode cJ21_compareTo_2 40 = .ok (.ireturn, 1) := dk_172 (dk_at dksJ21_compareTo_2_1 16 rfl rfl)
abbrev cJ21_getChar : ByteArray := prog_37_method_44_code
def yJ21_getChar : MethodName := ⟨RJ21, "getChar", "([BI)C"⟩
def dkwJ21_getChar_0 : List UInt8 := [42, 27, 51, 17, 0, 255, 126, 146, 172]
abbrev dktJ21_getChar_0 : List UInt8 := dkwJ21_getChar_0 ++ []
theorem dksJ21_getChar_0 : cJ21_getChar.data.toList.drop 0 = dktJ21_getChar_0 := by decide +kernel
theorem dJ21_getChar_0 : decode cJ21_getChar 0 = .ok (.aload_n 0, 1) := dk_42 (dk_at dksJ21_getChar_0 0 rfl rfl)
theorem dJ21_getChar_1 : decode cJ21_getChar 1 = .ok (.iload_n 1, 1) := dk_27 (dk_at dksJ21_getChar_0 1 rfl rfl)
theorem dJ21_getChar_2 : decode cJ21_getChar 2 = .ok (.baload, 1) := dk_51 (dk_at dksJ21_getChar_0 2 rfl rfl)
theorem dJ21_getChar_3 : decode cJ21_getChar 3 = .ok (.sipush 255, 3) := dk_17 0 255 (dk_at dksJ21_getChar_0 3 rfl rfl)
theorem dJ21_getChar_6 : decode cJ21_getChar 6 = .ok (.iand, 1) := dk_126 (dk_at dksJ21_getChar_0 6 rfl rfl)
theorem dJ21_getChar_7 : decode cJ21_getChar 7 = .ok (.i2c, 1) := dk_146 (dk_at dksJ21_getChar_0 7 rfl rfl)
theorem dJ21_getChar_8 : decode cJ21_getChar 8 = .ok (.ireturn, 1) := dk_172 (dk_at dksJ21_getChar_0 8 rfl rfl)
abbrev cJ21_compareToUTF16 : ByteArray := prog_37_method_16_code
def yJ21_compareToUTF16 : MethodName := ⟨RJ21, "compareToUTF16", "([B[B)I"⟩
def dkwJ21_compareToUTF16_0 : List UInt8 := [42, 184, 0, 54, 61, 43, 184, 0, 58, 62, 42, 43, 28, 29, 184, 0, 59, 172]
abbrev dktJ21_compareToUTF16_0 : List UInt8 := dkwJ21_compareToUTF16_0 ++ []
theorem dksJ21_compareToUTF16_0 : cJ21_compareToUTF16.data.toList.drop 0 = dktJ21_compareToUTF16_0 := by decide +kernel
theorem dJ21_compareToUTF16_0 : decode cJ21_compareToUTF16 0 = .ok (.aload_n 0, 1) := dk_42 (dk_at dksJ21_compareToUTF16_0 0 rfl rfl)
theorem dJ21_compareToUTF16_1 : decode cJ21_compareToUTF16 1 = .ok (.invokestatic 54, 3) := dk_184 0 54 (dk_at dksJ21_compareToUTF16_0 1 rfl rfl)
theorem dJ21_compareToUTF16_4 : decode cJ21_compareToUTF16 4 = .ok (.istore_n 2, 1) := dk_61 (dk_at dksJ21_compareToUTF16_0 4 rfl rfl)
theorem dJ21_compareToUTF16_5 : decode cJ21_compareToUTF16 5 = .ok (.aload_n 1, 1) := dk_43 (dk_at dksJ21_compareToUTF16_0 5 rfl rfl)
theorem dJ21_compareToUTF16_6 : decode cJ21_compareToUTF16 6 = .ok (.invokestatic 58, 3) := dk_184 0 58 (dk_at dksJ21_compareToUTF16_0 6 rfl rfl)
theorem dJ21_compareToUTF16_9 : decode cJ21_compareToUTF16 9 = .ok (.istore_n 3, 1) := dk_62 (dk_at dksJ21_compareToUTF16_0 9 rfl rfl)
theorem dJ21_compareToUTF16_10 : decode cJ21_compareToUTF16 10 = .ok (.aload_n 0, 1) := dk_42 (dk_at dksJ21_compareToUTF16_0 10 rfl rfl)
theorem dJ21_compareToUTF16_11 : decode cJ21_compareToUTF16 11 = .ok (.aload_n 1, 1) := dk_43 (dk_at dksJ21_compareToUTF16_0 11 rfl rfl)
theorem dJ21_compareToUTF16_12 : decode cJ21_compareToUTF16 12 = .ok (.iload_n 2, 1) := dk_28 (dk_at dksJ21_compareToUTF16_0 12 rfl rfl)
theorem dJ21_compareToUTF16_13 : decode cJ21_compareToUTF16 13 = .ok (.iload_n 3, 1) := dk_29 (dk_at dksJ21_compareToUTF16_0 13 rfl rfl)
theorem dJ21_compareToUTF16_14 : decode cJ21_compareToUTF16 14 = .ok (.invokestatic 59, 3) := dk_184 0 59 (dk_at dksJ21_compareToUTF16_0 14 rfl rfl)
theorem dJ21_compareToUTF16_17 : decode cJ21_compareToUTF16 17 = .ok (.ireturn, 1) := dk_172 (dk_at dksJ21_compareToUTF16_0 17 rfl rfl)
abbrev cJ21_length : ByteArray := prog_37_method_5_code
def yJ21_length : MethodName := ⟨RJ21, "length", "([B)I"⟩
theorem dJ21_length_0 : decode cJ21_length 0 = .ok (.aload_n 0, 1) := by decide +kernel
theorem dJ21_length_1 : decode cJ21_length 1 = .ok (.arraylength, 1) := by decide +kernel
theorem dJ21_length_2 : decode cJ21_length 2 = .ok (.ireturn, 1) := by decide +kernel
abbrev cJ21_compareToUTF16Values : ByteArray := prog_37_method_18_code
def yJ21_compareToUTF16Values : MethodName := ⟨RJ21, "compareToUTF16Values", "([B[BII)I"⟩
def dkwJ21_compareToUTF16Values_2 : List UInt8 := [132, 5, 1, 167, 255, 217, 28, 29, 100, 172]
abbrev dktJ21_compareToUTF16Values_2 : List UInt8 := dkwJ21_compareToUTF16Values_2 ++ []
def dkwJ21_compareToUTF16Values_1 : List UInt8 := [54, 6, 43, 21, 5, 184, 0, 65, 54, 7, 21, 6, 21, 7, 159, 0, 9, 21, 6, 21, 7, 100, 172]
abbrev dktJ21_compareToUTF16Values_1 : List UInt8 := dkwJ21_compareToUTF16Values_1 ++ dktJ21_compareToUTF16Values_2
def dkwJ21_compareToUTF16Values_0 : List UInt8 := [28, 29, 184, 0, 38, 54, 4, 3, 54, 5, 21, 5, 21, 4, 162, 0, 38, 42, 21, 5, 184, 0, 50]
abbrev dktJ21_compareToUTF16Values_0 : List UInt8 := dkwJ21_compareToUTF16Values_0 ++ dktJ21_compareToUTF16Values_1
theorem dksJ21_compareToUTF16Values_0 : cJ21_compareToUTF16Values.data.toList.drop 0 = dktJ21_compareToUTF16Values_0 := by decide +kernel
theorem dksJ21_compareToUTF16Values_1 : cJ21_compareToUTF16Values.data.toList.drop 23 = dktJ21_compareToUTF16Values_1 := dk_seg dksJ21_compareToUTF16Values_0 23 rfl rfl
theorem dksJ21_compareToUTF16Values_2 : cJ21_compareToUTF16Values.data.toList.drop 46 = dktJ21_compareToUTF16Values_2 := dk_seg dksJ21_compareToUTF16Values_1 23 rfl rfl
theorem dJ21_compareToUTF16Values_0 : decode cJ21_compareToUTF16Values 0 = .ok (.iload_n 2, 1) := dk_28 (dk_at dksJ21_compareToUTF16Values_0 0 rfl rfl)
theorem dJ21_compareToUTF16Values_1 : decode cJ21_compareToUTF16Values 1 = .ok (.iload_n 3, 1) := dk_29 (dk_at dksJ21_compareToUTF16Values_0 1 rfl rfl)
theorem dJ21_compareToUTF16Values_2 : decode cJ21_compareToUTF16Values 2 = .ok (.invokestatic 38, 3) := dk_184 0 38 (dk_at dksJ21_compareToUTF16Values_0 2 rfl rfl)
theorem dJ21_compareToUTF16Values_5 : decode cJ21_compareToUTF16Values 5 = .ok (.istore 4, 2) := dk_54 4 (dk_at dksJ21_compareToUTF16Values_0 5 rfl rfl)
theorem dJ21_compareToUTF16Values_7 : decode cJ21_compareToUTF16Values 7 = .ok (.iconst 0, 1) := dk_3 (dk_at dksJ21_compareToUTF16Values_0 7 rfl rfl)
theorem dJ21_compareToUTF16Values_8 : decode cJ21_compareToUTF16Values 8 = .ok (.istore 5, 2) := dk_54 5 (dk_at dksJ21_compareToUTF16Values_0 8 rfl rfl)
theorem dJ21_compareToUTF16Values_10 : decode cJ21_compareToUTF16Values 10 = .ok (.iload 5, 2) := dk_21 5 (dk_at dksJ21_compareToUTF16Values_0 10 rfl rfl)
theorem dJ21_compareToUTF16Values_12 : decode cJ21_compareToUTF16Values 12 = .ok (.iload 4, 2) := dk_21 4 (dk_at dksJ21_compareToUTF16Values_0 12 rfl rfl)
theorem dJ21_compareToUTF16Values_14 : decode cJ21_compareToUTF16Values 14 = .ok (.if_icmp .ge 38, 3) := dk_162 0 38 (dk_at dksJ21_compareToUTF16Values_0 14 rfl rfl)
theorem dJ21_compareToUTF16Values_17 : decode cJ21_compareToUTF16Values 17 = .ok (.aload_n 0, 1) := dk_42 (dk_at dksJ21_compareToUTF16Values_0 17 rfl rfl)
theorem dJ21_compareToUTF16Values_18 : decode cJ21_compareToUTF16Values 18 = .ok (.iload 5, 2) := dk_21 5 (dk_at dksJ21_compareToUTF16Values_0 18 rfl rfl)
theorem dJ21_compareToUTF16Values_20 : decode cJ21_compareToUTF16Values 20 = .ok (.invokestatic 50, 3) := dk_184 0 50 (dk_at dksJ21_compareToUTF16Values_0 20 rfl rfl)
theorem dJ21_compareToUTF16Values_23 : decode cJ21_compareToUTF16Values 23 = .ok (.istore 6, 2) := dk_54 6 (dk_at dksJ21_compareToUTF16Values_1 0 rfl rfl)
theorem dJ21_compareToUTF16Values_25 : decode cJ21_compareToUTF16Values 25 = .ok (.aload_n 1, 1) := dk_43 (dk_at dksJ21_compareToUTF16Values_1 2 rfl rfl)
theorem dJ21_compareToUTF16Values_26 : decode cJ21_compareToUTF16Values 26 = .ok (.iload 5, 2) := dk_21 5 (dk_at dksJ21_compareToUTF16Values_1 3 rfl rfl)
theorem dJ21_compareToUTF16Values_28 : decode cJ21_compareToUTF16Values 28 = .ok (.invokestatic 65, 3) := dk_184 0 65 (dk_at dksJ21_compareToUTF16Values_1 5 rfl rfl)
theorem dJ21_compareToUTF16Values_31 : decode cJ21_compareToUTF16Values 31 = .ok (.istore 7, 2) := dk_54 7 (dk_at dksJ21_compareToUTF16Values_1 8 rfl rfl)
theorem dJ21_compareToUTF16Values_33 : decode cJ21_compareToUTF16Values 33 = .ok (.iload 6, 2) := dk_21 6 (dk_at dksJ21_compareToUTF16Values_1 10 rfl rfl)
theorem dJ21_compareToUTF16Values_35 : decode cJ21_compareToUTF16Values 35 = .ok (.iload 7, 2) := dk_21 7 (dk_at dksJ21_compareToUTF16Values_1 12 rfl rfl)
theorem dJ21_compareToUTF16Values_37 : decode cJ21_compareToUTF16Values 37 = .ok (.if_icmp .eq 9, 3) := dk_159 0 9 (dk_at dksJ21_compareToUTF16Values_1 14 rfl rfl)
theorem dJ21_compareToUTF16Values_40 : decode cJ21_compareToUTF16Values 40 = .ok (.iload 6, 2) := dk_21 6 (dk_at dksJ21_compareToUTF16Values_1 17 rfl rfl)
theorem dJ21_compareToUTF16Values_42 : decode cJ21_compareToUTF16Values 42 = .ok (.iload 7, 2) := dk_21 7 (dk_at dksJ21_compareToUTF16Values_1 19 rfl rfl)
theorem dJ21_compareToUTF16Values_44 : decode cJ21_compareToUTF16Values 44 = .ok (.isub, 1) := dk_100 (dk_at dksJ21_compareToUTF16Values_1 21 rfl rfl)
theorem dJ21_compareToUTF16Values_45 : decode cJ21_compareToUTF16Values 45 = .ok (.ireturn, 1) := dk_172 (dk_at dksJ21_compareToUTF16Values_1 22 rfl rfl)
theorem dJ21_compareToUTF16Values_46 : decode cJ21_compareToUTF16Values 46 = .ok (.iinc 5 1, 3) := dk_132 5 1 (dk_at dksJ21_compareToUTF16Values_2 0 rfl rfl)
theorem dJ21_compareToUTF16Values_49 : decode cJ21_compareToUTF16Values 49 = .ok (.goto (-39), 3) := dk_167 255 217 (dk_at dksJ21_compareToUTF16Values_2 3 rfl rfl)
theorem dJ21_compareToUTF16Values_52 : decode cJ21_compareToUTF16Values 52 = .ok (.iload_n 2, 1) := dk_28 (dk_at dksJ21_compareToUTF16Values_2 6 rfl rfl)
theorem dJ21_compareToUTF16Values_53 : decode cJ21_compareToUTF16Values 53 = .ok (.iload_n 3, 1) := dk_29 (dk_at dksJ21_compareToUTF16Values_2 7 rfl rfl)
theorem dJ21_compareToUTF16Values_54 : decode cJ21_compareToUTF16Values 54 = .ok (.isub, 1) := dk_100 (dk_at dksJ21_compareToUTF16Values_2 8 rfl rfl)
theorem dJ21_compareToUTF16Values_55 : decode cJ21_compareToUTF16Values 55 = .ok (.ireturn, 1) := dk_172 (dk_at dksJ21_compareToUTF16Values_2 9 rfl rfl)
abbrev cJ21_compareToUTF16_2 : ByteArray := prog_37_method_17_code
def yJ21_compareToUTF16_2 : MethodName := ⟨RJ21, "compareToUTF16", "([B[BII)I"⟩
def dkwJ21_compareToUTF16_2_0 : List UInt8 := [28, 42, 184, 0, 54, 184, 0, 62, 29, 43, 184, 0, 58, 184, 0, 62, 42, 43, 28, 29, 184, 0, 59, 172]
abbrev dktJ21_compareToUTF16_2_0 : List UInt8 := dkwJ21_compareToUTF16_2_0 ++ []
theorem dksJ21_compareToUTF16_2_0 : cJ21_compareToUTF16_2.data.toList.drop 0 = dktJ21_compareToUTF16_2_0 := by decide +kernel
theorem dJ21_compareToUTF16_2_0 : decode cJ21_compareToUTF16_2 0 = .ok (.iload_n 2, 1) := dk_28 (dk_at dksJ21_compareToUTF16_2_0 0 rfl rfl)
theorem dJ21_compareToUTF16_2_1 : decode cJ21_compareToUTF16_2 1 = .ok (.aload_n 0, 1) := dk_42 (dk_at dksJ21_compareToUTF16_2_0 1 rfl rfl)
theorem dJ21_compareToUTF16_2_2 : decode cJ21_compareToUTF16_2 2 = .ok (.invokestatic 54, 3) := dk_184 0 54 (dk_at dksJ21_compareToUTF16_2_0 2 rfl rfl)
theorem dJ21_compareToUTF16_2_5 : decode cJ21_compareToUTF16_2 5 = .ok (.invokestatic 62, 3) := dk_184 0 62 (dk_at dksJ21_compareToUTF16_2_0 5 rfl rfl)
theorem dJ21_compareToUTF16_2_8 : decode cJ21_compareToUTF16_2 8 = .ok (.iload_n 3, 1) := dk_29 (dk_at dksJ21_compareToUTF16_2_0 8 rfl rfl)
theorem dJ21_compareToUTF16_2_9 : decode cJ21_compareToUTF16_2 9 = .ok (.aload_n 1, 1) := dk_43 (dk_at dksJ21_compareToUTF16_2_0 9 rfl rfl)
theorem dJ21_compareToUTF16_2_10 : decode cJ21_compareToUTF16_2 10 = .ok (.invokestatic 58, 3) := dk_184 0 58 (dk_at dksJ21_compareToUTF16_2_0 10 rfl rfl)
theorem dJ21_compareToUTF16_2_13 : decode cJ21_compareToUTF16_2 13 = .ok (.invokestatic 62, 3) := dk_184 0 62 (dk_at dksJ21_compareToUTF16_2_0 13 rfl rfl)
theorem dJ21_compareToUTF16_2_16 : decode cJ21_compareToUTF16_2 16 = .ok (.aload_n 0, 1) := dk_42 (dk_at dksJ21_compareToUTF16_2_0 16 rfl rfl)
theorem dJ21_compareToUTF16_2_17 : decode cJ21_compareToUTF16_2 17 = .ok (.aload_n 1, 1) := dk_43 (dk_at dksJ21_compareToUTF16_2_0 17 rfl rfl)
theorem dJ21_compareToUTF16_2_18 : decode cJ21_compareToUTF16_2 18 = .ok (.iload_n 2, 1) := dk_28 (dk_at dksJ21_compareToUTF16_2_0 18 rfl rfl)
theorem dJ21_compareToUTF16_2_19 : decode cJ21_compareToUTF16_2 19 = .ok (.iload_n 3, 1) := dk_29 (dk_at dksJ21_compareToUTF16_2_0 19 rfl rfl)
theorem dJ21_compareToUTF16_2_20 : decode cJ21_compareToUTF16_2 20 = .ok (.invokestatic 59, 3) := dk_184 0 59 (dk_at dksJ21_compareToUTF16_2_0 20 rfl rfl)
theorem dJ21_compareToUTF16_2_23 : decode cJ21_compareToUTF16_2 23 = .ok (.ireturn, 1) := dk_172 (dk_at dksJ21_compareToUTF16_2_0 23 rfl rfl)
abbrev cJ21_canEncode : ByteArray := prog_37_method_3_code
def yJ21_canEncode : MethodName := ⟨RJ21, "canEncode", "(C)Z"⟩
def dkwJ21_canEncode_0 : List UInt8 := [26, 17, 0, 255, 163, 0, 7, 4, 167, 0, 4, 3, 172]
abbrev dktJ21_canEncode_0 : List UInt8 := dkwJ21_canEncode_0 ++ []
theorem dksJ21_canEncode_0 : cJ21_canEncode.data.toList.drop 0 = dktJ21_canEncode_0 := by decide +kernel
theorem dJ21_canEncode_0 : decode cJ21_canEncode 0 = .ok (.iload_n 0, 1) := dk_26 (dk_at dksJ21_canEncode_0 0 rfl rfl)
theorem dJ21_canEncode_1 : decode cJ21_canEncode 1 = .ok (.sipush 255, 3) := dk_17 0 255 (dk_at dksJ21_canEncode_0 1 rfl rfl)
theorem dJ21_canEncode_4 : decode cJ21_canEncode 4 = .ok (.if_icmp .gt 7, 3) := dk_163 0 7 (dk_at dksJ21_canEncode_0 4 rfl rfl)
theorem dJ21_canEncode_7 : decode cJ21_canEncode 7 = .ok (.iconst 1, 1) := dk_4 (dk_at dksJ21_canEncode_0 7 rfl rfl)
theorem dJ21_canEncode_8 : decode cJ21_canEncode 8 = .ok (.goto 4, 3) := dk_167 0 4 (dk_at dksJ21_canEncode_0 8 rfl rfl)
theorem dJ21_canEncode_11 : decode cJ21_canEncode 11 = .ok (.iconst 0, 1) := dk_3 (dk_at dksJ21_canEncode_0 11 rfl rfl)
theorem dJ21_canEncode_12 : decode cJ21_canEncode 12 = .ok (.ireturn, 1) := dk_172 (dk_at dksJ21_canEncode_0 12 rfl rfl)
abbrev cJ21_inflate : ByteArray := prog_37_method_50_code
def yJ21_inflate : MethodName := ⟨RJ21, "inflate", "([BI[BII)V"⟩
def dkwJ21_inflate_0 : List UInt8 := [42, 27, 44, 29, 21, 4, 184, 0, 240, 177]
abbrev dktJ21_inflate_0 : List UInt8 := dkwJ21_inflate_0 ++ []
theorem dksJ21_inflate_0 : cJ21_inflate.data.toList.drop 0 = dktJ21_inflate_0 := by decide +kernel
theorem dJ21_inflate_0 : decode cJ21_inflate 0 = .ok (.aload_n 0, 1) := dk_42 (dk_at dksJ21_inflate_0 0 rfl rfl)
theorem dJ21_inflate_1 : decode cJ21_inflate 1 = .ok (.iload_n 1, 1) := dk_27 (dk_at dksJ21_inflate_0 1 rfl rfl)
theorem dJ21_inflate_2 : decode cJ21_inflate 2 = .ok (.aload_n 2, 1) := dk_44 (dk_at dksJ21_inflate_0 2 rfl rfl)
theorem dJ21_inflate_3 : decode cJ21_inflate 3 = .ok (.iload_n 3, 1) := dk_29 (dk_at dksJ21_inflate_0 3 rfl rfl)
theorem dJ21_inflate_4 : decode cJ21_inflate 4 = .ok (.iload 4, 2) := dk_21 4 (dk_at dksJ21_inflate_0 4 rfl rfl)
theorem dJ21_inflate_6 : decode cJ21_inflate 6 = .ok (.invokestatic 240, 3) := dk_184 0 240 (dk_at dksJ21_inflate_0 6 rfl rfl)
theorem dJ21_inflate_9 : decode cJ21_inflate 9 = .ok (.return_, 1) := dk_177 (dk_at dksJ21_inflate_0 9 rfl rfl)
abbrev cJ21_fillNull : ByteArray := prog_37_method_48_code
def yJ21_fillNull : MethodName := ⟨RJ21, "fillNull", "([BII)V"⟩
def dkwJ21_fillNull_0 : List UInt8 := [42, 27, 28, 3, 184, 0, 236, 177]
abbrev dktJ21_fillNull_0 : List UInt8 := dkwJ21_fillNull_0 ++ []
theorem dksJ21_fillNull_0 : cJ21_fillNull.data.toList.drop 0 = dktJ21_fillNull_0 := by decide +kernel
theorem dJ21_fillNull_0 : decode cJ21_fillNull 0 = .ok (.aload_n 0, 1) := dk_42 (dk_at dksJ21_fillNull_0 0 rfl rfl)
theorem dJ21_fillNull_1 : decode cJ21_fillNull 1 = .ok (.iload_n 1, 1) := dk_27 (dk_at dksJ21_fillNull_0 1 rfl rfl)
theorem dJ21_fillNull_2 : decode cJ21_fillNull 2 = .ok (.iload_n 2, 1) := dk_28 (dk_at dksJ21_fillNull_0 2 rfl rfl)
theorem dJ21_fillNull_3 : decode cJ21_fillNull 3 = .ok (.iconst 0, 1) := dk_3 (dk_at dksJ21_fillNull_0 3 rfl rfl)
theorem dJ21_fillNull_4 : decode cJ21_fillNull 4 = .ok (.invokestatic 236, 3) := dk_184 0 236 (dk_at dksJ21_fillNull_0 4 rfl rfl)
theorem dJ21_fillNull_7 : decode cJ21_fillNull 7 = .ok (.return_, 1) := dk_177 (dk_at dksJ21_fillNull_0 7 rfl rfl)
abbrev cJ21_indexOf : ByteArray := prog_37_method_22_code
def yJ21_indexOf : MethodName := ⟨RJ21, "indexOf", "([BIII)I"⟩
def dkwJ21_indexOf_1 : List UInt8 := [161, 0, 5, 2, 172, 42, 27, 28, 29, 184, 0, 95, 172]
abbrev dktJ21_indexOf_1 : List UInt8 := dkwJ21_indexOf_1 ++ []
def dkwJ21_indexOf_0 : List UInt8 := [27, 184, 0, 88, 154, 0, 5, 2, 172, 28, 3, 184, 0, 92, 61, 29, 42, 190, 184, 0, 38, 62, 28, 29]
abbrev dktJ21_indexOf_0 : List UInt8 := dkwJ21_indexOf_0 ++ dktJ21_indexOf_1
theorem dksJ21_indexOf_0 : cJ21_indexOf.data.toList.drop 0 = dktJ21_indexOf_0 := by decide +kernel
theorem dksJ21_indexOf_1 : cJ21_indexOf.data.toList.drop 24 = dktJ21_indexOf_1 := dk_seg dksJ21_indexOf_0 24 rfl rfl
theorem dJ21_indexOf_0 : decode cJ21_indexOf 0 = .ok (.iload_n 1, 1) := dk_27 (dk_at dksJ21_indexOf_0 0 rfl rfl)
theorem dJ21_indexOf_1 : decode cJ21_indexOf 1 = .ok (.invokestatic 88, 3) := dk_184 0 88 (dk_at dksJ21_indexOf_0 1 rfl rfl)
theorem dJ21_indexOf_4 : decode cJ21_indexOf 4 = .ok (.ifCond .ne 5, 3) := dk_154 0 5 (dk_at dksJ21_indexOf_0 4 rfl rfl)
theorem dJ21_indexOf_7 : decode cJ21_indexOf 7 = .ok (.iconst (-1), 1) := dk_2 (dk_at dksJ21_indexOf_0 7 rfl rfl)
theorem dJ21_indexOf_8 : decode cJ21_indexOf 8 = .ok (.ireturn, 1) := dk_172 (dk_at dksJ21_indexOf_0 8 rfl rfl)
theorem dJ21_indexOf_9 : decode cJ21_indexOf 9 = .ok (.iload_n 2, 1) := dk_28 (dk_at dksJ21_indexOf_0 9 rfl rfl)
theorem dJ21_indexOf_10 : decode cJ21_indexOf 10 = .ok (.iconst 0, 1) := dk_3 (dk_at dksJ21_indexOf_0 10 rfl rfl)
theorem dJ21_indexOf_11 : decode cJ21_indexOf 11 = .ok (.invokestatic 92, 3) := dk_184 0 92 (dk_at dksJ21_indexOf_0 11 rfl rfl)
theorem dJ21_indexOf_14 : decode cJ21_indexOf 14 = .ok (.istore_n 2, 1) := dk_61 (dk_at dksJ21_indexOf_0 14 rfl rfl)
theorem dJ21_indexOf_15 : decode cJ21_indexOf 15 = .ok (.iload_n 3, 1) := dk_29 (dk_at dksJ21_indexOf_0 15 rfl rfl)
theorem dJ21_indexOf_16 : decode cJ21_indexOf 16 = .ok (.aload_n 0, 1) := dk_42 (dk_at dksJ21_indexOf_0 16 rfl rfl)
theorem dJ21_indexOf_17 : decode cJ21_indexOf 17 = .ok (.arraylength, 1) := dk_190 (dk_at dksJ21_indexOf_0 17 rfl rfl)
theorem dJ21_indexOf_18 : decode cJ21_indexOf 18 = .ok (.invokestatic 38, 3) := dk_184 0 38 (dk_at dksJ21_indexOf_0 18 rfl rfl)
theorem dJ21_indexOf_21 : decode cJ21_indexOf 21 = .ok (.istore_n 3, 1) := dk_62 (dk_at dksJ21_indexOf_0 21 rfl rfl)
theorem dJ21_indexOf_22 : decode cJ21_indexOf 22 = .ok (.iload_n 2, 1) := dk_28 (dk_at dksJ21_indexOf_0 22 rfl rfl)
theorem dJ21_indexOf_23 : decode cJ21_indexOf 23 = .ok (.iload_n 3, 1) := dk_29 (dk_at dksJ21_indexOf_0 23 rfl rfl)
theorem dJ21_indexOf_24 : decode cJ21_indexOf 24 = .ok (.if_icmp .lt 5, 3) := dk_161 0 5 (dk_at dksJ21_indexOf_1 0 rfl rfl)
theorem dJ21_indexOf_27 : decode cJ21_indexOf 27 = .ok (.iconst (-1), 1) := dk_2 (dk_at dksJ21_indexOf_1 3 rfl rfl)
theorem dJ21_indexOf_28 : decode cJ21_indexOf 28 = .ok (.ireturn, 1) := dk_172 (dk_at dksJ21_indexOf_1 4 rfl rfl)
theorem dJ21_indexOf_29 : decode cJ21_indexOf 29 = .ok (.aload_n 0, 1) := dk_42 (dk_at dksJ21_indexOf_1 5 rfl rfl)
theorem dJ21_indexOf_30 : decode cJ21_indexOf 30 = .ok (.iload_n 1, 1) := dk_27 (dk_at dksJ21_indexOf_1 6 rfl rfl)
theorem dJ21_indexOf_31 : decode cJ21_indexOf 31 = .ok (.iload_n 2, 1) := dk_28 (dk_at dksJ21_indexOf_1 7 rfl rfl)
theorem dJ21_indexOf_32 : decode cJ21_indexOf 32 = .ok (.iload_n 3, 1) := dk_29 (dk_at dksJ21_indexOf_1 8 rfl rfl)
theorem dJ21_indexOf_33 : decode cJ21_indexOf 33 = .ok (.invokestatic 95, 3) := dk_184 0 95 (dk_at dksJ21_indexOf_1 9 rfl rfl)
theorem dJ21_indexOf_36 : decode cJ21_indexOf 36 = .ok (.ireturn, 1) := dk_172 (dk_at dksJ21_indexOf_1 12 rfl rfl)
abbrev cJ21_canEncode_2 : ByteArray := prog_37_method_4_code
def yJ21_canEncode_2 : MethodName := ⟨RJ21, "canEncode", "(I)Z"⟩
def dkwJ21_canEncode_2_0 : List UInt8 := [26, 155, 0, 14, 26, 17, 0, 255, 163, 0, 7, 4, 167, 0, 4, 3, 172]
abbrev dktJ21_canEncode_2_0 : List UInt8 := dkwJ21_canEncode_2_0 ++ []
theorem dksJ21_canEncode_2_0 : cJ21_canEncode_2.data.toList.drop 0 = dktJ21_canEncode_2_0 := by decide +kernel
theorem dJ21_canEncode_2_0 : decode cJ21_canEncode_2 0 = .ok (.iload_n 0, 1) := dk_26 (dk_at dksJ21_canEncode_2_0 0 rfl rfl)
theorem dJ21_canEncode_2_1 : decode cJ21_canEncode_2 1 = .ok (.ifCond .lt 14, 3) := dk_155 0 14 (dk_at dksJ21_canEncode_2_0 1 rfl rfl)
theorem dJ21_canEncode_2_4 : decode cJ21_canEncode_2 4 = .ok (.iload_n 0, 1) := dk_26 (dk_at dksJ21_canEncode_2_0 4 rfl rfl)
theorem dJ21_canEncode_2_5 : decode cJ21_canEncode_2 5 = .ok (.sipush 255, 3) := dk_17 0 255 (dk_at dksJ21_canEncode_2_0 5 rfl rfl)
theorem dJ21_canEncode_2_8 : decode cJ21_canEncode_2 8 = .ok (.if_icmp .gt 7, 3) := dk_163 0 7 (dk_at dksJ21_canEncode_2_0 8 rfl rfl)
theorem dJ21_canEncode_2_11 : decode cJ21_canEncode_2 11 = .ok (.iconst 1, 1) := dk_4 (dk_at dksJ21_canEncode_2_0 11 rfl rfl)
theorem dJ21_canEncode_2_12 : decode cJ21_canEncode_2 12 = .ok (.goto 4, 3) := dk_167 0 4 (dk_at dksJ21_canEncode_2_0 12 rfl rfl)
theorem dJ21_canEncode_2_15 : decode cJ21_canEncode_2 15 = .ok (.iconst 0, 1) := dk_3 (dk_at dksJ21_canEncode_2_0 15 rfl rfl)
theorem dJ21_canEncode_2_16 : decode cJ21_canEncode_2 16 = .ok (.ireturn, 1) := dk_172 (dk_at dksJ21_canEncode_2_0 16 rfl rfl)
abbrev cJ21_indexOfChar : ByteArray := prog_37_method_23_code
def yJ21_indexOfChar : MethodName := ⟨RJ21, "indexOfChar", "([BIII)I"⟩
def dkwJ21_indexOfChar_1 : List UInt8 := [172, 132, 5, 1, 167, 255, 235, 2, 172]
abbrev dktJ21_indexOfChar_1 : List UInt8 := dkwJ21_indexOfChar_1 ++ []
def dkwJ21_indexOfChar_0 : List UInt8 := [27, 145, 54, 4, 28, 54, 5, 21, 5, 29, 162, 0, 21, 42, 21, 5, 51, 21, 4, 160, 0, 6, 21, 5]
abbrev dktJ21_indexOfChar_0 : List UInt8 := dkwJ21_indexOfChar_0 ++ dktJ21_indexOfChar_1
theorem dksJ21_indexOfChar_0 : cJ21_indexOfChar.data.toList.drop 0 = dktJ21_indexOfChar_0 := by decide +kernel
theorem dksJ21_indexOfChar_1 : cJ21_indexOfChar.data.toList.drop 24 = dktJ21_indexOfChar_1 := dk_seg dksJ21_indexOfChar_0 24 rfl rfl
theorem dJ21_indexOfChar_0 : decode cJ21_indexOfChar 0 = .ok (.iload_n 1, 1) := dk_27 (dk_at dksJ21_indexOfChar_0 0 rfl rfl)
theorem dJ21_indexOfChar_1 : decode cJ21_indexOfChar 1 = .ok (.i2b, 1) := dk_145 (dk_at dksJ21_indexOfChar_0 1 rfl rfl)
theorem dJ21_indexOfChar_2 : decode cJ21_indexOfChar 2 = .ok (.istore 4, 2) := dk_54 4 (dk_at dksJ21_indexOfChar_0 2 rfl rfl)
theorem dJ21_indexOfChar_4 : decode cJ21_indexOfChar 4 = .ok (.iload_n 2, 1) := dk_28 (dk_at dksJ21_indexOfChar_0 4 rfl rfl)
theorem dJ21_indexOfChar_5 : decode cJ21_indexOfChar 5 = .ok (.istore 5, 2) := dk_54 5 (dk_at dksJ21_indexOfChar_0 5 rfl rfl)
theorem dJ21_indexOfChar_7 : decode cJ21_indexOfChar 7 = .ok (.iload 5, 2) := dk_21 5 (dk_at dksJ21_indexOfChar_0 7 rfl rfl)
theorem dJ21_indexOfChar_9 : decode cJ21_indexOfChar 9 = .ok (.iload_n 3, 1) := dk_29 (dk_at dksJ21_indexOfChar_0 9 rfl rfl)
theorem dJ21_indexOfChar_10 : decode cJ21_indexOfChar 10 = .ok (.if_icmp .ge 21, 3) := dk_162 0 21 (dk_at dksJ21_indexOfChar_0 10 rfl rfl)
theorem dJ21_indexOfChar_13 : decode cJ21_indexOfChar 13 = .ok (.aload_n 0, 1) := dk_42 (dk_at dksJ21_indexOfChar_0 13 rfl rfl)
theorem dJ21_indexOfChar_14 : decode cJ21_indexOfChar 14 = .ok (.iload 5, 2) := dk_21 5 (dk_at dksJ21_indexOfChar_0 14 rfl rfl)
theorem dJ21_indexOfChar_16 : decode cJ21_indexOfChar 16 = .ok (.baload, 1) := dk_51 (dk_at dksJ21_indexOfChar_0 16 rfl rfl)
theorem dJ21_indexOfChar_17 : decode cJ21_indexOfChar 17 = .ok (.iload 4, 2) := dk_21 4 (dk_at dksJ21_indexOfChar_0 17 rfl rfl)
theorem dJ21_indexOfChar_19 : decode cJ21_indexOfChar 19 = .ok (.if_icmp .ne 6, 3) := dk_160 0 6 (dk_at dksJ21_indexOfChar_0 19 rfl rfl)
theorem dJ21_indexOfChar_22 : decode cJ21_indexOfChar 22 = .ok (.iload 5, 2) := dk_21 5 (dk_at dksJ21_indexOfChar_0 22 rfl rfl)
theorem dJ21_indexOfChar_24 : decode cJ21_indexOfChar 24 = .ok (.ireturn, 1) := dk_172 (dk_at dksJ21_indexOfChar_1 0 rfl rfl)
theorem dJ21_indexOfChar_25 : decode cJ21_indexOfChar 25 = .ok (.iinc 5 1, 3) := dk_132 5 1 (dk_at dksJ21_indexOfChar_1 1 rfl rfl)
theorem dJ21_indexOfChar_28 : decode cJ21_indexOfChar 28 = .ok (.goto (-21), 3) := dk_167 255 235 (dk_at dksJ21_indexOfChar_1 4 rfl rfl)
theorem dJ21_indexOfChar_31 : decode cJ21_indexOfChar 31 = .ok (.iconst (-1), 1) := dk_2 (dk_at dksJ21_indexOfChar_1 7 rfl rfl)
theorem dJ21_indexOfChar_32 : decode cJ21_indexOfChar 32 = .ok (.ireturn, 1) := dk_172 (dk_at dksJ21_indexOfChar_1 8 rfl rfl)
theorem q128 : (Jvm.Cond.initialized "java/lang/StringLatin1") ∈ lw_all := lw_g (lw_at lw_m1 33 rfl) rfl
theorem q1062 : (Jvm.Cond.static ({ cls := "java/lang/StringLatin1", name := "compareTo", desc := "([B[B)I" } : Jvm.MethodName)) ∈ lw_all := lw_g (lw_at lw_m5 7 rfl) rfl
theorem q1063 : (Jvm.Cond.code ({ cls := "java/lang/StringLatin1", name := "compareTo", desc := "([B[B)I" } : Jvm.MethodName) prog_37_method_14_code (4 : Nat) (Option.some Jvm.ClassFile.FieldType.int)) ∈ lw_all := lw_g (lw_at lw_m5 8 rfl) rfl
theorem q1064 : (Jvm.Cond.methodLink "java/lang/StringLatin1" (34 : Nat) ({ cls := "java/lang/StringLatin1", name := "compareTo", desc := "([B[BII)I" } : Jvm.MethodName)) ∈ lw_all := lw_g (lw_at lw_m5 9 rfl) rfl
theorem q1065 : (Jvm.Cond.static ({ cls := "java/lang/StringLatin1", name := "compareTo", desc := "([B[BII)I" } : Jvm.MethodName)) ∈ lw_all := lw_g (lw_at lw_m5 10 rfl) rfl
theorem q1066 : (Jvm.Cond.code ({ cls := "java/lang/StringLatin1", name := "compareTo", desc := "([B[BII)I" } : Jvm.MethodName) prog_37_method_15_code (6 : Nat) (Option.some Jvm.ClassFile.FieldType.int)) ∈ lw_all := lw_g (lw_at lw_m5 11 rfl) rfl
theorem q1067 : (Jvm.Cond.methodLink "java/lang/StringLatin1" (38 : Nat) ({ cls := "java/lang/Math", name := "min", desc := "(II)I" } : Jvm.MethodName)) ∈ lw_all := lw_g (lw_at lw_m5 12 rfl) rfl
theorem q1068 : (Jvm.Cond.methodLink "java/lang/StringLatin1" (44 : Nat) ({ cls := "jdk/internal/util/ArraysSupport", name := "mismatch", desc := "([B[BI)I" } : Jvm.MethodName)) ∈ lw_all := lw_g (lw_at lw_m5 13 rfl) rfl
theorem q1172 : (Jvm.Cond.methodLink "java/lang/StringLatin1" (50 : Nat) ({ cls := "java/lang/StringLatin1", name := "getChar", desc := "([BI)C" } : Jvm.MethodName)) ∈ lw_all := lw_g (lw_at lw_m5 117 rfl) rfl
theorem q1173 : (Jvm.Cond.static ({ cls := "java/lang/StringLatin1", name := "getChar", desc := "([BI)C" } : Jvm.MethodName)) ∈ lw_all := lw_g (lw_at lw_m5 118 rfl) rfl
theorem q1174 : (Jvm.Cond.code ({ cls := "java/lang/StringLatin1", name := "getChar", desc := "([BI)C" } : Jvm.MethodName) prog_37_method_44_code (2 : Nat) (Option.some Jvm.ClassFile.FieldType.char)) ∈ lw_all := lw_g (lw_at lw_m5 119 rfl) rfl
theorem q1195 : (Jvm.Cond.static ({ cls := "java/lang/StringLatin1", name := "compareToUTF16", desc := "([B[B)I" } : Jvm.MethodName)) ∈ lw_all := lw_g (lw_at lw_m5 140 rfl) rfl
theorem q1196 : (Jvm.Cond.code ({ cls := "java/lang/StringLatin1", name := "compareToUTF16", desc := "([B[B)I" } : Jvm.MethodName) prog_37_method_16_code (4 : Nat) (Option.some Jvm.ClassFile.FieldType.int)) ∈ lw_all := lw_g (lw_at lw_m5 141 rfl) rfl
theorem q1197 : (Jvm.Cond.methodLink "java/lang/StringLatin1" (54 : Nat) ({ cls := "java/lang/StringLatin1", name := "length", desc := "([B)I" } : Jvm.MethodName)) ∈ lw_all := lw_g (lw_at lw_m5 142 rfl) rfl
theorem q1198 : (Jvm.Cond.static ({ cls := "java/lang/StringLatin1", name := "length", desc := "([B)I" } : Jvm.MethodName)) ∈ lw_all := lw_g (lw_at lw_m5 143 rfl) rfl
theorem q1199 : (Jvm.Cond.code ({ cls := "java/lang/StringLatin1", name := "length", desc := "([B)I" } : Jvm.MethodName) prog_37_method_5_code (1 : Nat) (Option.some Jvm.ClassFile.FieldType.int)) ∈ lw_all := lw_g (lw_at lw_m5 144 rfl) rfl
theorem q1200 : (Jvm.Cond.methodLink "java/lang/StringLatin1" (58 : Nat) ({ cls := "java/lang/StringUTF16", name := "length", desc := "([B)I" } : Jvm.MethodName)) ∈ lw_all := lw_g (lw_at lw_m5 145 rfl) rfl
theorem q1201 : (Jvm.Cond.methodLink "java/lang/StringLatin1" (59 : Nat) ({ cls := "java/lang/StringLatin1", name := "compareToUTF16Values", desc := "([B[BII)I" } : Jvm.MethodName)) ∈ lw_all := lw_g (lw_at lw_m5 146 rfl) rfl
theorem q1202 : (Jvm.Cond.static ({ cls := "java/lang/StringLatin1", name := "compareToUTF16Values", desc := "([B[BII)I" } : Jvm.MethodName)) ∈ lw_all := lw_g (lw_at lw_m5 147 rfl) rfl
theorem q1203 : (Jvm.Cond.code ({ cls := "java/lang/StringLatin1", name := "compareToUTF16Values", desc := "([B[BII)I" } : Jvm.MethodName) prog_37_method_18_code (8 : Nat) (Option.some Jvm.ClassFile.FieldType.int)) ∈ lw_all := lw_g (lw_at lw_m5 148 rfl) rfl
theorem q1204 : (Jvm.Cond.methodLink "java/lang/StringLatin1" (65 : Nat) ({ cls := "java/lang/StringUTF16", name := "getChar", desc := "([BI)C" } : Jvm.MethodName)) ∈ lw_all := lw_g (lw_at lw_m5 149 rfl) rfl
theorem q1244 : (Jvm.Cond.static ({ cls := "java/lang/StringLatin1", name := "compareToUTF16", desc := "([B[BII)I" } : Jvm.MethodName)) ∈ lw_all := lw_g (lw_at lw_m5 189 rfl) rfl
theorem q1245 : (Jvm.Cond.code ({ cls := "java/lang/StringLatin1", name := "compareToUTF16", desc := "([B[BII)I" } : Jvm.MethodName) prog_37_method_17_code (4 : Nat) (Option.some Jvm.ClassFile.FieldType.int)) ∈ lw_all := lw_g (lw_at lw_m5 190 rfl) rfl
theorem q1246 : (Jvm.Cond.methodLink "java/lang/StringLatin1" (62 : Nat) ({ cls := "java/lang/String", name := "checkOffset", desc := "(II)V" } : Jvm.MethodName)) ∈ lw_all := lw_g (lw_at lw_m5 191 rfl) rfl
theorem q1806 : (Jvm.Cond.static ({ cls := "java/lang/StringLatin1", name := "canEncode", desc := "(C)Z" } : Jvm.MethodName)) ∈ lw_all := lw_g (lw_at lw_m8 31 rfl) rfl
theorem q1807 : (Jvm.Cond.code ({ cls := "java/lang/StringLatin1", name := "canEncode", desc := "(C)Z" } : Jvm.MethodName) prog_37_method_3_code (1 : Nat) (Option.some Jvm.ClassFile.FieldType.boolean)) ∈ lw_all := lw_g (lw_at lw_m8 32 rfl) rfl
theorem q1813 : (Jvm.Cond.static ({ cls := "java/lang/StringLatin1", name := "inflate", desc := "([BI[BII)V" } : Jvm.MethodName)) ∈ lw_all := lw_g (lw_at lw_m8 38 rfl) rfl
theorem q1814 : (Jvm.Cond.code ({ cls := "java/lang/StringLatin1", name := "inflate", desc := "([BI[BII)V" } : Jvm.MethodName) prog_37_method_50_code (5 : Nat) (Option.none : Option Jvm.ClassFile.FieldType)) ∈ lw_all := lw_g (lw_at lw_m8 39 rfl) rfl
theorem q1815 : (Jvm.Cond.methodLink "java/lang/StringLatin1" (240 : Nat) ({ cls := "java/lang/StringUTF16", name := "inflate", desc := "([BI[BII)V" } : Jvm.MethodName)) ∈ lw_all := lw_g (lw_at lw_m8 40 rfl) rfl
theorem q1852 : (Jvm.Cond.static ({ cls := "java/lang/StringLatin1", name := "fillNull", desc := "([BII)V" } : Jvm.MethodName)) ∈ lw_all := lw_g (lw_at lw_m8 77 rfl) rfl
theorem q1853 : (Jvm.Cond.code ({ cls := "java/lang/StringLatin1", name := "fillNull", desc := "([BII)V" } : Jvm.MethodName) prog_37_method_48_code (3 : Nat) (Option.none : Option Jvm.ClassFile.FieldType)) ∈ lw_all := lw_g (lw_at lw_m8 78 rfl) rfl
theorem q1854 : (Jvm.Cond.methodLink "java/lang/StringLatin1" (236 : Nat) ({ cls := "java/util/Arrays", name := "fill", desc := "([BIIB)V" } : Jvm.MethodName)) ∈ lw_all := lw_g (lw_at lw_m8 79 rfl) rfl
theorem q1939 : (Jvm.Cond.static ({ cls := "java/lang/StringLatin1", name := "indexOf", desc := "([BIII)I" } : Jvm.MethodName)) ∈ lw_all := lw_g (lw_at lw_m8 164 rfl) rfl
theorem q1940 : (Jvm.Cond.code ({ cls := "java/lang/StringLatin1", name := "indexOf", desc := "([BIII)I" } : Jvm.MethodName) prog_37_method_22_code (4 : Nat) (Option.some Jvm.ClassFile.FieldType.int)) ∈ lw_all := lw_g (lw_at lw_m8 165 rfl) rfl
theorem q1941 : (Jvm.Cond.methodLink "java/lang/StringLatin1" (88 : Nat) ({ cls := "java/lang/StringLatin1", name := "canEncode", desc := "(I)Z" } : Jvm.MethodName)) ∈ lw_all := lw_g (lw_at lw_m8 166 rfl) rfl
theorem q1942 : (Jvm.Cond.static ({ cls := "java/lang/StringLatin1", name := "canEncode", desc := "(I)Z" } : Jvm.MethodName)) ∈ lw_all := lw_g (lw_at lw_m8 167 rfl) rfl
theorem q1943 : (Jvm.Cond.code ({ cls := "java/lang/StringLatin1", name := "canEncode", desc := "(I)Z" } : Jvm.MethodName) prog_37_method_4_code (1 : Nat) (Option.some Jvm.ClassFile.FieldType.boolean)) ∈ lw_all := lw_g (lw_at lw_m8 168 rfl) rfl
theorem q1944 : (Jvm.Cond.methodLink "java/lang/StringLatin1" (92 : Nat) ({ cls := "java/lang/Math", name := "max", desc := "(II)I" } : Jvm.MethodName)) ∈ lw_all := lw_g (lw_at lw_m8 169 rfl) rfl
theorem q1945 : (Jvm.Cond.methodLink "java/lang/StringLatin1" (95 : Nat) ({ cls := "java/lang/StringLatin1", name := "indexOfChar", desc := "([BIII)I" } : Jvm.MethodName)) ∈ lw_all := lw_g (lw_at lw_m8 170 rfl) rfl
theorem q1946 : (Jvm.Cond.static ({ cls := "java/lang/StringLatin1", name := "indexOfChar", desc := "([BIII)I" } : Jvm.MethodName)) ∈ lw_all := lw_g (lw_at lw_m8 171 rfl) rfl
theorem q1947 : (Jvm.Cond.code ({ cls := "java/lang/StringLatin1", name := "indexOfChar", desc := "([BIII)I" } : Jvm.MethodName) prog_37_method_23_code (6 : Nat) (Option.some Jvm.ClassFile.FieldType.int)) ∈ lw_all := lw_g (lw_at lw_m8 172 rfl) rfl
abbrev cJ25_init : ByteArray := prog_45_method_2_code
def yJ25_init : MethodName := ⟨RJ25, "<init>", "(Ljava/util/Map$Entry;)V"⟩
def dkwJ25_init_1 : List UInt8 := [177]
abbrev dktJ25_init_1 : List UInt8 := dkwJ25_init_1 ++ []
def dkwJ25_init_0 : List UInt8 := [42, 183, 0, 1, 42, 43, 185, 0, 16, 1, 0, 181, 0, 7, 42, 43, 185, 0, 22, 1, 0, 181, 0, 13]
abbrev dktJ25_init_0 : List UInt8 := dkwJ25_init_0 ++ dktJ25_init_1
theorem dksJ25_init_0 : cJ25_init.data.toList.drop 0 = dktJ25_init_0 := by decide +kernel
theorem dksJ25_init_1 : cJ25_init.data.toList.drop 24 = dktJ25_init_1 := dk_seg dksJ25_init_0 24 rfl rfl
theorem dJ25_init_0 : decode cJ25_init 0 = .ok (.aload_n 0, 1) := dk_42 (dk_at dksJ25_init_0 0 rfl rfl)
theorem dJ25_init_1 : decode cJ25_init 1 = .ok (.invokespecial 1, 3) := dk_183 0 1 (dk_at dksJ25_init_0 1 rfl rfl)
theorem dJ25_init_4 : decode cJ25_init 4 = .ok (.aload_n 0, 1) := dk_42 (dk_at dksJ25_init_0 4 rfl rfl)
theorem dJ25_init_5 : decode cJ25_init 5 = .ok (.aload_n 1, 1) := dk_43 (dk_at dksJ25_init_0 5 rfl rfl)
theorem dJ25_init_6 : decode cJ25_init 6 = .ok (.invokeinterface 16 1, 5) := by decide +kernel
theorem dJ25_init_11 : decode cJ25_init 11 = .ok (.putfield 7, 3) := dk_181 0 7 (dk_at dksJ25_init_0 11 rfl rfl)
theorem dJ25_init_14 : decode cJ25_init 14 = .ok (.aload_n 0, 1) := dk_42 (dk_at dksJ25_init_0 14 rfl rfl)
theorem dJ25_init_15 : decode cJ25_init 15 = .ok (.aload_n 1, 1) := dk_43 (dk_at dksJ25_init_0 15 rfl rfl)
theorem dJ25_init_16 : decode cJ25_init 16 = .ok (.invokeinterface 22 1, 5) := by decide +kernel
theorem dJ25_init_21 : decode cJ25_init 21 = .ok (.putfield 13, 3) := dk_181 0 13 (dk_at dksJ25_init_0 21 rfl rfl)
theorem dJ25_init_24 : decode cJ25_init 24 = .ok (.return_, 1) := dk_177 (dk_at dksJ25_init_1 0 rfl rfl)
abbrev cJ25_getKey : ByteArray := prog_45_method_3_code
def yJ25_getKey : MethodName := ⟨RJ25, "getKey", "()Ljava/lang/Object;"⟩
theorem dJ25_getKey_0 : decode cJ25_getKey 0 = .ok (.aload_n 0, 1) := by decide +kernel
theorem dJ25_getKey_1 : decode cJ25_getKey 1 = .ok (.getfield 7, 3) := by decide +kernel
theorem dJ25_getKey_4 : decode cJ25_getKey 4 = .ok (.areturn, 1) := by decide +kernel
abbrev cJ25_getValue : ByteArray := prog_45_method_4_code
def yJ25_getValue : MethodName := ⟨RJ25, "getValue", "()Ljava/lang/Object;"⟩
theorem dJ25_getValue_0 : decode cJ25_getValue 0 = .ok (.aload_n 0, 1) := by decide +kernel
theorem dJ25_getValue_1 : decode cJ25_getValue 1 = .ok (.getfield 13, 3) := by decide +kernel
theorem dJ25_getValue_4 : decode cJ25_getValue 4 = .ok (.areturn, 1) := by decide +kernel
theorem q133 : (Jvm.Cond.initialized "java/util/AbstractMap$SimpleImmutableEntry") ∈ lw_all := lw_g (lw_at lw_m1 38 rfl) rfl
theorem q713 : (Jvm.Cond.selects "java/util/AbstractMap$SimpleImmutableEntry" ({ cls := "java/lang/Object", name := "getClass", desc := "()Ljava/lang/Class;" } : Jvm.MethodName) ({ cls := "java/lang/Object", name := "getClass", desc := "()Ljava/lang/Class;" } : Jvm.MethodName)) ∈ lw_all := lw_g (lw_at lw_m3 138 rfl) rfl
theorem q1339 : (Jvm.Cond.instantiable "java/util/AbstractMap$SimpleImmutableEntry" (2 : Nat)) ∈ lw_all := lw_g (lw_at lw_m6 44 rfl) rfl
theorem q1341 : (Jvm.Cond.instanceMethod ({ cls := "java/util/AbstractMap$SimpleImmutableEntry", name := "<init>", desc := "(Ljava/util/Map$Entry;)V" } : Jvm.MethodName)) ∈ lw_all := lw_g (lw_at lw_m6 46 rfl) rfl
theorem q1342 : (Jvm.Cond.code ({ cls := "java/util/AbstractMap$SimpleImmutableEntry", name := "<init>", desc := "(Ljava/util/Map$Entry;)V" } : Jvm.MethodName) prog_45_method_2_code (2 : Nat) (Option.none : Option Jvm.ClassFile.FieldType)) ∈ lw_all := lw_g (lw_at lw_m6 47 rfl) rfl
theorem q1343 : (Jvm.Cond.methodLink "java/util/AbstractMap$SimpleImmutableEntry" (1 : Nat) ({ cls := "java/lang/Object", name := "<init>", desc := "()V" } : Jvm.MethodName)) ∈ lw_all := lw_g (lw_at lw_m6 48 rfl) rfl
theorem q1344 : (Jvm.Cond.interfaceEntry "java/util/AbstractMap$SimpleImmutableEntry" (16 : Nat)) ∈ lw_tbl := lw_at lw_m6 49 rfl
theorem q1345 : (Jvm.Cond.methodLink "java/util/AbstractMap$SimpleImmutableEntry" (16 : Nat) ({ cls := "java/util/Map$Entry", name := "getKey", desc := "()Ljava/lang/Object;" } : Jvm.MethodName)) ∈ lw_all := lw_g (lw_at lw_m6 50 rfl) rfl
theorem q1348 : (Jvm.Cond.castable "java/util/AbstractMap$SimpleImmutableEntry" "java/util/Map$Entry") ∈ lw_tbl := lw_at lw_m6 53 rfl
theorem q1349 : (Jvm.Cond.selects "java/util/AbstractMap$SimpleImmutableEntry" ({ cls := "java/util/Map$Entry", name := "getKey", desc := "()Ljava/lang/Object;" } : Jvm.MethodName) ({ cls := "java/util/AbstractMap$SimpleImmutableEntry", name := "getKey", desc := "()Ljava/lang/Object;" } : Jvm.MethodName)) ∈ lw_all := lw_g (lw_at lw_m6 54 rfl) rfl
theorem q1350 : (Jvm.Cond.unhidden "java/util/AbstractMap$SimpleImmutableEntry" "getKey" "()Ljava/lang/Object;") ∈ lw_tbl := lw_at lw_m6 55 rfl
theorem q1351 : (Jvm.Cond.instanceMethod ({ cls := "java/util/AbstractMap$SimpleImmutableEntry", name := "getKey", desc := "()Ljava/lang/Object;" } : Jvm.MethodName)) ∈ lw_all := lw_g (lw_at lw_m6 56 rfl) rfl
theorem q1352 : (Jvm.Cond.publicMethod ({ cls := "java/util/AbstractMap$SimpleImmutableEntry", name := "getKey", desc := "()Ljava/lang/Object;" } : Jvm.MethodName)) ∈ lw_tbl := lw_at lw_m6 57 rfl
theorem q1353 : (Jvm.Cond.code ({ cls := "java/util/AbstractMap$SimpleImmutableEntry", name := "getKey", desc := "()Ljava/lang/Object;" } : Jvm.MethodName) prog_45_method_3_code (1 : Nat) (Option.some (Jvm.ClassFile.FieldType.object "java/lang/Object"))) ∈ lw_all := lw_g (lw_at lw_m6 58 rfl) rfl
theorem q1360 : (Jvm.Cond.interfaceEntry "java/util/AbstractMap$SimpleImmutableEntry" (22 : Nat)) ∈ lw_tbl := lw_at lw_m6 65 rfl
theorem q1361 : (Jvm.Cond.methodLink "java/util/AbstractMap$SimpleImmutableEntry" (22 : Nat) ({ cls := "java/util/Map$Entry", name := "getValue", desc := "()Ljava/lang/Object;" } : Jvm.MethodName)) ∈ lw_all := lw_g (lw_at lw_m6 66 rfl) rfl
theorem q1364 : (Jvm.Cond.selects "java/util/AbstractMap$SimpleImmutableEntry" ({ cls := "java/util/Map$Entry", name := "getValue", desc := "()Ljava/lang/Object;" } : Jvm.MethodName) ({ cls := "java/util/AbstractMap$SimpleImmutableEntry", name := "getValue", desc := "()Ljava/lang/Object;" } : Jvm.MethodName)) ∈ lw_all := lw_g (lw_at lw_m6 69 rfl) rfl
theorem q1365 : (Jvm.Cond.unhidden "java/util/AbstractMap$SimpleImmutableEntry" "getValue" "()Ljava/lang/Object;") ∈ lw_tbl := lw_at lw_m6 70 rfl
theorem q1366 : (Jvm.Cond.instanceMethod ({ cls := "java/util/AbstractMap$SimpleImmutableEntry", name := "getValue", desc := "()Ljava/lang/Object;" } : Jvm.MethodName)) ∈ lw_all := lw_g (lw_at lw_m6 71 rfl) rfl
theorem q1367 : (Jvm.Cond.publicMethod ({ cls := "java/util/AbstractMap$SimpleImmutableEntry", name := "getValue", desc := "()Ljava/lang/Object;" } : Jvm.MethodName)) ∈ lw_tbl := lw_at lw_m6 72 rfl
theorem q1368 : (Jvm.Cond.code ({ cls := "java/util/AbstractMap$SimpleImmutableEntry", name := "getValue", desc := "()Ljava/lang/Object;" } : Jvm.MethodName) prog_45_method_4_code (1 : Nat) (Option.some (Jvm.ClassFile.FieldType.object "java/lang/Object"))) ∈ lw_all := lw_g (lw_at lw_m6 73 rfl) rfl
theorem q1374 : (Jvm.Cond.fieldLink "java/util/AbstractMap$SimpleImmutableEntry" (7 : Nat) "java/util/AbstractMap$SimpleImmutableEntry" "key" "Ljava/lang/Object;") ∈ lw_all := lw_g (lw_at lw_m6 79 rfl) rfl
theorem q1375 : (Jvm.Cond.fieldLink "java/util/AbstractMap$SimpleImmutableEntry" (13 : Nat) "java/util/AbstractMap$SimpleImmutableEntry" "value" "Ljava/lang/Object;") ∈ lw_all := lw_g (lw_at lw_m6 80 rfl) rfl
theorem q1376 : (Jvm.Cond.laysFinal "java/util/AbstractMap$SimpleImmutableEntry" "java/util/AbstractMap$SimpleImmutableEntry" "key" "Ljava/lang/Object;") ∈ lw_all := lw_g (lw_at lw_m6 81 rfl) rfl
theorem q1377 : (Jvm.Cond.soleField "java/util/AbstractMap$SimpleImmutableEntry" "key") ∈ lw_all := lw_g (lw_at lw_m6 82 rfl) rfl
theorem q1378 : (Jvm.Cond.laysFinal "java/util/AbstractMap$SimpleImmutableEntry" "java/util/AbstractMap$SimpleImmutableEntry" "value" "Ljava/lang/Object;") ∈ lw_all := lw_g (lw_at lw_m6 83 rfl) rfl
theorem q1379 : (Jvm.Cond.soleField "java/util/AbstractMap$SimpleImmutableEntry" "value") ∈ lw_all := lw_g (lw_at lw_m6 84 rfl) rfl
theorem q1380 : (Jvm.Cond.superclass "java/util/AbstractMap$SimpleImmutableEntry" "java/lang/Object") ∈ lw_all := lw_g (lw_at lw_m6 85 rfl) rfl
theorem q2440 : (Jvm.Cond.castable "java/util/AbstractMap$SimpleImmutableEntry" "java/lang/Object") ∈ lw_tbl := lw_at lw_m10 185 rfl
theorem in_J25 : ∀ w ∈ wsJ250, w ∈ lw_all := lw_in wsJ250 [1376, 1378] (by decide +kernel) (by decide +kernel)
abbrev cJ26_empty : ByteArray := prog_60_method_1_code
def yJ26_empty : MethodName := ⟨RJ26, "empty", "()Ljava/util/Optional;"⟩
def dkwJ26_empty_0 : List UInt8 := [178, 0, 1, 75, 42, 176]
abbrev dktJ26_empty_0 : List UInt8 := dkwJ26_empty_0 ++ []
theorem dksJ26_empty_0 : cJ26_empty.data.toList.drop 0 = dktJ26_empty_0 := by decide +kernel
theorem dJ26_empty_0 : decode cJ26_empty 0 = .ok (.getstatic 1, 3) := dk_178 0 1 (dk_at dksJ26_empty_0 0 rfl rfl)
theorem dJ26_empty_3 : decode cJ26_empty 3 = .ok (.astore_n 0, 1) := dk_75 (dk_at dksJ26_empty_0 3 rfl rfl)
theorem dJ26_empty_4 : decode cJ26_empty 4 = .ok (.aload_n 0, 1) := dk_42 (dk_at dksJ26_empty_0 4 rfl rfl)
theorem dJ26_empty_5 : decode cJ26_empty 5 = .ok (.areturn, 1) := dk_176 (dk_at dksJ26_empty_0 5 rfl rfl)
abbrev cJ26_of : ByteArray := prog_60_method_3_code
def yJ26_of : MethodName := ⟨RJ26, "of", "(Ljava/lang/Object;)Ljava/util/Optional;"⟩
def dkwJ26_of_0 : List UInt8 := [187, 0, 2, 89, 42, 184, 0, 17, 183, 0, 23, 176]
abbrev dktJ26_of_0 : List UInt8 := dkwJ26_of_0 ++ []
theorem dksJ26_of_0 : cJ26_of.data.toList.drop 0 = dktJ26_of_0 := by decide +kernel
theorem dJ26_of_0 : decode cJ26_of 0 = .ok (.new 2, 3) := dk_187 0 2 (dk_at dksJ26_of_0 0 rfl rfl)
theorem dJ26_of_3 : decode cJ26_of 3 = .ok (.dup, 1) := dk_89 (dk_at dksJ26_of_0 3 rfl rfl)
theorem dJ26_of_4 : decode cJ26_of 4 = .ok (.aload_n 0, 1) := dk_42 (dk_at dksJ26_of_0 4 rfl rfl)
theorem dJ26_of_5 : decode cJ26_of 5 = .ok (.invokestatic 17, 3) := dk_184 0 17 (dk_at dksJ26_of_0 5 rfl rfl)
theorem dJ26_of_8 : decode cJ26_of 8 = .ok (.invokespecial 23, 3) := dk_183 0 23 (dk_at dksJ26_of_0 8 rfl rfl)
theorem dJ26_of_11 : decode cJ26_of 11 = .ok (.areturn, 1) := dk_176 (dk_at dksJ26_of_0 11 rfl rfl)
abbrev cJ26_init : ByteArray := prog_60_method_2_code
def yJ26_init : MethodName := ⟨RJ26, "<init>", "(Ljava/lang/Object;)V"⟩
def dkwJ26_init_0 : List UInt8 := [42, 183, 0, 7, 42, 43, 181, 0, 13, 177]
abbrev dktJ26_init_0 : List UInt8 := dkwJ26_init_0 ++ []
theorem dksJ26_init_0 : cJ26_init.data.toList.drop 0 = dktJ26_init_0 := by decide +kernel
theorem dJ26_init_0 : decode cJ26_init 0 = .ok (.aload_n 0, 1) := dk_42 (dk_at dksJ26_init_0 0 rfl rfl)
theorem dJ26_init_1 : decode cJ26_init 1 = .ok (.invokespecial 7, 3) := dk_183 0 7 (dk_at dksJ26_init_0 1 rfl rfl)
theorem dJ26_init_4 : decode cJ26_init 4 = .ok (.aload_n 0, 1) := dk_42 (dk_at dksJ26_init_0 4 rfl rfl)
theorem dJ26_init_5 : decode cJ26_init 5 = .ok (.aload_n 1, 1) := dk_43 (dk_at dksJ26_init_0 5 rfl rfl)
theorem dJ26_init_6 : decode cJ26_init 6 = .ok (.putfield 13, 3) := dk_181 0 13 (dk_at dksJ26_init_0 6 rfl rfl)
theorem dJ26_init_9 : decode cJ26_init 9 = .ok (.return_, 1) := dk_177 (dk_at dksJ26_init_0 9 rfl rfl)
abbrev cJ26_orElse : ByteArray := prog_60_method_15_code
def yJ26_orElse : MethodName := ⟨RJ26, "orElse", "(Ljava/lang/Object;)Ljava/lang/Object;"⟩
def dkwJ26_orElse_0 : List UInt8 := [42, 180, 0, 13, 198, 0, 10, 42, 180, 0, 13, 167, 0, 4, 43, 176]
abbrev dktJ26_orElse_0 : List UInt8 := dkwJ26_orElse_0 ++ []
theorem dksJ26_orElse_0 : cJ26_orElse.data.toList.drop 0 = dktJ26_orElse_0 := by decide +kernel
theorem dJ26_orElse_0 : decode cJ26_orElse 0 = .ok (.aload_n 0, 1) := dk_42 (dk_at dksJ26_orElse_0 0 rfl rfl)
theorem dJ26_orElse_1 : decode cJ26_orElse 1 = .ok (.getfield 13, 3) := dk_180 0 13 (dk_at dksJ26_orElse_0 1 rfl rfl)
theorem dJ26_orElse_4 : decode cJ26_orElse 4 = .ok (.ifnull 10, 3) := dk_198 0 10 (dk_at dksJ26_orElse_0 4 rfl rfl)
theorem dJ26_orElse_7 : decode cJ26_orElse 7 = .ok (.aload_n 0, 1) := dk_42 (dk_at dksJ26_orElse_0 7 rfl rfl)
theorem dJ26_orElse_8 : decode cJ26_orElse 8 = .ok (.getfield 13, 3) := dk_180 0 13 (dk_at dksJ26_orElse_0 8 rfl rfl)
theorem dJ26_orElse_11 : decode cJ26_orElse 11 = .ok (.goto 4, 3) := dk_167 0 4 (dk_at dksJ26_orElse_0 11 rfl rfl)
theorem dJ26_orElse_14 : decode cJ26_orElse 14 = .ok (.aload_n 1, 1) := dk_43 (dk_at dksJ26_orElse_0 14 rfl rfl)
theorem dJ26_orElse_15 : decode cJ26_orElse 15 = .ok (.areturn, 1) := dk_176 (dk_at dksJ26_orElse_0 15 rfl rfl)
theorem q135 : (Jvm.Cond.initialized "java/util/Optional") ∈ lw_all := lw_g (lw_at lw_m1 40 rfl) rfl
theorem q717 : (Jvm.Cond.selects "java/util/Optional" ({ cls := "java/lang/Object", name := "getClass", desc := "()Ljava/lang/Class;" } : Jvm.MethodName) ({ cls := "java/lang/Object", name := "getClass", desc := "()Ljava/lang/Class;" } : Jvm.MethodName)) ∈ lw_all := lw_g (lw_at lw_m3 142 rfl) rfl
theorem q1704 : (Jvm.Cond.static ({ cls := "java/util/Optional", name := "empty", desc := "()Ljava/util/Optional;" } : Jvm.MethodName)) ∈ lw_all := lw_g (lw_at lw_m7 169 rfl) rfl
theorem q1705 : (Jvm.Cond.code ({ cls := "java/util/Optional", name := "empty", desc := "()Ljava/util/Optional;" } : Jvm.MethodName) prog_60_method_1_code (1 : Nat) (Option.some (Jvm.ClassFile.FieldType.object "java/util/Optional"))) ∈ lw_all := lw_g (lw_at lw_m7 170 rfl) rfl
theorem q1706 : (Jvm.Cond.fieldLink "java/util/Optional" (1 : Nat) "java/util/Optional" "EMPTY" "Ljava/util/Optional;") ∈ lw_all := lw_g (lw_at lw_m7 171 rfl) rfl
theorem q1707 : (Jvm.Cond.laysStatic "java/util/Optional" "EMPTY" "Ljava/util/Optional;") ∈ lw_tbl := lw_at lw_m7 172 rfl
theorem q1709 : (Jvm.Cond.static ({ cls := "java/util/Optional", name := "of", desc := "(Ljava/lang/Object;)Ljava/util/Optional;" } : Jvm.MethodName)) ∈ lw_all := lw_g (lw_at lw_m7 174 rfl) rfl
theorem q1710 : (Jvm.Cond.code ({ cls := "java/util/Optional", name := "of", desc := "(Ljava/lang/Object;)Ljava/util/Optional;" } : Jvm.MethodName) prog_60_method_3_code (1 : Nat) (Option.some (Jvm.ClassFile.FieldType.object "java/util/Optional"))) ∈ lw_all := lw_g (lw_at lw_m7 175 rfl) rfl
theorem q1711 : (Jvm.Cond.classLink "java/util/Optional" (2 : Nat) "java/util/Optional") ∈ lw_all := lw_g (lw_at lw_m7 176 rfl) rfl
theorem q1712 : (Jvm.Cond.instantiable "java/util/Optional" (1 : Nat)) ∈ lw_all := lw_g (lw_at lw_m7 177 rfl) rfl
theorem q1713 : (Jvm.Cond.methodLink "java/util/Optional" (17 : Nat) ({ cls := "java/util/Objects", name := "requireNonNull", desc := "(Ljava/lang/Object;)Ljava/lang/Object;" } : Jvm.MethodName)) ∈ lw_all := lw_g (lw_at lw_m7 178 rfl) rfl
theorem q1714 : (Jvm.Cond.methodLink "java/util/Optional" (23 : Nat) ({ cls := "java/util/Optional", name := "<init>", desc := "(Ljava/lang/Object;)V" } : Jvm.MethodName)) ∈ lw_all := lw_g (lw_at lw_m7 179 rfl) rfl
theorem q1715 : (Jvm.Cond.instanceMethod ({ cls := "java/util/Optional", name := "<init>", desc := "(Ljava/lang/Object;)V" } : Jvm.MethodName)) ∈ lw_all := lw_g (lw_at lw_m7 180 rfl) rfl
theorem q1716 : (Jvm.Cond.code ({ cls := "java/util/Optional", name := "<init>", desc := "(Ljava/lang/Object;)V" } : Jvm.MethodName) prog_60_method_2_code (2 : Nat) (Option.none : Option Jvm.ClassFile.FieldType)) ∈ lw_all := lw_g (lw_at lw_m7 181 rfl) rfl
theorem q1717 : (Jvm.Cond.methodLink "java/util/Optional" (7 : Nat) ({ cls := "java/lang/Object", name := "<init>", desc := "()V" } : Jvm.MethodName)) ∈ lw_all := lw_g (lw_at lw_m7 182 rfl) rfl
theorem q1718 : (Jvm.Cond.fieldLink "java/util/Optional" (13 : Nat) "java/util/Optional" "value" "Ljava/lang/Object;") ∈ lw_all := lw_g (lw_at lw_m7 183 rfl) rfl
theorem q1719 : (Jvm.Cond.laysFinal "java/util/Optional" "java/util/Optional" "value" "Ljava/lang/Object;") ∈ lw_all := lw_g (lw_at lw_m7 184 rfl) rfl
theorem q1720 : (Jvm.Cond.soleField "java/util/Optional" "value") ∈ lw_all := lw_g (lw_at lw_m7 185 rfl) rfl
theorem q1721 : (Jvm.Cond.superclass "java/util/Optional" "java/lang/Object") ∈ lw_all := lw_g (lw_at lw_m7 186 rfl) rfl
theorem q1723 : (Jvm.Cond.instanceMethod ({ cls := "java/util/Optional", name := "orElse", desc := "(Ljava/lang/Object;)Ljava/lang/Object;" } : Jvm.MethodName)) ∈ lw_all := lw_g (lw_at lw_m7 188 rfl) rfl
theorem q1724 : (Jvm.Cond.selects "java/util/Optional" ({ cls := "java/util/Optional", name := "orElse", desc := "(Ljava/lang/Object;)Ljava/lang/Object;" } : Jvm.MethodName) ({ cls := "java/util/Optional", name := "orElse", desc := "(Ljava/lang/Object;)Ljava/lang/Object;" } : Jvm.MethodName)) ∈ lw_all := lw_g (lw_at lw_m7 189 rfl) rfl
theorem q1725 : (Jvm.Cond.code ({ cls := "java/util/Optional", name := "orElse", desc := "(Ljava/lang/Object;)Ljava/lang/Object;" } : Jvm.MethodName) prog_60_method_15_code (2 : Nat) (Option.some (Jvm.ClassFile.FieldType.object "java/lang/Object"))) ∈ lw_all := lw_g (lw_at lw_m7 190 rfl) rfl
theorem q2442 : (Jvm.Cond.castable "java/util/Optional" "java/lang/Object") ∈ lw_tbl := lw_at lw_m10 187 rfl
theorem in_J26 : ∀ w ∈ wsJ260, w ∈ lw_all := lw_in wsJ260 [1719] (by decide +kernel) (by decide +kernel)
