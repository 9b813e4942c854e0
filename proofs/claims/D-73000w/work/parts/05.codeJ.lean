/-! CODES AND DECODE ROWS (claim/names) -/
set_option maxRecDepth 100000
abbrev cJ0_init : ByteArray := prog_35_method_1_code
def yJ0_init : MethodName := ⟨RJ0, "<init>", "()V"⟩
theorem dJ0_init_0 : decode cJ0_init 0 = .ok (.aload_n 0, 1) := by decide +kernel
theorem dJ0_init_1 : decode cJ0_init 1 = .ok (.invokespecial 1, 3) := by decide +kernel
theorem dJ0_init_4 : decode cJ0_init 4 = .ok (.return_, 1) := by decide +kernel
abbrev cJ1_init : ByteArray := prog_36_method_1_code
def yJ1_init : MethodName := ⟨RJ1, "<init>", "()V"⟩
def dkwJ1_init_0 : List UInt8 := [42, 183, 0, 1, 42, 3, 181, 0, 7, 177]
abbrev dktJ1_init_0 : List UInt8 := dkwJ1_init_0 ++ []
theorem dksJ1_init_0 : cJ1_init.data.toList.drop 0 = dktJ1_init_0 := by decide +kernel
theorem dJ1_init_0 : decode cJ1_init 0 = .ok (.aload_n 0, 1) := dk_42 (dk_at dksJ1_init_0 0 rfl rfl)
theorem dJ1_init_1 : decode cJ1_init 1 = .ok (.invokespecial 1, 3) := dk_183 0 1 (dk_at dksJ1_init_0 1 rfl rfl)
theorem dJ1_init_4 : decode cJ1_init 4 = .ok (.aload_n 0, 1) := dk_42 (dk_at dksJ1_init_0 4 rfl rfl)
theorem dJ1_init_5 : decode cJ1_init 5 = .ok (.iconst 0, 1) := dk_3 (dk_at dksJ1_init_0 5 rfl rfl)
theorem dJ1_init_6 : decode cJ1_init 6 = .ok (.putfield 7, 3) := dk_181 0 7 (dk_at dksJ1_init_0 6 rfl rfl)
theorem dJ1_init_9 : decode cJ1_init 9 = .ok (.return_, 1) := dk_177 (dk_at dksJ1_init_0 9 rfl rfl)
abbrev cJ2_init : ByteArray := prog_37_method_2_code
def yJ2_init : MethodName := ⟨RJ2, "<init>", "()V"⟩
def dkwJ2_init_0 : List UInt8 := [42, 183, 0, 1, 42, 178, 0, 39, 181, 0, 9, 177]
abbrev dktJ2_init_0 : List UInt8 := dkwJ2_init_0 ++ []
theorem dksJ2_init_0 : cJ2_init.data.toList.drop 0 = dktJ2_init_0 := by decide +kernel
theorem dJ2_init_0 : decode cJ2_init 0 = .ok (.aload_n 0, 1) := dk_42 (dk_at dksJ2_init_0 0 rfl rfl)
theorem dJ2_init_1 : decode cJ2_init 1 = .ok (.invokespecial 1, 3) := dk_183 0 1 (dk_at dksJ2_init_0 1 rfl rfl)
theorem dJ2_init_4 : decode cJ2_init 4 = .ok (.aload_n 0, 1) := dk_42 (dk_at dksJ2_init_0 4 rfl rfl)
theorem dJ2_init_5 : decode cJ2_init 5 = .ok (.getstatic 39, 3) := dk_178 0 39 (dk_at dksJ2_init_0 5 rfl rfl)
theorem dJ2_init_8 : decode cJ2_init 8 = .ok (.putfield 9, 3) := dk_181 0 9 (dk_at dksJ2_init_0 8 rfl rfl)
theorem dJ2_init_11 : decode cJ2_init 11 = .ok (.return_, 1) := dk_177 (dk_at dksJ2_init_0 11 rfl rfl)
abbrev cJ2_size : ByteArray := prog_37_method_8_code
def yJ2_size : MethodName := ⟨RJ2, "size", "()I"⟩
theorem dJ2_size_0 : decode cJ2_size 0 = .ok (.aload_n 0, 1) := by decide +kernel
theorem dJ2_size_1 : decode cJ2_size 1 = .ok (.getfield 48, 3) := by decide +kernel
theorem dJ2_size_4 : decode cJ2_size 4 = .ok (.ireturn, 1) := by decide +kernel
abbrev cJ2_get : ByteArray := prog_37_method_20_code
def yJ2_get : MethodName := ⟨RJ2, "get", "(I)Ljava/lang/Object;"⟩
def dkwJ2_get_0 : List UInt8 := [27, 42, 180, 0, 48, 184, 0, 118, 87, 42, 27, 182, 0, 123, 176]
abbrev dktJ2_get_0 : List UInt8 := dkwJ2_get_0 ++ []
theorem dksJ2_get_0 : cJ2_get.data.toList.drop 0 = dktJ2_get_0 := by decide +kernel
theorem dJ2_get_0 : decode cJ2_get 0 = .ok (.iload_n 1, 1) := dk_27 (dk_at dksJ2_get_0 0 rfl rfl)
theorem dJ2_get_1 : decode cJ2_get 1 = .ok (.aload_n 0, 1) := dk_42 (dk_at dksJ2_get_0 1 rfl rfl)
theorem dJ2_get_2 : decode cJ2_get 2 = .ok (.getfield 48, 3) := dk_180 0 48 (dk_at dksJ2_get_0 2 rfl rfl)
theorem dJ2_get_5 : decode cJ2_get 5 = .ok (.invokestatic 118, 3) := dk_184 0 118 (dk_at dksJ2_get_0 5 rfl rfl)
theorem dJ2_get_8 : decode cJ2_get 8 = .ok (.pop, 1) := dk_87 (dk_at dksJ2_get_0 8 rfl rfl)
theorem dJ2_get_9 : decode cJ2_get 9 = .ok (.aload_n 0, 1) := dk_42 (dk_at dksJ2_get_0 9 rfl rfl)
theorem dJ2_get_10 : decode cJ2_get 10 = .ok (.iload_n 1, 1) := dk_27 (dk_at dksJ2_get_0 10 rfl rfl)
theorem dJ2_get_11 : decode cJ2_get 11 = .ok (.invokevirtual 123, 3) := dk_182 0 123 (dk_at dksJ2_get_0 11 rfl rfl)
theorem dJ2_get_14 : decode cJ2_get 14 = .ok (.areturn, 1) := dk_176 (dk_at dksJ2_get_0 14 rfl rfl)
abbrev cJ2_elementData : ByteArray := prog_37_method_18_code
def yJ2_elementData : MethodName := ⟨RJ2, "elementData", "(I)Ljava/lang/Object;"⟩
def dkwJ2_elementData_0 : List UInt8 := [42, 180, 0, 9, 27, 50, 176]
abbrev dktJ2_elementData_0 : List UInt8 := dkwJ2_elementData_0 ++ []
theorem dksJ2_elementData_0 : cJ2_elementData.data.toList.drop 0 = dktJ2_elementData_0 := by decide +kernel
theorem dJ2_elementData_0 : decode cJ2_elementData 0 = .ok (.aload_n 0, 1) := dk_42 (dk_at dksJ2_elementData_0 0 rfl rfl)
theorem dJ2_elementData_1 : decode cJ2_elementData 1 = .ok (.getfield 9, 3) := dk_180 0 9 (dk_at dksJ2_elementData_0 1 rfl rfl)
theorem dJ2_elementData_4 : decode cJ2_elementData 4 = .ok (.iload_n 1, 1) := dk_27 (dk_at dksJ2_elementData_0 4 rfl rfl)
theorem dJ2_elementData_5 : decode cJ2_elementData 5 = .ok (.aaload, 1) := dk_50 (dk_at dksJ2_elementData_0 5 rfl rfl)
theorem dJ2_elementData_6 : decode cJ2_elementData 6 = .ok (.areturn, 1) := dk_176 (dk_at dksJ2_elementData_0 6 rfl rfl)
abbrev cJ2_add : ByteArray := prog_37_method_25_code
def yJ2_add : MethodName := ⟨RJ2, "add", "(Ljava/lang/Object;)Z"⟩
def dkwJ2_add_1 : List UInt8 := [172]
abbrev dktJ2_add_1 : List UInt8 := dkwJ2_add_1 ++ []
def dkwJ2_add_0 : List UInt8 := [42, 89, 180, 0, 63, 4, 96, 181, 0, 63, 42, 43, 42, 180, 0, 9, 42, 180, 0, 48, 182, 0, 131, 4]
abbrev dktJ2_add_0 : List UInt8 := dkwJ2_add_0 ++ dktJ2_add_1
theorem dksJ2_add_0 : cJ2_add.data.toList.drop 0 = dktJ2_add_0 := by decide +kernel
theorem dksJ2_add_1 : cJ2_add.data.toList.drop 24 = dktJ2_add_1 := dk_seg dksJ2_add_0 24 rfl rfl
theorem dJ2_add_0 : decode cJ2_add 0 = .ok (.aload_n 0, 1) := dk_42 (dk_at dksJ2_add_0 0 rfl rfl)
theorem dJ2_add_1 : decode cJ2_add 1 = .ok (.dup, 1) := dk_89 (dk_at dksJ2_add_0 1 rfl rfl)
theorem dJ2_add_2 : decode cJ2_add 2 = .ok (.getfield 63, 3) := dk_180 0 63 (dk_at dksJ2_add_0 2 rfl rfl)
theorem dJ2_add_5 : decode cJ2_add 5 = .ok (.iconst 1, 1) := dk_4 (dk_at dksJ2_add_0 5 rfl rfl)
theorem dJ2_add_6 : decode cJ2_add 6 = .ok (.iadd, 1) := dk_96 (dk_at dksJ2_add_0 6 rfl rfl)
theorem dJ2_add_7 : decode cJ2_add 7 = .ok (.putfield 63, 3) := dk_181 0 63 (dk_at dksJ2_add_0 7 rfl rfl)
theorem dJ2_add_10 : decode cJ2_add 10 = .ok (.aload_n 0, 1) := dk_42 (dk_at dksJ2_add_0 10 rfl rfl)
theorem dJ2_add_11 : decode cJ2_add 11 = .ok (.aload_n 1, 1) := dk_43 (dk_at dksJ2_add_0 11 rfl rfl)
theorem dJ2_add_12 : decode cJ2_add 12 = .ok (.aload_n 0, 1) := dk_42 (dk_at dksJ2_add_0 12 rfl rfl)
theorem dJ2_add_13 : decode cJ2_add 13 = .ok (.getfield 9, 3) := dk_180 0 9 (dk_at dksJ2_add_0 13 rfl rfl)
theorem dJ2_add_16 : decode cJ2_add 16 = .ok (.aload_n 0, 1) := dk_42 (dk_at dksJ2_add_0 16 rfl rfl)
theorem dJ2_add_17 : decode cJ2_add 17 = .ok (.getfield 48, 3) := dk_180 0 48 (dk_at dksJ2_add_0 17 rfl rfl)
theorem dJ2_add_20 : decode cJ2_add 20 = .ok (.invokevirtual 131, 3) := dk_182 0 131 (dk_at dksJ2_add_0 20 rfl rfl)
theorem dJ2_add_23 : decode cJ2_add 23 = .ok (.iconst 1, 1) := dk_4 (dk_at dksJ2_add_0 23 rfl rfl)
theorem dJ2_add_24 : decode cJ2_add 24 = .ok (.ireturn, 1) := dk_172 (dk_at dksJ2_add_1 0 rfl rfl)
abbrev cJ2_add_2 : ByteArray := prog_37_method_24_code
def yJ2_add_2 : MethodName := ⟨RJ2, "add", "(Ljava/lang/Object;[Ljava/lang/Object;I)V"⟩
def dkwJ2_add_2_0 : List UInt8 := [29, 44, 190, 160, 0, 8, 42, 182, 0, 129, 77, 44, 29, 43, 83, 42, 29, 4, 96, 181, 0, 48, 177]
abbrev dktJ2_add_2_0 : List UInt8 := dkwJ2_add_2_0 ++ []
theorem dksJ2_add_2_0 : cJ2_add_2.data.toList.drop 0 = dktJ2_add_2_0 := by decide +kernel
theorem dJ2_add_2_0 : decode cJ2_add_2 0 = .ok (.iload_n 3, 1) := dk_29 (dk_at dksJ2_add_2_0 0 rfl rfl)
theorem dJ2_add_2_1 : decode cJ2_add_2 1 = .ok (.aload_n 2, 1) := dk_44 (dk_at dksJ2_add_2_0 1 rfl rfl)
theorem dJ2_add_2_2 : decode cJ2_add_2 2 = .ok (.arraylength, 1) := dk_190 (dk_at dksJ2_add_2_0 2 rfl rfl)
theorem dJ2_add_2_3 : decode cJ2_add_2 3 = .ok (.if_icmp .ne 8, 3) := dk_160 0 8 (dk_at dksJ2_add_2_0 3 rfl rfl)
theorem dJ2_add_2_6 : decode cJ2_add_2 6 = .ok (.aload_n 0, 1) := dk_42 (dk_at dksJ2_add_2_0 6 rfl rfl)
theorem dJ2_add_2_7 : decode cJ2_add_2 7 = .ok (.invokevirtual 129, 3) := dk_182 0 129 (dk_at dksJ2_add_2_0 7 rfl rfl)
theorem dJ2_add_2_10 : decode cJ2_add_2 10 = .ok (.astore_n 2, 1) := dk_77 (dk_at dksJ2_add_2_0 10 rfl rfl)
theorem dJ2_add_2_11 : decode cJ2_add_2 11 = .ok (.aload_n 2, 1) := dk_44 (dk_at dksJ2_add_2_0 11 rfl rfl)
theorem dJ2_add_2_12 : decode cJ2_add_2 12 = .ok (.iload_n 3, 1) := dk_29 (dk_at dksJ2_add_2_0 12 rfl rfl)
theorem dJ2_add_2_13 : decode cJ2_add_2 13 = .ok (.aload_n 1, 1) := dk_43 (dk_at dksJ2_add_2_0 13 rfl rfl)
theorem dJ2_add_2_14 : decode cJ2_add_2 14 = .ok (.aastore, 1) := dk_83 (dk_at dksJ2_add_2_0 14 rfl rfl)
theorem dJ2_add_2_15 : decode cJ2_add_2 15 = .ok (.aload_n 0, 1) := dk_42 (dk_at dksJ2_add_2_0 15 rfl rfl)
theorem dJ2_add_2_16 : decode cJ2_add_2 16 = .ok (.iload_n 3, 1) := dk_29 (dk_at dksJ2_add_2_0 16 rfl rfl)
theorem dJ2_add_2_17 : decode cJ2_add_2 17 = .ok (.iconst 1, 1) := dk_4 (dk_at dksJ2_add_2_0 17 rfl rfl)
theorem dJ2_add_2_18 : decode cJ2_add_2 18 = .ok (.iadd, 1) := dk_96 (dk_at dksJ2_add_2_0 18 rfl rfl)
theorem dJ2_add_2_19 : decode cJ2_add_2 19 = .ok (.putfield 48, 3) := dk_181 0 48 (dk_at dksJ2_add_2_0 19 rfl rfl)
theorem dJ2_add_2_22 : decode cJ2_add_2 22 = .ok (.return_, 1) := dk_177 (dk_at dksJ2_add_2_0 22 rfl rfl)
abbrev cJ2_grow : ByteArray := prog_37_method_7_code
def yJ2_grow : MethodName := ⟨RJ2, "grow", "()[Ljava/lang/Object;"⟩
def dkwJ2_grow_0 : List UInt8 := [42, 42, 180, 0, 48, 4, 96, 182, 0, 69, 176]
abbrev dktJ2_grow_0 : List UInt8 := dkwJ2_grow_0 ++ []
theorem dksJ2_grow_0 : cJ2_grow.data.toList.drop 0 = dktJ2_grow_0 := by decide +kernel
theorem dJ2_grow_0 : decode cJ2_grow 0 = .ok (.aload_n 0, 1) := dk_42 (dk_at dksJ2_grow_0 0 rfl rfl)
theorem dJ2_grow_1 : decode cJ2_grow 1 = .ok (.aload_n 0, 1) := dk_42 (dk_at dksJ2_grow_0 1 rfl rfl)
theorem dJ2_grow_2 : decode cJ2_grow 2 = .ok (.getfield 48, 3) := dk_180 0 48 (dk_at dksJ2_grow_0 2 rfl rfl)
theorem dJ2_grow_5 : decode cJ2_grow 5 = .ok (.iconst 1, 1) := dk_4 (dk_at dksJ2_grow_0 5 rfl rfl)
theorem dJ2_grow_6 : decode cJ2_grow 6 = .ok (.iadd, 1) := dk_96 (dk_at dksJ2_grow_0 6 rfl rfl)
theorem dJ2_grow_7 : decode cJ2_grow 7 = .ok (.invokevirtual 69, 3) := dk_182 0 69 (dk_at dksJ2_grow_0 7 rfl rfl)
theorem dJ2_grow_10 : decode cJ2_grow 10 = .ok (.areturn, 1) := dk_176 (dk_at dksJ2_grow_0 10 rfl rfl)
abbrev cJ2_grow_2 : ByteArray := prog_37_method_6_code
def yJ2_grow_2 : MethodName := ⟨RJ2, "grow", "(I)[Ljava/lang/Object;"⟩
def dkwJ2_grow_2_2 : List UInt8 := [27, 184, 0, 79, 189, 0, 7, 90, 181, 0, 9, 176]
abbrev dktJ2_grow_2_2 : List UInt8 := dkwJ2_grow_2_2 ++ []
def dkwJ2_grow_2_1 : List UInt8 := [28, 4, 122, 184, 0, 73, 62, 42, 42, 180, 0, 9, 29, 184, 0, 66, 90, 181, 0, 9, 176, 42, 16, 10]
abbrev dktJ2_grow_2_1 : List UInt8 := dkwJ2_grow_2_1 ++ dktJ2_grow_2_2
def dkwJ2_grow_2_0 : List UInt8 := [42, 180, 0, 9, 190, 61, 28, 157, 0, 13, 42, 180, 0, 9, 178, 0, 39, 165, 0, 28, 28, 27, 28, 100]
abbrev dktJ2_grow_2_0 : List UInt8 := dkwJ2_grow_2_0 ++ dktJ2_grow_2_1
theorem dksJ2_grow_2_0 : cJ2_grow_2.data.toList.drop 0 = dktJ2_grow_2_0 := by decide +kernel
theorem dksJ2_grow_2_1 : cJ2_grow_2.data.toList.drop 24 = dktJ2_grow_2_1 := dk_seg dksJ2_grow_2_0 24 rfl rfl
theorem dksJ2_grow_2_2 : cJ2_grow_2.data.toList.drop 48 = dktJ2_grow_2_2 := dk_seg dksJ2_grow_2_1 24 rfl rfl
theorem dJ2_grow_2_0 : decode cJ2_grow_2 0 = .ok (.aload_n 0, 1) := dk_42 (dk_at dksJ2_grow_2_0 0 rfl rfl)
theorem dJ2_grow_2_1 : decode cJ2_grow_2 1 = .ok (.getfield 9, 3) := dk_180 0 9 (dk_at dksJ2_grow_2_0 1 rfl rfl)
theorem dJ2_grow_2_4 : decode cJ2_grow_2 4 = .ok (.arraylength, 1) := dk_190 (dk_at dksJ2_grow_2_0 4 rfl rfl)
theorem dJ2_grow_2_5 : decode cJ2_grow_2 5 = .ok (.istore_n 2, 1) := dk_61 (dk_at dksJ2_grow_2_0 5 rfl rfl)
theorem dJ2_grow_2_6 : decode cJ2_grow_2 6 = .ok (.iload_n 2, 1) := dk_28 (dk_at dksJ2_grow_2_0 6 rfl rfl)
theorem dJ2_grow_2_7 : decode cJ2_grow_2 7 = .ok (.ifCond .gt 13, 3) := dk_157 0 13 (dk_at dksJ2_grow_2_0 7 rfl rfl)
theorem dJ2_grow_2_10 : decode cJ2_grow_2 10 = .ok (.aload_n 0, 1) := dk_42 (dk_at dksJ2_grow_2_0 10 rfl rfl)
theorem dJ2_grow_2_11 : decode cJ2_grow_2 11 = .ok (.getfield 9, 3) := dk_180 0 9 (dk_at dksJ2_grow_2_0 11 rfl rfl)
theorem dJ2_grow_2_14 : decode cJ2_grow_2 14 = .ok (.getstatic 39, 3) := dk_178 0 39 (dk_at dksJ2_grow_2_0 14 rfl rfl)
theorem dJ2_grow_2_17 : decode cJ2_grow_2 17 = .ok (.if_acmp .eq 28, 3) := dk_165 0 28 (dk_at dksJ2_grow_2_0 17 rfl rfl)
theorem dJ2_grow_2_20 : decode cJ2_grow_2 20 = .ok (.iload_n 2, 1) := dk_28 (dk_at dksJ2_grow_2_0 20 rfl rfl)
theorem dJ2_grow_2_21 : decode cJ2_grow_2 21 = .ok (.iload_n 1, 1) := dk_27 (dk_at dksJ2_grow_2_0 21 rfl rfl)
theorem dJ2_grow_2_22 : decode cJ2_grow_2 22 = .ok (.iload_n 2, 1) := dk_28 (dk_at dksJ2_grow_2_0 22 rfl rfl)
theorem dJ2_grow_2_23 : decode cJ2_grow_2 23 = .ok (.isub, 1) := dk_100 (dk_at dksJ2_grow_2_0 23 rfl rfl)
theorem dJ2_grow_2_24 : decode cJ2_grow_2 24 = .ok (.iload_n 2, 1) := dk_28 (dk_at dksJ2_grow_2_1 0 rfl rfl)
theorem dJ2_grow_2_25 : decode cJ2_grow_2 25 = .ok (.iconst 1, 1) := dk_4 (dk_at dksJ2_grow_2_1 1 rfl rfl)
theorem dJ2_grow_2_26 : decode cJ2_grow_2 26 = .ok (.ishr, 1) := dk_122 (dk_at dksJ2_grow_2_1 2 rfl rfl)
theorem dJ2_grow_2_27 : decode cJ2_grow_2 27 = .ok (.invokestatic 73, 3) := dk_184 0 73 (dk_at dksJ2_grow_2_1 3 rfl rfl)
theorem dJ2_grow_2_30 : decode cJ2_grow_2 30 = .ok (.istore_n 3, 1) := dk_62 (dk_at dksJ2_grow_2_1 6 rfl rfl)
theorem dJ2_grow_2_31 : decode cJ2_grow_2 31 = .ok (.aload_n 0, 1) := dk_42 (dk_at dksJ2_grow_2_1 7 rfl rfl)
theorem dJ2_grow_2_32 : decode cJ2_grow_2 32 = .ok (.aload_n 0, 1) := dk_42 (dk_at dksJ2_grow_2_1 8 rfl rfl)
theorem dJ2_grow_2_33 : decode cJ2_grow_2 33 = .ok (.getfield 9, 3) := dk_180 0 9 (dk_at dksJ2_grow_2_1 9 rfl rfl)
theorem dJ2_grow_2_36 : decode cJ2_grow_2 36 = .ok (.iload_n 3, 1) := dk_29 (dk_at dksJ2_grow_2_1 12 rfl rfl)
theorem dJ2_grow_2_37 : decode cJ2_grow_2 37 = .ok (.invokestatic 66, 3) := dk_184 0 66 (dk_at dksJ2_grow_2_1 13 rfl rfl)
theorem dJ2_grow_2_40 : decode cJ2_grow_2 40 = .ok (.dup_x1, 1) := dk_90 (dk_at dksJ2_grow_2_1 16 rfl rfl)
theorem dJ2_grow_2_41 : decode cJ2_grow_2 41 = .ok (.putfield 9, 3) := dk_181 0 9 (dk_at dksJ2_grow_2_1 17 rfl rfl)
theorem dJ2_grow_2_44 : decode cJ2_grow_2 44 = .ok (.areturn, 1) := dk_176 (dk_at dksJ2_grow_2_1 20 rfl rfl)
theorem dJ2_grow_2_45 : decode cJ2_grow_2 45 = .ok (.aload_n 0, 1) := dk_42 (dk_at dksJ2_grow_2_1 21 rfl rfl)
theorem dJ2_grow_2_46 : decode cJ2_grow_2 46 = .ok (.bipush 10, 2) := dk_16 10 (dk_at dksJ2_grow_2_1 22 rfl rfl)
theorem dJ2_grow_2_48 : decode cJ2_grow_2 48 = .ok (.iload_n 1, 1) := dk_27 (dk_at dksJ2_grow_2_2 0 rfl rfl)
theorem dJ2_grow_2_49 : decode cJ2_grow_2 49 = .ok (.invokestatic 79, 3) := dk_184 0 79 (dk_at dksJ2_grow_2_2 1 rfl rfl)
theorem dJ2_grow_2_52 : decode cJ2_grow_2 52 = .ok (.anewarray 7, 3) := dk_189 0 7 (dk_at dksJ2_grow_2_2 4 rfl rfl)
theorem dJ2_grow_2_55 : decode cJ2_grow_2 55 = .ok (.dup_x1, 1) := dk_90 (dk_at dksJ2_grow_2_2 7 rfl rfl)
theorem dJ2_grow_2_56 : decode cJ2_grow_2 56 = .ok (.putfield 9, 3) := dk_181 0 9 (dk_at dksJ2_grow_2_2 8 rfl rfl)
theorem dJ2_grow_2_59 : decode cJ2_grow_2 59 = .ok (.areturn, 1) := dk_176 (dk_at dksJ2_grow_2_2 11 rfl rfl)
abbrev cJ2_isEmpty : ByteArray := prog_37_method_9_code
def yJ2_isEmpty : MethodName := ⟨RJ2, "isEmpty", "()Z"⟩
def dkwJ2_isEmpty_0 : List UInt8 := [42, 180, 0, 48, 154, 0, 7, 4, 167, 0, 4, 3, 172]
abbrev dktJ2_isEmpty_0 : List UInt8 := dkwJ2_isEmpty_0 ++ []
theorem dksJ2_isEmpty_0 : cJ2_isEmpty.data.toList.drop 0 = dktJ2_isEmpty_0 := by decide +kernel
theorem dJ2_isEmpty_0 : decode cJ2_isEmpty 0 = .ok (.aload_n 0, 1) := dk_42 (dk_at dksJ2_isEmpty_0 0 rfl rfl)
theorem dJ2_isEmpty_1 : decode cJ2_isEmpty 1 = .ok (.getfield 48, 3) := dk_180 0 48 (dk_at dksJ2_isEmpty_0 1 rfl rfl)
theorem dJ2_isEmpty_4 : decode cJ2_isEmpty 4 = .ok (.ifCond .ne 7, 3) := dk_154 0 7 (dk_at dksJ2_isEmpty_0 4 rfl rfl)
theorem dJ2_isEmpty_7 : decode cJ2_isEmpty 7 = .ok (.iconst 1, 1) := dk_4 (dk_at dksJ2_isEmpty_0 7 rfl rfl)
theorem dJ2_isEmpty_8 : decode cJ2_isEmpty 8 = .ok (.goto 4, 3) := dk_167 0 4 (dk_at dksJ2_isEmpty_0 8 rfl rfl)
theorem dJ2_isEmpty_11 : decode cJ2_isEmpty 11 = .ok (.iconst 0, 1) := dk_3 (dk_at dksJ2_isEmpty_0 11 rfl rfl)
theorem dJ2_isEmpty_12 : decode cJ2_isEmpty 12 = .ok (.ireturn, 1) := dk_172 (dk_at dksJ2_isEmpty_0 12 rfl rfl)
abbrev cJ2_clear : ByteArray := prog_37_method_40_code
def yJ2_clear : MethodName := ⟨RJ2, "clea\x72", "()V"⟩
def dkwJ2_clear_1 : List UInt8 := [181, 0, 48, 62, 29, 28, 162, 0, 13, 43, 29, 1, 83, 132, 3, 1, 167, 255, 244, 177]
abbrev dktJ2_clear_1 : List UInt8 := dkwJ2_clear_1 ++ []
def dkwJ2_clear_0 : List UInt8 := [42, 89, 180, 0, 63, 4, 96, 181, 0, 63, 42, 180, 0, 9, 76, 42, 180, 0, 48, 61, 42, 3, 90]
abbrev dktJ2_clear_0 : List UInt8 := dkwJ2_clear_0 ++ dktJ2_clear_1
theorem dksJ2_clear_0 : cJ2_clear.data.toList.drop 0 = dktJ2_clear_0 := by decide +kernel
theorem dksJ2_clear_1 : cJ2_clear.data.toList.drop 23 = dktJ2_clear_1 := dk_seg dksJ2_clear_0 23 rfl rfl
theorem dJ2_clear_0 : decode cJ2_clear 0 = .ok (.aload_n 0, 1) := dk_42 (dk_at dksJ2_clear_0 0 rfl rfl)
theorem dJ2_clear_1 : decode cJ2_clear 1 = .ok (.dup, 1) := dk_89 (dk_at dksJ2_clear_0 1 rfl rfl)
theorem dJ2_clear_2 : decode cJ2_clear 2 = .ok (.getfield 63, 3) := dk_180 0 63 (dk_at dksJ2_clear_0 2 rfl rfl)
theorem dJ2_clear_5 : decode cJ2_clear 5 = .ok (.iconst 1, 1) := dk_4 (dk_at dksJ2_clear_0 5 rfl rfl)
theorem dJ2_clear_6 : decode cJ2_clear 6 = .ok (.iadd, 1) := dk_96 (dk_at dksJ2_clear_0 6 rfl rfl)
theorem dJ2_clear_7 : decode cJ2_clear 7 = .ok (.putfield 63, 3) := dk_181 0 63 (dk_at dksJ2_clear_0 7 rfl rfl)
theorem dJ2_clear_10 : decode cJ2_clear 10 = .ok (.aload_n 0, 1) := dk_42 (dk_at dksJ2_clear_0 10 rfl rfl)
theorem dJ2_clear_11 : decode cJ2_clear 11 = .ok (.getfield 9, 3) := dk_180 0 9 (dk_at dksJ2_clear_0 11 rfl rfl)
theorem dJ2_clear_14 : decode cJ2_clear 14 = .ok (.astore_n 1, 1) := dk_76 (dk_at dksJ2_clear_0 14 rfl rfl)
theorem dJ2_clear_15 : decode cJ2_clear 15 = .ok (.aload_n 0, 1) := dk_42 (dk_at dksJ2_clear_0 15 rfl rfl)
theorem dJ2_clear_16 : decode cJ2_clear 16 = .ok (.getfield 48, 3) := dk_180 0 48 (dk_at dksJ2_clear_0 16 rfl rfl)
theorem dJ2_clear_19 : decode cJ2_clear 19 = .ok (.istore_n 2, 1) := dk_61 (dk_at dksJ2_clear_0 19 rfl rfl)
theorem dJ2_clear_20 : decode cJ2_clear 20 = .ok (.aload_n 0, 1) := dk_42 (dk_at dksJ2_clear_0 20 rfl rfl)
theorem dJ2_clear_21 : decode cJ2_clear 21 = .ok (.iconst 0, 1) := dk_3 (dk_at dksJ2_clear_0 21 rfl rfl)
theorem dJ2_clear_22 : decode cJ2_clear 22 = .ok (.dup_x1, 1) := dk_90 (dk_at dksJ2_clear_0 22 rfl rfl)
theorem dJ2_clear_23 : decode cJ2_clear 23 = .ok (.putfield 48, 3) := dk_181 0 48 (dk_at dksJ2_clear_1 0 rfl rfl)
theorem dJ2_clear_26 : decode cJ2_clear 26 = .ok (.istore_n 3, 1) := dk_62 (dk_at dksJ2_clear_1 3 rfl rfl)
theorem dJ2_clear_27 : decode cJ2_clear 27 = .ok (.iload_n 3, 1) := dk_29 (dk_at dksJ2_clear_1 4 rfl rfl)
theorem dJ2_clear_28 : decode cJ2_clear 28 = .ok (.iload_n 2, 1) := dk_28 (dk_at dksJ2_clear_1 5 rfl rfl)
theorem dJ2_clear_29 : decode cJ2_clear 29 = .ok (.if_icmp .ge 13, 3) := dk_162 0 13 (dk_at dksJ2_clear_1 6 rfl rfl)
theorem dJ2_clear_32 : decode cJ2_clear 32 = .ok (.aload_n 1, 1) := dk_43 (dk_at dksJ2_clear_1 9 rfl rfl)
theorem dJ2_clear_33 : decode cJ2_clear 33 = .ok (.iload_n 3, 1) := dk_29 (dk_at dksJ2_clear_1 10 rfl rfl)
theorem dJ2_clear_34 : decode cJ2_clear 34 = .ok (.aconst_null, 1) := dk_1 (dk_at dksJ2_clear_1 11 rfl rfl)
theorem dJ2_clear_35 : decode cJ2_clear 35 = .ok (.aastore, 1) := dk_83 (dk_at dksJ2_clear_1 12 rfl rfl)
theorem dJ2_clear_36 : decode cJ2_clear 36 = .ok (.iinc 3 1, 3) := dk_132 3 1 (dk_at dksJ2_clear_1 13 rfl rfl)
theorem dJ2_clear_39 : decode cJ2_clear 39 = .ok (.goto (-12), 3) := dk_167 255 244 (dk_at dksJ2_clear_1 16 rfl rfl)
theorem dJ2_clear_42 : decode cJ2_clear 42 = .ok (.return_, 1) := dk_177 (dk_at dksJ2_clear_1 19 rfl rfl)
abbrev cJ2_remove : ByteArray := prog_37_method_29_code
def yJ2_remove : MethodName := ⟨RJ2, "remove", "(I)Ljava/lang/Object;"⟩
def dkwJ2_remove_1 : List UInt8 := [45, 176]
abbrev dktJ2_remove_1 : List UInt8 := dkwJ2_remove_1 ++ []
def dkwJ2_remove_0 : List UInt8 := [27, 42, 180, 0, 48, 184, 0, 118, 87, 42, 180, 0, 9, 77, 44, 27, 50, 78, 42, 44, 27, 182, 0, 144]
abbrev dktJ2_remove_0 : List UInt8 := dkwJ2_remove_0 ++ dktJ2_remove_1
theorem dksJ2_remove_0 : cJ2_remove.data.toList.drop 0 = dktJ2_remove_0 := by decide +kernel
theorem dksJ2_remove_1 : cJ2_remove.data.toList.drop 24 = dktJ2_remove_1 := dk_seg dksJ2_remove_0 24 rfl rfl
theorem dJ2_remove_0 : decode cJ2_remove 0 = .ok (.iload_n 1, 1) := dk_27 (dk_at dksJ2_remove_0 0 rfl rfl)
theorem dJ2_remove_1 : decode cJ2_remove 1 = .ok (.aload_n 0, 1) := dk_42 (dk_at dksJ2_remove_0 1 rfl rfl)
theorem dJ2_remove_2 : decode cJ2_remove 2 = .ok (.getfield 48, 3) := dk_180 0 48 (dk_at dksJ2_remove_0 2 rfl rfl)
theorem dJ2_remove_5 : decode cJ2_remove 5 = .ok (.invokestatic 118, 3) := dk_184 0 118 (dk_at dksJ2_remove_0 5 rfl rfl)
theorem dJ2_remove_8 : decode cJ2_remove 8 = .ok (.pop, 1) := dk_87 (dk_at dksJ2_remove_0 8 rfl rfl)
theorem dJ2_remove_9 : decode cJ2_remove 9 = .ok (.aload_n 0, 1) := dk_42 (dk_at dksJ2_remove_0 9 rfl rfl)
theorem dJ2_remove_10 : decode cJ2_remove 10 = .ok (.getfield 9, 3) := dk_180 0 9 (dk_at dksJ2_remove_0 10 rfl rfl)
theorem dJ2_remove_13 : decode cJ2_remove 13 = .ok (.astore_n 2, 1) := dk_77 (dk_at dksJ2_remove_0 13 rfl rfl)
theorem dJ2_remove_14 : decode cJ2_remove 14 = .ok (.aload_n 2, 1) := dk_44 (dk_at dksJ2_remove_0 14 rfl rfl)
theorem dJ2_remove_15 : decode cJ2_remove 15 = .ok (.iload_n 1, 1) := dk_27 (dk_at dksJ2_remove_0 15 rfl rfl)
theorem dJ2_remove_16 : decode cJ2_remove 16 = .ok (.aaload, 1) := dk_50 (dk_at dksJ2_remove_0 16 rfl rfl)
theorem dJ2_remove_17 : decode cJ2_remove 17 = .ok (.astore_n 3, 1) := dk_78 (dk_at dksJ2_remove_0 17 rfl rfl)
theorem dJ2_remove_18 : decode cJ2_remove 18 = .ok (.aload_n 0, 1) := dk_42 (dk_at dksJ2_remove_0 18 rfl rfl)
theorem dJ2_remove_19 : decode cJ2_remove 19 = .ok (.aload_n 2, 1) := dk_44 (dk_at dksJ2_remove_0 19 rfl rfl)
theorem dJ2_remove_20 : decode cJ2_remove 20 = .ok (.iload_n 1, 1) := dk_27 (dk_at dksJ2_remove_0 20 rfl rfl)
theorem dJ2_remove_21 : decode cJ2_remove 21 = .ok (.invokevirtual 144, 3) := dk_182 0 144 (dk_at dksJ2_remove_0 21 rfl rfl)
theorem dJ2_remove_24 : decode cJ2_remove 24 = .ok (.aload_n 3, 1) := dk_45 (dk_at dksJ2_remove_1 0 rfl rfl)
theorem dJ2_remove_25 : decode cJ2_remove 25 = .ok (.areturn, 1) := dk_176 (dk_at dksJ2_remove_1 1 rfl rfl)
abbrev cJ2_fastRemove : ByteArray := prog_37_method_39_code
def yJ2_fastRemove : MethodName := ⟨RJ2, "fastRemove", "([Ljava/lang/Object;I)V"⟩
def dkwJ2_fastRemove_1 : List UInt8 := [4, 96, 43, 28, 29, 28, 100, 184, 0, 112, 43, 42, 29, 90, 181, 0, 48, 1, 83, 177]
abbrev dktJ2_fastRemove_1 : List UInt8 := dkwJ2_fastRemove_1 ++ []
def dkwJ2_fastRemove_0 : List UInt8 := [42, 89, 180, 0, 63, 4, 96, 181, 0, 63, 42, 180, 0, 48, 4, 100, 89, 62, 28, 164, 0, 15, 43, 28]
abbrev dktJ2_fastRemove_0 : List UInt8 := dkwJ2_fastRemove_0 ++ dktJ2_fastRemove_1
theorem dksJ2_fastRemove_0 : cJ2_fastRemove.data.toList.drop 0 = dktJ2_fastRemove_0 := by decide +kernel
theorem dksJ2_fastRemove_1 : cJ2_fastRemove.data.toList.drop 24 = dktJ2_fastRemove_1 := dk_seg dksJ2_fastRemove_0 24 rfl rfl
theorem dJ2_fastRemove_0 : decode cJ2_fastRemove 0 = .ok (.aload_n 0, 1) := dk_42 (dk_at dksJ2_fastRemove_0 0 rfl rfl)
theorem dJ2_fastRemove_1 : decode cJ2_fastRemove 1 = .ok (.dup, 1) := dk_89 (dk_at dksJ2_fastRemove_0 1 rfl rfl)
theorem dJ2_fastRemove_2 : decode cJ2_fastRemove 2 = .ok (.getfield 63, 3) := dk_180 0 63 (dk_at dksJ2_fastRemove_0 2 rfl rfl)
theorem dJ2_fastRemove_5 : decode cJ2_fastRemove 5 = .ok (.iconst 1, 1) := dk_4 (dk_at dksJ2_fastRemove_0 5 rfl rfl)
theorem dJ2_fastRemove_6 : decode cJ2_fastRemove 6 = .ok (.iadd, 1) := dk_96 (dk_at dksJ2_fastRemove_0 6 rfl rfl)
theorem dJ2_fastRemove_7 : decode cJ2_fastRemove 7 = .ok (.putfield 63, 3) := dk_181 0 63 (dk_at dksJ2_fastRemove_0 7 rfl rfl)
theorem dJ2_fastRemove_10 : decode cJ2_fastRemove 10 = .ok (.aload_n 0, 1) := dk_42 (dk_at dksJ2_fastRemove_0 10 rfl rfl)
theorem dJ2_fastRemove_11 : decode cJ2_fastRemove 11 = .ok (.getfield 48, 3) := dk_180 0 48 (dk_at dksJ2_fastRemove_0 11 rfl rfl)
theorem dJ2_fastRemove_14 : decode cJ2_fastRemove 14 = .ok (.iconst 1, 1) := dk_4 (dk_at dksJ2_fastRemove_0 14 rfl rfl)
theorem dJ2_fastRemove_15 : decode cJ2_fastRemove 15 = .ok (.isub, 1) := dk_100 (dk_at dksJ2_fastRemove_0 15 rfl rfl)
theorem dJ2_fastRemove_16 : decode cJ2_fastRemove 16 = .ok (.dup, 1) := dk_89 (dk_at dksJ2_fastRemove_0 16 rfl rfl)
theorem dJ2_fastRemove_17 : decode cJ2_fastRemove 17 = .ok (.istore_n 3, 1) := dk_62 (dk_at dksJ2_fastRemove_0 17 rfl rfl)
theorem dJ2_fastRemove_18 : decode cJ2_fastRemove 18 = .ok (.iload_n 2, 1) := dk_28 (dk_at dksJ2_fastRemove_0 18 rfl rfl)
theorem dJ2_fastRemove_19 : decode cJ2_fastRemove 19 = .ok (.if_icmp .le 15, 3) := dk_164 0 15 (dk_at dksJ2_fastRemove_0 19 rfl rfl)
theorem dJ2_fastRemove_22 : decode cJ2_fastRemove 22 = .ok (.aload_n 1, 1) := dk_43 (dk_at dksJ2_fastRemove_0 22 rfl rfl)
theorem dJ2_fastRemove_23 : decode cJ2_fastRemove 23 = .ok (.iload_n 2, 1) := dk_28 (dk_at dksJ2_fastRemove_0 23 rfl rfl)
theorem dJ2_fastRemove_24 : decode cJ2_fastRemove 24 = .ok (.iconst 1, 1) := dk_4 (dk_at dksJ2_fastRemove_1 0 rfl rfl)
theorem dJ2_fastRemove_25 : decode cJ2_fastRemove 25 = .ok (.iadd, 1) := dk_96 (dk_at dksJ2_fastRemove_1 1 rfl rfl)
theorem dJ2_fastRemove_26 : decode cJ2_fastRemove 26 = .ok (.aload_n 1, 1) := dk_43 (dk_at dksJ2_fastRemove_1 2 rfl rfl)
theorem dJ2_fastRemove_27 : decode cJ2_fastRemove 27 = .ok (.iload_n 2, 1) := dk_28 (dk_at dksJ2_fastRemove_1 3 rfl rfl)
theorem dJ2_fastRemove_28 : decode cJ2_fastRemove 28 = .ok (.iload_n 3, 1) := dk_29 (dk_at dksJ2_fastRemove_1 4 rfl rfl)
theorem dJ2_fastRemove_29 : decode cJ2_fastRemove 29 = .ok (.iload_n 2, 1) := dk_28 (dk_at dksJ2_fastRemove_1 5 rfl rfl)
theorem dJ2_fastRemove_30 : decode cJ2_fastRemove 30 = .ok (.isub, 1) := dk_100 (dk_at dksJ2_fastRemove_1 6 rfl rfl)
theorem dJ2_fastRemove_31 : decode cJ2_fastRemove 31 = .ok (.invokestatic 112, 3) := dk_184 0 112 (dk_at dksJ2_fastRemove_1 7 rfl rfl)
theorem dJ2_fastRemove_34 : decode cJ2_fastRemove 34 = .ok (.aload_n 1, 1) := dk_43 (dk_at dksJ2_fastRemove_1 10 rfl rfl)
theorem dJ2_fastRemove_35 : decode cJ2_fastRemove 35 = .ok (.aload_n 0, 1) := dk_42 (dk_at dksJ2_fastRemove_1 11 rfl rfl)
theorem dJ2_fastRemove_36 : decode cJ2_fastRemove 36 = .ok (.iload_n 3, 1) := dk_29 (dk_at dksJ2_fastRemove_1 12 rfl rfl)
theorem dJ2_fastRemove_37 : decode cJ2_fastRemove 37 = .ok (.dup_x1, 1) := dk_90 (dk_at dksJ2_fastRemove_1 13 rfl rfl)
theorem dJ2_fastRemove_38 : decode cJ2_fastRemove 38 = .ok (.putfield 48, 3) := dk_181 0 48 (dk_at dksJ2_fastRemove_1 14 rfl rfl)
theorem dJ2_fastRemove_41 : decode cJ2_fastRemove 41 = .ok (.aconst_null, 1) := dk_1 (dk_at dksJ2_fastRemove_1 17 rfl rfl)
theorem dJ2_fastRemove_42 : decode cJ2_fastRemove 42 = .ok (.aastore, 1) := dk_83 (dk_at dksJ2_fastRemove_1 18 rfl rfl)
theorem dJ2_fastRemove_43 : decode cJ2_fastRemove 43 = .ok (.return_, 1) := dk_177 (dk_at dksJ2_fastRemove_1 19 rfl rfl)
abbrev cJ3_init : ByteArray := prog_17_method_2_code
def yJ3_init : MethodName := ⟨RJ3, "<init>", "(I)V"⟩
def dkwJ3_init_1 : List UInt8 := [167, 0, 16, 42, 27, 184, 0, 26, 181, 0, 15, 42, 4, 181, 0, 22, 177]
abbrev dktJ3_init_1 : List UInt8 := dkwJ3_init_1 ++ []
def dkwJ3_init_0 : List UInt8 := [42, 183, 0, 3, 178, 0, 18, 153, 0, 18, 42, 27, 188, 8, 181, 0, 15, 42, 3, 181, 0, 22]
abbrev dktJ3_init_0 : List UInt8 := dkwJ3_init_0 ++ dktJ3_init_1
theorem dksJ3_init_0 : cJ3_init.data.toList.drop 0 = dktJ3_init_0 := by decide +kernel
theorem dksJ3_init_1 : cJ3_init.data.toList.drop 22 = dktJ3_init_1 := dk_seg dksJ3_init_0 22 rfl rfl
theorem dJ3_init_0 : decode cJ3_init 0 = .ok (.aload_n 0, 1) := dk_42 (dk_at dksJ3_init_0 0 rfl rfl)
theorem dJ3_init_1 : decode cJ3_init 1 = .ok (.invokespecial 3, 3) := dk_183 0 3 (dk_at dksJ3_init_0 1 rfl rfl)
theorem dJ3_init_4 : decode cJ3_init 4 = .ok (.getstatic 18, 3) := dk_178 0 18 (dk_at dksJ3_init_0 4 rfl rfl)
theorem dJ3_init_7 : decode cJ3_init 7 = .ok (.ifCond .eq 18, 3) := dk_153 0 18 (dk_at dksJ3_init_0 7 rfl rfl)
theorem dJ3_init_10 : decode cJ3_init 10 = .ok (.aload_n 0, 1) := dk_42 (dk_at dksJ3_init_0 10 rfl rfl)
theorem dJ3_init_11 : decode cJ3_init 11 = .ok (.iload_n 1, 1) := dk_27 (dk_at dksJ3_init_0 11 rfl rfl)
theorem dJ3_init_12 : decode cJ3_init 12 = .ok (.newarray .byte, 2) := dk_188_8 (dk_at dksJ3_init_0 12 rfl rfl)
theorem dJ3_init_14 : decode cJ3_init 14 = .ok (.putfield 15, 3) := dk_181 0 15 (dk_at dksJ3_init_0 14 rfl rfl)
theorem dJ3_init_17 : decode cJ3_init 17 = .ok (.aload_n 0, 1) := dk_42 (dk_at dksJ3_init_0 17 rfl rfl)
theorem dJ3_init_18 : decode cJ3_init 18 = .ok (.iconst 0, 1) := dk_3 (dk_at dksJ3_init_0 18 rfl rfl)
theorem dJ3_init_19 : decode cJ3_init 19 = .ok (.putfield 22, 3) := dk_181 0 22 (dk_at dksJ3_init_0 19 rfl rfl)
theorem dJ3_init_22 : decode cJ3_init 22 = .ok (.goto 16, 3) := dk_167 0 16 (dk_at dksJ3_init_1 0 rfl rfl)
theorem dJ3_init_25 : decode cJ3_init 25 = .ok (.aload_n 0, 1) := dk_42 (dk_at dksJ3_init_1 3 rfl rfl)
theorem dJ3_init_26 : decode cJ3_init 26 = .ok (.iload_n 1, 1) := dk_27 (dk_at dksJ3_init_1 4 rfl rfl)
theorem dJ3_init_27 : decode cJ3_init 27 = .ok (.invokestatic 26, 3) := dk_184 0 26 (dk_at dksJ3_init_1 5 rfl rfl)
theorem dJ3_init_30 : decode cJ3_init 30 = .ok (.putfield 15, 3) := dk_181 0 15 (dk_at dksJ3_init_1 8 rfl rfl)
theorem dJ3_init_33 : decode cJ3_init 33 = .ok (.aload_n 0, 1) := dk_42 (dk_at dksJ3_init_1 11 rfl rfl)
theorem dJ3_init_34 : decode cJ3_init 34 = .ok (.iconst 1, 1) := dk_4 (dk_at dksJ3_init_1 12 rfl rfl)
theorem dJ3_init_35 : decode cJ3_init 35 = .ok (.putfield 22, 3) := dk_181 0 22 (dk_at dksJ3_init_1 13 rfl rfl)
theorem dJ3_init_38 : decode cJ3_init 38 = .ok (.return_, 1) := dk_177 (dk_at dksJ3_init_1 16 rfl rfl)
abbrev cJ3_append : ByteArray := prog_17_method_31_code
def yJ3_append : MethodName := ⟨RJ3, "append", "(C)Ljava/lang/AbstractStringBuilder;"⟩
def dkwJ3_append_3 : List UInt8 := [181, 0, 79, 27, 184, 0, 197, 42, 176]
abbrev dktJ3_append_3 : List UInt8 := dkwJ3_append_3 ++ []
def dkwJ3_append_2 : List UInt8 := [182, 0, 83, 153, 0, 7, 42, 182, 0, 195, 42, 180, 0, 15, 42, 89, 180, 0, 79, 90, 4, 96]
abbrev dktJ3_append_2 : List UInt8 := dkwJ3_append_2 ++ dktJ3_append_3
def dkwJ3_append_1 : List UInt8 := [42, 180, 0, 15, 42, 89, 180, 0, 79, 90, 4, 96, 181, 0, 79, 27, 145, 84, 167, 0, 33, 42]
abbrev dktJ3_append_1 : List UInt8 := dkwJ3_append_1 ++ dktJ3_append_2
def dkwJ3_append_0 : List UInt8 := [42, 42, 180, 0, 79, 4, 96, 182, 0, 100, 42, 182, 0, 83, 153, 0, 31, 27, 184, 0, 191, 153, 0, 24]
abbrev dktJ3_append_0 : List UInt8 := dkwJ3_append_0 ++ dktJ3_append_1
theorem dksJ3_append_0 : cJ3_append.data.toList.drop 0 = dktJ3_append_0 := by decide +kernel
theorem dksJ3_append_1 : cJ3_append.data.toList.drop 24 = dktJ3_append_1 := dk_seg dksJ3_append_0 24 rfl rfl
theorem dksJ3_append_2 : cJ3_append.data.toList.drop 46 = dktJ3_append_2 := dk_seg dksJ3_append_1 22 rfl rfl
theorem dksJ3_append_3 : cJ3_append.data.toList.drop 68 = dktJ3_append_3 := dk_seg dksJ3_append_2 22 rfl rfl
theorem dJ3_append_0 : decode cJ3_append 0 = .ok (.aload_n 0, 1) := dk_42 (dk_at dksJ3_append_0 0 rfl rfl)
theorem dJ3_append_1 : decode cJ3_append 1 = .ok (.aload_n 0, 1) := dk_42 (dk_at dksJ3_append_0 1 rfl rfl)
theorem dJ3_append_2 : decode cJ3_append 2 = .ok (.getfield 79, 3) := dk_180 0 79 (dk_at dksJ3_append_0 2 rfl rfl)
theorem dJ3_append_5 : decode cJ3_append 5 = .ok (.iconst 1, 1) := dk_4 (dk_at dksJ3_append_0 5 rfl rfl)
theorem dJ3_append_6 : decode cJ3_append 6 = .ok (.iadd, 1) := dk_96 (dk_at dksJ3_append_0 6 rfl rfl)
theorem dJ3_append_7 : decode cJ3_append 7 = .ok (.invokevirtual 100, 3) := dk_182 0 100 (dk_at dksJ3_append_0 7 rfl rfl)
theorem dJ3_append_10 : decode cJ3_append 10 = .ok (.aload_n 0, 1) := dk_42 (dk_at dksJ3_append_0 10 rfl rfl)
theorem dJ3_append_11 : decode cJ3_append 11 = .ok (.invokevirtual 83, 3) := dk_182 0 83 (dk_at dksJ3_append_0 11 rfl rfl)
theorem dJ3_append_14 : decode cJ3_append 14 = .ok (.ifCond .eq 31, 3) := dk_153 0 31 (dk_at dksJ3_append_0 14 rfl rfl)
theorem dJ3_append_17 : decode cJ3_append 17 = .ok (.iload_n 1, 1) := dk_27 (dk_at dksJ3_append_0 17 rfl rfl)
theorem dJ3_append_18 : decode cJ3_append 18 = .ok (.invokestatic 191, 3) := dk_184 0 191 (dk_at dksJ3_append_0 18 rfl rfl)
theorem dJ3_append_21 : decode cJ3_append 21 = .ok (.ifCond .eq 24, 3) := dk_153 0 24 (dk_at dksJ3_append_0 21 rfl rfl)
theorem dJ3_append_24 : decode cJ3_append 24 = .ok (.aload_n 0, 1) := dk_42 (dk_at dksJ3_append_1 0 rfl rfl)
theorem dJ3_append_25 : decode cJ3_append 25 = .ok (.getfield 15, 3) := dk_180 0 15 (dk_at dksJ3_append_1 1 rfl rfl)
theorem dJ3_append_28 : decode cJ3_append 28 = .ok (.aload_n 0, 1) := dk_42 (dk_at dksJ3_append_1 4 rfl rfl)
theorem dJ3_append_29 : decode cJ3_append 29 = .ok (.dup, 1) := dk_89 (dk_at dksJ3_append_1 5 rfl rfl)
theorem dJ3_append_30 : decode cJ3_append 30 = .ok (.getfield 79, 3) := dk_180 0 79 (dk_at dksJ3_append_1 6 rfl rfl)
theorem dJ3_append_33 : decode cJ3_append 33 = .ok (.dup_x1, 1) := dk_90 (dk_at dksJ3_append_1 9 rfl rfl)
theorem dJ3_append_34 : decode cJ3_append 34 = .ok (.iconst 1, 1) := dk_4 (dk_at dksJ3_append_1 10 rfl rfl)
theorem dJ3_append_35 : decode cJ3_append 35 = .ok (.iadd, 1) := dk_96 (dk_at dksJ3_append_1 11 rfl rfl)
theorem dJ3_append_36 : decode cJ3_append 36 = .ok (.putfield 79, 3) := dk_181 0 79 (dk_at dksJ3_append_1 12 rfl rfl)
theorem dJ3_append_39 : decode cJ3_append 39 = .ok (.iload_n 1, 1) := dk_27 (dk_at dksJ3_append_1 15 rfl rfl)
theorem dJ3_append_40 : decode cJ3_append 40 = .ok (.i2b, 1) := dk_145 (dk_at dksJ3_append_1 16 rfl rfl)
theorem dJ3_append_41 : decode cJ3_append 41 = .ok (.bastore, 1) := dk_84 (dk_at dksJ3_append_1 17 rfl rfl)
theorem dJ3_append_42 : decode cJ3_append 42 = .ok (.goto 33, 3) := dk_167 0 33 (dk_at dksJ3_append_1 18 rfl rfl)
theorem dJ3_append_45 : decode cJ3_append 45 = .ok (.aload_n 0, 1) := dk_42 (dk_at dksJ3_append_1 21 rfl rfl)
theorem dJ3_append_46 : decode cJ3_append 46 = .ok (.invokevirtual 83, 3) := dk_182 0 83 (dk_at dksJ3_append_2 0 rfl rfl)
theorem dJ3_append_49 : decode cJ3_append 49 = .ok (.ifCond .eq 7, 3) := dk_153 0 7 (dk_at dksJ3_append_2 3 rfl rfl)
theorem dJ3_append_52 : decode cJ3_append 52 = .ok (.aload_n 0, 1) := dk_42 (dk_at dksJ3_append_2 6 rfl rfl)
theorem dJ3_append_53 : decode cJ3_append 53 = .ok (.invokevirtual 195, 3) := dk_182 0 195 (dk_at dksJ3_append_2 7 rfl rfl)
theorem dJ3_append_56 : decode cJ3_append 56 = .ok (.aload_n 0, 1) := dk_42 (dk_at dksJ3_append_2 10 rfl rfl)
theorem dJ3_append_57 : decode cJ3_append 57 = .ok (.getfield 15, 3) := dk_180 0 15 (dk_at dksJ3_append_2 11 rfl rfl)
theorem dJ3_append_60 : decode cJ3_append 60 = .ok (.aload_n 0, 1) := dk_42 (dk_at dksJ3_append_2 14 rfl rfl)
theorem dJ3_append_61 : decode cJ3_append 61 = .ok (.dup, 1) := dk_89 (dk_at dksJ3_append_2 15 rfl rfl)
theorem dJ3_append_62 : decode cJ3_append 62 = .ok (.getfield 79, 3) := dk_180 0 79 (dk_at dksJ3_append_2 16 rfl rfl)
theorem dJ3_append_65 : decode cJ3_append 65 = .ok (.dup_x1, 1) := dk_90 (dk_at dksJ3_append_2 19 rfl rfl)
theorem dJ3_append_66 : decode cJ3_append 66 = .ok (.iconst 1, 1) := dk_4 (dk_at dksJ3_append_2 20 rfl rfl)
theorem dJ3_append_67 : decode cJ3_append 67 = .ok (.iadd, 1) := dk_96 (dk_at dksJ3_append_2 21 rfl rfl)
theorem dJ3_append_68 : decode cJ3_append 68 = .ok (.putfield 79, 3) := dk_181 0 79 (dk_at dksJ3_append_3 0 rfl rfl)
theorem dJ3_append_71 : decode cJ3_append 71 = .ok (.iload_n 1, 1) := dk_27 (dk_at dksJ3_append_3 3 rfl rfl)
theorem dJ3_append_72 : decode cJ3_append 72 = .ok (.invokestatic 197, 3) := dk_184 0 197 (dk_at dksJ3_append_3 4 rfl rfl)
theorem dJ3_append_75 : decode cJ3_append 75 = .ok (.aload_n 0, 1) := dk_42 (dk_at dksJ3_append_3 7 rfl rfl)
theorem dJ3_append_76 : decode cJ3_append 76 = .ok (.areturn, 1) := dk_176 (dk_at dksJ3_append_3 8 rfl rfl)
abbrev cJ3_ensureCapacityInternal : ByteArray := prog_17_method_9_code
def yJ3_ensureCapacityInternal : MethodName := ⟨RJ3, "ensureCapacityInternal", "(I)V"⟩
def dkwJ3_ensureCapacityInternal_1 : List UInt8 := [182, 0, 104, 42, 180, 0, 22, 120, 184, 0, 108, 181, 0, 15, 177]
abbrev dktJ3_ensureCapacityInternal_1 : List UInt8 := dkwJ3_ensureCapacityInternal_1 ++ []
def dkwJ3_ensureCapacityInternal_0 : List UInt8 := [42, 180, 0, 15, 190, 42, 180, 0, 22, 122, 61, 27, 28, 100, 158, 0, 24, 42, 42, 180, 0, 15, 42, 27]
abbrev dktJ3_ensureCapacityInternal_0 : List UInt8 := dkwJ3_ensureCapacityInternal_0 ++ dktJ3_ensureCapacityInternal_1
theorem dksJ3_ensureCapacityInternal_0 : cJ3_ensureCapacityInternal.data.toList.drop 0 = dktJ3_ensureCapacityInternal_0 := by decide +kernel
theorem dksJ3_ensureCapacityInternal_1 : cJ3_ensureCapacityInternal.data.toList.drop 24 = dktJ3_ensureCapacityInternal_1 := dk_seg dksJ3_ensureCapacityInternal_0 24 rfl rfl
theorem dJ3_ensureCapacityInternal_0 : decode cJ3_ensureCapacityInternal 0 = .ok (.aload_n 0, 1) := dk_42 (dk_at dksJ3_ensureCapacityInternal_0 0 rfl rfl)
theorem dJ3_ensureCapacityInternal_1 : decode cJ3_ensureCapacityInternal 1 = .ok (.getfield 15, 3) := dk_180 0 15 (dk_at dksJ3_ensureCapacityInternal_0 1 rfl rfl)
theorem dJ3_ensureCapacityInternal_4 : decode cJ3_ensureCapacityInternal 4 = .ok (.arraylength, 1) := dk_190 (dk_at dksJ3_ensureCapacityInternal_0 4 rfl rfl)
theorem dJ3_ensureCapacityInternal_5 : decode cJ3_ensureCapacityInternal 5 = .ok (.aload_n 0, 1) := dk_42 (dk_at dksJ3_ensureCapacityInternal_0 5 rfl rfl)
theorem dJ3_ensureCapacityInternal_6 : decode cJ3_ensureCapacityInternal 6 = .ok (.getfield 22, 3) := dk_180 0 22 (dk_at dksJ3_ensureCapacityInternal_0 6 rfl rfl)
theorem dJ3_ensureCapacityInternal_9 : decode cJ3_ensureCapacityInternal 9 = .ok (.ishr, 1) := dk_122 (dk_at dksJ3_ensureCapacityInternal_0 9 rfl rfl)
theorem dJ3_ensureCapacityInternal_10 : decode cJ3_ensureCapacityInternal 10 = .ok (.istore_n 2, 1) := dk_61 (dk_at dksJ3_ensureCapacityInternal_0 10 rfl rfl)
theorem dJ3_ensureCapacityInternal_11 : decode cJ3_ensureCapacityInternal 11 = .ok (.iload_n 1, 1) := dk_27 (dk_at dksJ3_ensureCapacityInternal_0 11 rfl rfl)
theorem dJ3_ensureCapacityInternal_12 : decode cJ3_ensureCapacityInternal 12 = .ok (.iload_n 2, 1) := dk_28 (dk_at dksJ3_ensureCapacityInternal_0 12 rfl rfl)
theorem dJ3_ensureCapacityInternal_13 : decode cJ3_ensureCapacityInternal 13 = .ok (.isub, 1) := dk_100 (dk_at dksJ3_ensureCapacityInternal_0 13 rfl rfl)
theorem dJ3_ensureCapacityInternal_14 : decode cJ3_ensureCapacityInternal 14 = .ok (.ifCond .le 24, 3) := dk_158 0 24 (dk_at dksJ3_ensureCapacityInternal_0 14 rfl rfl)
theorem dJ3_ensureCapacityInternal_17 : decode cJ3_ensureCapacityInternal 17 = .ok (.aload_n 0, 1) := dk_42 (dk_at dksJ3_ensureCapacityInternal_0 17 rfl rfl)
theorem dJ3_ensureCapacityInternal_18 : decode cJ3_ensureCapacityInternal 18 = .ok (.aload_n 0, 1) := dk_42 (dk_at dksJ3_ensureCapacityInternal_0 18 rfl rfl)
theorem dJ3_ensureCapacityInternal_19 : decode cJ3_ensureCapacityInternal 19 = .ok (.getfield 15, 3) := dk_180 0 15 (dk_at dksJ3_ensureCapacityInternal_0 19 rfl rfl)
theorem dJ3_ensureCapacityInternal_22 : decode cJ3_ensureCapacityInternal 22 = .ok (.aload_n 0, 1) := dk_42 (dk_at dksJ3_ensureCapacityInternal_0 22 rfl rfl)
theorem dJ3_ensureCapacityInternal_23 : decode cJ3_ensureCapacityInternal 23 = .ok (.iload_n 1, 1) := dk_27 (dk_at dksJ3_ensureCapacityInternal_0 23 rfl rfl)
theorem dJ3_ensureCapacityInternal_24 : decode cJ3_ensureCapacityInternal 24 = .ok (.invokevirtual 104, 3) := dk_182 0 104 (dk_at dksJ3_ensureCapacityInternal_1 0 rfl rfl)
theorem dJ3_ensureCapacityInternal_27 : decode cJ3_ensureCapacityInternal 27 = .ok (.aload_n 0, 1) := dk_42 (dk_at dksJ3_ensureCapacityInternal_1 3 rfl rfl)
theorem dJ3_ensureCapacityInternal_28 : decode cJ3_ensureCapacityInternal 28 = .ok (.getfield 22, 3) := dk_180 0 22 (dk_at dksJ3_ensureCapacityInternal_1 4 rfl rfl)
theorem dJ3_ensureCapacityInternal_31 : decode cJ3_ensureCapacityInternal 31 = .ok (.ishl, 1) := dk_120 (dk_at dksJ3_ensureCapacityInternal_1 7 rfl rfl)
theorem dJ3_ensureCapacityInternal_32 : decode cJ3_ensureCapacityInternal 32 = .ok (.invokestatic 108, 3) := dk_184 0 108 (dk_at dksJ3_ensureCapacityInternal_1 8 rfl rfl)
theorem dJ3_ensureCapacityInternal_35 : decode cJ3_ensureCapacityInternal 35 = .ok (.putfield 15, 3) := dk_181 0 15 (dk_at dksJ3_ensureCapacityInternal_1 11 rfl rfl)
theorem dJ3_ensureCapacityInternal_38 : decode cJ3_ensureCapacityInternal 38 = .ok (.return_, 1) := dk_177 (dk_at dksJ3_ensureCapacityInternal_1 14 rfl rfl)
abbrev cJ3_newCapacity : ByteArray := prog_17_method_10_code
def yJ3_newCapacity : MethodName := ⟨RJ3, "newCapacity", "(I)I"⟩
def dkwJ3_newCapacity_2 : List UInt8 := [183, 0, 124, 191, 21, 5, 42, 180, 0, 22, 122, 172]
abbrev dktJ3_newCapacity_2 : List UInt8 := dkwJ3_newCapacity_2 ++ []
def dkwJ3_newCapacity_1 : List UInt8 := [180, 0, 22, 120, 96, 184, 0, 114, 54, 5, 21, 5, 18, 39, 160, 0, 13, 187, 0, 120, 89, 18, 122]
abbrev dktJ3_newCapacity_1 : List UInt8 := dkwJ3_newCapacity_1 ++ dktJ3_newCapacity_2
def dkwJ3_newCapacity_0 : List UInt8 := [42, 180, 0, 15, 190, 61, 27, 42, 180, 0, 22, 120, 62, 29, 28, 100, 54, 4, 28, 21, 4, 28, 5, 42]
abbrev dktJ3_newCapacity_0 : List UInt8 := dkwJ3_newCapacity_0 ++ dktJ3_newCapacity_1
theorem dksJ3_newCapacity_0 : cJ3_newCapacity.data.toList.drop 0 = dktJ3_newCapacity_0 := by decide +kernel
theorem dksJ3_newCapacity_1 : cJ3_newCapacity.data.toList.drop 24 = dktJ3_newCapacity_1 := dk_seg dksJ3_newCapacity_0 24 rfl rfl
theorem dksJ3_newCapacity_2 : cJ3_newCapacity.data.toList.drop 47 = dktJ3_newCapacity_2 := dk_seg dksJ3_newCapacity_1 23 rfl rfl
theorem dJ3_newCapacity_0 : decode cJ3_newCapacity 0 = .ok (.aload_n 0, 1) := dk_42 (dk_at dksJ3_newCapacity_0 0 rfl rfl)
theorem dJ3_newCapacity_1 : decode cJ3_newCapacity 1 = .ok (.getfield 15, 3) := dk_180 0 15 (dk_at dksJ3_newCapacity_0 1 rfl rfl)
theorem dJ3_newCapacity_4 : decode cJ3_newCapacity 4 = .ok (.arraylength, 1) := dk_190 (dk_at dksJ3_newCapacity_0 4 rfl rfl)
theorem dJ3_newCapacity_5 : decode cJ3_newCapacity 5 = .ok (.istore_n 2, 1) := dk_61 (dk_at dksJ3_newCapacity_0 5 rfl rfl)
theorem dJ3_newCapacity_6 : decode cJ3_newCapacity 6 = .ok (.iload_n 1, 1) := dk_27 (dk_at dksJ3_newCapacity_0 6 rfl rfl)
theorem dJ3_newCapacity_7 : decode cJ3_newCapacity 7 = .ok (.aload_n 0, 1) := dk_42 (dk_at dksJ3_newCapacity_0 7 rfl rfl)
theorem dJ3_newCapacity_8 : decode cJ3_newCapacity 8 = .ok (.getfield 22, 3) := dk_180 0 22 (dk_at dksJ3_newCapacity_0 8 rfl rfl)
theorem dJ3_newCapacity_11 : decode cJ3_newCapacity 11 = .ok (.ishl, 1) := dk_120 (dk_at dksJ3_newCapacity_0 11 rfl rfl)
theorem dJ3_newCapacity_12 : decode cJ3_newCapacity 12 = .ok (.istore_n 3, 1) := dk_62 (dk_at dksJ3_newCapacity_0 12 rfl rfl)
theorem dJ3_newCapacity_13 : decode cJ3_newCapacity 13 = .ok (.iload_n 3, 1) := dk_29 (dk_at dksJ3_newCapacity_0 13 rfl rfl)
theorem dJ3_newCapacity_14 : decode cJ3_newCapacity 14 = .ok (.iload_n 2, 1) := dk_28 (dk_at dksJ3_newCapacity_0 14 rfl rfl)
theorem dJ3_newCapacity_15 : decode cJ3_newCapacity 15 = .ok (.isub, 1) := dk_100 (dk_at dksJ3_newCapacity_0 15 rfl rfl)
theorem dJ3_newCapacity_16 : decode cJ3_newCapacity 16 = .ok (.istore 4, 2) := dk_54 4 (dk_at dksJ3_newCapacity_0 16 rfl rfl)
theorem dJ3_newCapacity_18 : decode cJ3_newCapacity 18 = .ok (.iload_n 2, 1) := dk_28 (dk_at dksJ3_newCapacity_0 18 rfl rfl)
theorem dJ3_newCapacity_19 : decode cJ3_newCapacity 19 = .ok (.iload 4, 2) := dk_21 4 (dk_at dksJ3_newCapacity_0 19 rfl rfl)
theorem dJ3_newCapacity_21 : decode cJ3_newCapacity 21 = .ok (.iload_n 2, 1) := dk_28 (dk_at dksJ3_newCapacity_0 21 rfl rfl)
theorem dJ3_newCapacity_22 : decode cJ3_newCapacity 22 = .ok (.iconst 2, 1) := dk_5 (dk_at dksJ3_newCapacity_0 22 rfl rfl)
theorem dJ3_newCapacity_23 : decode cJ3_newCapacity 23 = .ok (.aload_n 0, 1) := dk_42 (dk_at dksJ3_newCapacity_0 23 rfl rfl)
theorem dJ3_newCapacity_24 : decode cJ3_newCapacity 24 = .ok (.getfield 22, 3) := dk_180 0 22 (dk_at dksJ3_newCapacity_1 0 rfl rfl)
theorem dJ3_newCapacity_27 : decode cJ3_newCapacity 27 = .ok (.ishl, 1) := dk_120 (dk_at dksJ3_newCapacity_1 3 rfl rfl)
theorem dJ3_newCapacity_28 : decode cJ3_newCapacity 28 = .ok (.iadd, 1) := dk_96 (dk_at dksJ3_newCapacity_1 4 rfl rfl)
theorem dJ3_newCapacity_29 : decode cJ3_newCapacity 29 = .ok (.invokestatic 114, 3) := dk_184 0 114 (dk_at dksJ3_newCapacity_1 5 rfl rfl)
theorem dJ3_newCapacity_32 : decode cJ3_newCapacity 32 = .ok (.istore 5, 2) := dk_54 5 (dk_at dksJ3_newCapacity_1 8 rfl rfl)
theorem dJ3_newCapacity_34 : decode cJ3_newCapacity 34 = .ok (.iload 5, 2) := dk_21 5 (dk_at dksJ3_newCapacity_1 10 rfl rfl)
theorem dJ3_newCapacity_36 : decode cJ3_newCapacity 36 = .ok (.ldc 39, 2) := dk_18 39 (dk_at dksJ3_newCapacity_1 12 rfl rfl)
theorem dJ3_newCapacity_38 : decode cJ3_newCapacity 38 = .ok (.if_icmp .ne 13, 3) := dk_160 0 13 (dk_at dksJ3_newCapacity_1 14 rfl rfl)
theorem dJ3_newCapacity_41 : decode cJ3_newCapacity 41 = .ok (.new 120, 3) := dk_187 0 120 (dk_at dksJ3_newCapacity_1 17 rfl rfl)
theorem dJ3_newCapacity_44 : decode cJ3_newCapacity 44 = .ok (.dup, 1) := dk_89 (dk_at dksJ3_newCapacity_1 20 rfl rfl)
theorem dJ3_newCapacity_45 : decode cJ3_newCapacity 45 = .ok (.ldc 122, 2) := dk_18 122 (dk_at dksJ3_newCapacity_1 21 rfl rfl)
theorem dJ3_newCapacity_47 : decode cJ3_newCapacity 47 = .ok (.invokespecial 124, 3) := dk_183 0 124 (dk_at dksJ3_newCapacity_2 0 rfl rfl)
theorem dJ3_newCapacity_50 : decode cJ3_newCapacity 50 = .ok (.athrow, 1) := dk_191 (dk_at dksJ3_newCapacity_2 3 rfl rfl)
theorem dJ3_newCapacity_51 : decode cJ3_newCapacity 51 = .ok (.iload 5, 2) := dk_21 5 (dk_at dksJ3_newCapacity_2 4 rfl rfl)
theorem dJ3_newCapacity_53 : decode cJ3_newCapacity 53 = .ok (.aload_n 0, 1) := dk_42 (dk_at dksJ3_newCapacity_2 6 rfl rfl)
theorem dJ3_newCapacity_54 : decode cJ3_newCapacity 54 = .ok (.getfield 22, 3) := dk_180 0 22 (dk_at dksJ3_newCapacity_2 7 rfl rfl)
theorem dJ3_newCapacity_57 : decode cJ3_newCapacity 57 = .ok (.ishr, 1) := dk_122 (dk_at dksJ3_newCapacity_2 10 rfl rfl)
theorem dJ3_newCapacity_58 : decode cJ3_newCapacity 58 = .ok (.ireturn, 1) := dk_172 (dk_at dksJ3_newCapacity_2 11 rfl rfl)
abbrev cJ3_isLatin1 : ByteArray := prog_17_method_68_code
def yJ3_isLatin1 : MethodName := ⟨RJ3, "isLatin1", "()Z"⟩
def dkwJ3_isLatin1_0 : List UInt8 := [178, 0, 18, 153, 0, 14, 42, 180, 0, 22, 154, 0, 7, 4, 167, 0, 4, 3, 172]
abbrev dktJ3_isLatin1_0 : List UInt8 := dkwJ3_isLatin1_0 ++ []
theorem dksJ3_isLatin1_0 : cJ3_isLatin1.data.toList.drop 0 = dktJ3_isLatin1_0 := by decide +kernel
theorem dJ3_isLatin1_0 : decode cJ3_isLatin1 0 = .ok (.getstatic 18, 3) := dk_178 0 18 (dk_at dksJ3_isLatin1_0 0 rfl rfl)
theorem dJ3_isLatin1_3 : decode cJ3_isLatin1 3 = .ok (.ifCond .eq 14, 3) := dk_153 0 14 (dk_at dksJ3_isLatin1_0 3 rfl rfl)
theorem dJ3_isLatin1_6 : decode cJ3_isLatin1 6 = .ok (.aload_n 0, 1) := dk_42 (dk_at dksJ3_isLatin1_0 6 rfl rfl)
theorem dJ3_isLatin1_7 : decode cJ3_isLatin1 7 = .ok (.getfield 22, 3) := dk_180 0 22 (dk_at dksJ3_isLatin1_0 7 rfl rfl)
theorem dJ3_isLatin1_10 : decode cJ3_isLatin1 10 = .ok (.ifCond .ne 7, 3) := dk_154 0 7 (dk_at dksJ3_isLatin1_0 10 rfl rfl)
theorem dJ3_isLatin1_13 : decode cJ3_isLatin1 13 = .ok (.iconst 1, 1) := dk_4 (dk_at dksJ3_isLatin1_0 13 rfl rfl)
theorem dJ3_isLatin1_14 : decode cJ3_isLatin1 14 = .ok (.goto 4, 3) := dk_167 0 4 (dk_at dksJ3_isLatin1_0 14 rfl rfl)
theorem dJ3_isLatin1_17 : decode cJ3_isLatin1 17 = .ok (.iconst 0, 1) := dk_3 (dk_at dksJ3_isLatin1_0 17 rfl rfl)
theorem dJ3_isLatin1_18 : decode cJ3_isLatin1 18 = .ok (.ireturn, 1) := dk_172 (dk_at dksJ3_isLatin1_0 18 rfl rfl)
abbrev cJ3_inflate : ByteArray := prog_17_method_11_code
def yJ3_inflate : MethodName := ⟨RJ3, "inflate", "()V"⟩
def dkwJ3_inflate_1 : List UInt8 := [42, 180, 0, 79, 184, 0, 125, 42, 43, 181, 0, 15, 42, 4, 181, 0, 22, 177]
abbrev dktJ3_inflate_1 : List UInt8 := dkwJ3_inflate_1 ++ []
def dkwJ3_inflate_0 : List UInt8 := [42, 182, 0, 83, 154, 0, 4, 177, 42, 180, 0, 15, 190, 184, 0, 26, 76, 42, 180, 0, 15, 3, 43, 3]
abbrev dktJ3_inflate_0 : List UInt8 := dkwJ3_inflate_0 ++ dktJ3_inflate_1
theorem dksJ3_inflate_0 : cJ3_inflate.data.toList.drop 0 = dktJ3_inflate_0 := by decide +kernel
theorem dksJ3_inflate_1 : cJ3_inflate.data.toList.drop 24 = dktJ3_inflate_1 := dk_seg dksJ3_inflate_0 24 rfl rfl
theorem dJ3_inflate_0 : decode cJ3_inflate 0 = .ok (.aload_n 0, 1) := dk_42 (dk_at dksJ3_inflate_0 0 rfl rfl)
theorem dJ3_inflate_1 : decode cJ3_inflate 1 = .ok (.invokevirtual 83, 3) := dk_182 0 83 (dk_at dksJ3_inflate_0 1 rfl rfl)
theorem dJ3_inflate_4 : decode cJ3_inflate 4 = .ok (.ifCond .ne 4, 3) := dk_154 0 4 (dk_at dksJ3_inflate_0 4 rfl rfl)
theorem dJ3_inflate_7 : decode cJ3_inflate 7 = .ok (.return_, 1) := dk_177 (dk_at dksJ3_inflate_0 7 rfl rfl)
theorem dJ3_inflate_8 : decode cJ3_inflate 8 = .ok (.aload_n 0, 1) := dk_42 (dk_at dksJ3_inflate_0 8 rfl rfl)
theorem dJ3_inflate_9 : decode cJ3_inflate 9 = .ok (.getfield 15, 3) := dk_180 0 15 (dk_at dksJ3_inflate_0 9 rfl rfl)
theorem dJ3_inflate_12 : decode cJ3_inflate 12 = .ok (.arraylength, 1) := dk_190 (dk_at dksJ3_inflate_0 12 rfl rfl)
theorem dJ3_inflate_13 : decode cJ3_inflate 13 = .ok (.invokestatic 26, 3) := dk_184 0 26 (dk_at dksJ3_inflate_0 13 rfl rfl)
theorem dJ3_inflate_16 : decode cJ3_inflate 16 = .ok (.astore_n 1, 1) := dk_76 (dk_at dksJ3_inflate_0 16 rfl rfl)
theorem dJ3_inflate_17 : decode cJ3_inflate 17 = .ok (.aload_n 0, 1) := dk_42 (dk_at dksJ3_inflate_0 17 rfl rfl)
theorem dJ3_inflate_18 : decode cJ3_inflate 18 = .ok (.getfield 15, 3) := dk_180 0 15 (dk_at dksJ3_inflate_0 18 rfl rfl)
theorem dJ3_inflate_21 : decode cJ3_inflate 21 = .ok (.iconst 0, 1) := dk_3 (dk_at dksJ3_inflate_0 21 rfl rfl)
theorem dJ3_inflate_22 : decode cJ3_inflate 22 = .ok (.aload_n 1, 1) := dk_43 (dk_at dksJ3_inflate_0 22 rfl rfl)
theorem dJ3_inflate_23 : decode cJ3_inflate 23 = .ok (.iconst 0, 1) := dk_3 (dk_at dksJ3_inflate_0 23 rfl rfl)
theorem dJ3_inflate_24 : decode cJ3_inflate 24 = .ok (.aload_n 0, 1) := dk_42 (dk_at dksJ3_inflate_1 0 rfl rfl)
theorem dJ3_inflate_25 : decode cJ3_inflate 25 = .ok (.getfield 79, 3) := dk_180 0 79 (dk_at dksJ3_inflate_1 1 rfl rfl)
theorem dJ3_inflate_28 : decode cJ3_inflate 28 = .ok (.invokestatic 125, 3) := dk_184 0 125 (dk_at dksJ3_inflate_1 4 rfl rfl)
theorem dJ3_inflate_31 : decode cJ3_inflate 31 = .ok (.aload_n 0, 1) := dk_42 (dk_at dksJ3_inflate_1 7 rfl rfl)
theorem dJ3_inflate_32 : decode cJ3_inflate 32 = .ok (.aload_n 1, 1) := dk_43 (dk_at dksJ3_inflate_1 8 rfl rfl)
theorem dJ3_inflate_33 : decode cJ3_inflate 33 = .ok (.putfield 15, 3) := dk_181 0 15 (dk_at dksJ3_inflate_1 9 rfl rfl)
theorem dJ3_inflate_36 : decode cJ3_inflate 36 = .ok (.aload_n 0, 1) := dk_42 (dk_at dksJ3_inflate_1 12 rfl rfl)
theorem dJ3_inflate_37 : decode cJ3_inflate 37 = .ok (.iconst 1, 1) := dk_4 (dk_at dksJ3_inflate_1 13 rfl rfl)
theorem dJ3_inflate_38 : decode cJ3_inflate 38 = .ok (.putfield 22, 3) := dk_181 0 22 (dk_at dksJ3_inflate_1 14 rfl rfl)
theorem dJ3_inflate_41 : decode cJ3_inflate 41 = .ok (.return_, 1) := dk_177 (dk_at dksJ3_inflate_1 17 rfl rfl)
abbrev cJ3_getValue : ByteArray := prog_17_method_64_code
def yJ3_getValue : MethodName := ⟨RJ3, "getValue", "()[B"⟩
theorem dJ3_getValue_0 : decode cJ3_getValue 0 = .ok (.aload_n 0, 1) := by decide +kernel
theorem dJ3_getValue_1 : decode cJ3_getValue 1 = .ok (.getfield 15, 3) := by decide +kernel
theorem dJ3_getValue_4 : decode cJ3_getValue 4 = .ok (.areturn, 1) := by decide +kernel
abbrev cJ3_length : ByteArray := prog_17_method_6_code
def yJ3_length : MethodName := ⟨RJ3, "length", "()I"⟩
theorem dJ3_length_0 : decode cJ3_length 0 = .ok (.aload_n 0, 1) := by decide +kernel
theorem dJ3_length_1 : decode cJ3_length 1 = .ok (.getfield 79, 3) := by decide +kernel
theorem dJ3_length_4 : decode cJ3_length 4 = .ok (.ireturn, 1) := by decide +kernel
abbrev cJ4_init : ByteArray := prog_27_method_1_code
def yJ4_init : MethodName := ⟨RJ4, "<init>", "()V"⟩
def dkwJ4_init_0 : List UInt8 := [42, 16, 16, 183, 0, 1, 177]
abbrev dktJ4_init_0 : List UInt8 := dkwJ4_init_0 ++ []
theorem dksJ4_init_0 : cJ4_init.data.toList.drop 0 = dktJ4_init_0 := by decide +kernel
theorem dJ4_init_0 : decode cJ4_init 0 = .ok (.aload_n 0, 1) := dk_42 (dk_at dksJ4_init_0 0 rfl rfl)
theorem dJ4_init_1 : decode cJ4_init 1 = .ok (.bipush 16, 2) := dk_16 16 (dk_at dksJ4_init_0 1 rfl rfl)
theorem dJ4_init_3 : decode cJ4_init 3 = .ok (.invokespecial 1, 3) := dk_183 0 1 (dk_at dksJ4_init_0 3 rfl rfl)
theorem dJ4_init_6 : decode cJ4_init 6 = .ok (.return_, 1) := dk_177 (dk_at dksJ4_init_0 6 rfl rfl)
abbrev cJ4_append : ByteArray := prog_27_method_14_code
def yJ4_append : MethodName := ⟨RJ4, "append", "(C)Ljava/lang/StringBuilder;"⟩
def dkwJ4_append_0 : List UInt8 := [42, 27, 183, 0, 50, 87, 42, 176]
abbrev dktJ4_append_0 : List UInt8 := dkwJ4_append_0 ++ []
theorem dksJ4_append_0 : cJ4_append.data.toList.drop 0 = dktJ4_append_0 := by decide +kernel
theorem dJ4_append_0 : decode cJ4_append 0 = .ok (.aload_n 0, 1) := dk_42 (dk_at dksJ4_append_0 0 rfl rfl)
theorem dJ4_append_1 : decode cJ4_append 1 = .ok (.iload_n 1, 1) := dk_27 (dk_at dksJ4_append_0 1 rfl rfl)
theorem dJ4_append_2 : decode cJ4_append 2 = .ok (.invokespecial 50, 3) := dk_183 0 50 (dk_at dksJ4_append_0 2 rfl rfl)
theorem dJ4_append_5 : decode cJ4_append 5 = .ok (.pop, 1) := dk_87 (dk_at dksJ4_append_0 5 rfl rfl)
theorem dJ4_append_6 : decode cJ4_append 6 = .ok (.aload_n 0, 1) := dk_42 (dk_at dksJ4_append_0 6 rfl rfl)
theorem dJ4_append_7 : decode cJ4_append 7 = .ok (.areturn, 1) := dk_176 (dk_at dksJ4_append_0 7 rfl rfl)
abbrev cJ4_toString : ByteArray := prog_27_method_42_code
def yJ4_toString : MethodName := ⟨RJ4, "toString", "()Ljava/lang/String;"⟩
def dkwJ4_toString_0 : List UInt8 := [187, 0, 18, 89, 42, 183, 0, 137, 176]
abbrev dktJ4_toString_0 : List UInt8 := dkwJ4_toString_0 ++ []
theorem dksJ4_toString_0 : cJ4_toString.data.toList.drop 0 = dktJ4_toString_0 := by decide +kernel
theorem dJ4_toString_0 : decode cJ4_toString 0 = .ok (.new 18, 3) := dk_187 0 18 (dk_at dksJ4_toString_0 0 rfl rfl)
theorem dJ4_toString_3 : decode cJ4_toString 3 = .ok (.dup, 1) := dk_89 (dk_at dksJ4_toString_0 3 rfl rfl)
theorem dJ4_toString_4 : decode cJ4_toString 4 = .ok (.aload_n 0, 1) := dk_42 (dk_at dksJ4_toString_0 4 rfl rfl)
theorem dJ4_toString_5 : decode cJ4_toString 5 = .ok (.invokespecial 137, 3) := dk_183 0 137 (dk_at dksJ4_toString_0 5 rfl rfl)
theorem dJ4_toString_8 : decode cJ4_toString 8 = .ok (.areturn, 1) := dk_176 (dk_at dksJ4_toString_0 8 rfl rfl)
abbrev cJ4_length : ByteArray := prog_27_method_93_code
def yJ4_length : MethodName := ⟨RJ4, "length", "()I"⟩
theorem dJ4_length_0 : decode cJ4_length 0 = .ok (.aload_n 0, 1) := by decide +kernel
theorem dJ4_length_1 : decode cJ4_length 1 = .ok (.invokespecial 343, 3) := by decide +kernel
theorem dJ4_length_4 : decode cJ4_length 4 = .ok (.ireturn, 1) := by decide +kernel
abbrev cJ5_checkBoundsOffCount : ByteArray := prog_26_method_157_code
def yJ5_checkBoundsOffCount : MethodName := ⟨RJ5, "checkBoundsOffCount", "(III)I"⟩
def dkwJ5_checkBoundsOffCount_0 : List UInt8 := [26, 27, 28, 178, 4, 29, 184, 4, 41, 172]
abbrev dktJ5_checkBoundsOffCount_0 : List UInt8 := dkwJ5_checkBoundsOffCount_0 ++ []
theorem dksJ5_checkBoundsOffCount_0 : cJ5_checkBoundsOffCount.data.toList.drop 0 = dktJ5_checkBoundsOffCount_0 := by decide +kernel
theorem dJ5_checkBoundsOffCount_0 : decode cJ5_checkBoundsOffCount 0 = .ok (.iload_n 0, 1) := dk_26 (dk_at dksJ5_checkBoundsOffCount_0 0 rfl rfl)
theorem dJ5_checkBoundsOffCount_1 : decode cJ5_checkBoundsOffCount 1 = .ok (.iload_n 1, 1) := dk_27 (dk_at dksJ5_checkBoundsOffCount_0 1 rfl rfl)
theorem dJ5_checkBoundsOffCount_2 : decode cJ5_checkBoundsOffCount 2 = .ok (.iload_n 2, 1) := dk_28 (dk_at dksJ5_checkBoundsOffCount_0 2 rfl rfl)
theorem dJ5_checkBoundsOffCount_3 : decode cJ5_checkBoundsOffCount 3 = .ok (.getstatic 1053, 3) := dk_178 4 29 (dk_at dksJ5_checkBoundsOffCount_0 3 rfl rfl)
theorem dJ5_checkBoundsOffCount_6 : decode cJ5_checkBoundsOffCount 6 = .ok (.invokestatic 1065, 3) := dk_184 4 41 (dk_at dksJ5_checkBoundsOffCount_0 6 rfl rfl)
theorem dJ5_checkBoundsOffCount_9 : decode cJ5_checkBoundsOffCount 9 = .ok (.ireturn, 1) := dk_172 (dk_at dksJ5_checkBoundsOffCount_0 9 rfl rfl)
abbrev cJ5_checkIndex : ByteArray := prog_26_method_155_code
def yJ5_checkIndex : MethodName := ⟨RJ5, "checkIndex", "(II)V"⟩
def dkwJ5_checkIndex_0 : List UInt8 := [26, 27, 178, 4, 29, 184, 4, 35, 87, 177]
abbrev dktJ5_checkIndex_0 : List UInt8 := dkwJ5_checkIndex_0 ++ []
theorem dksJ5_checkIndex_0 : cJ5_checkIndex.data.toList.drop 0 = dktJ5_checkIndex_0 := by decide +kernel
theorem dJ5_checkIndex_0 : decode cJ5_checkIndex 0 = .ok (.iload_n 0, 1) := dk_26 (dk_at dksJ5_checkIndex_0 0 rfl rfl)
theorem dJ5_checkIndex_1 : decode cJ5_checkIndex 1 = .ok (.iload_n 1, 1) := dk_27 (dk_at dksJ5_checkIndex_0 1 rfl rfl)
theorem dJ5_checkIndex_2 : decode cJ5_checkIndex 2 = .ok (.getstatic 1053, 3) := dk_178 4 29 (dk_at dksJ5_checkIndex_0 2 rfl rfl)
theorem dJ5_checkIndex_5 : decode cJ5_checkIndex 5 = .ok (.invokestatic 1059, 3) := dk_184 4 35 (dk_at dksJ5_checkIndex_0 5 rfl rfl)
theorem dJ5_checkIndex_8 : decode cJ5_checkIndex 8 = .ok (.pop, 1) := dk_87 (dk_at dksJ5_checkIndex_0 8 rfl rfl)
theorem dJ5_checkIndex_9 : decode cJ5_checkIndex 9 = .ok (.return_, 1) := dk_177 (dk_at dksJ5_checkIndex_0 9 rfl rfl)
abbrev cJ5_init : ByteArray := prog_26_method_53_code
def yJ5_init : MethodName := ⟨RJ5, "<init>", "(Ljava/lang/StringBuilder;)V"⟩
def dkwJ5_init_0 : List UInt8 := [42, 43, 1, 183, 1, 233, 177]
abbrev dktJ5_init_0 : List UInt8 := dkwJ5_init_0 ++ []
theorem dksJ5_init_0 : cJ5_init.data.toList.drop 0 = dktJ5_init_0 := by decide +kernel
theorem dJ5_init_0 : decode cJ5_init 0 = .ok (.aload_n 0, 1) := dk_42 (dk_at dksJ5_init_0 0 rfl rfl)
theorem dJ5_init_1 : decode cJ5_init 1 = .ok (.aload_n 1, 1) := dk_43 (dk_at dksJ5_init_0 1 rfl rfl)
theorem dJ5_init_2 : decode cJ5_init 2 = .ok (.aconst_null, 1) := dk_1 (dk_at dksJ5_init_0 2 rfl rfl)
theorem dJ5_init_3 : decode cJ5_init 3 = .ok (.invokespecial 489, 3) := dk_183 1 233 (dk_at dksJ5_init_0 3 rfl rfl)
theorem dJ5_init_6 : decode cJ5_init 6 = .ok (.return_, 1) := dk_177 (dk_at dksJ5_init_0 6 rfl rfl)
abbrev cJ5_init_2 : ByteArray := prog_26_method_150_code
def yJ5_init_2 : MethodName := ⟨RJ5, "<init>", "(Ljava/lang/AbstractStringBuilder;Ljava/lang/Void;)V"⟩
def dkwJ5_init_2_4 : List UInt8 := [181, 0, 9, 177]
abbrev dktJ5_init_2_4 : List UInt8 := dkwJ5_init_2_4 ++ []
def dkwJ5_init_2_3 : List UInt8 := [184, 0, 47, 181, 0, 15, 177, 42, 4, 181, 0, 15, 42, 45, 3, 21, 4, 4, 120, 184, 0, 54]
abbrev dktJ5_init_2_3 : List UInt8 := dkwJ5_init_2_3 ++ dktJ5_init_2_4
def dkwJ5_init_2_2 : List UInt8 := [180, 4, 24, 153, 0, 28, 42, 45, 3, 21, 4, 184, 4, 27, 181, 0, 9, 42, 42, 180, 0, 9, 21, 4]
abbrev dktJ5_init_2_2 : List UInt8 := dkwJ5_init_2_2 ++ dktJ5_init_2_3
def dkwJ5_init_2_1 : List UInt8 := [181, 0, 15, 42, 45, 3, 21, 4, 184, 0, 54, 181, 0, 9, 167, 0, 59, 178, 0, 38, 153, 0, 35, 43]
abbrev dktJ5_init_2_1 : List UInt8 := dkwJ5_init_2_1 ++ dktJ5_init_2_2
def dkwJ5_init_2_0 : List UInt8 := [42, 183, 0, 1, 43, 182, 2, 40, 78, 43, 182, 2, 37, 54, 4, 43, 182, 4, 23, 153, 0, 22, 42, 3]
abbrev dktJ5_init_2_0 : List UInt8 := dkwJ5_init_2_0 ++ dktJ5_init_2_1
theorem dksJ5_init_2_0 : cJ5_init_2.data.toList.drop 0 = dktJ5_init_2_0 := by decide +kernel
theorem dksJ5_init_2_1 : cJ5_init_2.data.toList.drop 24 = dktJ5_init_2_1 := dk_seg dksJ5_init_2_0 24 rfl rfl
theorem dksJ5_init_2_2 : cJ5_init_2.data.toList.drop 48 = dktJ5_init_2_2 := dk_seg dksJ5_init_2_1 24 rfl rfl
theorem dksJ5_init_2_3 : cJ5_init_2.data.toList.drop 72 = dktJ5_init_2_3 := dk_seg dksJ5_init_2_2 24 rfl rfl
theorem dksJ5_init_2_4 : cJ5_init_2.data.toList.drop 94 = dktJ5_init_2_4 := dk_seg dksJ5_init_2_3 22 rfl rfl
theorem dJ5_init_2_0 : decode cJ5_init_2 0 = .ok (.aload_n 0, 1) := dk_42 (dk_at dksJ5_init_2_0 0 rfl rfl)
theorem dJ5_init_2_1 : decode cJ5_init_2 1 = .ok (.invokespecial 1, 3) := dk_183 0 1 (dk_at dksJ5_init_2_0 1 rfl rfl)
theorem dJ5_init_2_4 : decode cJ5_init_2 4 = .ok (.aload_n 1, 1) := dk_43 (dk_at dksJ5_init_2_0 4 rfl rfl)
theorem dJ5_init_2_5 : decode cJ5_init_2 5 = .ok (.invokevirtual 552, 3) := dk_182 2 40 (dk_at dksJ5_init_2_0 5 rfl rfl)
theorem dJ5_init_2_8 : decode cJ5_init_2 8 = .ok (.astore_n 3, 1) := dk_78 (dk_at dksJ5_init_2_0 8 rfl rfl)
theorem dJ5_init_2_9 : decode cJ5_init_2 9 = .ok (.aload_n 1, 1) := dk_43 (dk_at dksJ5_init_2_0 9 rfl rfl)
theorem dJ5_init_2_10 : decode cJ5_init_2 10 = .ok (.invokevirtual 549, 3) := dk_182 2 37 (dk_at dksJ5_init_2_0 10 rfl rfl)
theorem dJ5_init_2_13 : decode cJ5_init_2 13 = .ok (.istore 4, 2) := dk_54 4 (dk_at dksJ5_init_2_0 13 rfl rfl)
theorem dJ5_init_2_15 : decode cJ5_init_2 15 = .ok (.aload_n 1, 1) := dk_43 (dk_at dksJ5_init_2_0 15 rfl rfl)
theorem dJ5_init_2_16 : decode cJ5_init_2 16 = .ok (.invokevirtual 1047, 3) := dk_182 4 23 (dk_at dksJ5_init_2_0 16 rfl rfl)
theorem dJ5_init_2_19 : decode cJ5_init_2 19 = .ok (.ifCond .eq 22, 3) := dk_153 0 22 (dk_at dksJ5_init_2_0 19 rfl rfl)
theorem dJ5_init_2_22 : decode cJ5_init_2 22 = .ok (.aload_n 0, 1) := dk_42 (dk_at dksJ5_init_2_0 22 rfl rfl)
theorem dJ5_init_2_23 : decode cJ5_init_2 23 = .ok (.iconst 0, 1) := dk_3 (dk_at dksJ5_init_2_0 23 rfl rfl)
theorem dJ5_init_2_24 : decode cJ5_init_2 24 = .ok (.putfield 15, 3) := dk_181 0 15 (dk_at dksJ5_init_2_1 0 rfl rfl)
theorem dJ5_init_2_27 : decode cJ5_init_2 27 = .ok (.aload_n 0, 1) := dk_42 (dk_at dksJ5_init_2_1 3 rfl rfl)
theorem dJ5_init_2_28 : decode cJ5_init_2 28 = .ok (.aload_n 3, 1) := dk_45 (dk_at dksJ5_init_2_1 4 rfl rfl)
theorem dJ5_init_2_29 : decode cJ5_init_2 29 = .ok (.iconst 0, 1) := dk_3 (dk_at dksJ5_init_2_1 5 rfl rfl)
theorem dJ5_init_2_30 : decode cJ5_init_2 30 = .ok (.iload 4, 2) := dk_21 4 (dk_at dksJ5_init_2_1 6 rfl rfl)
theorem dJ5_init_2_32 : decode cJ5_init_2 32 = .ok (.invokestatic 54, 3) := dk_184 0 54 (dk_at dksJ5_init_2_1 8 rfl rfl)
theorem dJ5_init_2_35 : decode cJ5_init_2 35 = .ok (.putfield 9, 3) := dk_181 0 9 (dk_at dksJ5_init_2_1 11 rfl rfl)
theorem dJ5_init_2_38 : decode cJ5_init_2 38 = .ok (.goto 59, 3) := dk_167 0 59 (dk_at dksJ5_init_2_1 14 rfl rfl)
theorem dJ5_init_2_41 : decode cJ5_init_2 41 = .ok (.getstatic 38, 3) := dk_178 0 38 (dk_at dksJ5_init_2_1 17 rfl rfl)
theorem dJ5_init_2_44 : decode cJ5_init_2 44 = .ok (.ifCond .eq 35, 3) := dk_153 0 35 (dk_at dksJ5_init_2_1 20 rfl rfl)
theorem dJ5_init_2_47 : decode cJ5_init_2 47 = .ok (.aload_n 1, 1) := dk_43 (dk_at dksJ5_init_2_1 23 rfl rfl)
theorem dJ5_init_2_48 : decode cJ5_init_2 48 = .ok (.getfield 1048, 3) := dk_180 4 24 (dk_at dksJ5_init_2_2 0 rfl rfl)
theorem dJ5_init_2_51 : decode cJ5_init_2 51 = .ok (.ifCond .eq 28, 3) := dk_153 0 28 (dk_at dksJ5_init_2_2 3 rfl rfl)
theorem dJ5_init_2_54 : decode cJ5_init_2 54 = .ok (.aload_n 0, 1) := dk_42 (dk_at dksJ5_init_2_2 6 rfl rfl)
theorem dJ5_init_2_55 : decode cJ5_init_2 55 = .ok (.aload_n 3, 1) := dk_45 (dk_at dksJ5_init_2_2 7 rfl rfl)
theorem dJ5_init_2_56 : decode cJ5_init_2 56 = .ok (.iconst 0, 1) := dk_3 (dk_at dksJ5_init_2_2 8 rfl rfl)
theorem dJ5_init_2_57 : decode cJ5_init_2 57 = .ok (.iload 4, 2) := dk_21 4 (dk_at dksJ5_init_2_2 9 rfl rfl)
theorem dJ5_init_2_59 : decode cJ5_init_2 59 = .ok (.invokestatic 1051, 3) := dk_184 4 27 (dk_at dksJ5_init_2_2 11 rfl rfl)
theorem dJ5_init_2_62 : decode cJ5_init_2 62 = .ok (.putfield 9, 3) := dk_181 0 9 (dk_at dksJ5_init_2_2 14 rfl rfl)
theorem dJ5_init_2_65 : decode cJ5_init_2 65 = .ok (.aload_n 0, 1) := dk_42 (dk_at dksJ5_init_2_2 17 rfl rfl)
theorem dJ5_init_2_66 : decode cJ5_init_2 66 = .ok (.aload_n 0, 1) := dk_42 (dk_at dksJ5_init_2_2 18 rfl rfl)
theorem dJ5_init_2_67 : decode cJ5_init_2 67 = .ok (.getfield 9, 3) := dk_180 0 9 (dk_at dksJ5_init_2_2 19 rfl rfl)
theorem dJ5_init_2_70 : decode cJ5_init_2 70 = .ok (.iload 4, 2) := dk_21 4 (dk_at dksJ5_init_2_2 22 rfl rfl)
theorem dJ5_init_2_72 : decode cJ5_init_2 72 = .ok (.invokestatic 47, 3) := dk_184 0 47 (dk_at dksJ5_init_2_3 0 rfl rfl)
theorem dJ5_init_2_75 : decode cJ5_init_2 75 = .ok (.putfield 15, 3) := dk_181 0 15 (dk_at dksJ5_init_2_3 3 rfl rfl)
theorem dJ5_init_2_78 : decode cJ5_init_2 78 = .ok (.return_, 1) := dk_177 (dk_at dksJ5_init_2_3 6 rfl rfl)
theorem dJ5_init_2_79 : decode cJ5_init_2 79 = .ok (.aload_n 0, 1) := dk_42 (dk_at dksJ5_init_2_3 7 rfl rfl)
theorem dJ5_init_2_80 : decode cJ5_init_2 80 = .ok (.iconst 1, 1) := dk_4 (dk_at dksJ5_init_2_3 8 rfl rfl)
theorem dJ5_init_2_81 : decode cJ5_init_2 81 = .ok (.putfield 15, 3) := dk_181 0 15 (dk_at dksJ5_init_2_3 9 rfl rfl)
theorem dJ5_init_2_84 : decode cJ5_init_2 84 = .ok (.aload_n 0, 1) := dk_42 (dk_at dksJ5_init_2_3 12 rfl rfl)
theorem dJ5_init_2_85 : decode cJ5_init_2 85 = .ok (.aload_n 3, 1) := dk_45 (dk_at dksJ5_init_2_3 13 rfl rfl)
theorem dJ5_init_2_86 : decode cJ5_init_2 86 = .ok (.iconst 0, 1) := dk_3 (dk_at dksJ5_init_2_3 14 rfl rfl)
theorem dJ5_init_2_87 : decode cJ5_init_2 87 = .ok (.iload 4, 2) := dk_21 4 (dk_at dksJ5_init_2_3 15 rfl rfl)
theorem dJ5_init_2_89 : decode cJ5_init_2 89 = .ok (.iconst 1, 1) := dk_4 (dk_at dksJ5_init_2_3 17 rfl rfl)
theorem dJ5_init_2_90 : decode cJ5_init_2 90 = .ok (.ishl, 1) := dk_120 (dk_at dksJ5_init_2_3 18 rfl rfl)
theorem dJ5_init_2_91 : decode cJ5_init_2 91 = .ok (.invokestatic 54, 3) := dk_184 0 54 (dk_at dksJ5_init_2_3 19 rfl rfl)
theorem dJ5_init_2_94 : decode cJ5_init_2 94 = .ok (.putfield 9, 3) := dk_181 0 9 (dk_at dksJ5_init_2_4 0 rfl rfl)
theorem dJ5_init_2_97 : decode cJ5_init_2 97 = .ok (.return_, 1) := dk_177 (dk_at dksJ5_init_2_4 3 rfl rfl)
abbrev cJ5_hashCode : ByteArray := prog_26_method_78_code
def yJ5_hashCode : MethodName := ⟨RJ5, "hashCode", "()I"⟩
def dkwJ5_hashCode_2 : List UInt8 := [181, 0, 23, 167, 0, 8, 42, 27, 181, 0, 19, 27, 172]
abbrev dktJ5_hashCode_2 : List UInt8 := dkwJ5_hashCode_2 ++ []
def dkwJ5_hashCode_1 : List UInt8 := [180, 0, 9, 184, 2, 116, 167, 0, 10, 42, 180, 0, 9, 184, 2, 120, 60, 27, 154, 0, 11, 42, 4]
abbrev dktJ5_hashCode_1 : List UInt8 := dkwJ5_hashCode_1 ++ dktJ5_hashCode_2
def dkwJ5_hashCode_0 : List UInt8 := [42, 180, 0, 19, 60, 27, 154, 0, 52, 42, 180, 0, 23, 154, 0, 45, 42, 182, 1, 236, 153, 0, 13, 42]
abbrev dktJ5_hashCode_0 : List UInt8 := dkwJ5_hashCode_0 ++ dktJ5_hashCode_1
theorem dksJ5_hashCode_0 : cJ5_hashCode.data.toList.drop 0 = dktJ5_hashCode_0 := by decide +kernel
theorem dksJ5_hashCode_1 : cJ5_hashCode.data.toList.drop 24 = dktJ5_hashCode_1 := dk_seg dksJ5_hashCode_0 24 rfl rfl
theorem dksJ5_hashCode_2 : cJ5_hashCode.data.toList.drop 47 = dktJ5_hashCode_2 := dk_seg dksJ5_hashCode_1 23 rfl rfl
theorem dJ5_hashCode_0 : decode cJ5_hashCode 0 = .ok (.aload_n 0, 1) := dk_42 (dk_at dksJ5_hashCode_0 0 rfl rfl)
theorem dJ5_hashCode_1 : decode cJ5_hashCode 1 = .ok (.getfield 19, 3) := dk_180 0 19 (dk_at dksJ5_hashCode_0 1 rfl rfl)
theorem dJ5_hashCode_4 : decode cJ5_hashCode 4 = .ok (.istore_n 1, 1) := dk_60 (dk_at dksJ5_hashCode_0 4 rfl rfl)
theorem dJ5_hashCode_5 : decode cJ5_hashCode 5 = .ok (.iload_n 1, 1) := dk_27 (dk_at dksJ5_hashCode_0 5 rfl rfl)
theorem dJ5_hashCode_6 : decode cJ5_hashCode 6 = .ok (.ifCond .ne 52, 3) := dk_154 0 52 (dk_at dksJ5_hashCode_0 6 rfl rfl)
theorem dJ5_hashCode_9 : decode cJ5_hashCode 9 = .ok (.aload_n 0, 1) := dk_42 (dk_at dksJ5_hashCode_0 9 rfl rfl)
theorem dJ5_hashCode_10 : decode cJ5_hashCode 10 = .ok (.getfield 23, 3) := dk_180 0 23 (dk_at dksJ5_hashCode_0 10 rfl rfl)
theorem dJ5_hashCode_13 : decode cJ5_hashCode 13 = .ok (.ifCond .ne 45, 3) := dk_154 0 45 (dk_at dksJ5_hashCode_0 13 rfl rfl)
theorem dJ5_hashCode_16 : decode cJ5_hashCode 16 = .ok (.aload_n 0, 1) := dk_42 (dk_at dksJ5_hashCode_0 16 rfl rfl)
theorem dJ5_hashCode_17 : decode cJ5_hashCode 17 = .ok (.invokevirtual 492, 3) := dk_182 1 236 (dk_at dksJ5_hashCode_0 17 rfl rfl)
theorem dJ5_hashCode_20 : decode cJ5_hashCode 20 = .ok (.ifCond .eq 13, 3) := dk_153 0 13 (dk_at dksJ5_hashCode_0 20 rfl rfl)
theorem dJ5_hashCode_23 : decode cJ5_hashCode 23 = .ok (.aload_n 0, 1) := dk_42 (dk_at dksJ5_hashCode_0 23 rfl rfl)
theorem dJ5_hashCode_24 : decode cJ5_hashCode 24 = .ok (.getfield 9, 3) := dk_180 0 9 (dk_at dksJ5_hashCode_1 0 rfl rfl)
theorem dJ5_hashCode_27 : decode cJ5_hashCode 27 = .ok (.invokestatic 628, 3) := dk_184 2 116 (dk_at dksJ5_hashCode_1 3 rfl rfl)
theorem dJ5_hashCode_30 : decode cJ5_hashCode 30 = .ok (.goto 10, 3) := dk_167 0 10 (dk_at dksJ5_hashCode_1 6 rfl rfl)
theorem dJ5_hashCode_33 : decode cJ5_hashCode 33 = .ok (.aload_n 0, 1) := dk_42 (dk_at dksJ5_hashCode_1 9 rfl rfl)
theorem dJ5_hashCode_34 : decode cJ5_hashCode 34 = .ok (.getfield 9, 3) := dk_180 0 9 (dk_at dksJ5_hashCode_1 10 rfl rfl)
theorem dJ5_hashCode_37 : decode cJ5_hashCode 37 = .ok (.invokestatic 632, 3) := dk_184 2 120 (dk_at dksJ5_hashCode_1 13 rfl rfl)
theorem dJ5_hashCode_40 : decode cJ5_hashCode 40 = .ok (.istore_n 1, 1) := dk_60 (dk_at dksJ5_hashCode_1 16 rfl rfl)
theorem dJ5_hashCode_41 : decode cJ5_hashCode 41 = .ok (.iload_n 1, 1) := dk_27 (dk_at dksJ5_hashCode_1 17 rfl rfl)
theorem dJ5_hashCode_42 : decode cJ5_hashCode 42 = .ok (.ifCond .ne 11, 3) := dk_154 0 11 (dk_at dksJ5_hashCode_1 18 rfl rfl)
theorem dJ5_hashCode_45 : decode cJ5_hashCode 45 = .ok (.aload_n 0, 1) := dk_42 (dk_at dksJ5_hashCode_1 21 rfl rfl)
theorem dJ5_hashCode_46 : decode cJ5_hashCode 46 = .ok (.iconst 1, 1) := dk_4 (dk_at dksJ5_hashCode_1 22 rfl rfl)
theorem dJ5_hashCode_47 : decode cJ5_hashCode 47 = .ok (.putfield 23, 3) := dk_181 0 23 (dk_at dksJ5_hashCode_2 0 rfl rfl)
theorem dJ5_hashCode_50 : decode cJ5_hashCode 50 = .ok (.goto 8, 3) := dk_167 0 8 (dk_at dksJ5_hashCode_2 3 rfl rfl)
theorem dJ5_hashCode_53 : decode cJ5_hashCode 53 = .ok (.aload_n 0, 1) := dk_42 (dk_at dksJ5_hashCode_2 6 rfl rfl)
theorem dJ5_hashCode_54 : decode cJ5_hashCode 54 = .ok (.iload_n 1, 1) := dk_27 (dk_at dksJ5_hashCode_2 7 rfl rfl)
theorem dJ5_hashCode_55 : decode cJ5_hashCode 55 = .ok (.putfield 19, 3) := dk_181 0 19 (dk_at dksJ5_hashCode_2 8 rfl rfl)
theorem dJ5_hashCode_58 : decode cJ5_hashCode 58 = .ok (.iload_n 1, 1) := dk_27 (dk_at dksJ5_hashCode_2 11 rfl rfl)
theorem dJ5_hashCode_59 : decode cJ5_hashCode 59 = .ok (.ireturn, 1) := dk_172 (dk_at dksJ5_hashCode_2 12 rfl rfl)
abbrev cJ5_isLatin1 : ByteArray := prog_26_method_154_code
def yJ5_isLatin1 : MethodName := ⟨RJ5, "isLatin1", "()Z"⟩
def dkwJ5_isLatin1_0 : List UInt8 := [178, 0, 38, 153, 0, 14, 42, 180, 0, 15, 154, 0, 7, 4, 167, 0, 4, 3, 172]
abbrev dktJ5_isLatin1_0 : List UInt8 := dkwJ5_isLatin1_0 ++ []
theorem dksJ5_isLatin1_0 : cJ5_isLatin1.data.toList.drop 0 = dktJ5_isLatin1_0 := by decide +kernel
theorem dJ5_isLatin1_0 : decode cJ5_isLatin1 0 = .ok (.getstatic 38, 3) := dk_178 0 38 (dk_at dksJ5_isLatin1_0 0 rfl rfl)
theorem dJ5_isLatin1_3 : decode cJ5_isLatin1 3 = .ok (.ifCond .eq 14, 3) := dk_153 0 14 (dk_at dksJ5_isLatin1_0 3 rfl rfl)
theorem dJ5_isLatin1_6 : decode cJ5_isLatin1 6 = .ok (.aload_n 0, 1) := dk_42 (dk_at dksJ5_isLatin1_0 6 rfl rfl)
theorem dJ5_isLatin1_7 : decode cJ5_isLatin1 7 = .ok (.getfield 15, 3) := dk_180 0 15 (dk_at dksJ5_isLatin1_0 7 rfl rfl)
theorem dJ5_isLatin1_10 : decode cJ5_isLatin1 10 = .ok (.ifCond .ne 7, 3) := dk_154 0 7 (dk_at dksJ5_isLatin1_0 10 rfl rfl)
theorem dJ5_isLatin1_13 : decode cJ5_isLatin1 13 = .ok (.iconst 1, 1) := dk_4 (dk_at dksJ5_isLatin1_0 13 rfl rfl)
theorem dJ5_isLatin1_14 : decode cJ5_isLatin1 14 = .ok (.goto 4, 3) := dk_167 0 4 (dk_at dksJ5_isLatin1_0 14 rfl rfl)
theorem dJ5_isLatin1_17 : decode cJ5_isLatin1 17 = .ok (.iconst 0, 1) := dk_3 (dk_at dksJ5_isLatin1_0 17 rfl rfl)
theorem dJ5_isLatin1_18 : decode cJ5_isLatin1 18 = .ok (.ireturn, 1) := dk_172 (dk_at dksJ5_isLatin1_0 18 rfl rfl)
abbrev cJ5_equals : ByteArray := prog_26_method_66_code
def yJ5_equals : MethodName := ⟨RJ5, "equals", "(Ljava/lang/Object;)Z"⟩
def dkwJ5_equals_2 : List UInt8 := [184, 2, 29, 153, 0, 7, 4, 167, 0, 4, 3, 172]
abbrev dktJ5_equals_2 : List UInt8 := dkwJ5_equals_2 ++ []
def dkwJ5_equals_1 : List UInt8 := [153, 0, 14, 42, 180, 0, 15, 44, 180, 0, 15, 160, 0, 21, 42, 180, 0, 9, 44, 180, 0, 9]
abbrev dktJ5_equals_1 : List UInt8 := dkwJ5_equals_1 ++ dktJ5_equals_2
def dkwJ5_equals_0 : List UInt8 := [42, 43, 166, 0, 5, 4, 172, 43, 193, 0, 10, 153, 0, 43, 43, 192, 0, 10, 77, 178, 0, 38]
abbrev dktJ5_equals_0 : List UInt8 := dkwJ5_equals_0 ++ dktJ5_equals_1
theorem dksJ5_equals_0 : cJ5_equals.data.toList.drop 0 = dktJ5_equals_0 := by decide +kernel
theorem dksJ5_equals_1 : cJ5_equals.data.toList.drop 22 = dktJ5_equals_1 := dk_seg dksJ5_equals_0 22 rfl rfl
theorem dksJ5_equals_2 : cJ5_equals.data.toList.drop 44 = dktJ5_equals_2 := dk_seg dksJ5_equals_1 22 rfl rfl
theorem dJ5_equals_0 : decode cJ5_equals 0 = .ok (.aload_n 0, 1) := dk_42 (dk_at dksJ5_equals_0 0 rfl rfl)
theorem dJ5_equals_1 : decode cJ5_equals 1 = .ok (.aload_n 1, 1) := dk_43 (dk_at dksJ5_equals_0 1 rfl rfl)
theorem dJ5_equals_2 : decode cJ5_equals 2 = .ok (.if_acmp .ne 5, 3) := dk_166 0 5 (dk_at dksJ5_equals_0 2 rfl rfl)
theorem dJ5_equals_5 : decode cJ5_equals 5 = .ok (.iconst 1, 1) := dk_4 (dk_at dksJ5_equals_0 5 rfl rfl)
theorem dJ5_equals_6 : decode cJ5_equals 6 = .ok (.ireturn, 1) := dk_172 (dk_at dksJ5_equals_0 6 rfl rfl)
theorem dJ5_equals_7 : decode cJ5_equals 7 = .ok (.aload_n 1, 1) := dk_43 (dk_at dksJ5_equals_0 7 rfl rfl)
theorem dJ5_equals_8 : decode cJ5_equals 8 = .ok (.instanceof 10, 3) := dk_193 0 10 (dk_at dksJ5_equals_0 8 rfl rfl)
theorem dJ5_equals_11 : decode cJ5_equals 11 = .ok (.ifCond .eq 43, 3) := dk_153 0 43 (dk_at dksJ5_equals_0 11 rfl rfl)
theorem dJ5_equals_14 : decode cJ5_equals 14 = .ok (.aload_n 1, 1) := dk_43 (dk_at dksJ5_equals_0 14 rfl rfl)
theorem dJ5_equals_15 : decode cJ5_equals 15 = .ok (.checkcast 10, 3) := dk_192 0 10 (dk_at dksJ5_equals_0 15 rfl rfl)
theorem dJ5_equals_18 : decode cJ5_equals 18 = .ok (.astore_n 2, 1) := dk_77 (dk_at dksJ5_equals_0 18 rfl rfl)
theorem dJ5_equals_19 : decode cJ5_equals 19 = .ok (.getstatic 38, 3) := dk_178 0 38 (dk_at dksJ5_equals_0 19 rfl rfl)
theorem dJ5_equals_22 : decode cJ5_equals 22 = .ok (.ifCond .eq 14, 3) := dk_153 0 14 (dk_at dksJ5_equals_1 0 rfl rfl)
theorem dJ5_equals_25 : decode cJ5_equals 25 = .ok (.aload_n 0, 1) := dk_42 (dk_at dksJ5_equals_1 3 rfl rfl)
theorem dJ5_equals_26 : decode cJ5_equals 26 = .ok (.getfield 15, 3) := dk_180 0 15 (dk_at dksJ5_equals_1 4 rfl rfl)
theorem dJ5_equals_29 : decode cJ5_equals 29 = .ok (.aload_n 2, 1) := dk_44 (dk_at dksJ5_equals_1 7 rfl rfl)
theorem dJ5_equals_30 : decode cJ5_equals 30 = .ok (.getfield 15, 3) := dk_180 0 15 (dk_at dksJ5_equals_1 8 rfl rfl)
theorem dJ5_equals_33 : decode cJ5_equals 33 = .ok (.if_icmp .ne 21, 3) := dk_160 0 21 (dk_at dksJ5_equals_1 11 rfl rfl)
theorem dJ5_equals_36 : decode cJ5_equals 36 = .ok (.aload_n 0, 1) := dk_42 (dk_at dksJ5_equals_1 14 rfl rfl)
theorem dJ5_equals_37 : decode cJ5_equals 37 = .ok (.getfield 9, 3) := dk_180 0 9 (dk_at dksJ5_equals_1 15 rfl rfl)
theorem dJ5_equals_40 : decode cJ5_equals 40 = .ok (.aload_n 2, 1) := dk_44 (dk_at dksJ5_equals_1 18 rfl rfl)
theorem dJ5_equals_41 : decode cJ5_equals 41 = .ok (.getfield 9, 3) := dk_180 0 9 (dk_at dksJ5_equals_1 19 rfl rfl)
theorem dJ5_equals_44 : decode cJ5_equals 44 = .ok (.invokestatic 541, 3) := dk_184 2 29 (dk_at dksJ5_equals_2 0 rfl rfl)
theorem dJ5_equals_47 : decode cJ5_equals 47 = .ok (.ifCond .eq 7, 3) := dk_153 0 7 (dk_at dksJ5_equals_2 3 rfl rfl)
theorem dJ5_equals_50 : decode cJ5_equals 50 = .ok (.iconst 1, 1) := dk_4 (dk_at dksJ5_equals_2 6 rfl rfl)
theorem dJ5_equals_51 : decode cJ5_equals 51 = .ok (.goto 4, 3) := dk_167 0 4 (dk_at dksJ5_equals_2 7 rfl rfl)
theorem dJ5_equals_54 : decode cJ5_equals 54 = .ok (.iconst 0, 1) := dk_3 (dk_at dksJ5_equals_2 10 rfl rfl)
theorem dJ5_equals_55 : decode cJ5_equals 55 = .ok (.ireturn, 1) := dk_172 (dk_at dksJ5_equals_2 11 rfl rfl)
abbrev cJ5_length : ByteArray := prog_26_method_54_code
def yJ5_length : MethodName := ⟨RJ5, "length", "()I"⟩
def dkwJ5_length_0 : List UInt8 := [42, 180, 0, 9, 190, 42, 182, 1, 79, 122, 172]
abbrev dktJ5_length_0 : List UInt8 := dkwJ5_length_0 ++ []
theorem dksJ5_length_0 : cJ5_length.data.toList.drop 0 = dktJ5_length_0 := by decide +kernel
theorem dJ5_length_0 : decode cJ5_length 0 = .ok (.aload_n 0, 1) := dk_42 (dk_at dksJ5_length_0 0 rfl rfl)
theorem dJ5_length_1 : decode cJ5_length 1 = .ok (.getfield 9, 3) := dk_180 0 9 (dk_at dksJ5_length_0 1 rfl rfl)
theorem dJ5_length_4 : decode cJ5_length 4 = .ok (.arraylength, 1) := dk_190 (dk_at dksJ5_length_0 4 rfl rfl)
theorem dJ5_length_5 : decode cJ5_length 5 = .ok (.aload_n 0, 1) := dk_42 (dk_at dksJ5_length_0 5 rfl rfl)
theorem dJ5_length_6 : decode cJ5_length 6 = .ok (.invokevirtual 335, 3) := dk_182 1 79 (dk_at dksJ5_length_0 6 rfl rfl)
theorem dJ5_length_9 : decode cJ5_length 9 = .ok (.ishr, 1) := dk_122 (dk_at dksJ5_length_0 9 rfl rfl)
theorem dJ5_length_10 : decode cJ5_length 10 = .ok (.ireturn, 1) := dk_172 (dk_at dksJ5_length_0 10 rfl rfl)
abbrev cJ5_coder : ByteArray := prog_26_method_152_code
def yJ5_coder : MethodName := ⟨RJ5, "code\x72", "()B"⟩
def dkwJ5_coder_0 : List UInt8 := [178, 0, 38, 153, 0, 10, 42, 180, 0, 15, 167, 0, 4, 4, 172]
abbrev dktJ5_coder_0 : List UInt8 := dkwJ5_coder_0 ++ []
theorem dksJ5_coder_0 : cJ5_coder.data.toList.drop 0 = dktJ5_coder_0 := by decide +kernel
theorem dJ5_coder_0 : decode cJ5_coder 0 = .ok (.getstatic 38, 3) := dk_178 0 38 (dk_at dksJ5_coder_0 0 rfl rfl)
theorem dJ5_coder_3 : decode cJ5_coder 3 = .ok (.ifCond .eq 10, 3) := dk_153 0 10 (dk_at dksJ5_coder_0 3 rfl rfl)
theorem dJ5_coder_6 : decode cJ5_coder 6 = .ok (.aload_n 0, 1) := dk_42 (dk_at dksJ5_coder_0 6 rfl rfl)
theorem dJ5_coder_7 : decode cJ5_coder 7 = .ok (.getfield 15, 3) := dk_180 0 15 (dk_at dksJ5_coder_0 7 rfl rfl)
theorem dJ5_coder_10 : decode cJ5_coder 10 = .ok (.goto 4, 3) := dk_167 0 4 (dk_at dksJ5_coder_0 10 rfl rfl)
theorem dJ5_coder_13 : decode cJ5_coder 13 = .ok (.iconst 1, 1) := dk_4 (dk_at dksJ5_coder_0 13 rfl rfl)
theorem dJ5_coder_14 : decode cJ5_coder 14 = .ok (.ireturn, 1) := dk_172 (dk_at dksJ5_coder_0 14 rfl rfl)
abbrev cJ5_charAt : ByteArray := prog_26_method_56_code
def yJ5_charAt : MethodName := ⟨RJ5, "charAt", "(I)C"⟩
def dkwJ5_charAt_1 : List UInt8 := [172]
abbrev dktJ5_charAt_1 : List UInt8 := dkwJ5_charAt_1 ++ []
def dkwJ5_charAt_0 : List UInt8 := [42, 182, 1, 236, 153, 0, 12, 42, 180, 0, 9, 27, 184, 1, 239, 172, 42, 180, 0, 9, 27, 184, 1, 242]
abbrev dktJ5_charAt_0 : List UInt8 := dkwJ5_charAt_0 ++ dktJ5_charAt_1
theorem dksJ5_charAt_0 : cJ5_charAt.data.toList.drop 0 = dktJ5_charAt_0 := by decide +kernel
theorem dksJ5_charAt_1 : cJ5_charAt.data.toList.drop 24 = dktJ5_charAt_1 := dk_seg dksJ5_charAt_0 24 rfl rfl
theorem dJ5_charAt_0 : decode cJ5_charAt 0 = .ok (.aload_n 0, 1) := dk_42 (dk_at dksJ5_charAt_0 0 rfl rfl)
theorem dJ5_charAt_1 : decode cJ5_charAt 1 = .ok (.invokevirtual 492, 3) := dk_182 1 236 (dk_at dksJ5_charAt_0 1 rfl rfl)
theorem dJ5_charAt_4 : decode cJ5_charAt 4 = .ok (.ifCond .eq 12, 3) := dk_153 0 12 (dk_at dksJ5_charAt_0 4 rfl rfl)
theorem dJ5_charAt_7 : decode cJ5_charAt 7 = .ok (.aload_n 0, 1) := dk_42 (dk_at dksJ5_charAt_0 7 rfl rfl)
theorem dJ5_charAt_8 : decode cJ5_charAt 8 = .ok (.getfield 9, 3) := dk_180 0 9 (dk_at dksJ5_charAt_0 8 rfl rfl)
theorem dJ5_charAt_11 : decode cJ5_charAt 11 = .ok (.iload_n 1, 1) := dk_27 (dk_at dksJ5_charAt_0 11 rfl rfl)
theorem dJ5_charAt_12 : decode cJ5_charAt 12 = .ok (.invokestatic 495, 3) := dk_184 1 239 (dk_at dksJ5_charAt_0 12 rfl rfl)
theorem dJ5_charAt_15 : decode cJ5_charAt 15 = .ok (.ireturn, 1) := dk_172 (dk_at dksJ5_charAt_0 15 rfl rfl)
theorem dJ5_charAt_16 : decode cJ5_charAt 16 = .ok (.aload_n 0, 1) := dk_42 (dk_at dksJ5_charAt_0 16 rfl rfl)
theorem dJ5_charAt_17 : decode cJ5_charAt 17 = .ok (.getfield 9, 3) := dk_180 0 9 (dk_at dksJ5_charAt_0 17 rfl rfl)
theorem dJ5_charAt_20 : decode cJ5_charAt 20 = .ok (.iload_n 1, 1) := dk_27 (dk_at dksJ5_charAt_0 20 rfl rfl)
theorem dJ5_charAt_21 : decode cJ5_charAt 21 = .ok (.invokestatic 498, 3) := dk_184 1 242 (dk_at dksJ5_charAt_0 21 rfl rfl)
theorem dJ5_charAt_24 : decode cJ5_charAt 24 = .ok (.ireturn, 1) := dk_172 (dk_at dksJ5_charAt_1 0 rfl rfl)
abbrev cJ6_newBytesFor : ByteArray := prog_29_method_2_code
def yJ6_newBytesFor : MethodName := ⟨RJ6, "newBytesFo\x72", "(I)[B"⟩
def dkwJ6_newBytesFor_0 : List UInt8 := [26, 184, 0, 11, 188, 8, 176]
abbrev dktJ6_newBytesFor_0 : List UInt8 := dkwJ6_newBytesFor_0 ++ []
theorem dksJ6_newBytesFor_0 : cJ6_newBytesFor.data.toList.drop 0 = dktJ6_newBytesFor_0 := by decide +kernel
theorem dJ6_newBytesFor_0 : decode cJ6_newBytesFor 0 = .ok (.iload_n 0, 1) := dk_26 (dk_at dksJ6_newBytesFor_0 0 rfl rfl)
theorem dJ6_newBytesFor_1 : decode cJ6_newBytesFor 1 = .ok (.invokestatic 11, 3) := dk_184 0 11 (dk_at dksJ6_newBytesFor_0 1 rfl rfl)
theorem dJ6_newBytesFor_4 : decode cJ6_newBytesFor 4 = .ok (.newarray .byte, 2) := dk_188_8 (dk_at dksJ6_newBytesFor_0 4 rfl rfl)
theorem dJ6_newBytesFor_6 : decode cJ6_newBytesFor 6 = .ok (.areturn, 1) := dk_176 (dk_at dksJ6_newBytesFor_0 6 rfl rfl)
abbrev cJ6_newBytesLength : ByteArray := prog_29_method_3_code
def yJ6_newBytesLength : MethodName := ⟨RJ6, "newBytesLength", "(I)I"⟩
def dkwJ6_newBytesLength_2 : List UInt8 := [182, 0, 32, 182, 0, 37, 183, 0, 41, 191, 26, 4, 120, 172]
abbrev dktJ6_newBytesLength_2 : List UInt8 := dkwJ6_newBytesLength_2 ++ []
def dkwJ6_newBytesLength_1 : List UInt8 := [187, 0, 23, 89, 183, 0, 25, 18, 26, 182, 0, 28, 26, 182, 0, 32, 18, 35, 182, 0, 28, 18, 20]
abbrev dktJ6_newBytesLength_1 : List UInt8 := dkwJ6_newBytesLength_1 ++ dktJ6_newBytesLength_2
def dkwJ6_newBytesLength_0 : List UInt8 := [26, 156, 0, 11, 187, 0, 17, 89, 183, 0, 19, 191, 26, 18, 20, 161, 0, 40, 187, 0, 21, 89]
abbrev dktJ6_newBytesLength_0 : List UInt8 := dkwJ6_newBytesLength_0 ++ dktJ6_newBytesLength_1
theorem dksJ6_newBytesLength_0 : cJ6_newBytesLength.data.toList.drop 0 = dktJ6_newBytesLength_0 := by decide +kernel
theorem dksJ6_newBytesLength_1 : cJ6_newBytesLength.data.toList.drop 22 = dktJ6_newBytesLength_1 := dk_seg dksJ6_newBytesLength_0 22 rfl rfl
theorem dksJ6_newBytesLength_2 : cJ6_newBytesLength.data.toList.drop 45 = dktJ6_newBytesLength_2 := dk_seg dksJ6_newBytesLength_1 23 rfl rfl
theorem dJ6_newBytesLength_0 : decode cJ6_newBytesLength 0 = .ok (.iload_n 0, 1) := dk_26 (dk_at dksJ6_newBytesLength_0 0 rfl rfl)
theorem dJ6_newBytesLength_1 : decode cJ6_newBytesLength 1 = .ok (.ifCond .ge 11, 3) := dk_156 0 11 (dk_at dksJ6_newBytesLength_0 1 rfl rfl)
theorem dJ6_newBytesLength_4 : decode cJ6_newBytesLength 4 = .ok (.new 17, 3) := dk_187 0 17 (dk_at dksJ6_newBytesLength_0 4 rfl rfl)
theorem dJ6_newBytesLength_7 : decode cJ6_newBytesLength 7 = .ok (.dup, 1) := dk_89 (dk_at dksJ6_newBytesLength_0 7 rfl rfl)
theorem dJ6_newBytesLength_8 : decode cJ6_newBytesLength 8 = .ok (.invokespecial 19, 3) := dk_183 0 19 (dk_at dksJ6_newBytesLength_0 8 rfl rfl)
theorem dJ6_newBytesLength_11 : decode cJ6_newBytesLength 11 = .ok (.athrow, 1) := dk_191 (dk_at dksJ6_newBytesLength_0 11 rfl rfl)
theorem dJ6_newBytesLength_12 : decode cJ6_newBytesLength 12 = .ok (.iload_n 0, 1) := dk_26 (dk_at dksJ6_newBytesLength_0 12 rfl rfl)
theorem dJ6_newBytesLength_13 : decode cJ6_newBytesLength 13 = .ok (.ldc 20, 2) := dk_18 20 (dk_at dksJ6_newBytesLength_0 13 rfl rfl)
theorem dJ6_newBytesLength_15 : decode cJ6_newBytesLength 15 = .ok (.if_icmp .lt 40, 3) := dk_161 0 40 (dk_at dksJ6_newBytesLength_0 15 rfl rfl)
theorem dJ6_newBytesLength_18 : decode cJ6_newBytesLength 18 = .ok (.new 21, 3) := dk_187 0 21 (dk_at dksJ6_newBytesLength_0 18 rfl rfl)
theorem dJ6_newBytesLength_21 : decode cJ6_newBytesLength 21 = .ok (.dup, 1) := dk_89 (dk_at dksJ6_newBytesLength_0 21 rfl rfl)
theorem dJ6_newBytesLength_22 : decode cJ6_newBytesLength 22 = .ok (.new 23, 3) := dk_187 0 23 (dk_at dksJ6_newBytesLength_1 0 rfl rfl)
theorem dJ6_newBytesLength_25 : decode cJ6_newBytesLength 25 = .ok (.dup, 1) := dk_89 (dk_at dksJ6_newBytesLength_1 3 rfl rfl)
theorem dJ6_newBytesLength_26 : decode cJ6_newBytesLength 26 = .ok (.invokespecial 25, 3) := dk_183 0 25 (dk_at dksJ6_newBytesLength_1 4 rfl rfl)
theorem dJ6_newBytesLength_29 : decode cJ6_newBytesLength 29 = .ok (.ldc 26, 2) := dk_18 26 (dk_at dksJ6_newBytesLength_1 7 rfl rfl)
theorem dJ6_newBytesLength_31 : decode cJ6_newBytesLength 31 = .ok (.invokevirtual 28, 3) := dk_182 0 28 (dk_at dksJ6_newBytesLength_1 9 rfl rfl)
theorem dJ6_newBytesLength_34 : decode cJ6_newBytesLength 34 = .ok (.iload_n 0, 1) := dk_26 (dk_at dksJ6_newBytesLength_1 12 rfl rfl)
theorem dJ6_newBytesLength_35 : decode cJ6_newBytesLength 35 = .ok (.invokevirtual 32, 3) := dk_182 0 32 (dk_at dksJ6_newBytesLength_1 13 rfl rfl)
theorem dJ6_newBytesLength_38 : decode cJ6_newBytesLength 38 = .ok (.ldc 35, 2) := dk_18 35 (dk_at dksJ6_newBytesLength_1 16 rfl rfl)
theorem dJ6_newBytesLength_40 : decode cJ6_newBytesLength 40 = .ok (.invokevirtual 28, 3) := dk_182 0 28 (dk_at dksJ6_newBytesLength_1 18 rfl rfl)
theorem dJ6_newBytesLength_43 : decode cJ6_newBytesLength 43 = .ok (.ldc 20, 2) := dk_18 20 (dk_at dksJ6_newBytesLength_1 21 rfl rfl)
theorem dJ6_newBytesLength_45 : decode cJ6_newBytesLength 45 = .ok (.invokevirtual 32, 3) := dk_182 0 32 (dk_at dksJ6_newBytesLength_2 0 rfl rfl)
theorem dJ6_newBytesLength_48 : decode cJ6_newBytesLength 48 = .ok (.invokevirtual 37, 3) := dk_182 0 37 (dk_at dksJ6_newBytesLength_2 3 rfl rfl)
theorem dJ6_newBytesLength_51 : decode cJ6_newBytesLength 51 = .ok (.invokespecial 41, 3) := dk_183 0 41 (dk_at dksJ6_newBytesLength_2 6 rfl rfl)
theorem dJ6_newBytesLength_54 : decode cJ6_newBytesLength 54 = .ok (.athrow, 1) := dk_191 (dk_at dksJ6_newBytesLength_2 9 rfl rfl)
theorem dJ6_newBytesLength_55 : decode cJ6_newBytesLength 55 = .ok (.iload_n 0, 1) := dk_26 (dk_at dksJ6_newBytesLength_2 10 rfl rfl)
theorem dJ6_newBytesLength_56 : decode cJ6_newBytesLength 56 = .ok (.iconst 1, 1) := dk_4 (dk_at dksJ6_newBytesLength_2 11 rfl rfl)
theorem dJ6_newBytesLength_57 : decode cJ6_newBytesLength 57 = .ok (.ishl, 1) := dk_120 (dk_at dksJ6_newBytesLength_2 12 rfl rfl)
theorem dJ6_newBytesLength_58 : decode cJ6_newBytesLength 58 = .ok (.ireturn, 1) := dk_172 (dk_at dksJ6_newBytesLength_2 13 rfl rfl)
abbrev cJ6_inflate : ByteArray := prog_29_method_86_code
def yJ6_inflate : MethodName := ⟨RJ6, "inflate", "([BI[BII)V"⟩
def dkwJ6_inflate_1 : List UInt8 := [132, 1, 1, 51, 17, 0, 255, 126, 184, 0, 111, 132, 5, 1, 167, 255, 228, 177]
abbrev dktJ6_inflate_1 : List UInt8 := dkwJ6_inflate_1 ++ []
def dkwJ6_inflate_0 : List UInt8 := [29, 21, 4, 44, 184, 0, 173, 3, 54, 5, 21, 5, 21, 4, 162, 0, 27, 44, 29, 132, 3, 1, 42, 27]
abbrev dktJ6_inflate_0 : List UInt8 := dkwJ6_inflate_0 ++ dktJ6_inflate_1
theorem dksJ6_inflate_0 : cJ6_inflate.data.toList.drop 0 = dktJ6_inflate_0 := by decide +kernel
theorem dksJ6_inflate_1 : cJ6_inflate.data.toList.drop 24 = dktJ6_inflate_1 := dk_seg dksJ6_inflate_0 24 rfl rfl
theorem dJ6_inflate_0 : decode cJ6_inflate 0 = .ok (.iload_n 3, 1) := dk_29 (dk_at dksJ6_inflate_0 0 rfl rfl)
theorem dJ6_inflate_1 : decode cJ6_inflate 1 = .ok (.iload 4, 2) := dk_21 4 (dk_at dksJ6_inflate_0 1 rfl rfl)
theorem dJ6_inflate_3 : decode cJ6_inflate 3 = .ok (.aload_n 2, 1) := dk_44 (dk_at dksJ6_inflate_0 3 rfl rfl)
theorem dJ6_inflate_4 : decode cJ6_inflate 4 = .ok (.invokestatic 173, 3) := dk_184 0 173 (dk_at dksJ6_inflate_0 4 rfl rfl)
theorem dJ6_inflate_7 : decode cJ6_inflate 7 = .ok (.iconst 0, 1) := dk_3 (dk_at dksJ6_inflate_0 7 rfl rfl)
theorem dJ6_inflate_8 : decode cJ6_inflate 8 = .ok (.istore 5, 2) := dk_54 5 (dk_at dksJ6_inflate_0 8 rfl rfl)
theorem dJ6_inflate_10 : decode cJ6_inflate 10 = .ok (.iload 5, 2) := dk_21 5 (dk_at dksJ6_inflate_0 10 rfl rfl)
theorem dJ6_inflate_12 : decode cJ6_inflate 12 = .ok (.iload 4, 2) := dk_21 4 (dk_at dksJ6_inflate_0 12 rfl rfl)
theorem dJ6_inflate_14 : decode cJ6_inflate 14 = .ok (.if_icmp .ge 27, 3) := dk_162 0 27 (dk_at dksJ6_inflate_0 14 rfl rfl)
theorem dJ6_inflate_17 : decode cJ6_inflate 17 = .ok (.aload_n 2, 1) := dk_44 (dk_at dksJ6_inflate_0 17 rfl rfl)
theorem dJ6_inflate_18 : decode cJ6_inflate 18 = .ok (.iload_n 3, 1) := dk_29 (dk_at dksJ6_inflate_0 18 rfl rfl)
theorem dJ6_inflate_19 : decode cJ6_inflate 19 = .ok (.iinc 3 1, 3) := dk_132 3 1 (dk_at dksJ6_inflate_0 19 rfl rfl)
theorem dJ6_inflate_22 : decode cJ6_inflate 22 = .ok (.aload_n 0, 1) := dk_42 (dk_at dksJ6_inflate_0 22 rfl rfl)
theorem dJ6_inflate_23 : decode cJ6_inflate 23 = .ok (.iload_n 1, 1) := dk_27 (dk_at dksJ6_inflate_0 23 rfl rfl)
theorem dJ6_inflate_24 : decode cJ6_inflate 24 = .ok (.iinc 1 1, 3) := dk_132 1 1 (dk_at dksJ6_inflate_1 0 rfl rfl)
theorem dJ6_inflate_27 : decode cJ6_inflate 27 = .ok (.baload, 1) := dk_51 (dk_at dksJ6_inflate_1 3 rfl rfl)
theorem dJ6_inflate_28 : decode cJ6_inflate 28 = .ok (.sipush 255, 3) := dk_17 0 255 (dk_at dksJ6_inflate_1 4 rfl rfl)
theorem dJ6_inflate_31 : decode cJ6_inflate 31 = .ok (.iand, 1) := dk_126 (dk_at dksJ6_inflate_1 7 rfl rfl)
theorem dJ6_inflate_32 : decode cJ6_inflate 32 = .ok (.invokestatic 111, 3) := dk_184 0 111 (dk_at dksJ6_inflate_1 8 rfl rfl)
theorem dJ6_inflate_35 : decode cJ6_inflate 35 = .ok (.iinc 5 1, 3) := dk_132 5 1 (dk_at dksJ6_inflate_1 11 rfl rfl)
theorem dJ6_inflate_38 : decode cJ6_inflate 38 = .ok (.goto (-28), 3) := dk_167 255 228 (dk_at dksJ6_inflate_1 14 rfl rfl)
theorem dJ6_inflate_41 : decode cJ6_inflate 41 = .ok (.return_, 1) := dk_177 (dk_at dksJ6_inflate_1 17 rfl rfl)
abbrev cJ6_checkBoundsOffCount : ByteArray := prog_29_method_94_code
def yJ6_checkBoundsOffCount : MethodName := ⟨RJ6, "checkBoundsOffCount", "(II[B)V"⟩
def dkwJ6_checkBoundsOffCount_0 : List UInt8 := [26, 27, 44, 184, 0, 48, 184, 1, 163, 87, 177]
abbrev dktJ6_checkBoundsOffCount_0 : List UInt8 := dkwJ6_checkBoundsOffCount_0 ++ []
theorem dksJ6_checkBoundsOffCount_0 : cJ6_checkBoundsOffCount.data.toList.drop 0 = dktJ6_checkBoundsOffCount_0 := by decide +kernel
theorem dJ6_checkBoundsOffCount_0 : decode cJ6_checkBoundsOffCount 0 = .ok (.iload_n 0, 1) := dk_26 (dk_at dksJ6_checkBoundsOffCount_0 0 rfl rfl)
theorem dJ6_checkBoundsOffCount_1 : decode cJ6_checkBoundsOffCount 1 = .ok (.iload_n 1, 1) := dk_27 (dk_at dksJ6_checkBoundsOffCount_0 1 rfl rfl)
theorem dJ6_checkBoundsOffCount_2 : decode cJ6_checkBoundsOffCount 2 = .ok (.aload_n 2, 1) := dk_44 (dk_at dksJ6_checkBoundsOffCount_0 2 rfl rfl)
theorem dJ6_checkBoundsOffCount_3 : decode cJ6_checkBoundsOffCount 3 = .ok (.invokestatic 48, 3) := dk_184 0 48 (dk_at dksJ6_checkBoundsOffCount_0 3 rfl rfl)
theorem dJ6_checkBoundsOffCount_6 : decode cJ6_checkBoundsOffCount 6 = .ok (.invokestatic 419, 3) := dk_184 1 163 (dk_at dksJ6_checkBoundsOffCount_0 6 rfl rfl)
theorem dJ6_checkBoundsOffCount_9 : decode cJ6_checkBoundsOffCount 9 = .ok (.pop, 1) := dk_87 (dk_at dksJ6_checkBoundsOffCount_0 9 rfl rfl)
theorem dJ6_checkBoundsOffCount_10 : decode cJ6_checkBoundsOffCount 10 = .ok (.return_, 1) := dk_177 (dk_at dksJ6_checkBoundsOffCount_0 10 rfl rfl)
abbrev cJ6_length : ByteArray := prog_29_method_6_code
def yJ6_length : MethodName := ⟨RJ6, "length", "([B)I"⟩
def dkwJ6_length_0 : List UInt8 := [42, 190, 4, 122, 172]
abbrev dktJ6_length_0 : List UInt8 := dkwJ6_length_0 ++ []
theorem dksJ6_length_0 : cJ6_length.data.toList.drop 0 = dktJ6_length_0 := by decide +kernel
theorem dJ6_length_0 : decode cJ6_length 0 = .ok (.aload_n 0, 1) := dk_42 (dk_at dksJ6_length_0 0 rfl rfl)
theorem dJ6_length_1 : decode cJ6_length 1 = .ok (.arraylength, 1) := dk_190 (dk_at dksJ6_length_0 1 rfl rfl)
theorem dJ6_length_2 : decode cJ6_length 2 = .ok (.iconst 1, 1) := dk_4 (dk_at dksJ6_length_0 2 rfl rfl)
theorem dJ6_length_3 : decode cJ6_length 3 = .ok (.ishr, 1) := dk_122 (dk_at dksJ6_length_0 3 rfl rfl)
theorem dJ6_length_4 : decode cJ6_length 4 = .ok (.ireturn, 1) := dk_172 (dk_at dksJ6_length_0 4 rfl rfl)
abbrev cJ6_putChar : ByteArray := prog_29_method_4_code
def yJ6_putChar : MethodName := ⟨RJ6, "putCha\x72", "([BII)V"⟩
def dkwJ6_putChar_2 : List UInt8 := [178, 0, 63, 122, 145, 84, 177]
abbrev dktJ6_putChar_2 : List UInt8 := dkwJ6_putChar_2 ++ []
def dkwJ6_putChar_1 : List UInt8 := [183, 0, 56, 191, 27, 4, 120, 60, 42, 27, 132, 1, 1, 28, 178, 0, 59, 122, 145, 84, 42, 27, 28]
abbrev dktJ6_putChar_1 : List UInt8 := dkwJ6_putChar_1 ++ dktJ6_putChar_2
def dkwJ6_putChar_0 : List UInt8 := [178, 0, 44, 154, 0, 25, 27, 155, 0, 11, 27, 42, 184, 0, 48, 161, 0, 13, 187, 0, 52, 89, 18, 54]
abbrev dktJ6_putChar_0 : List UInt8 := dkwJ6_putChar_0 ++ dktJ6_putChar_1
theorem dksJ6_putChar_0 : cJ6_putChar.data.toList.drop 0 = dktJ6_putChar_0 := by decide +kernel
theorem dksJ6_putChar_1 : cJ6_putChar.data.toList.drop 24 = dktJ6_putChar_1 := dk_seg dksJ6_putChar_0 24 rfl rfl
theorem dksJ6_putChar_2 : cJ6_putChar.data.toList.drop 47 = dktJ6_putChar_2 := dk_seg dksJ6_putChar_1 23 rfl rfl
theorem dJ6_putChar_0 : decode cJ6_putChar 0 = .ok (.getstatic 44, 3) := dk_178 0 44 (dk_at dksJ6_putChar_0 0 rfl rfl)
theorem dJ6_putChar_3 : decode cJ6_putChar 3 = .ok (.ifCond .ne 25, 3) := dk_154 0 25 (dk_at dksJ6_putChar_0 3 rfl rfl)
theorem dJ6_putChar_6 : decode cJ6_putChar 6 = .ok (.iload_n 1, 1) := dk_27 (dk_at dksJ6_putChar_0 6 rfl rfl)
theorem dJ6_putChar_7 : decode cJ6_putChar 7 = .ok (.ifCond .lt 11, 3) := dk_155 0 11 (dk_at dksJ6_putChar_0 7 rfl rfl)
theorem dJ6_putChar_10 : decode cJ6_putChar 10 = .ok (.iload_n 1, 1) := dk_27 (dk_at dksJ6_putChar_0 10 rfl rfl)
theorem dJ6_putChar_11 : decode cJ6_putChar 11 = .ok (.aload_n 0, 1) := dk_42 (dk_at dksJ6_putChar_0 11 rfl rfl)
theorem dJ6_putChar_12 : decode cJ6_putChar 12 = .ok (.invokestatic 48, 3) := dk_184 0 48 (dk_at dksJ6_putChar_0 12 rfl rfl)
theorem dJ6_putChar_15 : decode cJ6_putChar 15 = .ok (.if_icmp .lt 13, 3) := dk_161 0 13 (dk_at dksJ6_putChar_0 15 rfl rfl)
theorem dJ6_putChar_18 : decode cJ6_putChar 18 = .ok (.new 52, 3) := dk_187 0 52 (dk_at dksJ6_putChar_0 18 rfl rfl)
theorem dJ6_putChar_21 : decode cJ6_putChar 21 = .ok (.dup, 1) := dk_89 (dk_at dksJ6_putChar_0 21 rfl rfl)
theorem dJ6_putChar_22 : decode cJ6_putChar 22 = .ok (.ldc 54, 2) := dk_18 54 (dk_at dksJ6_putChar_0 22 rfl rfl)
theorem dJ6_putChar_24 : decode cJ6_putChar 24 = .ok (.invokespecial 56, 3) := dk_183 0 56 (dk_at dksJ6_putChar_1 0 rfl rfl)
theorem dJ6_putChar_27 : decode cJ6_putChar 27 = .ok (.athrow, 1) := dk_191 (dk_at dksJ6_putChar_1 3 rfl rfl)
theorem dJ6_putChar_28 : decode cJ6_putChar 28 = .ok (.iload_n 1, 1) := dk_27 (dk_at dksJ6_putChar_1 4 rfl rfl)
theorem dJ6_putChar_29 : decode cJ6_putChar 29 = .ok (.iconst 1, 1) := dk_4 (dk_at dksJ6_putChar_1 5 rfl rfl)
theorem dJ6_putChar_30 : decode cJ6_putChar 30 = .ok (.ishl, 1) := dk_120 (dk_at dksJ6_putChar_1 6 rfl rfl)
theorem dJ6_putChar_31 : decode cJ6_putChar 31 = .ok (.istore_n 1, 1) := dk_60 (dk_at dksJ6_putChar_1 7 rfl rfl)
theorem dJ6_putChar_32 : decode cJ6_putChar 32 = .ok (.aload_n 0, 1) := dk_42 (dk_at dksJ6_putChar_1 8 rfl rfl)
theorem dJ6_putChar_33 : decode cJ6_putChar 33 = .ok (.iload_n 1, 1) := dk_27 (dk_at dksJ6_putChar_1 9 rfl rfl)
theorem dJ6_putChar_34 : decode cJ6_putChar 34 = .ok (.iinc 1 1, 3) := dk_132 1 1 (dk_at dksJ6_putChar_1 10 rfl rfl)
theorem dJ6_putChar_37 : decode cJ6_putChar 37 = .ok (.iload_n 2, 1) := dk_28 (dk_at dksJ6_putChar_1 13 rfl rfl)
theorem dJ6_putChar_38 : decode cJ6_putChar 38 = .ok (.getstatic 59, 3) := dk_178 0 59 (dk_at dksJ6_putChar_1 14 rfl rfl)
theorem dJ6_putChar_41 : decode cJ6_putChar 41 = .ok (.ishr, 1) := dk_122 (dk_at dksJ6_putChar_1 17 rfl rfl)
theorem dJ6_putChar_42 : decode cJ6_putChar 42 = .ok (.i2b, 1) := dk_145 (dk_at dksJ6_putChar_1 18 rfl rfl)
theorem dJ6_putChar_43 : decode cJ6_putChar 43 = .ok (.bastore, 1) := dk_84 (dk_at dksJ6_putChar_1 19 rfl rfl)
theorem dJ6_putChar_44 : decode cJ6_putChar 44 = .ok (.aload_n 0, 1) := dk_42 (dk_at dksJ6_putChar_1 20 rfl rfl)
theorem dJ6_putChar_45 : decode cJ6_putChar 45 = .ok (.iload_n 1, 1) := dk_27 (dk_at dksJ6_putChar_1 21 rfl rfl)
theorem dJ6_putChar_46 : decode cJ6_putChar 46 = .ok (.iload_n 2, 1) := dk_28 (dk_at dksJ6_putChar_1 22 rfl rfl)
theorem dJ6_putChar_47 : decode cJ6_putChar 47 = .ok (.getstatic 63, 3) := dk_178 0 63 (dk_at dksJ6_putChar_2 0 rfl rfl)
theorem dJ6_putChar_50 : decode cJ6_putChar 50 = .ok (.ishr, 1) := dk_122 (dk_at dksJ6_putChar_2 3 rfl rfl)
theorem dJ6_putChar_51 : decode cJ6_putChar 51 = .ok (.i2b, 1) := dk_145 (dk_at dksJ6_putChar_2 4 rfl rfl)
theorem dJ6_putChar_52 : decode cJ6_putChar 52 = .ok (.bastore, 1) := dk_84 (dk_at dksJ6_putChar_2 5 rfl rfl)
theorem dJ6_putChar_53 : decode cJ6_putChar 53 = .ok (.return_, 1) := dk_177 (dk_at dksJ6_putChar_2 6 rfl rfl)
abbrev cJ6_putCharSB : ByteArray := prog_29_method_71_code
def yJ6_putCharSB : MethodName := ⟨RJ6, "putCharSB", "([BII)V"⟩
def dkwJ6_putCharSB_0 : List UInt8 := [27, 42, 184, 0, 67, 42, 27, 28, 184, 0, 111, 177]
abbrev dktJ6_putCharSB_0 : List UInt8 := dkwJ6_putCharSB_0 ++ []
theorem dksJ6_putCharSB_0 : cJ6_putCharSB.data.toList.drop 0 = dktJ6_putCharSB_0 := by decide +kernel
theorem dJ6_putCharSB_0 : decode cJ6_putCharSB 0 = .ok (.iload_n 1, 1) := dk_27 (dk_at dksJ6_putCharSB_0 0 rfl rfl)
theorem dJ6_putCharSB_1 : decode cJ6_putCharSB 1 = .ok (.aload_n 0, 1) := dk_42 (dk_at dksJ6_putCharSB_0 1 rfl rfl)
theorem dJ6_putCharSB_2 : decode cJ6_putCharSB 2 = .ok (.invokestatic 67, 3) := dk_184 0 67 (dk_at dksJ6_putCharSB_0 2 rfl rfl)
theorem dJ6_putCharSB_5 : decode cJ6_putCharSB 5 = .ok (.aload_n 0, 1) := dk_42 (dk_at dksJ6_putCharSB_0 5 rfl rfl)
theorem dJ6_putCharSB_6 : decode cJ6_putCharSB 6 = .ok (.iload_n 1, 1) := dk_27 (dk_at dksJ6_putCharSB_0 6 rfl rfl)
theorem dJ6_putCharSB_7 : decode cJ6_putCharSB 7 = .ok (.iload_n 2, 1) := dk_28 (dk_at dksJ6_putCharSB_0 7 rfl rfl)
theorem dJ6_putCharSB_8 : decode cJ6_putCharSB 8 = .ok (.invokestatic 111, 3) := dk_184 0 111 (dk_at dksJ6_putCharSB_0 8 rfl rfl)
theorem dJ6_putCharSB_11 : decode cJ6_putCharSB 11 = .ok (.return_, 1) := dk_177 (dk_at dksJ6_putCharSB_0 11 rfl rfl)
abbrev cJ6_checkIndex : ByteArray := prog_29_method_91_code
def yJ6_checkIndex : MethodName := ⟨RJ6, "checkIndex", "(I[B)V"⟩
def dkwJ6_checkIndex_0 : List UInt8 := [26, 43, 184, 0, 48, 184, 1, 158, 177]
abbrev dktJ6_checkIndex_0 : List UInt8 := dkwJ6_checkIndex_0 ++ []
theorem dksJ6_checkIndex_0 : cJ6_checkIndex.data.toList.drop 0 = dktJ6_checkIndex_0 := by decide +kernel
theorem dJ6_checkIndex_0 : decode cJ6_checkIndex 0 = .ok (.iload_n 0, 1) := dk_26 (dk_at dksJ6_checkIndex_0 0 rfl rfl)
theorem dJ6_checkIndex_1 : decode cJ6_checkIndex 1 = .ok (.aload_n 1, 1) := dk_43 (dk_at dksJ6_checkIndex_0 1 rfl rfl)
theorem dJ6_checkIndex_2 : decode cJ6_checkIndex 2 = .ok (.invokestatic 48, 3) := dk_184 0 48 (dk_at dksJ6_checkIndex_0 2 rfl rfl)
theorem dJ6_checkIndex_5 : decode cJ6_checkIndex 5 = .ok (.invokestatic 414, 3) := dk_184 1 158 (dk_at dksJ6_checkIndex_0 5 rfl rfl)
theorem dJ6_checkIndex_8 : decode cJ6_checkIndex 8 = .ok (.return_, 1) := dk_177 (dk_at dksJ6_checkIndex_0 8 rfl rfl)
abbrev cJ6_compress : ByteArray := prog_29_method_17_code
def yJ6_compress : MethodName := ⟨RJ6, "compress", "([BII)[B"⟩
def dkwJ6_compress_2 : List UInt8 := [25, 5, 3, 45, 3, 28, 184, 0, 123, 28, 159, 0, 6, 25, 5, 176, 45, 176]
abbrev dktJ6_compress_2 : List UInt8 := dkwJ6_compress_2 ++ []
def dkwJ6_compress_1 : List UInt8 := [27, 28, 96, 184, 0, 11, 184, 0, 126, 58, 5, 25, 5, 21, 4, 184, 0, 71, 17, 0, 255, 163, 0, 16]
abbrev dktJ6_compress_1 : List UInt8 := dkwJ6_compress_1 ++ dktJ6_compress_2
def dkwJ6_compress_0 : List UInt8 := [28, 188, 8, 78, 42, 27, 45, 3, 28, 184, 0, 123, 54, 4, 21, 4, 28, 159, 0, 47, 42, 27, 4, 120]
abbrev dktJ6_compress_0 : List UInt8 := dkwJ6_compress_0 ++ dktJ6_compress_1
theorem dksJ6_compress_0 : cJ6_compress.data.toList.drop 0 = dktJ6_compress_0 := by decide +kernel
theorem dksJ6_compress_1 : cJ6_compress.data.toList.drop 24 = dktJ6_compress_1 := dk_seg dksJ6_compress_0 24 rfl rfl
theorem dksJ6_compress_2 : cJ6_compress.data.toList.drop 48 = dktJ6_compress_2 := dk_seg dksJ6_compress_1 24 rfl rfl
theorem dJ6_compress_0 : decode cJ6_compress 0 = .ok (.iload_n 2, 1) := dk_28 (dk_at dksJ6_compress_0 0 rfl rfl)
theorem dJ6_compress_1 : decode cJ6_compress 1 = .ok (.newarray .byte, 2) := dk_188_8 (dk_at dksJ6_compress_0 1 rfl rfl)
theorem dJ6_compress_3 : decode cJ6_compress 3 = .ok (.astore_n 3, 1) := dk_78 (dk_at dksJ6_compress_0 3 rfl rfl)
theorem dJ6_compress_4 : decode cJ6_compress 4 = .ok (.aload_n 0, 1) := dk_42 (dk_at dksJ6_compress_0 4 rfl rfl)
theorem dJ6_compress_5 : decode cJ6_compress 5 = .ok (.iload_n 1, 1) := dk_27 (dk_at dksJ6_compress_0 5 rfl rfl)
theorem dJ6_compress_6 : decode cJ6_compress 6 = .ok (.aload_n 3, 1) := dk_45 (dk_at dksJ6_compress_0 6 rfl rfl)
theorem dJ6_compress_7 : decode cJ6_compress 7 = .ok (.iconst 0, 1) := dk_3 (dk_at dksJ6_compress_0 7 rfl rfl)
theorem dJ6_compress_8 : decode cJ6_compress 8 = .ok (.iload_n 2, 1) := dk_28 (dk_at dksJ6_compress_0 8 rfl rfl)
theorem dJ6_compress_9 : decode cJ6_compress 9 = .ok (.invokestatic 123, 3) := dk_184 0 123 (dk_at dksJ6_compress_0 9 rfl rfl)
theorem dJ6_compress_12 : decode cJ6_compress 12 = .ok (.istore 4, 2) := dk_54 4 (dk_at dksJ6_compress_0 12 rfl rfl)
theorem dJ6_compress_14 : decode cJ6_compress 14 = .ok (.iload 4, 2) := dk_21 4 (dk_at dksJ6_compress_0 14 rfl rfl)
theorem dJ6_compress_16 : decode cJ6_compress 16 = .ok (.iload_n 2, 1) := dk_28 (dk_at dksJ6_compress_0 16 rfl rfl)
theorem dJ6_compress_17 : decode cJ6_compress 17 = .ok (.if_icmp .eq 47, 3) := dk_159 0 47 (dk_at dksJ6_compress_0 17 rfl rfl)
theorem dJ6_compress_20 : decode cJ6_compress 20 = .ok (.aload_n 0, 1) := dk_42 (dk_at dksJ6_compress_0 20 rfl rfl)
theorem dJ6_compress_21 : decode cJ6_compress 21 = .ok (.iload_n 1, 1) := dk_27 (dk_at dksJ6_compress_0 21 rfl rfl)
theorem dJ6_compress_22 : decode cJ6_compress 22 = .ok (.iconst 1, 1) := dk_4 (dk_at dksJ6_compress_0 22 rfl rfl)
theorem dJ6_compress_23 : decode cJ6_compress 23 = .ok (.ishl, 1) := dk_120 (dk_at dksJ6_compress_0 23 rfl rfl)
theorem dJ6_compress_24 : decode cJ6_compress 24 = .ok (.iload_n 1, 1) := dk_27 (dk_at dksJ6_compress_1 0 rfl rfl)
theorem dJ6_compress_25 : decode cJ6_compress 25 = .ok (.iload_n 2, 1) := dk_28 (dk_at dksJ6_compress_1 1 rfl rfl)
theorem dJ6_compress_26 : decode cJ6_compress 26 = .ok (.iadd, 1) := dk_96 (dk_at dksJ6_compress_1 2 rfl rfl)
theorem dJ6_compress_27 : decode cJ6_compress 27 = .ok (.invokestatic 11, 3) := dk_184 0 11 (dk_at dksJ6_compress_1 3 rfl rfl)
theorem dJ6_compress_30 : decode cJ6_compress 30 = .ok (.invokestatic 126, 3) := dk_184 0 126 (dk_at dksJ6_compress_1 6 rfl rfl)
theorem dJ6_compress_33 : decode cJ6_compress 33 = .ok (.astore 5, 2) := dk_58 5 (dk_at dksJ6_compress_1 9 rfl rfl)
theorem dJ6_compress_35 : decode cJ6_compress 35 = .ok (.aload 5, 2) := dk_25 5 (dk_at dksJ6_compress_1 11 rfl rfl)
theorem dJ6_compress_37 : decode cJ6_compress 37 = .ok (.iload 4, 2) := dk_21 4 (dk_at dksJ6_compress_1 13 rfl rfl)
theorem dJ6_compress_39 : decode cJ6_compress 39 = .ok (.invokestatic 71, 3) := dk_184 0 71 (dk_at dksJ6_compress_1 15 rfl rfl)
theorem dJ6_compress_42 : decode cJ6_compress 42 = .ok (.sipush 255, 3) := dk_17 0 255 (dk_at dksJ6_compress_1 18 rfl rfl)
theorem dJ6_compress_45 : decode cJ6_compress 45 = .ok (.if_icmp .gt 16, 3) := dk_163 0 16 (dk_at dksJ6_compress_1 21 rfl rfl)
theorem dJ6_compress_48 : decode cJ6_compress 48 = .ok (.aload 5, 2) := dk_25 5 (dk_at dksJ6_compress_2 0 rfl rfl)
theorem dJ6_compress_50 : decode cJ6_compress 50 = .ok (.iconst 0, 1) := dk_3 (dk_at dksJ6_compress_2 2 rfl rfl)
theorem dJ6_compress_51 : decode cJ6_compress 51 = .ok (.aload_n 3, 1) := dk_45 (dk_at dksJ6_compress_2 3 rfl rfl)
theorem dJ6_compress_52 : decode cJ6_compress 52 = .ok (.iconst 0, 1) := dk_3 (dk_at dksJ6_compress_2 4 rfl rfl)
theorem dJ6_compress_53 : decode cJ6_compress 53 = .ok (.iload_n 2, 1) := dk_28 (dk_at dksJ6_compress_2 5 rfl rfl)
theorem dJ6_compress_54 : decode cJ6_compress 54 = .ok (.invokestatic 123, 3) := dk_184 0 123 (dk_at dksJ6_compress_2 6 rfl rfl)
theorem dJ6_compress_57 : decode cJ6_compress 57 = .ok (.iload_n 2, 1) := dk_28 (dk_at dksJ6_compress_2 9 rfl rfl)
theorem dJ6_compress_58 : decode cJ6_compress 58 = .ok (.if_icmp .eq 6, 3) := dk_159 0 6 (dk_at dksJ6_compress_2 10 rfl rfl)
theorem dJ6_compress_61 : decode cJ6_compress 61 = .ok (.aload 5, 2) := dk_25 5 (dk_at dksJ6_compress_2 13 rfl rfl)
theorem dJ6_compress_63 : decode cJ6_compress 63 = .ok (.areturn, 1) := dk_176 (dk_at dksJ6_compress_2 15 rfl rfl)
theorem dJ6_compress_64 : decode cJ6_compress 64 = .ok (.aload_n 3, 1) := dk_45 (dk_at dksJ6_compress_2 16 rfl rfl)
theorem dJ6_compress_65 : decode cJ6_compress 65 = .ok (.areturn, 1) := dk_176 (dk_at dksJ6_compress_2 17 rfl rfl)
abbrev cJ6_compress_2 : ByteArray := prog_29_method_22_code
def yJ6_compress_2 : MethodName := ⟨RJ6, "compress", "([BI[BII)I"⟩
def dkwJ6_compress_2_2 : List UInt8 := [132, 5, 1, 167, 255, 216, 21, 4, 172]
abbrev dktJ6_compress_2_2 : List UInt8 := dkwJ6_compress_2_2 ++ []
def dkwJ6_compress_2_1 : List UInt8 := [21, 6, 17, 0, 255, 164, 0, 6, 21, 5, 172, 44, 29, 21, 6, 145, 84, 132, 1, 1, 132, 3, 1]
abbrev dktJ6_compress_2_1 : List UInt8 := dkwJ6_compress_2_1 ++ dktJ6_compress_2_2
def dkwJ6_compress_2_0 : List UInt8 := [27, 21, 4, 42, 184, 0, 173, 3, 54, 5, 21, 5, 21, 4, 162, 0, 39, 42, 27, 184, 0, 71, 54, 6]
abbrev dktJ6_compress_2_0 : List UInt8 := dkwJ6_compress_2_0 ++ dktJ6_compress_2_1
theorem dksJ6_compress_2_0 : cJ6_compress_2.data.toList.drop 0 = dktJ6_compress_2_0 := by decide +kernel
theorem dksJ6_compress_2_1 : cJ6_compress_2.data.toList.drop 24 = dktJ6_compress_2_1 := dk_seg dksJ6_compress_2_0 24 rfl rfl
theorem dksJ6_compress_2_2 : cJ6_compress_2.data.toList.drop 47 = dktJ6_compress_2_2 := dk_seg dksJ6_compress_2_1 23 rfl rfl
theorem dJ6_compress_2_0 : decode cJ6_compress_2 0 = .ok (.iload_n 1, 1) := dk_27 (dk_at dksJ6_compress_2_0 0 rfl rfl)
theorem dJ6_compress_2_1 : decode cJ6_compress_2 1 = .ok (.iload 4, 2) := dk_21 4 (dk_at dksJ6_compress_2_0 1 rfl rfl)
theorem dJ6_compress_2_3 : decode cJ6_compress_2 3 = .ok (.aload_n 0, 1) := dk_42 (dk_at dksJ6_compress_2_0 3 rfl rfl)
theorem dJ6_compress_2_4 : decode cJ6_compress_2 4 = .ok (.invokestatic 173, 3) := dk_184 0 173 (dk_at dksJ6_compress_2_0 4 rfl rfl)
theorem dJ6_compress_2_7 : decode cJ6_compress_2 7 = .ok (.iconst 0, 1) := dk_3 (dk_at dksJ6_compress_2_0 7 rfl rfl)
theorem dJ6_compress_2_8 : decode cJ6_compress_2 8 = .ok (.istore 5, 2) := dk_54 5 (dk_at dksJ6_compress_2_0 8 rfl rfl)
theorem dJ6_compress_2_10 : decode cJ6_compress_2 10 = .ok (.iload 5, 2) := dk_21 5 (dk_at dksJ6_compress_2_0 10 rfl rfl)
theorem dJ6_compress_2_12 : decode cJ6_compress_2 12 = .ok (.iload 4, 2) := dk_21 4 (dk_at dksJ6_compress_2_0 12 rfl rfl)
theorem dJ6_compress_2_14 : decode cJ6_compress_2 14 = .ok (.if_icmp .ge 39, 3) := dk_162 0 39 (dk_at dksJ6_compress_2_0 14 rfl rfl)
theorem dJ6_compress_2_17 : decode cJ6_compress_2 17 = .ok (.aload_n 0, 1) := dk_42 (dk_at dksJ6_compress_2_0 17 rfl rfl)
theorem dJ6_compress_2_18 : decode cJ6_compress_2 18 = .ok (.iload_n 1, 1) := dk_27 (dk_at dksJ6_compress_2_0 18 rfl rfl)
theorem dJ6_compress_2_19 : decode cJ6_compress_2 19 = .ok (.invokestatic 71, 3) := dk_184 0 71 (dk_at dksJ6_compress_2_0 19 rfl rfl)
theorem dJ6_compress_2_22 : decode cJ6_compress_2 22 = .ok (.istore 6, 2) := dk_54 6 (dk_at dksJ6_compress_2_0 22 rfl rfl)
theorem dJ6_compress_2_24 : decode cJ6_compress_2 24 = .ok (.iload 6, 2) := dk_21 6 (dk_at dksJ6_compress_2_1 0 rfl rfl)
theorem dJ6_compress_2_26 : decode cJ6_compress_2 26 = .ok (.sipush 255, 3) := dk_17 0 255 (dk_at dksJ6_compress_2_1 2 rfl rfl)
theorem dJ6_compress_2_29 : decode cJ6_compress_2 29 = .ok (.if_icmp .le 6, 3) := dk_164 0 6 (dk_at dksJ6_compress_2_1 5 rfl rfl)
theorem dJ6_compress_2_32 : decode cJ6_compress_2 32 = .ok (.iload 5, 2) := dk_21 5 (dk_at dksJ6_compress_2_1 8 rfl rfl)
theorem dJ6_compress_2_34 : decode cJ6_compress_2 34 = .ok (.ireturn, 1) := dk_172 (dk_at dksJ6_compress_2_1 10 rfl rfl)
theorem dJ6_compress_2_35 : decode cJ6_compress_2 35 = .ok (.aload_n 2, 1) := dk_44 (dk_at dksJ6_compress_2_1 11 rfl rfl)
theorem dJ6_compress_2_36 : decode cJ6_compress_2 36 = .ok (.iload_n 3, 1) := dk_29 (dk_at dksJ6_compress_2_1 12 rfl rfl)
theorem dJ6_compress_2_37 : decode cJ6_compress_2 37 = .ok (.iload 6, 2) := dk_21 6 (dk_at dksJ6_compress_2_1 13 rfl rfl)
theorem dJ6_compress_2_39 : decode cJ6_compress_2 39 = .ok (.i2b, 1) := dk_145 (dk_at dksJ6_compress_2_1 15 rfl rfl)
theorem dJ6_compress_2_40 : decode cJ6_compress_2 40 = .ok (.bastore, 1) := dk_84 (dk_at dksJ6_compress_2_1 16 rfl rfl)
theorem dJ6_compress_2_41 : decode cJ6_compress_2 41 = .ok (.iinc 1 1, 3) := dk_132 1 1 (dk_at dksJ6_compress_2_1 17 rfl rfl)
theorem dJ6_compress_2_44 : decode cJ6_compress_2 44 = .ok (.iinc 3 1, 3) := dk_132 3 1 (dk_at dksJ6_compress_2_1 20 rfl rfl)
theorem dJ6_compress_2_47 : decode cJ6_compress_2 47 = .ok (.iinc 5 1, 3) := dk_132 5 1 (dk_at dksJ6_compress_2_2 0 rfl rfl)
theorem dJ6_compress_2_50 : decode cJ6_compress_2 50 = .ok (.goto (-40), 3) := dk_167 255 216 (dk_at dksJ6_compress_2_2 3 rfl rfl)
theorem dJ6_compress_2_53 : decode cJ6_compress_2 53 = .ok (.iload 4, 2) := dk_21 4 (dk_at dksJ6_compress_2_2 6 rfl rfl)
theorem dJ6_compress_2_55 : decode cJ6_compress_2 55 = .ok (.ireturn, 1) := dk_172 (dk_at dksJ6_compress_2_2 8 rfl rfl)
abbrev cJ6_getChar : ByteArray := prog_29_method_5_code
def yJ6_getChar : MethodName := ⟨RJ6, "getCha\x72", "([BI)C"⟩
def dkwJ6_getChar_2 : List UInt8 := [51, 17, 0, 255, 126, 178, 0, 63, 120, 128, 146, 172]
abbrev dktJ6_getChar_2 : List UInt8 := dkwJ6_getChar_2 ++ []
def dkwJ6_getChar_1 : List UInt8 := [183, 0, 56, 191, 27, 4, 120, 60, 42, 27, 132, 1, 1, 51, 17, 0, 255, 126, 178, 0, 59, 120, 42, 27]
abbrev dktJ6_getChar_1 : List UInt8 := dkwJ6_getChar_1 ++ dktJ6_getChar_2
def dkwJ6_getChar_0 : List UInt8 := [178, 0, 44, 154, 0, 25, 27, 155, 0, 11, 27, 42, 184, 0, 48, 161, 0, 13, 187, 0, 52, 89, 18, 54]
abbrev dktJ6_getChar_0 : List UInt8 := dkwJ6_getChar_0 ++ dktJ6_getChar_1
theorem dksJ6_getChar_0 : cJ6_getChar.data.toList.drop 0 = dktJ6_getChar_0 := by decide +kernel
theorem dksJ6_getChar_1 : cJ6_getChar.data.toList.drop 24 = dktJ6_getChar_1 := dk_seg dksJ6_getChar_0 24 rfl rfl
theorem dksJ6_getChar_2 : cJ6_getChar.data.toList.drop 48 = dktJ6_getChar_2 := dk_seg dksJ6_getChar_1 24 rfl rfl
theorem dJ6_getChar_0 : decode cJ6_getChar 0 = .ok (.getstatic 44, 3) := dk_178 0 44 (dk_at dksJ6_getChar_0 0 rfl rfl)
theorem dJ6_getChar_3 : decode cJ6_getChar 3 = .ok (.ifCond .ne 25, 3) := dk_154 0 25 (dk_at dksJ6_getChar_0 3 rfl rfl)
theorem dJ6_getChar_6 : decode cJ6_getChar 6 = .ok (.iload_n 1, 1) := dk_27 (dk_at dksJ6_getChar_0 6 rfl rfl)
theorem dJ6_getChar_7 : decode cJ6_getChar 7 = .ok (.ifCond .lt 11, 3) := dk_155 0 11 (dk_at dksJ6_getChar_0 7 rfl rfl)
theorem dJ6_getChar_10 : decode cJ6_getChar 10 = .ok (.iload_n 1, 1) := dk_27 (dk_at dksJ6_getChar_0 10 rfl rfl)
theorem dJ6_getChar_11 : decode cJ6_getChar 11 = .ok (.aload_n 0, 1) := dk_42 (dk_at dksJ6_getChar_0 11 rfl rfl)
theorem dJ6_getChar_12 : decode cJ6_getChar 12 = .ok (.invokestatic 48, 3) := dk_184 0 48 (dk_at dksJ6_getChar_0 12 rfl rfl)
theorem dJ6_getChar_15 : decode cJ6_getChar 15 = .ok (.if_icmp .lt 13, 3) := dk_161 0 13 (dk_at dksJ6_getChar_0 15 rfl rfl)
theorem dJ6_getChar_18 : decode cJ6_getChar 18 = .ok (.new 52, 3) := dk_187 0 52 (dk_at dksJ6_getChar_0 18 rfl rfl)
theorem dJ6_getChar_21 : decode cJ6_getChar 21 = .ok (.dup, 1) := dk_89 (dk_at dksJ6_getChar_0 21 rfl rfl)
theorem dJ6_getChar_22 : decode cJ6_getChar 22 = .ok (.ldc 54, 2) := dk_18 54 (dk_at dksJ6_getChar_0 22 rfl rfl)
theorem dJ6_getChar_24 : decode cJ6_getChar 24 = .ok (.invokespecial 56, 3) := dk_183 0 56 (dk_at dksJ6_getChar_1 0 rfl rfl)
theorem dJ6_getChar_27 : decode cJ6_getChar 27 = .ok (.athrow, 1) := dk_191 (dk_at dksJ6_getChar_1 3 rfl rfl)
theorem dJ6_getChar_28 : decode cJ6_getChar 28 = .ok (.iload_n 1, 1) := dk_27 (dk_at dksJ6_getChar_1 4 rfl rfl)
theorem dJ6_getChar_29 : decode cJ6_getChar 29 = .ok (.iconst 1, 1) := dk_4 (dk_at dksJ6_getChar_1 5 rfl rfl)
theorem dJ6_getChar_30 : decode cJ6_getChar 30 = .ok (.ishl, 1) := dk_120 (dk_at dksJ6_getChar_1 6 rfl rfl)
theorem dJ6_getChar_31 : decode cJ6_getChar 31 = .ok (.istore_n 1, 1) := dk_60 (dk_at dksJ6_getChar_1 7 rfl rfl)
theorem dJ6_getChar_32 : decode cJ6_getChar 32 = .ok (.aload_n 0, 1) := dk_42 (dk_at dksJ6_getChar_1 8 rfl rfl)
theorem dJ6_getChar_33 : decode cJ6_getChar 33 = .ok (.iload_n 1, 1) := dk_27 (dk_at dksJ6_getChar_1 9 rfl rfl)
theorem dJ6_getChar_34 : decode cJ6_getChar 34 = .ok (.iinc 1 1, 3) := dk_132 1 1 (dk_at dksJ6_getChar_1 10 rfl rfl)
theorem dJ6_getChar_37 : decode cJ6_getChar 37 = .ok (.baload, 1) := dk_51 (dk_at dksJ6_getChar_1 13 rfl rfl)
theorem dJ6_getChar_38 : decode cJ6_getChar 38 = .ok (.sipush 255, 3) := dk_17 0 255 (dk_at dksJ6_getChar_1 14 rfl rfl)
theorem dJ6_getChar_41 : decode cJ6_getChar 41 = .ok (.iand, 1) := dk_126 (dk_at dksJ6_getChar_1 17 rfl rfl)
theorem dJ6_getChar_42 : decode cJ6_getChar 42 = .ok (.getstatic 59, 3) := dk_178 0 59 (dk_at dksJ6_getChar_1 18 rfl rfl)
theorem dJ6_getChar_45 : decode cJ6_getChar 45 = .ok (.ishl, 1) := dk_120 (dk_at dksJ6_getChar_1 21 rfl rfl)
theorem dJ6_getChar_46 : decode cJ6_getChar 46 = .ok (.aload_n 0, 1) := dk_42 (dk_at dksJ6_getChar_1 22 rfl rfl)
theorem dJ6_getChar_47 : decode cJ6_getChar 47 = .ok (.iload_n 1, 1) := dk_27 (dk_at dksJ6_getChar_1 23 rfl rfl)
theorem dJ6_getChar_48 : decode cJ6_getChar 48 = .ok (.baload, 1) := dk_51 (dk_at dksJ6_getChar_2 0 rfl rfl)
theorem dJ6_getChar_49 : decode cJ6_getChar 49 = .ok (.sipush 255, 3) := dk_17 0 255 (dk_at dksJ6_getChar_2 1 rfl rfl)
theorem dJ6_getChar_52 : decode cJ6_getChar 52 = .ok (.iand, 1) := dk_126 (dk_at dksJ6_getChar_2 4 rfl rfl)
theorem dJ6_getChar_53 : decode cJ6_getChar 53 = .ok (.getstatic 63, 3) := dk_178 0 63 (dk_at dksJ6_getChar_2 5 rfl rfl)
theorem dJ6_getChar_56 : decode cJ6_getChar 56 = .ok (.ishl, 1) := dk_120 (dk_at dksJ6_getChar_2 8 rfl rfl)
theorem dJ6_getChar_57 : decode cJ6_getChar 57 = .ok (.ior, 1) := dk_128 (dk_at dksJ6_getChar_2 9 rfl rfl)
theorem dJ6_getChar_58 : decode cJ6_getChar 58 = .ok (.i2c, 1) := dk_146 (dk_at dksJ6_getChar_2 10 rfl rfl)
theorem dJ6_getChar_59 : decode cJ6_getChar 59 = .ok (.ireturn, 1) := dk_172 (dk_at dksJ6_getChar_2 11 rfl rfl)
abbrev cJ6_coderFromArrayLen : ByteArray := prog_29_method_15_code
def yJ6_coderFromArrayLen : MethodName := ⟨RJ6, "coderFromArrayLen", "([BI)B"⟩
def dkwJ6_coderFromArrayLen_0 : List UInt8 := [27, 42, 190, 100, 16, 31, 124, 145, 172]
abbrev dktJ6_coderFromArrayLen_0 : List UInt8 := dkwJ6_coderFromArrayLen_0 ++ []
theorem dksJ6_coderFromArrayLen_0 : cJ6_coderFromArrayLen.data.toList.drop 0 = dktJ6_coderFromArrayLen_0 := by decide +kernel
theorem dJ6_coderFromArrayLen_0 : decode cJ6_coderFromArrayLen 0 = .ok (.iload_n 1, 1) := dk_27 (dk_at dksJ6_coderFromArrayLen_0 0 rfl rfl)
theorem dJ6_coderFromArrayLen_1 : decode cJ6_coderFromArrayLen 1 = .ok (.aload_n 0, 1) := dk_42 (dk_at dksJ6_coderFromArrayLen_0 1 rfl rfl)
theorem dJ6_coderFromArrayLen_2 : decode cJ6_coderFromArrayLen 2 = .ok (.arraylength, 1) := dk_190 (dk_at dksJ6_coderFromArrayLen_0 2 rfl rfl)
theorem dJ6_coderFromArrayLen_3 : decode cJ6_coderFromArrayLen 3 = .ok (.isub, 1) := dk_100 (dk_at dksJ6_coderFromArrayLen_0 3 rfl rfl)
theorem dJ6_coderFromArrayLen_4 : decode cJ6_coderFromArrayLen 4 = .ok (.bipush 31, 2) := dk_16 31 (dk_at dksJ6_coderFromArrayLen_0 4 rfl rfl)
theorem dJ6_coderFromArrayLen_6 : decode cJ6_coderFromArrayLen 6 = .ok (.iushr, 1) := dk_124 (dk_at dksJ6_coderFromArrayLen_0 6 rfl rfl)
theorem dJ6_coderFromArrayLen_7 : decode cJ6_coderFromArrayLen 7 = .ok (.i2b, 1) := dk_145 (dk_at dksJ6_coderFromArrayLen_0 7 rfl rfl)
theorem dJ6_coderFromArrayLen_8 : decode cJ6_coderFromArrayLen 8 = .ok (.ireturn, 1) := dk_172 (dk_at dksJ6_coderFromArrayLen_0 8 rfl rfl)
abbrev cJ6_hashCode : ByteArray := prog_29_method_39_code
def yJ6_hashCode : MethodName := ⟨RJ6, "hashCode", "([B)I"⟩
def dkwJ6_hashCode_2 : List UInt8 := [3, 167, 0, 22, 42, 3, 184, 0, 71, 167, 0, 14, 42, 3, 42, 190, 4, 122, 3, 8, 184, 0, 220, 172]
abbrev dktJ6_hashCode_2 : List UInt8 := dkwJ6_hashCode_2 ++ []
def dkwJ6_hashCode_1 : List UInt8 := [171, 0, 0, 0, 0, 38, 0, 0, 0, 2, 0, 0, 0, 0, 0, 0, 0, 26, 0, 0, 0, 2, 0, 0, 0, 30]
abbrev dktJ6_hashCode_1 : List UInt8 := dkwJ6_hashCode_1 ++ dktJ6_hashCode_2
def dkwJ6_hashCode_0 : List UInt8 := [42, 190]
abbrev dktJ6_hashCode_0 : List UInt8 := dkwJ6_hashCode_0 ++ dktJ6_hashCode_1
theorem dksJ6_hashCode_0 : cJ6_hashCode.data.toList.drop 0 = dktJ6_hashCode_0 := by decide +kernel
theorem dksJ6_hashCode_1 : cJ6_hashCode.data.toList.drop 2 = dktJ6_hashCode_1 := dk_seg dksJ6_hashCode_0 2 rfl rfl
theorem dksJ6_hashCode_2 : cJ6_hashCode.data.toList.drop 28 = dktJ6_hashCode_2 := dk_seg dksJ6_hashCode_1 26 rfl rfl
theorem dJ6_hashCode_0 : decode cJ6_hashCode 0 = .ok (.aload_n 0, 1) := dk_42 (dk_at dksJ6_hashCode_0 0 rfl rfl)
theorem dJ6_hashCode_1 : decode cJ6_hashCode 1 = .ok (.arraylength, 1) := dk_190 (dk_at dksJ6_hashCode_0 1 rfl rfl)
theorem dJ6_hashCode_2 : decode cJ6_hashCode 2 = .ok (.lookupswitch 38 #[(0, 26), (2, 30)], 26) := by decide +kernel
theorem dJ6_hashCode_28 : decode cJ6_hashCode 28 = .ok (.iconst 0, 1) := dk_3 (dk_at dksJ6_hashCode_2 0 rfl rfl)
theorem dJ6_hashCode_29 : decode cJ6_hashCode 29 = .ok (.goto 22, 3) := dk_167 0 22 (dk_at dksJ6_hashCode_2 1 rfl rfl)
theorem dJ6_hashCode_32 : decode cJ6_hashCode 32 = .ok (.aload_n 0, 1) := dk_42 (dk_at dksJ6_hashCode_2 4 rfl rfl)
theorem dJ6_hashCode_33 : decode cJ6_hashCode 33 = .ok (.iconst 0, 1) := dk_3 (dk_at dksJ6_hashCode_2 5 rfl rfl)
theorem dJ6_hashCode_34 : decode cJ6_hashCode 34 = .ok (.invokestatic 71, 3) := dk_184 0 71 (dk_at dksJ6_hashCode_2 6 rfl rfl)
theorem dJ6_hashCode_37 : decode cJ6_hashCode 37 = .ok (.goto 14, 3) := dk_167 0 14 (dk_at dksJ6_hashCode_2 9 rfl rfl)
theorem dJ6_hashCode_40 : decode cJ6_hashCode 40 = .ok (.aload_n 0, 1) := dk_42 (dk_at dksJ6_hashCode_2 12 rfl rfl)
theorem dJ6_hashCode_41 : decode cJ6_hashCode 41 = .ok (.iconst 0, 1) := dk_3 (dk_at dksJ6_hashCode_2 13 rfl rfl)
theorem dJ6_hashCode_42 : decode cJ6_hashCode 42 = .ok (.aload_n 0, 1) := dk_42 (dk_at dksJ6_hashCode_2 14 rfl rfl)
theorem dJ6_hashCode_43 : decode cJ6_hashCode 43 = .ok (.arraylength, 1) := dk_190 (dk_at dksJ6_hashCode_2 15 rfl rfl)
theorem dJ6_hashCode_44 : decode cJ6_hashCode 44 = .ok (.iconst 1, 1) := dk_4 (dk_at dksJ6_hashCode_2 16 rfl rfl)
theorem dJ6_hashCode_45 : decode cJ6_hashCode 45 = .ok (.ishr, 1) := dk_122 (dk_at dksJ6_hashCode_2 17 rfl rfl)
theorem dJ6_hashCode_46 : decode cJ6_hashCode 46 = .ok (.iconst 0, 1) := dk_3 (dk_at dksJ6_hashCode_2 18 rfl rfl)
theorem dJ6_hashCode_47 : decode cJ6_hashCode 47 = .ok (.iconst 5, 1) := dk_8 (dk_at dksJ6_hashCode_2 19 rfl rfl)
theorem dJ6_hashCode_48 : decode cJ6_hashCode 48 = .ok (.invokestatic 220, 3) := dk_184 0 220 (dk_at dksJ6_hashCode_2 20 rfl rfl)
theorem dJ6_hashCode_51 : decode cJ6_hashCode 51 = .ok (.ireturn, 1) := dk_172 (dk_at dksJ6_hashCode_2 23 rfl rfl)
abbrev cJ6_charAt : ByteArray := prog_29_method_83_code
def yJ6_charAt : MethodName := ⟨RJ6, "charAt", "([BI)C"⟩
def dkwJ6_charAt_0 : List UInt8 := [27, 42, 184, 0, 67, 42, 27, 184, 0, 71, 172]
abbrev dktJ6_charAt_0 : List UInt8 := dkwJ6_charAt_0 ++ []
theorem dksJ6_charAt_0 : cJ6_charAt.data.toList.drop 0 = dktJ6_charAt_0 := by decide +kernel
theorem dJ6_charAt_0 : decode cJ6_charAt 0 = .ok (.iload_n 1, 1) := dk_27 (dk_at dksJ6_charAt_0 0 rfl rfl)
theorem dJ6_charAt_1 : decode cJ6_charAt 1 = .ok (.aload_n 0, 1) := dk_42 (dk_at dksJ6_charAt_0 1 rfl rfl)
theorem dJ6_charAt_2 : decode cJ6_charAt 2 = .ok (.invokestatic 67, 3) := dk_184 0 67 (dk_at dksJ6_charAt_0 2 rfl rfl)
theorem dJ6_charAt_5 : decode cJ6_charAt 5 = .ok (.aload_n 0, 1) := dk_42 (dk_at dksJ6_charAt_0 5 rfl rfl)
theorem dJ6_charAt_6 : decode cJ6_charAt 6 = .ok (.iload_n 1, 1) := dk_27 (dk_at dksJ6_charAt_0 6 rfl rfl)
theorem dJ6_charAt_7 : decode cJ6_charAt 7 = .ok (.invokestatic 71, 3) := dk_184 0 71 (dk_at dksJ6_charAt_0 7 rfl rfl)
theorem dJ6_charAt_10 : decode cJ6_charAt 10 = .ok (.ireturn, 1) := dk_172 (dk_at dksJ6_charAt_0 10 rfl rfl)
abbrev cJ7_newLength : ByteArray := prog_46_method_27_code
def yJ7_newLength : MethodName := ⟨RJ7, "newLength", "(III)I"⟩
def dkwJ7_newLength_1 : List UInt8 := [184, 0, 201, 172]
abbrev dktJ7_newLength_1 : List UInt8 := dkwJ7_newLength_1 ++ []
def dkwJ7_newLength_0 : List UInt8 := [26, 27, 28, 184, 0, 194, 96, 62, 3, 29, 162, 0, 11, 29, 18, 200, 163, 0, 5, 29, 172, 26, 27]
abbrev dktJ7_newLength_0 : List UInt8 := dkwJ7_newLength_0 ++ dktJ7_newLength_1
theorem dksJ7_newLength_0 : cJ7_newLength.data.toList.drop 0 = dktJ7_newLength_0 := by decide +kernel
theorem dksJ7_newLength_1 : cJ7_newLength.data.toList.drop 23 = dktJ7_newLength_1 := dk_seg dksJ7_newLength_0 23 rfl rfl
theorem dJ7_newLength_0 : decode cJ7_newLength 0 = .ok (.iload_n 0, 1) := dk_26 (dk_at dksJ7_newLength_0 0 rfl rfl)
theorem dJ7_newLength_1 : decode cJ7_newLength 1 = .ok (.iload_n 1, 1) := dk_27 (dk_at dksJ7_newLength_0 1 rfl rfl)
theorem dJ7_newLength_2 : decode cJ7_newLength 2 = .ok (.iload_n 2, 1) := dk_28 (dk_at dksJ7_newLength_0 2 rfl rfl)
theorem dJ7_newLength_3 : decode cJ7_newLength 3 = .ok (.invokestatic 194, 3) := dk_184 0 194 (dk_at dksJ7_newLength_0 3 rfl rfl)
theorem dJ7_newLength_6 : decode cJ7_newLength 6 = .ok (.iadd, 1) := dk_96 (dk_at dksJ7_newLength_0 6 rfl rfl)
theorem dJ7_newLength_7 : decode cJ7_newLength 7 = .ok (.istore_n 3, 1) := dk_62 (dk_at dksJ7_newLength_0 7 rfl rfl)
theorem dJ7_newLength_8 : decode cJ7_newLength 8 = .ok (.iconst 0, 1) := dk_3 (dk_at dksJ7_newLength_0 8 rfl rfl)
theorem dJ7_newLength_9 : decode cJ7_newLength 9 = .ok (.iload_n 3, 1) := dk_29 (dk_at dksJ7_newLength_0 9 rfl rfl)
theorem dJ7_newLength_10 : decode cJ7_newLength 10 = .ok (.if_icmp .ge 11, 3) := dk_162 0 11 (dk_at dksJ7_newLength_0 10 rfl rfl)
theorem dJ7_newLength_13 : decode cJ7_newLength 13 = .ok (.iload_n 3, 1) := dk_29 (dk_at dksJ7_newLength_0 13 rfl rfl)
theorem dJ7_newLength_14 : decode cJ7_newLength 14 = .ok (.ldc 200, 2) := dk_18 200 (dk_at dksJ7_newLength_0 14 rfl rfl)
theorem dJ7_newLength_16 : decode cJ7_newLength 16 = .ok (.if_icmp .gt 5, 3) := dk_163 0 5 (dk_at dksJ7_newLength_0 16 rfl rfl)
theorem dJ7_newLength_19 : decode cJ7_newLength 19 = .ok (.iload_n 3, 1) := dk_29 (dk_at dksJ7_newLength_0 19 rfl rfl)
theorem dJ7_newLength_20 : decode cJ7_newLength 20 = .ok (.ireturn, 1) := dk_172 (dk_at dksJ7_newLength_0 20 rfl rfl)
theorem dJ7_newLength_21 : decode cJ7_newLength 21 = .ok (.iload_n 0, 1) := dk_26 (dk_at dksJ7_newLength_0 21 rfl rfl)
theorem dJ7_newLength_22 : decode cJ7_newLength 22 = .ok (.iload_n 1, 1) := dk_27 (dk_at dksJ7_newLength_0 22 rfl rfl)
theorem dJ7_newLength_23 : decode cJ7_newLength 23 = .ok (.invokestatic 201, 3) := dk_184 0 201 (dk_at dksJ7_newLength_1 0 rfl rfl)
theorem dJ7_newLength_26 : decode cJ7_newLength 26 = .ok (.ireturn, 1) := dk_172 (dk_at dksJ7_newLength_1 3 rfl rfl)
abbrev cJ7_hugeLength : ByteArray := prog_46_method_28_code
def yJ7_hugeLength : MethodName := ⟨RJ7, "hugeLength", "(II)I"⟩
def dkwJ7_hugeLength_2 : List UInt8 := [191, 28, 18, 200, 163, 0, 6, 18, 200, 172, 28, 172]
abbrev dktJ7_hugeLength_2 : List UInt8 := dkwJ7_hugeLength_2 ++ []
def dkwJ7_hugeLength_1 : List UInt8 := [26, 182, 0, 98, 18, 208, 182, 0, 94, 27, 182, 0, 98, 18, 210, 182, 0, 94, 182, 0, 101, 183, 0, 212]
abbrev dktJ7_hugeLength_1 : List UInt8 := dkwJ7_hugeLength_1 ++ dktJ7_hugeLength_2
def dkwJ7_hugeLength_0 : List UInt8 := [26, 27, 96, 61, 28, 156, 0, 44, 187, 0, 204, 89, 187, 0, 89, 89, 183, 0, 91, 18, 206, 182, 0, 94]
abbrev dktJ7_hugeLength_0 : List UInt8 := dkwJ7_hugeLength_0 ++ dktJ7_hugeLength_1
theorem dksJ7_hugeLength_0 : cJ7_hugeLength.data.toList.drop 0 = dktJ7_hugeLength_0 := by decide +kernel
theorem dksJ7_hugeLength_1 : cJ7_hugeLength.data.toList.drop 24 = dktJ7_hugeLength_1 := dk_seg dksJ7_hugeLength_0 24 rfl rfl
theorem dksJ7_hugeLength_2 : cJ7_hugeLength.data.toList.drop 48 = dktJ7_hugeLength_2 := dk_seg dksJ7_hugeLength_1 24 rfl rfl
theorem dJ7_hugeLength_0 : decode cJ7_hugeLength 0 = .ok (.iload_n 0, 1) := dk_26 (dk_at dksJ7_hugeLength_0 0 rfl rfl)
theorem dJ7_hugeLength_1 : decode cJ7_hugeLength 1 = .ok (.iload_n 1, 1) := dk_27 (dk_at dksJ7_hugeLength_0 1 rfl rfl)
theorem dJ7_hugeLength_2 : decode cJ7_hugeLength 2 = .ok (.iadd, 1) := dk_96 (dk_at dksJ7_hugeLength_0 2 rfl rfl)
theorem dJ7_hugeLength_3 : decode cJ7_hugeLength 3 = .ok (.istore_n 2, 1) := dk_61 (dk_at dksJ7_hugeLength_0 3 rfl rfl)
theorem dJ7_hugeLength_4 : decode cJ7_hugeLength 4 = .ok (.iload_n 2, 1) := dk_28 (dk_at dksJ7_hugeLength_0 4 rfl rfl)
theorem dJ7_hugeLength_5 : decode cJ7_hugeLength 5 = .ok (.ifCond .ge 44, 3) := dk_156 0 44 (dk_at dksJ7_hugeLength_0 5 rfl rfl)
theorem dJ7_hugeLength_8 : decode cJ7_hugeLength 8 = .ok (.new 204, 3) := dk_187 0 204 (dk_at dksJ7_hugeLength_0 8 rfl rfl)
theorem dJ7_hugeLength_11 : decode cJ7_hugeLength 11 = .ok (.dup, 1) := dk_89 (dk_at dksJ7_hugeLength_0 11 rfl rfl)
theorem dJ7_hugeLength_12 : decode cJ7_hugeLength 12 = .ok (.new 89, 3) := dk_187 0 89 (dk_at dksJ7_hugeLength_0 12 rfl rfl)
theorem dJ7_hugeLength_15 : decode cJ7_hugeLength 15 = .ok (.dup, 1) := dk_89 (dk_at dksJ7_hugeLength_0 15 rfl rfl)
theorem dJ7_hugeLength_16 : decode cJ7_hugeLength 16 = .ok (.invokespecial 91, 3) := dk_183 0 91 (dk_at dksJ7_hugeLength_0 16 rfl rfl)
theorem dJ7_hugeLength_19 : decode cJ7_hugeLength 19 = .ok (.ldc 206, 2) := dk_18 206 (dk_at dksJ7_hugeLength_0 19 rfl rfl)
theorem dJ7_hugeLength_21 : decode cJ7_hugeLength 21 = .ok (.invokevirtual 94, 3) := dk_182 0 94 (dk_at dksJ7_hugeLength_0 21 rfl rfl)
theorem dJ7_hugeLength_24 : decode cJ7_hugeLength 24 = .ok (.iload_n 0, 1) := dk_26 (dk_at dksJ7_hugeLength_1 0 rfl rfl)
theorem dJ7_hugeLength_25 : decode cJ7_hugeLength 25 = .ok (.invokevirtual 98, 3) := dk_182 0 98 (dk_at dksJ7_hugeLength_1 1 rfl rfl)
theorem dJ7_hugeLength_28 : decode cJ7_hugeLength 28 = .ok (.ldc 208, 2) := dk_18 208 (dk_at dksJ7_hugeLength_1 4 rfl rfl)
theorem dJ7_hugeLength_30 : decode cJ7_hugeLength 30 = .ok (.invokevirtual 94, 3) := dk_182 0 94 (dk_at dksJ7_hugeLength_1 6 rfl rfl)
theorem dJ7_hugeLength_33 : decode cJ7_hugeLength 33 = .ok (.iload_n 1, 1) := dk_27 (dk_at dksJ7_hugeLength_1 9 rfl rfl)
theorem dJ7_hugeLength_34 : decode cJ7_hugeLength 34 = .ok (.invokevirtual 98, 3) := dk_182 0 98 (dk_at dksJ7_hugeLength_1 10 rfl rfl)
theorem dJ7_hugeLength_37 : decode cJ7_hugeLength 37 = .ok (.ldc 210, 2) := dk_18 210 (dk_at dksJ7_hugeLength_1 13 rfl rfl)
theorem dJ7_hugeLength_39 : decode cJ7_hugeLength 39 = .ok (.invokevirtual 94, 3) := dk_182 0 94 (dk_at dksJ7_hugeLength_1 15 rfl rfl)
theorem dJ7_hugeLength_42 : decode cJ7_hugeLength 42 = .ok (.invokevirtual 101, 3) := dk_182 0 101 (dk_at dksJ7_hugeLength_1 18 rfl rfl)
theorem dJ7_hugeLength_45 : decode cJ7_hugeLength 45 = .ok (.invokespecial 212, 3) := dk_183 0 212 (dk_at dksJ7_hugeLength_1 21 rfl rfl)
theorem dJ7_hugeLength_48 : decode cJ7_hugeLength 48 = .ok (.athrow, 1) := dk_191 (dk_at dksJ7_hugeLength_2 0 rfl rfl)
theorem dJ7_hugeLength_49 : decode cJ7_hugeLength 49 = .ok (.iload_n 2, 1) := dk_28 (dk_at dksJ7_hugeLength_2 1 rfl rfl)
theorem dJ7_hugeLength_50 : decode cJ7_hugeLength 50 = .ok (.ldc 200, 2) := dk_18 200 (dk_at dksJ7_hugeLength_2 2 rfl rfl)
theorem dJ7_hugeLength_52 : decode cJ7_hugeLength 52 = .ok (.if_icmp .gt 6, 3) := dk_163 0 6 (dk_at dksJ7_hugeLength_2 4 rfl rfl)
theorem dJ7_hugeLength_55 : decode cJ7_hugeLength 55 = .ok (.ldc 200, 2) := dk_18 200 (dk_at dksJ7_hugeLength_2 7 rfl rfl)
theorem dJ7_hugeLength_57 : decode cJ7_hugeLength 57 = .ok (.ireturn, 1) := dk_172 (dk_at dksJ7_hugeLength_2 9 rfl rfl)
theorem dJ7_hugeLength_58 : decode cJ7_hugeLength 58 = .ok (.iload_n 2, 1) := dk_28 (dk_at dksJ7_hugeLength_2 10 rfl rfl)
theorem dJ7_hugeLength_59 : decode cJ7_hugeLength 59 = .ok (.ireturn, 1) := dk_172 (dk_at dksJ7_hugeLength_2 11 rfl rfl)
abbrev cJ7_vectorizedHashCode : ByteArray := prog_46_method_4_code
def yJ7_vectorizedHashCode : MethodName := ⟨RJ7, "vectorizedHashCode", "(Ljava/lang/Object;IIII)I"⟩
def dkwJ7_vectorizedHashCode_6 : List UInt8 := [183, 0, 91, 18, 92, 182, 0, 94, 21, 4, 182, 0, 98, 182, 0, 101, 183, 0, 105, 191, 172]
abbrev dktJ7_vectorizedHashCode_6 : List UInt8 := dkwJ7_vectorizedHashCode_6 ++ []
def dkwJ7_vectorizedHashCode_5 : List UInt8 := [167, 0, 44, 29, 42, 192, 0, 82, 27, 28, 184, 0, 84, 167, 0, 31, 187, 0, 87, 89, 187, 0, 89, 89]
abbrev dktJ7_vectorizedHashCode_5 : List UInt8 := dkwJ7_vectorizedHashCode_5 ++ dktJ7_vectorizedHashCode_6
def dkwJ7_vectorizedHashCode_4 : List UInt8 := [29, 42, 192, 0, 60, 27, 28, 184, 0, 75, 167, 0, 57, 29, 42, 192, 0, 77, 27, 28, 184, 0, 79]
abbrev dktJ7_vectorizedHashCode_4 : List UInt8 := dkwJ7_vectorizedHashCode_4 ++ dktJ7_vectorizedHashCode_5
def dkwJ7_vectorizedHashCode_3 : List UInt8 := [192, 0, 60, 27, 28, 184, 0, 66, 167, 0, 83, 29, 42, 192, 0, 69, 27, 28, 184, 0, 71, 167, 0, 70]
abbrev dktJ7_vectorizedHashCode_3 : List UInt8 := dkwJ7_vectorizedHashCode_3 ++ dktJ7_vectorizedHashCode_4
def dkwJ7_vectorizedHashCode_2 : List UInt8 := [29, 42, 192, 0, 60, 27, 28, 184, 0, 62, 167, 0, 103, 42, 193, 0, 60, 153, 0, 16, 29, 42]
abbrev dktJ7_vectorizedHashCode_2 : List UInt8 := dkwJ7_vectorizedHashCode_2 ++ dktJ7_vectorizedHashCode_3
def dkwJ7_vectorizedHashCode_1 : List UInt8 := [170, 0, 0, 0, 0, 127, 0, 0, 0, 4, 0, 0, 0, 10, 0, 0, 0, 42, 0, 0, 0, 55, 0, 0, 0, 127, 0, 0, 0, 127, 0, 0, 0, 88, 0, 0, 0, 101, 0, 0, 0, 114]
abbrev dktJ7_vectorizedHashCode_1 : List UInt8 := dkwJ7_vectorizedHashCode_1 ++ dktJ7_vectorizedHashCode_2
def dkwJ7_vectorizedHashCode_0 : List UInt8 := [21, 4]
abbrev dktJ7_vectorizedHashCode_0 : List UInt8 := dkwJ7_vectorizedHashCode_0 ++ dktJ7_vectorizedHashCode_1
theorem dksJ7_vectorizedHashCode_0 : cJ7_vectorizedHashCode.data.toList.drop 0 = dktJ7_vectorizedHashCode_0 := by decide +kernel
theorem dksJ7_vectorizedHashCode_1 : cJ7_vectorizedHashCode.data.toList.drop 2 = dktJ7_vectorizedHashCode_1 := dk_seg dksJ7_vectorizedHashCode_0 2 rfl rfl
theorem dksJ7_vectorizedHashCode_2 : cJ7_vectorizedHashCode.data.toList.drop 44 = dktJ7_vectorizedHashCode_2 := dk_seg dksJ7_vectorizedHashCode_1 42 rfl rfl
theorem dksJ7_vectorizedHashCode_3 : cJ7_vectorizedHashCode.data.toList.drop 66 = dktJ7_vectorizedHashCode_3 := dk_seg dksJ7_vectorizedHashCode_2 22 rfl rfl
theorem dksJ7_vectorizedHashCode_4 : cJ7_vectorizedHashCode.data.toList.drop 90 = dktJ7_vectorizedHashCode_4 := dk_seg dksJ7_vectorizedHashCode_3 24 rfl rfl
theorem dksJ7_vectorizedHashCode_5 : cJ7_vectorizedHashCode.data.toList.drop 113 = dktJ7_vectorizedHashCode_5 := dk_seg dksJ7_vectorizedHashCode_4 23 rfl rfl
theorem dksJ7_vectorizedHashCode_6 : cJ7_vectorizedHashCode.data.toList.drop 137 = dktJ7_vectorizedHashCode_6 := dk_seg dksJ7_vectorizedHashCode_5 24 rfl rfl
theorem dJ7_vectorizedHashCode_0 : decode cJ7_vectorizedHashCode 0 = .ok (.iload 4, 2) := dk_21 4 (dk_at dksJ7_vectorizedHashCode_0 0 rfl rfl)
theorem dJ7_vectorizedHashCode_2 : decode cJ7_vectorizedHashCode 2 = .ok (.tableswitch 127 4 10 #[42, 55, 127, 127, 88, 101, 114], 42) := by decide +kernel
theorem dJ7_vectorizedHashCode_44 : decode cJ7_vectorizedHashCode 44 = .ok (.iload_n 3, 1) := dk_29 (dk_at dksJ7_vectorizedHashCode_2 0 rfl rfl)
theorem dJ7_vectorizedHashCode_45 : decode cJ7_vectorizedHashCode 45 = .ok (.aload_n 0, 1) := dk_42 (dk_at dksJ7_vectorizedHashCode_2 1 rfl rfl)
theorem dJ7_vectorizedHashCode_46 : decode cJ7_vectorizedHashCode 46 = .ok (.checkcast 60, 3) := dk_192 0 60 (dk_at dksJ7_vectorizedHashCode_2 2 rfl rfl)
theorem dJ7_vectorizedHashCode_49 : decode cJ7_vectorizedHashCode 49 = .ok (.iload_n 1, 1) := dk_27 (dk_at dksJ7_vectorizedHashCode_2 5 rfl rfl)
theorem dJ7_vectorizedHashCode_50 : decode cJ7_vectorizedHashCode 50 = .ok (.iload_n 2, 1) := dk_28 (dk_at dksJ7_vectorizedHashCode_2 6 rfl rfl)
theorem dJ7_vectorizedHashCode_51 : decode cJ7_vectorizedHashCode 51 = .ok (.invokestatic 62, 3) := dk_184 0 62 (dk_at dksJ7_vectorizedHashCode_2 7 rfl rfl)
theorem dJ7_vectorizedHashCode_54 : decode cJ7_vectorizedHashCode 54 = .ok (.goto 103, 3) := dk_167 0 103 (dk_at dksJ7_vectorizedHashCode_2 10 rfl rfl)
theorem dJ7_vectorizedHashCode_57 : decode cJ7_vectorizedHashCode 57 = .ok (.aload_n 0, 1) := dk_42 (dk_at dksJ7_vectorizedHashCode_2 13 rfl rfl)
theorem dJ7_vectorizedHashCode_58 : decode cJ7_vectorizedHashCode 58 = .ok (.instanceof 60, 3) := dk_193 0 60 (dk_at dksJ7_vectorizedHashCode_2 14 rfl rfl)
theorem dJ7_vectorizedHashCode_61 : decode cJ7_vectorizedHashCode 61 = .ok (.ifCond .eq 16, 3) := dk_153 0 16 (dk_at dksJ7_vectorizedHashCode_2 17 rfl rfl)
theorem dJ7_vectorizedHashCode_64 : decode cJ7_vectorizedHashCode 64 = .ok (.iload_n 3, 1) := dk_29 (dk_at dksJ7_vectorizedHashCode_2 20 rfl rfl)
theorem dJ7_vectorizedHashCode_65 : decode cJ7_vectorizedHashCode 65 = .ok (.aload_n 0, 1) := dk_42 (dk_at dksJ7_vectorizedHashCode_2 21 rfl rfl)
theorem dJ7_vectorizedHashCode_66 : decode cJ7_vectorizedHashCode 66 = .ok (.checkcast 60, 3) := dk_192 0 60 (dk_at dksJ7_vectorizedHashCode_3 0 rfl rfl)
theorem dJ7_vectorizedHashCode_69 : decode cJ7_vectorizedHashCode 69 = .ok (.iload_n 1, 1) := dk_27 (dk_at dksJ7_vectorizedHashCode_3 3 rfl rfl)
theorem dJ7_vectorizedHashCode_70 : decode cJ7_vectorizedHashCode 70 = .ok (.iload_n 2, 1) := dk_28 (dk_at dksJ7_vectorizedHashCode_3 4 rfl rfl)
theorem dJ7_vectorizedHashCode_71 : decode cJ7_vectorizedHashCode 71 = .ok (.invokestatic 66, 3) := dk_184 0 66 (dk_at dksJ7_vectorizedHashCode_3 5 rfl rfl)
theorem dJ7_vectorizedHashCode_74 : decode cJ7_vectorizedHashCode 74 = .ok (.goto 83, 3) := dk_167 0 83 (dk_at dksJ7_vectorizedHashCode_3 8 rfl rfl)
theorem dJ7_vectorizedHashCode_77 : decode cJ7_vectorizedHashCode 77 = .ok (.iload_n 3, 1) := dk_29 (dk_at dksJ7_vectorizedHashCode_3 11 rfl rfl)
theorem dJ7_vectorizedHashCode_78 : decode cJ7_vectorizedHashCode 78 = .ok (.aload_n 0, 1) := dk_42 (dk_at dksJ7_vectorizedHashCode_3 12 rfl rfl)
theorem dJ7_vectorizedHashCode_79 : decode cJ7_vectorizedHashCode 79 = .ok (.checkcast 69, 3) := dk_192 0 69 (dk_at dksJ7_vectorizedHashCode_3 13 rfl rfl)
theorem dJ7_vectorizedHashCode_82 : decode cJ7_vectorizedHashCode 82 = .ok (.iload_n 1, 1) := dk_27 (dk_at dksJ7_vectorizedHashCode_3 16 rfl rfl)
theorem dJ7_vectorizedHashCode_83 : decode cJ7_vectorizedHashCode 83 = .ok (.iload_n 2, 1) := dk_28 (dk_at dksJ7_vectorizedHashCode_3 17 rfl rfl)
theorem dJ7_vectorizedHashCode_84 : decode cJ7_vectorizedHashCode 84 = .ok (.invokestatic 71, 3) := dk_184 0 71 (dk_at dksJ7_vectorizedHashCode_3 18 rfl rfl)
theorem dJ7_vectorizedHashCode_87 : decode cJ7_vectorizedHashCode 87 = .ok (.goto 70, 3) := dk_167 0 70 (dk_at dksJ7_vectorizedHashCode_3 21 rfl rfl)
theorem dJ7_vectorizedHashCode_90 : decode cJ7_vectorizedHashCode 90 = .ok (.iload_n 3, 1) := dk_29 (dk_at dksJ7_vectorizedHashCode_4 0 rfl rfl)
theorem dJ7_vectorizedHashCode_91 : decode cJ7_vectorizedHashCode 91 = .ok (.aload_n 0, 1) := dk_42 (dk_at dksJ7_vectorizedHashCode_4 1 rfl rfl)
theorem dJ7_vectorizedHashCode_92 : decode cJ7_vectorizedHashCode 92 = .ok (.checkcast 60, 3) := dk_192 0 60 (dk_at dksJ7_vectorizedHashCode_4 2 rfl rfl)
theorem dJ7_vectorizedHashCode_95 : decode cJ7_vectorizedHashCode 95 = .ok (.iload_n 1, 1) := dk_27 (dk_at dksJ7_vectorizedHashCode_4 5 rfl rfl)
theorem dJ7_vectorizedHashCode_96 : decode cJ7_vectorizedHashCode 96 = .ok (.iload_n 2, 1) := dk_28 (dk_at dksJ7_vectorizedHashCode_4 6 rfl rfl)
theorem dJ7_vectorizedHashCode_97 : decode cJ7_vectorizedHashCode 97 = .ok (.invokestatic 75, 3) := dk_184 0 75 (dk_at dksJ7_vectorizedHashCode_4 7 rfl rfl)
theorem dJ7_vectorizedHashCode_100 : decode cJ7_vectorizedHashCode 100 = .ok (.goto 57, 3) := dk_167 0 57 (dk_at dksJ7_vectorizedHashCode_4 10 rfl rfl)
theorem dJ7_vectorizedHashCode_103 : decode cJ7_vectorizedHashCode 103 = .ok (.iload_n 3, 1) := dk_29 (dk_at dksJ7_vectorizedHashCode_4 13 rfl rfl)
theorem dJ7_vectorizedHashCode_104 : decode cJ7_vectorizedHashCode 104 = .ok (.aload_n 0, 1) := dk_42 (dk_at dksJ7_vectorizedHashCode_4 14 rfl rfl)
theorem dJ7_vectorizedHashCode_105 : decode cJ7_vectorizedHashCode 105 = .ok (.checkcast 77, 3) := dk_192 0 77 (dk_at dksJ7_vectorizedHashCode_4 15 rfl rfl)
theorem dJ7_vectorizedHashCode_108 : decode cJ7_vectorizedHashCode 108 = .ok (.iload_n 1, 1) := dk_27 (dk_at dksJ7_vectorizedHashCode_4 18 rfl rfl)
theorem dJ7_vectorizedHashCode_109 : decode cJ7_vectorizedHashCode 109 = .ok (.iload_n 2, 1) := dk_28 (dk_at dksJ7_vectorizedHashCode_4 19 rfl rfl)
theorem dJ7_vectorizedHashCode_110 : decode cJ7_vectorizedHashCode 110 = .ok (.invokestatic 79, 3) := dk_184 0 79 (dk_at dksJ7_vectorizedHashCode_4 20 rfl rfl)
theorem dJ7_vectorizedHashCode_113 : decode cJ7_vectorizedHashCode 113 = .ok (.goto 44, 3) := dk_167 0 44 (dk_at dksJ7_vectorizedHashCode_5 0 rfl rfl)
theorem dJ7_vectorizedHashCode_116 : decode cJ7_vectorizedHashCode 116 = .ok (.iload_n 3, 1) := dk_29 (dk_at dksJ7_vectorizedHashCode_5 3 rfl rfl)
theorem dJ7_vectorizedHashCode_117 : decode cJ7_vectorizedHashCode 117 = .ok (.aload_n 0, 1) := dk_42 (dk_at dksJ7_vectorizedHashCode_5 4 rfl rfl)
theorem dJ7_vectorizedHashCode_118 : decode cJ7_vectorizedHashCode 118 = .ok (.checkcast 82, 3) := dk_192 0 82 (dk_at dksJ7_vectorizedHashCode_5 5 rfl rfl)
theorem dJ7_vectorizedHashCode_121 : decode cJ7_vectorizedHashCode 121 = .ok (.iload_n 1, 1) := dk_27 (dk_at dksJ7_vectorizedHashCode_5 8 rfl rfl)
theorem dJ7_vectorizedHashCode_122 : decode cJ7_vectorizedHashCode 122 = .ok (.iload_n 2, 1) := dk_28 (dk_at dksJ7_vectorizedHashCode_5 9 rfl rfl)
theorem dJ7_vectorizedHashCode_123 : decode cJ7_vectorizedHashCode 123 = .ok (.invokestatic 84, 3) := dk_184 0 84 (dk_at dksJ7_vectorizedHashCode_5 10 rfl rfl)
theorem dJ7_vectorizedHashCode_126 : decode cJ7_vectorizedHashCode 126 = .ok (.goto 31, 3) := dk_167 0 31 (dk_at dksJ7_vectorizedHashCode_5 13 rfl rfl)
theorem dJ7_vectorizedHashCode_129 : decode cJ7_vectorizedHashCode 129 = .ok (.new 87, 3) := dk_187 0 87 (dk_at dksJ7_vectorizedHashCode_5 16 rfl rfl)
theorem dJ7_vectorizedHashCode_132 : decode cJ7_vectorizedHashCode 132 = .ok (.dup, 1) := dk_89 (dk_at dksJ7_vectorizedHashCode_5 19 rfl rfl)
theorem dJ7_vectorizedHashCode_133 : decode cJ7_vectorizedHashCode 133 = .ok (.new 89, 3) := dk_187 0 89 (dk_at dksJ7_vectorizedHashCode_5 20 rfl rfl)
theorem dJ7_vectorizedHashCode_136 : decode cJ7_vectorizedHashCode 136 = .ok (.dup, 1) := dk_89 (dk_at dksJ7_vectorizedHashCode_5 23 rfl rfl)
theorem dJ7_vectorizedHashCode_137 : decode cJ7_vectorizedHashCode 137 = .ok (.invokespecial 91, 3) := dk_183 0 91 (dk_at dksJ7_vectorizedHashCode_6 0 rfl rfl)
theorem dJ7_vectorizedHashCode_140 : decode cJ7_vectorizedHashCode 140 = .ok (.ldc 92, 2) := dk_18 92 (dk_at dksJ7_vectorizedHashCode_6 3 rfl rfl)
theorem dJ7_vectorizedHashCode_142 : decode cJ7_vectorizedHashCode 142 = .ok (.invokevirtual 94, 3) := dk_182 0 94 (dk_at dksJ7_vectorizedHashCode_6 5 rfl rfl)
theorem dJ7_vectorizedHashCode_145 : decode cJ7_vectorizedHashCode 145 = .ok (.iload 4, 2) := dk_21 4 (dk_at dksJ7_vectorizedHashCode_6 8 rfl rfl)
theorem dJ7_vectorizedHashCode_147 : decode cJ7_vectorizedHashCode 147 = .ok (.invokevirtual 98, 3) := dk_182 0 98 (dk_at dksJ7_vectorizedHashCode_6 10 rfl rfl)
theorem dJ7_vectorizedHashCode_150 : decode cJ7_vectorizedHashCode 150 = .ok (.invokevirtual 101, 3) := dk_182 0 101 (dk_at dksJ7_vectorizedHashCode_6 13 rfl rfl)
theorem dJ7_vectorizedHashCode_153 : decode cJ7_vectorizedHashCode 153 = .ok (.invokespecial 105, 3) := dk_183 0 105 (dk_at dksJ7_vectorizedHashCode_6 16 rfl rfl)
theorem dJ7_vectorizedHashCode_156 : decode cJ7_vectorizedHashCode 156 = .ok (.athrow, 1) := dk_191 (dk_at dksJ7_vectorizedHashCode_6 19 rfl rfl)
theorem dJ7_vectorizedHashCode_157 : decode cJ7_vectorizedHashCode 157 = .ok (.ireturn, 1) := dk_172 (dk_at dksJ7_vectorizedHashCode_6 20 rfl rfl)
abbrev cJ7_signedHashCode : ByteArray := prog_46_method_5_code
def yJ7_signedHashCode : MethodName := ⟨RJ7, "signedHashCode", "(I[BII)I"⟩
def dkwJ7_signedHashCode_1 : List UInt8 := [17, 0, 255, 126, 96, 59, 132, 5, 1, 167, 255, 232, 26, 172]
abbrev dktJ7_signedHashCode_1 : List UInt8 := dkwJ7_signedHashCode_1 ++ []
def dkwJ7_signedHashCode_0 : List UInt8 := [28, 29, 96, 54, 4, 28, 54, 5, 21, 5, 21, 4, 162, 0, 23, 16, 31, 26, 104, 43, 21, 5, 51]
abbrev dktJ7_signedHashCode_0 : List UInt8 := dkwJ7_signedHashCode_0 ++ dktJ7_signedHashCode_1
theorem dksJ7_signedHashCode_0 : cJ7_signedHashCode.data.toList.drop 0 = dktJ7_signedHashCode_0 := by decide +kernel
theorem dksJ7_signedHashCode_1 : cJ7_signedHashCode.data.toList.drop 23 = dktJ7_signedHashCode_1 := dk_seg dksJ7_signedHashCode_0 23 rfl rfl
theorem dJ7_signedHashCode_0 : decode cJ7_signedHashCode 0 = .ok (.iload_n 2, 1) := dk_28 (dk_at dksJ7_signedHashCode_0 0 rfl rfl)
theorem dJ7_signedHashCode_1 : decode cJ7_signedHashCode 1 = .ok (.iload_n 3, 1) := dk_29 (dk_at dksJ7_signedHashCode_0 1 rfl rfl)
theorem dJ7_signedHashCode_2 : decode cJ7_signedHashCode 2 = .ok (.iadd, 1) := dk_96 (dk_at dksJ7_signedHashCode_0 2 rfl rfl)
theorem dJ7_signedHashCode_3 : decode cJ7_signedHashCode 3 = .ok (.istore 4, 2) := dk_54 4 (dk_at dksJ7_signedHashCode_0 3 rfl rfl)
theorem dJ7_signedHashCode_5 : decode cJ7_signedHashCode 5 = .ok (.iload_n 2, 1) := dk_28 (dk_at dksJ7_signedHashCode_0 5 rfl rfl)
theorem dJ7_signedHashCode_6 : decode cJ7_signedHashCode 6 = .ok (.istore 5, 2) := dk_54 5 (dk_at dksJ7_signedHashCode_0 6 rfl rfl)
theorem dJ7_signedHashCode_8 : decode cJ7_signedHashCode 8 = .ok (.iload 5, 2) := dk_21 5 (dk_at dksJ7_signedHashCode_0 8 rfl rfl)
theorem dJ7_signedHashCode_10 : decode cJ7_signedHashCode 10 = .ok (.iload 4, 2) := dk_21 4 (dk_at dksJ7_signedHashCode_0 10 rfl rfl)
theorem dJ7_signedHashCode_12 : decode cJ7_signedHashCode 12 = .ok (.if_icmp .ge 23, 3) := dk_162 0 23 (dk_at dksJ7_signedHashCode_0 12 rfl rfl)
theorem dJ7_signedHashCode_15 : decode cJ7_signedHashCode 15 = .ok (.bipush 31, 2) := dk_16 31 (dk_at dksJ7_signedHashCode_0 15 rfl rfl)
theorem dJ7_signedHashCode_17 : decode cJ7_signedHashCode 17 = .ok (.iload_n 0, 1) := dk_26 (dk_at dksJ7_signedHashCode_0 17 rfl rfl)
theorem dJ7_signedHashCode_18 : decode cJ7_signedHashCode 18 = .ok (.imul, 1) := dk_104 (dk_at dksJ7_signedHashCode_0 18 rfl rfl)
theorem dJ7_signedHashCode_19 : decode cJ7_signedHashCode 19 = .ok (.aload_n 1, 1) := dk_43 (dk_at dksJ7_signedHashCode_0 19 rfl rfl)
theorem dJ7_signedHashCode_20 : decode cJ7_signedHashCode 20 = .ok (.iload 5, 2) := dk_21 5 (dk_at dksJ7_signedHashCode_0 20 rfl rfl)
theorem dJ7_signedHashCode_22 : decode cJ7_signedHashCode 22 = .ok (.baload, 1) := dk_51 (dk_at dksJ7_signedHashCode_0 22 rfl rfl)
theorem dJ7_signedHashCode_23 : decode cJ7_signedHashCode 23 = .ok (.sipush 255, 3) := dk_17 0 255 (dk_at dksJ7_signedHashCode_1 0 rfl rfl)
theorem dJ7_signedHashCode_26 : decode cJ7_signedHashCode 26 = .ok (.iand, 1) := dk_126 (dk_at dksJ7_signedHashCode_1 3 rfl rfl)
theorem dJ7_signedHashCode_27 : decode cJ7_signedHashCode 27 = .ok (.iadd, 1) := dk_96 (dk_at dksJ7_signedHashCode_1 4 rfl rfl)
theorem dJ7_signedHashCode_28 : decode cJ7_signedHashCode 28 = .ok (.istore_n 0, 1) := dk_59 (dk_at dksJ7_signedHashCode_1 5 rfl rfl)
theorem dJ7_signedHashCode_29 : decode cJ7_signedHashCode 29 = .ok (.iinc 5 1, 3) := dk_132 5 1 (dk_at dksJ7_signedHashCode_1 6 rfl rfl)
theorem dJ7_signedHashCode_32 : decode cJ7_signedHashCode 32 = .ok (.goto (-24), 3) := dk_167 255 232 (dk_at dksJ7_signedHashCode_1 9 rfl rfl)
theorem dJ7_signedHashCode_35 : decode cJ7_signedHashCode 35 = .ok (.iload_n 0, 1) := dk_26 (dk_at dksJ7_signedHashCode_1 12 rfl rfl)
theorem dJ7_signedHashCode_36 : decode cJ7_signedHashCode 36 = .ok (.ireturn, 1) := dk_172 (dk_at dksJ7_signedHashCode_1 13 rfl rfl)
abbrev cJ7_utf16hashCode : ByteArray := prog_46_method_10_code
def yJ7_utf16hashCode : MethodName := ⟨RJ7, "utf16hashCode", "(I[BII)I"⟩
def dkwJ7_utf16hashCode_1 : List UInt8 := [21, 5, 185, 0, 110, 3, 0, 96, 59, 132, 5, 1, 167, 255, 229, 26, 172]
abbrev dktJ7_utf16hashCode_1 : List UInt8 := dkwJ7_utf16hashCode_1 ++ []
def dkwJ7_utf16hashCode_0 : List UInt8 := [28, 29, 96, 54, 4, 28, 54, 5, 21, 5, 21, 4, 162, 0, 26, 16, 31, 26, 104, 178, 0, 106, 43]
abbrev dktJ7_utf16hashCode_0 : List UInt8 := dkwJ7_utf16hashCode_0 ++ dktJ7_utf16hashCode_1
theorem dksJ7_utf16hashCode_0 : cJ7_utf16hashCode.data.toList.drop 0 = dktJ7_utf16hashCode_0 := by decide +kernel
theorem dksJ7_utf16hashCode_1 : cJ7_utf16hashCode.data.toList.drop 23 = dktJ7_utf16hashCode_1 := dk_seg dksJ7_utf16hashCode_0 23 rfl rfl
theorem dJ7_utf16hashCode_0 : decode cJ7_utf16hashCode 0 = .ok (.iload_n 2, 1) := dk_28 (dk_at dksJ7_utf16hashCode_0 0 rfl rfl)
theorem dJ7_utf16hashCode_1 : decode cJ7_utf16hashCode 1 = .ok (.iload_n 3, 1) := dk_29 (dk_at dksJ7_utf16hashCode_0 1 rfl rfl)
theorem dJ7_utf16hashCode_2 : decode cJ7_utf16hashCode 2 = .ok (.iadd, 1) := dk_96 (dk_at dksJ7_utf16hashCode_0 2 rfl rfl)
theorem dJ7_utf16hashCode_3 : decode cJ7_utf16hashCode 3 = .ok (.istore 4, 2) := dk_54 4 (dk_at dksJ7_utf16hashCode_0 3 rfl rfl)
theorem dJ7_utf16hashCode_5 : decode cJ7_utf16hashCode 5 = .ok (.iload_n 2, 1) := dk_28 (dk_at dksJ7_utf16hashCode_0 5 rfl rfl)
theorem dJ7_utf16hashCode_6 : decode cJ7_utf16hashCode 6 = .ok (.istore 5, 2) := dk_54 5 (dk_at dksJ7_utf16hashCode_0 6 rfl rfl)
theorem dJ7_utf16hashCode_8 : decode cJ7_utf16hashCode 8 = .ok (.iload 5, 2) := dk_21 5 (dk_at dksJ7_utf16hashCode_0 8 rfl rfl)
theorem dJ7_utf16hashCode_10 : decode cJ7_utf16hashCode 10 = .ok (.iload 4, 2) := dk_21 4 (dk_at dksJ7_utf16hashCode_0 10 rfl rfl)
theorem dJ7_utf16hashCode_12 : decode cJ7_utf16hashCode 12 = .ok (.if_icmp .ge 26, 3) := dk_162 0 26 (dk_at dksJ7_utf16hashCode_0 12 rfl rfl)
theorem dJ7_utf16hashCode_15 : decode cJ7_utf16hashCode 15 = .ok (.bipush 31, 2) := dk_16 31 (dk_at dksJ7_utf16hashCode_0 15 rfl rfl)
theorem dJ7_utf16hashCode_17 : decode cJ7_utf16hashCode 17 = .ok (.iload_n 0, 1) := dk_26 (dk_at dksJ7_utf16hashCode_0 17 rfl rfl)
theorem dJ7_utf16hashCode_18 : decode cJ7_utf16hashCode 18 = .ok (.imul, 1) := dk_104 (dk_at dksJ7_utf16hashCode_0 18 rfl rfl)
theorem dJ7_utf16hashCode_19 : decode cJ7_utf16hashCode 19 = .ok (.getstatic 106, 3) := dk_178 0 106 (dk_at dksJ7_utf16hashCode_0 19 rfl rfl)
theorem dJ7_utf16hashCode_22 : decode cJ7_utf16hashCode 22 = .ok (.aload_n 1, 1) := dk_43 (dk_at dksJ7_utf16hashCode_0 22 rfl rfl)
theorem dJ7_utf16hashCode_23 : decode cJ7_utf16hashCode 23 = .ok (.iload 5, 2) := dk_21 5 (dk_at dksJ7_utf16hashCode_1 0 rfl rfl)
theorem dJ7_utf16hashCode_25 : decode cJ7_utf16hashCode 25 = .ok (.invokeinterface 110 3, 5) := by decide +kernel
theorem dJ7_utf16hashCode_30 : decode cJ7_utf16hashCode 30 = .ok (.iadd, 1) := dk_96 (dk_at dksJ7_utf16hashCode_1 7 rfl rfl)
theorem dJ7_utf16hashCode_31 : decode cJ7_utf16hashCode 31 = .ok (.istore_n 0, 1) := dk_59 (dk_at dksJ7_utf16hashCode_1 8 rfl rfl)
theorem dJ7_utf16hashCode_32 : decode cJ7_utf16hashCode 32 = .ok (.iinc 5 1, 3) := dk_132 5 1 (dk_at dksJ7_utf16hashCode_1 9 rfl rfl)
theorem dJ7_utf16hashCode_35 : decode cJ7_utf16hashCode 35 = .ok (.goto (-27), 3) := dk_167 255 229 (dk_at dksJ7_utf16hashCode_1 12 rfl rfl)
theorem dJ7_utf16hashCode_38 : decode cJ7_utf16hashCode 38 = .ok (.iload_n 0, 1) := dk_26 (dk_at dksJ7_utf16hashCode_1 15 rfl rfl)
theorem dJ7_utf16hashCode_39 : decode cJ7_utf16hashCode 39 = .ok (.ireturn, 1) := dk_172 (dk_at dksJ7_utf16hashCode_1 16 rfl rfl)
abbrev cJ7_hashCode : ByteArray := prog_46_method_7_code
def yJ7_hashCode : MethodName := ⟨RJ7, "hashCode", "(I[CII)I"⟩
def dkwJ7_hashCode_1 : List UInt8 := [59, 132, 5, 1, 167, 255, 236, 26, 172]
abbrev dktJ7_hashCode_1 : List UInt8 := dkwJ7_hashCode_1 ++ []
def dkwJ7_hashCode_0 : List UInt8 := [28, 29, 96, 54, 4, 28, 54, 5, 21, 5, 21, 4, 162, 0, 19, 16, 31, 26, 104, 43, 21, 5, 52, 96]
abbrev dktJ7_hashCode_0 : List UInt8 := dkwJ7_hashCode_0 ++ dktJ7_hashCode_1
theorem dksJ7_hashCode_0 : cJ7_hashCode.data.toList.drop 0 = dktJ7_hashCode_0 := by decide +kernel
theorem dksJ7_hashCode_1 : cJ7_hashCode.data.toList.drop 24 = dktJ7_hashCode_1 := dk_seg dksJ7_hashCode_0 24 rfl rfl
theorem dJ7_hashCode_0 : decode cJ7_hashCode 0 = .ok (.iload_n 2, 1) := dk_28 (dk_at dksJ7_hashCode_0 0 rfl rfl)
theorem dJ7_hashCode_1 : decode cJ7_hashCode 1 = .ok (.iload_n 3, 1) := dk_29 (dk_at dksJ7_hashCode_0 1 rfl rfl)
theorem dJ7_hashCode_2 : decode cJ7_hashCode 2 = .ok (.iadd, 1) := dk_96 (dk_at dksJ7_hashCode_0 2 rfl rfl)
theorem dJ7_hashCode_3 : decode cJ7_hashCode 3 = .ok (.istore 4, 2) := dk_54 4 (dk_at dksJ7_hashCode_0 3 rfl rfl)
theorem dJ7_hashCode_5 : decode cJ7_hashCode 5 = .ok (.iload_n 2, 1) := dk_28 (dk_at dksJ7_hashCode_0 5 rfl rfl)
theorem dJ7_hashCode_6 : decode cJ7_hashCode 6 = .ok (.istore 5, 2) := dk_54 5 (dk_at dksJ7_hashCode_0 6 rfl rfl)
theorem dJ7_hashCode_8 : decode cJ7_hashCode 8 = .ok (.iload 5, 2) := dk_21 5 (dk_at dksJ7_hashCode_0 8 rfl rfl)
theorem dJ7_hashCode_10 : decode cJ7_hashCode 10 = .ok (.iload 4, 2) := dk_21 4 (dk_at dksJ7_hashCode_0 10 rfl rfl)
theorem dJ7_hashCode_12 : decode cJ7_hashCode 12 = .ok (.if_icmp .ge 19, 3) := dk_162 0 19 (dk_at dksJ7_hashCode_0 12 rfl rfl)
theorem dJ7_hashCode_15 : decode cJ7_hashCode 15 = .ok (.bipush 31, 2) := dk_16 31 (dk_at dksJ7_hashCode_0 15 rfl rfl)
theorem dJ7_hashCode_17 : decode cJ7_hashCode 17 = .ok (.iload_n 0, 1) := dk_26 (dk_at dksJ7_hashCode_0 17 rfl rfl)
theorem dJ7_hashCode_18 : decode cJ7_hashCode 18 = .ok (.imul, 1) := dk_104 (dk_at dksJ7_hashCode_0 18 rfl rfl)
theorem dJ7_hashCode_19 : decode cJ7_hashCode 19 = .ok (.aload_n 1, 1) := dk_43 (dk_at dksJ7_hashCode_0 19 rfl rfl)
theorem dJ7_hashCode_20 : decode cJ7_hashCode 20 = .ok (.iload 5, 2) := dk_21 5 (dk_at dksJ7_hashCode_0 20 rfl rfl)
theorem dJ7_hashCode_22 : decode cJ7_hashCode 22 = .ok (.caload, 1) := dk_52 (dk_at dksJ7_hashCode_0 22 rfl rfl)
theorem dJ7_hashCode_23 : decode cJ7_hashCode 23 = .ok (.iadd, 1) := dk_96 (dk_at dksJ7_hashCode_0 23 rfl rfl)
theorem dJ7_hashCode_24 : decode cJ7_hashCode 24 = .ok (.istore_n 0, 1) := dk_59 (dk_at dksJ7_hashCode_1 0 rfl rfl)
theorem dJ7_hashCode_25 : decode cJ7_hashCode 25 = .ok (.iinc 5 1, 3) := dk_132 5 1 (dk_at dksJ7_hashCode_1 1 rfl rfl)
theorem dJ7_hashCode_28 : decode cJ7_hashCode 28 = .ok (.goto (-20), 3) := dk_167 255 236 (dk_at dksJ7_hashCode_1 4 rfl rfl)
theorem dJ7_hashCode_31 : decode cJ7_hashCode 31 = .ok (.iload_n 0, 1) := dk_26 (dk_at dksJ7_hashCode_1 7 rfl rfl)
theorem dJ7_hashCode_32 : decode cJ7_hashCode 32 = .ok (.ireturn, 1) := dk_172 (dk_at dksJ7_hashCode_1 8 rfl rfl)
abbrev cJ7_hashCode_2 : ByteArray := prog_46_method_6_code
def yJ7_hashCode_2 : MethodName := ⟨RJ7, "hashCode", "(I[BII)I"⟩
def dkwJ7_hashCode_2_1 : List UInt8 := [59, 132, 5, 1, 167, 255, 236, 26, 172]
abbrev dktJ7_hashCode_2_1 : List UInt8 := dkwJ7_hashCode_2_1 ++ []
def dkwJ7_hashCode_2_0 : List UInt8 := [28, 29, 96, 54, 4, 28, 54, 5, 21, 5, 21, 4, 162, 0, 19, 16, 31, 26, 104, 43, 21, 5, 51, 96]
abbrev dktJ7_hashCode_2_0 : List UInt8 := dkwJ7_hashCode_2_0 ++ dktJ7_hashCode_2_1
theorem dksJ7_hashCode_2_0 : cJ7_hashCode_2.data.toList.drop 0 = dktJ7_hashCode_2_0 := by decide +kernel
theorem dksJ7_hashCode_2_1 : cJ7_hashCode_2.data.toList.drop 24 = dktJ7_hashCode_2_1 := dk_seg dksJ7_hashCode_2_0 24 rfl rfl
theorem dJ7_hashCode_2_0 : decode cJ7_hashCode_2 0 = .ok (.iload_n 2, 1) := dk_28 (dk_at dksJ7_hashCode_2_0 0 rfl rfl)
theorem dJ7_hashCode_2_1 : decode cJ7_hashCode_2 1 = .ok (.iload_n 3, 1) := dk_29 (dk_at dksJ7_hashCode_2_0 1 rfl rfl)
theorem dJ7_hashCode_2_2 : decode cJ7_hashCode_2 2 = .ok (.iadd, 1) := dk_96 (dk_at dksJ7_hashCode_2_0 2 rfl rfl)
theorem dJ7_hashCode_2_3 : decode cJ7_hashCode_2 3 = .ok (.istore 4, 2) := dk_54 4 (dk_at dksJ7_hashCode_2_0 3 rfl rfl)
theorem dJ7_hashCode_2_5 : decode cJ7_hashCode_2 5 = .ok (.iload_n 2, 1) := dk_28 (dk_at dksJ7_hashCode_2_0 5 rfl rfl)
theorem dJ7_hashCode_2_6 : decode cJ7_hashCode_2 6 = .ok (.istore 5, 2) := dk_54 5 (dk_at dksJ7_hashCode_2_0 6 rfl rfl)
theorem dJ7_hashCode_2_8 : decode cJ7_hashCode_2 8 = .ok (.iload 5, 2) := dk_21 5 (dk_at dksJ7_hashCode_2_0 8 rfl rfl)
theorem dJ7_hashCode_2_10 : decode cJ7_hashCode_2 10 = .ok (.iload 4, 2) := dk_21 4 (dk_at dksJ7_hashCode_2_0 10 rfl rfl)
theorem dJ7_hashCode_2_12 : decode cJ7_hashCode_2 12 = .ok (.if_icmp .ge 19, 3) := dk_162 0 19 (dk_at dksJ7_hashCode_2_0 12 rfl rfl)
theorem dJ7_hashCode_2_15 : decode cJ7_hashCode_2 15 = .ok (.bipush 31, 2) := dk_16 31 (dk_at dksJ7_hashCode_2_0 15 rfl rfl)
theorem dJ7_hashCode_2_17 : decode cJ7_hashCode_2 17 = .ok (.iload_n 0, 1) := dk_26 (dk_at dksJ7_hashCode_2_0 17 rfl rfl)
theorem dJ7_hashCode_2_18 : decode cJ7_hashCode_2 18 = .ok (.imul, 1) := dk_104 (dk_at dksJ7_hashCode_2_0 18 rfl rfl)
theorem dJ7_hashCode_2_19 : decode cJ7_hashCode_2 19 = .ok (.aload_n 1, 1) := dk_43 (dk_at dksJ7_hashCode_2_0 19 rfl rfl)
theorem dJ7_hashCode_2_20 : decode cJ7_hashCode_2 20 = .ok (.iload 5, 2) := dk_21 5 (dk_at dksJ7_hashCode_2_0 20 rfl rfl)
theorem dJ7_hashCode_2_22 : decode cJ7_hashCode_2 22 = .ok (.baload, 1) := dk_51 (dk_at dksJ7_hashCode_2_0 22 rfl rfl)
theorem dJ7_hashCode_2_23 : decode cJ7_hashCode_2 23 = .ok (.iadd, 1) := dk_96 (dk_at dksJ7_hashCode_2_0 23 rfl rfl)
theorem dJ7_hashCode_2_24 : decode cJ7_hashCode_2 24 = .ok (.istore_n 0, 1) := dk_59 (dk_at dksJ7_hashCode_2_1 0 rfl rfl)
theorem dJ7_hashCode_2_25 : decode cJ7_hashCode_2 25 = .ok (.iinc 5 1, 3) := dk_132 5 1 (dk_at dksJ7_hashCode_2_1 1 rfl rfl)
theorem dJ7_hashCode_2_28 : decode cJ7_hashCode_2 28 = .ok (.goto (-20), 3) := dk_167 255 236 (dk_at dksJ7_hashCode_2_1 4 rfl rfl)
theorem dJ7_hashCode_2_31 : decode cJ7_hashCode_2 31 = .ok (.iload_n 0, 1) := dk_26 (dk_at dksJ7_hashCode_2_1 7 rfl rfl)
theorem dJ7_hashCode_2_32 : decode cJ7_hashCode_2 32 = .ok (.ireturn, 1) := dk_172 (dk_at dksJ7_hashCode_2_1 8 rfl rfl)
abbrev cJ7_hashCode_3 : ByteArray := prog_46_method_8_code
def yJ7_hashCode_3 : MethodName := ⟨RJ7, "hashCode", "(I[SII)I"⟩
def dkwJ7_hashCode_3_1 : List UInt8 := [59, 132, 5, 1, 167, 255, 236, 26, 172]
abbrev dktJ7_hashCode_3_1 : List UInt8 := dkwJ7_hashCode_3_1 ++ []
def dkwJ7_hashCode_3_0 : List UInt8 := [28, 29, 96, 54, 4, 28, 54, 5, 21, 5, 21, 4, 162, 0, 19, 16, 31, 26, 104, 43, 21, 5, 53, 96]
abbrev dktJ7_hashCode_3_0 : List UInt8 := dkwJ7_hashCode_3_0 ++ dktJ7_hashCode_3_1
theorem dksJ7_hashCode_3_0 : cJ7_hashCode_3.data.toList.drop 0 = dktJ7_hashCode_3_0 := by decide +kernel
theorem dksJ7_hashCode_3_1 : cJ7_hashCode_3.data.toList.drop 24 = dktJ7_hashCode_3_1 := dk_seg dksJ7_hashCode_3_0 24 rfl rfl
theorem dJ7_hashCode_3_0 : decode cJ7_hashCode_3 0 = .ok (.iload_n 2, 1) := dk_28 (dk_at dksJ7_hashCode_3_0 0 rfl rfl)
theorem dJ7_hashCode_3_1 : decode cJ7_hashCode_3 1 = .ok (.iload_n 3, 1) := dk_29 (dk_at dksJ7_hashCode_3_0 1 rfl rfl)
theorem dJ7_hashCode_3_2 : decode cJ7_hashCode_3 2 = .ok (.iadd, 1) := dk_96 (dk_at dksJ7_hashCode_3_0 2 rfl rfl)
theorem dJ7_hashCode_3_3 : decode cJ7_hashCode_3 3 = .ok (.istore 4, 2) := dk_54 4 (dk_at dksJ7_hashCode_3_0 3 rfl rfl)
theorem dJ7_hashCode_3_5 : decode cJ7_hashCode_3 5 = .ok (.iload_n 2, 1) := dk_28 (dk_at dksJ7_hashCode_3_0 5 rfl rfl)
theorem dJ7_hashCode_3_6 : decode cJ7_hashCode_3 6 = .ok (.istore 5, 2) := dk_54 5 (dk_at dksJ7_hashCode_3_0 6 rfl rfl)
theorem dJ7_hashCode_3_8 : decode cJ7_hashCode_3 8 = .ok (.iload 5, 2) := dk_21 5 (dk_at dksJ7_hashCode_3_0 8 rfl rfl)
theorem dJ7_hashCode_3_10 : decode cJ7_hashCode_3 10 = .ok (.iload 4, 2) := dk_21 4 (dk_at dksJ7_hashCode_3_0 10 rfl rfl)
theorem dJ7_hashCode_3_12 : decode cJ7_hashCode_3 12 = .ok (.if_icmp .ge 19, 3) := dk_162 0 19 (dk_at dksJ7_hashCode_3_0 12 rfl rfl)
theorem dJ7_hashCode_3_15 : decode cJ7_hashCode_3 15 = .ok (.bipush 31, 2) := dk_16 31 (dk_at dksJ7_hashCode_3_0 15 rfl rfl)
theorem dJ7_hashCode_3_17 : decode cJ7_hashCode_3 17 = .ok (.iload_n 0, 1) := dk_26 (dk_at dksJ7_hashCode_3_0 17 rfl rfl)
theorem dJ7_hashCode_3_18 : decode cJ7_hashCode_3 18 = .ok (.imul, 1) := dk_104 (dk_at dksJ7_hashCode_3_0 18 rfl rfl)
theorem dJ7_hashCode_3_19 : decode cJ7_hashCode_3 19 = .ok (.aload_n 1, 1) := dk_43 (dk_at dksJ7_hashCode_3_0 19 rfl rfl)
theorem dJ7_hashCode_3_20 : decode cJ7_hashCode_3 20 = .ok (.iload 5, 2) := dk_21 5 (dk_at dksJ7_hashCode_3_0 20 rfl rfl)
theorem dJ7_hashCode_3_22 : decode cJ7_hashCode_3 22 = .ok (.saload, 1) := dk_53 (dk_at dksJ7_hashCode_3_0 22 rfl rfl)
theorem dJ7_hashCode_3_23 : decode cJ7_hashCode_3 23 = .ok (.iadd, 1) := dk_96 (dk_at dksJ7_hashCode_3_0 23 rfl rfl)
theorem dJ7_hashCode_3_24 : decode cJ7_hashCode_3 24 = .ok (.istore_n 0, 1) := dk_59 (dk_at dksJ7_hashCode_3_1 0 rfl rfl)
theorem dJ7_hashCode_3_25 : decode cJ7_hashCode_3 25 = .ok (.iinc 5 1, 3) := dk_132 5 1 (dk_at dksJ7_hashCode_3_1 1 rfl rfl)
theorem dJ7_hashCode_3_28 : decode cJ7_hashCode_3 28 = .ok (.goto (-20), 3) := dk_167 255 236 (dk_at dksJ7_hashCode_3_1 4 rfl rfl)
theorem dJ7_hashCode_3_31 : decode cJ7_hashCode_3 31 = .ok (.iload_n 0, 1) := dk_26 (dk_at dksJ7_hashCode_3_1 7 rfl rfl)
theorem dJ7_hashCode_3_32 : decode cJ7_hashCode_3 32 = .ok (.ireturn, 1) := dk_172 (dk_at dksJ7_hashCode_3_1 8 rfl rfl)
abbrev cJ7_hashCode_4 : ByteArray := prog_46_method_9_code
def yJ7_hashCode_4 : MethodName := ⟨RJ7, "hashCode", "(I[III)I"⟩
def dkwJ7_hashCode_4_1 : List UInt8 := [59, 132, 5, 1, 167, 255, 236, 26, 172]
abbrev dktJ7_hashCode_4_1 : List UInt8 := dkwJ7_hashCode_4_1 ++ []
def dkwJ7_hashCode_4_0 : List UInt8 := [28, 29, 96, 54, 4, 28, 54, 5, 21, 5, 21, 4, 162, 0, 19, 16, 31, 26, 104, 43, 21, 5, 46, 96]
abbrev dktJ7_hashCode_4_0 : List UInt8 := dkwJ7_hashCode_4_0 ++ dktJ7_hashCode_4_1
theorem dksJ7_hashCode_4_0 : cJ7_hashCode_4.data.toList.drop 0 = dktJ7_hashCode_4_0 := by decide +kernel
theorem dksJ7_hashCode_4_1 : cJ7_hashCode_4.data.toList.drop 24 = dktJ7_hashCode_4_1 := dk_seg dksJ7_hashCode_4_0 24 rfl rfl
theorem dJ7_hashCode_4_0 : decode cJ7_hashCode_4 0 = .ok (.iload_n 2, 1) := dk_28 (dk_at dksJ7_hashCode_4_0 0 rfl rfl)
theorem dJ7_hashCode_4_1 : decode cJ7_hashCode_4 1 = .ok (.iload_n 3, 1) := dk_29 (dk_at dksJ7_hashCode_4_0 1 rfl rfl)
theorem dJ7_hashCode_4_2 : decode cJ7_hashCode_4 2 = .ok (.iadd, 1) := dk_96 (dk_at dksJ7_hashCode_4_0 2 rfl rfl)
theorem dJ7_hashCode_4_3 : decode cJ7_hashCode_4 3 = .ok (.istore 4, 2) := dk_54 4 (dk_at dksJ7_hashCode_4_0 3 rfl rfl)
theorem dJ7_hashCode_4_5 : decode cJ7_hashCode_4 5 = .ok (.iload_n 2, 1) := dk_28 (dk_at dksJ7_hashCode_4_0 5 rfl rfl)
theorem dJ7_hashCode_4_6 : decode cJ7_hashCode_4 6 = .ok (.istore 5, 2) := dk_54 5 (dk_at dksJ7_hashCode_4_0 6 rfl rfl)
theorem dJ7_hashCode_4_8 : decode cJ7_hashCode_4 8 = .ok (.iload 5, 2) := dk_21 5 (dk_at dksJ7_hashCode_4_0 8 rfl rfl)
theorem dJ7_hashCode_4_10 : decode cJ7_hashCode_4 10 = .ok (.iload 4, 2) := dk_21 4 (dk_at dksJ7_hashCode_4_0 10 rfl rfl)
theorem dJ7_hashCode_4_12 : decode cJ7_hashCode_4 12 = .ok (.if_icmp .ge 19, 3) := dk_162 0 19 (dk_at dksJ7_hashCode_4_0 12 rfl rfl)
theorem dJ7_hashCode_4_15 : decode cJ7_hashCode_4 15 = .ok (.bipush 31, 2) := dk_16 31 (dk_at dksJ7_hashCode_4_0 15 rfl rfl)
theorem dJ7_hashCode_4_17 : decode cJ7_hashCode_4 17 = .ok (.iload_n 0, 1) := dk_26 (dk_at dksJ7_hashCode_4_0 17 rfl rfl)
theorem dJ7_hashCode_4_18 : decode cJ7_hashCode_4 18 = .ok (.imul, 1) := dk_104 (dk_at dksJ7_hashCode_4_0 18 rfl rfl)
theorem dJ7_hashCode_4_19 : decode cJ7_hashCode_4 19 = .ok (.aload_n 1, 1) := dk_43 (dk_at dksJ7_hashCode_4_0 19 rfl rfl)
theorem dJ7_hashCode_4_20 : decode cJ7_hashCode_4 20 = .ok (.iload 5, 2) := dk_21 5 (dk_at dksJ7_hashCode_4_0 20 rfl rfl)
theorem dJ7_hashCode_4_22 : decode cJ7_hashCode_4 22 = .ok (.iaload, 1) := dk_46 (dk_at dksJ7_hashCode_4_0 22 rfl rfl)
theorem dJ7_hashCode_4_23 : decode cJ7_hashCode_4 23 = .ok (.iadd, 1) := dk_96 (dk_at dksJ7_hashCode_4_0 23 rfl rfl)
theorem dJ7_hashCode_4_24 : decode cJ7_hashCode_4 24 = .ok (.istore_n 0, 1) := dk_59 (dk_at dksJ7_hashCode_4_1 0 rfl rfl)
theorem dJ7_hashCode_4_25 : decode cJ7_hashCode_4 25 = .ok (.iinc 5 1, 3) := dk_132 5 1 (dk_at dksJ7_hashCode_4_1 1 rfl rfl)
theorem dJ7_hashCode_4_28 : decode cJ7_hashCode_4 28 = .ok (.goto (-20), 3) := dk_167 255 236 (dk_at dksJ7_hashCode_4_1 4 rfl rfl)
theorem dJ7_hashCode_4_31 : decode cJ7_hashCode_4 31 = .ok (.iload_n 0, 1) := dk_26 (dk_at dksJ7_hashCode_4_1 7 rfl rfl)
theorem dJ7_hashCode_4_32 : decode cJ7_hashCode_4 32 = .ok (.ireturn, 1) := dk_172 (dk_at dksJ7_hashCode_4_1 8 rfl rfl)
abbrev cJ8_max : ByteArray := prog_24_method_65_code
def yJ8_max : MethodName := ⟨RJ8, "max", "(II)I"⟩
def dkwJ8_max_0 : List UInt8 := [26, 27, 161, 0, 7, 26, 167, 0, 4, 27, 172]
abbrev dktJ8_max_0 : List UInt8 := dkwJ8_max_0 ++ []
theorem dksJ8_max_0 : cJ8_max.data.toList.drop 0 = dktJ8_max_0 := by decide +kernel
theorem dJ8_max_0 : decode cJ8_max 0 = .ok (.iload_n 0, 1) := dk_26 (dk_at dksJ8_max_0 0 rfl rfl)
theorem dJ8_max_1 : decode cJ8_max 1 = .ok (.iload_n 1, 1) := dk_27 (dk_at dksJ8_max_0 1 rfl rfl)
theorem dJ8_max_2 : decode cJ8_max 2 = .ok (.if_icmp .lt 7, 3) := dk_161 0 7 (dk_at dksJ8_max_0 2 rfl rfl)
theorem dJ8_max_5 : decode cJ8_max 5 = .ok (.iload_n 0, 1) := dk_26 (dk_at dksJ8_max_0 5 rfl rfl)
theorem dJ8_max_6 : decode cJ8_max 6 = .ok (.goto 4, 3) := dk_167 0 4 (dk_at dksJ8_max_0 6 rfl rfl)
theorem dJ8_max_9 : decode cJ8_max 9 = .ok (.iload_n 1, 1) := dk_27 (dk_at dksJ8_max_0 9 rfl rfl)
theorem dJ8_max_10 : decode cJ8_max 10 = .ok (.ireturn, 1) := dk_172 (dk_at dksJ8_max_0 10 rfl rfl)
abbrev cJ8_min : ByteArray := prog_24_method_69_code
def yJ8_min : MethodName := ⟨RJ8, "min", "(II)I"⟩
def dkwJ8_min_0 : List UInt8 := [26, 27, 163, 0, 7, 26, 167, 0, 4, 27, 172]
abbrev dktJ8_min_0 : List UInt8 := dkwJ8_min_0 ++ []
theorem dksJ8_min_0 : cJ8_min.data.toList.drop 0 = dktJ8_min_0 := by decide +kernel
theorem dJ8_min_0 : decode cJ8_min 0 = .ok (.iload_n 0, 1) := dk_26 (dk_at dksJ8_min_0 0 rfl rfl)
theorem dJ8_min_1 : decode cJ8_min 1 = .ok (.iload_n 1, 1) := dk_27 (dk_at dksJ8_min_0 1 rfl rfl)
theorem dJ8_min_2 : decode cJ8_min 2 = .ok (.if_icmp .gt 7, 3) := dk_163 0 7 (dk_at dksJ8_min_0 2 rfl rfl)
theorem dJ8_min_5 : decode cJ8_min 5 = .ok (.iload_n 0, 1) := dk_26 (dk_at dksJ8_min_0 5 rfl rfl)
theorem dJ8_min_6 : decode cJ8_min 6 = .ok (.goto 4, 3) := dk_167 0 4 (dk_at dksJ8_min_0 6 rfl rfl)
theorem dJ8_min_9 : decode cJ8_min 9 = .ok (.iload_n 1, 1) := dk_27 (dk_at dksJ8_min_0 9 rfl rfl)
theorem dJ8_min_10 : decode cJ8_min 10 = .ok (.ireturn, 1) := dk_172 (dk_at dksJ8_min_0 10 rfl rfl)
abbrev cJ8_abs : ByteArray := prog_24_method_59_code
def yJ8_abs : MethodName := ⟨RJ8, "abs", "(I)I"⟩
def dkwJ8_abs_0 : List UInt8 := [26, 156, 0, 8, 26, 116, 167, 0, 4, 26, 172]
abbrev dktJ8_abs_0 : List UInt8 := dkwJ8_abs_0 ++ []
theorem dksJ8_abs_0 : cJ8_abs.data.toList.drop 0 = dktJ8_abs_0 := by decide +kernel
theorem dJ8_abs_0 : decode cJ8_abs 0 = .ok (.iload_n 0, 1) := dk_26 (dk_at dksJ8_abs_0 0 rfl rfl)
theorem dJ8_abs_1 : decode cJ8_abs 1 = .ok (.ifCond .ge 8, 3) := dk_156 0 8 (dk_at dksJ8_abs_0 1 rfl rfl)
theorem dJ8_abs_4 : decode cJ8_abs 4 = .ok (.iload_n 0, 1) := dk_26 (dk_at dksJ8_abs_0 4 rfl rfl)
theorem dJ8_abs_5 : decode cJ8_abs 5 = .ok (.ineg, 1) := dk_116 (dk_at dksJ8_abs_0 5 rfl rfl)
theorem dJ8_abs_6 : decode cJ8_abs 6 = .ok (.goto 4, 3) := dk_167 0 4 (dk_at dksJ8_abs_0 6 rfl rfl)
theorem dJ8_abs_9 : decode cJ8_abs 9 = .ok (.iload_n 0, 1) := dk_26 (dk_at dksJ8_abs_0 9 rfl rfl)
theorem dJ8_abs_10 : decode cJ8_abs 10 = .ok (.ireturn, 1) := dk_172 (dk_at dksJ8_abs_0 10 rfl rfl)
abbrev cJ9_copyOf : ByteArray := prog_38_method_121_code
def yJ9_copyOf : MethodName := ⟨RJ9, "copyOf", "([BI)[B"⟩
def dkwJ9_copyOf_1 : List UInt8 := [27, 184, 1, 48, 184, 0, 150, 44, 176]
abbrev dktJ9_copyOf_1 : List UInt8 := dkwJ9_copyOf_1 ++ []
def dkwJ9_copyOf_0 : List UInt8 := [27, 42, 190, 160, 0, 11, 42, 182, 1, 54, 192, 1, 55, 176, 27, 188, 8, 77, 42, 3, 44, 3, 42, 190]
abbrev dktJ9_copyOf_0 : List UInt8 := dkwJ9_copyOf_0 ++ dktJ9_copyOf_1
theorem dksJ9_copyOf_0 : cJ9_copyOf.data.toList.drop 0 = dktJ9_copyOf_0 := by decide +kernel
theorem dksJ9_copyOf_1 : cJ9_copyOf.data.toList.drop 24 = dktJ9_copyOf_1 := dk_seg dksJ9_copyOf_0 24 rfl rfl
theorem dJ9_copyOf_0 : decode cJ9_copyOf 0 = .ok (.iload_n 1, 1) := dk_27 (dk_at dksJ9_copyOf_0 0 rfl rfl)
theorem dJ9_copyOf_1 : decode cJ9_copyOf 1 = .ok (.aload_n 0, 1) := dk_42 (dk_at dksJ9_copyOf_0 1 rfl rfl)
theorem dJ9_copyOf_2 : decode cJ9_copyOf 2 = .ok (.arraylength, 1) := dk_190 (dk_at dksJ9_copyOf_0 2 rfl rfl)
theorem dJ9_copyOf_3 : decode cJ9_copyOf 3 = .ok (.if_icmp .ne 11, 3) := dk_160 0 11 (dk_at dksJ9_copyOf_0 3 rfl rfl)
theorem dJ9_copyOf_6 : decode cJ9_copyOf 6 = .ok (.aload_n 0, 1) := dk_42 (dk_at dksJ9_copyOf_0 6 rfl rfl)
theorem dJ9_copyOf_7 : decode cJ9_copyOf 7 = .ok (.invokevirtual 310, 3) := dk_182 1 54 (dk_at dksJ9_copyOf_0 7 rfl rfl)
theorem dJ9_copyOf_10 : decode cJ9_copyOf 10 = .ok (.checkcast 311, 3) := dk_192 1 55 (dk_at dksJ9_copyOf_0 10 rfl rfl)
theorem dJ9_copyOf_13 : decode cJ9_copyOf 13 = .ok (.areturn, 1) := dk_176 (dk_at dksJ9_copyOf_0 13 rfl rfl)
theorem dJ9_copyOf_14 : decode cJ9_copyOf 14 = .ok (.iload_n 1, 1) := dk_27 (dk_at dksJ9_copyOf_0 14 rfl rfl)
theorem dJ9_copyOf_15 : decode cJ9_copyOf 15 = .ok (.newarray .byte, 2) := dk_188_8 (dk_at dksJ9_copyOf_0 15 rfl rfl)
theorem dJ9_copyOf_17 : decode cJ9_copyOf 17 = .ok (.astore_n 2, 1) := dk_77 (dk_at dksJ9_copyOf_0 17 rfl rfl)
theorem dJ9_copyOf_18 : decode cJ9_copyOf 18 = .ok (.aload_n 0, 1) := dk_42 (dk_at dksJ9_copyOf_0 18 rfl rfl)
theorem dJ9_copyOf_19 : decode cJ9_copyOf 19 = .ok (.iconst 0, 1) := dk_3 (dk_at dksJ9_copyOf_0 19 rfl rfl)
theorem dJ9_copyOf_20 : decode cJ9_copyOf 20 = .ok (.aload_n 2, 1) := dk_44 (dk_at dksJ9_copyOf_0 20 rfl rfl)
theorem dJ9_copyOf_21 : decode cJ9_copyOf 21 = .ok (.iconst 0, 1) := dk_3 (dk_at dksJ9_copyOf_0 21 rfl rfl)
theorem dJ9_copyOf_22 : decode cJ9_copyOf 22 = .ok (.aload_n 0, 1) := dk_42 (dk_at dksJ9_copyOf_0 22 rfl rfl)
theorem dJ9_copyOf_23 : decode cJ9_copyOf 23 = .ok (.arraylength, 1) := dk_190 (dk_at dksJ9_copyOf_0 23 rfl rfl)
theorem dJ9_copyOf_24 : decode cJ9_copyOf 24 = .ok (.iload_n 1, 1) := dk_27 (dk_at dksJ9_copyOf_1 0 rfl rfl)
theorem dJ9_copyOf_25 : decode cJ9_copyOf 25 = .ok (.invokestatic 304, 3) := dk_184 1 48 (dk_at dksJ9_copyOf_1 1 rfl rfl)
theorem dJ9_copyOf_28 : decode cJ9_copyOf 28 = .ok (.invokestatic 150, 3) := dk_184 0 150 (dk_at dksJ9_copyOf_1 4 rfl rfl)
theorem dJ9_copyOf_31 : decode cJ9_copyOf 31 = .ok (.aload_n 2, 1) := dk_44 (dk_at dksJ9_copyOf_1 7 rfl rfl)
theorem dJ9_copyOf_32 : decode cJ9_copyOf 32 = .ok (.areturn, 1) := dk_176 (dk_at dksJ9_copyOf_1 8 rfl rfl)
abbrev cJ9_copyOfRange : ByteArray := prog_38_method_132_code
def yJ9_copyOfRange : MethodName := ⟨RJ9, "copyOfRange", "([BII)[B"⟩
def dkwJ9_copyOfRange_1 : List UInt8 := [176]
abbrev dktJ9_copyOfRange_1 : List UInt8 := dkwJ9_copyOfRange_1 ++ []
def dkwJ9_copyOfRange_0 : List UInt8 := [27, 154, 0, 9, 28, 42, 190, 159, 0, 10, 42, 27, 28, 184, 1, 83, 176, 42, 182, 1, 54, 192, 1, 55]
abbrev dktJ9_copyOfRange_0 : List UInt8 := dkwJ9_copyOfRange_0 ++ dktJ9_copyOfRange_1
theorem dksJ9_copyOfRange_0 : cJ9_copyOfRange.data.toList.drop 0 = dktJ9_copyOfRange_0 := by decide +kernel
theorem dksJ9_copyOfRange_1 : cJ9_copyOfRange.data.toList.drop 24 = dktJ9_copyOfRange_1 := dk_seg dksJ9_copyOfRange_0 24 rfl rfl
theorem dJ9_copyOfRange_0 : decode cJ9_copyOfRange 0 = .ok (.iload_n 1, 1) := dk_27 (dk_at dksJ9_copyOfRange_0 0 rfl rfl)
theorem dJ9_copyOfRange_1 : decode cJ9_copyOfRange 1 = .ok (.ifCond .ne 9, 3) := dk_154 0 9 (dk_at dksJ9_copyOfRange_0 1 rfl rfl)
theorem dJ9_copyOfRange_4 : decode cJ9_copyOfRange 4 = .ok (.iload_n 2, 1) := dk_28 (dk_at dksJ9_copyOfRange_0 4 rfl rfl)
theorem dJ9_copyOfRange_5 : decode cJ9_copyOfRange 5 = .ok (.aload_n 0, 1) := dk_42 (dk_at dksJ9_copyOfRange_0 5 rfl rfl)
theorem dJ9_copyOfRange_6 : decode cJ9_copyOfRange 6 = .ok (.arraylength, 1) := dk_190 (dk_at dksJ9_copyOfRange_0 6 rfl rfl)
theorem dJ9_copyOfRange_7 : decode cJ9_copyOfRange 7 = .ok (.if_icmp .eq 10, 3) := dk_159 0 10 (dk_at dksJ9_copyOfRange_0 7 rfl rfl)
theorem dJ9_copyOfRange_10 : decode cJ9_copyOfRange 10 = .ok (.aload_n 0, 1) := dk_42 (dk_at dksJ9_copyOfRange_0 10 rfl rfl)
theorem dJ9_copyOfRange_11 : decode cJ9_copyOfRange 11 = .ok (.iload_n 1, 1) := dk_27 (dk_at dksJ9_copyOfRange_0 11 rfl rfl)
theorem dJ9_copyOfRange_12 : decode cJ9_copyOfRange 12 = .ok (.iload_n 2, 1) := dk_28 (dk_at dksJ9_copyOfRange_0 12 rfl rfl)
theorem dJ9_copyOfRange_13 : decode cJ9_copyOfRange 13 = .ok (.invokestatic 339, 3) := dk_184 1 83 (dk_at dksJ9_copyOfRange_0 13 rfl rfl)
theorem dJ9_copyOfRange_16 : decode cJ9_copyOfRange 16 = .ok (.areturn, 1) := dk_176 (dk_at dksJ9_copyOfRange_0 16 rfl rfl)
theorem dJ9_copyOfRange_17 : decode cJ9_copyOfRange 17 = .ok (.aload_n 0, 1) := dk_42 (dk_at dksJ9_copyOfRange_0 17 rfl rfl)
theorem dJ9_copyOfRange_18 : decode cJ9_copyOfRange 18 = .ok (.invokevirtual 310, 3) := dk_182 1 54 (dk_at dksJ9_copyOfRange_0 18 rfl rfl)
theorem dJ9_copyOfRange_21 : decode cJ9_copyOfRange 21 = .ok (.checkcast 311, 3) := dk_192 1 55 (dk_at dksJ9_copyOfRange_0 21 rfl rfl)
theorem dJ9_copyOfRange_24 : decode cJ9_copyOfRange 24 = .ok (.areturn, 1) := dk_176 (dk_at dksJ9_copyOfRange_1 0 rfl rfl)
abbrev cJ9_copyOfRangeByte : ByteArray := prog_38_method_133_code
def yJ9_copyOfRangeByte : MethodName := ⟨RJ9, "copyOfRangeByte", "([BII)[B"⟩
def dkwJ9_copyOfRangeByte_1 : List UInt8 := [184, 1, 48, 184, 0, 150, 25, 4, 176]
abbrev dktJ9_copyOfRangeByte_1 : List UInt8 := dkwJ9_copyOfRangeByte_1 ++ []
def dkwJ9_copyOfRangeByte_0 : List UInt8 := [27, 28, 184, 1, 87, 28, 27, 100, 62, 29, 188, 8, 58, 4, 42, 27, 25, 4, 3, 42, 190, 27, 100, 29]
abbrev dktJ9_copyOfRangeByte_0 : List UInt8 := dkwJ9_copyOfRangeByte_0 ++ dktJ9_copyOfRangeByte_1
theorem dksJ9_copyOfRangeByte_0 : cJ9_copyOfRangeByte.data.toList.drop 0 = dktJ9_copyOfRangeByte_0 := by decide +kernel
theorem dksJ9_copyOfRangeByte_1 : cJ9_copyOfRangeByte.data.toList.drop 24 = dktJ9_copyOfRangeByte_1 := dk_seg dksJ9_copyOfRangeByte_0 24 rfl rfl
theorem dJ9_copyOfRangeByte_0 : decode cJ9_copyOfRangeByte 0 = .ok (.iload_n 1, 1) := dk_27 (dk_at dksJ9_copyOfRangeByte_0 0 rfl rfl)
theorem dJ9_copyOfRangeByte_1 : decode cJ9_copyOfRangeByte 1 = .ok (.iload_n 2, 1) := dk_28 (dk_at dksJ9_copyOfRangeByte_0 1 rfl rfl)
theorem dJ9_copyOfRangeByte_2 : decode cJ9_copyOfRangeByte 2 = .ok (.invokestatic 343, 3) := dk_184 1 87 (dk_at dksJ9_copyOfRangeByte_0 2 rfl rfl)
theorem dJ9_copyOfRangeByte_5 : decode cJ9_copyOfRangeByte 5 = .ok (.iload_n 2, 1) := dk_28 (dk_at dksJ9_copyOfRangeByte_0 5 rfl rfl)
theorem dJ9_copyOfRangeByte_6 : decode cJ9_copyOfRangeByte 6 = .ok (.iload_n 1, 1) := dk_27 (dk_at dksJ9_copyOfRangeByte_0 6 rfl rfl)
theorem dJ9_copyOfRangeByte_7 : decode cJ9_copyOfRangeByte 7 = .ok (.isub, 1) := dk_100 (dk_at dksJ9_copyOfRangeByte_0 7 rfl rfl)
theorem dJ9_copyOfRangeByte_8 : decode cJ9_copyOfRangeByte 8 = .ok (.istore_n 3, 1) := dk_62 (dk_at dksJ9_copyOfRangeByte_0 8 rfl rfl)
theorem dJ9_copyOfRangeByte_9 : decode cJ9_copyOfRangeByte 9 = .ok (.iload_n 3, 1) := dk_29 (dk_at dksJ9_copyOfRangeByte_0 9 rfl rfl)
theorem dJ9_copyOfRangeByte_10 : decode cJ9_copyOfRangeByte 10 = .ok (.newarray .byte, 2) := dk_188_8 (dk_at dksJ9_copyOfRangeByte_0 10 rfl rfl)
theorem dJ9_copyOfRangeByte_12 : decode cJ9_copyOfRangeByte 12 = .ok (.astore 4, 2) := dk_58 4 (dk_at dksJ9_copyOfRangeByte_0 12 rfl rfl)
theorem dJ9_copyOfRangeByte_14 : decode cJ9_copyOfRangeByte 14 = .ok (.aload_n 0, 1) := dk_42 (dk_at dksJ9_copyOfRangeByte_0 14 rfl rfl)
theorem dJ9_copyOfRangeByte_15 : decode cJ9_copyOfRangeByte 15 = .ok (.iload_n 1, 1) := dk_27 (dk_at dksJ9_copyOfRangeByte_0 15 rfl rfl)
theorem dJ9_copyOfRangeByte_16 : decode cJ9_copyOfRangeByte 16 = .ok (.aload 4, 2) := dk_25 4 (dk_at dksJ9_copyOfRangeByte_0 16 rfl rfl)
theorem dJ9_copyOfRangeByte_18 : decode cJ9_copyOfRangeByte 18 = .ok (.iconst 0, 1) := dk_3 (dk_at dksJ9_copyOfRangeByte_0 18 rfl rfl)
theorem dJ9_copyOfRangeByte_19 : decode cJ9_copyOfRangeByte 19 = .ok (.aload_n 0, 1) := dk_42 (dk_at dksJ9_copyOfRangeByte_0 19 rfl rfl)
theorem dJ9_copyOfRangeByte_20 : decode cJ9_copyOfRangeByte 20 = .ok (.arraylength, 1) := dk_190 (dk_at dksJ9_copyOfRangeByte_0 20 rfl rfl)
theorem dJ9_copyOfRangeByte_21 : decode cJ9_copyOfRangeByte 21 = .ok (.iload_n 1, 1) := dk_27 (dk_at dksJ9_copyOfRangeByte_0 21 rfl rfl)
theorem dJ9_copyOfRangeByte_22 : decode cJ9_copyOfRangeByte 22 = .ok (.isub, 1) := dk_100 (dk_at dksJ9_copyOfRangeByte_0 22 rfl rfl)
theorem dJ9_copyOfRangeByte_23 : decode cJ9_copyOfRangeByte 23 = .ok (.iload_n 3, 1) := dk_29 (dk_at dksJ9_copyOfRangeByte_0 23 rfl rfl)
theorem dJ9_copyOfRangeByte_24 : decode cJ9_copyOfRangeByte 24 = .ok (.invokestatic 304, 3) := dk_184 1 48 (dk_at dksJ9_copyOfRangeByte_1 0 rfl rfl)
theorem dJ9_copyOfRangeByte_27 : decode cJ9_copyOfRangeByte 27 = .ok (.invokestatic 150, 3) := dk_184 0 150 (dk_at dksJ9_copyOfRangeByte_1 3 rfl rfl)
theorem dJ9_copyOfRangeByte_30 : decode cJ9_copyOfRangeByte 30 = .ok (.aload 4, 2) := dk_25 4 (dk_at dksJ9_copyOfRangeByte_1 6 rfl rfl)
theorem dJ9_copyOfRangeByte_32 : decode cJ9_copyOfRangeByte 32 = .ok (.areturn, 1) := dk_176 (dk_at dksJ9_copyOfRangeByte_1 8 rfl rfl)
abbrev cJ9_checkLength : ByteArray := prog_38_method_131_code
def yJ9_checkLength : MethodName := ⟨RJ9, "checkLength", "(II)V"⟩
def dkwJ9_checkLength_1 : List UInt8 := [182, 0, 50, 27, 182, 0, 54, 182, 0, 61, 183, 0, 65, 191, 177]
abbrev dktJ9_checkLength_1 : List UInt8 := dkwJ9_checkLength_1 ++ []
def dkwJ9_checkLength_0 : List UInt8 := [27, 26, 162, 0, 35, 187, 0, 43, 89, 187, 0, 45, 89, 183, 0, 47, 26, 182, 0, 54, 19, 1, 81]
abbrev dktJ9_checkLength_0 : List UInt8 := dkwJ9_checkLength_0 ++ dktJ9_checkLength_1
theorem dksJ9_checkLength_0 : cJ9_checkLength.data.toList.drop 0 = dktJ9_checkLength_0 := by decide +kernel
theorem dksJ9_checkLength_1 : cJ9_checkLength.data.toList.drop 23 = dktJ9_checkLength_1 := dk_seg dksJ9_checkLength_0 23 rfl rfl
theorem dJ9_checkLength_0 : decode cJ9_checkLength 0 = .ok (.iload_n 1, 1) := dk_27 (dk_at dksJ9_checkLength_0 0 rfl rfl)
theorem dJ9_checkLength_1 : decode cJ9_checkLength 1 = .ok (.iload_n 0, 1) := dk_26 (dk_at dksJ9_checkLength_0 1 rfl rfl)
theorem dJ9_checkLength_2 : decode cJ9_checkLength 2 = .ok (.if_icmp .ge 35, 3) := dk_162 0 35 (dk_at dksJ9_checkLength_0 2 rfl rfl)
theorem dJ9_checkLength_5 : decode cJ9_checkLength 5 = .ok (.new 43, 3) := dk_187 0 43 (dk_at dksJ9_checkLength_0 5 rfl rfl)
theorem dJ9_checkLength_8 : decode cJ9_checkLength 8 = .ok (.dup, 1) := dk_89 (dk_at dksJ9_checkLength_0 8 rfl rfl)
theorem dJ9_checkLength_9 : decode cJ9_checkLength 9 = .ok (.new 45, 3) := dk_187 0 45 (dk_at dksJ9_checkLength_0 9 rfl rfl)
theorem dJ9_checkLength_12 : decode cJ9_checkLength 12 = .ok (.dup, 1) := dk_89 (dk_at dksJ9_checkLength_0 12 rfl rfl)
theorem dJ9_checkLength_13 : decode cJ9_checkLength 13 = .ok (.invokespecial 47, 3) := dk_183 0 47 (dk_at dksJ9_checkLength_0 13 rfl rfl)
theorem dJ9_checkLength_16 : decode cJ9_checkLength 16 = .ok (.iload_n 0, 1) := dk_26 (dk_at dksJ9_checkLength_0 16 rfl rfl)
theorem dJ9_checkLength_17 : decode cJ9_checkLength 17 = .ok (.invokevirtual 54, 3) := dk_182 0 54 (dk_at dksJ9_checkLength_0 17 rfl rfl)
theorem dJ9_checkLength_20 : decode cJ9_checkLength 20 = .ok (.ldc_w 337, 3) := dk_19 1 81 (dk_at dksJ9_checkLength_0 20 rfl rfl)
theorem dJ9_checkLength_23 : decode cJ9_checkLength 23 = .ok (.invokevirtual 50, 3) := dk_182 0 50 (dk_at dksJ9_checkLength_1 0 rfl rfl)
theorem dJ9_checkLength_26 : decode cJ9_checkLength 26 = .ok (.iload_n 1, 1) := dk_27 (dk_at dksJ9_checkLength_1 3 rfl rfl)
theorem dJ9_checkLength_27 : decode cJ9_checkLength 27 = .ok (.invokevirtual 54, 3) := dk_182 0 54 (dk_at dksJ9_checkLength_1 4 rfl rfl)
theorem dJ9_checkLength_30 : decode cJ9_checkLength 30 = .ok (.invokevirtual 61, 3) := dk_182 0 61 (dk_at dksJ9_checkLength_1 7 rfl rfl)
theorem dJ9_checkLength_33 : decode cJ9_checkLength 33 = .ok (.invokespecial 65, 3) := dk_183 0 65 (dk_at dksJ9_checkLength_1 10 rfl rfl)
theorem dJ9_checkLength_36 : decode cJ9_checkLength 36 = .ok (.athrow, 1) := dk_191 (dk_at dksJ9_checkLength_1 13 rfl rfl)
theorem dJ9_checkLength_37 : decode cJ9_checkLength 37 = .ok (.return_, 1) := dk_177 (dk_at dksJ9_checkLength_1 14 rfl rfl)
abbrev cJ9_copyOf_2 : ByteArray := prog_38_method_119_code
def yJ9_copyOf_2 : MethodName := ⟨RJ9, "copyOf", "([Ljava/lang/Object;I)[Ljava/lang/Object;"⟩
def dkwJ9_copyOf_2_0 : List UInt8 := [42, 27, 42, 182, 0, 86, 184, 1, 44, 176]
abbrev dktJ9_copyOf_2_0 : List UInt8 := dkwJ9_copyOf_2_0 ++ []
theorem dksJ9_copyOf_2_0 : cJ9_copyOf_2.data.toList.drop 0 = dktJ9_copyOf_2_0 := by decide +kernel
theorem dJ9_copyOf_2_0 : decode cJ9_copyOf_2 0 = .ok (.aload_n 0, 1) := dk_42 (dk_at dksJ9_copyOf_2_0 0 rfl rfl)
theorem dJ9_copyOf_2_1 : decode cJ9_copyOf_2 1 = .ok (.iload_n 1, 1) := dk_27 (dk_at dksJ9_copyOf_2_0 1 rfl rfl)
theorem dJ9_copyOf_2_2 : decode cJ9_copyOf_2 2 = .ok (.aload_n 0, 1) := dk_42 (dk_at dksJ9_copyOf_2_0 2 rfl rfl)
theorem dJ9_copyOf_2_3 : decode cJ9_copyOf_2 3 = .ok (.invokevirtual 86, 3) := dk_182 0 86 (dk_at dksJ9_copyOf_2_0 3 rfl rfl)
theorem dJ9_copyOf_2_6 : decode cJ9_copyOf_2 6 = .ok (.invokestatic 300, 3) := dk_184 1 44 (dk_at dksJ9_copyOf_2_0 6 rfl rfl)
theorem dJ9_copyOf_2_9 : decode cJ9_copyOf_2 9 = .ok (.areturn, 1) := dk_176 (dk_at dksJ9_copyOf_2_0 9 rfl rfl)
abbrev cJ9_copyOf_3 : ByteArray := prog_38_method_120_code
def yJ9_copyOf_3 : MethodName := ⟨RJ9, "copyOf", "([Ljava/lang/Object;ILjava/lang/Class;)[Ljava/lang/Object;"⟩
def dkwJ9_copyOf_3_1 : List UInt8 := [78, 42, 3, 45, 3, 42, 190, 27, 184, 1, 48, 184, 0, 150, 45, 176]
abbrev dktJ9_copyOf_3_1 : List UInt8 := dkwJ9_copyOf_3_1 ++ []
def dkwJ9_copyOf_3_0 : List UInt8 := [44, 18, 110, 166, 0, 10, 27, 189, 0, 2, 167, 0, 14, 44, 182, 0, 90, 27, 184, 0, 95, 192, 0, 110]
abbrev dktJ9_copyOf_3_0 : List UInt8 := dkwJ9_copyOf_3_0 ++ dktJ9_copyOf_3_1
theorem dksJ9_copyOf_3_0 : cJ9_copyOf_3.data.toList.drop 0 = dktJ9_copyOf_3_0 := by decide +kernel
theorem dksJ9_copyOf_3_1 : cJ9_copyOf_3.data.toList.drop 24 = dktJ9_copyOf_3_1 := dk_seg dksJ9_copyOf_3_0 24 rfl rfl
theorem dJ9_copyOf_3_0 : decode cJ9_copyOf_3 0 = .ok (.aload_n 2, 1) := dk_44 (dk_at dksJ9_copyOf_3_0 0 rfl rfl)
theorem dJ9_copyOf_3_1 : decode cJ9_copyOf_3 1 = .ok (.ldc 110, 2) := dk_18 110 (dk_at dksJ9_copyOf_3_0 1 rfl rfl)
theorem dJ9_copyOf_3_3 : decode cJ9_copyOf_3 3 = .ok (.if_acmp .ne 10, 3) := dk_166 0 10 (dk_at dksJ9_copyOf_3_0 3 rfl rfl)
theorem dJ9_copyOf_3_6 : decode cJ9_copyOf_3 6 = .ok (.iload_n 1, 1) := dk_27 (dk_at dksJ9_copyOf_3_0 6 rfl rfl)
theorem dJ9_copyOf_3_7 : decode cJ9_copyOf_3 7 = .ok (.anewarray 2, 3) := dk_189 0 2 (dk_at dksJ9_copyOf_3_0 7 rfl rfl)
theorem dJ9_copyOf_3_10 : decode cJ9_copyOf_3 10 = .ok (.goto 14, 3) := dk_167 0 14 (dk_at dksJ9_copyOf_3_0 10 rfl rfl)
theorem dJ9_copyOf_3_13 : decode cJ9_copyOf_3 13 = .ok (.aload_n 2, 1) := dk_44 (dk_at dksJ9_copyOf_3_0 13 rfl rfl)
theorem dJ9_copyOf_3_14 : decode cJ9_copyOf_3 14 = .ok (.invokevirtual 90, 3) := dk_182 0 90 (dk_at dksJ9_copyOf_3_0 14 rfl rfl)
theorem dJ9_copyOf_3_17 : decode cJ9_copyOf_3 17 = .ok (.iload_n 1, 1) := dk_27 (dk_at dksJ9_copyOf_3_0 17 rfl rfl)
theorem dJ9_copyOf_3_18 : decode cJ9_copyOf_3 18 = .ok (.invokestatic 95, 3) := dk_184 0 95 (dk_at dksJ9_copyOf_3_0 18 rfl rfl)
theorem dJ9_copyOf_3_21 : decode cJ9_copyOf_3 21 = .ok (.checkcast 110, 3) := dk_192 0 110 (dk_at dksJ9_copyOf_3_0 21 rfl rfl)
theorem dJ9_copyOf_3_24 : decode cJ9_copyOf_3 24 = .ok (.astore_n 3, 1) := dk_78 (dk_at dksJ9_copyOf_3_1 0 rfl rfl)
theorem dJ9_copyOf_3_25 : decode cJ9_copyOf_3 25 = .ok (.aload_n 0, 1) := dk_42 (dk_at dksJ9_copyOf_3_1 1 rfl rfl)
theorem dJ9_copyOf_3_26 : decode cJ9_copyOf_3 26 = .ok (.iconst 0, 1) := dk_3 (dk_at dksJ9_copyOf_3_1 2 rfl rfl)
theorem dJ9_copyOf_3_27 : decode cJ9_copyOf_3 27 = .ok (.aload_n 3, 1) := dk_45 (dk_at dksJ9_copyOf_3_1 3 rfl rfl)
theorem dJ9_copyOf_3_28 : decode cJ9_copyOf_3 28 = .ok (.iconst 0, 1) := dk_3 (dk_at dksJ9_copyOf_3_1 4 rfl rfl)
theorem dJ9_copyOf_3_29 : decode cJ9_copyOf_3 29 = .ok (.aload_n 0, 1) := dk_42 (dk_at dksJ9_copyOf_3_1 5 rfl rfl)
theorem dJ9_copyOf_3_30 : decode cJ9_copyOf_3 30 = .ok (.arraylength, 1) := dk_190 (dk_at dksJ9_copyOf_3_1 6 rfl rfl)
theorem dJ9_copyOf_3_31 : decode cJ9_copyOf_3 31 = .ok (.iload_n 1, 1) := dk_27 (dk_at dksJ9_copyOf_3_1 7 rfl rfl)
theorem dJ9_copyOf_3_32 : decode cJ9_copyOf_3 32 = .ok (.invokestatic 304, 3) := dk_184 1 48 (dk_at dksJ9_copyOf_3_1 8 rfl rfl)
theorem dJ9_copyOf_3_35 : decode cJ9_copyOf_3 35 = .ok (.invokestatic 150, 3) := dk_184 0 150 (dk_at dksJ9_copyOf_3_1 11 rfl rfl)
theorem dJ9_copyOf_3_38 : decode cJ9_copyOf_3 38 = .ok (.aload_n 3, 1) := dk_45 (dk_at dksJ9_copyOf_3_1 14 rfl rfl)
theorem dJ9_copyOf_3_39 : decode cJ9_copyOf_3 39 = .ok (.areturn, 1) := dk_176 (dk_at dksJ9_copyOf_3_1 15 rfl rfl)
abbrev cJ10_canEncode : ByteArray := prog_28_method_3_code
def yJ10_canEncode : MethodName := ⟨RJ10, "canEncode", "(C)Z"⟩
def dkwJ10_canEncode_0 : List UInt8 := [26, 17, 0, 255, 163, 0, 7, 4, 167, 0, 4, 3, 172]
abbrev dktJ10_canEncode_0 : List UInt8 := dkwJ10_canEncode_0 ++ []
theorem dksJ10_canEncode_0 : cJ10_canEncode.data.toList.drop 0 = dktJ10_canEncode_0 := by decide +kernel
theorem dJ10_canEncode_0 : decode cJ10_canEncode 0 = .ok (.iload_n 0, 1) := dk_26 (dk_at dksJ10_canEncode_0 0 rfl rfl)
theorem dJ10_canEncode_1 : decode cJ10_canEncode 1 = .ok (.sipush 255, 3) := dk_17 0 255 (dk_at dksJ10_canEncode_0 1 rfl rfl)
theorem dJ10_canEncode_4 : decode cJ10_canEncode 4 = .ok (.if_icmp .gt 7, 3) := dk_163 0 7 (dk_at dksJ10_canEncode_0 4 rfl rfl)
theorem dJ10_canEncode_7 : decode cJ10_canEncode 7 = .ok (.iconst 1, 1) := dk_4 (dk_at dksJ10_canEncode_0 7 rfl rfl)
theorem dJ10_canEncode_8 : decode cJ10_canEncode 8 = .ok (.goto 4, 3) := dk_167 0 4 (dk_at dksJ10_canEncode_0 8 rfl rfl)
theorem dJ10_canEncode_11 : decode cJ10_canEncode 11 = .ok (.iconst 0, 1) := dk_3 (dk_at dksJ10_canEncode_0 11 rfl rfl)
theorem dJ10_canEncode_12 : decode cJ10_canEncode 12 = .ok (.ireturn, 1) := dk_172 (dk_at dksJ10_canEncode_0 12 rfl rfl)
abbrev cJ10_inflate : ByteArray := prog_28_method_50_code
def yJ10_inflate : MethodName := ⟨RJ10, "inflate", "([BI[BII)V"⟩
def dkwJ10_inflate_0 : List UInt8 := [42, 27, 44, 29, 21, 4, 184, 0, 240, 177]
abbrev dktJ10_inflate_0 : List UInt8 := dkwJ10_inflate_0 ++ []
theorem dksJ10_inflate_0 : cJ10_inflate.data.toList.drop 0 = dktJ10_inflate_0 := by decide +kernel
theorem dJ10_inflate_0 : decode cJ10_inflate 0 = .ok (.aload_n 0, 1) := dk_42 (dk_at dksJ10_inflate_0 0 rfl rfl)
theorem dJ10_inflate_1 : decode cJ10_inflate 1 = .ok (.iload_n 1, 1) := dk_27 (dk_at dksJ10_inflate_0 1 rfl rfl)
theorem dJ10_inflate_2 : decode cJ10_inflate 2 = .ok (.aload_n 2, 1) := dk_44 (dk_at dksJ10_inflate_0 2 rfl rfl)
theorem dJ10_inflate_3 : decode cJ10_inflate 3 = .ok (.iload_n 3, 1) := dk_29 (dk_at dksJ10_inflate_0 3 rfl rfl)
theorem dJ10_inflate_4 : decode cJ10_inflate 4 = .ok (.iload 4, 2) := dk_21 4 (dk_at dksJ10_inflate_0 4 rfl rfl)
theorem dJ10_inflate_6 : decode cJ10_inflate 6 = .ok (.invokestatic 240, 3) := dk_184 0 240 (dk_at dksJ10_inflate_0 6 rfl rfl)
theorem dJ10_inflate_9 : decode cJ10_inflate 9 = .ok (.return_, 1) := dk_177 (dk_at dksJ10_inflate_0 9 rfl rfl)
abbrev cJ10_hashCode : ByteArray := prog_28_method_21_code
def yJ10_hashCode : MethodName := ⟨RJ10, "hashCode", "([B)I"⟩
def dkwJ10_hashCode_2 : List UInt8 := [3, 167, 0, 22, 42, 3, 51, 17, 0, 255, 126, 167, 0, 12, 42, 3, 42, 190, 3, 7, 184, 0, 84, 172]
abbrev dktJ10_hashCode_2 : List UInt8 := dkwJ10_hashCode_2 ++ []
def dkwJ10_hashCode_1 : List UInt8 := [171, 0, 0, 0, 0, 40, 0, 0, 0, 2, 0, 0, 0, 0, 0, 0, 0, 26, 0, 0, 0, 1, 0, 0, 0, 30]
abbrev dktJ10_hashCode_1 : List UInt8 := dkwJ10_hashCode_1 ++ dktJ10_hashCode_2
def dkwJ10_hashCode_0 : List UInt8 := [42, 190]
abbrev dktJ10_hashCode_0 : List UInt8 := dkwJ10_hashCode_0 ++ dktJ10_hashCode_1
theorem dksJ10_hashCode_0 : cJ10_hashCode.data.toList.drop 0 = dktJ10_hashCode_0 := by decide +kernel
theorem dksJ10_hashCode_1 : cJ10_hashCode.data.toList.drop 2 = dktJ10_hashCode_1 := dk_seg dksJ10_hashCode_0 2 rfl rfl
theorem dksJ10_hashCode_2 : cJ10_hashCode.data.toList.drop 28 = dktJ10_hashCode_2 := dk_seg dksJ10_hashCode_1 26 rfl rfl
theorem dJ10_hashCode_0 : decode cJ10_hashCode 0 = .ok (.aload_n 0, 1) := dk_42 (dk_at dksJ10_hashCode_0 0 rfl rfl)
theorem dJ10_hashCode_1 : decode cJ10_hashCode 1 = .ok (.arraylength, 1) := dk_190 (dk_at dksJ10_hashCode_0 1 rfl rfl)
theorem dJ10_hashCode_2 : decode cJ10_hashCode 2 = .ok (.lookupswitch 40 #[(0, 26), (1, 30)], 26) := by decide +kernel
theorem dJ10_hashCode_28 : decode cJ10_hashCode 28 = .ok (.iconst 0, 1) := dk_3 (dk_at dksJ10_hashCode_2 0 rfl rfl)
theorem dJ10_hashCode_29 : decode cJ10_hashCode 29 = .ok (.goto 22, 3) := dk_167 0 22 (dk_at dksJ10_hashCode_2 1 rfl rfl)
theorem dJ10_hashCode_32 : decode cJ10_hashCode 32 = .ok (.aload_n 0, 1) := dk_42 (dk_at dksJ10_hashCode_2 4 rfl rfl)
theorem dJ10_hashCode_33 : decode cJ10_hashCode 33 = .ok (.iconst 0, 1) := dk_3 (dk_at dksJ10_hashCode_2 5 rfl rfl)
theorem dJ10_hashCode_34 : decode cJ10_hashCode 34 = .ok (.baload, 1) := dk_51 (dk_at dksJ10_hashCode_2 6 rfl rfl)
theorem dJ10_hashCode_35 : decode cJ10_hashCode 35 = .ok (.sipush 255, 3) := dk_17 0 255 (dk_at dksJ10_hashCode_2 7 rfl rfl)
theorem dJ10_hashCode_38 : decode cJ10_hashCode 38 = .ok (.iand, 1) := dk_126 (dk_at dksJ10_hashCode_2 10 rfl rfl)
theorem dJ10_hashCode_39 : decode cJ10_hashCode 39 = .ok (.goto 12, 3) := dk_167 0 12 (dk_at dksJ10_hashCode_2 11 rfl rfl)
theorem dJ10_hashCode_42 : decode cJ10_hashCode 42 = .ok (.aload_n 0, 1) := dk_42 (dk_at dksJ10_hashCode_2 14 rfl rfl)
theorem dJ10_hashCode_43 : decode cJ10_hashCode 43 = .ok (.iconst 0, 1) := dk_3 (dk_at dksJ10_hashCode_2 15 rfl rfl)
theorem dJ10_hashCode_44 : decode cJ10_hashCode 44 = .ok (.aload_n 0, 1) := dk_42 (dk_at dksJ10_hashCode_2 16 rfl rfl)
theorem dJ10_hashCode_45 : decode cJ10_hashCode 45 = .ok (.arraylength, 1) := dk_190 (dk_at dksJ10_hashCode_2 17 rfl rfl)
theorem dJ10_hashCode_46 : decode cJ10_hashCode 46 = .ok (.iconst 0, 1) := dk_3 (dk_at dksJ10_hashCode_2 18 rfl rfl)
theorem dJ10_hashCode_47 : decode cJ10_hashCode 47 = .ok (.iconst 4, 1) := dk_7 (dk_at dksJ10_hashCode_2 19 rfl rfl)
theorem dJ10_hashCode_48 : decode cJ10_hashCode 48 = .ok (.invokestatic 84, 3) := dk_184 0 84 (dk_at dksJ10_hashCode_2 20 rfl rfl)
theorem dJ10_hashCode_51 : decode cJ10_hashCode 51 = .ok (.ireturn, 1) := dk_172 (dk_at dksJ10_hashCode_2 23 rfl rfl)
abbrev cJ10_equals : ByteArray := prog_28_method_13_code
def yJ10_equals : MethodName := ⟨RJ10, "equals", "([B[B)Z"⟩
def dkwJ10_equals_1 : List UInt8 := [3, 172, 132, 2, 1, 167, 255, 236, 4, 172, 3, 172]
abbrev dktJ10_equals_1 : List UInt8 := dkwJ10_equals_1 ++ []
def dkwJ10_equals_0 : List UInt8 := [42, 190, 43, 190, 160, 0, 30, 3, 61, 28, 42, 190, 162, 0, 20, 42, 28, 51, 43, 28, 51, 159, 0, 5]
abbrev dktJ10_equals_0 : List UInt8 := dkwJ10_equals_0 ++ dktJ10_equals_1
theorem dksJ10_equals_0 : cJ10_equals.data.toList.drop 0 = dktJ10_equals_0 := by decide +kernel
theorem dksJ10_equals_1 : cJ10_equals.data.toList.drop 24 = dktJ10_equals_1 := dk_seg dksJ10_equals_0 24 rfl rfl
theorem dJ10_equals_0 : decode cJ10_equals 0 = .ok (.aload_n 0, 1) := dk_42 (dk_at dksJ10_equals_0 0 rfl rfl)
theorem dJ10_equals_1 : decode cJ10_equals 1 = .ok (.arraylength, 1) := dk_190 (dk_at dksJ10_equals_0 1 rfl rfl)
theorem dJ10_equals_2 : decode cJ10_equals 2 = .ok (.aload_n 1, 1) := dk_43 (dk_at dksJ10_equals_0 2 rfl rfl)
theorem dJ10_equals_3 : decode cJ10_equals 3 = .ok (.arraylength, 1) := dk_190 (dk_at dksJ10_equals_0 3 rfl rfl)
theorem dJ10_equals_4 : decode cJ10_equals 4 = .ok (.if_icmp .ne 30, 3) := dk_160 0 30 (dk_at dksJ10_equals_0 4 rfl rfl)
theorem dJ10_equals_7 : decode cJ10_equals 7 = .ok (.iconst 0, 1) := dk_3 (dk_at dksJ10_equals_0 7 rfl rfl)
theorem dJ10_equals_8 : decode cJ10_equals 8 = .ok (.istore_n 2, 1) := dk_61 (dk_at dksJ10_equals_0 8 rfl rfl)
theorem dJ10_equals_9 : decode cJ10_equals 9 = .ok (.iload_n 2, 1) := dk_28 (dk_at dksJ10_equals_0 9 rfl rfl)
theorem dJ10_equals_10 : decode cJ10_equals 10 = .ok (.aload_n 0, 1) := dk_42 (dk_at dksJ10_equals_0 10 rfl rfl)
theorem dJ10_equals_11 : decode cJ10_equals 11 = .ok (.arraylength, 1) := dk_190 (dk_at dksJ10_equals_0 11 rfl rfl)
theorem dJ10_equals_12 : decode cJ10_equals 12 = .ok (.if_icmp .ge 20, 3) := dk_162 0 20 (dk_at dksJ10_equals_0 12 rfl rfl)
theorem dJ10_equals_15 : decode cJ10_equals 15 = .ok (.aload_n 0, 1) := dk_42 (dk_at dksJ10_equals_0 15 rfl rfl)
theorem dJ10_equals_16 : decode cJ10_equals 16 = .ok (.iload_n 2, 1) := dk_28 (dk_at dksJ10_equals_0 16 rfl rfl)
theorem dJ10_equals_17 : decode cJ10_equals 17 = .ok (.baload, 1) := dk_51 (dk_at dksJ10_equals_0 17 rfl rfl)
theorem dJ10_equals_18 : decode cJ10_equals 18 = .ok (.aload_n 1, 1) := dk_43 (dk_at dksJ10_equals_0 18 rfl rfl)
theorem dJ10_equals_19 : decode cJ10_equals 19 = .ok (.iload_n 2, 1) := dk_28 (dk_at dksJ10_equals_0 19 rfl rfl)
theorem dJ10_equals_20 : decode cJ10_equals 20 = .ok (.baload, 1) := dk_51 (dk_at dksJ10_equals_0 20 rfl rfl)
theorem dJ10_equals_21 : decode cJ10_equals 21 = .ok (.if_icmp .eq 5, 3) := dk_159 0 5 (dk_at dksJ10_equals_0 21 rfl rfl)
theorem dJ10_equals_24 : decode cJ10_equals 24 = .ok (.iconst 0, 1) := dk_3 (dk_at dksJ10_equals_1 0 rfl rfl)
theorem dJ10_equals_25 : decode cJ10_equals 25 = .ok (.ireturn, 1) := dk_172 (dk_at dksJ10_equals_1 1 rfl rfl)
theorem dJ10_equals_26 : decode cJ10_equals 26 = .ok (.iinc 2 1, 3) := dk_132 2 1 (dk_at dksJ10_equals_1 2 rfl rfl)
theorem dJ10_equals_29 : decode cJ10_equals 29 = .ok (.goto (-20), 3) := dk_167 255 236 (dk_at dksJ10_equals_1 5 rfl rfl)
theorem dJ10_equals_32 : decode cJ10_equals 32 = .ok (.iconst 1, 1) := dk_4 (dk_at dksJ10_equals_1 8 rfl rfl)
theorem dJ10_equals_33 : decode cJ10_equals 33 = .ok (.ireturn, 1) := dk_172 (dk_at dksJ10_equals_1 9 rfl rfl)
theorem dJ10_equals_34 : decode cJ10_equals 34 = .ok (.iconst 0, 1) := dk_3 (dk_at dksJ10_equals_1 10 rfl rfl)
theorem dJ10_equals_35 : decode cJ10_equals 35 = .ok (.ireturn, 1) := dk_172 (dk_at dksJ10_equals_1 11 rfl rfl)
abbrev cJ10_charAt : ByteArray := prog_28_method_2_code
def yJ10_charAt : MethodName := ⟨RJ10, "charAt", "([BI)C"⟩
def dkwJ10_charAt_0 : List UInt8 := [27, 42, 190, 184, 0, 9, 42, 27, 51, 17, 0, 255, 126, 146, 172]
abbrev dktJ10_charAt_0 : List UInt8 := dkwJ10_charAt_0 ++ []
theorem dksJ10_charAt_0 : cJ10_charAt.data.toList.drop 0 = dktJ10_charAt_0 := by decide +kernel
theorem dJ10_charAt_0 : decode cJ10_charAt 0 = .ok (.iload_n 1, 1) := dk_27 (dk_at dksJ10_charAt_0 0 rfl rfl)
theorem dJ10_charAt_1 : decode cJ10_charAt 1 = .ok (.aload_n 0, 1) := dk_42 (dk_at dksJ10_charAt_0 1 rfl rfl)
theorem dJ10_charAt_2 : decode cJ10_charAt 2 = .ok (.arraylength, 1) := dk_190 (dk_at dksJ10_charAt_0 2 rfl rfl)
theorem dJ10_charAt_3 : decode cJ10_charAt 3 = .ok (.invokestatic 9, 3) := dk_184 0 9 (dk_at dksJ10_charAt_0 3 rfl rfl)
theorem dJ10_charAt_6 : decode cJ10_charAt 6 = .ok (.aload_n 0, 1) := dk_42 (dk_at dksJ10_charAt_0 6 rfl rfl)
theorem dJ10_charAt_7 : decode cJ10_charAt 7 = .ok (.iload_n 1, 1) := dk_27 (dk_at dksJ10_charAt_0 7 rfl rfl)
theorem dJ10_charAt_8 : decode cJ10_charAt 8 = .ok (.baload, 1) := dk_51 (dk_at dksJ10_charAt_0 8 rfl rfl)
theorem dJ10_charAt_9 : decode cJ10_charAt 9 = .ok (.sipush 255, 3) := dk_17 0 255 (dk_at dksJ10_charAt_0 9 rfl rfl)
theorem dJ10_charAt_12 : decode cJ10_charAt 12 = .ok (.iand, 1) := dk_126 (dk_at dksJ10_charAt_0 12 rfl rfl)
theorem dJ10_charAt_13 : decode cJ10_charAt 13 = .ok (.i2c, 1) := dk_146 (dk_at dksJ10_charAt_0 13 rfl rfl)
theorem dJ10_charAt_14 : decode cJ10_charAt 14 = .ok (.ireturn, 1) := dk_172 (dk_at dksJ10_charAt_0 14 rfl rfl)
abbrev cJ11_checkFromIndexSize : ByteArray := prog_47_method_13_code
def yJ11_checkFromIndexSize : MethodName := ⟨RJ11, "checkFromIndexSize", "(IIILjava/util/function/BiFunction;)I"⟩
def dkwJ11_checkFromIndexSize_1 : List UInt8 := [172]
abbrev dktJ11_checkFromIndexSize_1 : List UInt8 := dkwJ11_checkFromIndexSize_1 ++ []
def dkwJ11_checkFromIndexSize_0 : List UInt8 := [28, 26, 128, 27, 128, 155, 0, 10, 27, 28, 26, 100, 164, 0, 11, 45, 26, 27, 28, 184, 0, 103, 191, 26]
abbrev dktJ11_checkFromIndexSize_0 : List UInt8 := dkwJ11_checkFromIndexSize_0 ++ dktJ11_checkFromIndexSize_1
theorem dksJ11_checkFromIndexSize_0 : cJ11_checkFromIndexSize.data.toList.drop 0 = dktJ11_checkFromIndexSize_0 := by decide +kernel
theorem dksJ11_checkFromIndexSize_1 : cJ11_checkFromIndexSize.data.toList.drop 24 = dktJ11_checkFromIndexSize_1 := dk_seg dksJ11_checkFromIndexSize_0 24 rfl rfl
theorem dJ11_checkFromIndexSize_0 : decode cJ11_checkFromIndexSize 0 = .ok (.iload_n 2, 1) := dk_28 (dk_at dksJ11_checkFromIndexSize_0 0 rfl rfl)
theorem dJ11_checkFromIndexSize_1 : decode cJ11_checkFromIndexSize 1 = .ok (.iload_n 0, 1) := dk_26 (dk_at dksJ11_checkFromIndexSize_0 1 rfl rfl)
theorem dJ11_checkFromIndexSize_2 : decode cJ11_checkFromIndexSize 2 = .ok (.ior, 1) := dk_128 (dk_at dksJ11_checkFromIndexSize_0 2 rfl rfl)
theorem dJ11_checkFromIndexSize_3 : decode cJ11_checkFromIndexSize 3 = .ok (.iload_n 1, 1) := dk_27 (dk_at dksJ11_checkFromIndexSize_0 3 rfl rfl)
theorem dJ11_checkFromIndexSize_4 : decode cJ11_checkFromIndexSize 4 = .ok (.ior, 1) := dk_128 (dk_at dksJ11_checkFromIndexSize_0 4 rfl rfl)
theorem dJ11_checkFromIndexSize_5 : decode cJ11_checkFromIndexSize 5 = .ok (.ifCond .lt 10, 3) := dk_155 0 10 (dk_at dksJ11_checkFromIndexSize_0 5 rfl rfl)
theorem dJ11_checkFromIndexSize_8 : decode cJ11_checkFromIndexSize 8 = .ok (.iload_n 1, 1) := dk_27 (dk_at dksJ11_checkFromIndexSize_0 8 rfl rfl)
theorem dJ11_checkFromIndexSize_9 : decode cJ11_checkFromIndexSize 9 = .ok (.iload_n 2, 1) := dk_28 (dk_at dksJ11_checkFromIndexSize_0 9 rfl rfl)
theorem dJ11_checkFromIndexSize_10 : decode cJ11_checkFromIndexSize 10 = .ok (.iload_n 0, 1) := dk_26 (dk_at dksJ11_checkFromIndexSize_0 10 rfl rfl)
theorem dJ11_checkFromIndexSize_11 : decode cJ11_checkFromIndexSize 11 = .ok (.isub, 1) := dk_100 (dk_at dksJ11_checkFromIndexSize_0 11 rfl rfl)
theorem dJ11_checkFromIndexSize_12 : decode cJ11_checkFromIndexSize 12 = .ok (.if_icmp .le 11, 3) := dk_164 0 11 (dk_at dksJ11_checkFromIndexSize_0 12 rfl rfl)
theorem dJ11_checkFromIndexSize_15 : decode cJ11_checkFromIndexSize 15 = .ok (.aload_n 3, 1) := dk_45 (dk_at dksJ11_checkFromIndexSize_0 15 rfl rfl)
theorem dJ11_checkFromIndexSize_16 : decode cJ11_checkFromIndexSize 16 = .ok (.iload_n 0, 1) := dk_26 (dk_at dksJ11_checkFromIndexSize_0 16 rfl rfl)
theorem dJ11_checkFromIndexSize_17 : decode cJ11_checkFromIndexSize 17 = .ok (.iload_n 1, 1) := dk_27 (dk_at dksJ11_checkFromIndexSize_0 17 rfl rfl)
theorem dJ11_checkFromIndexSize_18 : decode cJ11_checkFromIndexSize 18 = .ok (.iload_n 2, 1) := dk_28 (dk_at dksJ11_checkFromIndexSize_0 18 rfl rfl)
theorem dJ11_checkFromIndexSize_19 : decode cJ11_checkFromIndexSize 19 = .ok (.invokestatic 103, 3) := dk_184 0 103 (dk_at dksJ11_checkFromIndexSize_0 19 rfl rfl)
theorem dJ11_checkFromIndexSize_22 : decode cJ11_checkFromIndexSize 22 = .ok (.athrow, 1) := dk_191 (dk_at dksJ11_checkFromIndexSize_0 22 rfl rfl)
theorem dJ11_checkFromIndexSize_23 : decode cJ11_checkFromIndexSize 23 = .ok (.iload_n 0, 1) := dk_26 (dk_at dksJ11_checkFromIndexSize_0 23 rfl rfl)
theorem dJ11_checkFromIndexSize_24 : decode cJ11_checkFromIndexSize 24 = .ok (.ireturn, 1) := dk_172 (dk_at dksJ11_checkFromIndexSize_1 0 rfl rfl)
abbrev cJ11_checkIndex : ByteArray := prog_47_method_11_code
def yJ11_checkIndex : MethodName := ⟨RJ11, "checkIndex", "(IILjava/util/function/BiFunction;)I"⟩
def dkwJ11_checkIndex_0 : List UInt8 := [26, 155, 0, 8, 26, 27, 161, 0, 10, 44, 26, 27, 184, 0, 95, 191, 26, 172]
abbrev dktJ11_checkIndex_0 : List UInt8 := dkwJ11_checkIndex_0 ++ []
theorem dksJ11_checkIndex_0 : cJ11_checkIndex.data.toList.drop 0 = dktJ11_checkIndex_0 := by decide +kernel
theorem dJ11_checkIndex_0 : decode cJ11_checkIndex 0 = .ok (.iload_n 0, 1) := dk_26 (dk_at dksJ11_checkIndex_0 0 rfl rfl)
theorem dJ11_checkIndex_1 : decode cJ11_checkIndex 1 = .ok (.ifCond .lt 8, 3) := dk_155 0 8 (dk_at dksJ11_checkIndex_0 1 rfl rfl)
theorem dJ11_checkIndex_4 : decode cJ11_checkIndex 4 = .ok (.iload_n 0, 1) := dk_26 (dk_at dksJ11_checkIndex_0 4 rfl rfl)
theorem dJ11_checkIndex_5 : decode cJ11_checkIndex 5 = .ok (.iload_n 1, 1) := dk_27 (dk_at dksJ11_checkIndex_0 5 rfl rfl)
theorem dJ11_checkIndex_6 : decode cJ11_checkIndex 6 = .ok (.if_icmp .lt 10, 3) := dk_161 0 10 (dk_at dksJ11_checkIndex_0 6 rfl rfl)
theorem dJ11_checkIndex_9 : decode cJ11_checkIndex 9 = .ok (.aload_n 2, 1) := dk_44 (dk_at dksJ11_checkIndex_0 9 rfl rfl)
theorem dJ11_checkIndex_10 : decode cJ11_checkIndex 10 = .ok (.iload_n 0, 1) := dk_26 (dk_at dksJ11_checkIndex_0 10 rfl rfl)
theorem dJ11_checkIndex_11 : decode cJ11_checkIndex 11 = .ok (.iload_n 1, 1) := dk_27 (dk_at dksJ11_checkIndex_0 11 rfl rfl)
theorem dJ11_checkIndex_12 : decode cJ11_checkIndex 12 = .ok (.invokestatic 95, 3) := dk_184 0 95 (dk_at dksJ11_checkIndex_0 12 rfl rfl)
theorem dJ11_checkIndex_15 : decode cJ11_checkIndex 15 = .ok (.athrow, 1) := dk_191 (dk_at dksJ11_checkIndex_0 15 rfl rfl)
theorem dJ11_checkIndex_16 : decode cJ11_checkIndex 16 = .ok (.iload_n 0, 1) := dk_26 (dk_at dksJ11_checkIndex_0 16 rfl rfl)
theorem dJ11_checkIndex_17 : decode cJ11_checkIndex 17 = .ok (.ireturn, 1) := dk_172 (dk_at dksJ11_checkIndex_0 17 rfl rfl)
abbrev cJ12_checkIndex : ByteArray := prog_42_method_17_code
def yJ12_checkIndex : MethodName := ⟨RJ12, "checkIndex", "(II)I"⟩
def dkwJ12_checkIndex_0 : List UInt8 := [26, 27, 1, 184, 0, 105, 172]
abbrev dktJ12_checkIndex_0 : List UInt8 := dkwJ12_checkIndex_0 ++ []
theorem dksJ12_checkIndex_0 : cJ12_checkIndex.data.toList.drop 0 = dktJ12_checkIndex_0 := by decide +kernel
theorem dJ12_checkIndex_0 : decode cJ12_checkIndex 0 = .ok (.iload_n 0, 1) := dk_26 (dk_at dksJ12_checkIndex_0 0 rfl rfl)
theorem dJ12_checkIndex_1 : decode cJ12_checkIndex 1 = .ok (.iload_n 1, 1) := dk_27 (dk_at dksJ12_checkIndex_0 1 rfl rfl)
theorem dJ12_checkIndex_2 : decode cJ12_checkIndex 2 = .ok (.aconst_null, 1) := dk_1 (dk_at dksJ12_checkIndex_0 2 rfl rfl)
theorem dJ12_checkIndex_3 : decode cJ12_checkIndex 3 = .ok (.invokestatic 105, 3) := dk_184 0 105 (dk_at dksJ12_checkIndex_0 3 rfl rfl)
theorem dJ12_checkIndex_6 : decode cJ12_checkIndex 6 = .ok (.ireturn, 1) := dk_172 (dk_at dksJ12_checkIndex_0 6 rfl rfl)
abbrev cJ13_init : ByteArray := prog_32_method_1_code
def yJ13_init : MethodName := ⟨RJ13, "<init>", "()V"⟩
def dkwJ13_init_1 : List UInt8 := [182, 0, 27, 87, 177]
abbrev dktJ13_init_1 : List UInt8 := dkwJ13_init_1 ++ []
def dkwJ13_init_0 : List UInt8 := [42, 183, 0, 1, 42, 42, 181, 0, 7, 42, 178, 0, 13, 181, 0, 17, 42, 178, 0, 20, 181, 0, 24, 42]
abbrev dktJ13_init_0 : List UInt8 := dkwJ13_init_0 ++ dktJ13_init_1
theorem dksJ13_init_0 : cJ13_init.data.toList.drop 0 = dktJ13_init_0 := by decide +kernel
theorem dksJ13_init_1 : cJ13_init.data.toList.drop 24 = dktJ13_init_1 := dk_seg dksJ13_init_0 24 rfl rfl
theorem dJ13_init_0 : decode cJ13_init 0 = .ok (.aload_n 0, 1) := dk_42 (dk_at dksJ13_init_0 0 rfl rfl)
theorem dJ13_init_1 : decode cJ13_init 1 = .ok (.invokespecial 1, 3) := dk_183 0 1 (dk_at dksJ13_init_0 1 rfl rfl)
theorem dJ13_init_4 : decode cJ13_init 4 = .ok (.aload_n 0, 1) := dk_42 (dk_at dksJ13_init_0 4 rfl rfl)
theorem dJ13_init_5 : decode cJ13_init 5 = .ok (.aload_n 0, 1) := dk_42 (dk_at dksJ13_init_0 5 rfl rfl)
theorem dJ13_init_6 : decode cJ13_init 6 = .ok (.putfield 7, 3) := dk_181 0 7 (dk_at dksJ13_init_0 6 rfl rfl)
theorem dJ13_init_9 : decode cJ13_init 9 = .ok (.aload_n 0, 1) := dk_42 (dk_at dksJ13_init_0 9 rfl rfl)
theorem dJ13_init_10 : decode cJ13_init 10 = .ok (.getstatic 13, 3) := dk_178 0 13 (dk_at dksJ13_init_0 10 rfl rfl)
theorem dJ13_init_13 : decode cJ13_init 13 = .ok (.putfield 17, 3) := dk_181 0 17 (dk_at dksJ13_init_0 13 rfl rfl)
theorem dJ13_init_16 : decode cJ13_init 16 = .ok (.aload_n 0, 1) := dk_42 (dk_at dksJ13_init_0 16 rfl rfl)
theorem dJ13_init_17 : decode cJ13_init 17 = .ok (.getstatic 20, 3) := dk_178 0 20 (dk_at dksJ13_init_0 17 rfl rfl)
theorem dJ13_init_20 : decode cJ13_init 20 = .ok (.putfield 24, 3) := dk_181 0 24 (dk_at dksJ13_init_0 20 rfl rfl)
theorem dJ13_init_23 : decode cJ13_init 23 = .ok (.aload_n 0, 1) := dk_42 (dk_at dksJ13_init_0 23 rfl rfl)
theorem dJ13_init_24 : decode cJ13_init 24 = .ok (.invokevirtual 27, 3) := dk_182 0 27 (dk_at dksJ13_init_1 0 rfl rfl)
theorem dJ13_init_27 : decode cJ13_init 27 = .ok (.pop, 1) := dk_87 (dk_at dksJ13_init_1 3 rfl rfl)
theorem dJ13_init_28 : decode cJ13_init 28 = .ok (.return_, 1) := dk_177 (dk_at dksJ13_init_1 4 rfl rfl)
abbrev cJ14_init : ByteArray := prog_22_method_1_code
def yJ14_init : MethodName := ⟨RJ14, "<init>", "()V"⟩
theorem dJ14_init_0 : decode cJ14_init 0 = .ok (.aload_n 0, 1) := by decide +kernel
theorem dJ14_init_1 : decode cJ14_init 1 = .ok (.invokespecial 1, 3) := by decide +kernel
theorem dJ14_init_4 : decode cJ14_init 4 = .ok (.return_, 1) := by decide +kernel
abbrev cJ15_init : ByteArray := prog_25_method_1_code
def yJ15_init : MethodName := ⟨RJ15, "<init>", "()V"⟩
theorem dJ15_init_0 : decode cJ15_init 0 = .ok (.aload_n 0, 1) := by decide +kernel
theorem dJ15_init_1 : decode cJ15_init 1 = .ok (.invokespecial 1, 3) := by decide +kernel
theorem dJ15_init_4 : decode cJ15_init 4 = .ok (.return_, 1) := by decide +kernel
abbrev cJ16_init : ByteArray := prog_41_method_1_code
def yJ16_init : MethodName := ⟨RJ16, "<init>", "()V"⟩
theorem dJ16_init_0 : decode cJ16_init 0 = .ok (.aload_n 0, 1) := by decide +kernel
theorem dJ16_init_1 : decode cJ16_init 1 = .ok (.invokespecial 1, 3) := by decide +kernel
theorem dJ16_init_4 : decode cJ16_init 4 = .ok (.return_, 1) := by decide +kernel
abbrev cJ17_init : ByteArray := object_method_1_code
def yJ17_init : MethodName := ⟨RJ17, "<init>", "()V"⟩
theorem dJ17_init_0 : decode cJ17_init 0 = .ok (.return_, 1) := by decide +kernel
abbrev cJ18_getUTF16Char : ByteArray := prog_31_method_45_code
def yJ18_getUTF16Char : MethodName := ⟨RJ18, "getUTF16Cha\x72", "([BI)C"⟩
def dkwJ18_getUTF16Char_0 : List UInt8 := [43, 28, 184, 0, 185, 172]
abbrev dktJ18_getUTF16Char_0 : List UInt8 := dkwJ18_getUTF16Char_0 ++ []
theorem dksJ18_getUTF16Char_0 : cJ18_getUTF16Char.data.toList.drop 0 = dktJ18_getUTF16Char_0 := by decide +kernel
theorem dJ18_getUTF16Char_0 : decode cJ18_getUTF16Char 0 = .ok (.aload_n 1, 1) := dk_43 (dk_at dksJ18_getUTF16Char_0 0 rfl rfl)
theorem dJ18_getUTF16Char_1 : decode cJ18_getUTF16Char 1 = .ok (.iload_n 2, 1) := dk_28 (dk_at dksJ18_getUTF16Char_0 1 rfl rfl)
theorem dJ18_getUTF16Char_2 : decode cJ18_getUTF16Char 2 = .ok (.invokestatic 185, 3) := dk_184 0 185 (dk_at dksJ18_getUTF16Char_0 2 rfl rfl)
theorem dJ18_getUTF16Char_5 : decode cJ18_getUTF16Char 5 = .ok (.ireturn, 1) := dk_172 (dk_at dksJ18_getUTF16Char_0 5 rfl rfl)
abbrev cX0_led : ByteArray := method_3_code
def yX0_led : MethodName := ⟨RX0, "led", "(LThirdWitness;I[J)I"⟩
def dkwX0_led_0 : List UInt8 := [44, 3, 42, 27, 182, 0, 7, 133, 80, 167, 0, 6, 78, 4, 172, 3, 172]
abbrev dktX0_led_0 : List UInt8 := dkwX0_led_0 ++ []
theorem dksX0_led_0 : cX0_led.data.toList.drop 0 = dktX0_led_0 := by decide +kernel
theorem dX0_led_0 : decode cX0_led 0 = .ok (.aload_n 2, 1) := dk_44 (dk_at dksX0_led_0 0 rfl rfl)
theorem dX0_led_1 : decode cX0_led 1 = .ok (.iconst 0, 1) := dk_3 (dk_at dksX0_led_0 1 rfl rfl)
theorem dX0_led_2 : decode cX0_led 2 = .ok (.aload_n 0, 1) := dk_42 (dk_at dksX0_led_0 2 rfl rfl)
theorem dX0_led_3 : decode cX0_led 3 = .ok (.iload_n 1, 1) := dk_27 (dk_at dksX0_led_0 3 rfl rfl)
theorem dX0_led_4 : decode cX0_led 4 = .ok (.invokevirtual 7, 3) := dk_182 0 7 (dk_at dksX0_led_0 4 rfl rfl)
theorem dX0_led_7 : decode cX0_led 7 = .ok (.i2l, 1) := dk_133 (dk_at dksX0_led_0 7 rfl rfl)
theorem dX0_led_8 : decode cX0_led 8 = .ok (.lastore, 1) := dk_80 (dk_at dksX0_led_0 8 rfl rfl)
theorem dX0_led_9 : decode cX0_led 9 = .ok (.goto 6, 3) := dk_167 0 6 (dk_at dksX0_led_0 9 rfl rfl)
theorem dX0_led_12 : decode cX0_led 12 = .ok (.astore_n 3, 1) := dk_78 (dk_at dksX0_led_0 12 rfl rfl)
theorem dX0_led_13 : decode cX0_led 13 = .ok (.iconst 1, 1) := dk_4 (dk_at dksX0_led_0 13 rfl rfl)
theorem dX0_led_14 : decode cX0_led 14 = .ok (.ireturn, 1) := dk_172 (dk_at dksX0_led_0 14 rfl rfl)
theorem dX0_led_15 : decode cX0_led 15 = .ok (.iconst 0, 1) := dk_3 (dk_at dksX0_led_0 15 rfl rfl)
theorem dX0_led_16 : decode cX0_led 16 = .ok (.ireturn, 1) := dk_172 (dk_at dksX0_led_0 16 rfl rfl)
abbrev cX3_init : ByteArray := prog_8_method_1_code
def yX3_init : MethodName := ⟨RX3, "<init>", "(LThirdWitness$Tokens;)V"⟩
def dkwX3_init_1 : List UInt8 := [182, 0, 22, 181, 0, 28, 177]
abbrev dktX3_init_1 : List UInt8 := dkwX3_init_1 ++ []
def dkwX3_init_0 : List UInt8 := [42, 183, 0, 3, 42, 187, 0, 9, 89, 183, 0, 11, 181, 0, 12, 42, 43, 181, 0, 18, 42, 43]
abbrev dktX3_init_0 : List UInt8 := dkwX3_init_0 ++ dktX3_init_1
theorem dksX3_init_0 : cX3_init.data.toList.drop 0 = dktX3_init_0 := by decide +kernel
theorem dksX3_init_1 : cX3_init.data.toList.drop 22 = dktX3_init_1 := dk_seg dksX3_init_0 22 rfl rfl
theorem dX3_init_0 : decode cX3_init 0 = .ok (.aload_n 0, 1) := dk_42 (dk_at dksX3_init_0 0 rfl rfl)
theorem dX3_init_1 : decode cX3_init 1 = .ok (.invokespecial 3, 3) := dk_183 0 3 (dk_at dksX3_init_0 1 rfl rfl)
theorem dX3_init_4 : decode cX3_init 4 = .ok (.aload_n 0, 1) := dk_42 (dk_at dksX3_init_0 4 rfl rfl)
theorem dX3_init_5 : decode cX3_init 5 = .ok (.new 9, 3) := dk_187 0 9 (dk_at dksX3_init_0 5 rfl rfl)
theorem dX3_init_8 : decode cX3_init 8 = .ok (.dup, 1) := dk_89 (dk_at dksX3_init_0 8 rfl rfl)
theorem dX3_init_9 : decode cX3_init 9 = .ok (.invokespecial 11, 3) := dk_183 0 11 (dk_at dksX3_init_0 9 rfl rfl)
theorem dX3_init_12 : decode cX3_init 12 = .ok (.putfield 12, 3) := dk_181 0 12 (dk_at dksX3_init_0 12 rfl rfl)
theorem dX3_init_15 : decode cX3_init 15 = .ok (.aload_n 0, 1) := dk_42 (dk_at dksX3_init_0 15 rfl rfl)
theorem dX3_init_16 : decode cX3_init 16 = .ok (.aload_n 1, 1) := dk_43 (dk_at dksX3_init_0 16 rfl rfl)
theorem dX3_init_17 : decode cX3_init 17 = .ok (.putfield 18, 3) := dk_181 0 18 (dk_at dksX3_init_0 17 rfl rfl)
theorem dX3_init_20 : decode cX3_init 20 = .ok (.aload_n 0, 1) := dk_42 (dk_at dksX3_init_0 20 rfl rfl)
theorem dX3_init_21 : decode cX3_init 21 = .ok (.aload_n 1, 1) := dk_43 (dk_at dksX3_init_0 21 rfl rfl)
theorem dX3_init_22 : decode cX3_init 22 = .ok (.invokevirtual 22, 3) := dk_182 0 22 (dk_at dksX3_init_1 0 rfl rfl)
theorem dX3_init_25 : decode cX3_init 25 = .ok (.putfield 28, 3) := dk_181 0 28 (dk_at dksX3_init_1 3 rfl rfl)
theorem dX3_init_28 : decode cX3_init 28 = .ok (.return_, 1) := dk_177 (dk_at dksX3_init_1 6 rfl rfl)
abbrev cX3_read : ByteArray := prog_8_method_13_code
def yX3_read : MethodName := ⟨RX3, "read", "()LThirdWitness$Town;"⟩
def dkwX3_read_3 : List UInt8 := [176]
abbrev dktX3_read_3 : List UInt8 := dkwX3_read_3 ++ []
def dkwX3_read_2 : List UInt8 := [153, 0, 9, 42, 16, 6, 182, 0, 56, 42, 182, 0, 36, 153, 0, 7, 1, 167, 0, 7, 42, 180, 0, 12]
abbrev dktX3_read_2 : List UInt8 := dkwX3_read_2 ++ dktX3_read_3
def dkwX3_read_1 : List UInt8 := [182, 0, 56, 42, 180, 0, 12, 180, 0, 101, 2, 159, 0, 16, 42, 180, 0, 12, 180, 0, 104, 182, 0, 108]
abbrev dktX3_read_1 : List UInt8 := dkwX3_read_1 ++ dktX3_read_2
def dkwX3_read_0 : List UInt8 := [42, 182, 0, 95, 42, 182, 0, 98, 154, 255, 248, 42, 180, 0, 28, 180, 0, 46, 4, 159, 0, 8, 42, 4]
abbrev dktX3_read_0 : List UInt8 := dkwX3_read_0 ++ dktX3_read_1
theorem dksX3_read_0 : cX3_read.data.toList.drop 0 = dktX3_read_0 := by decide +kernel
theorem dksX3_read_1 : cX3_read.data.toList.drop 24 = dktX3_read_1 := dk_seg dksX3_read_0 24 rfl rfl
theorem dksX3_read_2 : cX3_read.data.toList.drop 48 = dktX3_read_2 := dk_seg dksX3_read_1 24 rfl rfl
theorem dksX3_read_3 : cX3_read.data.toList.drop 72 = dktX3_read_3 := dk_seg dksX3_read_2 24 rfl rfl
theorem dX3_read_0 : decode cX3_read 0 = .ok (.aload_n 0, 1) := dk_42 (dk_at dksX3_read_0 0 rfl rfl)
theorem dX3_read_1 : decode cX3_read 1 = .ok (.invokevirtual 95, 3) := dk_182 0 95 (dk_at dksX3_read_0 1 rfl rfl)
theorem dX3_read_4 : decode cX3_read 4 = .ok (.aload_n 0, 1) := dk_42 (dk_at dksX3_read_0 4 rfl rfl)
theorem dX3_read_5 : decode cX3_read 5 = .ok (.invokevirtual 98, 3) := dk_182 0 98 (dk_at dksX3_read_0 5 rfl rfl)
theorem dX3_read_8 : decode cX3_read 8 = .ok (.ifCond .ne (-8), 3) := dk_154 255 248 (dk_at dksX3_read_0 8 rfl rfl)
theorem dX3_read_11 : decode cX3_read 11 = .ok (.aload_n 0, 1) := dk_42 (dk_at dksX3_read_0 11 rfl rfl)
theorem dX3_read_12 : decode cX3_read 12 = .ok (.getfield 28, 3) := dk_180 0 28 (dk_at dksX3_read_0 12 rfl rfl)
theorem dX3_read_15 : decode cX3_read 15 = .ok (.getfield 46, 3) := dk_180 0 46 (dk_at dksX3_read_0 15 rfl rfl)
theorem dX3_read_18 : decode cX3_read 18 = .ok (.iconst 1, 1) := dk_4 (dk_at dksX3_read_0 18 rfl rfl)
theorem dX3_read_19 : decode cX3_read 19 = .ok (.if_icmp .eq 8, 3) := dk_159 0 8 (dk_at dksX3_read_0 19 rfl rfl)
theorem dX3_read_22 : decode cX3_read 22 = .ok (.aload_n 0, 1) := dk_42 (dk_at dksX3_read_0 22 rfl rfl)
theorem dX3_read_23 : decode cX3_read 23 = .ok (.iconst 1, 1) := dk_4 (dk_at dksX3_read_0 23 rfl rfl)
theorem dX3_read_24 : decode cX3_read 24 = .ok (.invokevirtual 56, 3) := dk_182 0 56 (dk_at dksX3_read_1 0 rfl rfl)
theorem dX3_read_27 : decode cX3_read 27 = .ok (.aload_n 0, 1) := dk_42 (dk_at dksX3_read_1 3 rfl rfl)
theorem dX3_read_28 : decode cX3_read 28 = .ok (.getfield 12, 3) := dk_180 0 12 (dk_at dksX3_read_1 4 rfl rfl)
theorem dX3_read_31 : decode cX3_read 31 = .ok (.getfield 101, 3) := dk_180 0 101 (dk_at dksX3_read_1 7 rfl rfl)
theorem dX3_read_34 : decode cX3_read 34 = .ok (.iconst (-1), 1) := dk_2 (dk_at dksX3_read_1 10 rfl rfl)
theorem dX3_read_35 : decode cX3_read 35 = .ok (.if_icmp .eq 16, 3) := dk_159 0 16 (dk_at dksX3_read_1 11 rfl rfl)
theorem dX3_read_38 : decode cX3_read 38 = .ok (.aload_n 0, 1) := dk_42 (dk_at dksX3_read_1 14 rfl rfl)
theorem dX3_read_39 : decode cX3_read 39 = .ok (.getfield 12, 3) := dk_180 0 12 (dk_at dksX3_read_1 15 rfl rfl)
theorem dX3_read_42 : decode cX3_read 42 = .ok (.getfield 104, 3) := dk_180 0 104 (dk_at dksX3_read_1 18 rfl rfl)
theorem dX3_read_45 : decode cX3_read 45 = .ok (.invokevirtual 108, 3) := dk_182 0 108 (dk_at dksX3_read_1 21 rfl rfl)
theorem dX3_read_48 : decode cX3_read 48 = .ok (.ifCond .eq 9, 3) := dk_153 0 9 (dk_at dksX3_read_2 0 rfl rfl)
theorem dX3_read_51 : decode cX3_read 51 = .ok (.aload_n 0, 1) := dk_42 (dk_at dksX3_read_2 3 rfl rfl)
theorem dX3_read_52 : decode cX3_read 52 = .ok (.bipush 6, 2) := dk_16 6 (dk_at dksX3_read_2 4 rfl rfl)
theorem dX3_read_54 : decode cX3_read 54 = .ok (.invokevirtual 56, 3) := dk_182 0 56 (dk_at dksX3_read_2 6 rfl rfl)
theorem dX3_read_57 : decode cX3_read 57 = .ok (.aload_n 0, 1) := dk_42 (dk_at dksX3_read_2 9 rfl rfl)
theorem dX3_read_58 : decode cX3_read 58 = .ok (.invokevirtual 36, 3) := dk_182 0 36 (dk_at dksX3_read_2 10 rfl rfl)
theorem dX3_read_61 : decode cX3_read 61 = .ok (.ifCond .eq 7, 3) := dk_153 0 7 (dk_at dksX3_read_2 13 rfl rfl)
theorem dX3_read_64 : decode cX3_read 64 = .ok (.aconst_null, 1) := dk_1 (dk_at dksX3_read_2 16 rfl rfl)
theorem dX3_read_65 : decode cX3_read 65 = .ok (.goto 7, 3) := dk_167 0 7 (dk_at dksX3_read_2 17 rfl rfl)
theorem dX3_read_68 : decode cX3_read 68 = .ok (.aload_n 0, 1) := dk_42 (dk_at dksX3_read_2 20 rfl rfl)
theorem dX3_read_69 : decode cX3_read 69 = .ok (.getfield 12, 3) := dk_180 0 12 (dk_at dksX3_read_2 21 rfl rfl)
theorem dX3_read_72 : decode cX3_read 72 = .ok (.areturn, 1) := dk_176 (dk_at dksX3_read_3 0 rfl rfl)
abbrev cX3_line : ByteArray := prog_8_method_14_code
def yX3_line : MethodName := ⟨RX3, "line", "()V"⟩
def dkwX3_line_12 : List UInt8 := [167, 0, 22, 42, 182, 0, 156, 167, 0, 15, 42, 182, 0, 158, 167, 0, 8, 42, 4, 182, 0, 56, 177]
abbrev dktX3_line_12 : List UInt8 := dkwX3_line_12 ++ []
def dkwX3_line_11 : List UInt8 := [182, 0, 148, 167, 0, 43, 42, 182, 0, 150, 167, 0, 36, 42, 182, 0, 152, 167, 0, 29, 42, 182, 0, 154]
abbrev dktX3_line_11 : List UInt8 := dkwX3_line_11 ++ dktX3_line_12
def dkwX3_line_10 : List UInt8 := [42, 182, 0, 141, 167, 0, 64, 42, 182, 0, 144, 167, 0, 57, 42, 182, 0, 146, 167, 0, 50, 42]
abbrev dktX3_line_10 : List UInt8 := dkwX3_line_10 ++ dktX3_line_11
def dkwX3_line_9 : List UInt8 := [170, 0, 0, 0, 112, 0, 0, 0, 0, 0, 0, 0, 8, 0, 0, 0, 49, 0, 0, 0, 56, 0, 0, 0, 63, 0, 0, 0, 70, 0, 0, 0, 77, 0, 0, 0, 84, 0, 0, 0, 91, 0, 0, 0, 98, 0, 0, 0, 105]
abbrev dktX3_line_9 : List UInt8 := dkwX3_line_9 ++ dktX3_line_10
def dkwX3_line_8 : List UInt8 := [182, 0, 122, 153, 0, 6, 16, 8, 61, 28]
abbrev dktX3_line_8 : List UInt8 := dkwX3_line_8 ++ dktX3_line_9
def dkwX3_line_7 : List UInt8 := [61, 167, 0, 30, 43, 18, 137, 182, 0, 122, 153, 0, 21, 16, 7, 61, 167, 0, 15, 43, 18, 139]
abbrev dktX3_line_7 : List UInt8 := dkwX3_line_7 ++ dktX3_line_8
def dkwX3_line_6 : List UInt8 := [18, 133, 182, 0, 122, 153, 0, 50, 8, 61, 167, 0, 45, 43, 18, 135, 182, 0, 122, 153, 0, 36, 16, 6]
abbrev dktX3_line_6 : List UInt8 := dkwX3_line_6 ++ dktX3_line_7
def dkwX3_line_5 : List UInt8 := [153, 0, 78, 6, 61, 167, 0, 73, 43, 18, 131, 182, 0, 122, 153, 0, 64, 7, 61, 167, 0, 59, 43]
abbrev dktX3_line_5 : List UInt8 := dkwX3_line_5 ++ dktX3_line_6
def dkwX3_line_4 : List UInt8 := [61, 167, 0, 101, 43, 18, 127, 182, 0, 122, 153, 0, 92, 5, 61, 167, 0, 87, 43, 18, 129, 182, 0, 122]
abbrev dktX3_line_4 : List UInt8 := dkwX3_line_4 ++ dktX3_line_5
def dkwX3_line_3 : List UInt8 := [43, 18, 121, 182, 0, 122, 153, 0, 120, 3, 61, 167, 0, 115, 43, 18, 126, 182, 0, 122, 153, 0, 106, 4]
abbrev dktX3_line_3 : List UInt8 := dkwX3_line_3 ++ dktX3_line_4
def dkwX3_line_2 : List UInt8 := [171, 0, 0, 0, 0, 208, 0, 0, 0, 9, 196, 227, 155, 85, 0, 0, 0, 124, 205, 235, 38, 46, 0, 0, 0, 181, 0, 48, 127, 150, 0, 0, 0, 138, 0, 48, 222, 244, 0, 0, 0, 166, 0, 53, 206, 128, 0, 0, 0, 110, 0, 54, 106, 146, 0, 0, 0, 82, 5, 194, 202, 186, 0, 0, 0, 196, 6, 92, 217, 7, 0, 0, 0, 96, 38, 211, 155, 36, 0, 0, 0, 152]
abbrev dktX3_line_2 : List UInt8 := dkwX3_line_2 ++ dktX3_line_3
def dkwX3_line_1 : List UInt8 := [2, 61, 43, 182, 0, 115]
abbrev dktX3_line_1 : List UInt8 := dkwX3_line_1 ++ dktX3_line_2
def dkwX3_line_0 : List UInt8 := [42, 180, 0, 28, 180, 0, 46, 5, 160, 0, 13, 42, 180, 0, 28, 180, 0, 81, 167, 0, 5, 18, 113, 76]
abbrev dktX3_line_0 : List UInt8 := dkwX3_line_0 ++ dktX3_line_1
theorem dksX3_line_0 : cX3_line.data.toList.drop 0 = dktX3_line_0 := by decide +kernel
theorem dksX3_line_1 : cX3_line.data.toList.drop 24 = dktX3_line_1 := dk_seg dksX3_line_0 24 rfl rfl
theorem dksX3_line_2 : cX3_line.data.toList.drop 30 = dktX3_line_2 := dk_seg dksX3_line_1 6 rfl rfl
theorem dksX3_line_3 : cX3_line.data.toList.drop 112 = dktX3_line_3 := dk_seg dksX3_line_2 82 rfl rfl
theorem dksX3_line_4 : cX3_line.data.toList.drop 136 = dktX3_line_4 := dk_seg dksX3_line_3 24 rfl rfl
theorem dksX3_line_5 : cX3_line.data.toList.drop 160 = dktX3_line_5 := dk_seg dksX3_line_4 24 rfl rfl
theorem dksX3_line_6 : cX3_line.data.toList.drop 183 = dktX3_line_6 := dk_seg dksX3_line_5 23 rfl rfl
theorem dksX3_line_7 : cX3_line.data.toList.drop 207 = dktX3_line_7 := dk_seg dksX3_line_6 24 rfl rfl
theorem dksX3_line_8 : cX3_line.data.toList.drop 229 = dktX3_line_8 := dk_seg dksX3_line_7 22 rfl rfl
theorem dksX3_line_9 : cX3_line.data.toList.drop 239 = dktX3_line_9 := dk_seg dksX3_line_8 10 rfl rfl
theorem dksX3_line_10 : cX3_line.data.toList.drop 288 = dktX3_line_10 := dk_seg dksX3_line_9 49 rfl rfl
theorem dksX3_line_11 : cX3_line.data.toList.drop 310 = dktX3_line_11 := dk_seg dksX3_line_10 22 rfl rfl
theorem dksX3_line_12 : cX3_line.data.toList.drop 334 = dktX3_line_12 := dk_seg dksX3_line_11 24 rfl rfl
theorem dX3_line_0 : decode cX3_line 0 = .ok (.aload_n 0, 1) := dk_42 (dk_at dksX3_line_0 0 rfl rfl)
theorem dX3_line_1 : decode cX3_line 1 = .ok (.getfield 28, 3) := dk_180 0 28 (dk_at dksX3_line_0 1 rfl rfl)
theorem dX3_line_4 : decode cX3_line 4 = .ok (.getfield 46, 3) := dk_180 0 46 (dk_at dksX3_line_0 4 rfl rfl)
theorem dX3_line_7 : decode cX3_line 7 = .ok (.iconst 2, 1) := dk_5 (dk_at dksX3_line_0 7 rfl rfl)
theorem dX3_line_8 : decode cX3_line 8 = .ok (.if_icmp .ne 13, 3) := dk_160 0 13 (dk_at dksX3_line_0 8 rfl rfl)
theorem dX3_line_11 : decode cX3_line 11 = .ok (.aload_n 0, 1) := dk_42 (dk_at dksX3_line_0 11 rfl rfl)
theorem dX3_line_12 : decode cX3_line 12 = .ok (.getfield 28, 3) := dk_180 0 28 (dk_at dksX3_line_0 12 rfl rfl)
theorem dX3_line_15 : decode cX3_line 15 = .ok (.getfield 81, 3) := dk_180 0 81 (dk_at dksX3_line_0 15 rfl rfl)
theorem dX3_line_18 : decode cX3_line 18 = .ok (.goto 5, 3) := dk_167 0 5 (dk_at dksX3_line_0 18 rfl rfl)
theorem dX3_line_21 : decode cX3_line 21 = .ok (.ldc 113, 2) := dk_18 113 (dk_at dksX3_line_0 21 rfl rfl)
theorem dX3_line_23 : decode cX3_line 23 = .ok (.astore_n 1, 1) := dk_76 (dk_at dksX3_line_0 23 rfl rfl)
theorem dX3_line_24 : decode cX3_line 24 = .ok (.iconst (-1), 1) := dk_2 (dk_at dksX3_line_1 0 rfl rfl)
theorem dX3_line_25 : decode cX3_line 25 = .ok (.istore_n 2, 1) := dk_61 (dk_at dksX3_line_1 1 rfl rfl)
theorem dX3_line_26 : decode cX3_line 26 = .ok (.aload_n 1, 1) := dk_43 (dk_at dksX3_line_1 2 rfl rfl)
theorem dX3_line_27 : decode cX3_line 27 = .ok (.invokevirtual 115, 3) := dk_182 0 115 (dk_at dksX3_line_1 3 rfl rfl)
theorem dX3_line_30 : decode cX3_line 30 = .ok (.lookupswitch 208 #[(-991716523, 124), (-840227282, 181), (3178390, 138), (3202804, 166), (3526272, 110), (3566226, 82), (96651962, 196), (106748167, 96), (651402020, 152)], 82) := by decide +kernel
theorem dX3_line_112 : decode cX3_line 112 = .ok (.aload_n 1, 1) := dk_43 (dk_at dksX3_line_3 0 rfl rfl)
theorem dX3_line_113 : decode cX3_line 113 = .ok (.ldc 121, 2) := dk_18 121 (dk_at dksX3_line_3 1 rfl rfl)
theorem dX3_line_115 : decode cX3_line 115 = .ok (.invokevirtual 122, 3) := dk_182 0 122 (dk_at dksX3_line_3 3 rfl rfl)
theorem dX3_line_118 : decode cX3_line 118 = .ok (.ifCond .eq 120, 3) := dk_153 0 120 (dk_at dksX3_line_3 6 rfl rfl)
theorem dX3_line_121 : decode cX3_line 121 = .ok (.iconst 0, 1) := dk_3 (dk_at dksX3_line_3 9 rfl rfl)
theorem dX3_line_122 : decode cX3_line 122 = .ok (.istore_n 2, 1) := dk_61 (dk_at dksX3_line_3 10 rfl rfl)
theorem dX3_line_123 : decode cX3_line 123 = .ok (.goto 115, 3) := dk_167 0 115 (dk_at dksX3_line_3 11 rfl rfl)
theorem dX3_line_126 : decode cX3_line 126 = .ok (.aload_n 1, 1) := dk_43 (dk_at dksX3_line_3 14 rfl rfl)
theorem dX3_line_127 : decode cX3_line 127 = .ok (.ldc 126, 2) := dk_18 126 (dk_at dksX3_line_3 15 rfl rfl)
theorem dX3_line_129 : decode cX3_line 129 = .ok (.invokevirtual 122, 3) := dk_182 0 122 (dk_at dksX3_line_3 17 rfl rfl)
theorem dX3_line_132 : decode cX3_line 132 = .ok (.ifCond .eq 106, 3) := dk_153 0 106 (dk_at dksX3_line_3 20 rfl rfl)
theorem dX3_line_135 : decode cX3_line 135 = .ok (.iconst 1, 1) := dk_4 (dk_at dksX3_line_3 23 rfl rfl)
theorem dX3_line_136 : decode cX3_line 136 = .ok (.istore_n 2, 1) := dk_61 (dk_at dksX3_line_4 0 rfl rfl)
theorem dX3_line_137 : decode cX3_line 137 = .ok (.goto 101, 3) := dk_167 0 101 (dk_at dksX3_line_4 1 rfl rfl)
theorem dX3_line_140 : decode cX3_line 140 = .ok (.aload_n 1, 1) := dk_43 (dk_at dksX3_line_4 4 rfl rfl)
theorem dX3_line_141 : decode cX3_line 141 = .ok (.ldc 127, 2) := dk_18 127 (dk_at dksX3_line_4 5 rfl rfl)
theorem dX3_line_143 : decode cX3_line 143 = .ok (.invokevirtual 122, 3) := dk_182 0 122 (dk_at dksX3_line_4 7 rfl rfl)
theorem dX3_line_146 : decode cX3_line 146 = .ok (.ifCond .eq 92, 3) := dk_153 0 92 (dk_at dksX3_line_4 10 rfl rfl)
theorem dX3_line_149 : decode cX3_line 149 = .ok (.iconst 2, 1) := dk_5 (dk_at dksX3_line_4 13 rfl rfl)
theorem dX3_line_150 : decode cX3_line 150 = .ok (.istore_n 2, 1) := dk_61 (dk_at dksX3_line_4 14 rfl rfl)
theorem dX3_line_151 : decode cX3_line 151 = .ok (.goto 87, 3) := dk_167 0 87 (dk_at dksX3_line_4 15 rfl rfl)
theorem dX3_line_154 : decode cX3_line 154 = .ok (.aload_n 1, 1) := dk_43 (dk_at dksX3_line_4 18 rfl rfl)
theorem dX3_line_155 : decode cX3_line 155 = .ok (.ldc 129, 2) := dk_18 129 (dk_at dksX3_line_4 19 rfl rfl)
theorem dX3_line_157 : decode cX3_line 157 = .ok (.invokevirtual 122, 3) := dk_182 0 122 (dk_at dksX3_line_4 21 rfl rfl)
theorem dX3_line_160 : decode cX3_line 160 = .ok (.ifCond .eq 78, 3) := dk_153 0 78 (dk_at dksX3_line_5 0 rfl rfl)
theorem dX3_line_163 : decode cX3_line 163 = .ok (.iconst 3, 1) := dk_6 (dk_at dksX3_line_5 3 rfl rfl)
theorem dX3_line_164 : decode cX3_line 164 = .ok (.istore_n 2, 1) := dk_61 (dk_at dksX3_line_5 4 rfl rfl)
theorem dX3_line_165 : decode cX3_line 165 = .ok (.goto 73, 3) := dk_167 0 73 (dk_at dksX3_line_5 5 rfl rfl)
theorem dX3_line_168 : decode cX3_line 168 = .ok (.aload_n 1, 1) := dk_43 (dk_at dksX3_line_5 8 rfl rfl)
theorem dX3_line_169 : decode cX3_line 169 = .ok (.ldc 131, 2) := dk_18 131 (dk_at dksX3_line_5 9 rfl rfl)
theorem dX3_line_171 : decode cX3_line 171 = .ok (.invokevirtual 122, 3) := dk_182 0 122 (dk_at dksX3_line_5 11 rfl rfl)
theorem dX3_line_174 : decode cX3_line 174 = .ok (.ifCond .eq 64, 3) := dk_153 0 64 (dk_at dksX3_line_5 14 rfl rfl)
theorem dX3_line_177 : decode cX3_line 177 = .ok (.iconst 4, 1) := dk_7 (dk_at dksX3_line_5 17 rfl rfl)
theorem dX3_line_178 : decode cX3_line 178 = .ok (.istore_n 2, 1) := dk_61 (dk_at dksX3_line_5 18 rfl rfl)
theorem dX3_line_179 : decode cX3_line 179 = .ok (.goto 59, 3) := dk_167 0 59 (dk_at dksX3_line_5 19 rfl rfl)
theorem dX3_line_182 : decode cX3_line 182 = .ok (.aload_n 1, 1) := dk_43 (dk_at dksX3_line_5 22 rfl rfl)
theorem dX3_line_183 : decode cX3_line 183 = .ok (.ldc 133, 2) := dk_18 133 (dk_at dksX3_line_6 0 rfl rfl)
theorem dX3_line_185 : decode cX3_line 185 = .ok (.invokevirtual 122, 3) := dk_182 0 122 (dk_at dksX3_line_6 2 rfl rfl)
theorem dX3_line_188 : decode cX3_line 188 = .ok (.ifCond .eq 50, 3) := dk_153 0 50 (dk_at dksX3_line_6 5 rfl rfl)
theorem dX3_line_191 : decode cX3_line 191 = .ok (.iconst 5, 1) := dk_8 (dk_at dksX3_line_6 8 rfl rfl)
theorem dX3_line_192 : decode cX3_line 192 = .ok (.istore_n 2, 1) := dk_61 (dk_at dksX3_line_6 9 rfl rfl)
theorem dX3_line_193 : decode cX3_line 193 = .ok (.goto 45, 3) := dk_167 0 45 (dk_at dksX3_line_6 10 rfl rfl)
theorem dX3_line_196 : decode cX3_line 196 = .ok (.aload_n 1, 1) := dk_43 (dk_at dksX3_line_6 13 rfl rfl)
theorem dX3_line_197 : decode cX3_line 197 = .ok (.ldc 135, 2) := dk_18 135 (dk_at dksX3_line_6 14 rfl rfl)
theorem dX3_line_199 : decode cX3_line 199 = .ok (.invokevirtual 122, 3) := dk_182 0 122 (dk_at dksX3_line_6 16 rfl rfl)
theorem dX3_line_202 : decode cX3_line 202 = .ok (.ifCond .eq 36, 3) := dk_153 0 36 (dk_at dksX3_line_6 19 rfl rfl)
theorem dX3_line_205 : decode cX3_line 205 = .ok (.bipush 6, 2) := dk_16 6 (dk_at dksX3_line_6 22 rfl rfl)
theorem dX3_line_207 : decode cX3_line 207 = .ok (.istore_n 2, 1) := dk_61 (dk_at dksX3_line_7 0 rfl rfl)
theorem dX3_line_208 : decode cX3_line 208 = .ok (.goto 30, 3) := dk_167 0 30 (dk_at dksX3_line_7 1 rfl rfl)
theorem dX3_line_211 : decode cX3_line 211 = .ok (.aload_n 1, 1) := dk_43 (dk_at dksX3_line_7 4 rfl rfl)
theorem dX3_line_212 : decode cX3_line 212 = .ok (.ldc 137, 2) := dk_18 137 (dk_at dksX3_line_7 5 rfl rfl)
theorem dX3_line_214 : decode cX3_line 214 = .ok (.invokevirtual 122, 3) := dk_182 0 122 (dk_at dksX3_line_7 7 rfl rfl)
theorem dX3_line_217 : decode cX3_line 217 = .ok (.ifCond .eq 21, 3) := dk_153 0 21 (dk_at dksX3_line_7 10 rfl rfl)
theorem dX3_line_220 : decode cX3_line 220 = .ok (.bipush 7, 2) := dk_16 7 (dk_at dksX3_line_7 13 rfl rfl)
theorem dX3_line_222 : decode cX3_line 222 = .ok (.istore_n 2, 1) := dk_61 (dk_at dksX3_line_7 15 rfl rfl)
theorem dX3_line_223 : decode cX3_line 223 = .ok (.goto 15, 3) := dk_167 0 15 (dk_at dksX3_line_7 16 rfl rfl)
theorem dX3_line_226 : decode cX3_line 226 = .ok (.aload_n 1, 1) := dk_43 (dk_at dksX3_line_7 19 rfl rfl)
theorem dX3_line_227 : decode cX3_line 227 = .ok (.ldc 139, 2) := dk_18 139 (dk_at dksX3_line_7 20 rfl rfl)
theorem dX3_line_229 : decode cX3_line 229 = .ok (.invokevirtual 122, 3) := dk_182 0 122 (dk_at dksX3_line_8 0 rfl rfl)
theorem dX3_line_232 : decode cX3_line 232 = .ok (.ifCond .eq 6, 3) := dk_153 0 6 (dk_at dksX3_line_8 3 rfl rfl)
theorem dX3_line_235 : decode cX3_line 235 = .ok (.bipush 8, 2) := dk_16 8 (dk_at dksX3_line_8 6 rfl rfl)
theorem dX3_line_237 : decode cX3_line 237 = .ok (.istore_n 2, 1) := dk_61 (dk_at dksX3_line_8 8 rfl rfl)
theorem dX3_line_238 : decode cX3_line 238 = .ok (.iload_n 2, 1) := dk_28 (dk_at dksX3_line_8 9 rfl rfl)
theorem dX3_line_239 : decode cX3_line 239 = .ok (.tableswitch 112 0 8 #[49, 56, 63, 70, 77, 84, 91, 98, 105], 49) := by decide +kernel
theorem dX3_line_288 : decode cX3_line 288 = .ok (.aload_n 0, 1) := dk_42 (dk_at dksX3_line_10 0 rfl rfl)
theorem dX3_line_289 : decode cX3_line 289 = .ok (.invokevirtual 141, 3) := dk_182 0 141 (dk_at dksX3_line_10 1 rfl rfl)
theorem dX3_line_292 : decode cX3_line 292 = .ok (.goto 64, 3) := dk_167 0 64 (dk_at dksX3_line_10 4 rfl rfl)
theorem dX3_line_295 : decode cX3_line 295 = .ok (.aload_n 0, 1) := dk_42 (dk_at dksX3_line_10 7 rfl rfl)
theorem dX3_line_296 : decode cX3_line 296 = .ok (.invokevirtual 144, 3) := dk_182 0 144 (dk_at dksX3_line_10 8 rfl rfl)
theorem dX3_line_299 : decode cX3_line 299 = .ok (.goto 57, 3) := dk_167 0 57 (dk_at dksX3_line_10 11 rfl rfl)
theorem dX3_line_302 : decode cX3_line 302 = .ok (.aload_n 0, 1) := dk_42 (dk_at dksX3_line_10 14 rfl rfl)
theorem dX3_line_303 : decode cX3_line 303 = .ok (.invokevirtual 146, 3) := dk_182 0 146 (dk_at dksX3_line_10 15 rfl rfl)
theorem dX3_line_306 : decode cX3_line 306 = .ok (.goto 50, 3) := dk_167 0 50 (dk_at dksX3_line_10 18 rfl rfl)
theorem dX3_line_309 : decode cX3_line 309 = .ok (.aload_n 0, 1) := dk_42 (dk_at dksX3_line_10 21 rfl rfl)
theorem dX3_line_310 : decode cX3_line 310 = .ok (.invokevirtual 148, 3) := dk_182 0 148 (dk_at dksX3_line_11 0 rfl rfl)
theorem dX3_line_313 : decode cX3_line 313 = .ok (.goto 43, 3) := dk_167 0 43 (dk_at dksX3_line_11 3 rfl rfl)
theorem dX3_line_316 : decode cX3_line 316 = .ok (.aload_n 0, 1) := dk_42 (dk_at dksX3_line_11 6 rfl rfl)
theorem dX3_line_317 : decode cX3_line 317 = .ok (.invokevirtual 150, 3) := dk_182 0 150 (dk_at dksX3_line_11 7 rfl rfl)
theorem dX3_line_320 : decode cX3_line 320 = .ok (.goto 36, 3) := dk_167 0 36 (dk_at dksX3_line_11 10 rfl rfl)
theorem dX3_line_323 : decode cX3_line 323 = .ok (.aload_n 0, 1) := dk_42 (dk_at dksX3_line_11 13 rfl rfl)
theorem dX3_line_324 : decode cX3_line 324 = .ok (.invokevirtual 152, 3) := dk_182 0 152 (dk_at dksX3_line_11 14 rfl rfl)
theorem dX3_line_327 : decode cX3_line 327 = .ok (.goto 29, 3) := dk_167 0 29 (dk_at dksX3_line_11 17 rfl rfl)
theorem dX3_line_330 : decode cX3_line 330 = .ok (.aload_n 0, 1) := dk_42 (dk_at dksX3_line_11 20 rfl rfl)
theorem dX3_line_331 : decode cX3_line 331 = .ok (.invokevirtual 154, 3) := dk_182 0 154 (dk_at dksX3_line_11 21 rfl rfl)
theorem dX3_line_334 : decode cX3_line 334 = .ok (.goto 22, 3) := dk_167 0 22 (dk_at dksX3_line_12 0 rfl rfl)
theorem dX3_line_337 : decode cX3_line 337 = .ok (.aload_n 0, 1) := dk_42 (dk_at dksX3_line_12 3 rfl rfl)
theorem dX3_line_338 : decode cX3_line 338 = .ok (.invokevirtual 156, 3) := dk_182 0 156 (dk_at dksX3_line_12 4 rfl rfl)
theorem dX3_line_341 : decode cX3_line 341 = .ok (.goto 15, 3) := dk_167 0 15 (dk_at dksX3_line_12 7 rfl rfl)
theorem dX3_line_344 : decode cX3_line 344 = .ok (.aload_n 0, 1) := dk_42 (dk_at dksX3_line_12 10 rfl rfl)
theorem dX3_line_345 : decode cX3_line 345 = .ok (.invokevirtual 158, 3) := dk_182 0 158 (dk_at dksX3_line_12 11 rfl rfl)
theorem dX3_line_348 : decode cX3_line 348 = .ok (.goto 8, 3) := dk_167 0 8 (dk_at dksX3_line_12 14 rfl rfl)
theorem dX3_line_351 : decode cX3_line 351 = .ok (.aload_n 0, 1) := dk_42 (dk_at dksX3_line_12 17 rfl rfl)
theorem dX3_line_352 : decode cX3_line 352 = .ok (.iconst 1, 1) := dk_4 (dk_at dksX3_line_12 18 rfl rfl)
theorem dX3_line_353 : decode cX3_line 353 = .ok (.invokevirtual 56, 3) := dk_182 0 56 (dk_at dksX3_line_12 19 rfl rfl)
theorem dX3_line_356 : decode cX3_line 356 = .ok (.return_, 1) := dk_177 (dk_at dksX3_line_12 22 rfl rfl)
abbrev cX3_townLine : ByteArray := prog_8_method_16_code
def yX3_townLine : MethodName := ⟨RX3, "townLine", "()V"⟩
def dkwX3_townLine_1 : List UInt8 := [16, 100, 182, 0, 161, 60, 42, 182, 0, 36, 154, 0, 11, 42, 180, 0, 12, 27, 181, 0, 101, 177]
abbrev dktX3_townLine_1 : List UInt8 := dkwX3_townLine_1 ++ []
def dkwX3_townLine_0 : List UInt8 := [42, 180, 0, 12, 180, 0, 101, 2, 159, 0, 8, 42, 6, 182, 0, 56, 42, 182, 0, 49, 42, 18, 160, 3]
abbrev dktX3_townLine_0 : List UInt8 := dkwX3_townLine_0 ++ dktX3_townLine_1
theorem dksX3_townLine_0 : cX3_townLine.data.toList.drop 0 = dktX3_townLine_0 := by decide +kernel
theorem dksX3_townLine_1 : cX3_townLine.data.toList.drop 24 = dktX3_townLine_1 := dk_seg dksX3_townLine_0 24 rfl rfl
theorem dX3_townLine_0 : decode cX3_townLine 0 = .ok (.aload_n 0, 1) := dk_42 (dk_at dksX3_townLine_0 0 rfl rfl)
theorem dX3_townLine_1 : decode cX3_townLine 1 = .ok (.getfield 12, 3) := dk_180 0 12 (dk_at dksX3_townLine_0 1 rfl rfl)
theorem dX3_townLine_4 : decode cX3_townLine 4 = .ok (.getfield 101, 3) := dk_180 0 101 (dk_at dksX3_townLine_0 4 rfl rfl)
theorem dX3_townLine_7 : decode cX3_townLine 7 = .ok (.iconst (-1), 1) := dk_2 (dk_at dksX3_townLine_0 7 rfl rfl)
theorem dX3_townLine_8 : decode cX3_townLine 8 = .ok (.if_icmp .eq 8, 3) := dk_159 0 8 (dk_at dksX3_townLine_0 8 rfl rfl)
theorem dX3_townLine_11 : decode cX3_townLine 11 = .ok (.aload_n 0, 1) := dk_42 (dk_at dksX3_townLine_0 11 rfl rfl)
theorem dX3_townLine_12 : decode cX3_townLine 12 = .ok (.iconst 3, 1) := dk_6 (dk_at dksX3_townLine_0 12 rfl rfl)
theorem dX3_townLine_13 : decode cX3_townLine 13 = .ok (.invokevirtual 56, 3) := dk_182 0 56 (dk_at dksX3_townLine_0 13 rfl rfl)
theorem dX3_townLine_16 : decode cX3_townLine 16 = .ok (.aload_n 0, 1) := dk_42 (dk_at dksX3_townLine_0 16 rfl rfl)
theorem dX3_townLine_17 : decode cX3_townLine 17 = .ok (.invokevirtual 49, 3) := dk_182 0 49 (dk_at dksX3_townLine_0 17 rfl rfl)
theorem dX3_townLine_20 : decode cX3_townLine 20 = .ok (.aload_n 0, 1) := dk_42 (dk_at dksX3_townLine_0 20 rfl rfl)
theorem dX3_townLine_21 : decode cX3_townLine 21 = .ok (.ldc 160, 2) := dk_18 160 (dk_at dksX3_townLine_0 21 rfl rfl)
theorem dX3_townLine_23 : decode cX3_townLine 23 = .ok (.iconst 0, 1) := dk_3 (dk_at dksX3_townLine_0 23 rfl rfl)
theorem dX3_townLine_24 : decode cX3_townLine 24 = .ok (.bipush 100, 2) := dk_16 100 (dk_at dksX3_townLine_1 0 rfl rfl)
theorem dX3_townLine_26 : decode cX3_townLine 26 = .ok (.invokevirtual 161, 3) := dk_182 0 161 (dk_at dksX3_townLine_1 2 rfl rfl)
theorem dX3_townLine_29 : decode cX3_townLine 29 = .ok (.istore_n 1, 1) := dk_60 (dk_at dksX3_townLine_1 5 rfl rfl)
theorem dX3_townLine_30 : decode cX3_townLine 30 = .ok (.aload_n 0, 1) := dk_42 (dk_at dksX3_townLine_1 6 rfl rfl)
theorem dX3_townLine_31 : decode cX3_townLine 31 = .ok (.invokevirtual 36, 3) := dk_182 0 36 (dk_at dksX3_townLine_1 7 rfl rfl)
theorem dX3_townLine_34 : decode cX3_townLine 34 = .ok (.ifCond .ne 11, 3) := dk_154 0 11 (dk_at dksX3_townLine_1 10 rfl rfl)
theorem dX3_townLine_37 : decode cX3_townLine 37 = .ok (.aload_n 0, 1) := dk_42 (dk_at dksX3_townLine_1 13 rfl rfl)
theorem dX3_townLine_38 : decode cX3_townLine 38 = .ok (.getfield 12, 3) := dk_180 0 12 (dk_at dksX3_townLine_1 14 rfl rfl)
theorem dX3_townLine_41 : decode cX3_townLine 41 = .ok (.iload_n 1, 1) := dk_27 (dk_at dksX3_townLine_1 17 rfl rfl)
theorem dX3_townLine_42 : decode cX3_townLine 42 = .ok (.putfield 101, 3) := dk_181 0 101 (dk_at dksX3_townLine_1 18 rfl rfl)
theorem dX3_townLine_45 : decode cX3_townLine 45 = .ok (.return_, 1) := dk_177 (dk_at dksX3_townLine_1 21 rfl rfl)
abbrev cX3_wrong : ByteArray := prog_8_method_3_code
def yX3_wrong : MethodName := ⟨RX3, "wrong", "(I)V"⟩
def dkwX3_wrong_1 : List UInt8 := [177]
abbrev dktX3_wrong_1 : List UInt8 := dkwX3_wrong_1 ++ []
def dkwX3_wrong_0 : List UInt8 := [42, 182, 0, 36, 153, 0, 4, 177, 42, 27, 181, 0, 32, 42, 42, 180, 0, 28, 180, 0, 40, 181, 0, 45]
abbrev dktX3_wrong_0 : List UInt8 := dkwX3_wrong_0 ++ dktX3_wrong_1
theorem dksX3_wrong_0 : cX3_wrong.data.toList.drop 0 = dktX3_wrong_0 := by decide +kernel
theorem dksX3_wrong_1 : cX3_wrong.data.toList.drop 24 = dktX3_wrong_1 := dk_seg dksX3_wrong_0 24 rfl rfl
theorem dX3_wrong_0 : decode cX3_wrong 0 = .ok (.aload_n 0, 1) := dk_42 (dk_at dksX3_wrong_0 0 rfl rfl)
theorem dX3_wrong_1 : decode cX3_wrong 1 = .ok (.invokevirtual 36, 3) := dk_182 0 36 (dk_at dksX3_wrong_0 1 rfl rfl)
theorem dX3_wrong_4 : decode cX3_wrong 4 = .ok (.ifCond .eq 4, 3) := dk_153 0 4 (dk_at dksX3_wrong_0 4 rfl rfl)
theorem dX3_wrong_7 : decode cX3_wrong 7 = .ok (.return_, 1) := dk_177 (dk_at dksX3_wrong_0 7 rfl rfl)
theorem dX3_wrong_8 : decode cX3_wrong 8 = .ok (.aload_n 0, 1) := dk_42 (dk_at dksX3_wrong_0 8 rfl rfl)
theorem dX3_wrong_9 : decode cX3_wrong 9 = .ok (.iload_n 1, 1) := dk_27 (dk_at dksX3_wrong_0 9 rfl rfl)
theorem dX3_wrong_10 : decode cX3_wrong 10 = .ok (.putfield 32, 3) := dk_181 0 32 (dk_at dksX3_wrong_0 10 rfl rfl)
theorem dX3_wrong_13 : decode cX3_wrong 13 = .ok (.aload_n 0, 1) := dk_42 (dk_at dksX3_wrong_0 13 rfl rfl)
theorem dX3_wrong_14 : decode cX3_wrong 14 = .ok (.aload_n 0, 1) := dk_42 (dk_at dksX3_wrong_0 14 rfl rfl)
theorem dX3_wrong_15 : decode cX3_wrong 15 = .ok (.getfield 28, 3) := dk_180 0 28 (dk_at dksX3_wrong_0 15 rfl rfl)
theorem dX3_wrong_18 : decode cX3_wrong 18 = .ok (.getfield 40, 3) := dk_180 0 40 (dk_at dksX3_wrong_0 18 rfl rfl)
theorem dX3_wrong_21 : decode cX3_wrong 21 = .ok (.putfield 45, 3) := dk_181 0 45 (dk_at dksX3_wrong_0 21 rfl rfl)
theorem dX3_wrong_24 : decode cX3_wrong 24 = .ok (.return_, 1) := dk_177 (dk_at dksX3_wrong_1 0 rfl rfl)
abbrev cX3_isOver : ByteArray := prog_8_method_2_code
def yX3_isOver : MethodName := ⟨RX3, "isOve\x72", "()Z"⟩
def dkwX3_isOver_0 : List UInt8 := [42, 180, 0, 32, 158, 0, 7, 4, 167, 0, 4, 3, 172]
abbrev dktX3_isOver_0 : List UInt8 := dkwX3_isOver_0 ++ []
theorem dksX3_isOver_0 : cX3_isOver.data.toList.drop 0 = dktX3_isOver_0 := by decide +kernel
theorem dX3_isOver_0 : decode cX3_isOver 0 = .ok (.aload_n 0, 1) := dk_42 (dk_at dksX3_isOver_0 0 rfl rfl)
theorem dX3_isOver_1 : decode cX3_isOver 1 = .ok (.getfield 32, 3) := dk_180 0 32 (dk_at dksX3_isOver_0 1 rfl rfl)
theorem dX3_isOver_4 : decode cX3_isOver 4 = .ok (.ifCond .le 7, 3) := dk_158 0 7 (dk_at dksX3_isOver_0 4 rfl rfl)
theorem dX3_isOver_7 : decode cX3_isOver 7 = .ok (.iconst 1, 1) := dk_4 (dk_at dksX3_isOver_0 7 rfl rfl)
theorem dX3_isOver_8 : decode cX3_isOver 8 = .ok (.goto 4, 3) := dk_167 0 4 (dk_at dksX3_isOver_0 8 rfl rfl)
theorem dX3_isOver_11 : decode cX3_isOver 11 = .ok (.iconst 0, 1) := dk_3 (dk_at dksX3_isOver_0 11 rfl rfl)
theorem dX3_isOver_12 : decode cX3_isOver 12 = .ok (.ireturn, 1) := dk_172 (dk_at dksX3_isOver_0 12 rfl rfl)
abbrev cX3_on : ByteArray := prog_8_method_4_code
def yX3_on : MethodName := ⟨RX3, "on", "()V"⟩
def dkwX3_on_1 : List UInt8 := [182, 0, 22, 181, 0, 28, 177]
abbrev dktX3_on_1 : List UInt8 := dkwX3_on_1 ++ []
def dkwX3_on_0 : List UInt8 := [42, 182, 0, 36, 154, 0, 25, 42, 180, 0, 28, 180, 0, 46, 4, 159, 0, 14, 42, 42, 180, 0, 18]
abbrev dktX3_on_0 : List UInt8 := dkwX3_on_0 ++ dktX3_on_1
theorem dksX3_on_0 : cX3_on.data.toList.drop 0 = dktX3_on_0 := by decide +kernel
theorem dksX3_on_1 : cX3_on.data.toList.drop 23 = dktX3_on_1 := dk_seg dksX3_on_0 23 rfl rfl
theorem dX3_on_0 : decode cX3_on 0 = .ok (.aload_n 0, 1) := dk_42 (dk_at dksX3_on_0 0 rfl rfl)
theorem dX3_on_1 : decode cX3_on 1 = .ok (.invokevirtual 36, 3) := dk_182 0 36 (dk_at dksX3_on_0 1 rfl rfl)
theorem dX3_on_4 : decode cX3_on 4 = .ok (.ifCond .ne 25, 3) := dk_154 0 25 (dk_at dksX3_on_0 4 rfl rfl)
theorem dX3_on_7 : decode cX3_on 7 = .ok (.aload_n 0, 1) := dk_42 (dk_at dksX3_on_0 7 rfl rfl)
theorem dX3_on_8 : decode cX3_on 8 = .ok (.getfield 28, 3) := dk_180 0 28 (dk_at dksX3_on_0 8 rfl rfl)
theorem dX3_on_11 : decode cX3_on 11 = .ok (.getfield 46, 3) := dk_180 0 46 (dk_at dksX3_on_0 11 rfl rfl)
theorem dX3_on_14 : decode cX3_on 14 = .ok (.iconst 1, 1) := dk_4 (dk_at dksX3_on_0 14 rfl rfl)
theorem dX3_on_15 : decode cX3_on 15 = .ok (.if_icmp .eq 14, 3) := dk_159 0 14 (dk_at dksX3_on_0 15 rfl rfl)
theorem dX3_on_18 : decode cX3_on 18 = .ok (.aload_n 0, 1) := dk_42 (dk_at dksX3_on_0 18 rfl rfl)
theorem dX3_on_19 : decode cX3_on 19 = .ok (.aload_n 0, 1) := dk_42 (dk_at dksX3_on_0 19 rfl rfl)
theorem dX3_on_20 : decode cX3_on 20 = .ok (.getfield 18, 3) := dk_180 0 18 (dk_at dksX3_on_0 20 rfl rfl)
theorem dX3_on_23 : decode cX3_on 23 = .ok (.invokevirtual 22, 3) := dk_182 0 22 (dk_at dksX3_on_1 0 rfl rfl)
theorem dX3_on_26 : decode cX3_on 26 = .ok (.putfield 28, 3) := dk_181 0 28 (dk_at dksX3_on_1 3 rfl rfl)
theorem dX3_on_29 : decode cX3_on 29 = .ok (.return_, 1) := dk_177 (dk_at dksX3_on_1 6 rfl rfl)
abbrev cX3_part : ByteArray := prog_8_method_9_code
def yX3_part : MethodName := ⟨RX3, "part", "(Ljava/lang/String;II)I"⟩
def dkwX3_part_0 : List UInt8 := [42, 43, 182, 0, 71, 42, 28, 29, 182, 0, 75, 172]
abbrev dktX3_part_0 : List UInt8 := dkwX3_part_0 ++ []
theorem dksX3_part_0 : cX3_part.data.toList.drop 0 = dktX3_part_0 := by decide +kernel
theorem dX3_part_0 : decode cX3_part 0 = .ok (.aload_n 0, 1) := dk_42 (dk_at dksX3_part_0 0 rfl rfl)
theorem dX3_part_1 : decode cX3_part 1 = .ok (.aload_n 1, 1) := dk_43 (dk_at dksX3_part_0 1 rfl rfl)
theorem dX3_part_2 : decode cX3_part 2 = .ok (.invokevirtual 71, 3) := dk_182 0 71 (dk_at dksX3_part_0 2 rfl rfl)
theorem dX3_part_5 : decode cX3_part 5 = .ok (.aload_n 0, 1) := dk_42 (dk_at dksX3_part_0 5 rfl rfl)
theorem dX3_part_6 : decode cX3_part 6 = .ok (.iload_n 2, 1) := dk_28 (dk_at dksX3_part_0 6 rfl rfl)
theorem dX3_part_7 : decode cX3_part 7 = .ok (.iload_n 3, 1) := dk_29 (dk_at dksX3_part_0 7 rfl rfl)
theorem dX3_part_8 : decode cX3_part 8 = .ok (.invokevirtual 75, 3) := dk_182 0 75 (dk_at dksX3_part_0 8 rfl rfl)
theorem dX3_part_11 : decode cX3_part 11 = .ok (.ireturn, 1) := dk_172 (dk_at dksX3_part_0 11 rfl rfl)
abbrev cX3_needs : ByteArray := prog_8_method_6_code
def yX3_needs : MethodName := ⟨RX3, "needs", "(Ljava/lang/String;)V"⟩
def dkwX3_needs_0 : List UInt8 := [42, 180, 0, 28, 43, 182, 0, 52, 154, 0, 8, 42, 4, 182, 0, 56, 42, 182, 0, 49, 177]
abbrev dktX3_needs_0 : List UInt8 := dkwX3_needs_0 ++ []
theorem dksX3_needs_0 : cX3_needs.data.toList.drop 0 = dktX3_needs_0 := by decide +kernel
theorem dX3_needs_0 : decode cX3_needs 0 = .ok (.aload_n 0, 1) := dk_42 (dk_at dksX3_needs_0 0 rfl rfl)
theorem dX3_needs_1 : decode cX3_needs 1 = .ok (.getfield 28, 3) := dk_180 0 28 (dk_at dksX3_needs_0 1 rfl rfl)
theorem dX3_needs_4 : decode cX3_needs 4 = .ok (.aload_n 1, 1) := dk_43 (dk_at dksX3_needs_0 4 rfl rfl)
theorem dX3_needs_5 : decode cX3_needs 5 = .ok (.invokevirtual 52, 3) := dk_182 0 52 (dk_at dksX3_needs_0 5 rfl rfl)
theorem dX3_needs_8 : decode cX3_needs 8 = .ok (.ifCond .ne 8, 3) := dk_154 0 8 (dk_at dksX3_needs_0 8 rfl rfl)
theorem dX3_needs_11 : decode cX3_needs 11 = .ok (.aload_n 0, 1) := dk_42 (dk_at dksX3_needs_0 11 rfl rfl)
theorem dX3_needs_12 : decode cX3_needs 12 = .ok (.iconst 1, 1) := dk_4 (dk_at dksX3_needs_0 12 rfl rfl)
theorem dX3_needs_13 : decode cX3_needs 13 = .ok (.invokevirtual 56, 3) := dk_182 0 56 (dk_at dksX3_needs_0 13 rfl rfl)
theorem dX3_needs_16 : decode cX3_needs 16 = .ok (.aload_n 0, 1) := dk_42 (dk_at dksX3_needs_0 16 rfl rfl)
theorem dX3_needs_17 : decode cX3_needs 17 = .ok (.invokevirtual 49, 3) := dk_182 0 49 (dk_at dksX3_needs_0 17 rfl rfl)
theorem dX3_needs_20 : decode cX3_needs 20 = .ok (.return_, 1) := dk_177 (dk_at dksX3_needs_0 20 rfl rfl)
abbrev cX3_whole : ByteArray := prog_8_method_8_code
def yX3_whole : MethodName := ⟨RX3, "whole", "(II)I"⟩
def dkwX3_whole_0 : List UInt8 := [42, 27, 28, 182, 0, 67, 62, 42, 182, 0, 49, 29, 172]
abbrev dktX3_whole_0 : List UInt8 := dkwX3_whole_0 ++ []
theorem dksX3_whole_0 : cX3_whole.data.toList.drop 0 = dktX3_whole_0 := by decide +kernel
theorem dX3_whole_0 : decode cX3_whole 0 = .ok (.aload_n 0, 1) := dk_42 (dk_at dksX3_whole_0 0 rfl rfl)
theorem dX3_whole_1 : decode cX3_whole 1 = .ok (.iload_n 1, 1) := dk_27 (dk_at dksX3_whole_0 1 rfl rfl)
theorem dX3_whole_2 : decode cX3_whole 2 = .ok (.iload_n 2, 1) := dk_28 (dk_at dksX3_whole_0 2 rfl rfl)
theorem dX3_whole_3 : decode cX3_whole 3 = .ok (.invokevirtual 67, 3) := dk_182 0 67 (dk_at dksX3_whole_0 3 rfl rfl)
theorem dX3_whole_6 : decode cX3_whole 6 = .ok (.istore_n 3, 1) := dk_62 (dk_at dksX3_whole_0 6 rfl rfl)
theorem dX3_whole_7 : decode cX3_whole 7 = .ok (.aload_n 0, 1) := dk_42 (dk_at dksX3_whole_0 7 rfl rfl)
theorem dX3_whole_8 : decode cX3_whole 8 = .ok (.invokevirtual 49, 3) := dk_182 0 49 (dk_at dksX3_whole_0 8 rfl rfl)
theorem dX3_whole_11 : decode cX3_whole 11 = .ok (.iload_n 3, 1) := dk_29 (dk_at dksX3_whole_0 11 rfl rfl)
theorem dX3_whole_12 : decode cX3_whole 12 = .ok (.ireturn, 1) := dk_172 (dk_at dksX3_whole_0 12 rfl rfl)
abbrev cX3_wholeAt : ByteArray := prog_8_method_7_code
def yX3_wholeAt : MethodName := ⟨RX3, "wholeAt", "(II)I"⟩
def dkwX3_wholeAt_1 : List UInt8 := [180, 0, 60, 27, 28, 184, 0, 63, 154, 0, 8, 42, 7, 182, 0, 56, 42, 180, 0, 28, 180, 0, 60, 172]
abbrev dktX3_wholeAt_1 : List UInt8 := dkwX3_wholeAt_1 ++ []
def dkwX3_wholeAt_0 : List UInt8 := [42, 180, 0, 28, 180, 0, 46, 6, 159, 0, 11, 42, 4, 182, 0, 56, 167, 0, 23, 42, 180, 0, 28]
abbrev dktX3_wholeAt_0 : List UInt8 := dkwX3_wholeAt_0 ++ dktX3_wholeAt_1
theorem dksX3_wholeAt_0 : cX3_wholeAt.data.toList.drop 0 = dktX3_wholeAt_0 := by decide +kernel
theorem dksX3_wholeAt_1 : cX3_wholeAt.data.toList.drop 23 = dktX3_wholeAt_1 := dk_seg dksX3_wholeAt_0 23 rfl rfl
theorem dX3_wholeAt_0 : decode cX3_wholeAt 0 = .ok (.aload_n 0, 1) := dk_42 (dk_at dksX3_wholeAt_0 0 rfl rfl)
theorem dX3_wholeAt_1 : decode cX3_wholeAt 1 = .ok (.getfield 28, 3) := dk_180 0 28 (dk_at dksX3_wholeAt_0 1 rfl rfl)
theorem dX3_wholeAt_4 : decode cX3_wholeAt 4 = .ok (.getfield 46, 3) := dk_180 0 46 (dk_at dksX3_wholeAt_0 4 rfl rfl)
theorem dX3_wholeAt_7 : decode cX3_wholeAt 7 = .ok (.iconst 3, 1) := dk_6 (dk_at dksX3_wholeAt_0 7 rfl rfl)
theorem dX3_wholeAt_8 : decode cX3_wholeAt 8 = .ok (.if_icmp .eq 11, 3) := dk_159 0 11 (dk_at dksX3_wholeAt_0 8 rfl rfl)
theorem dX3_wholeAt_11 : decode cX3_wholeAt 11 = .ok (.aload_n 0, 1) := dk_42 (dk_at dksX3_wholeAt_0 11 rfl rfl)
theorem dX3_wholeAt_12 : decode cX3_wholeAt 12 = .ok (.iconst 1, 1) := dk_4 (dk_at dksX3_wholeAt_0 12 rfl rfl)
theorem dX3_wholeAt_13 : decode cX3_wholeAt 13 = .ok (.invokevirtual 56, 3) := dk_182 0 56 (dk_at dksX3_wholeAt_0 13 rfl rfl)
theorem dX3_wholeAt_16 : decode cX3_wholeAt 16 = .ok (.goto 23, 3) := dk_167 0 23 (dk_at dksX3_wholeAt_0 16 rfl rfl)
theorem dX3_wholeAt_19 : decode cX3_wholeAt 19 = .ok (.aload_n 0, 1) := dk_42 (dk_at dksX3_wholeAt_0 19 rfl rfl)
theorem dX3_wholeAt_20 : decode cX3_wholeAt 20 = .ok (.getfield 28, 3) := dk_180 0 28 (dk_at dksX3_wholeAt_0 20 rfl rfl)
theorem dX3_wholeAt_23 : decode cX3_wholeAt 23 = .ok (.getfield 60, 3) := dk_180 0 60 (dk_at dksX3_wholeAt_1 0 rfl rfl)
theorem dX3_wholeAt_26 : decode cX3_wholeAt 26 = .ok (.iload_n 1, 1) := dk_27 (dk_at dksX3_wholeAt_1 3 rfl rfl)
theorem dX3_wholeAt_27 : decode cX3_wholeAt 27 = .ok (.iload_n 2, 1) := dk_28 (dk_at dksX3_wholeAt_1 4 rfl rfl)
theorem dX3_wholeAt_28 : decode cX3_wholeAt 28 = .ok (.invokestatic 63, 3) := dk_184 0 63 (dk_at dksX3_wholeAt_1 5 rfl rfl)
theorem dX3_wholeAt_31 : decode cX3_wholeAt 31 = .ok (.ifCond .ne 8, 3) := dk_154 0 8 (dk_at dksX3_wholeAt_1 8 rfl rfl)
theorem dX3_wholeAt_34 : decode cX3_wholeAt 34 = .ok (.aload_n 0, 1) := dk_42 (dk_at dksX3_wholeAt_1 11 rfl rfl)
theorem dX3_wholeAt_35 : decode cX3_wholeAt 35 = .ok (.iconst 4, 1) := dk_7 (dk_at dksX3_wholeAt_1 12 rfl rfl)
theorem dX3_wholeAt_36 : decode cX3_wholeAt 36 = .ok (.invokevirtual 56, 3) := dk_182 0 56 (dk_at dksX3_wholeAt_1 13 rfl rfl)
theorem dX3_wholeAt_39 : decode cX3_wholeAt 39 = .ok (.aload_n 0, 1) := dk_42 (dk_at dksX3_wholeAt_1 16 rfl rfl)
theorem dX3_wholeAt_40 : decode cX3_wholeAt 40 = .ok (.getfield 28, 3) := dk_180 0 28 (dk_at dksX3_wholeAt_1 17 rfl rfl)
theorem dX3_wholeAt_43 : decode cX3_wholeAt 43 = .ok (.getfield 60, 3) := dk_180 0 60 (dk_at dksX3_wholeAt_1 20 rfl rfl)
theorem dX3_wholeAt_46 : decode cX3_wholeAt 46 = .ok (.ireturn, 1) := dk_172 (dk_at dksX3_wholeAt_1 23 rfl rfl)
abbrev cX3_place : ByteArray := prog_8_method_17_code
def yX3_place : MethodName := ⟨RX3, "place", "()V"⟩
def dkwX3_place_1 : List UInt8 := [183, 0, 178, 76, 42, 182, 0, 36, 154, 0, 15, 42, 180, 0, 12, 180, 0, 104, 43, 182, 0, 180, 87, 177]
abbrev dktX3_place_1 : List UInt8 := dkwX3_place_1 ++ []
def dkwX3_place_0 : List UInt8 := [42, 42, 180, 0, 12, 180, 0, 104, 182, 0, 165, 16, 6, 182, 0, 168, 187, 0, 172, 89, 42, 182, 0, 174]
abbrev dktX3_place_0 : List UInt8 := dkwX3_place_0 ++ dktX3_place_1
theorem dksX3_place_0 : cX3_place.data.toList.drop 0 = dktX3_place_0 := by decide +kernel
theorem dksX3_place_1 : cX3_place.data.toList.drop 24 = dktX3_place_1 := dk_seg dksX3_place_0 24 rfl rfl
theorem dX3_place_0 : decode cX3_place 0 = .ok (.aload_n 0, 1) := dk_42 (dk_at dksX3_place_0 0 rfl rfl)
theorem dX3_place_1 : decode cX3_place 1 = .ok (.aload_n 0, 1) := dk_42 (dk_at dksX3_place_0 1 rfl rfl)
theorem dX3_place_2 : decode cX3_place 2 = .ok (.getfield 12, 3) := dk_180 0 12 (dk_at dksX3_place_0 2 rfl rfl)
theorem dX3_place_5 : decode cX3_place 5 = .ok (.getfield 104, 3) := dk_180 0 104 (dk_at dksX3_place_0 5 rfl rfl)
theorem dX3_place_8 : decode cX3_place 8 = .ok (.invokevirtual 165, 3) := dk_182 0 165 (dk_at dksX3_place_0 8 rfl rfl)
theorem dX3_place_11 : decode cX3_place 11 = .ok (.bipush 6, 2) := dk_16 6 (dk_at dksX3_place_0 11 rfl rfl)
theorem dX3_place_13 : decode cX3_place 13 = .ok (.invokevirtual 168, 3) := dk_182 0 168 (dk_at dksX3_place_0 13 rfl rfl)
theorem dX3_place_16 : decode cX3_place 16 = .ok (.new 172, 3) := dk_187 0 172 (dk_at dksX3_place_0 16 rfl rfl)
theorem dX3_place_19 : decode cX3_place 19 = .ok (.dup, 1) := dk_89 (dk_at dksX3_place_0 19 rfl rfl)
theorem dX3_place_20 : decode cX3_place 20 = .ok (.aload_n 0, 1) := dk_42 (dk_at dksX3_place_0 20 rfl rfl)
theorem dX3_place_21 : decode cX3_place 21 = .ok (.invokevirtual 174, 3) := dk_182 0 174 (dk_at dksX3_place_0 21 rfl rfl)
theorem dX3_place_24 : decode cX3_place 24 = .ok (.invokespecial 178, 3) := dk_183 0 178 (dk_at dksX3_place_1 0 rfl rfl)
theorem dX3_place_27 : decode cX3_place 27 = .ok (.astore_n 1, 1) := dk_76 (dk_at dksX3_place_1 3 rfl rfl)
theorem dX3_place_28 : decode cX3_place 28 = .ok (.aload_n 0, 1) := dk_42 (dk_at dksX3_place_1 4 rfl rfl)
theorem dX3_place_29 : decode cX3_place 29 = .ok (.invokevirtual 36, 3) := dk_182 0 36 (dk_at dksX3_place_1 5 rfl rfl)
theorem dX3_place_32 : decode cX3_place 32 = .ok (.ifCond .ne 15, 3) := dk_154 0 15 (dk_at dksX3_place_1 8 rfl rfl)
theorem dX3_place_35 : decode cX3_place 35 = .ok (.aload_n 0, 1) := dk_42 (dk_at dksX3_place_1 11 rfl rfl)
theorem dX3_place_36 : decode cX3_place 36 = .ok (.getfield 12, 3) := dk_180 0 12 (dk_at dksX3_place_1 12 rfl rfl)
theorem dX3_place_39 : decode cX3_place 39 = .ok (.getfield 104, 3) := dk_180 0 104 (dk_at dksX3_place_1 15 rfl rfl)
theorem dX3_place_42 : decode cX3_place 42 = .ok (.aload_n 1, 1) := dk_43 (dk_at dksX3_place_1 18 rfl rfl)
theorem dX3_place_43 : decode cX3_place 43 = .ok (.invokevirtual 180, 3) := dk_182 0 180 (dk_at dksX3_place_1 19 rfl rfl)
theorem dX3_place_46 : decode cX3_place 46 = .ok (.pop, 1) := dk_87 (dk_at dksX3_place_1 22 rfl rfl)
theorem dX3_place_47 : decode cX3_place 47 = .ok (.return_, 1) := dk_177 (dk_at dksX3_place_1 23 rfl rfl)
abbrev cX3_begins : ByteArray := prog_8_method_15_code
def yX3_begins : MethodName := ⟨RX3, "begins", "(II)V"⟩
def dkwX3_begins_1 : List UInt8 := [182, 0, 56, 42, 182, 0, 49, 177]
abbrev dktX3_begins_1 : List UInt8 := dkwX3_begins_1 ++ []
def dkwX3_begins_0 : List UInt8 := [27, 28, 160, 0, 8, 42, 8, 182, 0, 56, 42, 180, 0, 12, 180, 0, 101, 2, 160, 0, 9, 42, 16, 6]
abbrev dktX3_begins_0 : List UInt8 := dkwX3_begins_0 ++ dktX3_begins_1
theorem dksX3_begins_0 : cX3_begins.data.toList.drop 0 = dktX3_begins_0 := by decide +kernel
theorem dksX3_begins_1 : cX3_begins.data.toList.drop 24 = dktX3_begins_1 := dk_seg dksX3_begins_0 24 rfl rfl
theorem dX3_begins_0 : decode cX3_begins 0 = .ok (.iload_n 1, 1) := dk_27 (dk_at dksX3_begins_0 0 rfl rfl)
theorem dX3_begins_1 : decode cX3_begins 1 = .ok (.iload_n 2, 1) := dk_28 (dk_at dksX3_begins_0 1 rfl rfl)
theorem dX3_begins_2 : decode cX3_begins 2 = .ok (.if_icmp .ne 8, 3) := dk_160 0 8 (dk_at dksX3_begins_0 2 rfl rfl)
theorem dX3_begins_5 : decode cX3_begins 5 = .ok (.aload_n 0, 1) := dk_42 (dk_at dksX3_begins_0 5 rfl rfl)
theorem dX3_begins_6 : decode cX3_begins 6 = .ok (.iconst 5, 1) := dk_8 (dk_at dksX3_begins_0 6 rfl rfl)
theorem dX3_begins_7 : decode cX3_begins 7 = .ok (.invokevirtual 56, 3) := dk_182 0 56 (dk_at dksX3_begins_0 7 rfl rfl)
theorem dX3_begins_10 : decode cX3_begins 10 = .ok (.aload_n 0, 1) := dk_42 (dk_at dksX3_begins_0 10 rfl rfl)
theorem dX3_begins_11 : decode cX3_begins 11 = .ok (.getfield 12, 3) := dk_180 0 12 (dk_at dksX3_begins_0 11 rfl rfl)
theorem dX3_begins_14 : decode cX3_begins 14 = .ok (.getfield 101, 3) := dk_180 0 101 (dk_at dksX3_begins_0 14 rfl rfl)
theorem dX3_begins_17 : decode cX3_begins 17 = .ok (.iconst (-1), 1) := dk_2 (dk_at dksX3_begins_0 17 rfl rfl)
theorem dX3_begins_18 : decode cX3_begins 18 = .ok (.if_icmp .ne 9, 3) := dk_160 0 9 (dk_at dksX3_begins_0 18 rfl rfl)
theorem dX3_begins_21 : decode cX3_begins 21 = .ok (.aload_n 0, 1) := dk_42 (dk_at dksX3_begins_0 21 rfl rfl)
theorem dX3_begins_22 : decode cX3_begins 22 = .ok (.bipush 6, 2) := dk_16 6 (dk_at dksX3_begins_0 22 rfl rfl)
theorem dX3_begins_24 : decode cX3_begins 24 = .ok (.invokevirtual 56, 3) := dk_182 0 56 (dk_at dksX3_begins_1 0 rfl rfl)
theorem dX3_begins_27 : decode cX3_begins 27 = .ok (.aload_n 0, 1) := dk_42 (dk_at dksX3_begins_1 3 rfl rfl)
theorem dX3_begins_28 : decode cX3_begins 28 = .ok (.invokevirtual 49, 3) := dk_182 0 49 (dk_at dksX3_begins_1 4 rfl rfl)
theorem dX3_begins_31 : decode cX3_begins 31 = .ok (.return_, 1) := dk_177 (dk_at dksX3_begins_1 7 rfl rfl)
abbrev cX3_fresh : ByteArray := prog_8_method_10_code
def yX3_fresh : MethodName := ⟨RX3, "fresh", "()Ljava/lang/String;"⟩
def dkwX3_fresh_1 : List UInt8 := [180, 0, 81, 182, 0, 85, 153, 0, 8, 42, 6, 182, 0, 56, 42, 182, 0, 49, 43, 180, 0, 81, 176]
abbrev dktX3_fresh_1 : List UInt8 := dkwX3_fresh_1 ++ []
def dkwX3_fresh_0 : List UInt8 := [42, 180, 0, 28, 76, 43, 182, 0, 78, 154, 0, 8, 42, 4, 182, 0, 56, 42, 180, 0, 12, 43]
abbrev dktX3_fresh_0 : List UInt8 := dkwX3_fresh_0 ++ dktX3_fresh_1
theorem dksX3_fresh_0 : cX3_fresh.data.toList.drop 0 = dktX3_fresh_0 := by decide +kernel
theorem dksX3_fresh_1 : cX3_fresh.data.toList.drop 22 = dktX3_fresh_1 := dk_seg dksX3_fresh_0 22 rfl rfl
theorem dX3_fresh_0 : decode cX3_fresh 0 = .ok (.aload_n 0, 1) := dk_42 (dk_at dksX3_fresh_0 0 rfl rfl)
theorem dX3_fresh_1 : decode cX3_fresh 1 = .ok (.getfield 28, 3) := dk_180 0 28 (dk_at dksX3_fresh_0 1 rfl rfl)
theorem dX3_fresh_4 : decode cX3_fresh 4 = .ok (.astore_n 1, 1) := dk_76 (dk_at dksX3_fresh_0 4 rfl rfl)
theorem dX3_fresh_5 : decode cX3_fresh 5 = .ok (.aload_n 1, 1) := dk_43 (dk_at dksX3_fresh_0 5 rfl rfl)
theorem dX3_fresh_6 : decode cX3_fresh 6 = .ok (.invokevirtual 78, 3) := dk_182 0 78 (dk_at dksX3_fresh_0 6 rfl rfl)
theorem dX3_fresh_9 : decode cX3_fresh 9 = .ok (.ifCond .ne 8, 3) := dk_154 0 8 (dk_at dksX3_fresh_0 9 rfl rfl)
theorem dX3_fresh_12 : decode cX3_fresh 12 = .ok (.aload_n 0, 1) := dk_42 (dk_at dksX3_fresh_0 12 rfl rfl)
theorem dX3_fresh_13 : decode cX3_fresh 13 = .ok (.iconst 1, 1) := dk_4 (dk_at dksX3_fresh_0 13 rfl rfl)
theorem dX3_fresh_14 : decode cX3_fresh 14 = .ok (.invokevirtual 56, 3) := dk_182 0 56 (dk_at dksX3_fresh_0 14 rfl rfl)
theorem dX3_fresh_17 : decode cX3_fresh 17 = .ok (.aload_n 0, 1) := dk_42 (dk_at dksX3_fresh_0 17 rfl rfl)
theorem dX3_fresh_18 : decode cX3_fresh 18 = .ok (.getfield 12, 3) := dk_180 0 12 (dk_at dksX3_fresh_0 18 rfl rfl)
theorem dX3_fresh_21 : decode cX3_fresh 21 = .ok (.aload_n 1, 1) := dk_43 (dk_at dksX3_fresh_0 21 rfl rfl)
theorem dX3_fresh_22 : decode cX3_fresh 22 = .ok (.getfield 81, 3) := dk_180 0 81 (dk_at dksX3_fresh_1 0 rfl rfl)
theorem dX3_fresh_25 : decode cX3_fresh 25 = .ok (.invokevirtual 85, 3) := dk_182 0 85 (dk_at dksX3_fresh_1 3 rfl rfl)
theorem dX3_fresh_28 : decode cX3_fresh 28 = .ok (.ifCond .eq 8, 3) := dk_153 0 8 (dk_at dksX3_fresh_1 6 rfl rfl)
theorem dX3_fresh_31 : decode cX3_fresh 31 = .ok (.aload_n 0, 1) := dk_42 (dk_at dksX3_fresh_1 9 rfl rfl)
theorem dX3_fresh_32 : decode cX3_fresh 32 = .ok (.iconst 3, 1) := dk_6 (dk_at dksX3_fresh_1 10 rfl rfl)
theorem dX3_fresh_33 : decode cX3_fresh 33 = .ok (.invokevirtual 56, 3) := dk_182 0 56 (dk_at dksX3_fresh_1 11 rfl rfl)
theorem dX3_fresh_36 : decode cX3_fresh 36 = .ok (.aload_n 0, 1) := dk_42 (dk_at dksX3_fresh_1 14 rfl rfl)
theorem dX3_fresh_37 : decode cX3_fresh 37 = .ok (.invokevirtual 49, 3) := dk_182 0 49 (dk_at dksX3_fresh_1 15 rfl rfl)
theorem dX3_fresh_40 : decode cX3_fresh 40 = .ok (.aload_n 1, 1) := dk_43 (dk_at dksX3_fresh_1 18 rfl rfl)
theorem dX3_fresh_41 : decode cX3_fresh 41 = .ok (.getfield 81, 3) := dk_180 0 81 (dk_at dksX3_fresh_1 19 rfl rfl)
theorem dX3_fresh_44 : decode cX3_fresh 44 = .ok (.areturn, 1) := dk_176 (dk_at dksX3_fresh_1 22 rfl rfl)
abbrev cX3_sees : ByteArray := prog_8_method_18_code
def yX3_sees : MethodName := ⟨RX3, "sees", "()V"⟩
def dkwX3_sees_4 : List UInt8 := [183, 0, 195, 182, 0, 180, 87, 177]
abbrev dktX3_sees_4 : List UInt8 := dkwX3_sees_4 ++ []
def dkwX3_sees_3 : List UInt8 := [182, 0, 49, 42, 182, 0, 36, 154, 0, 23, 42, 180, 0, 12, 180, 0, 183, 187, 0, 193, 89, 27, 28]
abbrev dktX3_sees_3 : List UInt8 := dkwX3_sees_3 ++ dktX3_sees_4
def dkwX3_sees_2 : List UInt8 := [28, 159, 0, 15, 42, 180, 0, 12, 27, 28, 182, 0, 189, 153, 0, 8, 42, 6, 182, 0, 56, 42]
abbrev dktX3_sees_2 : List UInt8 := dkwX3_sees_2 ++ dktX3_sees_3
def dkwX3_sees_1 : List UInt8 := [182, 0, 186, 60, 42, 42, 180, 0, 12, 180, 0, 104, 182, 0, 91, 61, 42, 182, 0, 36, 154, 0, 25, 27]
abbrev dktX3_sees_1 : List UInt8 := dkwX3_sees_1 ++ dktX3_sees_2
def dkwX3_sees_0 : List UInt8 := [42, 42, 180, 0, 12, 180, 0, 183, 182, 0, 165, 16, 8, 182, 0, 168, 42, 42, 180, 0, 12, 180, 0, 104]
abbrev dktX3_sees_0 : List UInt8 := dkwX3_sees_0 ++ dktX3_sees_1
theorem dksX3_sees_0 : cX3_sees.data.toList.drop 0 = dktX3_sees_0 := by decide +kernel
theorem dksX3_sees_1 : cX3_sees.data.toList.drop 24 = dktX3_sees_1 := dk_seg dksX3_sees_0 24 rfl rfl
theorem dksX3_sees_2 : cX3_sees.data.toList.drop 48 = dktX3_sees_2 := dk_seg dksX3_sees_1 24 rfl rfl
theorem dksX3_sees_3 : cX3_sees.data.toList.drop 70 = dktX3_sees_3 := dk_seg dksX3_sees_2 22 rfl rfl
theorem dksX3_sees_4 : cX3_sees.data.toList.drop 93 = dktX3_sees_4 := dk_seg dksX3_sees_3 23 rfl rfl
theorem dX3_sees_0 : decode cX3_sees 0 = .ok (.aload_n 0, 1) := dk_42 (dk_at dksX3_sees_0 0 rfl rfl)
theorem dX3_sees_1 : decode cX3_sees 1 = .ok (.aload_n 0, 1) := dk_42 (dk_at dksX3_sees_0 1 rfl rfl)
theorem dX3_sees_2 : decode cX3_sees 2 = .ok (.getfield 12, 3) := dk_180 0 12 (dk_at dksX3_sees_0 2 rfl rfl)
theorem dX3_sees_5 : decode cX3_sees 5 = .ok (.getfield 183, 3) := dk_180 0 183 (dk_at dksX3_sees_0 5 rfl rfl)
theorem dX3_sees_8 : decode cX3_sees 8 = .ok (.invokevirtual 165, 3) := dk_182 0 165 (dk_at dksX3_sees_0 8 rfl rfl)
theorem dX3_sees_11 : decode cX3_sees 11 = .ok (.bipush 8, 2) := dk_16 8 (dk_at dksX3_sees_0 11 rfl rfl)
theorem dX3_sees_13 : decode cX3_sees 13 = .ok (.invokevirtual 168, 3) := dk_182 0 168 (dk_at dksX3_sees_0 13 rfl rfl)
theorem dX3_sees_16 : decode cX3_sees 16 = .ok (.aload_n 0, 1) := dk_42 (dk_at dksX3_sees_0 16 rfl rfl)
theorem dX3_sees_17 : decode cX3_sees 17 = .ok (.aload_n 0, 1) := dk_42 (dk_at dksX3_sees_0 17 rfl rfl)
theorem dX3_sees_18 : decode cX3_sees 18 = .ok (.getfield 12, 3) := dk_180 0 12 (dk_at dksX3_sees_0 18 rfl rfl)
theorem dX3_sees_21 : decode cX3_sees 21 = .ok (.getfield 104, 3) := dk_180 0 104 (dk_at dksX3_sees_0 21 rfl rfl)
theorem dX3_sees_24 : decode cX3_sees 24 = .ok (.invokevirtual 186, 3) := dk_182 0 186 (dk_at dksX3_sees_1 0 rfl rfl)
theorem dX3_sees_27 : decode cX3_sees 27 = .ok (.istore_n 1, 1) := dk_60 (dk_at dksX3_sees_1 3 rfl rfl)
theorem dX3_sees_28 : decode cX3_sees 28 = .ok (.aload_n 0, 1) := dk_42 (dk_at dksX3_sees_1 4 rfl rfl)
theorem dX3_sees_29 : decode cX3_sees 29 = .ok (.aload_n 0, 1) := dk_42 (dk_at dksX3_sees_1 5 rfl rfl)
theorem dX3_sees_30 : decode cX3_sees 30 = .ok (.getfield 12, 3) := dk_180 0 12 (dk_at dksX3_sees_1 6 rfl rfl)
theorem dX3_sees_33 : decode cX3_sees 33 = .ok (.getfield 104, 3) := dk_180 0 104 (dk_at dksX3_sees_1 9 rfl rfl)
theorem dX3_sees_36 : decode cX3_sees 36 = .ok (.invokevirtual 91, 3) := dk_182 0 91 (dk_at dksX3_sees_1 12 rfl rfl)
theorem dX3_sees_39 : decode cX3_sees 39 = .ok (.istore_n 2, 1) := dk_61 (dk_at dksX3_sees_1 15 rfl rfl)
theorem dX3_sees_40 : decode cX3_sees 40 = .ok (.aload_n 0, 1) := dk_42 (dk_at dksX3_sees_1 16 rfl rfl)
theorem dX3_sees_41 : decode cX3_sees 41 = .ok (.invokevirtual 36, 3) := dk_182 0 36 (dk_at dksX3_sees_1 17 rfl rfl)
theorem dX3_sees_44 : decode cX3_sees 44 = .ok (.ifCond .ne 25, 3) := dk_154 0 25 (dk_at dksX3_sees_1 20 rfl rfl)
theorem dX3_sees_47 : decode cX3_sees 47 = .ok (.iload_n 1, 1) := dk_27 (dk_at dksX3_sees_1 23 rfl rfl)
theorem dX3_sees_48 : decode cX3_sees 48 = .ok (.iload_n 2, 1) := dk_28 (dk_at dksX3_sees_2 0 rfl rfl)
theorem dX3_sees_49 : decode cX3_sees 49 = .ok (.if_icmp .eq 15, 3) := dk_159 0 15 (dk_at dksX3_sees_2 1 rfl rfl)
theorem dX3_sees_52 : decode cX3_sees 52 = .ok (.aload_n 0, 1) := dk_42 (dk_at dksX3_sees_2 4 rfl rfl)
theorem dX3_sees_53 : decode cX3_sees 53 = .ok (.getfield 12, 3) := dk_180 0 12 (dk_at dksX3_sees_2 5 rfl rfl)
theorem dX3_sees_56 : decode cX3_sees 56 = .ok (.iload_n 1, 1) := dk_27 (dk_at dksX3_sees_2 8 rfl rfl)
theorem dX3_sees_57 : decode cX3_sees 57 = .ok (.iload_n 2, 1) := dk_28 (dk_at dksX3_sees_2 9 rfl rfl)
theorem dX3_sees_58 : decode cX3_sees 58 = .ok (.invokevirtual 189, 3) := dk_182 0 189 (dk_at dksX3_sees_2 10 rfl rfl)
theorem dX3_sees_61 : decode cX3_sees 61 = .ok (.ifCond .eq 8, 3) := dk_153 0 8 (dk_at dksX3_sees_2 13 rfl rfl)
theorem dX3_sees_64 : decode cX3_sees 64 = .ok (.aload_n 0, 1) := dk_42 (dk_at dksX3_sees_2 16 rfl rfl)
theorem dX3_sees_65 : decode cX3_sees 65 = .ok (.iconst 3, 1) := dk_6 (dk_at dksX3_sees_2 17 rfl rfl)
theorem dX3_sees_66 : decode cX3_sees 66 = .ok (.invokevirtual 56, 3) := dk_182 0 56 (dk_at dksX3_sees_2 18 rfl rfl)
theorem dX3_sees_69 : decode cX3_sees 69 = .ok (.aload_n 0, 1) := dk_42 (dk_at dksX3_sees_2 21 rfl rfl)
theorem dX3_sees_70 : decode cX3_sees 70 = .ok (.invokevirtual 49, 3) := dk_182 0 49 (dk_at dksX3_sees_3 0 rfl rfl)
theorem dX3_sees_73 : decode cX3_sees 73 = .ok (.aload_n 0, 1) := dk_42 (dk_at dksX3_sees_3 3 rfl rfl)
theorem dX3_sees_74 : decode cX3_sees 74 = .ok (.invokevirtual 36, 3) := dk_182 0 36 (dk_at dksX3_sees_3 4 rfl rfl)
theorem dX3_sees_77 : decode cX3_sees 77 = .ok (.ifCond .ne 23, 3) := dk_154 0 23 (dk_at dksX3_sees_3 7 rfl rfl)
theorem dX3_sees_80 : decode cX3_sees 80 = .ok (.aload_n 0, 1) := dk_42 (dk_at dksX3_sees_3 10 rfl rfl)
theorem dX3_sees_81 : decode cX3_sees 81 = .ok (.getfield 12, 3) := dk_180 0 12 (dk_at dksX3_sees_3 11 rfl rfl)
theorem dX3_sees_84 : decode cX3_sees 84 = .ok (.getfield 183, 3) := dk_180 0 183 (dk_at dksX3_sees_3 14 rfl rfl)
theorem dX3_sees_87 : decode cX3_sees 87 = .ok (.new 193, 3) := dk_187 0 193 (dk_at dksX3_sees_3 17 rfl rfl)
theorem dX3_sees_90 : decode cX3_sees 90 = .ok (.dup, 1) := dk_89 (dk_at dksX3_sees_3 20 rfl rfl)
theorem dX3_sees_91 : decode cX3_sees 91 = .ok (.iload_n 1, 1) := dk_27 (dk_at dksX3_sees_3 21 rfl rfl)
theorem dX3_sees_92 : decode cX3_sees 92 = .ok (.iload_n 2, 1) := dk_28 (dk_at dksX3_sees_3 22 rfl rfl)
theorem dX3_sees_93 : decode cX3_sees 93 = .ok (.invokespecial 195, 3) := dk_183 0 195 (dk_at dksX3_sees_4 0 rfl rfl)
theorem dX3_sees_96 : decode cX3_sees 96 = .ok (.invokevirtual 180, 3) := dk_182 0 180 (dk_at dksX3_sees_4 3 rfl rfl)
theorem dX3_sees_99 : decode cX3_sees 99 = .ok (.pop, 1) := dk_87 (dk_at dksX3_sees_4 6 rfl rfl)
theorem dX3_sees_100 : decode cX3_sees 100 = .ok (.return_, 1) := dk_177 (dk_at dksX3_sees_4 7 rfl rfl)
abbrev cX3_told : ByteArray := prog_8_method_12_code
def yX3_told : MethodName := ⟨RX3, "told", "(Ljava/util/ArrayList;)I"⟩
def dkwX3_told_0 : List UInt8 := [42, 43, 182, 0, 91, 61, 42, 182, 0, 49, 28, 172]
abbrev dktX3_told_0 : List UInt8 := dkwX3_told_0 ++ []
theorem dksX3_told_0 : cX3_told.data.toList.drop 0 = dktX3_told_0 := by decide +kernel
theorem dX3_told_0 : decode cX3_told 0 = .ok (.aload_n 0, 1) := dk_42 (dk_at dksX3_told_0 0 rfl rfl)
theorem dX3_told_1 : decode cX3_told 1 = .ok (.aload_n 1, 1) := dk_43 (dk_at dksX3_told_0 1 rfl rfl)
theorem dX3_told_2 : decode cX3_told 2 = .ok (.invokevirtual 91, 3) := dk_182 0 91 (dk_at dksX3_told_0 2 rfl rfl)
theorem dX3_told_5 : decode cX3_told 5 = .ok (.istore_n 2, 1) := dk_61 (dk_at dksX3_told_0 5 rfl rfl)
theorem dX3_told_6 : decode cX3_told 6 = .ok (.aload_n 0, 1) := dk_42 (dk_at dksX3_told_0 6 rfl rfl)
theorem dX3_told_7 : decode cX3_told 7 = .ok (.invokevirtual 49, 3) := dk_182 0 49 (dk_at dksX3_told_0 7 rfl rfl)
theorem dX3_told_10 : decode cX3_told 10 = .ok (.iload_n 2, 1) := dk_28 (dk_at dksX3_told_0 10 rfl rfl)
theorem dX3_told_11 : decode cX3_told 11 = .ok (.ireturn, 1) := dk_172 (dk_at dksX3_told_0 11 rfl rfl)
abbrev cX3_known : ByteArray := prog_8_method_11_code
def yX3_known : MethodName := ⟨RX3, "known", "(Ljava/util/ArrayList;)I"⟩
def dkwX3_known_2 : List UInt8 := [167, 0, 4, 28, 172]
abbrev dktX3_known_2 : List UInt8 := dkwX3_known_2 ++ []
def dkwX3_known_1 : List UInt8 := [184, 0, 87, 61, 28, 2, 160, 0, 8, 42, 5, 182, 0, 56, 42, 182, 0, 36, 153, 0, 7, 3]
abbrev dktX3_known_1 : List UInt8 := dkwX3_known_1 ++ dktX3_known_2
def dkwX3_known_0 : List UInt8 := [42, 180, 0, 28, 182, 0, 78, 154, 0, 8, 42, 4, 182, 0, 56, 43, 42, 180, 0, 28, 180, 0, 81]
abbrev dktX3_known_0 : List UInt8 := dkwX3_known_0 ++ dktX3_known_1
theorem dksX3_known_0 : cX3_known.data.toList.drop 0 = dktX3_known_0 := by decide +kernel
theorem dksX3_known_1 : cX3_known.data.toList.drop 23 = dktX3_known_1 := dk_seg dksX3_known_0 23 rfl rfl
theorem dksX3_known_2 : cX3_known.data.toList.drop 45 = dktX3_known_2 := dk_seg dksX3_known_1 22 rfl rfl
theorem dX3_known_0 : decode cX3_known 0 = .ok (.aload_n 0, 1) := dk_42 (dk_at dksX3_known_0 0 rfl rfl)
theorem dX3_known_1 : decode cX3_known 1 = .ok (.getfield 28, 3) := dk_180 0 28 (dk_at dksX3_known_0 1 rfl rfl)
theorem dX3_known_4 : decode cX3_known 4 = .ok (.invokevirtual 78, 3) := dk_182 0 78 (dk_at dksX3_known_0 4 rfl rfl)
theorem dX3_known_7 : decode cX3_known 7 = .ok (.ifCond .ne 8, 3) := dk_154 0 8 (dk_at dksX3_known_0 7 rfl rfl)
theorem dX3_known_10 : decode cX3_known 10 = .ok (.aload_n 0, 1) := dk_42 (dk_at dksX3_known_0 10 rfl rfl)
theorem dX3_known_11 : decode cX3_known 11 = .ok (.iconst 1, 1) := dk_4 (dk_at dksX3_known_0 11 rfl rfl)
theorem dX3_known_12 : decode cX3_known 12 = .ok (.invokevirtual 56, 3) := dk_182 0 56 (dk_at dksX3_known_0 12 rfl rfl)
theorem dX3_known_15 : decode cX3_known 15 = .ok (.aload_n 1, 1) := dk_43 (dk_at dksX3_known_0 15 rfl rfl)
theorem dX3_known_16 : decode cX3_known 16 = .ok (.aload_n 0, 1) := dk_42 (dk_at dksX3_known_0 16 rfl rfl)
theorem dX3_known_17 : decode cX3_known 17 = .ok (.getfield 28, 3) := dk_180 0 28 (dk_at dksX3_known_0 17 rfl rfl)
theorem dX3_known_20 : decode cX3_known 20 = .ok (.getfield 81, 3) := dk_180 0 81 (dk_at dksX3_known_0 20 rfl rfl)
theorem dX3_known_23 : decode cX3_known 23 = .ok (.invokestatic 87, 3) := dk_184 0 87 (dk_at dksX3_known_1 0 rfl rfl)
theorem dX3_known_26 : decode cX3_known 26 = .ok (.istore_n 2, 1) := dk_61 (dk_at dksX3_known_1 3 rfl rfl)
theorem dX3_known_27 : decode cX3_known 27 = .ok (.iload_n 2, 1) := dk_28 (dk_at dksX3_known_1 4 rfl rfl)
theorem dX3_known_28 : decode cX3_known 28 = .ok (.iconst (-1), 1) := dk_2 (dk_at dksX3_known_1 5 rfl rfl)
theorem dX3_known_29 : decode cX3_known 29 = .ok (.if_icmp .ne 8, 3) := dk_160 0 8 (dk_at dksX3_known_1 6 rfl rfl)
theorem dX3_known_32 : decode cX3_known 32 = .ok (.aload_n 0, 1) := dk_42 (dk_at dksX3_known_1 9 rfl rfl)
theorem dX3_known_33 : decode cX3_known 33 = .ok (.iconst 2, 1) := dk_5 (dk_at dksX3_known_1 10 rfl rfl)
theorem dX3_known_34 : decode cX3_known 34 = .ok (.invokevirtual 56, 3) := dk_182 0 56 (dk_at dksX3_known_1 11 rfl rfl)
theorem dX3_known_37 : decode cX3_known 37 = .ok (.aload_n 0, 1) := dk_42 (dk_at dksX3_known_1 14 rfl rfl)
theorem dX3_known_38 : decode cX3_known 38 = .ok (.invokevirtual 36, 3) := dk_182 0 36 (dk_at dksX3_known_1 15 rfl rfl)
theorem dX3_known_41 : decode cX3_known 41 = .ok (.ifCond .eq 7, 3) := dk_153 0 7 (dk_at dksX3_known_1 18 rfl rfl)
theorem dX3_known_44 : decode cX3_known 44 = .ok (.iconst 0, 1) := dk_3 (dk_at dksX3_known_1 21 rfl rfl)
theorem dX3_known_45 : decode cX3_known 45 = .ok (.goto 4, 3) := dk_167 0 4 (dk_at dksX3_known_2 0 rfl rfl)
theorem dX3_known_48 : decode cX3_known 48 = .ok (.iload_n 2, 1) := dk_28 (dk_at dksX3_known_2 3 rfl rfl)
theorem dX3_known_49 : decode cX3_known 49 = .ok (.ireturn, 1) := dk_172 (dk_at dksX3_known_2 4 rfl rfl)
abbrev cX3_person : ByteArray := prog_8_method_20_code
def yX3_person : MethodName := ⟨RX3, "person", "()V"⟩
def dkwX3_person_3 : List UInt8 := [180, 0, 12, 180, 0, 217, 43, 182, 0, 180, 87, 177]
abbrev dktX3_person_3 : List UInt8 := dkwX3_person_3 ++ []
def dkwX3_person_2 : List UInt8 := [181, 0, 226, 43, 42, 18, 229, 3, 16, 9, 182, 0, 161, 181, 0, 231, 42, 182, 0, 36, 154, 0, 15, 42]
abbrev dktX3_person_2 : List UInt8 := dkwX3_person_2 ++ dktX3_person_3
def dkwX3_person_1 : List UInt8 := [76, 42, 182, 0, 49, 42, 18, 224, 182, 0, 71, 43, 42, 42, 180, 0, 12, 180, 0, 104, 182, 0, 186]
abbrev dktX3_person_1 : List UInt8 := dkwX3_person_1 ++ dktX3_person_2
def dkwX3_person_0 : List UInt8 := [42, 42, 180, 0, 12, 180, 0, 217, 182, 0, 165, 16, 6, 182, 0, 168, 42, 42, 182, 0, 174, 182, 0, 220]
abbrev dktX3_person_0 : List UInt8 := dkwX3_person_0 ++ dktX3_person_1
theorem dksX3_person_0 : cX3_person.data.toList.drop 0 = dktX3_person_0 := by decide +kernel
theorem dksX3_person_1 : cX3_person.data.toList.drop 24 = dktX3_person_1 := dk_seg dksX3_person_0 24 rfl rfl
theorem dksX3_person_2 : cX3_person.data.toList.drop 47 = dktX3_person_2 := dk_seg dksX3_person_1 23 rfl rfl
theorem dksX3_person_3 : cX3_person.data.toList.drop 71 = dktX3_person_3 := dk_seg dksX3_person_2 24 rfl rfl
theorem dX3_person_0 : decode cX3_person 0 = .ok (.aload_n 0, 1) := dk_42 (dk_at dksX3_person_0 0 rfl rfl)
theorem dX3_person_1 : decode cX3_person 1 = .ok (.aload_n 0, 1) := dk_42 (dk_at dksX3_person_0 1 rfl rfl)
theorem dX3_person_2 : decode cX3_person 2 = .ok (.getfield 12, 3) := dk_180 0 12 (dk_at dksX3_person_0 2 rfl rfl)
theorem dX3_person_5 : decode cX3_person 5 = .ok (.getfield 217, 3) := dk_180 0 217 (dk_at dksX3_person_0 5 rfl rfl)
theorem dX3_person_8 : decode cX3_person 8 = .ok (.invokevirtual 165, 3) := dk_182 0 165 (dk_at dksX3_person_0 8 rfl rfl)
theorem dX3_person_11 : decode cX3_person 11 = .ok (.bipush 6, 2) := dk_16 6 (dk_at dksX3_person_0 11 rfl rfl)
theorem dX3_person_13 : decode cX3_person 13 = .ok (.invokevirtual 168, 3) := dk_182 0 168 (dk_at dksX3_person_0 13 rfl rfl)
theorem dX3_person_16 : decode cX3_person 16 = .ok (.aload_n 0, 1) := dk_42 (dk_at dksX3_person_0 16 rfl rfl)
theorem dX3_person_17 : decode cX3_person 17 = .ok (.aload_n 0, 1) := dk_42 (dk_at dksX3_person_0 17 rfl rfl)
theorem dX3_person_18 : decode cX3_person 18 = .ok (.invokevirtual 174, 3) := dk_182 0 174 (dk_at dksX3_person_0 18 rfl rfl)
theorem dX3_person_21 : decode cX3_person 21 = .ok (.invokevirtual 220, 3) := dk_182 0 220 (dk_at dksX3_person_0 21 rfl rfl)
theorem dX3_person_24 : decode cX3_person 24 = .ok (.astore_n 1, 1) := dk_76 (dk_at dksX3_person_1 0 rfl rfl)
theorem dX3_person_25 : decode cX3_person 25 = .ok (.aload_n 0, 1) := dk_42 (dk_at dksX3_person_1 1 rfl rfl)
theorem dX3_person_26 : decode cX3_person 26 = .ok (.invokevirtual 49, 3) := dk_182 0 49 (dk_at dksX3_person_1 2 rfl rfl)
theorem dX3_person_29 : decode cX3_person 29 = .ok (.aload_n 0, 1) := dk_42 (dk_at dksX3_person_1 5 rfl rfl)
theorem dX3_person_30 : decode cX3_person 30 = .ok (.ldc 224, 2) := dk_18 224 (dk_at dksX3_person_1 6 rfl rfl)
theorem dX3_person_32 : decode cX3_person 32 = .ok (.invokevirtual 71, 3) := dk_182 0 71 (dk_at dksX3_person_1 8 rfl rfl)
theorem dX3_person_35 : decode cX3_person 35 = .ok (.aload_n 1, 1) := dk_43 (dk_at dksX3_person_1 11 rfl rfl)
theorem dX3_person_36 : decode cX3_person 36 = .ok (.aload_n 0, 1) := dk_42 (dk_at dksX3_person_1 12 rfl rfl)
theorem dX3_person_37 : decode cX3_person 37 = .ok (.aload_n 0, 1) := dk_42 (dk_at dksX3_person_1 13 rfl rfl)
theorem dX3_person_38 : decode cX3_person 38 = .ok (.getfield 12, 3) := dk_180 0 12 (dk_at dksX3_person_1 14 rfl rfl)
theorem dX3_person_41 : decode cX3_person 41 = .ok (.getfield 104, 3) := dk_180 0 104 (dk_at dksX3_person_1 17 rfl rfl)
theorem dX3_person_44 : decode cX3_person 44 = .ok (.invokevirtual 186, 3) := dk_182 0 186 (dk_at dksX3_person_1 20 rfl rfl)
theorem dX3_person_47 : decode cX3_person 47 = .ok (.putfield 226, 3) := dk_181 0 226 (dk_at dksX3_person_2 0 rfl rfl)
theorem dX3_person_50 : decode cX3_person 50 = .ok (.aload_n 1, 1) := dk_43 (dk_at dksX3_person_2 3 rfl rfl)
theorem dX3_person_51 : decode cX3_person 51 = .ok (.aload_n 0, 1) := dk_42 (dk_at dksX3_person_2 4 rfl rfl)
theorem dX3_person_52 : decode cX3_person 52 = .ok (.ldc 229, 2) := dk_18 229 (dk_at dksX3_person_2 5 rfl rfl)
theorem dX3_person_54 : decode cX3_person 54 = .ok (.iconst 0, 1) := dk_3 (dk_at dksX3_person_2 7 rfl rfl)
theorem dX3_person_55 : decode cX3_person 55 = .ok (.bipush 9, 2) := dk_16 9 (dk_at dksX3_person_2 8 rfl rfl)
theorem dX3_person_57 : decode cX3_person 57 = .ok (.invokevirtual 161, 3) := dk_182 0 161 (dk_at dksX3_person_2 10 rfl rfl)
theorem dX3_person_60 : decode cX3_person 60 = .ok (.putfield 231, 3) := dk_181 0 231 (dk_at dksX3_person_2 13 rfl rfl)
theorem dX3_person_63 : decode cX3_person 63 = .ok (.aload_n 0, 1) := dk_42 (dk_at dksX3_person_2 16 rfl rfl)
theorem dX3_person_64 : decode cX3_person 64 = .ok (.invokevirtual 36, 3) := dk_182 0 36 (dk_at dksX3_person_2 17 rfl rfl)
theorem dX3_person_67 : decode cX3_person 67 = .ok (.ifCond .ne 15, 3) := dk_154 0 15 (dk_at dksX3_person_2 20 rfl rfl)
theorem dX3_person_70 : decode cX3_person 70 = .ok (.aload_n 0, 1) := dk_42 (dk_at dksX3_person_2 23 rfl rfl)
theorem dX3_person_71 : decode cX3_person 71 = .ok (.getfield 12, 3) := dk_180 0 12 (dk_at dksX3_person_3 0 rfl rfl)
theorem dX3_person_74 : decode cX3_person 74 = .ok (.getfield 217, 3) := dk_180 0 217 (dk_at dksX3_person_3 3 rfl rfl)
theorem dX3_person_77 : decode cX3_person 77 = .ok (.aload_n 1, 1) := dk_43 (dk_at dksX3_person_3 6 rfl rfl)
theorem dX3_person_78 : decode cX3_person 78 = .ok (.invokevirtual 180, 3) := dk_182 0 180 (dk_at dksX3_person_3 7 rfl rfl)
theorem dX3_person_81 : decode cX3_person 81 = .ok (.pop, 1) := dk_87 (dk_at dksX3_person_3 10 rfl rfl)
theorem dX3_person_82 : decode cX3_person 82 = .ok (.return_, 1) := dk_177 (dk_at dksX3_person_3 11 rfl rfl)
abbrev cX3_kind : ByteArray := prog_8_method_19_code
def yX3_kind : MethodName := ⟨RX3, "kind", "(Ljava/lang/String;)LThirdWitness$Person;"⟩
def dkwX3_kind_9 : List UInt8 := [183, 0, 207, 176]
abbrev dktX3_kind_9 : List UInt8 := dkwX3_kind_9 ++ []
def dkwX3_kind_8 : List UInt8 := [183, 0, 213, 176, 187, 0, 214, 89, 43, 183, 0, 216, 176, 42, 4, 182, 0, 56, 187, 0, 205, 89, 43]
abbrev dktX3_kind_8 : List UInt8 := dkwX3_kind_8 ++ dktX3_kind_9
def dkwX3_kind_7 : List UInt8 := [187, 0, 205, 89, 43, 183, 0, 207, 176, 187, 0, 208, 89, 43, 183, 0, 210, 176, 187, 0, 211, 89, 43]
abbrev dktX3_kind_7 : List UInt8 := dkwX3_kind_7 ++ dktX3_kind_8
def dkwX3_kind_6 : List UInt8 := [170, 0, 0, 0, 0, 66, 0, 0, 0, 0, 0, 0, 0, 3, 0, 0, 0, 30, 0, 0, 0, 39, 0, 0, 0, 48, 0, 0, 0, 57]
abbrev dktX3_kind_6 : List UInt8 := dkwX3_kind_6 ++ dktX3_kind_7
def dkwX3_kind_5 : List UInt8 := [153, 0, 5, 6, 62, 29]
abbrev dktX3_kind_5 : List UInt8 := dkwX3_kind_5 ++ dktX3_kind_6
def dkwX3_kind_4 : List UInt8 := [62, 167, 0, 28, 44, 18, 201, 182, 0, 122, 153, 0, 19, 5, 62, 167, 0, 14, 44, 18, 203, 182, 0, 122]
abbrev dktX3_kind_4 : List UInt8 := dkwX3_kind_4 ++ dktX3_kind_5
def dkwX3_kind_3 : List UInt8 := [44, 18, 197, 182, 0, 122, 153, 0, 47, 3, 62, 167, 0, 42, 44, 18, 199, 182, 0, 122, 153, 0, 33, 4]
abbrev dktX3_kind_3 : List UInt8 := dkwX3_kind_3 ++ dktX3_kind_4
def dkwX3_kind_2 : List UInt8 := [171, 0, 0, 0, 0, 95, 0, 0, 0, 4, 0, 46, 4, 194, 0, 0, 0, 84, 0, 46, 252, 102, 0, 0, 0, 56, 5, 151, 175, 85, 0, 0, 0, 70, 6, 92, 217, 202, 0, 0, 0, 42]
abbrev dktX3_kind_2 : List UInt8 := dkwX3_kind_2 ++ dktX3_kind_3
def dkwX3_kind_1 : List UInt8 := [2, 62, 44, 182, 0, 115]
abbrev dktX3_kind_1 : List UInt8 := dkwX3_kind_1 ++ dktX3_kind_2
def dkwX3_kind_0 : List UInt8 := [42, 180, 0, 28, 180, 0, 46, 5, 160, 0, 13, 42, 180, 0, 28, 180, 0, 81, 167, 0, 5, 18, 113, 77]
abbrev dktX3_kind_0 : List UInt8 := dkwX3_kind_0 ++ dktX3_kind_1
theorem dksX3_kind_0 : cX3_kind.data.toList.drop 0 = dktX3_kind_0 := by decide +kernel
theorem dksX3_kind_1 : cX3_kind.data.toList.drop 24 = dktX3_kind_1 := dk_seg dksX3_kind_0 24 rfl rfl
theorem dksX3_kind_2 : cX3_kind.data.toList.drop 30 = dktX3_kind_2 := dk_seg dksX3_kind_1 6 rfl rfl
theorem dksX3_kind_3 : cX3_kind.data.toList.drop 72 = dktX3_kind_3 := dk_seg dksX3_kind_2 42 rfl rfl
theorem dksX3_kind_4 : cX3_kind.data.toList.drop 96 = dktX3_kind_4 := dk_seg dksX3_kind_3 24 rfl rfl
theorem dksX3_kind_5 : cX3_kind.data.toList.drop 120 = dktX3_kind_5 := dk_seg dksX3_kind_4 24 rfl rfl
theorem dksX3_kind_6 : cX3_kind.data.toList.drop 126 = dktX3_kind_6 := dk_seg dksX3_kind_5 6 rfl rfl
theorem dksX3_kind_7 : cX3_kind.data.toList.drop 156 = dktX3_kind_7 := dk_seg dksX3_kind_6 30 rfl rfl
theorem dksX3_kind_8 : cX3_kind.data.toList.drop 179 = dktX3_kind_8 := dk_seg dksX3_kind_7 23 rfl rfl
theorem dksX3_kind_9 : cX3_kind.data.toList.drop 202 = dktX3_kind_9 := dk_seg dksX3_kind_8 23 rfl rfl
theorem dX3_kind_0 : decode cX3_kind 0 = .ok (.aload_n 0, 1) := dk_42 (dk_at dksX3_kind_0 0 rfl rfl)
theorem dX3_kind_1 : decode cX3_kind 1 = .ok (.getfield 28, 3) := dk_180 0 28 (dk_at dksX3_kind_0 1 rfl rfl)
theorem dX3_kind_4 : decode cX3_kind 4 = .ok (.getfield 46, 3) := dk_180 0 46 (dk_at dksX3_kind_0 4 rfl rfl)
theorem dX3_kind_7 : decode cX3_kind 7 = .ok (.iconst 2, 1) := dk_5 (dk_at dksX3_kind_0 7 rfl rfl)
theorem dX3_kind_8 : decode cX3_kind 8 = .ok (.if_icmp .ne 13, 3) := dk_160 0 13 (dk_at dksX3_kind_0 8 rfl rfl)
theorem dX3_kind_11 : decode cX3_kind 11 = .ok (.aload_n 0, 1) := dk_42 (dk_at dksX3_kind_0 11 rfl rfl)
theorem dX3_kind_12 : decode cX3_kind 12 = .ok (.getfield 28, 3) := dk_180 0 28 (dk_at dksX3_kind_0 12 rfl rfl)
theorem dX3_kind_15 : decode cX3_kind 15 = .ok (.getfield 81, 3) := dk_180 0 81 (dk_at dksX3_kind_0 15 rfl rfl)
theorem dX3_kind_18 : decode cX3_kind 18 = .ok (.goto 5, 3) := dk_167 0 5 (dk_at dksX3_kind_0 18 rfl rfl)
theorem dX3_kind_21 : decode cX3_kind 21 = .ok (.ldc 113, 2) := dk_18 113 (dk_at dksX3_kind_0 21 rfl rfl)
theorem dX3_kind_23 : decode cX3_kind 23 = .ok (.astore_n 2, 1) := dk_77 (dk_at dksX3_kind_0 23 rfl rfl)
theorem dX3_kind_24 : decode cX3_kind 24 = .ok (.iconst (-1), 1) := dk_2 (dk_at dksX3_kind_1 0 rfl rfl)
theorem dX3_kind_25 : decode cX3_kind 25 = .ok (.istore_n 3, 1) := dk_62 (dk_at dksX3_kind_1 1 rfl rfl)
theorem dX3_kind_26 : decode cX3_kind 26 = .ok (.aload_n 2, 1) := dk_44 (dk_at dksX3_kind_1 2 rfl rfl)
theorem dX3_kind_27 : decode cX3_kind 27 = .ok (.invokevirtual 115, 3) := dk_182 0 115 (dk_at dksX3_kind_1 3 rfl rfl)
theorem dX3_kind_30 : decode cX3_kind 30 = .ok (.lookupswitch 95 #[(3015874, 84), (3079270, 56), (93826901, 70), (106748362, 42)], 42) := by decide +kernel
theorem dX3_kind_72 : decode cX3_kind 72 = .ok (.aload_n 2, 1) := dk_44 (dk_at dksX3_kind_3 0 rfl rfl)
theorem dX3_kind_73 : decode cX3_kind 73 = .ok (.ldc 197, 2) := dk_18 197 (dk_at dksX3_kind_3 1 rfl rfl)
theorem dX3_kind_75 : decode cX3_kind 75 = .ok (.invokevirtual 122, 3) := dk_182 0 122 (dk_at dksX3_kind_3 3 rfl rfl)
theorem dX3_kind_78 : decode cX3_kind 78 = .ok (.ifCond .eq 47, 3) := dk_153 0 47 (dk_at dksX3_kind_3 6 rfl rfl)
theorem dX3_kind_81 : decode cX3_kind 81 = .ok (.iconst 0, 1) := dk_3 (dk_at dksX3_kind_3 9 rfl rfl)
theorem dX3_kind_82 : decode cX3_kind 82 = .ok (.istore_n 3, 1) := dk_62 (dk_at dksX3_kind_3 10 rfl rfl)
theorem dX3_kind_83 : decode cX3_kind 83 = .ok (.goto 42, 3) := dk_167 0 42 (dk_at dksX3_kind_3 11 rfl rfl)
theorem dX3_kind_86 : decode cX3_kind 86 = .ok (.aload_n 2, 1) := dk_44 (dk_at dksX3_kind_3 14 rfl rfl)
theorem dX3_kind_87 : decode cX3_kind 87 = .ok (.ldc 199, 2) := dk_18 199 (dk_at dksX3_kind_3 15 rfl rfl)
theorem dX3_kind_89 : decode cX3_kind 89 = .ok (.invokevirtual 122, 3) := dk_182 0 122 (dk_at dksX3_kind_3 17 rfl rfl)
theorem dX3_kind_92 : decode cX3_kind 92 = .ok (.ifCond .eq 33, 3) := dk_153 0 33 (dk_at dksX3_kind_3 20 rfl rfl)
theorem dX3_kind_95 : decode cX3_kind 95 = .ok (.iconst 1, 1) := dk_4 (dk_at dksX3_kind_3 23 rfl rfl)
theorem dX3_kind_96 : decode cX3_kind 96 = .ok (.istore_n 3, 1) := dk_62 (dk_at dksX3_kind_4 0 rfl rfl)
theorem dX3_kind_97 : decode cX3_kind 97 = .ok (.goto 28, 3) := dk_167 0 28 (dk_at dksX3_kind_4 1 rfl rfl)
theorem dX3_kind_100 : decode cX3_kind 100 = .ok (.aload_n 2, 1) := dk_44 (dk_at dksX3_kind_4 4 rfl rfl)
theorem dX3_kind_101 : decode cX3_kind 101 = .ok (.ldc 201, 2) := dk_18 201 (dk_at dksX3_kind_4 5 rfl rfl)
theorem dX3_kind_103 : decode cX3_kind 103 = .ok (.invokevirtual 122, 3) := dk_182 0 122 (dk_at dksX3_kind_4 7 rfl rfl)
theorem dX3_kind_106 : decode cX3_kind 106 = .ok (.ifCond .eq 19, 3) := dk_153 0 19 (dk_at dksX3_kind_4 10 rfl rfl)
theorem dX3_kind_109 : decode cX3_kind 109 = .ok (.iconst 2, 1) := dk_5 (dk_at dksX3_kind_4 13 rfl rfl)
theorem dX3_kind_110 : decode cX3_kind 110 = .ok (.istore_n 3, 1) := dk_62 (dk_at dksX3_kind_4 14 rfl rfl)
theorem dX3_kind_111 : decode cX3_kind 111 = .ok (.goto 14, 3) := dk_167 0 14 (dk_at dksX3_kind_4 15 rfl rfl)
theorem dX3_kind_114 : decode cX3_kind 114 = .ok (.aload_n 2, 1) := dk_44 (dk_at dksX3_kind_4 18 rfl rfl)
theorem dX3_kind_115 : decode cX3_kind 115 = .ok (.ldc 203, 2) := dk_18 203 (dk_at dksX3_kind_4 19 rfl rfl)
theorem dX3_kind_117 : decode cX3_kind 117 = .ok (.invokevirtual 122, 3) := dk_182 0 122 (dk_at dksX3_kind_4 21 rfl rfl)
theorem dX3_kind_120 : decode cX3_kind 120 = .ok (.ifCond .eq 5, 3) := dk_153 0 5 (dk_at dksX3_kind_5 0 rfl rfl)
theorem dX3_kind_123 : decode cX3_kind 123 = .ok (.iconst 3, 1) := dk_6 (dk_at dksX3_kind_5 3 rfl rfl)
theorem dX3_kind_124 : decode cX3_kind 124 = .ok (.istore_n 3, 1) := dk_62 (dk_at dksX3_kind_5 4 rfl rfl)
theorem dX3_kind_125 : decode cX3_kind 125 = .ok (.iload_n 3, 1) := dk_29 (dk_at dksX3_kind_5 5 rfl rfl)
theorem dX3_kind_126 : decode cX3_kind 126 = .ok (.tableswitch 66 0 3 #[30, 39, 48, 57], 30) := by decide +kernel
theorem dX3_kind_156 : decode cX3_kind 156 = .ok (.new 205, 3) := dk_187 0 205 (dk_at dksX3_kind_7 0 rfl rfl)
theorem dX3_kind_159 : decode cX3_kind 159 = .ok (.dup, 1) := dk_89 (dk_at dksX3_kind_7 3 rfl rfl)
theorem dX3_kind_160 : decode cX3_kind 160 = .ok (.aload_n 1, 1) := dk_43 (dk_at dksX3_kind_7 4 rfl rfl)
theorem dX3_kind_161 : decode cX3_kind 161 = .ok (.invokespecial 207, 3) := dk_183 0 207 (dk_at dksX3_kind_7 5 rfl rfl)
theorem dX3_kind_164 : decode cX3_kind 164 = .ok (.areturn, 1) := dk_176 (dk_at dksX3_kind_7 8 rfl rfl)
theorem dX3_kind_165 : decode cX3_kind 165 = .ok (.new 208, 3) := dk_187 0 208 (dk_at dksX3_kind_7 9 rfl rfl)
theorem dX3_kind_168 : decode cX3_kind 168 = .ok (.dup, 1) := dk_89 (dk_at dksX3_kind_7 12 rfl rfl)
theorem dX3_kind_169 : decode cX3_kind 169 = .ok (.aload_n 1, 1) := dk_43 (dk_at dksX3_kind_7 13 rfl rfl)
theorem dX3_kind_170 : decode cX3_kind 170 = .ok (.invokespecial 210, 3) := dk_183 0 210 (dk_at dksX3_kind_7 14 rfl rfl)
theorem dX3_kind_173 : decode cX3_kind 173 = .ok (.areturn, 1) := dk_176 (dk_at dksX3_kind_7 17 rfl rfl)
theorem dX3_kind_174 : decode cX3_kind 174 = .ok (.new 211, 3) := dk_187 0 211 (dk_at dksX3_kind_7 18 rfl rfl)
theorem dX3_kind_177 : decode cX3_kind 177 = .ok (.dup, 1) := dk_89 (dk_at dksX3_kind_7 21 rfl rfl)
theorem dX3_kind_178 : decode cX3_kind 178 = .ok (.aload_n 1, 1) := dk_43 (dk_at dksX3_kind_7 22 rfl rfl)
theorem dX3_kind_179 : decode cX3_kind 179 = .ok (.invokespecial 213, 3) := dk_183 0 213 (dk_at dksX3_kind_8 0 rfl rfl)
theorem dX3_kind_182 : decode cX3_kind 182 = .ok (.areturn, 1) := dk_176 (dk_at dksX3_kind_8 3 rfl rfl)
theorem dX3_kind_183 : decode cX3_kind 183 = .ok (.new 214, 3) := dk_187 0 214 (dk_at dksX3_kind_8 4 rfl rfl)
theorem dX3_kind_186 : decode cX3_kind 186 = .ok (.dup, 1) := dk_89 (dk_at dksX3_kind_8 7 rfl rfl)
theorem dX3_kind_187 : decode cX3_kind 187 = .ok (.aload_n 1, 1) := dk_43 (dk_at dksX3_kind_8 8 rfl rfl)
theorem dX3_kind_188 : decode cX3_kind 188 = .ok (.invokespecial 216, 3) := dk_183 0 216 (dk_at dksX3_kind_8 9 rfl rfl)
theorem dX3_kind_191 : decode cX3_kind 191 = .ok (.areturn, 1) := dk_176 (dk_at dksX3_kind_8 12 rfl rfl)
theorem dX3_kind_192 : decode cX3_kind 192 = .ok (.aload_n 0, 1) := dk_42 (dk_at dksX3_kind_8 13 rfl rfl)
theorem dX3_kind_193 : decode cX3_kind 193 = .ok (.iconst 1, 1) := dk_4 (dk_at dksX3_kind_8 14 rfl rfl)
theorem dX3_kind_194 : decode cX3_kind 194 = .ok (.invokevirtual 56, 3) := dk_182 0 56 (dk_at dksX3_kind_8 15 rfl rfl)
theorem dX3_kind_197 : decode cX3_kind 197 = .ok (.new 205, 3) := dk_187 0 205 (dk_at dksX3_kind_8 18 rfl rfl)
theorem dX3_kind_200 : decode cX3_kind 200 = .ok (.dup, 1) := dk_89 (dk_at dksX3_kind_8 21 rfl rfl)
theorem dX3_kind_201 : decode cX3_kind 201 = .ok (.aload_n 1, 1) := dk_43 (dk_at dksX3_kind_8 22 rfl rfl)
theorem dX3_kind_202 : decode cX3_kind 202 = .ok (.invokespecial 207, 3) := dk_183 0 207 (dk_at dksX3_kind_9 0 rfl rfl)
theorem dX3_kind_205 : decode cX3_kind 205 = .ok (.areturn, 1) := dk_176 (dk_at dksX3_kind_9 3 rfl rfl)
abbrev cX3_goes : ByteArray := prog_8_method_21_code
def yX3_goes : MethodName := ⟨RX3, "goes", "()V"⟩
def dkwX3_goes_6 : List UInt8 := [96, 181, 0, 239, 42, 180, 0, 12, 89, 180, 0, 233, 4, 96, 181, 0, 233, 177]
abbrev dktX3_goes_6 : List UInt8 := dkwX3_goes_6 ++ []
def dkwX3_goes_5 : List UInt8 := [180, 0, 239, 29, 79, 25, 4, 180, 0, 244, 25, 4, 180, 0, 239, 28, 79, 25, 4, 89, 180, 0, 239, 4]
abbrev dktX3_goes_5 : List UInt8 := dkwX3_goes_5 ++ dktX3_goes_6
def dkwX3_goes_4 : List UInt8 := [16, 7, 182, 0, 56, 42, 182, 0, 49, 42, 182, 0, 36, 153, 0, 4, 177, 25, 4, 180, 0, 240, 25, 4]
abbrev dktX3_goes_4 : List UInt8 := dkwX3_goes_4 ++ dktX3_goes_5
def dkwX3_goes_3 : List UInt8 := [180, 0, 239, 158, 0, 26, 29, 25, 4, 180, 0, 240, 25, 4, 180, 0, 239, 4, 100, 46, 163, 0, 9, 42]
abbrev dktX3_goes_3 : List UInt8 := dkwX3_goes_3 ++ dktX3_goes_4
def dkwX3_goes_2 : List UInt8 := [182, 0, 67, 62, 42, 182, 0, 36, 153, 0, 4, 177, 42, 180, 0, 12, 27, 182, 0, 236, 58, 4, 25, 4]
abbrev dktX3_goes_2 : List UInt8 := dkwX3_goes_2 ++ dktX3_goes_3
def dkwX3_goes_1 : List UInt8 := [60, 42, 42, 180, 0, 12, 180, 0, 104, 182, 0, 186, 61, 42, 18, 224, 182, 0, 71, 42, 4, 16, 59]
abbrev dktX3_goes_1 : List UInt8 := dkwX3_goes_1 ++ dktX3_goes_2
def dkwX3_goes_0 : List UInt8 := [42, 42, 180, 0, 12, 180, 0, 233, 16, 10, 182, 0, 168, 42, 42, 180, 0, 12, 180, 0, 217, 182, 0, 186]
abbrev dktX3_goes_0 : List UInt8 := dkwX3_goes_0 ++ dktX3_goes_1
theorem dksX3_goes_0 : cX3_goes.data.toList.drop 0 = dktX3_goes_0 := by decide +kernel
theorem dksX3_goes_1 : cX3_goes.data.toList.drop 24 = dktX3_goes_1 := dk_seg dksX3_goes_0 24 rfl rfl
theorem dksX3_goes_2 : cX3_goes.data.toList.drop 47 = dktX3_goes_2 := dk_seg dksX3_goes_1 23 rfl rfl
theorem dksX3_goes_3 : cX3_goes.data.toList.drop 71 = dktX3_goes_3 := dk_seg dksX3_goes_2 24 rfl rfl
theorem dksX3_goes_4 : cX3_goes.data.toList.drop 95 = dktX3_goes_4 := dk_seg dksX3_goes_3 24 rfl rfl
theorem dksX3_goes_5 : cX3_goes.data.toList.drop 119 = dktX3_goes_5 := dk_seg dksX3_goes_4 24 rfl rfl
theorem dksX3_goes_6 : cX3_goes.data.toList.drop 143 = dktX3_goes_6 := dk_seg dksX3_goes_5 24 rfl rfl
theorem dX3_goes_0 : decode cX3_goes 0 = .ok (.aload_n 0, 1) := dk_42 (dk_at dksX3_goes_0 0 rfl rfl)
theorem dX3_goes_1 : decode cX3_goes 1 = .ok (.aload_n 0, 1) := dk_42 (dk_at dksX3_goes_0 1 rfl rfl)
theorem dX3_goes_2 : decode cX3_goes 2 = .ok (.getfield 12, 3) := dk_180 0 12 (dk_at dksX3_goes_0 2 rfl rfl)
theorem dX3_goes_5 : decode cX3_goes 5 = .ok (.getfield 233, 3) := dk_180 0 233 (dk_at dksX3_goes_0 5 rfl rfl)
theorem dX3_goes_8 : decode cX3_goes 8 = .ok (.bipush 10, 2) := dk_16 10 (dk_at dksX3_goes_0 8 rfl rfl)
theorem dX3_goes_10 : decode cX3_goes 10 = .ok (.invokevirtual 168, 3) := dk_182 0 168 (dk_at dksX3_goes_0 10 rfl rfl)
theorem dX3_goes_13 : decode cX3_goes 13 = .ok (.aload_n 0, 1) := dk_42 (dk_at dksX3_goes_0 13 rfl rfl)
theorem dX3_goes_14 : decode cX3_goes 14 = .ok (.aload_n 0, 1) := dk_42 (dk_at dksX3_goes_0 14 rfl rfl)
theorem dX3_goes_15 : decode cX3_goes 15 = .ok (.getfield 12, 3) := dk_180 0 12 (dk_at dksX3_goes_0 15 rfl rfl)
theorem dX3_goes_18 : decode cX3_goes 18 = .ok (.getfield 217, 3) := dk_180 0 217 (dk_at dksX3_goes_0 18 rfl rfl)
theorem dX3_goes_21 : decode cX3_goes 21 = .ok (.invokevirtual 186, 3) := dk_182 0 186 (dk_at dksX3_goes_0 21 rfl rfl)
theorem dX3_goes_24 : decode cX3_goes 24 = .ok (.istore_n 1, 1) := dk_60 (dk_at dksX3_goes_1 0 rfl rfl)
theorem dX3_goes_25 : decode cX3_goes 25 = .ok (.aload_n 0, 1) := dk_42 (dk_at dksX3_goes_1 1 rfl rfl)
theorem dX3_goes_26 : decode cX3_goes 26 = .ok (.aload_n 0, 1) := dk_42 (dk_at dksX3_goes_1 2 rfl rfl)
theorem dX3_goes_27 : decode cX3_goes 27 = .ok (.getfield 12, 3) := dk_180 0 12 (dk_at dksX3_goes_1 3 rfl rfl)
theorem dX3_goes_30 : decode cX3_goes 30 = .ok (.getfield 104, 3) := dk_180 0 104 (dk_at dksX3_goes_1 6 rfl rfl)
theorem dX3_goes_33 : decode cX3_goes 33 = .ok (.invokevirtual 186, 3) := dk_182 0 186 (dk_at dksX3_goes_1 9 rfl rfl)
theorem dX3_goes_36 : decode cX3_goes 36 = .ok (.istore_n 2, 1) := dk_61 (dk_at dksX3_goes_1 12 rfl rfl)
theorem dX3_goes_37 : decode cX3_goes 37 = .ok (.aload_n 0, 1) := dk_42 (dk_at dksX3_goes_1 13 rfl rfl)
theorem dX3_goes_38 : decode cX3_goes 38 = .ok (.ldc 224, 2) := dk_18 224 (dk_at dksX3_goes_1 14 rfl rfl)
theorem dX3_goes_40 : decode cX3_goes 40 = .ok (.invokevirtual 71, 3) := dk_182 0 71 (dk_at dksX3_goes_1 16 rfl rfl)
theorem dX3_goes_43 : decode cX3_goes 43 = .ok (.aload_n 0, 1) := dk_42 (dk_at dksX3_goes_1 19 rfl rfl)
theorem dX3_goes_44 : decode cX3_goes 44 = .ok (.iconst 1, 1) := dk_4 (dk_at dksX3_goes_1 20 rfl rfl)
theorem dX3_goes_45 : decode cX3_goes 45 = .ok (.bipush 59, 2) := dk_16 59 (dk_at dksX3_goes_1 21 rfl rfl)
theorem dX3_goes_47 : decode cX3_goes 47 = .ok (.invokevirtual 67, 3) := dk_182 0 67 (dk_at dksX3_goes_2 0 rfl rfl)
theorem dX3_goes_50 : decode cX3_goes 50 = .ok (.istore_n 3, 1) := dk_62 (dk_at dksX3_goes_2 3 rfl rfl)
theorem dX3_goes_51 : decode cX3_goes 51 = .ok (.aload_n 0, 1) := dk_42 (dk_at dksX3_goes_2 4 rfl rfl)
theorem dX3_goes_52 : decode cX3_goes 52 = .ok (.invokevirtual 36, 3) := dk_182 0 36 (dk_at dksX3_goes_2 5 rfl rfl)
theorem dX3_goes_55 : decode cX3_goes 55 = .ok (.ifCond .eq 4, 3) := dk_153 0 4 (dk_at dksX3_goes_2 8 rfl rfl)
theorem dX3_goes_58 : decode cX3_goes 58 = .ok (.return_, 1) := dk_177 (dk_at dksX3_goes_2 11 rfl rfl)
theorem dX3_goes_59 : decode cX3_goes 59 = .ok (.aload_n 0, 1) := dk_42 (dk_at dksX3_goes_2 12 rfl rfl)
theorem dX3_goes_60 : decode cX3_goes 60 = .ok (.getfield 12, 3) := dk_180 0 12 (dk_at dksX3_goes_2 13 rfl rfl)
theorem dX3_goes_63 : decode cX3_goes 63 = .ok (.iload_n 1, 1) := dk_27 (dk_at dksX3_goes_2 16 rfl rfl)
theorem dX3_goes_64 : decode cX3_goes 64 = .ok (.invokevirtual 236, 3) := dk_182 0 236 (dk_at dksX3_goes_2 17 rfl rfl)
theorem dX3_goes_67 : decode cX3_goes 67 = .ok (.astore 4, 2) := dk_58 4 (dk_at dksX3_goes_2 20 rfl rfl)
theorem dX3_goes_69 : decode cX3_goes 69 = .ok (.aload 4, 2) := dk_25 4 (dk_at dksX3_goes_2 22 rfl rfl)
theorem dX3_goes_71 : decode cX3_goes 71 = .ok (.getfield 239, 3) := dk_180 0 239 (dk_at dksX3_goes_3 0 rfl rfl)
theorem dX3_goes_74 : decode cX3_goes 74 = .ok (.ifCond .le 26, 3) := dk_158 0 26 (dk_at dksX3_goes_3 3 rfl rfl)
theorem dX3_goes_77 : decode cX3_goes 77 = .ok (.iload_n 3, 1) := dk_29 (dk_at dksX3_goes_3 6 rfl rfl)
theorem dX3_goes_78 : decode cX3_goes 78 = .ok (.aload 4, 2) := dk_25 4 (dk_at dksX3_goes_3 7 rfl rfl)
theorem dX3_goes_80 : decode cX3_goes 80 = .ok (.getfield 240, 3) := dk_180 0 240 (dk_at dksX3_goes_3 9 rfl rfl)
theorem dX3_goes_83 : decode cX3_goes 83 = .ok (.aload 4, 2) := dk_25 4 (dk_at dksX3_goes_3 12 rfl rfl)
theorem dX3_goes_85 : decode cX3_goes 85 = .ok (.getfield 239, 3) := dk_180 0 239 (dk_at dksX3_goes_3 14 rfl rfl)
theorem dX3_goes_88 : decode cX3_goes 88 = .ok (.iconst 1, 1) := dk_4 (dk_at dksX3_goes_3 17 rfl rfl)
theorem dX3_goes_89 : decode cX3_goes 89 = .ok (.isub, 1) := dk_100 (dk_at dksX3_goes_3 18 rfl rfl)
theorem dX3_goes_90 : decode cX3_goes 90 = .ok (.iaload, 1) := dk_46 (dk_at dksX3_goes_3 19 rfl rfl)
theorem dX3_goes_91 : decode cX3_goes 91 = .ok (.if_icmp .gt 9, 3) := dk_163 0 9 (dk_at dksX3_goes_3 20 rfl rfl)
theorem dX3_goes_94 : decode cX3_goes 94 = .ok (.aload_n 0, 1) := dk_42 (dk_at dksX3_goes_3 23 rfl rfl)
theorem dX3_goes_95 : decode cX3_goes 95 = .ok (.bipush 7, 2) := dk_16 7 (dk_at dksX3_goes_4 0 rfl rfl)
theorem dX3_goes_97 : decode cX3_goes 97 = .ok (.invokevirtual 56, 3) := dk_182 0 56 (dk_at dksX3_goes_4 2 rfl rfl)
theorem dX3_goes_100 : decode cX3_goes 100 = .ok (.aload_n 0, 1) := dk_42 (dk_at dksX3_goes_4 5 rfl rfl)
theorem dX3_goes_101 : decode cX3_goes 101 = .ok (.invokevirtual 49, 3) := dk_182 0 49 (dk_at dksX3_goes_4 6 rfl rfl)
theorem dX3_goes_104 : decode cX3_goes 104 = .ok (.aload_n 0, 1) := dk_42 (dk_at dksX3_goes_4 9 rfl rfl)
theorem dX3_goes_105 : decode cX3_goes 105 = .ok (.invokevirtual 36, 3) := dk_182 0 36 (dk_at dksX3_goes_4 10 rfl rfl)
theorem dX3_goes_108 : decode cX3_goes 108 = .ok (.ifCond .eq 4, 3) := dk_153 0 4 (dk_at dksX3_goes_4 13 rfl rfl)
theorem dX3_goes_111 : decode cX3_goes 111 = .ok (.return_, 1) := dk_177 (dk_at dksX3_goes_4 16 rfl rfl)
theorem dX3_goes_112 : decode cX3_goes 112 = .ok (.aload 4, 2) := dk_25 4 (dk_at dksX3_goes_4 17 rfl rfl)
theorem dX3_goes_114 : decode cX3_goes 114 = .ok (.getfield 240, 3) := dk_180 0 240 (dk_at dksX3_goes_4 19 rfl rfl)
theorem dX3_goes_117 : decode cX3_goes 117 = .ok (.aload 4, 2) := dk_25 4 (dk_at dksX3_goes_4 22 rfl rfl)
theorem dX3_goes_119 : decode cX3_goes 119 = .ok (.getfield 239, 3) := dk_180 0 239 (dk_at dksX3_goes_5 0 rfl rfl)
theorem dX3_goes_122 : decode cX3_goes 122 = .ok (.iload_n 3, 1) := dk_29 (dk_at dksX3_goes_5 3 rfl rfl)
theorem dX3_goes_123 : decode cX3_goes 123 = .ok (.iastore, 1) := dk_79 (dk_at dksX3_goes_5 4 rfl rfl)
theorem dX3_goes_124 : decode cX3_goes 124 = .ok (.aload 4, 2) := dk_25 4 (dk_at dksX3_goes_5 5 rfl rfl)
theorem dX3_goes_126 : decode cX3_goes 126 = .ok (.getfield 244, 3) := dk_180 0 244 (dk_at dksX3_goes_5 7 rfl rfl)
theorem dX3_goes_129 : decode cX3_goes 129 = .ok (.aload 4, 2) := dk_25 4 (dk_at dksX3_goes_5 10 rfl rfl)
theorem dX3_goes_131 : decode cX3_goes 131 = .ok (.getfield 239, 3) := dk_180 0 239 (dk_at dksX3_goes_5 12 rfl rfl)
theorem dX3_goes_134 : decode cX3_goes 134 = .ok (.iload_n 2, 1) := dk_28 (dk_at dksX3_goes_5 15 rfl rfl)
theorem dX3_goes_135 : decode cX3_goes 135 = .ok (.iastore, 1) := dk_79 (dk_at dksX3_goes_5 16 rfl rfl)
theorem dX3_goes_136 : decode cX3_goes 136 = .ok (.aload 4, 2) := dk_25 4 (dk_at dksX3_goes_5 17 rfl rfl)
theorem dX3_goes_138 : decode cX3_goes 138 = .ok (.dup, 1) := dk_89 (dk_at dksX3_goes_5 19 rfl rfl)
theorem dX3_goes_139 : decode cX3_goes 139 = .ok (.getfield 239, 3) := dk_180 0 239 (dk_at dksX3_goes_5 20 rfl rfl)
theorem dX3_goes_142 : decode cX3_goes 142 = .ok (.iconst 1, 1) := dk_4 (dk_at dksX3_goes_5 23 rfl rfl)
theorem dX3_goes_143 : decode cX3_goes 143 = .ok (.iadd, 1) := dk_96 (dk_at dksX3_goes_6 0 rfl rfl)
theorem dX3_goes_144 : decode cX3_goes 144 = .ok (.putfield 239, 3) := dk_181 0 239 (dk_at dksX3_goes_6 1 rfl rfl)
theorem dX3_goes_147 : decode cX3_goes 147 = .ok (.aload_n 0, 1) := dk_42 (dk_at dksX3_goes_6 4 rfl rfl)
theorem dX3_goes_148 : decode cX3_goes 148 = .ok (.getfield 12, 3) := dk_180 0 12 (dk_at dksX3_goes_6 5 rfl rfl)
theorem dX3_goes_151 : decode cX3_goes 151 = .ok (.dup, 1) := dk_89 (dk_at dksX3_goes_6 8 rfl rfl)
theorem dX3_goes_152 : decode cX3_goes 152 = .ok (.getfield 233, 3) := dk_180 0 233 (dk_at dksX3_goes_6 9 rfl rfl)
theorem dX3_goes_155 : decode cX3_goes 155 = .ok (.iconst 1, 1) := dk_4 (dk_at dksX3_goes_6 12 rfl rfl)
theorem dX3_goes_156 : decode cX3_goes 156 = .ok (.iadd, 1) := dk_96 (dk_at dksX3_goes_6 13 rfl rfl)
theorem dX3_goes_157 : decode cX3_goes 157 = .ok (.putfield 233, 3) := dk_181 0 233 (dk_at dksX3_goes_6 14 rfl rfl)
theorem dX3_goes_160 : decode cX3_goes 160 = .ok (.return_, 1) := dk_177 (dk_at dksX3_goes_6 17 rfl rfl)
abbrev cX3_quarrel : ByteArray := prog_8_method_22_code
def yX3_quarrel : MethodName := ⟨RX3, "quarrel", "()V"⟩
def dkwX3_quarrel_6 : List UInt8 := [42, 180, 0, 12, 180, 0, 246, 43, 182, 0, 180, 87, 177]
abbrev dktX3_quarrel_6 : List UInt8 := dkwX3_quarrel_6 ++ []
def dkwX3_quarrel_5 : List UInt8 := [181, 1, 5, 43, 42, 19, 1, 7, 4, 16, 99, 182, 0, 161, 181, 1, 8, 42, 182, 0, 36, 154, 0, 15]
abbrev dktX3_quarrel_5 : List UInt8 := dkwX3_quarrel_5 ++ dktX3_quarrel_6
def dkwX3_quarrel_4 : List UInt8 := [180, 0, 12, 180, 0, 104, 182, 0, 186, 181, 1, 2, 43, 42, 19, 1, 3, 3, 16, 59, 182, 0, 161]
abbrev dktX3_quarrel_4 : List UInt8 := dkwX3_quarrel_4 ++ dktX3_quarrel_5
def dkwX3_quarrel_3 : List UInt8 := [180, 0, 255, 160, 0, 8, 42, 6, 182, 0, 56, 42, 182, 0, 49, 42, 18, 224, 182, 0, 71, 43, 42, 42]
abbrev dktX3_quarrel_3 : List UInt8 := dkwX3_quarrel_3 ++ dktX3_quarrel_4
def dkwX3_quarrel_2 : List UInt8 := [180, 0, 12, 180, 0, 217, 182, 0, 91, 181, 0, 255, 42, 182, 0, 36, 154, 0, 19, 43, 180, 0, 252, 43]
abbrev dktX3_quarrel_2 : List UInt8 := dkwX3_quarrel_2 ++ dktX3_quarrel_3
def dkwX3_quarrel_1 : List UInt8 := [183, 0, 251, 76, 43, 42, 42, 180, 0, 12, 180, 0, 217, 182, 0, 186, 181, 0, 252, 43, 42, 42]
abbrev dktX3_quarrel_1 : List UInt8 := dkwX3_quarrel_1 ++ dktX3_quarrel_2
def dkwX3_quarrel_0 : List UInt8 := [42, 42, 180, 0, 12, 180, 0, 246, 182, 0, 165, 6, 182, 0, 168, 187, 0, 249, 89, 42, 182, 0, 174]
abbrev dktX3_quarrel_0 : List UInt8 := dkwX3_quarrel_0 ++ dktX3_quarrel_1
theorem dksX3_quarrel_0 : cX3_quarrel.data.toList.drop 0 = dktX3_quarrel_0 := by decide +kernel
theorem dksX3_quarrel_1 : cX3_quarrel.data.toList.drop 23 = dktX3_quarrel_1 := dk_seg dksX3_quarrel_0 23 rfl rfl
theorem dksX3_quarrel_2 : cX3_quarrel.data.toList.drop 45 = dktX3_quarrel_2 := dk_seg dksX3_quarrel_1 22 rfl rfl
theorem dksX3_quarrel_3 : cX3_quarrel.data.toList.drop 69 = dktX3_quarrel_3 := dk_seg dksX3_quarrel_2 24 rfl rfl
theorem dksX3_quarrel_4 : cX3_quarrel.data.toList.drop 93 = dktX3_quarrel_4 := dk_seg dksX3_quarrel_3 24 rfl rfl
theorem dksX3_quarrel_5 : cX3_quarrel.data.toList.drop 116 = dktX3_quarrel_5 := dk_seg dksX3_quarrel_4 23 rfl rfl
theorem dksX3_quarrel_6 : cX3_quarrel.data.toList.drop 140 = dktX3_quarrel_6 := dk_seg dksX3_quarrel_5 24 rfl rfl
theorem dX3_quarrel_0 : decode cX3_quarrel 0 = .ok (.aload_n 0, 1) := dk_42 (dk_at dksX3_quarrel_0 0 rfl rfl)
theorem dX3_quarrel_1 : decode cX3_quarrel 1 = .ok (.aload_n 0, 1) := dk_42 (dk_at dksX3_quarrel_0 1 rfl rfl)
theorem dX3_quarrel_2 : decode cX3_quarrel 2 = .ok (.getfield 12, 3) := dk_180 0 12 (dk_at dksX3_quarrel_0 2 rfl rfl)
theorem dX3_quarrel_5 : decode cX3_quarrel 5 = .ok (.getfield 246, 3) := dk_180 0 246 (dk_at dksX3_quarrel_0 5 rfl rfl)
theorem dX3_quarrel_8 : decode cX3_quarrel 8 = .ok (.invokevirtual 165, 3) := dk_182 0 165 (dk_at dksX3_quarrel_0 8 rfl rfl)
theorem dX3_quarrel_11 : decode cX3_quarrel 11 = .ok (.iconst 3, 1) := dk_6 (dk_at dksX3_quarrel_0 11 rfl rfl)
theorem dX3_quarrel_12 : decode cX3_quarrel 12 = .ok (.invokevirtual 168, 3) := dk_182 0 168 (dk_at dksX3_quarrel_0 12 rfl rfl)
theorem dX3_quarrel_15 : decode cX3_quarrel 15 = .ok (.new 249, 3) := dk_187 0 249 (dk_at dksX3_quarrel_0 15 rfl rfl)
theorem dX3_quarrel_18 : decode cX3_quarrel 18 = .ok (.dup, 1) := dk_89 (dk_at dksX3_quarrel_0 18 rfl rfl)
theorem dX3_quarrel_19 : decode cX3_quarrel 19 = .ok (.aload_n 0, 1) := dk_42 (dk_at dksX3_quarrel_0 19 rfl rfl)
theorem dX3_quarrel_20 : decode cX3_quarrel 20 = .ok (.invokevirtual 174, 3) := dk_182 0 174 (dk_at dksX3_quarrel_0 20 rfl rfl)
theorem dX3_quarrel_23 : decode cX3_quarrel 23 = .ok (.invokespecial 251, 3) := dk_183 0 251 (dk_at dksX3_quarrel_1 0 rfl rfl)
theorem dX3_quarrel_26 : decode cX3_quarrel 26 = .ok (.astore_n 1, 1) := dk_76 (dk_at dksX3_quarrel_1 3 rfl rfl)
theorem dX3_quarrel_27 : decode cX3_quarrel 27 = .ok (.aload_n 1, 1) := dk_43 (dk_at dksX3_quarrel_1 4 rfl rfl)
theorem dX3_quarrel_28 : decode cX3_quarrel 28 = .ok (.aload_n 0, 1) := dk_42 (dk_at dksX3_quarrel_1 5 rfl rfl)
theorem dX3_quarrel_29 : decode cX3_quarrel 29 = .ok (.aload_n 0, 1) := dk_42 (dk_at dksX3_quarrel_1 6 rfl rfl)
theorem dX3_quarrel_30 : decode cX3_quarrel 30 = .ok (.getfield 12, 3) := dk_180 0 12 (dk_at dksX3_quarrel_1 7 rfl rfl)
theorem dX3_quarrel_33 : decode cX3_quarrel 33 = .ok (.getfield 217, 3) := dk_180 0 217 (dk_at dksX3_quarrel_1 10 rfl rfl)
theorem dX3_quarrel_36 : decode cX3_quarrel 36 = .ok (.invokevirtual 186, 3) := dk_182 0 186 (dk_at dksX3_quarrel_1 13 rfl rfl)
theorem dX3_quarrel_39 : decode cX3_quarrel 39 = .ok (.putfield 252, 3) := dk_181 0 252 (dk_at dksX3_quarrel_1 16 rfl rfl)
theorem dX3_quarrel_42 : decode cX3_quarrel 42 = .ok (.aload_n 1, 1) := dk_43 (dk_at dksX3_quarrel_1 19 rfl rfl)
theorem dX3_quarrel_43 : decode cX3_quarrel 43 = .ok (.aload_n 0, 1) := dk_42 (dk_at dksX3_quarrel_1 20 rfl rfl)
theorem dX3_quarrel_44 : decode cX3_quarrel 44 = .ok (.aload_n 0, 1) := dk_42 (dk_at dksX3_quarrel_1 21 rfl rfl)
theorem dX3_quarrel_45 : decode cX3_quarrel 45 = .ok (.getfield 12, 3) := dk_180 0 12 (dk_at dksX3_quarrel_2 0 rfl rfl)
theorem dX3_quarrel_48 : decode cX3_quarrel 48 = .ok (.getfield 217, 3) := dk_180 0 217 (dk_at dksX3_quarrel_2 3 rfl rfl)
theorem dX3_quarrel_51 : decode cX3_quarrel 51 = .ok (.invokevirtual 91, 3) := dk_182 0 91 (dk_at dksX3_quarrel_2 6 rfl rfl)
theorem dX3_quarrel_54 : decode cX3_quarrel 54 = .ok (.putfield 255, 3) := dk_181 0 255 (dk_at dksX3_quarrel_2 9 rfl rfl)
theorem dX3_quarrel_57 : decode cX3_quarrel 57 = .ok (.aload_n 0, 1) := dk_42 (dk_at dksX3_quarrel_2 12 rfl rfl)
theorem dX3_quarrel_58 : decode cX3_quarrel 58 = .ok (.invokevirtual 36, 3) := dk_182 0 36 (dk_at dksX3_quarrel_2 13 rfl rfl)
theorem dX3_quarrel_61 : decode cX3_quarrel 61 = .ok (.ifCond .ne 19, 3) := dk_154 0 19 (dk_at dksX3_quarrel_2 16 rfl rfl)
theorem dX3_quarrel_64 : decode cX3_quarrel 64 = .ok (.aload_n 1, 1) := dk_43 (dk_at dksX3_quarrel_2 19 rfl rfl)
theorem dX3_quarrel_65 : decode cX3_quarrel 65 = .ok (.getfield 252, 3) := dk_180 0 252 (dk_at dksX3_quarrel_2 20 rfl rfl)
theorem dX3_quarrel_68 : decode cX3_quarrel 68 = .ok (.aload_n 1, 1) := dk_43 (dk_at dksX3_quarrel_2 23 rfl rfl)
theorem dX3_quarrel_69 : decode cX3_quarrel 69 = .ok (.getfield 255, 3) := dk_180 0 255 (dk_at dksX3_quarrel_3 0 rfl rfl)
theorem dX3_quarrel_72 : decode cX3_quarrel 72 = .ok (.if_icmp .ne 8, 3) := dk_160 0 8 (dk_at dksX3_quarrel_3 3 rfl rfl)
theorem dX3_quarrel_75 : decode cX3_quarrel 75 = .ok (.aload_n 0, 1) := dk_42 (dk_at dksX3_quarrel_3 6 rfl rfl)
theorem dX3_quarrel_76 : decode cX3_quarrel 76 = .ok (.iconst 3, 1) := dk_6 (dk_at dksX3_quarrel_3 7 rfl rfl)
theorem dX3_quarrel_77 : decode cX3_quarrel 77 = .ok (.invokevirtual 56, 3) := dk_182 0 56 (dk_at dksX3_quarrel_3 8 rfl rfl)
theorem dX3_quarrel_80 : decode cX3_quarrel 80 = .ok (.aload_n 0, 1) := dk_42 (dk_at dksX3_quarrel_3 11 rfl rfl)
theorem dX3_quarrel_81 : decode cX3_quarrel 81 = .ok (.invokevirtual 49, 3) := dk_182 0 49 (dk_at dksX3_quarrel_3 12 rfl rfl)
theorem dX3_quarrel_84 : decode cX3_quarrel 84 = .ok (.aload_n 0, 1) := dk_42 (dk_at dksX3_quarrel_3 15 rfl rfl)
theorem dX3_quarrel_85 : decode cX3_quarrel 85 = .ok (.ldc 224, 2) := dk_18 224 (dk_at dksX3_quarrel_3 16 rfl rfl)
theorem dX3_quarrel_87 : decode cX3_quarrel 87 = .ok (.invokevirtual 71, 3) := dk_182 0 71 (dk_at dksX3_quarrel_3 18 rfl rfl)
theorem dX3_quarrel_90 : decode cX3_quarrel 90 = .ok (.aload_n 1, 1) := dk_43 (dk_at dksX3_quarrel_3 21 rfl rfl)
theorem dX3_quarrel_91 : decode cX3_quarrel 91 = .ok (.aload_n 0, 1) := dk_42 (dk_at dksX3_quarrel_3 22 rfl rfl)
theorem dX3_quarrel_92 : decode cX3_quarrel 92 = .ok (.aload_n 0, 1) := dk_42 (dk_at dksX3_quarrel_3 23 rfl rfl)
theorem dX3_quarrel_93 : decode cX3_quarrel 93 = .ok (.getfield 12, 3) := dk_180 0 12 (dk_at dksX3_quarrel_4 0 rfl rfl)
theorem dX3_quarrel_96 : decode cX3_quarrel 96 = .ok (.getfield 104, 3) := dk_180 0 104 (dk_at dksX3_quarrel_4 3 rfl rfl)
theorem dX3_quarrel_99 : decode cX3_quarrel 99 = .ok (.invokevirtual 186, 3) := dk_182 0 186 (dk_at dksX3_quarrel_4 6 rfl rfl)
theorem dX3_quarrel_102 : decode cX3_quarrel 102 = .ok (.putfield 258, 3) := dk_181 1 2 (dk_at dksX3_quarrel_4 9 rfl rfl)
theorem dX3_quarrel_105 : decode cX3_quarrel 105 = .ok (.aload_n 1, 1) := dk_43 (dk_at dksX3_quarrel_4 12 rfl rfl)
theorem dX3_quarrel_106 : decode cX3_quarrel 106 = .ok (.aload_n 0, 1) := dk_42 (dk_at dksX3_quarrel_4 13 rfl rfl)
theorem dX3_quarrel_107 : decode cX3_quarrel 107 = .ok (.ldc_w 259, 3) := dk_19 1 3 (dk_at dksX3_quarrel_4 14 rfl rfl)
theorem dX3_quarrel_110 : decode cX3_quarrel 110 = .ok (.iconst 0, 1) := dk_3 (dk_at dksX3_quarrel_4 17 rfl rfl)
theorem dX3_quarrel_111 : decode cX3_quarrel 111 = .ok (.bipush 59, 2) := dk_16 59 (dk_at dksX3_quarrel_4 18 rfl rfl)
theorem dX3_quarrel_113 : decode cX3_quarrel 113 = .ok (.invokevirtual 161, 3) := dk_182 0 161 (dk_at dksX3_quarrel_4 20 rfl rfl)
theorem dX3_quarrel_116 : decode cX3_quarrel 116 = .ok (.putfield 261, 3) := dk_181 1 5 (dk_at dksX3_quarrel_5 0 rfl rfl)
theorem dX3_quarrel_119 : decode cX3_quarrel 119 = .ok (.aload_n 1, 1) := dk_43 (dk_at dksX3_quarrel_5 3 rfl rfl)
theorem dX3_quarrel_120 : decode cX3_quarrel 120 = .ok (.aload_n 0, 1) := dk_42 (dk_at dksX3_quarrel_5 4 rfl rfl)
theorem dX3_quarrel_121 : decode cX3_quarrel 121 = .ok (.ldc_w 263, 3) := dk_19 1 7 (dk_at dksX3_quarrel_5 5 rfl rfl)
theorem dX3_quarrel_124 : decode cX3_quarrel 124 = .ok (.iconst 1, 1) := dk_4 (dk_at dksX3_quarrel_5 8 rfl rfl)
theorem dX3_quarrel_125 : decode cX3_quarrel 125 = .ok (.bipush 99, 2) := dk_16 99 (dk_at dksX3_quarrel_5 9 rfl rfl)
theorem dX3_quarrel_127 : decode cX3_quarrel 127 = .ok (.invokevirtual 161, 3) := dk_182 0 161 (dk_at dksX3_quarrel_5 11 rfl rfl)
theorem dX3_quarrel_130 : decode cX3_quarrel 130 = .ok (.putfield 264, 3) := dk_181 1 8 (dk_at dksX3_quarrel_5 14 rfl rfl)
theorem dX3_quarrel_133 : decode cX3_quarrel 133 = .ok (.aload_n 0, 1) := dk_42 (dk_at dksX3_quarrel_5 17 rfl rfl)
theorem dX3_quarrel_134 : decode cX3_quarrel 134 = .ok (.invokevirtual 36, 3) := dk_182 0 36 (dk_at dksX3_quarrel_5 18 rfl rfl)
theorem dX3_quarrel_137 : decode cX3_quarrel 137 = .ok (.ifCond .ne 15, 3) := dk_154 0 15 (dk_at dksX3_quarrel_5 21 rfl rfl)
theorem dX3_quarrel_140 : decode cX3_quarrel 140 = .ok (.aload_n 0, 1) := dk_42 (dk_at dksX3_quarrel_6 0 rfl rfl)
theorem dX3_quarrel_141 : decode cX3_quarrel 141 = .ok (.getfield 12, 3) := dk_180 0 12 (dk_at dksX3_quarrel_6 1 rfl rfl)
theorem dX3_quarrel_144 : decode cX3_quarrel 144 = .ok (.getfield 246, 3) := dk_180 0 246 (dk_at dksX3_quarrel_6 4 rfl rfl)
theorem dX3_quarrel_147 : decode cX3_quarrel 147 = .ok (.aload_n 1, 1) := dk_43 (dk_at dksX3_quarrel_6 7 rfl rfl)
theorem dX3_quarrel_148 : decode cX3_quarrel 148 = .ok (.invokevirtual 180, 3) := dk_182 0 180 (dk_at dksX3_quarrel_6 8 rfl rfl)
theorem dX3_quarrel_151 : decode cX3_quarrel 151 = .ok (.pop, 1) := dk_87 (dk_at dksX3_quarrel_6 11 rfl rfl)
theorem dX3_quarrel_152 : decode cX3_quarrel 152 = .ok (.return_, 1) := dk_177 (dk_at dksX3_quarrel_6 12 rfl rfl)
abbrev cX3_hire : ByteArray := prog_8_method_23_code
def yX3_hire : MethodName := ⟨RX3, "hire", "()V"⟩
def dkwX3_hire_4 : List UInt8 := [177]
abbrev dktX3_hire_4 : List UInt8 := dkwX3_hire_4 ++ []
def dkwX3_hire_3 : List UInt8 := [180, 0, 12, 27, 182, 0, 236, 28, 181, 1, 10, 42, 180, 0, 12, 89, 180, 1, 15, 4, 96, 181, 1, 15]
abbrev dktX3_hire_3 : List UInt8 := dkwX3_hire_3 ++ dktX3_hire_4
def dkwX3_hire_2 : List UInt8 := [42, 182, 0, 49, 42, 19, 1, 13, 3, 16, 20, 182, 0, 161, 61, 42, 182, 0, 36, 153, 0, 4, 177, 42]
abbrev dktX3_hire_2 : List UInt8 := dkwX3_hire_2 ++ dktX3_hire_3
def dkwX3_hire_1 : List UInt8 := [154, 0, 24, 42, 180, 0, 12, 27, 182, 0, 236, 180, 1, 10, 16, 254, 159, 0, 8, 42, 6, 182, 0, 56]
abbrev dktX3_hire_1 : List UInt8 := dkwX3_hire_1 ++ dktX3_hire_2
def dkwX3_hire_0 : List UInt8 := [42, 2, 3, 182, 0, 168, 42, 42, 180, 0, 12, 180, 0, 217, 182, 0, 91, 60, 42, 182, 0, 36]
abbrev dktX3_hire_0 : List UInt8 := dkwX3_hire_0 ++ dktX3_hire_1
theorem dksX3_hire_0 : cX3_hire.data.toList.drop 0 = dktX3_hire_0 := by decide +kernel
theorem dksX3_hire_1 : cX3_hire.data.toList.drop 22 = dktX3_hire_1 := dk_seg dksX3_hire_0 22 rfl rfl
theorem dksX3_hire_2 : cX3_hire.data.toList.drop 46 = dktX3_hire_2 := dk_seg dksX3_hire_1 24 rfl rfl
theorem dksX3_hire_3 : cX3_hire.data.toList.drop 70 = dktX3_hire_3 := dk_seg dksX3_hire_2 24 rfl rfl
theorem dksX3_hire_4 : cX3_hire.data.toList.drop 94 = dktX3_hire_4 := dk_seg dksX3_hire_3 24 rfl rfl
theorem dX3_hire_0 : decode cX3_hire 0 = .ok (.aload_n 0, 1) := dk_42 (dk_at dksX3_hire_0 0 rfl rfl)
theorem dX3_hire_1 : decode cX3_hire 1 = .ok (.iconst (-1), 1) := dk_2 (dk_at dksX3_hire_0 1 rfl rfl)
theorem dX3_hire_2 : decode cX3_hire 2 = .ok (.iconst 0, 1) := dk_3 (dk_at dksX3_hire_0 2 rfl rfl)
theorem dX3_hire_3 : decode cX3_hire 3 = .ok (.invokevirtual 168, 3) := dk_182 0 168 (dk_at dksX3_hire_0 3 rfl rfl)
theorem dX3_hire_6 : decode cX3_hire 6 = .ok (.aload_n 0, 1) := dk_42 (dk_at dksX3_hire_0 6 rfl rfl)
theorem dX3_hire_7 : decode cX3_hire 7 = .ok (.aload_n 0, 1) := dk_42 (dk_at dksX3_hire_0 7 rfl rfl)
theorem dX3_hire_8 : decode cX3_hire 8 = .ok (.getfield 12, 3) := dk_180 0 12 (dk_at dksX3_hire_0 8 rfl rfl)
theorem dX3_hire_11 : decode cX3_hire 11 = .ok (.getfield 217, 3) := dk_180 0 217 (dk_at dksX3_hire_0 11 rfl rfl)
theorem dX3_hire_14 : decode cX3_hire 14 = .ok (.invokevirtual 91, 3) := dk_182 0 91 (dk_at dksX3_hire_0 14 rfl rfl)
theorem dX3_hire_17 : decode cX3_hire 17 = .ok (.istore_n 1, 1) := dk_60 (dk_at dksX3_hire_0 17 rfl rfl)
theorem dX3_hire_18 : decode cX3_hire 18 = .ok (.aload_n 0, 1) := dk_42 (dk_at dksX3_hire_0 18 rfl rfl)
theorem dX3_hire_19 : decode cX3_hire 19 = .ok (.invokevirtual 36, 3) := dk_182 0 36 (dk_at dksX3_hire_0 19 rfl rfl)
theorem dX3_hire_22 : decode cX3_hire 22 = .ok (.ifCond .ne 24, 3) := dk_154 0 24 (dk_at dksX3_hire_1 0 rfl rfl)
theorem dX3_hire_25 : decode cX3_hire 25 = .ok (.aload_n 0, 1) := dk_42 (dk_at dksX3_hire_1 3 rfl rfl)
theorem dX3_hire_26 : decode cX3_hire 26 = .ok (.getfield 12, 3) := dk_180 0 12 (dk_at dksX3_hire_1 4 rfl rfl)
theorem dX3_hire_29 : decode cX3_hire 29 = .ok (.iload_n 1, 1) := dk_27 (dk_at dksX3_hire_1 7 rfl rfl)
theorem dX3_hire_30 : decode cX3_hire 30 = .ok (.invokevirtual 236, 3) := dk_182 0 236 (dk_at dksX3_hire_1 8 rfl rfl)
theorem dX3_hire_33 : decode cX3_hire 33 = .ok (.getfield 266, 3) := dk_180 1 10 (dk_at dksX3_hire_1 11 rfl rfl)
theorem dX3_hire_36 : decode cX3_hire 36 = .ok (.bipush (-2), 2) := dk_16 254 (dk_at dksX3_hire_1 14 rfl rfl)
theorem dX3_hire_38 : decode cX3_hire 38 = .ok (.if_icmp .eq 8, 3) := dk_159 0 8 (dk_at dksX3_hire_1 16 rfl rfl)
theorem dX3_hire_41 : decode cX3_hire 41 = .ok (.aload_n 0, 1) := dk_42 (dk_at dksX3_hire_1 19 rfl rfl)
theorem dX3_hire_42 : decode cX3_hire 42 = .ok (.iconst 3, 1) := dk_6 (dk_at dksX3_hire_1 20 rfl rfl)
theorem dX3_hire_43 : decode cX3_hire 43 = .ok (.invokevirtual 56, 3) := dk_182 0 56 (dk_at dksX3_hire_1 21 rfl rfl)
theorem dX3_hire_46 : decode cX3_hire 46 = .ok (.aload_n 0, 1) := dk_42 (dk_at dksX3_hire_2 0 rfl rfl)
theorem dX3_hire_47 : decode cX3_hire 47 = .ok (.invokevirtual 49, 3) := dk_182 0 49 (dk_at dksX3_hire_2 1 rfl rfl)
theorem dX3_hire_50 : decode cX3_hire 50 = .ok (.aload_n 0, 1) := dk_42 (dk_at dksX3_hire_2 4 rfl rfl)
theorem dX3_hire_51 : decode cX3_hire 51 = .ok (.ldc_w 269, 3) := dk_19 1 13 (dk_at dksX3_hire_2 5 rfl rfl)
theorem dX3_hire_54 : decode cX3_hire 54 = .ok (.iconst 0, 1) := dk_3 (dk_at dksX3_hire_2 8 rfl rfl)
theorem dX3_hire_55 : decode cX3_hire 55 = .ok (.bipush 20, 2) := dk_16 20 (dk_at dksX3_hire_2 9 rfl rfl)
theorem dX3_hire_57 : decode cX3_hire 57 = .ok (.invokevirtual 161, 3) := dk_182 0 161 (dk_at dksX3_hire_2 11 rfl rfl)
theorem dX3_hire_60 : decode cX3_hire 60 = .ok (.istore_n 2, 1) := dk_61 (dk_at dksX3_hire_2 14 rfl rfl)
theorem dX3_hire_61 : decode cX3_hire 61 = .ok (.aload_n 0, 1) := dk_42 (dk_at dksX3_hire_2 15 rfl rfl)
theorem dX3_hire_62 : decode cX3_hire 62 = .ok (.invokevirtual 36, 3) := dk_182 0 36 (dk_at dksX3_hire_2 16 rfl rfl)
theorem dX3_hire_65 : decode cX3_hire 65 = .ok (.ifCond .eq 4, 3) := dk_153 0 4 (dk_at dksX3_hire_2 19 rfl rfl)
theorem dX3_hire_68 : decode cX3_hire 68 = .ok (.return_, 1) := dk_177 (dk_at dksX3_hire_2 22 rfl rfl)
theorem dX3_hire_69 : decode cX3_hire 69 = .ok (.aload_n 0, 1) := dk_42 (dk_at dksX3_hire_2 23 rfl rfl)
theorem dX3_hire_70 : decode cX3_hire 70 = .ok (.getfield 12, 3) := dk_180 0 12 (dk_at dksX3_hire_3 0 rfl rfl)
theorem dX3_hire_73 : decode cX3_hire 73 = .ok (.iload_n 1, 1) := dk_27 (dk_at dksX3_hire_3 3 rfl rfl)
theorem dX3_hire_74 : decode cX3_hire 74 = .ok (.invokevirtual 236, 3) := dk_182 0 236 (dk_at dksX3_hire_3 4 rfl rfl)
theorem dX3_hire_77 : decode cX3_hire 77 = .ok (.iload_n 2, 1) := dk_28 (dk_at dksX3_hire_3 7 rfl rfl)
theorem dX3_hire_78 : decode cX3_hire 78 = .ok (.putfield 266, 3) := dk_181 1 10 (dk_at dksX3_hire_3 8 rfl rfl)
theorem dX3_hire_81 : decode cX3_hire 81 = .ok (.aload_n 0, 1) := dk_42 (dk_at dksX3_hire_3 11 rfl rfl)
theorem dX3_hire_82 : decode cX3_hire 82 = .ok (.getfield 12, 3) := dk_180 0 12 (dk_at dksX3_hire_3 12 rfl rfl)
theorem dX3_hire_85 : decode cX3_hire 85 = .ok (.dup, 1) := dk_89 (dk_at dksX3_hire_3 15 rfl rfl)
theorem dX3_hire_86 : decode cX3_hire 86 = .ok (.getfield 271, 3) := dk_180 1 15 (dk_at dksX3_hire_3 16 rfl rfl)
theorem dX3_hire_89 : decode cX3_hire 89 = .ok (.iconst 1, 1) := dk_4 (dk_at dksX3_hire_3 19 rfl rfl)
theorem dX3_hire_90 : decode cX3_hire 90 = .ok (.iadd, 1) := dk_96 (dk_at dksX3_hire_3 20 rfl rfl)
theorem dX3_hire_91 : decode cX3_hire 91 = .ok (.putfield 271, 3) := dk_181 1 15 (dk_at dksX3_hire_3 21 rfl rfl)
theorem dX3_hire_94 : decode cX3_hire 94 = .ok (.return_, 1) := dk_177 (dk_at dksX3_hire_4 0 rfl rfl)
abbrev cX3_unsure : ByteArray := prog_8_method_24_code
def yX3_unsure : MethodName := ⟨RX3, "unsure", "()V"⟩
def dkwX3_unsure_5 : List UInt8 := [96, 181, 1, 18, 177]
abbrev dktX3_unsure_5 : List UInt8 := dkwX3_unsure_5 ++ []
def dkwX3_unsure_4 : List UInt8 := [180, 0, 12, 180, 1, 27, 42, 180, 0, 12, 180, 1, 18, 27, 79, 42, 180, 0, 12, 89, 180, 1, 18, 4]
abbrev dktX3_unsure_4 : List UInt8 := dkwX3_unsure_4 ++ dktX3_unsure_5
def dkwX3_unsure_3 : List UInt8 := [180, 0, 12, 27, 182, 0, 236, 4, 181, 1, 21, 42, 180, 0, 12, 27, 182, 0, 236, 28, 181, 1, 24, 42]
abbrev dktX3_unsure_3 : List UInt8 := dkwX3_unsure_3 ++ dktX3_unsure_4
def dkwX3_unsure_2 : List UInt8 := [182, 0, 56, 42, 182, 0, 49, 42, 3, 16, 9, 182, 0, 75, 61, 42, 182, 0, 36, 153, 0, 4, 177, 42]
abbrev dktX3_unsure_2 : List UInt8 := dkwX3_unsure_2 ++ dktX3_unsure_3
def dkwX3_unsure_1 : List UInt8 := [42, 182, 0, 36, 154, 0, 22, 42, 180, 0, 12, 27, 182, 0, 236, 180, 1, 21, 153, 0, 8, 42, 6]
abbrev dktX3_unsure_1 : List UInt8 := dkwX3_unsure_1 ++ dktX3_unsure_2
def dkwX3_unsure_0 : List UInt8 := [42, 42, 180, 0, 12, 180, 1, 18, 7, 182, 0, 168, 42, 42, 180, 0, 12, 180, 0, 217, 182, 0, 91, 60]
abbrev dktX3_unsure_0 : List UInt8 := dkwX3_unsure_0 ++ dktX3_unsure_1
theorem dksX3_unsure_0 : cX3_unsure.data.toList.drop 0 = dktX3_unsure_0 := by decide +kernel
theorem dksX3_unsure_1 : cX3_unsure.data.toList.drop 24 = dktX3_unsure_1 := dk_seg dksX3_unsure_0 24 rfl rfl
theorem dksX3_unsure_2 : cX3_unsure.data.toList.drop 47 = dktX3_unsure_2 := dk_seg dksX3_unsure_1 23 rfl rfl
theorem dksX3_unsure_3 : cX3_unsure.data.toList.drop 71 = dktX3_unsure_3 := dk_seg dksX3_unsure_2 24 rfl rfl
theorem dksX3_unsure_4 : cX3_unsure.data.toList.drop 95 = dktX3_unsure_4 := dk_seg dksX3_unsure_3 24 rfl rfl
theorem dksX3_unsure_5 : cX3_unsure.data.toList.drop 119 = dktX3_unsure_5 := dk_seg dksX3_unsure_4 24 rfl rfl
theorem dX3_unsure_0 : decode cX3_unsure 0 = .ok (.aload_n 0, 1) := dk_42 (dk_at dksX3_unsure_0 0 rfl rfl)
theorem dX3_unsure_1 : decode cX3_unsure 1 = .ok (.aload_n 0, 1) := dk_42 (dk_at dksX3_unsure_0 1 rfl rfl)
theorem dX3_unsure_2 : decode cX3_unsure 2 = .ok (.getfield 12, 3) := dk_180 0 12 (dk_at dksX3_unsure_0 2 rfl rfl)
theorem dX3_unsure_5 : decode cX3_unsure 5 = .ok (.getfield 274, 3) := dk_180 1 18 (dk_at dksX3_unsure_0 5 rfl rfl)
theorem dX3_unsure_8 : decode cX3_unsure 8 = .ok (.iconst 4, 1) := dk_7 (dk_at dksX3_unsure_0 8 rfl rfl)
theorem dX3_unsure_9 : decode cX3_unsure 9 = .ok (.invokevirtual 168, 3) := dk_182 0 168 (dk_at dksX3_unsure_0 9 rfl rfl)
theorem dX3_unsure_12 : decode cX3_unsure 12 = .ok (.aload_n 0, 1) := dk_42 (dk_at dksX3_unsure_0 12 rfl rfl)
theorem dX3_unsure_13 : decode cX3_unsure 13 = .ok (.aload_n 0, 1) := dk_42 (dk_at dksX3_unsure_0 13 rfl rfl)
theorem dX3_unsure_14 : decode cX3_unsure 14 = .ok (.getfield 12, 3) := dk_180 0 12 (dk_at dksX3_unsure_0 14 rfl rfl)
theorem dX3_unsure_17 : decode cX3_unsure 17 = .ok (.getfield 217, 3) := dk_180 0 217 (dk_at dksX3_unsure_0 17 rfl rfl)
theorem dX3_unsure_20 : decode cX3_unsure 20 = .ok (.invokevirtual 91, 3) := dk_182 0 91 (dk_at dksX3_unsure_0 20 rfl rfl)
theorem dX3_unsure_23 : decode cX3_unsure 23 = .ok (.istore_n 1, 1) := dk_60 (dk_at dksX3_unsure_0 23 rfl rfl)
theorem dX3_unsure_24 : decode cX3_unsure 24 = .ok (.aload_n 0, 1) := dk_42 (dk_at dksX3_unsure_1 0 rfl rfl)
theorem dX3_unsure_25 : decode cX3_unsure 25 = .ok (.invokevirtual 36, 3) := dk_182 0 36 (dk_at dksX3_unsure_1 1 rfl rfl)
theorem dX3_unsure_28 : decode cX3_unsure 28 = .ok (.ifCond .ne 22, 3) := dk_154 0 22 (dk_at dksX3_unsure_1 4 rfl rfl)
theorem dX3_unsure_31 : decode cX3_unsure 31 = .ok (.aload_n 0, 1) := dk_42 (dk_at dksX3_unsure_1 7 rfl rfl)
theorem dX3_unsure_32 : decode cX3_unsure 32 = .ok (.getfield 12, 3) := dk_180 0 12 (dk_at dksX3_unsure_1 8 rfl rfl)
theorem dX3_unsure_35 : decode cX3_unsure 35 = .ok (.iload_n 1, 1) := dk_27 (dk_at dksX3_unsure_1 11 rfl rfl)
theorem dX3_unsure_36 : decode cX3_unsure 36 = .ok (.invokevirtual 236, 3) := dk_182 0 236 (dk_at dksX3_unsure_1 12 rfl rfl)
theorem dX3_unsure_39 : decode cX3_unsure 39 = .ok (.getfield 277, 3) := dk_180 1 21 (dk_at dksX3_unsure_1 15 rfl rfl)
theorem dX3_unsure_42 : decode cX3_unsure 42 = .ok (.ifCond .eq 8, 3) := dk_153 0 8 (dk_at dksX3_unsure_1 18 rfl rfl)
theorem dX3_unsure_45 : decode cX3_unsure 45 = .ok (.aload_n 0, 1) := dk_42 (dk_at dksX3_unsure_1 21 rfl rfl)
theorem dX3_unsure_46 : decode cX3_unsure 46 = .ok (.iconst 3, 1) := dk_6 (dk_at dksX3_unsure_1 22 rfl rfl)
theorem dX3_unsure_47 : decode cX3_unsure 47 = .ok (.invokevirtual 56, 3) := dk_182 0 56 (dk_at dksX3_unsure_2 0 rfl rfl)
theorem dX3_unsure_50 : decode cX3_unsure 50 = .ok (.aload_n 0, 1) := dk_42 (dk_at dksX3_unsure_2 3 rfl rfl)
theorem dX3_unsure_51 : decode cX3_unsure 51 = .ok (.invokevirtual 49, 3) := dk_182 0 49 (dk_at dksX3_unsure_2 4 rfl rfl)
theorem dX3_unsure_54 : decode cX3_unsure 54 = .ok (.aload_n 0, 1) := dk_42 (dk_at dksX3_unsure_2 7 rfl rfl)
theorem dX3_unsure_55 : decode cX3_unsure 55 = .ok (.iconst 0, 1) := dk_3 (dk_at dksX3_unsure_2 8 rfl rfl)
theorem dX3_unsure_56 : decode cX3_unsure 56 = .ok (.bipush 9, 2) := dk_16 9 (dk_at dksX3_unsure_2 9 rfl rfl)
theorem dX3_unsure_58 : decode cX3_unsure 58 = .ok (.invokevirtual 75, 3) := dk_182 0 75 (dk_at dksX3_unsure_2 11 rfl rfl)
theorem dX3_unsure_61 : decode cX3_unsure 61 = .ok (.istore_n 2, 1) := dk_61 (dk_at dksX3_unsure_2 14 rfl rfl)
theorem dX3_unsure_62 : decode cX3_unsure 62 = .ok (.aload_n 0, 1) := dk_42 (dk_at dksX3_unsure_2 15 rfl rfl)
theorem dX3_unsure_63 : decode cX3_unsure 63 = .ok (.invokevirtual 36, 3) := dk_182 0 36 (dk_at dksX3_unsure_2 16 rfl rfl)
theorem dX3_unsure_66 : decode cX3_unsure 66 = .ok (.ifCond .eq 4, 3) := dk_153 0 4 (dk_at dksX3_unsure_2 19 rfl rfl)
theorem dX3_unsure_69 : decode cX3_unsure 69 = .ok (.return_, 1) := dk_177 (dk_at dksX3_unsure_2 22 rfl rfl)
theorem dX3_unsure_70 : decode cX3_unsure 70 = .ok (.aload_n 0, 1) := dk_42 (dk_at dksX3_unsure_2 23 rfl rfl)
theorem dX3_unsure_71 : decode cX3_unsure 71 = .ok (.getfield 12, 3) := dk_180 0 12 (dk_at dksX3_unsure_3 0 rfl rfl)
theorem dX3_unsure_74 : decode cX3_unsure 74 = .ok (.iload_n 1, 1) := dk_27 (dk_at dksX3_unsure_3 3 rfl rfl)
theorem dX3_unsure_75 : decode cX3_unsure 75 = .ok (.invokevirtual 236, 3) := dk_182 0 236 (dk_at dksX3_unsure_3 4 rfl rfl)
theorem dX3_unsure_78 : decode cX3_unsure 78 = .ok (.iconst 1, 1) := dk_4 (dk_at dksX3_unsure_3 7 rfl rfl)
theorem dX3_unsure_79 : decode cX3_unsure 79 = .ok (.putfield 277, 3) := dk_181 1 21 (dk_at dksX3_unsure_3 8 rfl rfl)
theorem dX3_unsure_82 : decode cX3_unsure 82 = .ok (.aload_n 0, 1) := dk_42 (dk_at dksX3_unsure_3 11 rfl rfl)
theorem dX3_unsure_83 : decode cX3_unsure 83 = .ok (.getfield 12, 3) := dk_180 0 12 (dk_at dksX3_unsure_3 12 rfl rfl)
theorem dX3_unsure_86 : decode cX3_unsure 86 = .ok (.iload_n 1, 1) := dk_27 (dk_at dksX3_unsure_3 15 rfl rfl)
theorem dX3_unsure_87 : decode cX3_unsure 87 = .ok (.invokevirtual 236, 3) := dk_182 0 236 (dk_at dksX3_unsure_3 16 rfl rfl)
theorem dX3_unsure_90 : decode cX3_unsure 90 = .ok (.iload_n 2, 1) := dk_28 (dk_at dksX3_unsure_3 19 rfl rfl)
theorem dX3_unsure_91 : decode cX3_unsure 91 = .ok (.putfield 280, 3) := dk_181 1 24 (dk_at dksX3_unsure_3 20 rfl rfl)
theorem dX3_unsure_94 : decode cX3_unsure 94 = .ok (.aload_n 0, 1) := dk_42 (dk_at dksX3_unsure_3 23 rfl rfl)
theorem dX3_unsure_95 : decode cX3_unsure 95 = .ok (.getfield 12, 3) := dk_180 0 12 (dk_at dksX3_unsure_4 0 rfl rfl)
theorem dX3_unsure_98 : decode cX3_unsure 98 = .ok (.getfield 283, 3) := dk_180 1 27 (dk_at dksX3_unsure_4 3 rfl rfl)
theorem dX3_unsure_101 : decode cX3_unsure 101 = .ok (.aload_n 0, 1) := dk_42 (dk_at dksX3_unsure_4 6 rfl rfl)
theorem dX3_unsure_102 : decode cX3_unsure 102 = .ok (.getfield 12, 3) := dk_180 0 12 (dk_at dksX3_unsure_4 7 rfl rfl)
theorem dX3_unsure_105 : decode cX3_unsure 105 = .ok (.getfield 274, 3) := dk_180 1 18 (dk_at dksX3_unsure_4 10 rfl rfl)
theorem dX3_unsure_108 : decode cX3_unsure 108 = .ok (.iload_n 1, 1) := dk_27 (dk_at dksX3_unsure_4 13 rfl rfl)
theorem dX3_unsure_109 : decode cX3_unsure 109 = .ok (.iastore, 1) := dk_79 (dk_at dksX3_unsure_4 14 rfl rfl)
theorem dX3_unsure_110 : decode cX3_unsure 110 = .ok (.aload_n 0, 1) := dk_42 (dk_at dksX3_unsure_4 15 rfl rfl)
theorem dX3_unsure_111 : decode cX3_unsure 111 = .ok (.getfield 12, 3) := dk_180 0 12 (dk_at dksX3_unsure_4 16 rfl rfl)
theorem dX3_unsure_114 : decode cX3_unsure 114 = .ok (.dup, 1) := dk_89 (dk_at dksX3_unsure_4 19 rfl rfl)
theorem dX3_unsure_115 : decode cX3_unsure 115 = .ok (.getfield 274, 3) := dk_180 1 18 (dk_at dksX3_unsure_4 20 rfl rfl)
theorem dX3_unsure_118 : decode cX3_unsure 118 = .ok (.iconst 1, 1) := dk_4 (dk_at dksX3_unsure_4 23 rfl rfl)
theorem dX3_unsure_119 : decode cX3_unsure 119 = .ok (.iadd, 1) := dk_96 (dk_at dksX3_unsure_5 0 rfl rfl)
theorem dX3_unsure_120 : decode cX3_unsure 120 = .ok (.putfield 274, 3) := dk_181 1 18 (dk_at dksX3_unsure_5 1 rfl rfl)
theorem dX3_unsure_123 : decode cX3_unsure 123 = .ok (.return_, 1) := dk_177 (dk_at dksX3_unsure_5 4 rfl rfl)
abbrev cX3_ended : ByteArray := prog_8_method_25_code
def yX3_ended : MethodName := ⟨RX3, "ended", "()V"⟩
def dkwX3_ended_4 : List UInt8 := [177]
abbrev dktX3_ended_4 : List UInt8 := dkwX3_ended_4 ++ []
def dkwX3_ended_3 : List UInt8 := [180, 0, 12, 27, 182, 1, 29, 28, 181, 1, 32, 42, 180, 0, 12, 89, 180, 1, 34, 4, 96, 181, 1, 34]
abbrev dktX3_ended_3 : List UInt8 := dkwX3_ended_3 ++ dktX3_ended_4
def dkwX3_ended_2 : List UInt8 := [182, 0, 49, 42, 18, 224, 3, 16, 59, 182, 0, 161, 61, 42, 182, 0, 36, 153, 0, 4, 177, 42]
abbrev dktX3_ended_2 : List UInt8 := dkwX3_ended_2 ++ dktX3_ended_3
def dkwX3_ended_1 : List UInt8 := [154, 0, 23, 42, 180, 0, 12, 27, 182, 1, 29, 180, 1, 32, 2, 159, 0, 8, 42, 6, 182, 0, 56, 42]
abbrev dktX3_ended_1 : List UInt8 := dkwX3_ended_1 ++ dktX3_ended_2
def dkwX3_ended_0 : List UInt8 := [42, 2, 3, 182, 0, 168, 42, 42, 180, 0, 12, 180, 0, 246, 182, 0, 91, 60, 42, 182, 0, 36]
abbrev dktX3_ended_0 : List UInt8 := dkwX3_ended_0 ++ dktX3_ended_1
theorem dksX3_ended_0 : cX3_ended.data.toList.drop 0 = dktX3_ended_0 := by decide +kernel
theorem dksX3_ended_1 : cX3_ended.data.toList.drop 22 = dktX3_ended_1 := dk_seg dksX3_ended_0 22 rfl rfl
theorem dksX3_ended_2 : cX3_ended.data.toList.drop 46 = dktX3_ended_2 := dk_seg dksX3_ended_1 24 rfl rfl
theorem dksX3_ended_3 : cX3_ended.data.toList.drop 68 = dktX3_ended_3 := dk_seg dksX3_ended_2 22 rfl rfl
theorem dksX3_ended_4 : cX3_ended.data.toList.drop 92 = dktX3_ended_4 := dk_seg dksX3_ended_3 24 rfl rfl
theorem dX3_ended_0 : decode cX3_ended 0 = .ok (.aload_n 0, 1) := dk_42 (dk_at dksX3_ended_0 0 rfl rfl)
theorem dX3_ended_1 : decode cX3_ended 1 = .ok (.iconst (-1), 1) := dk_2 (dk_at dksX3_ended_0 1 rfl rfl)
theorem dX3_ended_2 : decode cX3_ended 2 = .ok (.iconst 0, 1) := dk_3 (dk_at dksX3_ended_0 2 rfl rfl)
theorem dX3_ended_3 : decode cX3_ended 3 = .ok (.invokevirtual 168, 3) := dk_182 0 168 (dk_at dksX3_ended_0 3 rfl rfl)
theorem dX3_ended_6 : decode cX3_ended 6 = .ok (.aload_n 0, 1) := dk_42 (dk_at dksX3_ended_0 6 rfl rfl)
theorem dX3_ended_7 : decode cX3_ended 7 = .ok (.aload_n 0, 1) := dk_42 (dk_at dksX3_ended_0 7 rfl rfl)
theorem dX3_ended_8 : decode cX3_ended 8 = .ok (.getfield 12, 3) := dk_180 0 12 (dk_at dksX3_ended_0 8 rfl rfl)
theorem dX3_ended_11 : decode cX3_ended 11 = .ok (.getfield 246, 3) := dk_180 0 246 (dk_at dksX3_ended_0 11 rfl rfl)
theorem dX3_ended_14 : decode cX3_ended 14 = .ok (.invokevirtual 91, 3) := dk_182 0 91 (dk_at dksX3_ended_0 14 rfl rfl)
theorem dX3_ended_17 : decode cX3_ended 17 = .ok (.istore_n 1, 1) := dk_60 (dk_at dksX3_ended_0 17 rfl rfl)
theorem dX3_ended_18 : decode cX3_ended 18 = .ok (.aload_n 0, 1) := dk_42 (dk_at dksX3_ended_0 18 rfl rfl)
theorem dX3_ended_19 : decode cX3_ended 19 = .ok (.invokevirtual 36, 3) := dk_182 0 36 (dk_at dksX3_ended_0 19 rfl rfl)
theorem dX3_ended_22 : decode cX3_ended 22 = .ok (.ifCond .ne 23, 3) := dk_154 0 23 (dk_at dksX3_ended_1 0 rfl rfl)
theorem dX3_ended_25 : decode cX3_ended 25 = .ok (.aload_n 0, 1) := dk_42 (dk_at dksX3_ended_1 3 rfl rfl)
theorem dX3_ended_26 : decode cX3_ended 26 = .ok (.getfield 12, 3) := dk_180 0 12 (dk_at dksX3_ended_1 4 rfl rfl)
theorem dX3_ended_29 : decode cX3_ended 29 = .ok (.iload_n 1, 1) := dk_27 (dk_at dksX3_ended_1 7 rfl rfl)
theorem dX3_ended_30 : decode cX3_ended 30 = .ok (.invokevirtual 285, 3) := dk_182 1 29 (dk_at dksX3_ended_1 8 rfl rfl)
theorem dX3_ended_33 : decode cX3_ended 33 = .ok (.getfield 288, 3) := dk_180 1 32 (dk_at dksX3_ended_1 11 rfl rfl)
theorem dX3_ended_36 : decode cX3_ended 36 = .ok (.iconst (-1), 1) := dk_2 (dk_at dksX3_ended_1 14 rfl rfl)
theorem dX3_ended_37 : decode cX3_ended 37 = .ok (.if_icmp .eq 8, 3) := dk_159 0 8 (dk_at dksX3_ended_1 15 rfl rfl)
theorem dX3_ended_40 : decode cX3_ended 40 = .ok (.aload_n 0, 1) := dk_42 (dk_at dksX3_ended_1 18 rfl rfl)
theorem dX3_ended_41 : decode cX3_ended 41 = .ok (.iconst 3, 1) := dk_6 (dk_at dksX3_ended_1 19 rfl rfl)
theorem dX3_ended_42 : decode cX3_ended 42 = .ok (.invokevirtual 56, 3) := dk_182 0 56 (dk_at dksX3_ended_1 20 rfl rfl)
theorem dX3_ended_45 : decode cX3_ended 45 = .ok (.aload_n 0, 1) := dk_42 (dk_at dksX3_ended_1 23 rfl rfl)
theorem dX3_ended_46 : decode cX3_ended 46 = .ok (.invokevirtual 49, 3) := dk_182 0 49 (dk_at dksX3_ended_2 0 rfl rfl)
theorem dX3_ended_49 : decode cX3_ended 49 = .ok (.aload_n 0, 1) := dk_42 (dk_at dksX3_ended_2 3 rfl rfl)
theorem dX3_ended_50 : decode cX3_ended 50 = .ok (.ldc 224, 2) := dk_18 224 (dk_at dksX3_ended_2 4 rfl rfl)
theorem dX3_ended_52 : decode cX3_ended 52 = .ok (.iconst 0, 1) := dk_3 (dk_at dksX3_ended_2 6 rfl rfl)
theorem dX3_ended_53 : decode cX3_ended 53 = .ok (.bipush 59, 2) := dk_16 59 (dk_at dksX3_ended_2 7 rfl rfl)
theorem dX3_ended_55 : decode cX3_ended 55 = .ok (.invokevirtual 161, 3) := dk_182 0 161 (dk_at dksX3_ended_2 9 rfl rfl)
theorem dX3_ended_58 : decode cX3_ended 58 = .ok (.istore_n 2, 1) := dk_61 (dk_at dksX3_ended_2 12 rfl rfl)
theorem dX3_ended_59 : decode cX3_ended 59 = .ok (.aload_n 0, 1) := dk_42 (dk_at dksX3_ended_2 13 rfl rfl)
theorem dX3_ended_60 : decode cX3_ended 60 = .ok (.invokevirtual 36, 3) := dk_182 0 36 (dk_at dksX3_ended_2 14 rfl rfl)
theorem dX3_ended_63 : decode cX3_ended 63 = .ok (.ifCond .eq 4, 3) := dk_153 0 4 (dk_at dksX3_ended_2 17 rfl rfl)
theorem dX3_ended_66 : decode cX3_ended 66 = .ok (.return_, 1) := dk_177 (dk_at dksX3_ended_2 20 rfl rfl)
theorem dX3_ended_67 : decode cX3_ended 67 = .ok (.aload_n 0, 1) := dk_42 (dk_at dksX3_ended_2 21 rfl rfl)
theorem dX3_ended_68 : decode cX3_ended 68 = .ok (.getfield 12, 3) := dk_180 0 12 (dk_at dksX3_ended_3 0 rfl rfl)
theorem dX3_ended_71 : decode cX3_ended 71 = .ok (.iload_n 1, 1) := dk_27 (dk_at dksX3_ended_3 3 rfl rfl)
theorem dX3_ended_72 : decode cX3_ended 72 = .ok (.invokevirtual 285, 3) := dk_182 1 29 (dk_at dksX3_ended_3 4 rfl rfl)
theorem dX3_ended_75 : decode cX3_ended 75 = .ok (.iload_n 2, 1) := dk_28 (dk_at dksX3_ended_3 7 rfl rfl)
theorem dX3_ended_76 : decode cX3_ended 76 = .ok (.putfield 288, 3) := dk_181 1 32 (dk_at dksX3_ended_3 8 rfl rfl)
theorem dX3_ended_79 : decode cX3_ended 79 = .ok (.aload_n 0, 1) := dk_42 (dk_at dksX3_ended_3 11 rfl rfl)
theorem dX3_ended_80 : decode cX3_ended 80 = .ok (.getfield 12, 3) := dk_180 0 12 (dk_at dksX3_ended_3 12 rfl rfl)
theorem dX3_ended_83 : decode cX3_ended 83 = .ok (.dup, 1) := dk_89 (dk_at dksX3_ended_3 15 rfl rfl)
theorem dX3_ended_84 : decode cX3_ended 84 = .ok (.getfield 290, 3) := dk_180 1 34 (dk_at dksX3_ended_3 16 rfl rfl)
theorem dX3_ended_87 : decode cX3_ended 87 = .ok (.iconst 1, 1) := dk_4 (dk_at dksX3_ended_3 19 rfl rfl)
theorem dX3_ended_88 : decode cX3_ended 88 = .ok (.iadd, 1) := dk_96 (dk_at dksX3_ended_3 20 rfl rfl)
theorem dX3_ended_89 : decode cX3_ended 89 = .ok (.putfield 290, 3) := dk_181 1 34 (dk_at dksX3_ended_3 21 rfl rfl)
theorem dX3_ended_92 : decode cX3_ended 92 = .ok (.return_, 1) := dk_177 (dk_at dksX3_ended_4 0 rfl rfl)
abbrev cX3_eatsSemicolon : ByteArray := prog_8_method_5_code
def yX3_eatsSemicolon : MethodName := ⟨RX3, "eatsSemicolon", "()Z"⟩
def dkwX3_eatsSemicolon_1 : List UInt8 := [4, 172]
abbrev dktX3_eatsSemicolon_1 : List UInt8 := dkwX3_eatsSemicolon_1 ++ []
def dkwX3_eatsSemicolon_0 : List UInt8 := [42, 182, 0, 36, 154, 0, 14, 42, 180, 0, 28, 180, 0, 46, 7, 159, 0, 5, 3, 172, 42, 182, 0, 49]
abbrev dktX3_eatsSemicolon_0 : List UInt8 := dkwX3_eatsSemicolon_0 ++ dktX3_eatsSemicolon_1
theorem dksX3_eatsSemicolon_0 : cX3_eatsSemicolon.data.toList.drop 0 = dktX3_eatsSemicolon_0 := by decide +kernel
theorem dksX3_eatsSemicolon_1 : cX3_eatsSemicolon.data.toList.drop 24 = dktX3_eatsSemicolon_1 := dk_seg dksX3_eatsSemicolon_0 24 rfl rfl
theorem dX3_eatsSemicolon_0 : decode cX3_eatsSemicolon 0 = .ok (.aload_n 0, 1) := dk_42 (dk_at dksX3_eatsSemicolon_0 0 rfl rfl)
theorem dX3_eatsSemicolon_1 : decode cX3_eatsSemicolon 1 = .ok (.invokevirtual 36, 3) := dk_182 0 36 (dk_at dksX3_eatsSemicolon_0 1 rfl rfl)
theorem dX3_eatsSemicolon_4 : decode cX3_eatsSemicolon 4 = .ok (.ifCond .ne 14, 3) := dk_154 0 14 (dk_at dksX3_eatsSemicolon_0 4 rfl rfl)
theorem dX3_eatsSemicolon_7 : decode cX3_eatsSemicolon 7 = .ok (.aload_n 0, 1) := dk_42 (dk_at dksX3_eatsSemicolon_0 7 rfl rfl)
theorem dX3_eatsSemicolon_8 : decode cX3_eatsSemicolon 8 = .ok (.getfield 28, 3) := dk_180 0 28 (dk_at dksX3_eatsSemicolon_0 8 rfl rfl)
theorem dX3_eatsSemicolon_11 : decode cX3_eatsSemicolon 11 = .ok (.getfield 46, 3) := dk_180 0 46 (dk_at dksX3_eatsSemicolon_0 11 rfl rfl)
theorem dX3_eatsSemicolon_14 : decode cX3_eatsSemicolon 14 = .ok (.iconst 4, 1) := dk_7 (dk_at dksX3_eatsSemicolon_0 14 rfl rfl)
theorem dX3_eatsSemicolon_15 : decode cX3_eatsSemicolon 15 = .ok (.if_icmp .eq 5, 3) := dk_159 0 5 (dk_at dksX3_eatsSemicolon_0 15 rfl rfl)
theorem dX3_eatsSemicolon_18 : decode cX3_eatsSemicolon 18 = .ok (.iconst 0, 1) := dk_3 (dk_at dksX3_eatsSemicolon_0 18 rfl rfl)
theorem dX3_eatsSemicolon_19 : decode cX3_eatsSemicolon 19 = .ok (.ireturn, 1) := dk_172 (dk_at dksX3_eatsSemicolon_0 19 rfl rfl)
theorem dX3_eatsSemicolon_20 : decode cX3_eatsSemicolon 20 = .ok (.aload_n 0, 1) := dk_42 (dk_at dksX3_eatsSemicolon_0 20 rfl rfl)
theorem dX3_eatsSemicolon_21 : decode cX3_eatsSemicolon 21 = .ok (.invokevirtual 49, 3) := dk_182 0 49 (dk_at dksX3_eatsSemicolon_0 21 rfl rfl)
theorem dX3_eatsSemicolon_24 : decode cX3_eatsSemicolon 24 = .ok (.iconst 1, 1) := dk_4 (dk_at dksX3_eatsSemicolon_1 0 rfl rfl)
theorem dX3_eatsSemicolon_25 : decode cX3_eatsSemicolon 25 = .ok (.ireturn, 1) := dk_172 (dk_at dksX3_eatsSemicolon_1 1 rfl rfl)
abbrev cX4_init : ByteArray := prog_12_method_1_code
def yX4_init : MethodName := ⟨RX4, "<init>", "([BI)V"⟩
def dkwX4_init_0 : List UInt8 := [42, 183, 0, 3, 42, 43, 181, 0, 9, 42, 28, 181, 0, 15, 177]
abbrev dktX4_init_0 : List UInt8 := dkwX4_init_0 ++ []
theorem dksX4_init_0 : cX4_init.data.toList.drop 0 = dktX4_init_0 := by decide +kernel
theorem dX4_init_0 : decode cX4_init 0 = .ok (.aload_n 0, 1) := dk_42 (dk_at dksX4_init_0 0 rfl rfl)
theorem dX4_init_1 : decode cX4_init 1 = .ok (.invokespecial 3, 3) := dk_183 0 3 (dk_at dksX4_init_0 1 rfl rfl)
theorem dX4_init_4 : decode cX4_init 4 = .ok (.aload_n 0, 1) := dk_42 (dk_at dksX4_init_0 4 rfl rfl)
theorem dX4_init_5 : decode cX4_init 5 = .ok (.aload_n 1, 1) := dk_43 (dk_at dksX4_init_0 5 rfl rfl)
theorem dX4_init_6 : decode cX4_init 6 = .ok (.putfield 9, 3) := dk_181 0 9 (dk_at dksX4_init_0 6 rfl rfl)
theorem dX4_init_9 : decode cX4_init 9 = .ok (.aload_n 0, 1) := dk_42 (dk_at dksX4_init_0 9 rfl rfl)
theorem dX4_init_10 : decode cX4_init 10 = .ok (.iload_n 2, 1) := dk_28 (dk_at dksX4_init_0 10 rfl rfl)
theorem dX4_init_11 : decode cX4_init 11 = .ok (.putfield 15, 3) := dk_181 0 15 (dk_at dksX4_init_0 11 rfl rfl)
theorem dX4_init_14 : decode cX4_init 14 = .ok (.return_, 1) := dk_177 (dk_at dksX4_init_0 14 rfl rfl)
abbrev cX4_next : ByteArray := prog_12_method_3_code
def yX4_next : MethodName := ⟨RX4, "next", "()LThirdWitness$Token;"⟩
def dkwX4_next_12 : List UInt8 := [28, 18, 28, 183, 0, 30, 176]
abbrev dktX4_next_12 : List UInt8 := dkwX4_next_12 ++ []
def dkwX4_next_11 : List UInt8 := [180, 0, 19, 4, 96, 181, 0, 19, 187, 0, 26, 89, 28, 16, 59, 160, 0, 7, 7, 167, 0, 4, 3, 27]
abbrev dktX4_next_11 : List UInt8 := dkwX4_next_11 ++ dktX4_next_12
def dkwX4_next_10 : List UInt8 := [164, 0, 7, 3, 167, 0, 4, 6, 27, 28, 18, 28, 183, 0, 30, 176, 42, 182, 0, 22, 61, 42, 89]
abbrev dktX4_next_10 : List UInt8 := dkwX4_next_10 ++ dktX4_next_11
def dkwX4_next_9 : List UInt8 := [180, 0, 19, 4, 96, 181, 0, 19, 167, 255, 209, 187, 0, 26, 89, 42, 180, 0, 19, 27, 100, 6]
abbrev dktX4_next_9 : List UInt8 := dkwX4_next_9 ++ dktX4_next_10
def dkwX4_next_8 : List UInt8 := [180, 0, 19, 27, 100, 6, 162, 0, 16, 16, 10, 28, 104, 42, 182, 0, 22, 96, 16, 48, 100, 61, 42, 89]
abbrev dktX4_next_8 : List UInt8 := dkwX4_next_8 ++ dktX4_next_9
def dkwX4_next_7 : List UInt8 := [184, 0, 33, 153, 0, 82, 3, 61, 42, 182, 0, 22, 16, 48, 16, 57, 184, 0, 33, 153, 0, 39, 42]
abbrev dktX4_next_7 : List UInt8 := dkwX4_next_7 ++ dktX4_next_8
def dkwX4_next_6 : List UInt8 := [167, 0, 4, 5, 27, 3, 44, 182, 0, 44, 183, 0, 30, 176, 42, 182, 0, 22, 16, 48, 16, 57]
abbrev dktX4_next_6 : List UInt8 := dkwX4_next_6 ++ dktX4_next_7
def dkwX4_next_5 : List UInt8 := [181, 0, 19, 167, 255, 211, 187, 0, 26, 89, 42, 180, 0, 19, 27, 100, 16, 8, 164, 0, 7, 3]
abbrev dktX4_next_5 : List UInt8 := dkwX4_next_5 ++ dktX4_next_6
def dkwX4_next_4 : List UInt8 := [16, 8, 162, 0, 13, 44, 42, 182, 0, 22, 146, 182, 0, 40, 87, 42, 89, 180, 0, 19, 4, 96]
abbrev dktX4_next_4 : List UInt8 := dkwX4_next_4 ++ dktX4_next_5
def dkwX4_next_3 : List UInt8 := [183, 0, 39, 77, 42, 182, 0, 22, 16, 97, 16, 122, 184, 0, 33, 153, 0, 37, 42, 180, 0, 19, 27, 100]
abbrev dktX4_next_3 : List UInt8 := dkwX4_next_3 ++ dktX4_next_4
def dkwX4_next_2 : List UInt8 := [183, 0, 30, 176, 42, 182, 0, 22, 16, 97, 16, 122, 184, 0, 33, 153, 0, 89, 187, 0, 37, 89]
abbrev dktX4_next_2 : List UInt8 := dkwX4_next_2 ++ dktX4_next_3
def dkwX4_next_1 : List UInt8 := [180, 0, 19, 60, 42, 180, 0, 19, 42, 180, 0, 15, 160, 0, 16, 187, 0, 26, 89, 4, 27, 3, 18, 28]
abbrev dktX4_next_1 : List UInt8 := dkwX4_next_1 ++ dktX4_next_2
def dkwX4_next_0 : List UInt8 := [42, 182, 0, 22, 16, 32, 160, 0, 16, 42, 89, 180, 0, 19, 4, 96, 181, 0, 19, 167, 255, 237, 42]
abbrev dktX4_next_0 : List UInt8 := dkwX4_next_0 ++ dktX4_next_1
theorem dksX4_next_0 : cX4_next.data.toList.drop 0 = dktX4_next_0 := by decide +kernel
theorem dksX4_next_1 : cX4_next.data.toList.drop 23 = dktX4_next_1 := dk_seg dksX4_next_0 23 rfl rfl
theorem dksX4_next_2 : cX4_next.data.toList.drop 47 = dktX4_next_2 := dk_seg dksX4_next_1 24 rfl rfl
theorem dksX4_next_3 : cX4_next.data.toList.drop 69 = dktX4_next_3 := dk_seg dksX4_next_2 22 rfl rfl
theorem dksX4_next_4 : cX4_next.data.toList.drop 93 = dktX4_next_4 := dk_seg dksX4_next_3 24 rfl rfl
theorem dksX4_next_5 : cX4_next.data.toList.drop 115 = dktX4_next_5 := dk_seg dksX4_next_4 22 rfl rfl
theorem dksX4_next_6 : cX4_next.data.toList.drop 137 = dktX4_next_6 := dk_seg dksX4_next_5 22 rfl rfl
theorem dksX4_next_7 : cX4_next.data.toList.drop 159 = dktX4_next_7 := dk_seg dksX4_next_6 22 rfl rfl
theorem dksX4_next_8 : cX4_next.data.toList.drop 182 = dktX4_next_8 := dk_seg dksX4_next_7 23 rfl rfl
theorem dksX4_next_9 : cX4_next.data.toList.drop 206 = dktX4_next_9 := dk_seg dksX4_next_8 24 rfl rfl
theorem dksX4_next_10 : cX4_next.data.toList.drop 228 = dktX4_next_10 := dk_seg dksX4_next_9 22 rfl rfl
theorem dksX4_next_11 : cX4_next.data.toList.drop 251 = dktX4_next_11 := dk_seg dksX4_next_10 23 rfl rfl
theorem dksX4_next_12 : cX4_next.data.toList.drop 275 = dktX4_next_12 := dk_seg dksX4_next_11 24 rfl rfl
theorem dX4_next_0 : decode cX4_next 0 = .ok (.aload_n 0, 1) := dk_42 (dk_at dksX4_next_0 0 rfl rfl)
theorem dX4_next_1 : decode cX4_next 1 = .ok (.invokevirtual 22, 3) := dk_182 0 22 (dk_at dksX4_next_0 1 rfl rfl)
theorem dX4_next_4 : decode cX4_next 4 = .ok (.bipush 32, 2) := dk_16 32 (dk_at dksX4_next_0 4 rfl rfl)
theorem dX4_next_6 : decode cX4_next 6 = .ok (.if_icmp .ne 16, 3) := dk_160 0 16 (dk_at dksX4_next_0 6 rfl rfl)
theorem dX4_next_9 : decode cX4_next 9 = .ok (.aload_n 0, 1) := dk_42 (dk_at dksX4_next_0 9 rfl rfl)
theorem dX4_next_10 : decode cX4_next 10 = .ok (.dup, 1) := dk_89 (dk_at dksX4_next_0 10 rfl rfl)
theorem dX4_next_11 : decode cX4_next 11 = .ok (.getfield 19, 3) := dk_180 0 19 (dk_at dksX4_next_0 11 rfl rfl)
theorem dX4_next_14 : decode cX4_next 14 = .ok (.iconst 1, 1) := dk_4 (dk_at dksX4_next_0 14 rfl rfl)
theorem dX4_next_15 : decode cX4_next 15 = .ok (.iadd, 1) := dk_96 (dk_at dksX4_next_0 15 rfl rfl)
theorem dX4_next_16 : decode cX4_next 16 = .ok (.putfield 19, 3) := dk_181 0 19 (dk_at dksX4_next_0 16 rfl rfl)
theorem dX4_next_19 : decode cX4_next 19 = .ok (.goto (-19), 3) := dk_167 255 237 (dk_at dksX4_next_0 19 rfl rfl)
theorem dX4_next_22 : decode cX4_next 22 = .ok (.aload_n 0, 1) := dk_42 (dk_at dksX4_next_0 22 rfl rfl)
theorem dX4_next_23 : decode cX4_next 23 = .ok (.getfield 19, 3) := dk_180 0 19 (dk_at dksX4_next_1 0 rfl rfl)
theorem dX4_next_26 : decode cX4_next 26 = .ok (.istore_n 1, 1) := dk_60 (dk_at dksX4_next_1 3 rfl rfl)
theorem dX4_next_27 : decode cX4_next 27 = .ok (.aload_n 0, 1) := dk_42 (dk_at dksX4_next_1 4 rfl rfl)
theorem dX4_next_28 : decode cX4_next 28 = .ok (.getfield 19, 3) := dk_180 0 19 (dk_at dksX4_next_1 5 rfl rfl)
theorem dX4_next_31 : decode cX4_next 31 = .ok (.aload_n 0, 1) := dk_42 (dk_at dksX4_next_1 8 rfl rfl)
theorem dX4_next_32 : decode cX4_next 32 = .ok (.getfield 15, 3) := dk_180 0 15 (dk_at dksX4_next_1 9 rfl rfl)
theorem dX4_next_35 : decode cX4_next 35 = .ok (.if_icmp .ne 16, 3) := dk_160 0 16 (dk_at dksX4_next_1 12 rfl rfl)
theorem dX4_next_38 : decode cX4_next 38 = .ok (.new 26, 3) := dk_187 0 26 (dk_at dksX4_next_1 15 rfl rfl)
theorem dX4_next_41 : decode cX4_next 41 = .ok (.dup, 1) := dk_89 (dk_at dksX4_next_1 18 rfl rfl)
theorem dX4_next_42 : decode cX4_next 42 = .ok (.iconst 1, 1) := dk_4 (dk_at dksX4_next_1 19 rfl rfl)
theorem dX4_next_43 : decode cX4_next 43 = .ok (.iload_n 1, 1) := dk_27 (dk_at dksX4_next_1 20 rfl rfl)
theorem dX4_next_44 : decode cX4_next 44 = .ok (.iconst 0, 1) := dk_3 (dk_at dksX4_next_1 21 rfl rfl)
theorem dX4_next_45 : decode cX4_next 45 = .ok (.ldc 28, 2) := dk_18 28 (dk_at dksX4_next_1 22 rfl rfl)
theorem dX4_next_47 : decode cX4_next 47 = .ok (.invokespecial 30, 3) := dk_183 0 30 (dk_at dksX4_next_2 0 rfl rfl)
theorem dX4_next_50 : decode cX4_next 50 = .ok (.areturn, 1) := dk_176 (dk_at dksX4_next_2 3 rfl rfl)
theorem dX4_next_51 : decode cX4_next 51 = .ok (.aload_n 0, 1) := dk_42 (dk_at dksX4_next_2 4 rfl rfl)
theorem dX4_next_52 : decode cX4_next 52 = .ok (.invokevirtual 22, 3) := dk_182 0 22 (dk_at dksX4_next_2 5 rfl rfl)
theorem dX4_next_55 : decode cX4_next 55 = .ok (.bipush 97, 2) := dk_16 97 (dk_at dksX4_next_2 8 rfl rfl)
theorem dX4_next_57 : decode cX4_next 57 = .ok (.bipush 122, 2) := dk_16 122 (dk_at dksX4_next_2 10 rfl rfl)
theorem dX4_next_59 : decode cX4_next 59 = .ok (.invokestatic 33, 3) := dk_184 0 33 (dk_at dksX4_next_2 12 rfl rfl)
theorem dX4_next_62 : decode cX4_next 62 = .ok (.ifCond .eq 89, 3) := dk_153 0 89 (dk_at dksX4_next_2 15 rfl rfl)
theorem dX4_next_65 : decode cX4_next 65 = .ok (.new 37, 3) := dk_187 0 37 (dk_at dksX4_next_2 18 rfl rfl)
theorem dX4_next_68 : decode cX4_next 68 = .ok (.dup, 1) := dk_89 (dk_at dksX4_next_2 21 rfl rfl)
theorem dX4_next_69 : decode cX4_next 69 = .ok (.invokespecial 39, 3) := dk_183 0 39 (dk_at dksX4_next_3 0 rfl rfl)
theorem dX4_next_72 : decode cX4_next 72 = .ok (.astore_n 2, 1) := dk_77 (dk_at dksX4_next_3 3 rfl rfl)
theorem dX4_next_73 : decode cX4_next 73 = .ok (.aload_n 0, 1) := dk_42 (dk_at dksX4_next_3 4 rfl rfl)
theorem dX4_next_74 : decode cX4_next 74 = .ok (.invokevirtual 22, 3) := dk_182 0 22 (dk_at dksX4_next_3 5 rfl rfl)
theorem dX4_next_77 : decode cX4_next 77 = .ok (.bipush 97, 2) := dk_16 97 (dk_at dksX4_next_3 8 rfl rfl)
theorem dX4_next_79 : decode cX4_next 79 = .ok (.bipush 122, 2) := dk_16 122 (dk_at dksX4_next_3 10 rfl rfl)
theorem dX4_next_81 : decode cX4_next 81 = .ok (.invokestatic 33, 3) := dk_184 0 33 (dk_at dksX4_next_3 12 rfl rfl)
theorem dX4_next_84 : decode cX4_next 84 = .ok (.ifCond .eq 37, 3) := dk_153 0 37 (dk_at dksX4_next_3 15 rfl rfl)
theorem dX4_next_87 : decode cX4_next 87 = .ok (.aload_n 0, 1) := dk_42 (dk_at dksX4_next_3 18 rfl rfl)
theorem dX4_next_88 : decode cX4_next 88 = .ok (.getfield 19, 3) := dk_180 0 19 (dk_at dksX4_next_3 19 rfl rfl)
theorem dX4_next_91 : decode cX4_next 91 = .ok (.iload_n 1, 1) := dk_27 (dk_at dksX4_next_3 22 rfl rfl)
theorem dX4_next_92 : decode cX4_next 92 = .ok (.isub, 1) := dk_100 (dk_at dksX4_next_3 23 rfl rfl)
theorem dX4_next_93 : decode cX4_next 93 = .ok (.bipush 8, 2) := dk_16 8 (dk_at dksX4_next_4 0 rfl rfl)
theorem dX4_next_95 : decode cX4_next 95 = .ok (.if_icmp .ge 13, 3) := dk_162 0 13 (dk_at dksX4_next_4 2 rfl rfl)
theorem dX4_next_98 : decode cX4_next 98 = .ok (.aload_n 2, 1) := dk_44 (dk_at dksX4_next_4 5 rfl rfl)
theorem dX4_next_99 : decode cX4_next 99 = .ok (.aload_n 0, 1) := dk_42 (dk_at dksX4_next_4 6 rfl rfl)
theorem dX4_next_100 : decode cX4_next 100 = .ok (.invokevirtual 22, 3) := dk_182 0 22 (dk_at dksX4_next_4 7 rfl rfl)
theorem dX4_next_103 : decode cX4_next 103 = .ok (.i2c, 1) := dk_146 (dk_at dksX4_next_4 10 rfl rfl)
theorem dX4_next_104 : decode cX4_next 104 = .ok (.invokevirtual 40, 3) := dk_182 0 40 (dk_at dksX4_next_4 11 rfl rfl)
theorem dX4_next_107 : decode cX4_next 107 = .ok (.pop, 1) := dk_87 (dk_at dksX4_next_4 14 rfl rfl)
theorem dX4_next_108 : decode cX4_next 108 = .ok (.aload_n 0, 1) := dk_42 (dk_at dksX4_next_4 15 rfl rfl)
theorem dX4_next_109 : decode cX4_next 109 = .ok (.dup, 1) := dk_89 (dk_at dksX4_next_4 16 rfl rfl)
theorem dX4_next_110 : decode cX4_next 110 = .ok (.getfield 19, 3) := dk_180 0 19 (dk_at dksX4_next_4 17 rfl rfl)
theorem dX4_next_113 : decode cX4_next 113 = .ok (.iconst 1, 1) := dk_4 (dk_at dksX4_next_4 20 rfl rfl)
theorem dX4_next_114 : decode cX4_next 114 = .ok (.iadd, 1) := dk_96 (dk_at dksX4_next_4 21 rfl rfl)
theorem dX4_next_115 : decode cX4_next 115 = .ok (.putfield 19, 3) := dk_181 0 19 (dk_at dksX4_next_5 0 rfl rfl)
theorem dX4_next_118 : decode cX4_next 118 = .ok (.goto (-45), 3) := dk_167 255 211 (dk_at dksX4_next_5 3 rfl rfl)
theorem dX4_next_121 : decode cX4_next 121 = .ok (.new 26, 3) := dk_187 0 26 (dk_at dksX4_next_5 6 rfl rfl)
theorem dX4_next_124 : decode cX4_next 124 = .ok (.dup, 1) := dk_89 (dk_at dksX4_next_5 9 rfl rfl)
theorem dX4_next_125 : decode cX4_next 125 = .ok (.aload_n 0, 1) := dk_42 (dk_at dksX4_next_5 10 rfl rfl)
theorem dX4_next_126 : decode cX4_next 126 = .ok (.getfield 19, 3) := dk_180 0 19 (dk_at dksX4_next_5 11 rfl rfl)
theorem dX4_next_129 : decode cX4_next 129 = .ok (.iload_n 1, 1) := dk_27 (dk_at dksX4_next_5 14 rfl rfl)
theorem dX4_next_130 : decode cX4_next 130 = .ok (.isub, 1) := dk_100 (dk_at dksX4_next_5 15 rfl rfl)
theorem dX4_next_131 : decode cX4_next 131 = .ok (.bipush 8, 2) := dk_16 8 (dk_at dksX4_next_5 16 rfl rfl)
theorem dX4_next_133 : decode cX4_next 133 = .ok (.if_icmp .le 7, 3) := dk_164 0 7 (dk_at dksX4_next_5 18 rfl rfl)
theorem dX4_next_136 : decode cX4_next 136 = .ok (.iconst 0, 1) := dk_3 (dk_at dksX4_next_5 21 rfl rfl)
theorem dX4_next_137 : decode cX4_next 137 = .ok (.goto 4, 3) := dk_167 0 4 (dk_at dksX4_next_6 0 rfl rfl)
theorem dX4_next_140 : decode cX4_next 140 = .ok (.iconst 2, 1) := dk_5 (dk_at dksX4_next_6 3 rfl rfl)
theorem dX4_next_141 : decode cX4_next 141 = .ok (.iload_n 1, 1) := dk_27 (dk_at dksX4_next_6 4 rfl rfl)
theorem dX4_next_142 : decode cX4_next 142 = .ok (.iconst 0, 1) := dk_3 (dk_at dksX4_next_6 5 rfl rfl)
theorem dX4_next_143 : decode cX4_next 143 = .ok (.aload_n 2, 1) := dk_44 (dk_at dksX4_next_6 6 rfl rfl)
theorem dX4_next_144 : decode cX4_next 144 = .ok (.invokevirtual 44, 3) := dk_182 0 44 (dk_at dksX4_next_6 7 rfl rfl)
theorem dX4_next_147 : decode cX4_next 147 = .ok (.invokespecial 30, 3) := dk_183 0 30 (dk_at dksX4_next_6 10 rfl rfl)
theorem dX4_next_150 : decode cX4_next 150 = .ok (.areturn, 1) := dk_176 (dk_at dksX4_next_6 13 rfl rfl)
theorem dX4_next_151 : decode cX4_next 151 = .ok (.aload_n 0, 1) := dk_42 (dk_at dksX4_next_6 14 rfl rfl)
theorem dX4_next_152 : decode cX4_next 152 = .ok (.invokevirtual 22, 3) := dk_182 0 22 (dk_at dksX4_next_6 15 rfl rfl)
theorem dX4_next_155 : decode cX4_next 155 = .ok (.bipush 48, 2) := dk_16 48 (dk_at dksX4_next_6 18 rfl rfl)
theorem dX4_next_157 : decode cX4_next 157 = .ok (.bipush 57, 2) := dk_16 57 (dk_at dksX4_next_6 20 rfl rfl)
theorem dX4_next_159 : decode cX4_next 159 = .ok (.invokestatic 33, 3) := dk_184 0 33 (dk_at dksX4_next_7 0 rfl rfl)
theorem dX4_next_162 : decode cX4_next 162 = .ok (.ifCond .eq 82, 3) := dk_153 0 82 (dk_at dksX4_next_7 3 rfl rfl)
theorem dX4_next_165 : decode cX4_next 165 = .ok (.iconst 0, 1) := dk_3 (dk_at dksX4_next_7 6 rfl rfl)
theorem dX4_next_166 : decode cX4_next 166 = .ok (.istore_n 2, 1) := dk_61 (dk_at dksX4_next_7 7 rfl rfl)
theorem dX4_next_167 : decode cX4_next 167 = .ok (.aload_n 0, 1) := dk_42 (dk_at dksX4_next_7 8 rfl rfl)
theorem dX4_next_168 : decode cX4_next 168 = .ok (.invokevirtual 22, 3) := dk_182 0 22 (dk_at dksX4_next_7 9 rfl rfl)
theorem dX4_next_171 : decode cX4_next 171 = .ok (.bipush 48, 2) := dk_16 48 (dk_at dksX4_next_7 12 rfl rfl)
theorem dX4_next_173 : decode cX4_next 173 = .ok (.bipush 57, 2) := dk_16 57 (dk_at dksX4_next_7 14 rfl rfl)
theorem dX4_next_175 : decode cX4_next 175 = .ok (.invokestatic 33, 3) := dk_184 0 33 (dk_at dksX4_next_7 16 rfl rfl)
theorem dX4_next_178 : decode cX4_next 178 = .ok (.ifCond .eq 39, 3) := dk_153 0 39 (dk_at dksX4_next_7 19 rfl rfl)
theorem dX4_next_181 : decode cX4_next 181 = .ok (.aload_n 0, 1) := dk_42 (dk_at dksX4_next_7 22 rfl rfl)
theorem dX4_next_182 : decode cX4_next 182 = .ok (.getfield 19, 3) := dk_180 0 19 (dk_at dksX4_next_8 0 rfl rfl)
theorem dX4_next_185 : decode cX4_next 185 = .ok (.iload_n 1, 1) := dk_27 (dk_at dksX4_next_8 3 rfl rfl)
theorem dX4_next_186 : decode cX4_next 186 = .ok (.isub, 1) := dk_100 (dk_at dksX4_next_8 4 rfl rfl)
theorem dX4_next_187 : decode cX4_next 187 = .ok (.iconst 3, 1) := dk_6 (dk_at dksX4_next_8 5 rfl rfl)
theorem dX4_next_188 : decode cX4_next 188 = .ok (.if_icmp .ge 16, 3) := dk_162 0 16 (dk_at dksX4_next_8 6 rfl rfl)
theorem dX4_next_191 : decode cX4_next 191 = .ok (.bipush 10, 2) := dk_16 10 (dk_at dksX4_next_8 9 rfl rfl)
theorem dX4_next_193 : decode cX4_next 193 = .ok (.iload_n 2, 1) := dk_28 (dk_at dksX4_next_8 11 rfl rfl)
theorem dX4_next_194 : decode cX4_next 194 = .ok (.imul, 1) := dk_104 (dk_at dksX4_next_8 12 rfl rfl)
theorem dX4_next_195 : decode cX4_next 195 = .ok (.aload_n 0, 1) := dk_42 (dk_at dksX4_next_8 13 rfl rfl)
theorem dX4_next_196 : decode cX4_next 196 = .ok (.invokevirtual 22, 3) := dk_182 0 22 (dk_at dksX4_next_8 14 rfl rfl)
theorem dX4_next_199 : decode cX4_next 199 = .ok (.iadd, 1) := dk_96 (dk_at dksX4_next_8 17 rfl rfl)
theorem dX4_next_200 : decode cX4_next 200 = .ok (.bipush 48, 2) := dk_16 48 (dk_at dksX4_next_8 18 rfl rfl)
theorem dX4_next_202 : decode cX4_next 202 = .ok (.isub, 1) := dk_100 (dk_at dksX4_next_8 20 rfl rfl)
theorem dX4_next_203 : decode cX4_next 203 = .ok (.istore_n 2, 1) := dk_61 (dk_at dksX4_next_8 21 rfl rfl)
theorem dX4_next_204 : decode cX4_next 204 = .ok (.aload_n 0, 1) := dk_42 (dk_at dksX4_next_8 22 rfl rfl)
theorem dX4_next_205 : decode cX4_next 205 = .ok (.dup, 1) := dk_89 (dk_at dksX4_next_8 23 rfl rfl)
theorem dX4_next_206 : decode cX4_next 206 = .ok (.getfield 19, 3) := dk_180 0 19 (dk_at dksX4_next_9 0 rfl rfl)
theorem dX4_next_209 : decode cX4_next 209 = .ok (.iconst 1, 1) := dk_4 (dk_at dksX4_next_9 3 rfl rfl)
theorem dX4_next_210 : decode cX4_next 210 = .ok (.iadd, 1) := dk_96 (dk_at dksX4_next_9 4 rfl rfl)
theorem dX4_next_211 : decode cX4_next 211 = .ok (.putfield 19, 3) := dk_181 0 19 (dk_at dksX4_next_9 5 rfl rfl)
theorem dX4_next_214 : decode cX4_next 214 = .ok (.goto (-47), 3) := dk_167 255 209 (dk_at dksX4_next_9 8 rfl rfl)
theorem dX4_next_217 : decode cX4_next 217 = .ok (.new 26, 3) := dk_187 0 26 (dk_at dksX4_next_9 11 rfl rfl)
theorem dX4_next_220 : decode cX4_next 220 = .ok (.dup, 1) := dk_89 (dk_at dksX4_next_9 14 rfl rfl)
theorem dX4_next_221 : decode cX4_next 221 = .ok (.aload_n 0, 1) := dk_42 (dk_at dksX4_next_9 15 rfl rfl)
theorem dX4_next_222 : decode cX4_next 222 = .ok (.getfield 19, 3) := dk_180 0 19 (dk_at dksX4_next_9 16 rfl rfl)
theorem dX4_next_225 : decode cX4_next 225 = .ok (.iload_n 1, 1) := dk_27 (dk_at dksX4_next_9 19 rfl rfl)
theorem dX4_next_226 : decode cX4_next 226 = .ok (.isub, 1) := dk_100 (dk_at dksX4_next_9 20 rfl rfl)
theorem dX4_next_227 : decode cX4_next 227 = .ok (.iconst 3, 1) := dk_6 (dk_at dksX4_next_9 21 rfl rfl)
theorem dX4_next_228 : decode cX4_next 228 = .ok (.if_icmp .le 7, 3) := dk_164 0 7 (dk_at dksX4_next_10 0 rfl rfl)
theorem dX4_next_231 : decode cX4_next 231 = .ok (.iconst 0, 1) := dk_3 (dk_at dksX4_next_10 3 rfl rfl)
theorem dX4_next_232 : decode cX4_next 232 = .ok (.goto 4, 3) := dk_167 0 4 (dk_at dksX4_next_10 4 rfl rfl)
theorem dX4_next_235 : decode cX4_next 235 = .ok (.iconst 3, 1) := dk_6 (dk_at dksX4_next_10 7 rfl rfl)
theorem dX4_next_236 : decode cX4_next 236 = .ok (.iload_n 1, 1) := dk_27 (dk_at dksX4_next_10 8 rfl rfl)
theorem dX4_next_237 : decode cX4_next 237 = .ok (.iload_n 2, 1) := dk_28 (dk_at dksX4_next_10 9 rfl rfl)
theorem dX4_next_238 : decode cX4_next 238 = .ok (.ldc 28, 2) := dk_18 28 (dk_at dksX4_next_10 10 rfl rfl)
theorem dX4_next_240 : decode cX4_next 240 = .ok (.invokespecial 30, 3) := dk_183 0 30 (dk_at dksX4_next_10 12 rfl rfl)
theorem dX4_next_243 : decode cX4_next 243 = .ok (.areturn, 1) := dk_176 (dk_at dksX4_next_10 15 rfl rfl)
theorem dX4_next_244 : decode cX4_next 244 = .ok (.aload_n 0, 1) := dk_42 (dk_at dksX4_next_10 16 rfl rfl)
theorem dX4_next_245 : decode cX4_next 245 = .ok (.invokevirtual 22, 3) := dk_182 0 22 (dk_at dksX4_next_10 17 rfl rfl)
theorem dX4_next_248 : decode cX4_next 248 = .ok (.istore_n 2, 1) := dk_61 (dk_at dksX4_next_10 20 rfl rfl)
theorem dX4_next_249 : decode cX4_next 249 = .ok (.aload_n 0, 1) := dk_42 (dk_at dksX4_next_10 21 rfl rfl)
theorem dX4_next_250 : decode cX4_next 250 = .ok (.dup, 1) := dk_89 (dk_at dksX4_next_10 22 rfl rfl)
theorem dX4_next_251 : decode cX4_next 251 = .ok (.getfield 19, 3) := dk_180 0 19 (dk_at dksX4_next_11 0 rfl rfl)
theorem dX4_next_254 : decode cX4_next 254 = .ok (.iconst 1, 1) := dk_4 (dk_at dksX4_next_11 3 rfl rfl)
theorem dX4_next_255 : decode cX4_next 255 = .ok (.iadd, 1) := dk_96 (dk_at dksX4_next_11 4 rfl rfl)
theorem dX4_next_256 : decode cX4_next 256 = .ok (.putfield 19, 3) := dk_181 0 19 (dk_at dksX4_next_11 5 rfl rfl)
theorem dX4_next_259 : decode cX4_next 259 = .ok (.new 26, 3) := dk_187 0 26 (dk_at dksX4_next_11 8 rfl rfl)
theorem dX4_next_262 : decode cX4_next 262 = .ok (.dup, 1) := dk_89 (dk_at dksX4_next_11 11 rfl rfl)
theorem dX4_next_263 : decode cX4_next 263 = .ok (.iload_n 2, 1) := dk_28 (dk_at dksX4_next_11 12 rfl rfl)
theorem dX4_next_264 : decode cX4_next 264 = .ok (.bipush 59, 2) := dk_16 59 (dk_at dksX4_next_11 13 rfl rfl)
theorem dX4_next_266 : decode cX4_next 266 = .ok (.if_icmp .ne 7, 3) := dk_160 0 7 (dk_at dksX4_next_11 15 rfl rfl)
theorem dX4_next_269 : decode cX4_next 269 = .ok (.iconst 4, 1) := dk_7 (dk_at dksX4_next_11 18 rfl rfl)
theorem dX4_next_270 : decode cX4_next 270 = .ok (.goto 4, 3) := dk_167 0 4 (dk_at dksX4_next_11 19 rfl rfl)
theorem dX4_next_273 : decode cX4_next 273 = .ok (.iconst 0, 1) := dk_3 (dk_at dksX4_next_11 22 rfl rfl)
theorem dX4_next_274 : decode cX4_next 274 = .ok (.iload_n 1, 1) := dk_27 (dk_at dksX4_next_11 23 rfl rfl)
theorem dX4_next_275 : decode cX4_next 275 = .ok (.iload_n 2, 1) := dk_28 (dk_at dksX4_next_12 0 rfl rfl)
theorem dX4_next_276 : decode cX4_next 276 = .ok (.ldc 28, 2) := dk_18 28 (dk_at dksX4_next_12 1 rfl rfl)
theorem dX4_next_278 : decode cX4_next 278 = .ok (.invokespecial 30, 3) := dk_183 0 30 (dk_at dksX4_next_12 3 rfl rfl)
theorem dX4_next_281 : decode cX4_next 281 = .ok (.areturn, 1) := dk_176 (dk_at dksX4_next_12 6 rfl rfl)
abbrev cX4_look : ByteArray := prog_12_method_2_code
def yX4_look : MethodName := ⟨RX4, "look", "()I"⟩
def dkwX4_look_1 : List UInt8 := [167, 0, 4, 2, 172]
abbrev dktX4_look_1 : List UInt8 := dkwX4_look_1 ++ []
def dkwX4_look_0 : List UInt8 := [42, 180, 0, 19, 42, 180, 0, 15, 162, 0, 19, 42, 180, 0, 9, 42, 180, 0, 19, 51, 17, 0, 255, 126]
abbrev dktX4_look_0 : List UInt8 := dkwX4_look_0 ++ dktX4_look_1
theorem dksX4_look_0 : cX4_look.data.toList.drop 0 = dktX4_look_0 := by decide +kernel
theorem dksX4_look_1 : cX4_look.data.toList.drop 24 = dktX4_look_1 := dk_seg dksX4_look_0 24 rfl rfl
theorem dX4_look_0 : decode cX4_look 0 = .ok (.aload_n 0, 1) := dk_42 (dk_at dksX4_look_0 0 rfl rfl)
theorem dX4_look_1 : decode cX4_look 1 = .ok (.getfield 19, 3) := dk_180 0 19 (dk_at dksX4_look_0 1 rfl rfl)
theorem dX4_look_4 : decode cX4_look 4 = .ok (.aload_n 0, 1) := dk_42 (dk_at dksX4_look_0 4 rfl rfl)
theorem dX4_look_5 : decode cX4_look 5 = .ok (.getfield 15, 3) := dk_180 0 15 (dk_at dksX4_look_0 5 rfl rfl)
theorem dX4_look_8 : decode cX4_look 8 = .ok (.if_icmp .ge 19, 3) := dk_162 0 19 (dk_at dksX4_look_0 8 rfl rfl)
theorem dX4_look_11 : decode cX4_look 11 = .ok (.aload_n 0, 1) := dk_42 (dk_at dksX4_look_0 11 rfl rfl)
theorem dX4_look_12 : decode cX4_look 12 = .ok (.getfield 9, 3) := dk_180 0 9 (dk_at dksX4_look_0 12 rfl rfl)
theorem dX4_look_15 : decode cX4_look 15 = .ok (.aload_n 0, 1) := dk_42 (dk_at dksX4_look_0 15 rfl rfl)
theorem dX4_look_16 : decode cX4_look 16 = .ok (.getfield 19, 3) := dk_180 0 19 (dk_at dksX4_look_0 16 rfl rfl)
theorem dX4_look_19 : decode cX4_look 19 = .ok (.baload, 1) := dk_51 (dk_at dksX4_look_0 19 rfl rfl)
theorem dX4_look_20 : decode cX4_look 20 = .ok (.sipush 255, 3) := dk_17 0 255 (dk_at dksX4_look_0 20 rfl rfl)
theorem dX4_look_23 : decode cX4_look 23 = .ok (.iand, 1) := dk_126 (dk_at dksX4_look_0 23 rfl rfl)
theorem dX4_look_24 : decode cX4_look 24 = .ok (.goto 4, 3) := dk_167 0 4 (dk_at dksX4_look_1 0 rfl rfl)
theorem dX4_look_27 : decode cX4_look 27 = .ok (.iconst (-1), 1) := dk_2 (dk_at dksX4_look_1 3 rfl rfl)
theorem dX4_look_28 : decode cX4_look 28 = .ok (.ireturn, 1) := dk_172 (dk_at dksX4_look_1 4 rfl rfl)
abbrev cX5_init : ByteArray := prog_13_method_1_code
def yX5_init : MethodName := ⟨RX5, "<init>", "()V"⟩
def dkwX5_init_2 : List UInt8 := [183, 0, 17, 181, 0, 28, 42, 7, 188, 10, 181, 0, 31, 177]
abbrev dktX5_init_2 : List UInt8 := dkwX5_init_2 ++ []
def dkwX5_init_1 : List UInt8 := [89, 183, 0, 17, 181, 0, 22, 42, 187, 0, 15, 89, 183, 0, 17, 181, 0, 25, 42, 187, 0, 15, 89]
abbrev dktX5_init_1 : List UInt8 := dkwX5_init_1 ++ dktX5_init_2
def dkwX5_init_0 : List UInt8 := [42, 183, 0, 3, 42, 2, 181, 0, 9, 42, 187, 0, 15, 89, 183, 0, 17, 181, 0, 18, 42, 187, 0, 15]
abbrev dktX5_init_0 : List UInt8 := dkwX5_init_0 ++ dktX5_init_1
theorem dksX5_init_0 : cX5_init.data.toList.drop 0 = dktX5_init_0 := by decide +kernel
theorem dksX5_init_1 : cX5_init.data.toList.drop 24 = dktX5_init_1 := dk_seg dksX5_init_0 24 rfl rfl
theorem dksX5_init_2 : cX5_init.data.toList.drop 47 = dktX5_init_2 := dk_seg dksX5_init_1 23 rfl rfl
theorem dX5_init_0 : decode cX5_init 0 = .ok (.aload_n 0, 1) := dk_42 (dk_at dksX5_init_0 0 rfl rfl)
theorem dX5_init_1 : decode cX5_init 1 = .ok (.invokespecial 3, 3) := dk_183 0 3 (dk_at dksX5_init_0 1 rfl rfl)
theorem dX5_init_4 : decode cX5_init 4 = .ok (.aload_n 0, 1) := dk_42 (dk_at dksX5_init_0 4 rfl rfl)
theorem dX5_init_5 : decode cX5_init 5 = .ok (.iconst (-1), 1) := dk_2 (dk_at dksX5_init_0 5 rfl rfl)
theorem dX5_init_6 : decode cX5_init 6 = .ok (.putfield 9, 3) := dk_181 0 9 (dk_at dksX5_init_0 6 rfl rfl)
theorem dX5_init_9 : decode cX5_init 9 = .ok (.aload_n 0, 1) := dk_42 (dk_at dksX5_init_0 9 rfl rfl)
theorem dX5_init_10 : decode cX5_init 10 = .ok (.new 15, 3) := dk_187 0 15 (dk_at dksX5_init_0 10 rfl rfl)
theorem dX5_init_13 : decode cX5_init 13 = .ok (.dup, 1) := dk_89 (dk_at dksX5_init_0 13 rfl rfl)
theorem dX5_init_14 : decode cX5_init 14 = .ok (.invokespecial 17, 3) := dk_183 0 17 (dk_at dksX5_init_0 14 rfl rfl)
theorem dX5_init_17 : decode cX5_init 17 = .ok (.putfield 18, 3) := dk_181 0 18 (dk_at dksX5_init_0 17 rfl rfl)
theorem dX5_init_20 : decode cX5_init 20 = .ok (.aload_n 0, 1) := dk_42 (dk_at dksX5_init_0 20 rfl rfl)
theorem dX5_init_21 : decode cX5_init 21 = .ok (.new 15, 3) := dk_187 0 15 (dk_at dksX5_init_0 21 rfl rfl)
theorem dX5_init_24 : decode cX5_init 24 = .ok (.dup, 1) := dk_89 (dk_at dksX5_init_1 0 rfl rfl)
theorem dX5_init_25 : decode cX5_init 25 = .ok (.invokespecial 17, 3) := dk_183 0 17 (dk_at dksX5_init_1 1 rfl rfl)
theorem dX5_init_28 : decode cX5_init 28 = .ok (.putfield 22, 3) := dk_181 0 22 (dk_at dksX5_init_1 4 rfl rfl)
theorem dX5_init_31 : decode cX5_init 31 = .ok (.aload_n 0, 1) := dk_42 (dk_at dksX5_init_1 7 rfl rfl)
theorem dX5_init_32 : decode cX5_init 32 = .ok (.new 15, 3) := dk_187 0 15 (dk_at dksX5_init_1 8 rfl rfl)
theorem dX5_init_35 : decode cX5_init 35 = .ok (.dup, 1) := dk_89 (dk_at dksX5_init_1 11 rfl rfl)
theorem dX5_init_36 : decode cX5_init 36 = .ok (.invokespecial 17, 3) := dk_183 0 17 (dk_at dksX5_init_1 12 rfl rfl)
theorem dX5_init_39 : decode cX5_init 39 = .ok (.putfield 25, 3) := dk_181 0 25 (dk_at dksX5_init_1 15 rfl rfl)
theorem dX5_init_42 : decode cX5_init 42 = .ok (.aload_n 0, 1) := dk_42 (dk_at dksX5_init_1 18 rfl rfl)
theorem dX5_init_43 : decode cX5_init 43 = .ok (.new 15, 3) := dk_187 0 15 (dk_at dksX5_init_1 19 rfl rfl)
theorem dX5_init_46 : decode cX5_init 46 = .ok (.dup, 1) := dk_89 (dk_at dksX5_init_1 22 rfl rfl)
theorem dX5_init_47 : decode cX5_init 47 = .ok (.invokespecial 17, 3) := dk_183 0 17 (dk_at dksX5_init_2 0 rfl rfl)
theorem dX5_init_50 : decode cX5_init 50 = .ok (.putfield 28, 3) := dk_181 0 28 (dk_at dksX5_init_2 3 rfl rfl)
theorem dX5_init_53 : decode cX5_init 53 = .ok (.aload_n 0, 1) := dk_42 (dk_at dksX5_init_2 6 rfl rfl)
theorem dX5_init_54 : decode cX5_init 54 = .ok (.iconst 4, 1) := dk_7 (dk_at dksX5_init_2 7 rfl rfl)
theorem dX5_init_55 : decode cX5_init 55 = .ok (.newarray .int, 2) := dk_188_10 (dk_at dksX5_init_2 8 rfl rfl)
theorem dX5_init_57 : decode cX5_init 57 = .ok (.putfield 31, 3) := dk_181 0 31 (dk_at dksX5_init_2 10 rfl rfl)
theorem dX5_init_60 : decode cX5_init 60 = .ok (.return_, 1) := dk_177 (dk_at dksX5_init_2 13 rfl rfl)
abbrev cX5_isName : ByteArray := prog_13_method_5_code
def yX5_isName : MethodName := ⟨RX5, "isName", "(Ljava/lang/String;)Z"⟩
def dkwX5_isName_1 : List UInt8 := [42, 180, 0, 25, 43, 184, 0, 59, 2, 159, 0, 7, 4, 167, 0, 4, 3, 172]
abbrev dktX5_isName_1 : List UInt8 := dkwX5_isName_1 ++ []
def dkwX5_isName_0 : List UInt8 := [42, 180, 0, 18, 43, 184, 0, 59, 2, 160, 0, 27, 42, 180, 0, 22, 43, 184, 0, 59, 2, 160, 0, 15]
abbrev dktX5_isName_0 : List UInt8 := dkwX5_isName_0 ++ dktX5_isName_1
theorem dksX5_isName_0 : cX5_isName.data.toList.drop 0 = dktX5_isName_0 := by decide +kernel
theorem dksX5_isName_1 : cX5_isName.data.toList.drop 24 = dktX5_isName_1 := dk_seg dksX5_isName_0 24 rfl rfl
theorem dX5_isName_0 : decode cX5_isName 0 = .ok (.aload_n 0, 1) := dk_42 (dk_at dksX5_isName_0 0 rfl rfl)
theorem dX5_isName_1 : decode cX5_isName 1 = .ok (.getfield 18, 3) := dk_180 0 18 (dk_at dksX5_isName_0 1 rfl rfl)
theorem dX5_isName_4 : decode cX5_isName 4 = .ok (.aload_n 1, 1) := dk_43 (dk_at dksX5_isName_0 4 rfl rfl)
theorem dX5_isName_5 : decode cX5_isName 5 = .ok (.invokestatic 59, 3) := dk_184 0 59 (dk_at dksX5_isName_0 5 rfl rfl)
theorem dX5_isName_8 : decode cX5_isName 8 = .ok (.iconst (-1), 1) := dk_2 (dk_at dksX5_isName_0 8 rfl rfl)
theorem dX5_isName_9 : decode cX5_isName 9 = .ok (.if_icmp .ne 27, 3) := dk_160 0 27 (dk_at dksX5_isName_0 9 rfl rfl)
theorem dX5_isName_12 : decode cX5_isName 12 = .ok (.aload_n 0, 1) := dk_42 (dk_at dksX5_isName_0 12 rfl rfl)
theorem dX5_isName_13 : decode cX5_isName 13 = .ok (.getfield 22, 3) := dk_180 0 22 (dk_at dksX5_isName_0 13 rfl rfl)
theorem dX5_isName_16 : decode cX5_isName 16 = .ok (.aload_n 1, 1) := dk_43 (dk_at dksX5_isName_0 16 rfl rfl)
theorem dX5_isName_17 : decode cX5_isName 17 = .ok (.invokestatic 59, 3) := dk_184 0 59 (dk_at dksX5_isName_0 17 rfl rfl)
theorem dX5_isName_20 : decode cX5_isName 20 = .ok (.iconst (-1), 1) := dk_2 (dk_at dksX5_isName_0 20 rfl rfl)
theorem dX5_isName_21 : decode cX5_isName 21 = .ok (.if_icmp .ne 15, 3) := dk_160 0 15 (dk_at dksX5_isName_0 21 rfl rfl)
theorem dX5_isName_24 : decode cX5_isName 24 = .ok (.aload_n 0, 1) := dk_42 (dk_at dksX5_isName_1 0 rfl rfl)
theorem dX5_isName_25 : decode cX5_isName 25 = .ok (.getfield 25, 3) := dk_180 0 25 (dk_at dksX5_isName_1 1 rfl rfl)
theorem dX5_isName_28 : decode cX5_isName 28 = .ok (.aload_n 1, 1) := dk_43 (dk_at dksX5_isName_1 4 rfl rfl)
theorem dX5_isName_29 : decode cX5_isName 29 = .ok (.invokestatic 59, 3) := dk_184 0 59 (dk_at dksX5_isName_1 5 rfl rfl)
theorem dX5_isName_32 : decode cX5_isName 32 = .ok (.iconst (-1), 1) := dk_2 (dk_at dksX5_isName_1 8 rfl rfl)
theorem dX5_isName_33 : decode cX5_isName 33 = .ok (.if_icmp .eq 7, 3) := dk_159 0 7 (dk_at dksX5_isName_1 9 rfl rfl)
theorem dX5_isName_36 : decode cX5_isName 36 = .ok (.iconst 1, 1) := dk_4 (dk_at dksX5_isName_1 12 rfl rfl)
theorem dX5_isName_37 : decode cX5_isName 37 = .ok (.goto 4, 3) := dk_167 0 4 (dk_at dksX5_isName_1 13 rfl rfl)
theorem dX5_isName_40 : decode cX5_isName 40 = .ok (.iconst 0, 1) := dk_3 (dk_at dksX5_isName_1 16 rfl rfl)
theorem dX5_isName_41 : decode cX5_isName 41 = .ok (.ireturn, 1) := dk_172 (dk_at dksX5_isName_1 17 rfl rfl)
abbrev cX5_find : ByteArray := prog_13_method_4_code
def yX5_find : MethodName := ⟨RX5, "find", "(Ljava/util/ArrayList;Ljava/lang/String;)I"⟩
def dkwX5_find_1 : List UInt8 := [182, 0, 53, 153, 0, 5, 28, 172, 132, 2, 1, 167, 255, 225, 2, 172]
abbrev dktX5_find_1 : List UInt8 := dkwX5_find_1 ++ []
def dkwX5_find_0 : List UInt8 := [3, 61, 28, 42, 182, 0, 43, 162, 0, 29, 42, 28, 182, 0, 35, 192, 0, 47, 180, 0, 49, 43]
abbrev dktX5_find_0 : List UInt8 := dkwX5_find_0 ++ dktX5_find_1
theorem dksX5_find_0 : cX5_find.data.toList.drop 0 = dktX5_find_0 := by decide +kernel
theorem dksX5_find_1 : cX5_find.data.toList.drop 22 = dktX5_find_1 := dk_seg dksX5_find_0 22 rfl rfl
theorem dX5_find_0 : decode cX5_find 0 = .ok (.iconst 0, 1) := dk_3 (dk_at dksX5_find_0 0 rfl rfl)
theorem dX5_find_1 : decode cX5_find 1 = .ok (.istore_n 2, 1) := dk_61 (dk_at dksX5_find_0 1 rfl rfl)
theorem dX5_find_2 : decode cX5_find 2 = .ok (.iload_n 2, 1) := dk_28 (dk_at dksX5_find_0 2 rfl rfl)
theorem dX5_find_3 : decode cX5_find 3 = .ok (.aload_n 0, 1) := dk_42 (dk_at dksX5_find_0 3 rfl rfl)
theorem dX5_find_4 : decode cX5_find 4 = .ok (.invokevirtual 43, 3) := dk_182 0 43 (dk_at dksX5_find_0 4 rfl rfl)
theorem dX5_find_7 : decode cX5_find 7 = .ok (.if_icmp .ge 29, 3) := dk_162 0 29 (dk_at dksX5_find_0 7 rfl rfl)
theorem dX5_find_10 : decode cX5_find 10 = .ok (.aload_n 0, 1) := dk_42 (dk_at dksX5_find_0 10 rfl rfl)
theorem dX5_find_11 : decode cX5_find 11 = .ok (.iload_n 2, 1) := dk_28 (dk_at dksX5_find_0 11 rfl rfl)
theorem dX5_find_12 : decode cX5_find 12 = .ok (.invokevirtual 35, 3) := dk_182 0 35 (dk_at dksX5_find_0 12 rfl rfl)
theorem dX5_find_15 : decode cX5_find 15 = .ok (.checkcast 47, 3) := dk_192 0 47 (dk_at dksX5_find_0 15 rfl rfl)
theorem dX5_find_18 : decode cX5_find 18 = .ok (.getfield 49, 3) := dk_180 0 49 (dk_at dksX5_find_0 18 rfl rfl)
theorem dX5_find_21 : decode cX5_find 21 = .ok (.aload_n 1, 1) := dk_43 (dk_at dksX5_find_0 21 rfl rfl)
theorem dX5_find_22 : decode cX5_find 22 = .ok (.invokevirtual 53, 3) := dk_182 0 53 (dk_at dksX5_find_1 0 rfl rfl)
theorem dX5_find_25 : decode cX5_find 25 = .ok (.ifCond .eq 5, 3) := dk_153 0 5 (dk_at dksX5_find_1 3 rfl rfl)
theorem dX5_find_28 : decode cX5_find 28 = .ok (.iload_n 2, 1) := dk_28 (dk_at dksX5_find_1 6 rfl rfl)
theorem dX5_find_29 : decode cX5_find 29 = .ok (.ireturn, 1) := dk_172 (dk_at dksX5_find_1 7 rfl rfl)
theorem dX5_find_30 : decode cX5_find 30 = .ok (.iinc 2 1, 3) := dk_132 2 1 (dk_at dksX5_find_1 8 rfl rfl)
theorem dX5_find_33 : decode cX5_find 33 = .ok (.goto (-31), 3) := dk_167 255 225 (dk_at dksX5_find_1 11 rfl rfl)
theorem dX5_find_36 : decode cX5_find 36 = .ok (.iconst (-1), 1) := dk_2 (dk_at dksX5_find_1 14 rfl rfl)
theorem dX5_find_37 : decode cX5_find 37 = .ok (.ireturn, 1) := dk_172 (dk_at dksX5_find_1 15 rfl rfl)
abbrev cX5_isSight : ByteArray := prog_13_method_6_code
def yX5_isSight : MethodName := ⟨RX5, "isSight", "(II)Z"⟩
def dkwX5_isSight_2 : List UInt8 := [160, 0, 5, 4, 172, 132, 3, 1, 167, 255, 204, 3, 172]
abbrev dktX5_isSight_2 : List UInt8 := dkwX5_isSight_2 ++ []
def dkwX5_isSight_1 : List UInt8 := [180, 0, 65, 27, 160, 0, 23, 42, 180, 0, 28, 29, 182, 0, 35, 192, 0, 63, 180, 0, 68, 28]
abbrev dktX5_isSight_1 : List UInt8 := dkwX5_isSight_1 ++ dktX5_isSight_2
def dkwX5_isSight_0 : List UInt8 := [3, 62, 29, 42, 180, 0, 28, 182, 0, 43, 162, 0, 47, 42, 180, 0, 28, 29, 182, 0, 35, 192, 0, 63]
abbrev dktX5_isSight_0 : List UInt8 := dkwX5_isSight_0 ++ dktX5_isSight_1
theorem dksX5_isSight_0 : cX5_isSight.data.toList.drop 0 = dktX5_isSight_0 := by decide +kernel
theorem dksX5_isSight_1 : cX5_isSight.data.toList.drop 24 = dktX5_isSight_1 := dk_seg dksX5_isSight_0 24 rfl rfl
theorem dksX5_isSight_2 : cX5_isSight.data.toList.drop 46 = dktX5_isSight_2 := dk_seg dksX5_isSight_1 22 rfl rfl
theorem dX5_isSight_0 : decode cX5_isSight 0 = .ok (.iconst 0, 1) := dk_3 (dk_at dksX5_isSight_0 0 rfl rfl)
theorem dX5_isSight_1 : decode cX5_isSight 1 = .ok (.istore_n 3, 1) := dk_62 (dk_at dksX5_isSight_0 1 rfl rfl)
theorem dX5_isSight_2 : decode cX5_isSight 2 = .ok (.iload_n 3, 1) := dk_29 (dk_at dksX5_isSight_0 2 rfl rfl)
theorem dX5_isSight_3 : decode cX5_isSight 3 = .ok (.aload_n 0, 1) := dk_42 (dk_at dksX5_isSight_0 3 rfl rfl)
theorem dX5_isSight_4 : decode cX5_isSight 4 = .ok (.getfield 28, 3) := dk_180 0 28 (dk_at dksX5_isSight_0 4 rfl rfl)
theorem dX5_isSight_7 : decode cX5_isSight 7 = .ok (.invokevirtual 43, 3) := dk_182 0 43 (dk_at dksX5_isSight_0 7 rfl rfl)
theorem dX5_isSight_10 : decode cX5_isSight 10 = .ok (.if_icmp .ge 47, 3) := dk_162 0 47 (dk_at dksX5_isSight_0 10 rfl rfl)
theorem dX5_isSight_13 : decode cX5_isSight 13 = .ok (.aload_n 0, 1) := dk_42 (dk_at dksX5_isSight_0 13 rfl rfl)
theorem dX5_isSight_14 : decode cX5_isSight 14 = .ok (.getfield 28, 3) := dk_180 0 28 (dk_at dksX5_isSight_0 14 rfl rfl)
theorem dX5_isSight_17 : decode cX5_isSight 17 = .ok (.iload_n 3, 1) := dk_29 (dk_at dksX5_isSight_0 17 rfl rfl)
theorem dX5_isSight_18 : decode cX5_isSight 18 = .ok (.invokevirtual 35, 3) := dk_182 0 35 (dk_at dksX5_isSight_0 18 rfl rfl)
theorem dX5_isSight_21 : decode cX5_isSight 21 = .ok (.checkcast 63, 3) := dk_192 0 63 (dk_at dksX5_isSight_0 21 rfl rfl)
theorem dX5_isSight_24 : decode cX5_isSight 24 = .ok (.getfield 65, 3) := dk_180 0 65 (dk_at dksX5_isSight_1 0 rfl rfl)
theorem dX5_isSight_27 : decode cX5_isSight 27 = .ok (.iload_n 1, 1) := dk_27 (dk_at dksX5_isSight_1 3 rfl rfl)
theorem dX5_isSight_28 : decode cX5_isSight 28 = .ok (.if_icmp .ne 23, 3) := dk_160 0 23 (dk_at dksX5_isSight_1 4 rfl rfl)
theorem dX5_isSight_31 : decode cX5_isSight 31 = .ok (.aload_n 0, 1) := dk_42 (dk_at dksX5_isSight_1 7 rfl rfl)
theorem dX5_isSight_32 : decode cX5_isSight 32 = .ok (.getfield 28, 3) := dk_180 0 28 (dk_at dksX5_isSight_1 8 rfl rfl)
theorem dX5_isSight_35 : decode cX5_isSight 35 = .ok (.iload_n 3, 1) := dk_29 (dk_at dksX5_isSight_1 11 rfl rfl)
theorem dX5_isSight_36 : decode cX5_isSight 36 = .ok (.invokevirtual 35, 3) := dk_182 0 35 (dk_at dksX5_isSight_1 12 rfl rfl)
theorem dX5_isSight_39 : decode cX5_isSight 39 = .ok (.checkcast 63, 3) := dk_192 0 63 (dk_at dksX5_isSight_1 15 rfl rfl)
theorem dX5_isSight_42 : decode cX5_isSight 42 = .ok (.getfield 68, 3) := dk_180 0 68 (dk_at dksX5_isSight_1 18 rfl rfl)
theorem dX5_isSight_45 : decode cX5_isSight 45 = .ok (.iload_n 2, 1) := dk_28 (dk_at dksX5_isSight_1 21 rfl rfl)
theorem dX5_isSight_46 : decode cX5_isSight 46 = .ok (.if_icmp .ne 5, 3) := dk_160 0 5 (dk_at dksX5_isSight_2 0 rfl rfl)
theorem dX5_isSight_49 : decode cX5_isSight 49 = .ok (.iconst 1, 1) := dk_4 (dk_at dksX5_isSight_2 3 rfl rfl)
theorem dX5_isSight_50 : decode cX5_isSight 50 = .ok (.ireturn, 1) := dk_172 (dk_at dksX5_isSight_2 4 rfl rfl)
theorem dX5_isSight_51 : decode cX5_isSight 51 = .ok (.iinc 3 1, 3) := dk_132 3 1 (dk_at dksX5_isSight_2 5 rfl rfl)
theorem dX5_isSight_54 : decode cX5_isSight 54 = .ok (.goto (-52), 3) := dk_167 255 204 (dk_at dksX5_isSight_2 8 rfl rfl)
theorem dX5_isSight_57 : decode cX5_isSight 57 = .ok (.iconst 0, 1) := dk_3 (dk_at dksX5_isSight_2 11 rfl rfl)
theorem dX5_isSight_58 : decode cX5_isSight 58 = .ok (.ireturn, 1) := dk_172 (dk_at dksX5_isSight_2 12 rfl rfl)
abbrev cX5_person : ByteArray := prog_13_method_2_code
def yX5_person : MethodName := ⟨RX5, "person", "(I)LThirdWitness$Person;"⟩
def dkwX5_person_0 : List UInt8 := [42, 180, 0, 22, 27, 182, 0, 35, 192, 0, 39, 176]
abbrev dktX5_person_0 : List UInt8 := dkwX5_person_0 ++ []
theorem dksX5_person_0 : cX5_person.data.toList.drop 0 = dktX5_person_0 := by decide +kernel
theorem dX5_person_0 : decode cX5_person 0 = .ok (.aload_n 0, 1) := dk_42 (dk_at dksX5_person_0 0 rfl rfl)
theorem dX5_person_1 : decode cX5_person 1 = .ok (.getfield 22, 3) := dk_180 0 22 (dk_at dksX5_person_0 1 rfl rfl)
theorem dX5_person_4 : decode cX5_person 4 = .ok (.iload_n 1, 1) := dk_27 (dk_at dksX5_person_0 4 rfl rfl)
theorem dX5_person_5 : decode cX5_person 5 = .ok (.invokevirtual 35, 3) := dk_182 0 35 (dk_at dksX5_person_0 5 rfl rfl)
theorem dX5_person_8 : decode cX5_person 8 = .ok (.checkcast 39, 3) := dk_192 0 39 (dk_at dksX5_person_0 8 rfl rfl)
theorem dX5_person_11 : decode cX5_person 11 = .ok (.areturn, 1) := dk_176 (dk_at dksX5_person_0 11 rfl rfl)
abbrev cX5_quarrel : ByteArray := prog_13_method_3_code
def yX5_quarrel : MethodName := ⟨RX5, "quarrel", "(I)LThirdWitness$Quarrel;"⟩
def dkwX5_quarrel_0 : List UInt8 := [42, 180, 0, 25, 27, 182, 0, 35, 192, 0, 41, 176]
abbrev dktX5_quarrel_0 : List UInt8 := dkwX5_quarrel_0 ++ []
theorem dksX5_quarrel_0 : cX5_quarrel.data.toList.drop 0 = dktX5_quarrel_0 := by decide +kernel
theorem dX5_quarrel_0 : decode cX5_quarrel 0 = .ok (.aload_n 0, 1) := dk_42 (dk_at dksX5_quarrel_0 0 rfl rfl)
theorem dX5_quarrel_1 : decode cX5_quarrel 1 = .ok (.getfield 25, 3) := dk_180 0 25 (dk_at dksX5_quarrel_0 1 rfl rfl)
theorem dX5_quarrel_4 : decode cX5_quarrel 4 = .ok (.iload_n 1, 1) := dk_27 (dk_at dksX5_quarrel_0 4 rfl rfl)
theorem dX5_quarrel_5 : decode cX5_quarrel 5 = .ok (.invokevirtual 35, 3) := dk_182 0 35 (dk_at dksX5_quarrel_0 5 rfl rfl)
theorem dX5_quarrel_8 : decode cX5_quarrel 8 = .ok (.checkcast 41, 3) := dk_192 0 41 (dk_at dksX5_quarrel_0 8 rfl rfl)
theorem dX5_quarrel_11 : decode cX5_quarrel 11 = .ok (.areturn, 1) := dk_176 (dk_at dksX5_quarrel_0 11 rfl rfl)
abbrev cX6_init : ByteArray := prog_11_method_1_code
def yX6_init : MethodName := ⟨RX6, "<init>", "(IIILjava/lang/String;)V"⟩
def dkwX6_init_1 : List UInt8 := [181, 0, 19, 177]
abbrev dktX6_init_1 : List UInt8 := dkwX6_init_1 ++ []
def dkwX6_init_0 : List UInt8 := [42, 183, 0, 1, 42, 27, 181, 0, 7, 42, 28, 181, 0, 13, 42, 29, 181, 0, 16, 42, 25, 4]
abbrev dktX6_init_0 : List UInt8 := dkwX6_init_0 ++ dktX6_init_1
theorem dksX6_init_0 : cX6_init.data.toList.drop 0 = dktX6_init_0 := by decide +kernel
theorem dksX6_init_1 : cX6_init.data.toList.drop 22 = dktX6_init_1 := dk_seg dksX6_init_0 22 rfl rfl
theorem dX6_init_0 : decode cX6_init 0 = .ok (.aload_n 0, 1) := dk_42 (dk_at dksX6_init_0 0 rfl rfl)
theorem dX6_init_1 : decode cX6_init 1 = .ok (.invokespecial 1, 3) := dk_183 0 1 (dk_at dksX6_init_0 1 rfl rfl)
theorem dX6_init_4 : decode cX6_init 4 = .ok (.aload_n 0, 1) := dk_42 (dk_at dksX6_init_0 4 rfl rfl)
theorem dX6_init_5 : decode cX6_init 5 = .ok (.iload_n 1, 1) := dk_27 (dk_at dksX6_init_0 5 rfl rfl)
theorem dX6_init_6 : decode cX6_init 6 = .ok (.putfield 7, 3) := dk_181 0 7 (dk_at dksX6_init_0 6 rfl rfl)
theorem dX6_init_9 : decode cX6_init 9 = .ok (.aload_n 0, 1) := dk_42 (dk_at dksX6_init_0 9 rfl rfl)
theorem dX6_init_10 : decode cX6_init 10 = .ok (.iload_n 2, 1) := dk_28 (dk_at dksX6_init_0 10 rfl rfl)
theorem dX6_init_11 : decode cX6_init 11 = .ok (.putfield 13, 3) := dk_181 0 13 (dk_at dksX6_init_0 11 rfl rfl)
theorem dX6_init_14 : decode cX6_init 14 = .ok (.aload_n 0, 1) := dk_42 (dk_at dksX6_init_0 14 rfl rfl)
theorem dX6_init_15 : decode cX6_init 15 = .ok (.iload_n 3, 1) := dk_29 (dk_at dksX6_init_0 15 rfl rfl)
theorem dX6_init_16 : decode cX6_init 16 = .ok (.putfield 16, 3) := dk_181 0 16 (dk_at dksX6_init_0 16 rfl rfl)
theorem dX6_init_19 : decode cX6_init 19 = .ok (.aload_n 0, 1) := dk_42 (dk_at dksX6_init_0 19 rfl rfl)
theorem dX6_init_20 : decode cX6_init 20 = .ok (.aload 4, 2) := dk_25 4 (dk_at dksX6_init_0 20 rfl rfl)
theorem dX6_init_22 : decode cX6_init 22 = .ok (.putfield 19, 3) := dk_181 0 19 (dk_at dksX6_init_1 0 rfl rfl)
theorem dX6_init_25 : decode cX6_init 25 = .ok (.return_, 1) := dk_177 (dk_at dksX6_init_1 3 rfl rfl)
abbrev cX6_is : ByteArray := prog_11_method_2_code
def yX6_is : MethodName := ⟨RX6, "is", "(Ljava/lang/String;)Z"⟩
def dkwX6_is_1 : List UInt8 := [172]
abbrev dktX6_is_1 : List UInt8 := dkwX6_is_1 ++ []
def dkwX6_is_0 : List UInt8 := [42, 180, 0, 7, 5, 160, 0, 18, 42, 180, 0, 19, 43, 182, 0, 23, 153, 0, 7, 4, 167, 0, 4, 3]
abbrev dktX6_is_0 : List UInt8 := dkwX6_is_0 ++ dktX6_is_1
theorem dksX6_is_0 : cX6_is.data.toList.drop 0 = dktX6_is_0 := by decide +kernel
theorem dksX6_is_1 : cX6_is.data.toList.drop 24 = dktX6_is_1 := dk_seg dksX6_is_0 24 rfl rfl
theorem dX6_is_0 : decode cX6_is 0 = .ok (.aload_n 0, 1) := dk_42 (dk_at dksX6_is_0 0 rfl rfl)
theorem dX6_is_1 : decode cX6_is 1 = .ok (.getfield 7, 3) := dk_180 0 7 (dk_at dksX6_is_0 1 rfl rfl)
theorem dX6_is_4 : decode cX6_is 4 = .ok (.iconst 2, 1) := dk_5 (dk_at dksX6_is_0 4 rfl rfl)
theorem dX6_is_5 : decode cX6_is 5 = .ok (.if_icmp .ne 18, 3) := dk_160 0 18 (dk_at dksX6_is_0 5 rfl rfl)
theorem dX6_is_8 : decode cX6_is 8 = .ok (.aload_n 0, 1) := dk_42 (dk_at dksX6_is_0 8 rfl rfl)
theorem dX6_is_9 : decode cX6_is 9 = .ok (.getfield 19, 3) := dk_180 0 19 (dk_at dksX6_is_0 9 rfl rfl)
theorem dX6_is_12 : decode cX6_is 12 = .ok (.aload_n 1, 1) := dk_43 (dk_at dksX6_is_0 12 rfl rfl)
theorem dX6_is_13 : decode cX6_is 13 = .ok (.invokevirtual 23, 3) := dk_182 0 23 (dk_at dksX6_is_0 13 rfl rfl)
theorem dX6_is_16 : decode cX6_is 16 = .ok (.ifCond .eq 7, 3) := dk_153 0 7 (dk_at dksX6_is_0 16 rfl rfl)
theorem dX6_is_19 : decode cX6_is 19 = .ok (.iconst 1, 1) := dk_4 (dk_at dksX6_is_0 19 rfl rfl)
theorem dX6_is_20 : decode cX6_is 20 = .ok (.goto 4, 3) := dk_167 0 4 (dk_at dksX6_is_0 20 rfl rfl)
theorem dX6_is_23 : decode cX6_is 23 = .ok (.iconst 0, 1) := dk_3 (dk_at dksX6_is_0 23 rfl rfl)
theorem dX6_is_24 : decode cX6_is 24 = .ok (.ireturn, 1) := dk_172 (dk_at dksX6_is_1 0 rfl rfl)
abbrev cX6_isName : ByteArray := prog_11_method_3_code
def yX6_isName : MethodName := ⟨RX6, "isName", "()Z"⟩
def dkwX6_isName_9 : List UInt8 := [3, 172, 4, 172]
abbrev dktX6_isName_9 : List UInt8 := dkwX6_isName_9 ++ []
def dkwX6_isName_8 : List UInt8 := [170, 0, 0, 0, 51, 0, 0, 0, 0, 0, 0, 0, 8, 0, 0, 0, 49, 0, 0, 0, 49, 0, 0, 0, 49, 0, 0, 0, 49, 0, 0, 0, 49, 0, 0, 0, 49, 0, 0, 0, 49, 0, 0, 0, 49, 0, 0, 0, 49]
abbrev dktX6_isName_8 : List UInt8 := dkwX6_isName_8 ++ dktX6_isName_9
def dkwX6_isName_7 : List UInt8 := [182, 0, 23, 153, 0, 6, 16, 8, 61, 28]
abbrev dktX6_isName_7 : List UInt8 := dkwX6_isName_7 ++ dktX6_isName_8
def dkwX6_isName_6 : List UInt8 := [61, 167, 0, 30, 43, 18, 46, 182, 0, 23, 153, 0, 21, 16, 7, 61, 167, 0, 15, 43, 18, 48]
abbrev dktX6_isName_6 : List UInt8 := dkwX6_isName_6 ++ dktX6_isName_7
def dkwX6_isName_5 : List UInt8 := [18, 42, 182, 0, 23, 153, 0, 50, 8, 61, 167, 0, 45, 43, 18, 44, 182, 0, 23, 153, 0, 36, 16, 6]
abbrev dktX6_isName_5 : List UInt8 := dkwX6_isName_5 ++ dktX6_isName_6
def dkwX6_isName_4 : List UInt8 := [153, 0, 78, 6, 61, 167, 0, 73, 43, 18, 40, 182, 0, 23, 153, 0, 64, 7, 61, 167, 0, 59, 43]
abbrev dktX6_isName_4 : List UInt8 := dkwX6_isName_4 ++ dktX6_isName_5
def dkwX6_isName_3 : List UInt8 := [61, 167, 0, 101, 43, 18, 36, 182, 0, 23, 153, 0, 92, 5, 61, 167, 0, 87, 43, 18, 38, 182, 0, 23]
abbrev dktX6_isName_3 : List UInt8 := dkwX6_isName_3 ++ dktX6_isName_4
def dkwX6_isName_2 : List UInt8 := [43, 18, 33, 182, 0, 23, 153, 0, 120, 3, 61, 167, 0, 115, 43, 18, 35, 182, 0, 23, 153, 0, 106, 4]
abbrev dktX6_isName_2 : List UInt8 := dkwX6_isName_2 ++ dktX6_isName_3
def dkwX6_isName_1 : List UInt8 := [171, 0, 0, 0, 0, 0, 209, 0, 0, 0, 9, 196, 227, 155, 85, 0, 0, 0, 125, 205, 235, 38, 46, 0, 0, 0, 182, 0, 48, 127, 150, 0, 0, 0, 139, 0, 48, 222, 244, 0, 0, 0, 167, 0, 53, 206, 128, 0, 0, 0, 111, 0, 54, 106, 146, 0, 0, 0, 83, 5, 194, 202, 186, 0, 0, 0, 197, 6, 92, 217, 7, 0, 0, 0, 97, 38, 211, 155, 36, 0, 0, 0, 153]
abbrev dktX6_isName_1 : List UInt8 := dkwX6_isName_1 ++ dktX6_isName_2
def dkwX6_isName_0 : List UInt8 := [42, 180, 0, 7, 5, 159, 0, 5, 3, 172, 42, 180, 0, 19, 76, 2, 61, 43, 182, 0, 29]
abbrev dktX6_isName_0 : List UInt8 := dkwX6_isName_0 ++ dktX6_isName_1
theorem dksX6_isName_0 : cX6_isName.data.toList.drop 0 = dktX6_isName_0 := by decide +kernel
theorem dksX6_isName_1 : cX6_isName.data.toList.drop 21 = dktX6_isName_1 := dk_seg dksX6_isName_0 21 rfl rfl
theorem dksX6_isName_2 : cX6_isName.data.toList.drop 104 = dktX6_isName_2 := dk_seg dksX6_isName_1 83 rfl rfl
theorem dksX6_isName_3 : cX6_isName.data.toList.drop 128 = dktX6_isName_3 := dk_seg dksX6_isName_2 24 rfl rfl
theorem dksX6_isName_4 : cX6_isName.data.toList.drop 152 = dktX6_isName_4 := dk_seg dksX6_isName_3 24 rfl rfl
theorem dksX6_isName_5 : cX6_isName.data.toList.drop 175 = dktX6_isName_5 := dk_seg dksX6_isName_4 23 rfl rfl
theorem dksX6_isName_6 : cX6_isName.data.toList.drop 199 = dktX6_isName_6 := dk_seg dksX6_isName_5 24 rfl rfl
theorem dksX6_isName_7 : cX6_isName.data.toList.drop 221 = dktX6_isName_7 := dk_seg dksX6_isName_6 22 rfl rfl
theorem dksX6_isName_8 : cX6_isName.data.toList.drop 231 = dktX6_isName_8 := dk_seg dksX6_isName_7 10 rfl rfl
theorem dksX6_isName_9 : cX6_isName.data.toList.drop 280 = dktX6_isName_9 := dk_seg dksX6_isName_8 49 rfl rfl
theorem dX6_isName_0 : decode cX6_isName 0 = .ok (.aload_n 0, 1) := dk_42 (dk_at dksX6_isName_0 0 rfl rfl)
theorem dX6_isName_1 : decode cX6_isName 1 = .ok (.getfield 7, 3) := dk_180 0 7 (dk_at dksX6_isName_0 1 rfl rfl)
theorem dX6_isName_4 : decode cX6_isName 4 = .ok (.iconst 2, 1) := dk_5 (dk_at dksX6_isName_0 4 rfl rfl)
theorem dX6_isName_5 : decode cX6_isName 5 = .ok (.if_icmp .eq 5, 3) := dk_159 0 5 (dk_at dksX6_isName_0 5 rfl rfl)
theorem dX6_isName_8 : decode cX6_isName 8 = .ok (.iconst 0, 1) := dk_3 (dk_at dksX6_isName_0 8 rfl rfl)
theorem dX6_isName_9 : decode cX6_isName 9 = .ok (.ireturn, 1) := dk_172 (dk_at dksX6_isName_0 9 rfl rfl)
theorem dX6_isName_10 : decode cX6_isName 10 = .ok (.aload_n 0, 1) := dk_42 (dk_at dksX6_isName_0 10 rfl rfl)
theorem dX6_isName_11 : decode cX6_isName 11 = .ok (.getfield 19, 3) := dk_180 0 19 (dk_at dksX6_isName_0 11 rfl rfl)
theorem dX6_isName_14 : decode cX6_isName 14 = .ok (.astore_n 1, 1) := dk_76 (dk_at dksX6_isName_0 14 rfl rfl)
theorem dX6_isName_15 : decode cX6_isName 15 = .ok (.iconst (-1), 1) := dk_2 (dk_at dksX6_isName_0 15 rfl rfl)
theorem dX6_isName_16 : decode cX6_isName 16 = .ok (.istore_n 2, 1) := dk_61 (dk_at dksX6_isName_0 16 rfl rfl)
theorem dX6_isName_17 : decode cX6_isName 17 = .ok (.aload_n 1, 1) := dk_43 (dk_at dksX6_isName_0 17 rfl rfl)
theorem dX6_isName_18 : decode cX6_isName 18 = .ok (.invokevirtual 29, 3) := dk_182 0 29 (dk_at dksX6_isName_0 18 rfl rfl)
theorem dX6_isName_21 : decode cX6_isName 21 = .ok (.lookupswitch 209 #[(-991716523, 125), (-840227282, 182), (3178390, 139), (3202804, 167), (3526272, 111), (3566226, 83), (96651962, 197), (106748167, 97), (651402020, 153)], 83) := by decide +kernel
theorem dX6_isName_104 : decode cX6_isName 104 = .ok (.aload_n 1, 1) := dk_43 (dk_at dksX6_isName_2 0 rfl rfl)
theorem dX6_isName_105 : decode cX6_isName 105 = .ok (.ldc 33, 2) := dk_18 33 (dk_at dksX6_isName_2 1 rfl rfl)
theorem dX6_isName_107 : decode cX6_isName 107 = .ok (.invokevirtual 23, 3) := dk_182 0 23 (dk_at dksX6_isName_2 3 rfl rfl)
theorem dX6_isName_110 : decode cX6_isName 110 = .ok (.ifCond .eq 120, 3) := dk_153 0 120 (dk_at dksX6_isName_2 6 rfl rfl)
theorem dX6_isName_113 : decode cX6_isName 113 = .ok (.iconst 0, 1) := dk_3 (dk_at dksX6_isName_2 9 rfl rfl)
theorem dX6_isName_114 : decode cX6_isName 114 = .ok (.istore_n 2, 1) := dk_61 (dk_at dksX6_isName_2 10 rfl rfl)
theorem dX6_isName_115 : decode cX6_isName 115 = .ok (.goto 115, 3) := dk_167 0 115 (dk_at dksX6_isName_2 11 rfl rfl)
theorem dX6_isName_118 : decode cX6_isName 118 = .ok (.aload_n 1, 1) := dk_43 (dk_at dksX6_isName_2 14 rfl rfl)
theorem dX6_isName_119 : decode cX6_isName 119 = .ok (.ldc 35, 2) := dk_18 35 (dk_at dksX6_isName_2 15 rfl rfl)
theorem dX6_isName_121 : decode cX6_isName 121 = .ok (.invokevirtual 23, 3) := dk_182 0 23 (dk_at dksX6_isName_2 17 rfl rfl)
theorem dX6_isName_124 : decode cX6_isName 124 = .ok (.ifCond .eq 106, 3) := dk_153 0 106 (dk_at dksX6_isName_2 20 rfl rfl)
theorem dX6_isName_127 : decode cX6_isName 127 = .ok (.iconst 1, 1) := dk_4 (dk_at dksX6_isName_2 23 rfl rfl)
theorem dX6_isName_128 : decode cX6_isName 128 = .ok (.istore_n 2, 1) := dk_61 (dk_at dksX6_isName_3 0 rfl rfl)
theorem dX6_isName_129 : decode cX6_isName 129 = .ok (.goto 101, 3) := dk_167 0 101 (dk_at dksX6_isName_3 1 rfl rfl)
theorem dX6_isName_132 : decode cX6_isName 132 = .ok (.aload_n 1, 1) := dk_43 (dk_at dksX6_isName_3 4 rfl rfl)
theorem dX6_isName_133 : decode cX6_isName 133 = .ok (.ldc 36, 2) := dk_18 36 (dk_at dksX6_isName_3 5 rfl rfl)
theorem dX6_isName_135 : decode cX6_isName 135 = .ok (.invokevirtual 23, 3) := dk_182 0 23 (dk_at dksX6_isName_3 7 rfl rfl)
theorem dX6_isName_138 : decode cX6_isName 138 = .ok (.ifCond .eq 92, 3) := dk_153 0 92 (dk_at dksX6_isName_3 10 rfl rfl)
theorem dX6_isName_141 : decode cX6_isName 141 = .ok (.iconst 2, 1) := dk_5 (dk_at dksX6_isName_3 13 rfl rfl)
theorem dX6_isName_142 : decode cX6_isName 142 = .ok (.istore_n 2, 1) := dk_61 (dk_at dksX6_isName_3 14 rfl rfl)
theorem dX6_isName_143 : decode cX6_isName 143 = .ok (.goto 87, 3) := dk_167 0 87 (dk_at dksX6_isName_3 15 rfl rfl)
theorem dX6_isName_146 : decode cX6_isName 146 = .ok (.aload_n 1, 1) := dk_43 (dk_at dksX6_isName_3 18 rfl rfl)
theorem dX6_isName_147 : decode cX6_isName 147 = .ok (.ldc 38, 2) := dk_18 38 (dk_at dksX6_isName_3 19 rfl rfl)
theorem dX6_isName_149 : decode cX6_isName 149 = .ok (.invokevirtual 23, 3) := dk_182 0 23 (dk_at dksX6_isName_3 21 rfl rfl)
theorem dX6_isName_152 : decode cX6_isName 152 = .ok (.ifCond .eq 78, 3) := dk_153 0 78 (dk_at dksX6_isName_4 0 rfl rfl)
theorem dX6_isName_155 : decode cX6_isName 155 = .ok (.iconst 3, 1) := dk_6 (dk_at dksX6_isName_4 3 rfl rfl)
theorem dX6_isName_156 : decode cX6_isName 156 = .ok (.istore_n 2, 1) := dk_61 (dk_at dksX6_isName_4 4 rfl rfl)
theorem dX6_isName_157 : decode cX6_isName 157 = .ok (.goto 73, 3) := dk_167 0 73 (dk_at dksX6_isName_4 5 rfl rfl)
theorem dX6_isName_160 : decode cX6_isName 160 = .ok (.aload_n 1, 1) := dk_43 (dk_at dksX6_isName_4 8 rfl rfl)
theorem dX6_isName_161 : decode cX6_isName 161 = .ok (.ldc 40, 2) := dk_18 40 (dk_at dksX6_isName_4 9 rfl rfl)
theorem dX6_isName_163 : decode cX6_isName 163 = .ok (.invokevirtual 23, 3) := dk_182 0 23 (dk_at dksX6_isName_4 11 rfl rfl)
theorem dX6_isName_166 : decode cX6_isName 166 = .ok (.ifCond .eq 64, 3) := dk_153 0 64 (dk_at dksX6_isName_4 14 rfl rfl)
theorem dX6_isName_169 : decode cX6_isName 169 = .ok (.iconst 4, 1) := dk_7 (dk_at dksX6_isName_4 17 rfl rfl)
theorem dX6_isName_170 : decode cX6_isName 170 = .ok (.istore_n 2, 1) := dk_61 (dk_at dksX6_isName_4 18 rfl rfl)
theorem dX6_isName_171 : decode cX6_isName 171 = .ok (.goto 59, 3) := dk_167 0 59 (dk_at dksX6_isName_4 19 rfl rfl)
theorem dX6_isName_174 : decode cX6_isName 174 = .ok (.aload_n 1, 1) := dk_43 (dk_at dksX6_isName_4 22 rfl rfl)
theorem dX6_isName_175 : decode cX6_isName 175 = .ok (.ldc 42, 2) := dk_18 42 (dk_at dksX6_isName_5 0 rfl rfl)
theorem dX6_isName_177 : decode cX6_isName 177 = .ok (.invokevirtual 23, 3) := dk_182 0 23 (dk_at dksX6_isName_5 2 rfl rfl)
theorem dX6_isName_180 : decode cX6_isName 180 = .ok (.ifCond .eq 50, 3) := dk_153 0 50 (dk_at dksX6_isName_5 5 rfl rfl)
theorem dX6_isName_183 : decode cX6_isName 183 = .ok (.iconst 5, 1) := dk_8 (dk_at dksX6_isName_5 8 rfl rfl)
theorem dX6_isName_184 : decode cX6_isName 184 = .ok (.istore_n 2, 1) := dk_61 (dk_at dksX6_isName_5 9 rfl rfl)
theorem dX6_isName_185 : decode cX6_isName 185 = .ok (.goto 45, 3) := dk_167 0 45 (dk_at dksX6_isName_5 10 rfl rfl)
theorem dX6_isName_188 : decode cX6_isName 188 = .ok (.aload_n 1, 1) := dk_43 (dk_at dksX6_isName_5 13 rfl rfl)
theorem dX6_isName_189 : decode cX6_isName 189 = .ok (.ldc 44, 2) := dk_18 44 (dk_at dksX6_isName_5 14 rfl rfl)
theorem dX6_isName_191 : decode cX6_isName 191 = .ok (.invokevirtual 23, 3) := dk_182 0 23 (dk_at dksX6_isName_5 16 rfl rfl)
theorem dX6_isName_194 : decode cX6_isName 194 = .ok (.ifCond .eq 36, 3) := dk_153 0 36 (dk_at dksX6_isName_5 19 rfl rfl)
theorem dX6_isName_197 : decode cX6_isName 197 = .ok (.bipush 6, 2) := dk_16 6 (dk_at dksX6_isName_5 22 rfl rfl)
theorem dX6_isName_199 : decode cX6_isName 199 = .ok (.istore_n 2, 1) := dk_61 (dk_at dksX6_isName_6 0 rfl rfl)
theorem dX6_isName_200 : decode cX6_isName 200 = .ok (.goto 30, 3) := dk_167 0 30 (dk_at dksX6_isName_6 1 rfl rfl)
theorem dX6_isName_203 : decode cX6_isName 203 = .ok (.aload_n 1, 1) := dk_43 (dk_at dksX6_isName_6 4 rfl rfl)
theorem dX6_isName_204 : decode cX6_isName 204 = .ok (.ldc 46, 2) := dk_18 46 (dk_at dksX6_isName_6 5 rfl rfl)
theorem dX6_isName_206 : decode cX6_isName 206 = .ok (.invokevirtual 23, 3) := dk_182 0 23 (dk_at dksX6_isName_6 7 rfl rfl)
theorem dX6_isName_209 : decode cX6_isName 209 = .ok (.ifCond .eq 21, 3) := dk_153 0 21 (dk_at dksX6_isName_6 10 rfl rfl)
theorem dX6_isName_212 : decode cX6_isName 212 = .ok (.bipush 7, 2) := dk_16 7 (dk_at dksX6_isName_6 13 rfl rfl)
theorem dX6_isName_214 : decode cX6_isName 214 = .ok (.istore_n 2, 1) := dk_61 (dk_at dksX6_isName_6 15 rfl rfl)
theorem dX6_isName_215 : decode cX6_isName 215 = .ok (.goto 15, 3) := dk_167 0 15 (dk_at dksX6_isName_6 16 rfl rfl)
theorem dX6_isName_218 : decode cX6_isName 218 = .ok (.aload_n 1, 1) := dk_43 (dk_at dksX6_isName_6 19 rfl rfl)
theorem dX6_isName_219 : decode cX6_isName 219 = .ok (.ldc 48, 2) := dk_18 48 (dk_at dksX6_isName_6 20 rfl rfl)
theorem dX6_isName_221 : decode cX6_isName 221 = .ok (.invokevirtual 23, 3) := dk_182 0 23 (dk_at dksX6_isName_7 0 rfl rfl)
theorem dX6_isName_224 : decode cX6_isName 224 = .ok (.ifCond .eq 6, 3) := dk_153 0 6 (dk_at dksX6_isName_7 3 rfl rfl)
theorem dX6_isName_227 : decode cX6_isName 227 = .ok (.bipush 8, 2) := dk_16 8 (dk_at dksX6_isName_7 6 rfl rfl)
theorem dX6_isName_229 : decode cX6_isName 229 = .ok (.istore_n 2, 1) := dk_61 (dk_at dksX6_isName_7 8 rfl rfl)
theorem dX6_isName_230 : decode cX6_isName 230 = .ok (.iload_n 2, 1) := dk_28 (dk_at dksX6_isName_7 9 rfl rfl)
theorem dX6_isName_231 : decode cX6_isName 231 = .ok (.tableswitch 51 0 8 #[49, 49, 49, 49, 49, 49, 49, 49, 49], 49) := by decide +kernel
theorem dX6_isName_280 : decode cX6_isName 280 = .ok (.iconst 0, 1) := dk_3 (dk_at dksX6_isName_9 0 rfl rfl)
theorem dX6_isName_281 : decode cX6_isName 281 = .ok (.ireturn, 1) := dk_172 (dk_at dksX6_isName_9 1 rfl rfl)
theorem dX6_isName_282 : decode cX6_isName 282 = .ok (.iconst 1, 1) := dk_4 (dk_at dksX6_isName_9 2 rfl rfl)
theorem dX6_isName_283 : decode cX6_isName 283 = .ok (.ireturn, 1) := dk_172 (dk_at dksX6_isName_9 3 rfl rfl)
abbrev cX7_init : ByteArray := prog_5_method_1_code
def yX7_init : MethodName := ⟨RX7, "<init>", "(Ljava/lang/String;)V"⟩
def dkwX7_init_0 : List UInt8 := [42, 183, 0, 1, 42, 43, 181, 0, 7, 177]
abbrev dktX7_init_0 : List UInt8 := dkwX7_init_0 ++ []
theorem dksX7_init_0 : cX7_init.data.toList.drop 0 = dktX7_init_0 := by decide +kernel
theorem dX7_init_0 : decode cX7_init 0 = .ok (.aload_n 0, 1) := dk_42 (dk_at dksX7_init_0 0 rfl rfl)
theorem dX7_init_1 : decode cX7_init 1 = .ok (.invokespecial 1, 3) := dk_183 0 1 (dk_at dksX7_init_0 1 rfl rfl)
theorem dX7_init_4 : decode cX7_init 4 = .ok (.aload_n 0, 1) := dk_42 (dk_at dksX7_init_0 4 rfl rfl)
theorem dX7_init_5 : decode cX7_init 5 = .ok (.aload_n 1, 1) := dk_43 (dk_at dksX7_init_0 5 rfl rfl)
theorem dX7_init_6 : decode cX7_init 6 = .ok (.putfield 7, 3) := dk_181 0 7 (dk_at dksX7_init_0 6 rfl rfl)
theorem dX7_init_9 : decode cX7_init 9 = .ok (.return_, 1) := dk_177 (dk_at dksX7_init_0 9 rfl rfl)
abbrev cX8_init : ByteArray := prog_10_method_1_code
def yX8_init : MethodName := ⟨RX8, "<init>", "(II)V"⟩
def dkwX8_init_0 : List UInt8 := [42, 183, 0, 1, 42, 27, 181, 0, 7, 42, 28, 181, 0, 13, 177]
abbrev dktX8_init_0 : List UInt8 := dkwX8_init_0 ++ []
theorem dksX8_init_0 : cX8_init.data.toList.drop 0 = dktX8_init_0 := by decide +kernel
theorem dX8_init_0 : decode cX8_init 0 = .ok (.aload_n 0, 1) := dk_42 (dk_at dksX8_init_0 0 rfl rfl)
theorem dX8_init_1 : decode cX8_init 1 = .ok (.invokespecial 1, 3) := dk_183 0 1 (dk_at dksX8_init_0 1 rfl rfl)
theorem dX8_init_4 : decode cX8_init 4 = .ok (.aload_n 0, 1) := dk_42 (dk_at dksX8_init_0 4 rfl rfl)
theorem dX8_init_5 : decode cX8_init 5 = .ok (.iload_n 1, 1) := dk_27 (dk_at dksX8_init_0 5 rfl rfl)
theorem dX8_init_6 : decode cX8_init 6 = .ok (.putfield 7, 3) := dk_181 0 7 (dk_at dksX8_init_0 6 rfl rfl)
theorem dX8_init_9 : decode cX8_init 9 = .ok (.aload_n 0, 1) := dk_42 (dk_at dksX8_init_0 9 rfl rfl)
theorem dX8_init_10 : decode cX8_init 10 = .ok (.iload_n 2, 1) := dk_28 (dk_at dksX8_init_0 10 rfl rfl)
theorem dX8_init_11 : decode cX8_init 11 = .ok (.putfield 13, 3) := dk_181 0 13 (dk_at dksX8_init_0 11 rfl rfl)
theorem dX8_init_14 : decode cX8_init 14 = .ok (.return_, 1) := dk_177 (dk_at dksX8_init_0 14 rfl rfl)
abbrev cX9_init : ByteArray := prog_6_method_1_code
def yX9_init : MethodName := ⟨RX9, "<init>", "(Ljava/lang/String;)V"⟩
def dkwX9_init_1 : List UInt8 := [181, 0, 18, 177]
abbrev dktX9_init_1 : List UInt8 := dkwX9_init_1 ++ []
def dkwX9_init_0 : List UInt8 := [42, 43, 183, 0, 3, 42, 16, 10, 188, 10, 181, 0, 9, 42, 16, 10, 188, 10, 181, 0, 15, 42, 16, 254]
abbrev dktX9_init_0 : List UInt8 := dkwX9_init_0 ++ dktX9_init_1
theorem dksX9_init_0 : cX9_init.data.toList.drop 0 = dktX9_init_0 := by decide +kernel
theorem dksX9_init_1 : cX9_init.data.toList.drop 24 = dktX9_init_1 := dk_seg dksX9_init_0 24 rfl rfl
theorem dX9_init_0 : decode cX9_init 0 = .ok (.aload_n 0, 1) := dk_42 (dk_at dksX9_init_0 0 rfl rfl)
theorem dX9_init_1 : decode cX9_init 1 = .ok (.aload_n 1, 1) := dk_43 (dk_at dksX9_init_0 1 rfl rfl)
theorem dX9_init_2 : decode cX9_init 2 = .ok (.invokespecial 3, 3) := dk_183 0 3 (dk_at dksX9_init_0 2 rfl rfl)
theorem dX9_init_5 : decode cX9_init 5 = .ok (.aload_n 0, 1) := dk_42 (dk_at dksX9_init_0 5 rfl rfl)
theorem dX9_init_6 : decode cX9_init 6 = .ok (.bipush 10, 2) := dk_16 10 (dk_at dksX9_init_0 6 rfl rfl)
theorem dX9_init_8 : decode cX9_init 8 = .ok (.newarray .int, 2) := dk_188_10 (dk_at dksX9_init_0 8 rfl rfl)
theorem dX9_init_10 : decode cX9_init 10 = .ok (.putfield 9, 3) := dk_181 0 9 (dk_at dksX9_init_0 10 rfl rfl)
theorem dX9_init_13 : decode cX9_init 13 = .ok (.aload_n 0, 1) := dk_42 (dk_at dksX9_init_0 13 rfl rfl)
theorem dX9_init_14 : decode cX9_init 14 = .ok (.bipush 10, 2) := dk_16 10 (dk_at dksX9_init_0 14 rfl rfl)
theorem dX9_init_16 : decode cX9_init 16 = .ok (.newarray .int, 2) := dk_188_10 (dk_at dksX9_init_0 16 rfl rfl)
theorem dX9_init_18 : decode cX9_init 18 = .ok (.putfield 15, 3) := dk_181 0 15 (dk_at dksX9_init_0 18 rfl rfl)
theorem dX9_init_21 : decode cX9_init 21 = .ok (.aload_n 0, 1) := dk_42 (dk_at dksX9_init_0 21 rfl rfl)
theorem dX9_init_22 : decode cX9_init 22 = .ok (.bipush (-2), 2) := dk_16 254 (dk_at dksX9_init_0 22 rfl rfl)
theorem dX9_init_24 : decode cX9_init 24 = .ok (.putfield 18, 3) := dk_181 0 18 (dk_at dksX9_init_1 0 rfl rfl)
theorem dX9_init_27 : decode cX9_init 27 = .ok (.return_, 1) := dk_177 (dk_at dksX9_init_1 3 rfl rfl)
abbrev cX9_kind : ByteArray := prog_6_method_2_code
def yX9_kind : MethodName := ⟨RX9, "kind", "()I"⟩
theorem dX9_kind_0 : decode cX9_kind 0 = .ok (.iconst 0, 1) := by decide +kernel
theorem dX9_kind_1 : decode cX9_kind 1 = .ok (.ireturn, 1) := by decide +kernel
abbrev cX9_eyes : ByteArray := prog_6_method_3_code
def yX9_eyes : MethodName := ⟨RX9, "eyes", "()I"⟩
theorem dX9_eyes_0 : decode cX9_eyes 0 = .ok (.iconst 2, 1) := by decide +kernel
theorem dX9_eyes_1 : decode cX9_eyes 1 = .ok (.ireturn, 1) := by decide +kernel
abbrev cX9_at : ByteArray := prog_6_method_4_code
def yX9_at : MethodName := ⟨RX9, "at", "(I)I"⟩
def dkwX9_at_1 : List UInt8 := [163, 0, 10, 42, 180, 0, 15, 29, 46, 61, 132, 3, 1, 167, 255, 228, 28, 172]
abbrev dktX9_at_1 : List UInt8 := dkwX9_at_1 ++ []
def dkwX9_at_0 : List UInt8 := [42, 180, 0, 22, 61, 3, 62, 29, 42, 180, 0, 25, 162, 0, 26, 42, 180, 0, 9, 29, 46, 27]
abbrev dktX9_at_0 : List UInt8 := dkwX9_at_0 ++ dktX9_at_1
theorem dksX9_at_0 : cX9_at.data.toList.drop 0 = dktX9_at_0 := by decide +kernel
theorem dksX9_at_1 : cX9_at.data.toList.drop 22 = dktX9_at_1 := dk_seg dksX9_at_0 22 rfl rfl
theorem dX9_at_0 : decode cX9_at 0 = .ok (.aload_n 0, 1) := dk_42 (dk_at dksX9_at_0 0 rfl rfl)
theorem dX9_at_1 : decode cX9_at 1 = .ok (.getfield 22, 3) := dk_180 0 22 (dk_at dksX9_at_0 1 rfl rfl)
theorem dX9_at_4 : decode cX9_at 4 = .ok (.istore_n 2, 1) := dk_61 (dk_at dksX9_at_0 4 rfl rfl)
theorem dX9_at_5 : decode cX9_at 5 = .ok (.iconst 0, 1) := dk_3 (dk_at dksX9_at_0 5 rfl rfl)
theorem dX9_at_6 : decode cX9_at 6 = .ok (.istore_n 3, 1) := dk_62 (dk_at dksX9_at_0 6 rfl rfl)
theorem dX9_at_7 : decode cX9_at 7 = .ok (.iload_n 3, 1) := dk_29 (dk_at dksX9_at_0 7 rfl rfl)
theorem dX9_at_8 : decode cX9_at 8 = .ok (.aload_n 0, 1) := dk_42 (dk_at dksX9_at_0 8 rfl rfl)
theorem dX9_at_9 : decode cX9_at 9 = .ok (.getfield 25, 3) := dk_180 0 25 (dk_at dksX9_at_0 9 rfl rfl)
theorem dX9_at_12 : decode cX9_at 12 = .ok (.if_icmp .ge 26, 3) := dk_162 0 26 (dk_at dksX9_at_0 12 rfl rfl)
theorem dX9_at_15 : decode cX9_at 15 = .ok (.aload_n 0, 1) := dk_42 (dk_at dksX9_at_0 15 rfl rfl)
theorem dX9_at_16 : decode cX9_at 16 = .ok (.getfield 9, 3) := dk_180 0 9 (dk_at dksX9_at_0 16 rfl rfl)
theorem dX9_at_19 : decode cX9_at 19 = .ok (.iload_n 3, 1) := dk_29 (dk_at dksX9_at_0 19 rfl rfl)
theorem dX9_at_20 : decode cX9_at 20 = .ok (.iaload, 1) := dk_46 (dk_at dksX9_at_0 20 rfl rfl)
theorem dX9_at_21 : decode cX9_at 21 = .ok (.iload_n 1, 1) := dk_27 (dk_at dksX9_at_0 21 rfl rfl)
theorem dX9_at_22 : decode cX9_at 22 = .ok (.if_icmp .gt 10, 3) := dk_163 0 10 (dk_at dksX9_at_1 0 rfl rfl)
theorem dX9_at_25 : decode cX9_at 25 = .ok (.aload_n 0, 1) := dk_42 (dk_at dksX9_at_1 3 rfl rfl)
theorem dX9_at_26 : decode cX9_at 26 = .ok (.getfield 15, 3) := dk_180 0 15 (dk_at dksX9_at_1 4 rfl rfl)
theorem dX9_at_29 : decode cX9_at 29 = .ok (.iload_n 3, 1) := dk_29 (dk_at dksX9_at_1 7 rfl rfl)
theorem dX9_at_30 : decode cX9_at 30 = .ok (.iaload, 1) := dk_46 (dk_at dksX9_at_1 8 rfl rfl)
theorem dX9_at_31 : decode cX9_at 31 = .ok (.istore_n 2, 1) := dk_61 (dk_at dksX9_at_1 9 rfl rfl)
theorem dX9_at_32 : decode cX9_at 32 = .ok (.iinc 3 1, 3) := dk_132 3 1 (dk_at dksX9_at_1 10 rfl rfl)
theorem dX9_at_35 : decode cX9_at 35 = .ok (.goto (-28), 3) := dk_167 255 228 (dk_at dksX9_at_1 13 rfl rfl)
theorem dX9_at_38 : decode cX9_at 38 = .ok (.iload_n 2, 1) := dk_28 (dk_at dksX9_at_1 16 rfl rfl)
theorem dX9_at_39 : decode cX9_at 39 = .ok (.ireturn, 1) := dk_172 (dk_at dksX9_at_1 17 rfl rfl)
abbrev cX10_init : ByteArray := prog_4_method_1_code
def yX10_init : MethodName := ⟨RX10, "<init>", "(Ljava/lang/String;)V"⟩
def dkwX10_init_0 : List UInt8 := [42, 43, 183, 0, 1, 177]
abbrev dktX10_init_0 : List UInt8 := dkwX10_init_0 ++ []
theorem dksX10_init_0 : cX10_init.data.toList.drop 0 = dktX10_init_0 := by decide +kernel
theorem dX10_init_0 : decode cX10_init 0 = .ok (.aload_n 0, 1) := dk_42 (dk_at dksX10_init_0 0 rfl rfl)
theorem dX10_init_1 : decode cX10_init 1 = .ok (.aload_n 1, 1) := dk_43 (dk_at dksX10_init_0 1 rfl rfl)
theorem dX10_init_2 : decode cX10_init 2 = .ok (.invokespecial 1, 3) := dk_183 0 1 (dk_at dksX10_init_0 2 rfl rfl)
theorem dX10_init_5 : decode cX10_init 5 = .ok (.return_, 1) := dk_177 (dk_at dksX10_init_0 5 rfl rfl)
abbrev cX10_kind : ByteArray := prog_4_method_2_code
def yX10_kind : MethodName := ⟨RX10, "kind", "()I"⟩
theorem dX10_kind_0 : decode cX10_kind 0 = .ok (.iconst 1, 1) := by decide +kernel
theorem dX10_kind_1 : decode cX10_kind 1 = .ok (.ireturn, 1) := by decide +kernel
abbrev cX11_init : ByteArray := prog_3_method_1_code
def yX11_init : MethodName := ⟨RX11, "<init>", "(Ljava/lang/String;)V"⟩
def dkwX11_init_0 : List UInt8 := [42, 43, 183, 0, 1, 177]
abbrev dktX11_init_0 : List UInt8 := dkwX11_init_0 ++ []
theorem dksX11_init_0 : cX11_init.data.toList.drop 0 = dktX11_init_0 := by decide +kernel
theorem dX11_init_0 : decode cX11_init 0 = .ok (.aload_n 0, 1) := dk_42 (dk_at dksX11_init_0 0 rfl rfl)
theorem dX11_init_1 : decode cX11_init 1 = .ok (.aload_n 1, 1) := dk_43 (dk_at dksX11_init_0 1 rfl rfl)
theorem dX11_init_2 : decode cX11_init 2 = .ok (.invokespecial 1, 3) := dk_183 0 1 (dk_at dksX11_init_0 2 rfl rfl)
theorem dX11_init_5 : decode cX11_init 5 = .ok (.return_, 1) := dk_177 (dk_at dksX11_init_0 5 rfl rfl)
abbrev cX11_kind : ByteArray := prog_3_method_2_code
def yX11_kind : MethodName := ⟨RX11, "kind", "()I"⟩
theorem dX11_kind_0 : decode cX11_kind 0 = .ok (.iconst 2, 1) := by decide +kernel
theorem dX11_kind_1 : decode cX11_kind 1 = .ok (.ireturn, 1) := by decide +kernel
abbrev cX11_eyes : ByteArray := prog_3_method_3_code
def yX11_eyes : MethodName := ⟨RX11, "eyes", "()I"⟩
theorem dX11_eyes_0 : decode cX11_eyes 0 = .ok (.iconst 0, 1) := by decide +kernel
theorem dX11_eyes_1 : decode cX11_eyes 1 = .ok (.ireturn, 1) := by decide +kernel
abbrev cX12_init : ByteArray := prog_2_method_1_code
def yX12_init : MethodName := ⟨RX12, "<init>", "(Ljava/lang/String;)V"⟩
def dkwX12_init_0 : List UInt8 := [42, 43, 183, 0, 1, 177]
abbrev dktX12_init_0 : List UInt8 := dkwX12_init_0 ++ []
theorem dksX12_init_0 : cX12_init.data.toList.drop 0 = dktX12_init_0 := by decide +kernel
theorem dX12_init_0 : decode cX12_init 0 = .ok (.aload_n 0, 1) := dk_42 (dk_at dksX12_init_0 0 rfl rfl)
theorem dX12_init_1 : decode cX12_init 1 = .ok (.aload_n 1, 1) := dk_43 (dk_at dksX12_init_0 1 rfl rfl)
theorem dX12_init_2 : decode cX12_init 2 = .ok (.invokespecial 1, 3) := dk_183 0 1 (dk_at dksX12_init_0 2 rfl rfl)
theorem dX12_init_5 : decode cX12_init 5 = .ok (.return_, 1) := dk_177 (dk_at dksX12_init_0 5 rfl rfl)
abbrev cX12_kind : ByteArray := prog_2_method_2_code
def yX12_kind : MethodName := ⟨RX12, "kind", "()I"⟩
theorem dX12_kind_0 : decode cX12_kind 0 = .ok (.iconst 3, 1) := by decide +kernel
theorem dX12_kind_1 : decode cX12_kind 1 = .ok (.ireturn, 1) := by decide +kernel
abbrev cX12_eyes : ByteArray := prog_2_method_3_code
def yX12_eyes : MethodName := ⟨RX12, "eyes", "()I"⟩
def dkwX12_eyes_0 : List UInt8 := [42, 183, 0, 7, 5, 108, 172]
abbrev dktX12_eyes_0 : List UInt8 := dkwX12_eyes_0 ++ []
theorem dksX12_eyes_0 : cX12_eyes.data.toList.drop 0 = dktX12_eyes_0 := by decide +kernel
theorem dX12_eyes_0 : decode cX12_eyes 0 = .ok (.aload_n 0, 1) := dk_42 (dk_at dksX12_eyes_0 0 rfl rfl)
theorem dX12_eyes_1 : decode cX12_eyes 1 = .ok (.invokespecial 7, 3) := dk_183 0 7 (dk_at dksX12_eyes_0 1 rfl rfl)
theorem dX12_eyes_4 : decode cX12_eyes 4 = .ok (.iconst 2, 1) := dk_5 (dk_at dksX12_eyes_0 4 rfl rfl)
theorem dX12_eyes_5 : decode cX12_eyes 5 = .ok (.idiv, 1) := dk_108 (dk_at dksX12_eyes_0 5 rfl rfl)
theorem dX12_eyes_6 : decode cX12_eyes 6 = .ok (.ireturn, 1) := dk_172 (dk_at dksX12_eyes_0 6 rfl rfl)
abbrev cX13_init : ByteArray := prog_7_method_1_code
def yX13_init : MethodName := ⟨RX13, "<init>", "(Ljava/lang/String;)V"⟩
def dkwX13_init_0 : List UInt8 := [42, 43, 183, 0, 3, 42, 2, 181, 0, 9, 177]
abbrev dktX13_init_0 : List UInt8 := dkwX13_init_0 ++ []
theorem dksX13_init_0 : cX13_init.data.toList.drop 0 = dktX13_init_0 := by decide +kernel
theorem dX13_init_0 : decode cX13_init 0 = .ok (.aload_n 0, 1) := dk_42 (dk_at dksX13_init_0 0 rfl rfl)
theorem dX13_init_1 : decode cX13_init 1 = .ok (.aload_n 1, 1) := dk_43 (dk_at dksX13_init_0 1 rfl rfl)
theorem dX13_init_2 : decode cX13_init 2 = .ok (.invokespecial 3, 3) := dk_183 0 3 (dk_at dksX13_init_0 2 rfl rfl)
theorem dX13_init_5 : decode cX13_init 5 = .ok (.aload_n 0, 1) := dk_42 (dk_at dksX13_init_0 5 rfl rfl)
theorem dX13_init_6 : decode cX13_init 6 = .ok (.iconst (-1), 1) := dk_2 (dk_at dksX13_init_0 6 rfl rfl)
theorem dX13_init_7 : decode cX13_init 7 = .ok (.putfield 9, 3) := dk_181 0 9 (dk_at dksX13_init_0 7 rfl rfl)
theorem dX13_init_10 : decode cX13_init 10 = .ok (.return_, 1) := dk_177 (dk_at dksX13_init_0 10 rfl rfl)
abbrev cX14_init : ByteArray := prog_9_method_1_code
def yX14_init : MethodName := ⟨RX14, "<init>", "(LThirdWitness$Town;)V"⟩
def dkwX14_init_0 : List UInt8 := [42, 183, 0, 3, 42, 16, 6, 188, 8, 181, 0, 9, 42, 43, 181, 0, 15, 177]
abbrev dktX14_init_0 : List UInt8 := dkwX14_init_0 ++ []
theorem dksX14_init_0 : cX14_init.data.toList.drop 0 = dktX14_init_0 := by decide +kernel
theorem dX14_init_0 : decode cX14_init 0 = .ok (.aload_n 0, 1) := dk_42 (dk_at dksX14_init_0 0 rfl rfl)
theorem dX14_init_1 : decode cX14_init 1 = .ok (.invokespecial 3, 3) := dk_183 0 3 (dk_at dksX14_init_0 1 rfl rfl)
theorem dX14_init_4 : decode cX14_init 4 = .ok (.aload_n 0, 1) := dk_42 (dk_at dksX14_init_0 4 rfl rfl)
theorem dX14_init_5 : decode cX14_init 5 = .ok (.bipush 6, 2) := dk_16 6 (dk_at dksX14_init_0 5 rfl rfl)
theorem dX14_init_7 : decode cX14_init 7 = .ok (.newarray .byte, 2) := dk_188_8 (dk_at dksX14_init_0 7 rfl rfl)
theorem dX14_init_9 : decode cX14_init 9 = .ok (.putfield 9, 3) := dk_181 0 9 (dk_at dksX14_init_0 9 rfl rfl)
theorem dX14_init_12 : decode cX14_init 12 = .ok (.aload_n 0, 1) := dk_42 (dk_at dksX14_init_0 12 rfl rfl)
theorem dX14_init_13 : decode cX14_init 13 = .ok (.aload_n 1, 1) := dk_43 (dk_at dksX14_init_0 13 rfl rfl)
theorem dX14_init_14 : decode cX14_init 14 = .ok (.putfield 15, 3) := dk_181 0 15 (dk_at dksX14_init_0 14 rfl rfl)
theorem dX14_init_17 : decode cX14_init 17 = .ok (.return_, 1) := dk_177 (dk_at dksX14_init_0 17 rfl rfl)
abbrev cX14_begins : ByteArray := prog_9_method_2_code
def yX14_begins : MethodName := ⟨RX14, "begins", "()V"⟩
def dkwX14_begins_1 : List UInt8 := [181, 0, 19, 42, 3, 181, 0, 23, 177]
abbrev dktX14_begins_1 : List UInt8 := dkwX14_begins_1 ++ []
def dkwX14_begins_0 : List UInt8 := [3, 60, 27, 16, 6, 162, 0, 17, 42, 180, 0, 9, 27, 16, 254, 84, 132, 1, 1, 167, 255, 239, 42, 3]
abbrev dktX14_begins_0 : List UInt8 := dkwX14_begins_0 ++ dktX14_begins_1
theorem dksX14_begins_0 : cX14_begins.data.toList.drop 0 = dktX14_begins_0 := by decide +kernel
theorem dksX14_begins_1 : cX14_begins.data.toList.drop 24 = dktX14_begins_1 := dk_seg dksX14_begins_0 24 rfl rfl
theorem dX14_begins_0 : decode cX14_begins 0 = .ok (.iconst 0, 1) := dk_3 (dk_at dksX14_begins_0 0 rfl rfl)
theorem dX14_begins_1 : decode cX14_begins 1 = .ok (.istore_n 1, 1) := dk_60 (dk_at dksX14_begins_0 1 rfl rfl)
theorem dX14_begins_2 : decode cX14_begins 2 = .ok (.iload_n 1, 1) := dk_27 (dk_at dksX14_begins_0 2 rfl rfl)
theorem dX14_begins_3 : decode cX14_begins 3 = .ok (.bipush 6, 2) := dk_16 6 (dk_at dksX14_begins_0 3 rfl rfl)
theorem dX14_begins_5 : decode cX14_begins 5 = .ok (.if_icmp .ge 17, 3) := dk_162 0 17 (dk_at dksX14_begins_0 5 rfl rfl)
theorem dX14_begins_8 : decode cX14_begins 8 = .ok (.aload_n 0, 1) := dk_42 (dk_at dksX14_begins_0 8 rfl rfl)
theorem dX14_begins_9 : decode cX14_begins 9 = .ok (.getfield 9, 3) := dk_180 0 9 (dk_at dksX14_begins_0 9 rfl rfl)
theorem dX14_begins_12 : decode cX14_begins 12 = .ok (.iload_n 1, 1) := dk_27 (dk_at dksX14_begins_0 12 rfl rfl)
theorem dX14_begins_13 : decode cX14_begins 13 = .ok (.bipush (-2), 2) := dk_16 254 (dk_at dksX14_begins_0 13 rfl rfl)
theorem dX14_begins_15 : decode cX14_begins 15 = .ok (.bastore, 1) := dk_84 (dk_at dksX14_begins_0 15 rfl rfl)
theorem dX14_begins_16 : decode cX14_begins 16 = .ok (.iinc 1 1, 3) := dk_132 1 1 (dk_at dksX14_begins_0 16 rfl rfl)
theorem dX14_begins_19 : decode cX14_begins 19 = .ok (.goto (-17), 3) := dk_167 255 239 (dk_at dksX14_begins_0 19 rfl rfl)
theorem dX14_begins_22 : decode cX14_begins 22 = .ok (.aload_n 0, 1) := dk_42 (dk_at dksX14_begins_0 22 rfl rfl)
theorem dX14_begins_23 : decode cX14_begins 23 = .ok (.iconst 0, 1) := dk_3 (dk_at dksX14_begins_0 23 rfl rfl)
theorem dX14_begins_24 : decode cX14_begins 24 = .ok (.putfield 19, 3) := dk_181 0 19 (dk_at dksX14_begins_1 0 rfl rfl)
theorem dX14_begins_27 : decode cX14_begins 27 = .ok (.aload_n 0, 1) := dk_42 (dk_at dksX14_begins_1 3 rfl rfl)
theorem dX14_begins_28 : decode cX14_begins 28 = .ok (.iconst 0, 1) := dk_3 (dk_at dksX14_begins_1 4 rfl rfl)
theorem dX14_begins_29 : decode cX14_begins 29 = .ok (.putfield 23, 3) := dk_181 0 23 (dk_at dksX14_begins_1 5 rfl rfl)
theorem dX14_begins_32 : decode cX14_begins 32 = .ok (.return_, 1) := dk_177 (dk_at dksX14_begins_1 8 rfl rfl)
abbrev cX14_copy : ByteArray := prog_9_method_4_code
def yX14_copy : MethodName := ⟨RX14, "copy", "()LThirdWitness$Scene;"⟩
def dkwX14_copy_0 : List UInt8 := [187, 0, 10, 89, 42, 180, 0, 15, 183, 0, 32, 76, 43, 42, 182, 0, 35, 43, 176]
abbrev dktX14_copy_0 : List UInt8 := dkwX14_copy_0 ++ []
theorem dksX14_copy_0 : cX14_copy.data.toList.drop 0 = dktX14_copy_0 := by decide +kernel
theorem dX14_copy_0 : decode cX14_copy 0 = .ok (.new 10, 3) := dk_187 0 10 (dk_at dksX14_copy_0 0 rfl rfl)
theorem dX14_copy_3 : decode cX14_copy 3 = .ok (.dup, 1) := dk_89 (dk_at dksX14_copy_0 3 rfl rfl)
theorem dX14_copy_4 : decode cX14_copy 4 = .ok (.aload_n 0, 1) := dk_42 (dk_at dksX14_copy_0 4 rfl rfl)
theorem dX14_copy_5 : decode cX14_copy 5 = .ok (.getfield 15, 3) := dk_180 0 15 (dk_at dksX14_copy_0 5 rfl rfl)
theorem dX14_copy_8 : decode cX14_copy 8 = .ok (.invokespecial 32, 3) := dk_183 0 32 (dk_at dksX14_copy_0 8 rfl rfl)
theorem dX14_copy_11 : decode cX14_copy 11 = .ok (.astore_n 1, 1) := dk_76 (dk_at dksX14_copy_0 11 rfl rfl)
theorem dX14_copy_12 : decode cX14_copy 12 = .ok (.aload_n 1, 1) := dk_43 (dk_at dksX14_copy_0 12 rfl rfl)
theorem dX14_copy_13 : decode cX14_copy 13 = .ok (.aload_n 0, 1) := dk_42 (dk_at dksX14_copy_0 13 rfl rfl)
theorem dX14_copy_14 : decode cX14_copy 14 = .ok (.invokevirtual 35, 3) := dk_182 0 35 (dk_at dksX14_copy_0 14 rfl rfl)
theorem dX14_copy_17 : decode cX14_copy 17 = .ok (.aload_n 1, 1) := dk_43 (dk_at dksX14_copy_0 17 rfl rfl)
theorem dX14_copy_18 : decode cX14_copy 18 = .ok (.areturn, 1) := dk_176 (dk_at dksX14_copy_0 18 rfl rfl)
abbrev cX14_takes : ByteArray := prog_9_method_3_code
def yX14_takes : MethodName := ⟨RX14, "takes", "(LThirdWitness$Scene;)V"⟩
def dkwX14_takes_1 : List UInt8 := [43, 180, 0, 23, 181, 0, 23, 177]
abbrev dktX14_takes_1 : List UInt8 := dkwX14_takes_1 ++ []
def dkwX14_takes_0 : List UInt8 := [43, 180, 0, 9, 3, 42, 180, 0, 9, 3, 16, 6, 184, 0, 26, 42, 43, 180, 0, 19, 181, 0, 19, 42]
abbrev dktX14_takes_0 : List UInt8 := dkwX14_takes_0 ++ dktX14_takes_1
theorem dksX14_takes_0 : cX14_takes.data.toList.drop 0 = dktX14_takes_0 := by decide +kernel
theorem dksX14_takes_1 : cX14_takes.data.toList.drop 24 = dktX14_takes_1 := dk_seg dksX14_takes_0 24 rfl rfl
theorem dX14_takes_0 : decode cX14_takes 0 = .ok (.aload_n 1, 1) := dk_43 (dk_at dksX14_takes_0 0 rfl rfl)
theorem dX14_takes_1 : decode cX14_takes 1 = .ok (.getfield 9, 3) := dk_180 0 9 (dk_at dksX14_takes_0 1 rfl rfl)
theorem dX14_takes_4 : decode cX14_takes 4 = .ok (.iconst 0, 1) := dk_3 (dk_at dksX14_takes_0 4 rfl rfl)
theorem dX14_takes_5 : decode cX14_takes 5 = .ok (.aload_n 0, 1) := dk_42 (dk_at dksX14_takes_0 5 rfl rfl)
theorem dX14_takes_6 : decode cX14_takes 6 = .ok (.getfield 9, 3) := dk_180 0 9 (dk_at dksX14_takes_0 6 rfl rfl)
theorem dX14_takes_9 : decode cX14_takes 9 = .ok (.iconst 0, 1) := dk_3 (dk_at dksX14_takes_0 9 rfl rfl)
theorem dX14_takes_10 : decode cX14_takes 10 = .ok (.bipush 6, 2) := dk_16 6 (dk_at dksX14_takes_0 10 rfl rfl)
theorem dX14_takes_12 : decode cX14_takes 12 = .ok (.invokestatic 26, 3) := dk_184 0 26 (dk_at dksX14_takes_0 12 rfl rfl)
theorem dX14_takes_15 : decode cX14_takes 15 = .ok (.aload_n 0, 1) := dk_42 (dk_at dksX14_takes_0 15 rfl rfl)
theorem dX14_takes_16 : decode cX14_takes 16 = .ok (.aload_n 1, 1) := dk_43 (dk_at dksX14_takes_0 16 rfl rfl)
theorem dX14_takes_17 : decode cX14_takes 17 = .ok (.getfield 19, 3) := dk_180 0 19 (dk_at dksX14_takes_0 17 rfl rfl)
theorem dX14_takes_20 : decode cX14_takes 20 = .ok (.putfield 19, 3) := dk_181 0 19 (dk_at dksX14_takes_0 20 rfl rfl)
theorem dX14_takes_23 : decode cX14_takes 23 = .ok (.aload_n 0, 1) := dk_42 (dk_at dksX14_takes_0 23 rfl rfl)
theorem dX14_takes_24 : decode cX14_takes 24 = .ok (.aload_n 1, 1) := dk_43 (dk_at dksX14_takes_1 0 rfl rfl)
theorem dX14_takes_25 : decode cX14_takes 25 = .ok (.getfield 23, 3) := dk_180 0 23 (dk_at dksX14_takes_1 1 rfl rfl)
theorem dX14_takes_28 : decode cX14_takes 28 = .ok (.putfield 23, 3) := dk_181 0 23 (dk_at dksX14_takes_1 4 rfl rfl)
theorem dX14_takes_31 : decode cX14_takes 31 = .ok (.return_, 1) := dk_177 (dk_at dksX14_takes_1 7 rfl rfl)
abbrev cX14_at : ByteArray := prog_9_method_5_code
def yX14_at : MethodName := ⟨RX14, "at", "(II)I"⟩
def dkwX14_at_1 : List UInt8 := [167, 0, 9, 42, 180, 0, 9, 27, 51, 172]
abbrev dktX14_at_1 : List UInt8 := dkwX14_at_1 ++ []
def dkwX14_at_0 : List UInt8 := [42, 180, 0, 9, 27, 51, 16, 254, 160, 0, 18, 42, 180, 0, 15, 27, 182, 0, 39, 28, 182, 0, 45]
abbrev dktX14_at_0 : List UInt8 := dkwX14_at_0 ++ dktX14_at_1
theorem dksX14_at_0 : cX14_at.data.toList.drop 0 = dktX14_at_0 := by decide +kernel
theorem dksX14_at_1 : cX14_at.data.toList.drop 23 = dktX14_at_1 := dk_seg dksX14_at_0 23 rfl rfl
theorem dX14_at_0 : decode cX14_at 0 = .ok (.aload_n 0, 1) := dk_42 (dk_at dksX14_at_0 0 rfl rfl)
theorem dX14_at_1 : decode cX14_at 1 = .ok (.getfield 9, 3) := dk_180 0 9 (dk_at dksX14_at_0 1 rfl rfl)
theorem dX14_at_4 : decode cX14_at 4 = .ok (.iload_n 1, 1) := dk_27 (dk_at dksX14_at_0 4 rfl rfl)
theorem dX14_at_5 : decode cX14_at 5 = .ok (.baload, 1) := dk_51 (dk_at dksX14_at_0 5 rfl rfl)
theorem dX14_at_6 : decode cX14_at 6 = .ok (.bipush (-2), 2) := dk_16 254 (dk_at dksX14_at_0 6 rfl rfl)
theorem dX14_at_8 : decode cX14_at 8 = .ok (.if_icmp .ne 18, 3) := dk_160 0 18 (dk_at dksX14_at_0 8 rfl rfl)
theorem dX14_at_11 : decode cX14_at 11 = .ok (.aload_n 0, 1) := dk_42 (dk_at dksX14_at_0 11 rfl rfl)
theorem dX14_at_12 : decode cX14_at 12 = .ok (.getfield 15, 3) := dk_180 0 15 (dk_at dksX14_at_0 12 rfl rfl)
theorem dX14_at_15 : decode cX14_at 15 = .ok (.iload_n 1, 1) := dk_27 (dk_at dksX14_at_0 15 rfl rfl)
theorem dX14_at_16 : decode cX14_at 16 = .ok (.invokevirtual 39, 3) := dk_182 0 39 (dk_at dksX14_at_0 16 rfl rfl)
theorem dX14_at_19 : decode cX14_at 19 = .ok (.iload_n 2, 1) := dk_28 (dk_at dksX14_at_0 19 rfl rfl)
theorem dX14_at_20 : decode cX14_at 20 = .ok (.invokevirtual 45, 3) := dk_182 0 45 (dk_at dksX14_at_0 20 rfl rfl)
theorem dX14_at_23 : decode cX14_at 23 = .ok (.goto 9, 3) := dk_167 0 9 (dk_at dksX14_at_1 0 rfl rfl)
theorem dX14_at_26 : decode cX14_at 26 = .ok (.aload_n 0, 1) := dk_42 (dk_at dksX14_at_1 3 rfl rfl)
theorem dX14_at_27 : decode cX14_at 27 = .ok (.getfield 9, 3) := dk_180 0 9 (dk_at dksX14_at_1 4 rfl rfl)
theorem dX14_at_30 : decode cX14_at 30 = .ok (.iload_n 1, 1) := dk_27 (dk_at dksX14_at_1 7 rfl rfl)
theorem dX14_at_31 : decode cX14_at 31 = .ok (.baload, 1) := dk_51 (dk_at dksX14_at_1 8 rfl rfl)
theorem dX14_at_32 : decode cX14_at 32 = .ok (.ireturn, 1) := dk_172 (dk_at dksX14_at_1 9 rfl rfl)
abbrev cX14_into : ByteArray := prog_9_method_7_code
def yX14_into : MethodName := ⟨RX14, "into", "(I)I"⟩
def dkwX14_into_3 : List UInt8 := [128, 61, 132, 3, 1, 167, 255, 185, 28, 172]
abbrev dktX14_into_3 : List UInt8 := dkwX14_into_3 ++ []
def dkwX14_into_2 : List UInt8 := [27, 160, 0, 25, 28, 4, 42, 180, 0, 15, 180, 0, 51, 29, 182, 0, 65, 192, 0, 69, 180, 0, 71, 120]
abbrev dktX14_into_2 : List UInt8 := dkwX14_into_2 ++ dktX14_into_3
def dkwX14_into_1 : List UInt8 := [29, 184, 0, 61, 154, 0, 46, 42, 180, 0, 15, 180, 0, 51, 29, 182, 0, 65, 192, 0, 69, 180, 0, 74]
abbrev dktX14_into_1 : List UInt8 := dkwX14_into_1 ++ dktX14_into_2
def dkwX14_into_0 : List UInt8 := [4, 27, 120, 61, 3, 62, 29, 42, 180, 0, 15, 180, 0, 51, 182, 0, 55, 162, 0, 63, 42, 180, 0, 19]
abbrev dktX14_into_0 : List UInt8 := dkwX14_into_0 ++ dktX14_into_1
theorem dksX14_into_0 : cX14_into.data.toList.drop 0 = dktX14_into_0 := by decide +kernel
theorem dksX14_into_1 : cX14_into.data.toList.drop 24 = dktX14_into_1 := dk_seg dksX14_into_0 24 rfl rfl
theorem dksX14_into_2 : cX14_into.data.toList.drop 48 = dktX14_into_2 := dk_seg dksX14_into_1 24 rfl rfl
theorem dksX14_into_3 : cX14_into.data.toList.drop 72 = dktX14_into_3 := dk_seg dksX14_into_2 24 rfl rfl
theorem dX14_into_0 : decode cX14_into 0 = .ok (.iconst 1, 1) := dk_4 (dk_at dksX14_into_0 0 rfl rfl)
theorem dX14_into_1 : decode cX14_into 1 = .ok (.iload_n 1, 1) := dk_27 (dk_at dksX14_into_0 1 rfl rfl)
theorem dX14_into_2 : decode cX14_into 2 = .ok (.ishl, 1) := dk_120 (dk_at dksX14_into_0 2 rfl rfl)
theorem dX14_into_3 : decode cX14_into 3 = .ok (.istore_n 2, 1) := dk_61 (dk_at dksX14_into_0 3 rfl rfl)
theorem dX14_into_4 : decode cX14_into 4 = .ok (.iconst 0, 1) := dk_3 (dk_at dksX14_into_0 4 rfl rfl)
theorem dX14_into_5 : decode cX14_into 5 = .ok (.istore_n 3, 1) := dk_62 (dk_at dksX14_into_0 5 rfl rfl)
theorem dX14_into_6 : decode cX14_into 6 = .ok (.iload_n 3, 1) := dk_29 (dk_at dksX14_into_0 6 rfl rfl)
theorem dX14_into_7 : decode cX14_into 7 = .ok (.aload_n 0, 1) := dk_42 (dk_at dksX14_into_0 7 rfl rfl)
theorem dX14_into_8 : decode cX14_into 8 = .ok (.getfield 15, 3) := dk_180 0 15 (dk_at dksX14_into_0 8 rfl rfl)
theorem dX14_into_11 : decode cX14_into 11 = .ok (.getfield 51, 3) := dk_180 0 51 (dk_at dksX14_into_0 11 rfl rfl)
theorem dX14_into_14 : decode cX14_into 14 = .ok (.invokevirtual 55, 3) := dk_182 0 55 (dk_at dksX14_into_0 14 rfl rfl)
theorem dX14_into_17 : decode cX14_into 17 = .ok (.if_icmp .ge 63, 3) := dk_162 0 63 (dk_at dksX14_into_0 17 rfl rfl)
theorem dX14_into_20 : decode cX14_into 20 = .ok (.aload_n 0, 1) := dk_42 (dk_at dksX14_into_0 20 rfl rfl)
theorem dX14_into_21 : decode cX14_into 21 = .ok (.getfield 19, 3) := dk_180 0 19 (dk_at dksX14_into_0 21 rfl rfl)
theorem dX14_into_24 : decode cX14_into 24 = .ok (.iload_n 3, 1) := dk_29 (dk_at dksX14_into_1 0 rfl rfl)
theorem dX14_into_25 : decode cX14_into 25 = .ok (.invokestatic 61, 3) := dk_184 0 61 (dk_at dksX14_into_1 1 rfl rfl)
theorem dX14_into_28 : decode cX14_into 28 = .ok (.ifCond .ne 46, 3) := dk_154 0 46 (dk_at dksX14_into_1 4 rfl rfl)
theorem dX14_into_31 : decode cX14_into 31 = .ok (.aload_n 0, 1) := dk_42 (dk_at dksX14_into_1 7 rfl rfl)
theorem dX14_into_32 : decode cX14_into 32 = .ok (.getfield 15, 3) := dk_180 0 15 (dk_at dksX14_into_1 8 rfl rfl)
theorem dX14_into_35 : decode cX14_into 35 = .ok (.getfield 51, 3) := dk_180 0 51 (dk_at dksX14_into_1 11 rfl rfl)
theorem dX14_into_38 : decode cX14_into 38 = .ok (.iload_n 3, 1) := dk_29 (dk_at dksX14_into_1 14 rfl rfl)
theorem dX14_into_39 : decode cX14_into 39 = .ok (.invokevirtual 65, 3) := dk_182 0 65 (dk_at dksX14_into_1 15 rfl rfl)
theorem dX14_into_42 : decode cX14_into 42 = .ok (.checkcast 69, 3) := dk_192 0 69 (dk_at dksX14_into_1 18 rfl rfl)
theorem dX14_into_45 : decode cX14_into 45 = .ok (.getfield 74, 3) := dk_180 0 74 (dk_at dksX14_into_1 21 rfl rfl)
theorem dX14_into_48 : decode cX14_into 48 = .ok (.iload_n 1, 1) := dk_27 (dk_at dksX14_into_2 0 rfl rfl)
theorem dX14_into_49 : decode cX14_into 49 = .ok (.if_icmp .ne 25, 3) := dk_160 0 25 (dk_at dksX14_into_2 1 rfl rfl)
theorem dX14_into_52 : decode cX14_into 52 = .ok (.iload_n 2, 1) := dk_28 (dk_at dksX14_into_2 4 rfl rfl)
theorem dX14_into_53 : decode cX14_into 53 = .ok (.iconst 1, 1) := dk_4 (dk_at dksX14_into_2 5 rfl rfl)
theorem dX14_into_54 : decode cX14_into 54 = .ok (.aload_n 0, 1) := dk_42 (dk_at dksX14_into_2 6 rfl rfl)
theorem dX14_into_55 : decode cX14_into 55 = .ok (.getfield 15, 3) := dk_180 0 15 (dk_at dksX14_into_2 7 rfl rfl)
theorem dX14_into_58 : decode cX14_into 58 = .ok (.getfield 51, 3) := dk_180 0 51 (dk_at dksX14_into_2 10 rfl rfl)
theorem dX14_into_61 : decode cX14_into 61 = .ok (.iload_n 3, 1) := dk_29 (dk_at dksX14_into_2 13 rfl rfl)
theorem dX14_into_62 : decode cX14_into 62 = .ok (.invokevirtual 65, 3) := dk_182 0 65 (dk_at dksX14_into_2 14 rfl rfl)
theorem dX14_into_65 : decode cX14_into 65 = .ok (.checkcast 69, 3) := dk_192 0 69 (dk_at dksX14_into_2 17 rfl rfl)
theorem dX14_into_68 : decode cX14_into 68 = .ok (.getfield 71, 3) := dk_180 0 71 (dk_at dksX14_into_2 20 rfl rfl)
theorem dX14_into_71 : decode cX14_into 71 = .ok (.ishl, 1) := dk_120 (dk_at dksX14_into_2 23 rfl rfl)
theorem dX14_into_72 : decode cX14_into 72 = .ok (.ior, 1) := dk_128 (dk_at dksX14_into_3 0 rfl rfl)
theorem dX14_into_73 : decode cX14_into 73 = .ok (.istore_n 2, 1) := dk_61 (dk_at dksX14_into_3 1 rfl rfl)
theorem dX14_into_74 : decode cX14_into 74 = .ok (.iinc 3 1, 3) := dk_132 3 1 (dk_at dksX14_into_3 2 rfl rfl)
theorem dX14_into_77 : decode cX14_into 77 = .ok (.goto (-71), 3) := dk_167 255 185 (dk_at dksX14_into_3 5 rfl rfl)
theorem dX14_into_80 : decode cX14_into 80 = .ok (.iload_n 2, 1) := dk_28 (dk_at dksX14_into_3 8 rfl rfl)
theorem dX14_into_81 : decode cX14_into 81 = .ok (.ireturn, 1) := dk_172 (dk_at dksX14_into_3 9 rfl rfl)
abbrev cX14_watchers : ByteArray := prog_9_method_8_code
def yX14_watchers : MethodName := ⟨RX14, "watchers", "(II)I"⟩
def dkwX14_watchers_2 : List UInt8 := [167, 0, 4, 3, 128, 54, 4, 132, 5, 1, 167, 255, 211, 21, 4, 172]
abbrev dktX14_watchers_2 : List UInt8 := dkwX14_watchers_2 ++ []
def dkwX14_watchers_1 : List UInt8 := [162, 0, 36, 21, 4, 29, 42, 21, 5, 28, 182, 0, 83, 184, 0, 61, 153, 0, 10, 4, 21, 5, 120]
abbrev dktX14_watchers_1 : List UInt8 := dkwX14_watchers_1 ++ dktX14_watchers_2
def dkwX14_watchers_0 : List UInt8 := [42, 27, 182, 0, 77, 62, 3, 54, 4, 3, 54, 5, 21, 5, 42, 180, 0, 15, 180, 0, 80, 182, 0, 55]
abbrev dktX14_watchers_0 : List UInt8 := dkwX14_watchers_0 ++ dktX14_watchers_1
theorem dksX14_watchers_0 : cX14_watchers.data.toList.drop 0 = dktX14_watchers_0 := by decide +kernel
theorem dksX14_watchers_1 : cX14_watchers.data.toList.drop 24 = dktX14_watchers_1 := dk_seg dksX14_watchers_0 24 rfl rfl
theorem dksX14_watchers_2 : cX14_watchers.data.toList.drop 47 = dktX14_watchers_2 := dk_seg dksX14_watchers_1 23 rfl rfl
theorem dX14_watchers_0 : decode cX14_watchers 0 = .ok (.aload_n 0, 1) := dk_42 (dk_at dksX14_watchers_0 0 rfl rfl)
theorem dX14_watchers_1 : decode cX14_watchers 1 = .ok (.iload_n 1, 1) := dk_27 (dk_at dksX14_watchers_0 1 rfl rfl)
theorem dX14_watchers_2 : decode cX14_watchers 2 = .ok (.invokevirtual 77, 3) := dk_182 0 77 (dk_at dksX14_watchers_0 2 rfl rfl)
theorem dX14_watchers_5 : decode cX14_watchers 5 = .ok (.istore_n 3, 1) := dk_62 (dk_at dksX14_watchers_0 5 rfl rfl)
theorem dX14_watchers_6 : decode cX14_watchers 6 = .ok (.iconst 0, 1) := dk_3 (dk_at dksX14_watchers_0 6 rfl rfl)
theorem dX14_watchers_7 : decode cX14_watchers 7 = .ok (.istore 4, 2) := dk_54 4 (dk_at dksX14_watchers_0 7 rfl rfl)
theorem dX14_watchers_9 : decode cX14_watchers 9 = .ok (.iconst 0, 1) := dk_3 (dk_at dksX14_watchers_0 9 rfl rfl)
theorem dX14_watchers_10 : decode cX14_watchers 10 = .ok (.istore 5, 2) := dk_54 5 (dk_at dksX14_watchers_0 10 rfl rfl)
theorem dX14_watchers_12 : decode cX14_watchers 12 = .ok (.iload 5, 2) := dk_21 5 (dk_at dksX14_watchers_0 12 rfl rfl)
theorem dX14_watchers_14 : decode cX14_watchers 14 = .ok (.aload_n 0, 1) := dk_42 (dk_at dksX14_watchers_0 14 rfl rfl)
theorem dX14_watchers_15 : decode cX14_watchers 15 = .ok (.getfield 15, 3) := dk_180 0 15 (dk_at dksX14_watchers_0 15 rfl rfl)
theorem dX14_watchers_18 : decode cX14_watchers 18 = .ok (.getfield 80, 3) := dk_180 0 80 (dk_at dksX14_watchers_0 18 rfl rfl)
theorem dX14_watchers_21 : decode cX14_watchers 21 = .ok (.invokevirtual 55, 3) := dk_182 0 55 (dk_at dksX14_watchers_0 21 rfl rfl)
theorem dX14_watchers_24 : decode cX14_watchers 24 = .ok (.if_icmp .ge 36, 3) := dk_162 0 36 (dk_at dksX14_watchers_1 0 rfl rfl)
theorem dX14_watchers_27 : decode cX14_watchers 27 = .ok (.iload 4, 2) := dk_21 4 (dk_at dksX14_watchers_1 3 rfl rfl)
theorem dX14_watchers_29 : decode cX14_watchers 29 = .ok (.iload_n 3, 1) := dk_29 (dk_at dksX14_watchers_1 5 rfl rfl)
theorem dX14_watchers_30 : decode cX14_watchers 30 = .ok (.aload_n 0, 1) := dk_42 (dk_at dksX14_watchers_1 6 rfl rfl)
theorem dX14_watchers_31 : decode cX14_watchers 31 = .ok (.iload 5, 2) := dk_21 5 (dk_at dksX14_watchers_1 7 rfl rfl)
theorem dX14_watchers_33 : decode cX14_watchers 33 = .ok (.iload_n 2, 1) := dk_28 (dk_at dksX14_watchers_1 9 rfl rfl)
theorem dX14_watchers_34 : decode cX14_watchers 34 = .ok (.invokevirtual 83, 3) := dk_182 0 83 (dk_at dksX14_watchers_1 10 rfl rfl)
theorem dX14_watchers_37 : decode cX14_watchers 37 = .ok (.invokestatic 61, 3) := dk_184 0 61 (dk_at dksX14_watchers_1 13 rfl rfl)
theorem dX14_watchers_40 : decode cX14_watchers 40 = .ok (.ifCond .eq 10, 3) := dk_153 0 10 (dk_at dksX14_watchers_1 16 rfl rfl)
theorem dX14_watchers_43 : decode cX14_watchers 43 = .ok (.iconst 1, 1) := dk_4 (dk_at dksX14_watchers_1 19 rfl rfl)
theorem dX14_watchers_44 : decode cX14_watchers 44 = .ok (.iload 5, 2) := dk_21 5 (dk_at dksX14_watchers_1 20 rfl rfl)
theorem dX14_watchers_46 : decode cX14_watchers 46 = .ok (.ishl, 1) := dk_120 (dk_at dksX14_watchers_1 22 rfl rfl)
theorem dX14_watchers_47 : decode cX14_watchers 47 = .ok (.goto 4, 3) := dk_167 0 4 (dk_at dksX14_watchers_2 0 rfl rfl)
theorem dX14_watchers_50 : decode cX14_watchers 50 = .ok (.iconst 0, 1) := dk_3 (dk_at dksX14_watchers_2 3 rfl rfl)
theorem dX14_watchers_51 : decode cX14_watchers 51 = .ok (.ior, 1) := dk_128 (dk_at dksX14_watchers_2 4 rfl rfl)
theorem dX14_watchers_52 : decode cX14_watchers 52 = .ok (.istore 4, 2) := dk_54 4 (dk_at dksX14_watchers_2 5 rfl rfl)
theorem dX14_watchers_54 : decode cX14_watchers 54 = .ok (.iinc 5 1, 3) := dk_132 5 1 (dk_at dksX14_watchers_2 7 rfl rfl)
theorem dX14_watchers_57 : decode cX14_watchers 57 = .ok (.goto (-45), 3) := dk_167 255 211 (dk_at dksX14_watchers_2 10 rfl rfl)
theorem dX14_watchers_60 : decode cX14_watchers 60 = .ok (.iload 4, 2) := dk_21 4 (dk_at dksX14_watchers_2 13 rfl rfl)
theorem dX14_watchers_62 : decode cX14_watchers 62 = .ok (.ireturn, 1) := dk_172 (dk_at dksX14_watchers_2 15 rfl rfl)
abbrev cX14_onto : ByteArray := prog_9_method_6_code
def yX14_onto : MethodName := ⟨RX14, "onto", "(I)I"⟩
def dkwX14_onto_3 : List UInt8 := [128, 61, 132, 3, 1, 167, 255, 185, 28, 172]
abbrev dktX14_onto_3 : List UInt8 := dkwX14_onto_3 ++ []
def dkwX14_onto_2 : List UInt8 := [27, 160, 0, 25, 28, 4, 42, 180, 0, 15, 180, 0, 51, 29, 182, 0, 65, 192, 0, 69, 180, 0, 74, 120]
abbrev dktX14_onto_2 : List UInt8 := dkwX14_onto_2 ++ dktX14_onto_3
def dkwX14_onto_1 : List UInt8 := [29, 184, 0, 61, 154, 0, 46, 42, 180, 0, 15, 180, 0, 51, 29, 182, 0, 65, 192, 0, 69, 180, 0, 71]
abbrev dktX14_onto_1 : List UInt8 := dkwX14_onto_1 ++ dktX14_onto_2
def dkwX14_onto_0 : List UInt8 := [4, 27, 120, 61, 3, 62, 29, 42, 180, 0, 15, 180, 0, 51, 182, 0, 55, 162, 0, 63, 42, 180, 0, 19]
abbrev dktX14_onto_0 : List UInt8 := dkwX14_onto_0 ++ dktX14_onto_1
theorem dksX14_onto_0 : cX14_onto.data.toList.drop 0 = dktX14_onto_0 := by decide +kernel
theorem dksX14_onto_1 : cX14_onto.data.toList.drop 24 = dktX14_onto_1 := dk_seg dksX14_onto_0 24 rfl rfl
theorem dksX14_onto_2 : cX14_onto.data.toList.drop 48 = dktX14_onto_2 := dk_seg dksX14_onto_1 24 rfl rfl
theorem dksX14_onto_3 : cX14_onto.data.toList.drop 72 = dktX14_onto_3 := dk_seg dksX14_onto_2 24 rfl rfl
theorem dX14_onto_0 : decode cX14_onto 0 = .ok (.iconst 1, 1) := dk_4 (dk_at dksX14_onto_0 0 rfl rfl)
theorem dX14_onto_1 : decode cX14_onto 1 = .ok (.iload_n 1, 1) := dk_27 (dk_at dksX14_onto_0 1 rfl rfl)
theorem dX14_onto_2 : decode cX14_onto 2 = .ok (.ishl, 1) := dk_120 (dk_at dksX14_onto_0 2 rfl rfl)
theorem dX14_onto_3 : decode cX14_onto 3 = .ok (.istore_n 2, 1) := dk_61 (dk_at dksX14_onto_0 3 rfl rfl)
theorem dX14_onto_4 : decode cX14_onto 4 = .ok (.iconst 0, 1) := dk_3 (dk_at dksX14_onto_0 4 rfl rfl)
theorem dX14_onto_5 : decode cX14_onto 5 = .ok (.istore_n 3, 1) := dk_62 (dk_at dksX14_onto_0 5 rfl rfl)
theorem dX14_onto_6 : decode cX14_onto 6 = .ok (.iload_n 3, 1) := dk_29 (dk_at dksX14_onto_0 6 rfl rfl)
theorem dX14_onto_7 : decode cX14_onto 7 = .ok (.aload_n 0, 1) := dk_42 (dk_at dksX14_onto_0 7 rfl rfl)
theorem dX14_onto_8 : decode cX14_onto 8 = .ok (.getfield 15, 3) := dk_180 0 15 (dk_at dksX14_onto_0 8 rfl rfl)
theorem dX14_onto_11 : decode cX14_onto 11 = .ok (.getfield 51, 3) := dk_180 0 51 (dk_at dksX14_onto_0 11 rfl rfl)
theorem dX14_onto_14 : decode cX14_onto 14 = .ok (.invokevirtual 55, 3) := dk_182 0 55 (dk_at dksX14_onto_0 14 rfl rfl)
theorem dX14_onto_17 : decode cX14_onto 17 = .ok (.if_icmp .ge 63, 3) := dk_162 0 63 (dk_at dksX14_onto_0 17 rfl rfl)
theorem dX14_onto_20 : decode cX14_onto 20 = .ok (.aload_n 0, 1) := dk_42 (dk_at dksX14_onto_0 20 rfl rfl)
theorem dX14_onto_21 : decode cX14_onto 21 = .ok (.getfield 19, 3) := dk_180 0 19 (dk_at dksX14_onto_0 21 rfl rfl)
theorem dX14_onto_24 : decode cX14_onto 24 = .ok (.iload_n 3, 1) := dk_29 (dk_at dksX14_onto_1 0 rfl rfl)
theorem dX14_onto_25 : decode cX14_onto 25 = .ok (.invokestatic 61, 3) := dk_184 0 61 (dk_at dksX14_onto_1 1 rfl rfl)
theorem dX14_onto_28 : decode cX14_onto 28 = .ok (.ifCond .ne 46, 3) := dk_154 0 46 (dk_at dksX14_onto_1 4 rfl rfl)
theorem dX14_onto_31 : decode cX14_onto 31 = .ok (.aload_n 0, 1) := dk_42 (dk_at dksX14_onto_1 7 rfl rfl)
theorem dX14_onto_32 : decode cX14_onto 32 = .ok (.getfield 15, 3) := dk_180 0 15 (dk_at dksX14_onto_1 8 rfl rfl)
theorem dX14_onto_35 : decode cX14_onto 35 = .ok (.getfield 51, 3) := dk_180 0 51 (dk_at dksX14_onto_1 11 rfl rfl)
theorem dX14_onto_38 : decode cX14_onto 38 = .ok (.iload_n 3, 1) := dk_29 (dk_at dksX14_onto_1 14 rfl rfl)
theorem dX14_onto_39 : decode cX14_onto 39 = .ok (.invokevirtual 65, 3) := dk_182 0 65 (dk_at dksX14_onto_1 15 rfl rfl)
theorem dX14_onto_42 : decode cX14_onto 42 = .ok (.checkcast 69, 3) := dk_192 0 69 (dk_at dksX14_onto_1 18 rfl rfl)
theorem dX14_onto_45 : decode cX14_onto 45 = .ok (.getfield 71, 3) := dk_180 0 71 (dk_at dksX14_onto_1 21 rfl rfl)
theorem dX14_onto_48 : decode cX14_onto 48 = .ok (.iload_n 1, 1) := dk_27 (dk_at dksX14_onto_2 0 rfl rfl)
theorem dX14_onto_49 : decode cX14_onto 49 = .ok (.if_icmp .ne 25, 3) := dk_160 0 25 (dk_at dksX14_onto_2 1 rfl rfl)
theorem dX14_onto_52 : decode cX14_onto 52 = .ok (.iload_n 2, 1) := dk_28 (dk_at dksX14_onto_2 4 rfl rfl)
theorem dX14_onto_53 : decode cX14_onto 53 = .ok (.iconst 1, 1) := dk_4 (dk_at dksX14_onto_2 5 rfl rfl)
theorem dX14_onto_54 : decode cX14_onto 54 = .ok (.aload_n 0, 1) := dk_42 (dk_at dksX14_onto_2 6 rfl rfl)
theorem dX14_onto_55 : decode cX14_onto 55 = .ok (.getfield 15, 3) := dk_180 0 15 (dk_at dksX14_onto_2 7 rfl rfl)
theorem dX14_onto_58 : decode cX14_onto 58 = .ok (.getfield 51, 3) := dk_180 0 51 (dk_at dksX14_onto_2 10 rfl rfl)
theorem dX14_onto_61 : decode cX14_onto 61 = .ok (.iload_n 3, 1) := dk_29 (dk_at dksX14_onto_2 13 rfl rfl)
theorem dX14_onto_62 : decode cX14_onto 62 = .ok (.invokevirtual 65, 3) := dk_182 0 65 (dk_at dksX14_onto_2 14 rfl rfl)
theorem dX14_onto_65 : decode cX14_onto 65 = .ok (.checkcast 69, 3) := dk_192 0 69 (dk_at dksX14_onto_2 17 rfl rfl)
theorem dX14_onto_68 : decode cX14_onto 68 = .ok (.getfield 74, 3) := dk_180 0 74 (dk_at dksX14_onto_2 20 rfl rfl)
theorem dX14_onto_71 : decode cX14_onto 71 = .ok (.ishl, 1) := dk_120 (dk_at dksX14_onto_2 23 rfl rfl)
theorem dX14_onto_72 : decode cX14_onto 72 = .ok (.ior, 1) := dk_128 (dk_at dksX14_onto_3 0 rfl rfl)
theorem dX14_onto_73 : decode cX14_onto 73 = .ok (.istore_n 2, 1) := dk_61 (dk_at dksX14_onto_3 1 rfl rfl)
theorem dX14_onto_74 : decode cX14_onto 74 = .ok (.iinc 3 1, 3) := dk_132 3 1 (dk_at dksX14_onto_3 2 rfl rfl)
theorem dX14_onto_77 : decode cX14_onto 77 = .ok (.goto (-71), 3) := dk_167 255 185 (dk_at dksX14_onto_3 5 rfl rfl)
theorem dX14_onto_80 : decode cX14_onto 80 = .ok (.iload_n 2, 1) := dk_28 (dk_at dksX14_onto_3 8 rfl rfl)
theorem dX14_onto_81 : decode cX14_onto 81 = .ok (.ireturn, 1) := dk_172 (dk_at dksX14_onto_3 9 rfl rfl)
