set_option maxRecDepth 100000
abbrev cJ0_init : ByteArray := prog_46_method_1_code
def yJ0_init : MethodName := ⟨RJ0, "<init>", "()V"⟩
theorem dJ0_init_0 : decode cJ0_init 0 = .ok (.aload_n 0, 1) := by decide +kernel
theorem dJ0_init_1 : decode cJ0_init 1 = .ok (.invokespecial 1, 3) := by decide +kernel
theorem dJ0_init_4 : decode cJ0_init 4 = .ok (.return_, 1) := by decide +kernel
abbrev cJ1_init : ByteArray := prog_47_method_1_code
def yJ1_init : MethodName := ⟨RJ1, "<init>", "()V"⟩
def dkwJ1_init_0 : List UInt8 := [42, 183, 0, 1, 42, 3, 181, 0, 7, 177]
abbrev dktJ1_init_0 : List UInt8 := dkwJ1_init_0 ++ []
theorem dksJ1_init_0 : cJ1_init.data.toList.drop 0 = dktJ1_init_0 := by decide +kernel
theorem dJ1_init_0 : decode cJ1_init 0 = .ok (.aload_n 0, 1) := dk_42 (dk_at dksJ1_init_0 0 rfl rfl)
theorem dJ1_init_1 : decode cJ1_init 1 = .ok (.invokespecial 1, 3) := dk_183 0 1 (dk_at dksJ1_init_0 1 rfl rfl)
theorem dJ1_init_4 : decode cJ1_init 4 = .ok (.aload_n 0, 1) := dk_42 (dk_at dksJ1_init_0 4 rfl rfl)
theorem dJ1_init_5 : decode cJ1_init 5 = .ok (.iconst 0, 1) := dk_3 (dk_at dksJ1_init_0 5 rfl rfl)
theorem dJ1_init_6 : decode cJ1_init 6 = .ok (.putfield 7, 3) := dk_181 0 7 (dk_at dksJ1_init_0 6 rfl rfl)
theorem dJ1_init_9 : decode cJ1_init 9 = .ok (.return_, 1) := dk_177 (dk_at dksJ1_init_0 9 rfl rfl)
abbrev cJ10_newLength : ByteArray := prog_56_method_27_code
def yJ10_newLength : MethodName := ⟨RJ10, "newLength", "(III)I"⟩
def dkwJ10_newLength_1 : List UInt8 := [184, 0, 201, 172]
abbrev dktJ10_newLength_1 : List UInt8 := dkwJ10_newLength_1 ++ []
def dkwJ10_newLength_0 : List UInt8 := [26, 27, 28, 184, 0, 194, 96, 62, 3, 29, 162, 0, 11, 29, 18, 200, 163, 0, 5, 29, 172, 26, 27]
abbrev dktJ10_newLength_0 : List UInt8 := dkwJ10_newLength_0 ++ dktJ10_newLength_1
theorem dksJ10_newLength_0 : cJ10_newLength.data.toList.drop 0 = dktJ10_newLength_0 := by decide +kernel
theorem dksJ10_newLength_1 : cJ10_newLength.data.toList.drop 23 = dktJ10_newLength_1 := dk_seg dksJ10_newLength_0 23 rfl rfl
theorem dJ10_newLength_0 : decode cJ10_newLength 0 = .ok (.iload_n 0, 1) := dk_26 (dk_at dksJ10_newLength_0 0 rfl rfl)
theorem dJ10_newLength_1 : decode cJ10_newLength 1 = .ok (.iload_n 1, 1) := dk_27 (dk_at dksJ10_newLength_0 1 rfl rfl)
theorem dJ10_newLength_2 : decode cJ10_newLength 2 = .ok (.iload_n 2, 1) := dk_28 (dk_at dksJ10_newLength_0 2 rfl rfl)
theorem dJ10_newLength_3 : decode cJ10_newLength 3 = .ok (.invokestatic 194, 3) := dk_184 0 194 (dk_at dksJ10_newLength_0 3 rfl rfl)
theorem dJ10_newLength_6 : decode cJ10_newLength 6 = .ok (.iadd, 1) := dk_96 (dk_at dksJ10_newLength_0 6 rfl rfl)
theorem dJ10_newLength_7 : decode cJ10_newLength 7 = .ok (.istore_n 3, 1) := dk_62 (dk_at dksJ10_newLength_0 7 rfl rfl)
theorem dJ10_newLength_8 : decode cJ10_newLength 8 = .ok (.iconst 0, 1) := dk_3 (dk_at dksJ10_newLength_0 8 rfl rfl)
theorem dJ10_newLength_9 : decode cJ10_newLength 9 = .ok (.iload_n 3, 1) := dk_29 (dk_at dksJ10_newLength_0 9 rfl rfl)
theorem dJ10_newLength_10 : decode cJ10_newLength 10 = .ok (.if_icmp .ge 11, 3) := dk_162 0 11 (dk_at dksJ10_newLength_0 10 rfl rfl)
theorem dJ10_newLength_13 : decode cJ10_newLength 13 = .ok (.iload_n 3, 1) := dk_29 (dk_at dksJ10_newLength_0 13 rfl rfl)
theorem dJ10_newLength_14 : decode cJ10_newLength 14 = .ok (.ldc 200, 2) := dk_18 200 (dk_at dksJ10_newLength_0 14 rfl rfl)
theorem dJ10_newLength_16 : decode cJ10_newLength 16 = .ok (.if_icmp .gt 5, 3) := dk_163 0 5 (dk_at dksJ10_newLength_0 16 rfl rfl)
theorem dJ10_newLength_19 : decode cJ10_newLength 19 = .ok (.iload_n 3, 1) := dk_29 (dk_at dksJ10_newLength_0 19 rfl rfl)
theorem dJ10_newLength_20 : decode cJ10_newLength 20 = .ok (.ireturn, 1) := dk_172 (dk_at dksJ10_newLength_0 20 rfl rfl)
theorem dJ10_newLength_21 : decode cJ10_newLength 21 = .ok (.iload_n 0, 1) := dk_26 (dk_at dksJ10_newLength_0 21 rfl rfl)
theorem dJ10_newLength_22 : decode cJ10_newLength 22 = .ok (.iload_n 1, 1) := dk_27 (dk_at dksJ10_newLength_0 22 rfl rfl)
theorem dJ10_newLength_23 : decode cJ10_newLength 23 = .ok (.invokestatic 201, 3) := dk_184 0 201 (dk_at dksJ10_newLength_1 0 rfl rfl)
theorem dJ10_newLength_26 : decode cJ10_newLength 26 = .ok (.ireturn, 1) := dk_172 (dk_at dksJ10_newLength_1 3 rfl rfl)
abbrev cJ10_hugeLength : ByteArray := prog_56_method_28_code
def yJ10_hugeLength : MethodName := ⟨RJ10, "hugeLength", "(II)I"⟩
def dkwJ10_hugeLength_2 : List UInt8 := [191, 28, 18, 200, 163, 0, 6, 18, 200, 172, 28, 172]
abbrev dktJ10_hugeLength_2 : List UInt8 := dkwJ10_hugeLength_2 ++ []
def dkwJ10_hugeLength_1 : List UInt8 := [26, 182, 0, 98, 18, 208, 182, 0, 94, 27, 182, 0, 98, 18, 210, 182, 0, 94, 182, 0, 101, 183, 0, 212]
abbrev dktJ10_hugeLength_1 : List UInt8 := dkwJ10_hugeLength_1 ++ dktJ10_hugeLength_2
def dkwJ10_hugeLength_0 : List UInt8 := [26, 27, 96, 61, 28, 156, 0, 44, 187, 0, 204, 89, 187, 0, 89, 89, 183, 0, 91, 18, 206, 182, 0, 94]
abbrev dktJ10_hugeLength_0 : List UInt8 := dkwJ10_hugeLength_0 ++ dktJ10_hugeLength_1
theorem dksJ10_hugeLength_0 : cJ10_hugeLength.data.toList.drop 0 = dktJ10_hugeLength_0 := by decide +kernel
theorem dksJ10_hugeLength_1 : cJ10_hugeLength.data.toList.drop 24 = dktJ10_hugeLength_1 := dk_seg dksJ10_hugeLength_0 24 rfl rfl
theorem dksJ10_hugeLength_2 : cJ10_hugeLength.data.toList.drop 48 = dktJ10_hugeLength_2 := dk_seg dksJ10_hugeLength_1 24 rfl rfl
theorem dJ10_hugeLength_0 : decode cJ10_hugeLength 0 = .ok (.iload_n 0, 1) := dk_26 (dk_at dksJ10_hugeLength_0 0 rfl rfl)
theorem dJ10_hugeLength_1 : decode cJ10_hugeLength 1 = .ok (.iload_n 1, 1) := dk_27 (dk_at dksJ10_hugeLength_0 1 rfl rfl)
theorem dJ10_hugeLength_2 : decode cJ10_hugeLength 2 = .ok (.iadd, 1) := dk_96 (dk_at dksJ10_hugeLength_0 2 rfl rfl)
theorem dJ10_hugeLength_3 : decode cJ10_hugeLength 3 = .ok (.istore_n 2, 1) := dk_61 (dk_at dksJ10_hugeLength_0 3 rfl rfl)
theorem dJ10_hugeLength_4 : decode cJ10_hugeLength 4 = .ok (.iload_n 2, 1) := dk_28 (dk_at dksJ10_hugeLength_0 4 rfl rfl)
theorem dJ10_hugeLength_5 : decode cJ10_hugeLength 5 = .ok (.ifCond .ge 44, 3) := dk_156 0 44 (dk_at dksJ10_hugeLength_0 5 rfl rfl)
theorem dJ10_hugeLength_8 : decode cJ10_hugeLength 8 = .ok (.new 204, 3) := dk_187 0 204 (dk_at dksJ10_hugeLength_0 8 rfl rfl)
theorem dJ10_hugeLength_11 : decode cJ10_hugeLength 11 = .ok (.dup, 1) := dk_89 (dk_at dksJ10_hugeLength_0 11 rfl rfl)
theorem dJ10_hugeLength_12 : decode cJ10_hugeLength 12 = .ok (.new 89, 3) := dk_187 0 89 (dk_at dksJ10_hugeLength_0 12 rfl rfl)
theorem dJ10_hugeLength_15 : decode cJ10_hugeLength 15 = .ok (.dup, 1) := dk_89 (dk_at dksJ10_hugeLength_0 15 rfl rfl)
theorem dJ10_hugeLength_16 : decode cJ10_hugeLength 16 = .ok (.invokespecial 91, 3) := dk_183 0 91 (dk_at dksJ10_hugeLength_0 16 rfl rfl)
theorem dJ10_hugeLength_19 : decode cJ10_hugeLength 19 = .ok (.ldc 206, 2) := dk_18 206 (dk_at dksJ10_hugeLength_0 19 rfl rfl)
theorem dJ10_hugeLength_21 : decode cJ10_hugeLength 21 = .ok (.invokevirtual 94, 3) := dk_182 0 94 (dk_at dksJ10_hugeLength_0 21 rfl rfl)
theorem dJ10_hugeLength_24 : decode cJ10_hugeLength 24 = .ok (.iload_n 0, 1) := dk_26 (dk_at dksJ10_hugeLength_1 0 rfl rfl)
theorem dJ10_hugeLength_25 : decode cJ10_hugeLength 25 = .ok (.invokevirtual 98, 3) := dk_182 0 98 (dk_at dksJ10_hugeLength_1 1 rfl rfl)
theorem dJ10_hugeLength_28 : decode cJ10_hugeLength 28 = .ok (.ldc 208, 2) := dk_18 208 (dk_at dksJ10_hugeLength_1 4 rfl rfl)
theorem dJ10_hugeLength_30 : decode cJ10_hugeLength 30 = .ok (.invokevirtual 94, 3) := dk_182 0 94 (dk_at dksJ10_hugeLength_1 6 rfl rfl)
theorem dJ10_hugeLength_33 : decode cJ10_hugeLength 33 = .ok (.iload_n 1, 1) := dk_27 (dk_at dksJ10_hugeLength_1 9 rfl rfl)
theorem dJ10_hugeLength_34 : decode cJ10_hugeLength 34 = .ok (.invokevirtual 98, 3) := dk_182 0 98 (dk_at dksJ10_hugeLength_1 10 rfl rfl)
theorem dJ10_hugeLength_37 : decode cJ10_hugeLength 37 = .ok (.ldc 210, 2) := dk_18 210 (dk_at dksJ10_hugeLength_1 13 rfl rfl)
theorem dJ10_hugeLength_39 : decode cJ10_hugeLength 39 = .ok (.invokevirtual 94, 3) := dk_182 0 94 (dk_at dksJ10_hugeLength_1 15 rfl rfl)
theorem dJ10_hugeLength_42 : decode cJ10_hugeLength 42 = .ok (.invokevirtual 101, 3) := dk_182 0 101 (dk_at dksJ10_hugeLength_1 18 rfl rfl)
theorem dJ10_hugeLength_45 : decode cJ10_hugeLength 45 = .ok (.invokespecial 212, 3) := dk_183 0 212 (dk_at dksJ10_hugeLength_1 21 rfl rfl)
theorem dJ10_hugeLength_48 : decode cJ10_hugeLength 48 = .ok (.athrow, 1) := dk_191 (dk_at dksJ10_hugeLength_2 0 rfl rfl)
theorem dJ10_hugeLength_49 : decode cJ10_hugeLength 49 = .ok (.iload_n 2, 1) := dk_28 (dk_at dksJ10_hugeLength_2 1 rfl rfl)
theorem dJ10_hugeLength_50 : decode cJ10_hugeLength 50 = .ok (.ldc 200, 2) := dk_18 200 (dk_at dksJ10_hugeLength_2 2 rfl rfl)
theorem dJ10_hugeLength_52 : decode cJ10_hugeLength 52 = .ok (.if_icmp .gt 6, 3) := dk_163 0 6 (dk_at dksJ10_hugeLength_2 4 rfl rfl)
theorem dJ10_hugeLength_55 : decode cJ10_hugeLength 55 = .ok (.ldc 200, 2) := dk_18 200 (dk_at dksJ10_hugeLength_2 7 rfl rfl)
theorem dJ10_hugeLength_57 : decode cJ10_hugeLength 57 = .ok (.ireturn, 1) := dk_172 (dk_at dksJ10_hugeLength_2 9 rfl rfl)
theorem dJ10_hugeLength_58 : decode cJ10_hugeLength 58 = .ok (.iload_n 2, 1) := dk_28 (dk_at dksJ10_hugeLength_2 10 rfl rfl)
theorem dJ10_hugeLength_59 : decode cJ10_hugeLength 59 = .ok (.ireturn, 1) := dk_172 (dk_at dksJ10_hugeLength_2 11 rfl rfl)
abbrev cJ12_canEncode : ByteArray := prog_40_method_3_code
def yJ12_canEncode : MethodName := ⟨RJ12, "canEncode", "(C)Z"⟩
def dkwJ12_canEncode_0 : List UInt8 := [26, 17, 0, 255, 163, 0, 7, 4, 167, 0, 4, 3, 172]
abbrev dktJ12_canEncode_0 : List UInt8 := dkwJ12_canEncode_0 ++ []
theorem dksJ12_canEncode_0 : cJ12_canEncode.data.toList.drop 0 = dktJ12_canEncode_0 := by decide +kernel
theorem dJ12_canEncode_0 : decode cJ12_canEncode 0 = .ok (.iload_n 0, 1) := dk_26 (dk_at dksJ12_canEncode_0 0 rfl rfl)
theorem dJ12_canEncode_1 : decode cJ12_canEncode 1 = .ok (.sipush 255, 3) := dk_17 0 255 (dk_at dksJ12_canEncode_0 1 rfl rfl)
theorem dJ12_canEncode_4 : decode cJ12_canEncode 4 = .ok (.if_icmp .gt 7, 3) := dk_163 0 7 (dk_at dksJ12_canEncode_0 4 rfl rfl)
theorem dJ12_canEncode_7 : decode cJ12_canEncode 7 = .ok (.iconst 1, 1) := dk_4 (dk_at dksJ12_canEncode_0 7 rfl rfl)
theorem dJ12_canEncode_8 : decode cJ12_canEncode 8 = .ok (.goto 4, 3) := dk_167 0 4 (dk_at dksJ12_canEncode_0 8 rfl rfl)
theorem dJ12_canEncode_11 : decode cJ12_canEncode 11 = .ok (.iconst 0, 1) := dk_3 (dk_at dksJ12_canEncode_0 11 rfl rfl)
theorem dJ12_canEncode_12 : decode cJ12_canEncode 12 = .ok (.ireturn, 1) := dk_172 (dk_at dksJ12_canEncode_0 12 rfl rfl)
abbrev cJ12_inflate : ByteArray := prog_40_method_50_code
def yJ12_inflate : MethodName := ⟨RJ12, "inflate", "([BI[BII)V"⟩
def dkwJ12_inflate_0 : List UInt8 := [42, 27, 44, 29, 21, 4, 184, 0, 240, 177]
abbrev dktJ12_inflate_0 : List UInt8 := dkwJ12_inflate_0 ++ []
theorem dksJ12_inflate_0 : cJ12_inflate.data.toList.drop 0 = dktJ12_inflate_0 := by decide +kernel
theorem dJ12_inflate_0 : decode cJ12_inflate 0 = .ok (.aload_n 0, 1) := dk_42 (dk_at dksJ12_inflate_0 0 rfl rfl)
theorem dJ12_inflate_1 : decode cJ12_inflate 1 = .ok (.iload_n 1, 1) := dk_27 (dk_at dksJ12_inflate_0 1 rfl rfl)
theorem dJ12_inflate_2 : decode cJ12_inflate 2 = .ok (.aload_n 2, 1) := dk_44 (dk_at dksJ12_inflate_0 2 rfl rfl)
theorem dJ12_inflate_3 : decode cJ12_inflate 3 = .ok (.iload_n 3, 1) := dk_29 (dk_at dksJ12_inflate_0 3 rfl rfl)
theorem dJ12_inflate_4 : decode cJ12_inflate 4 = .ok (.iload 4, 2) := dk_21 4 (dk_at dksJ12_inflate_0 4 rfl rfl)
theorem dJ12_inflate_6 : decode cJ12_inflate 6 = .ok (.invokestatic 240, 3) := dk_184 0 240 (dk_at dksJ12_inflate_0 6 rfl rfl)
theorem dJ12_inflate_9 : decode cJ12_inflate 9 = .ok (.return_, 1) := dk_177 (dk_at dksJ12_inflate_0 9 rfl rfl)
abbrev cJ12_equals : ByteArray := prog_40_method_13_code
def yJ12_equals : MethodName := ⟨RJ12, "equals", "([B[B)Z"⟩
def dkwJ12_equals_1 : List UInt8 := [3, 172, 132, 2, 1, 167, 255, 236, 4, 172, 3, 172]
abbrev dktJ12_equals_1 : List UInt8 := dkwJ12_equals_1 ++ []
def dkwJ12_equals_0 : List UInt8 := [42, 190, 43, 190, 160, 0, 30, 3, 61, 28, 42, 190, 162, 0, 20, 42, 28, 51, 43, 28, 51, 159, 0, 5]
abbrev dktJ12_equals_0 : List UInt8 := dkwJ12_equals_0 ++ dktJ12_equals_1
theorem dksJ12_equals_0 : cJ12_equals.data.toList.drop 0 = dktJ12_equals_0 := by decide +kernel
theorem dksJ12_equals_1 : cJ12_equals.data.toList.drop 24 = dktJ12_equals_1 := dk_seg dksJ12_equals_0 24 rfl rfl
theorem dJ12_equals_0 : decode cJ12_equals 0 = .ok (.aload_n 0, 1) := dk_42 (dk_at dksJ12_equals_0 0 rfl rfl)
theorem dJ12_equals_1 : decode cJ12_equals 1 = .ok (.arraylength, 1) := dk_190 (dk_at dksJ12_equals_0 1 rfl rfl)
theorem dJ12_equals_2 : decode cJ12_equals 2 = .ok (.aload_n 1, 1) := dk_43 (dk_at dksJ12_equals_0 2 rfl rfl)
theorem dJ12_equals_3 : decode cJ12_equals 3 = .ok (.arraylength, 1) := dk_190 (dk_at dksJ12_equals_0 3 rfl rfl)
theorem dJ12_equals_4 : decode cJ12_equals 4 = .ok (.if_icmp .ne 30, 3) := dk_160 0 30 (dk_at dksJ12_equals_0 4 rfl rfl)
theorem dJ12_equals_7 : decode cJ12_equals 7 = .ok (.iconst 0, 1) := dk_3 (dk_at dksJ12_equals_0 7 rfl rfl)
theorem dJ12_equals_8 : decode cJ12_equals 8 = .ok (.istore_n 2, 1) := dk_61 (dk_at dksJ12_equals_0 8 rfl rfl)
theorem dJ12_equals_9 : decode cJ12_equals 9 = .ok (.iload_n 2, 1) := dk_28 (dk_at dksJ12_equals_0 9 rfl rfl)
theorem dJ12_equals_10 : decode cJ12_equals 10 = .ok (.aload_n 0, 1) := dk_42 (dk_at dksJ12_equals_0 10 rfl rfl)
theorem dJ12_equals_11 : decode cJ12_equals 11 = .ok (.arraylength, 1) := dk_190 (dk_at dksJ12_equals_0 11 rfl rfl)
theorem dJ12_equals_12 : decode cJ12_equals 12 = .ok (.if_icmp .ge 20, 3) := dk_162 0 20 (dk_at dksJ12_equals_0 12 rfl rfl)
theorem dJ12_equals_15 : decode cJ12_equals 15 = .ok (.aload_n 0, 1) := dk_42 (dk_at dksJ12_equals_0 15 rfl rfl)
theorem dJ12_equals_16 : decode cJ12_equals 16 = .ok (.iload_n 2, 1) := dk_28 (dk_at dksJ12_equals_0 16 rfl rfl)
theorem dJ12_equals_17 : decode cJ12_equals 17 = .ok (.baload, 1) := dk_51 (dk_at dksJ12_equals_0 17 rfl rfl)
theorem dJ12_equals_18 : decode cJ12_equals 18 = .ok (.aload_n 1, 1) := dk_43 (dk_at dksJ12_equals_0 18 rfl rfl)
theorem dJ12_equals_19 : decode cJ12_equals 19 = .ok (.iload_n 2, 1) := dk_28 (dk_at dksJ12_equals_0 19 rfl rfl)
theorem dJ12_equals_20 : decode cJ12_equals 20 = .ok (.baload, 1) := dk_51 (dk_at dksJ12_equals_0 20 rfl rfl)
theorem dJ12_equals_21 : decode cJ12_equals 21 = .ok (.if_icmp .eq 5, 3) := dk_159 0 5 (dk_at dksJ12_equals_0 21 rfl rfl)
theorem dJ12_equals_24 : decode cJ12_equals 24 = .ok (.iconst 0, 1) := dk_3 (dk_at dksJ12_equals_1 0 rfl rfl)
theorem dJ12_equals_25 : decode cJ12_equals 25 = .ok (.ireturn, 1) := dk_172 (dk_at dksJ12_equals_1 1 rfl rfl)
theorem dJ12_equals_26 : decode cJ12_equals 26 = .ok (.iinc 2 1, 3) := dk_132 2 1 (dk_at dksJ12_equals_1 2 rfl rfl)
theorem dJ12_equals_29 : decode cJ12_equals 29 = .ok (.goto (-20), 3) := dk_167 255 236 (dk_at dksJ12_equals_1 5 rfl rfl)
theorem dJ12_equals_32 : decode cJ12_equals 32 = .ok (.iconst 1, 1) := dk_4 (dk_at dksJ12_equals_1 8 rfl rfl)
theorem dJ12_equals_33 : decode cJ12_equals 33 = .ok (.ireturn, 1) := dk_172 (dk_at dksJ12_equals_1 9 rfl rfl)
theorem dJ12_equals_34 : decode cJ12_equals 34 = .ok (.iconst 0, 1) := dk_3 (dk_at dksJ12_equals_1 10 rfl rfl)
theorem dJ12_equals_35 : decode cJ12_equals 35 = .ok (.ireturn, 1) := dk_172 (dk_at dksJ12_equals_1 11 rfl rfl)
abbrev cJ12_indexOf : ByteArray := prog_40_method_24_code
def yJ12_indexOf : MethodName := ⟨RJ12, "indexOf", "([B[B)I"⟩
def dkwJ12_indexOf_1 : List UInt8 := [172]
abbrev dktJ12_indexOf_1 : List UInt8 := dkwJ12_indexOf_1 ++ []
def dkwJ12_indexOf_0 : List UInt8 := [43, 190, 154, 0, 5, 3, 172, 42, 190, 154, 0, 5, 2, 172, 42, 42, 190, 43, 43, 190, 3, 184, 0, 99]
abbrev dktJ12_indexOf_0 : List UInt8 := dkwJ12_indexOf_0 ++ dktJ12_indexOf_1
theorem dksJ12_indexOf_0 : cJ12_indexOf.data.toList.drop 0 = dktJ12_indexOf_0 := by decide +kernel
theorem dksJ12_indexOf_1 : cJ12_indexOf.data.toList.drop 24 = dktJ12_indexOf_1 := dk_seg dksJ12_indexOf_0 24 rfl rfl
theorem dJ12_indexOf_0 : decode cJ12_indexOf 0 = .ok (.aload_n 1, 1) := dk_43 (dk_at dksJ12_indexOf_0 0 rfl rfl)
theorem dJ12_indexOf_1 : decode cJ12_indexOf 1 = .ok (.arraylength, 1) := dk_190 (dk_at dksJ12_indexOf_0 1 rfl rfl)
theorem dJ12_indexOf_2 : decode cJ12_indexOf 2 = .ok (.ifCond .ne 5, 3) := dk_154 0 5 (dk_at dksJ12_indexOf_0 2 rfl rfl)
theorem dJ12_indexOf_5 : decode cJ12_indexOf 5 = .ok (.iconst 0, 1) := dk_3 (dk_at dksJ12_indexOf_0 5 rfl rfl)
theorem dJ12_indexOf_6 : decode cJ12_indexOf 6 = .ok (.ireturn, 1) := dk_172 (dk_at dksJ12_indexOf_0 6 rfl rfl)
theorem dJ12_indexOf_7 : decode cJ12_indexOf 7 = .ok (.aload_n 0, 1) := dk_42 (dk_at dksJ12_indexOf_0 7 rfl rfl)
theorem dJ12_indexOf_8 : decode cJ12_indexOf 8 = .ok (.arraylength, 1) := dk_190 (dk_at dksJ12_indexOf_0 8 rfl rfl)
theorem dJ12_indexOf_9 : decode cJ12_indexOf 9 = .ok (.ifCond .ne 5, 3) := dk_154 0 5 (dk_at dksJ12_indexOf_0 9 rfl rfl)
theorem dJ12_indexOf_12 : decode cJ12_indexOf 12 = .ok (.iconst (-1), 1) := dk_2 (dk_at dksJ12_indexOf_0 12 rfl rfl)
theorem dJ12_indexOf_13 : decode cJ12_indexOf 13 = .ok (.ireturn, 1) := dk_172 (dk_at dksJ12_indexOf_0 13 rfl rfl)
theorem dJ12_indexOf_14 : decode cJ12_indexOf 14 = .ok (.aload_n 0, 1) := dk_42 (dk_at dksJ12_indexOf_0 14 rfl rfl)
theorem dJ12_indexOf_15 : decode cJ12_indexOf 15 = .ok (.aload_n 0, 1) := dk_42 (dk_at dksJ12_indexOf_0 15 rfl rfl)
theorem dJ12_indexOf_16 : decode cJ12_indexOf 16 = .ok (.arraylength, 1) := dk_190 (dk_at dksJ12_indexOf_0 16 rfl rfl)
theorem dJ12_indexOf_17 : decode cJ12_indexOf 17 = .ok (.aload_n 1, 1) := dk_43 (dk_at dksJ12_indexOf_0 17 rfl rfl)
theorem dJ12_indexOf_18 : decode cJ12_indexOf 18 = .ok (.aload_n 1, 1) := dk_43 (dk_at dksJ12_indexOf_0 18 rfl rfl)
theorem dJ12_indexOf_19 : decode cJ12_indexOf 19 = .ok (.arraylength, 1) := dk_190 (dk_at dksJ12_indexOf_0 19 rfl rfl)
theorem dJ12_indexOf_20 : decode cJ12_indexOf 20 = .ok (.iconst 0, 1) := dk_3 (dk_at dksJ12_indexOf_0 20 rfl rfl)
theorem dJ12_indexOf_21 : decode cJ12_indexOf 21 = .ok (.invokestatic 99, 3) := dk_184 0 99 (dk_at dksJ12_indexOf_0 21 rfl rfl)
theorem dJ12_indexOf_24 : decode cJ12_indexOf 24 = .ok (.ireturn, 1) := dk_172 (dk_at dksJ12_indexOf_1 0 rfl rfl)
abbrev cJ12_indexOf_2 : ByteArray := prog_40_method_25_code
def yJ12_indexOf_2 : MethodName := ⟨RJ12, "indexOf", "([BI[BII)I"⟩
def dkwJ12_indexOf_2_5 : List UInt8 := [167, 255, 154, 2, 172]
abbrev dktJ12_indexOf_2_5 : List UInt8 := dkwJ12_indexOf_2_5 ++ []
def dkwJ12_indexOf_2_4 : List UInt8 := [132, 8, 1, 132, 10, 1, 167, 255, 232, 21, 8, 21, 9, 160, 0, 6, 21, 7, 172, 132, 7, 1]
abbrev dktJ12_indexOf_2_4 : List UInt8 := dkwJ12_indexOf_2_4 ++ dktJ12_indexOf_2_5
def dkwJ12_indexOf_2_3 : List UInt8 := [100, 54, 9, 4, 54, 10, 21, 8, 21, 9, 162, 0, 23, 42, 21, 8, 51, 44, 21, 10, 51, 160, 0, 12]
abbrev dktJ12_indexOf_2_3 : List UInt8 := dkwJ12_indexOf_2_3 ++ dktJ12_indexOf_2_4
def dkwJ12_indexOf_2_2 : List UInt8 := [159, 0, 6, 167, 255, 237, 21, 7, 21, 6, 163, 0, 57, 21, 7, 4, 96, 54, 8, 21, 8, 29, 96, 4]
abbrev dktJ12_indexOf_2_2 : List UInt8 := dkwJ12_indexOf_2_2 ++ dktJ12_indexOf_2_3
def dkwJ12_indexOf_2_1 : List UInt8 := [51, 21, 5, 159, 0, 25, 132, 7, 1, 21, 7, 21, 6, 163, 0, 15, 42, 21, 7, 51, 21, 5]
abbrev dktJ12_indexOf_2_1 : List UInt8 := dkwJ12_indexOf_2_1 ++ dktJ12_indexOf_2_2
def dkwJ12_indexOf_2_0 : List UInt8 := [44, 3, 51, 54, 5, 27, 29, 100, 54, 6, 21, 4, 54, 7, 21, 7, 21, 6, 163, 0, 101, 42, 21, 7]
abbrev dktJ12_indexOf_2_0 : List UInt8 := dkwJ12_indexOf_2_0 ++ dktJ12_indexOf_2_1
theorem dksJ12_indexOf_2_0 : cJ12_indexOf_2.data.toList.drop 0 = dktJ12_indexOf_2_0 := by decide +kernel
theorem dksJ12_indexOf_2_1 : cJ12_indexOf_2.data.toList.drop 24 = dktJ12_indexOf_2_1 := dk_seg dksJ12_indexOf_2_0 24 rfl rfl
theorem dksJ12_indexOf_2_2 : cJ12_indexOf_2.data.toList.drop 46 = dktJ12_indexOf_2_2 := dk_seg dksJ12_indexOf_2_1 22 rfl rfl
theorem dksJ12_indexOf_2_3 : cJ12_indexOf_2.data.toList.drop 70 = dktJ12_indexOf_2_3 := dk_seg dksJ12_indexOf_2_2 24 rfl rfl
theorem dksJ12_indexOf_2_4 : cJ12_indexOf_2.data.toList.drop 94 = dktJ12_indexOf_2_4 := dk_seg dksJ12_indexOf_2_3 24 rfl rfl
theorem dksJ12_indexOf_2_5 : cJ12_indexOf_2.data.toList.drop 116 = dktJ12_indexOf_2_5 := dk_seg dksJ12_indexOf_2_4 22 rfl rfl
theorem dJ12_indexOf_2_0 : decode cJ12_indexOf_2 0 = .ok (.aload_n 2, 1) := dk_44 (dk_at dksJ12_indexOf_2_0 0 rfl rfl)
theorem dJ12_indexOf_2_1 : decode cJ12_indexOf_2 1 = .ok (.iconst 0, 1) := dk_3 (dk_at dksJ12_indexOf_2_0 1 rfl rfl)
theorem dJ12_indexOf_2_2 : decode cJ12_indexOf_2 2 = .ok (.baload, 1) := dk_51 (dk_at dksJ12_indexOf_2_0 2 rfl rfl)
theorem dJ12_indexOf_2_3 : decode cJ12_indexOf_2 3 = .ok (.istore 5, 2) := dk_54 5 (dk_at dksJ12_indexOf_2_0 3 rfl rfl)
theorem dJ12_indexOf_2_5 : decode cJ12_indexOf_2 5 = .ok (.iload_n 1, 1) := dk_27 (dk_at dksJ12_indexOf_2_0 5 rfl rfl)
theorem dJ12_indexOf_2_6 : decode cJ12_indexOf_2 6 = .ok (.iload_n 3, 1) := dk_29 (dk_at dksJ12_indexOf_2_0 6 rfl rfl)
theorem dJ12_indexOf_2_7 : decode cJ12_indexOf_2 7 = .ok (.isub, 1) := dk_100 (dk_at dksJ12_indexOf_2_0 7 rfl rfl)
theorem dJ12_indexOf_2_8 : decode cJ12_indexOf_2 8 = .ok (.istore 6, 2) := dk_54 6 (dk_at dksJ12_indexOf_2_0 8 rfl rfl)
theorem dJ12_indexOf_2_10 : decode cJ12_indexOf_2 10 = .ok (.iload 4, 2) := dk_21 4 (dk_at dksJ12_indexOf_2_0 10 rfl rfl)
theorem dJ12_indexOf_2_12 : decode cJ12_indexOf_2 12 = .ok (.istore 7, 2) := dk_54 7 (dk_at dksJ12_indexOf_2_0 12 rfl rfl)
theorem dJ12_indexOf_2_14 : decode cJ12_indexOf_2 14 = .ok (.iload 7, 2) := dk_21 7 (dk_at dksJ12_indexOf_2_0 14 rfl rfl)
theorem dJ12_indexOf_2_16 : decode cJ12_indexOf_2 16 = .ok (.iload 6, 2) := dk_21 6 (dk_at dksJ12_indexOf_2_0 16 rfl rfl)
theorem dJ12_indexOf_2_18 : decode cJ12_indexOf_2 18 = .ok (.if_icmp .gt 101, 3) := dk_163 0 101 (dk_at dksJ12_indexOf_2_0 18 rfl rfl)
theorem dJ12_indexOf_2_21 : decode cJ12_indexOf_2 21 = .ok (.aload_n 0, 1) := dk_42 (dk_at dksJ12_indexOf_2_0 21 rfl rfl)
theorem dJ12_indexOf_2_22 : decode cJ12_indexOf_2 22 = .ok (.iload 7, 2) := dk_21 7 (dk_at dksJ12_indexOf_2_0 22 rfl rfl)
theorem dJ12_indexOf_2_24 : decode cJ12_indexOf_2 24 = .ok (.baload, 1) := dk_51 (dk_at dksJ12_indexOf_2_1 0 rfl rfl)
theorem dJ12_indexOf_2_25 : decode cJ12_indexOf_2 25 = .ok (.iload 5, 2) := dk_21 5 (dk_at dksJ12_indexOf_2_1 1 rfl rfl)
theorem dJ12_indexOf_2_27 : decode cJ12_indexOf_2 27 = .ok (.if_icmp .eq 25, 3) := dk_159 0 25 (dk_at dksJ12_indexOf_2_1 3 rfl rfl)
theorem dJ12_indexOf_2_30 : decode cJ12_indexOf_2 30 = .ok (.iinc 7 1, 3) := dk_132 7 1 (dk_at dksJ12_indexOf_2_1 6 rfl rfl)
theorem dJ12_indexOf_2_33 : decode cJ12_indexOf_2 33 = .ok (.iload 7, 2) := dk_21 7 (dk_at dksJ12_indexOf_2_1 9 rfl rfl)
theorem dJ12_indexOf_2_35 : decode cJ12_indexOf_2 35 = .ok (.iload 6, 2) := dk_21 6 (dk_at dksJ12_indexOf_2_1 11 rfl rfl)
theorem dJ12_indexOf_2_37 : decode cJ12_indexOf_2 37 = .ok (.if_icmp .gt 15, 3) := dk_163 0 15 (dk_at dksJ12_indexOf_2_1 13 rfl rfl)
theorem dJ12_indexOf_2_40 : decode cJ12_indexOf_2 40 = .ok (.aload_n 0, 1) := dk_42 (dk_at dksJ12_indexOf_2_1 16 rfl rfl)
theorem dJ12_indexOf_2_41 : decode cJ12_indexOf_2 41 = .ok (.iload 7, 2) := dk_21 7 (dk_at dksJ12_indexOf_2_1 17 rfl rfl)
theorem dJ12_indexOf_2_43 : decode cJ12_indexOf_2 43 = .ok (.baload, 1) := dk_51 (dk_at dksJ12_indexOf_2_1 19 rfl rfl)
theorem dJ12_indexOf_2_44 : decode cJ12_indexOf_2 44 = .ok (.iload 5, 2) := dk_21 5 (dk_at dksJ12_indexOf_2_1 20 rfl rfl)
theorem dJ12_indexOf_2_46 : decode cJ12_indexOf_2 46 = .ok (.if_icmp .eq 6, 3) := dk_159 0 6 (dk_at dksJ12_indexOf_2_2 0 rfl rfl)
theorem dJ12_indexOf_2_49 : decode cJ12_indexOf_2 49 = .ok (.goto (-19), 3) := dk_167 255 237 (dk_at dksJ12_indexOf_2_2 3 rfl rfl)
theorem dJ12_indexOf_2_52 : decode cJ12_indexOf_2 52 = .ok (.iload 7, 2) := dk_21 7 (dk_at dksJ12_indexOf_2_2 6 rfl rfl)
theorem dJ12_indexOf_2_54 : decode cJ12_indexOf_2 54 = .ok (.iload 6, 2) := dk_21 6 (dk_at dksJ12_indexOf_2_2 8 rfl rfl)
theorem dJ12_indexOf_2_56 : decode cJ12_indexOf_2 56 = .ok (.if_icmp .gt 57, 3) := dk_163 0 57 (dk_at dksJ12_indexOf_2_2 10 rfl rfl)
theorem dJ12_indexOf_2_59 : decode cJ12_indexOf_2 59 = .ok (.iload 7, 2) := dk_21 7 (dk_at dksJ12_indexOf_2_2 13 rfl rfl)
theorem dJ12_indexOf_2_61 : decode cJ12_indexOf_2 61 = .ok (.iconst 1, 1) := dk_4 (dk_at dksJ12_indexOf_2_2 15 rfl rfl)
theorem dJ12_indexOf_2_62 : decode cJ12_indexOf_2 62 = .ok (.iadd, 1) := dk_96 (dk_at dksJ12_indexOf_2_2 16 rfl rfl)
theorem dJ12_indexOf_2_63 : decode cJ12_indexOf_2 63 = .ok (.istore 8, 2) := dk_54 8 (dk_at dksJ12_indexOf_2_2 17 rfl rfl)
theorem dJ12_indexOf_2_65 : decode cJ12_indexOf_2 65 = .ok (.iload 8, 2) := dk_21 8 (dk_at dksJ12_indexOf_2_2 19 rfl rfl)
theorem dJ12_indexOf_2_67 : decode cJ12_indexOf_2 67 = .ok (.iload_n 3, 1) := dk_29 (dk_at dksJ12_indexOf_2_2 21 rfl rfl)
theorem dJ12_indexOf_2_68 : decode cJ12_indexOf_2 68 = .ok (.iadd, 1) := dk_96 (dk_at dksJ12_indexOf_2_2 22 rfl rfl)
theorem dJ12_indexOf_2_69 : decode cJ12_indexOf_2 69 = .ok (.iconst 1, 1) := dk_4 (dk_at dksJ12_indexOf_2_2 23 rfl rfl)
theorem dJ12_indexOf_2_70 : decode cJ12_indexOf_2 70 = .ok (.isub, 1) := dk_100 (dk_at dksJ12_indexOf_2_3 0 rfl rfl)
theorem dJ12_indexOf_2_71 : decode cJ12_indexOf_2 71 = .ok (.istore 9, 2) := dk_54 9 (dk_at dksJ12_indexOf_2_3 1 rfl rfl)
theorem dJ12_indexOf_2_73 : decode cJ12_indexOf_2 73 = .ok (.iconst 1, 1) := dk_4 (dk_at dksJ12_indexOf_2_3 3 rfl rfl)
theorem dJ12_indexOf_2_74 : decode cJ12_indexOf_2 74 = .ok (.istore 10, 2) := dk_54 10 (dk_at dksJ12_indexOf_2_3 4 rfl rfl)
theorem dJ12_indexOf_2_76 : decode cJ12_indexOf_2 76 = .ok (.iload 8, 2) := dk_21 8 (dk_at dksJ12_indexOf_2_3 6 rfl rfl)
theorem dJ12_indexOf_2_78 : decode cJ12_indexOf_2 78 = .ok (.iload 9, 2) := dk_21 9 (dk_at dksJ12_indexOf_2_3 8 rfl rfl)
theorem dJ12_indexOf_2_80 : decode cJ12_indexOf_2 80 = .ok (.if_icmp .ge 23, 3) := dk_162 0 23 (dk_at dksJ12_indexOf_2_3 10 rfl rfl)
theorem dJ12_indexOf_2_83 : decode cJ12_indexOf_2 83 = .ok (.aload_n 0, 1) := dk_42 (dk_at dksJ12_indexOf_2_3 13 rfl rfl)
theorem dJ12_indexOf_2_84 : decode cJ12_indexOf_2 84 = .ok (.iload 8, 2) := dk_21 8 (dk_at dksJ12_indexOf_2_3 14 rfl rfl)
theorem dJ12_indexOf_2_86 : decode cJ12_indexOf_2 86 = .ok (.baload, 1) := dk_51 (dk_at dksJ12_indexOf_2_3 16 rfl rfl)
theorem dJ12_indexOf_2_87 : decode cJ12_indexOf_2 87 = .ok (.aload_n 2, 1) := dk_44 (dk_at dksJ12_indexOf_2_3 17 rfl rfl)
theorem dJ12_indexOf_2_88 : decode cJ12_indexOf_2 88 = .ok (.iload 10, 2) := dk_21 10 (dk_at dksJ12_indexOf_2_3 18 rfl rfl)
theorem dJ12_indexOf_2_90 : decode cJ12_indexOf_2 90 = .ok (.baload, 1) := dk_51 (dk_at dksJ12_indexOf_2_3 20 rfl rfl)
theorem dJ12_indexOf_2_91 : decode cJ12_indexOf_2 91 = .ok (.if_icmp .ne 12, 3) := dk_160 0 12 (dk_at dksJ12_indexOf_2_3 21 rfl rfl)
theorem dJ12_indexOf_2_94 : decode cJ12_indexOf_2 94 = .ok (.iinc 8 1, 3) := dk_132 8 1 (dk_at dksJ12_indexOf_2_4 0 rfl rfl)
theorem dJ12_indexOf_2_97 : decode cJ12_indexOf_2 97 = .ok (.iinc 10 1, 3) := dk_132 10 1 (dk_at dksJ12_indexOf_2_4 3 rfl rfl)
theorem dJ12_indexOf_2_100 : decode cJ12_indexOf_2 100 = .ok (.goto (-24), 3) := dk_167 255 232 (dk_at dksJ12_indexOf_2_4 6 rfl rfl)
theorem dJ12_indexOf_2_103 : decode cJ12_indexOf_2 103 = .ok (.iload 8, 2) := dk_21 8 (dk_at dksJ12_indexOf_2_4 9 rfl rfl)
theorem dJ12_indexOf_2_105 : decode cJ12_indexOf_2 105 = .ok (.iload 9, 2) := dk_21 9 (dk_at dksJ12_indexOf_2_4 11 rfl rfl)
theorem dJ12_indexOf_2_107 : decode cJ12_indexOf_2 107 = .ok (.if_icmp .ne 6, 3) := dk_160 0 6 (dk_at dksJ12_indexOf_2_4 13 rfl rfl)
theorem dJ12_indexOf_2_110 : decode cJ12_indexOf_2 110 = .ok (.iload 7, 2) := dk_21 7 (dk_at dksJ12_indexOf_2_4 16 rfl rfl)
theorem dJ12_indexOf_2_112 : decode cJ12_indexOf_2 112 = .ok (.ireturn, 1) := dk_172 (dk_at dksJ12_indexOf_2_4 18 rfl rfl)
theorem dJ12_indexOf_2_113 : decode cJ12_indexOf_2 113 = .ok (.iinc 7 1, 3) := dk_132 7 1 (dk_at dksJ12_indexOf_2_4 19 rfl rfl)
theorem dJ12_indexOf_2_116 : decode cJ12_indexOf_2 116 = .ok (.goto (-102), 3) := dk_167 255 154 (dk_at dksJ12_indexOf_2_5 0 rfl rfl)
theorem dJ12_indexOf_2_119 : decode cJ12_indexOf_2 119 = .ok (.iconst (-1), 1) := dk_2 (dk_at dksJ12_indexOf_2_5 3 rfl rfl)
theorem dJ12_indexOf_2_120 : decode cJ12_indexOf_2 120 = .ok (.ireturn, 1) := dk_172 (dk_at dksJ12_indexOf_2_5 4 rfl rfl)
abbrev cJ12_charAt : ByteArray := prog_40_method_2_code
def yJ12_charAt : MethodName := ⟨RJ12, "charAt", "([BI)C"⟩
def dkwJ12_charAt_0 : List UInt8 := [27, 42, 190, 184, 0, 9, 42, 27, 51, 17, 0, 255, 126, 146, 172]
abbrev dktJ12_charAt_0 : List UInt8 := dkwJ12_charAt_0 ++ []
theorem dksJ12_charAt_0 : cJ12_charAt.data.toList.drop 0 = dktJ12_charAt_0 := by decide +kernel
theorem dJ12_charAt_0 : decode cJ12_charAt 0 = .ok (.iload_n 1, 1) := dk_27 (dk_at dksJ12_charAt_0 0 rfl rfl)
theorem dJ12_charAt_1 : decode cJ12_charAt 1 = .ok (.aload_n 0, 1) := dk_42 (dk_at dksJ12_charAt_0 1 rfl rfl)
theorem dJ12_charAt_2 : decode cJ12_charAt 2 = .ok (.arraylength, 1) := dk_190 (dk_at dksJ12_charAt_0 2 rfl rfl)
theorem dJ12_charAt_3 : decode cJ12_charAt 3 = .ok (.invokestatic 9, 3) := dk_184 0 9 (dk_at dksJ12_charAt_0 3 rfl rfl)
theorem dJ12_charAt_6 : decode cJ12_charAt 6 = .ok (.aload_n 0, 1) := dk_42 (dk_at dksJ12_charAt_0 6 rfl rfl)
theorem dJ12_charAt_7 : decode cJ12_charAt 7 = .ok (.iload_n 1, 1) := dk_27 (dk_at dksJ12_charAt_0 7 rfl rfl)
theorem dJ12_charAt_8 : decode cJ12_charAt 8 = .ok (.baload, 1) := dk_51 (dk_at dksJ12_charAt_0 8 rfl rfl)
theorem dJ12_charAt_9 : decode cJ12_charAt 9 = .ok (.sipush 255, 3) := dk_17 0 255 (dk_at dksJ12_charAt_0 9 rfl rfl)
theorem dJ12_charAt_12 : decode cJ12_charAt 12 = .ok (.iand, 1) := dk_126 (dk_at dksJ12_charAt_0 12 rfl rfl)
theorem dJ12_charAt_13 : decode cJ12_charAt 13 = .ok (.i2c, 1) := dk_146 (dk_at dksJ12_charAt_0 13 rfl rfl)
theorem dJ12_charAt_14 : decode cJ12_charAt 14 = .ok (.ireturn, 1) := dk_172 (dk_at dksJ12_charAt_0 14 rfl rfl)
abbrev cJ13_init : ByteArray := prog_43_method_1_code
def yJ13_init : MethodName := ⟨RJ13, "<init>", "()V"⟩
def dkwJ13_init_1 : List UInt8 := [182, 0, 27, 87, 177]
abbrev dktJ13_init_1 : List UInt8 := dkwJ13_init_1 ++ []
def dkwJ13_init_0 : List UInt8 := [42, 183, 0, 1, 42, 42, 181, 0, 7, 42, 178, 0, 13, 181, 0, 17, 42, 178, 0, 20, 181, 0, 24, 42]
abbrev dktJ13_init_0 : List UInt8 := dkwJ13_init_0 ++ dktJ13_init_1
theorem dksJ13_init_0 : cJ13_init.data.toList.drop 0 = dktJ13_init_0 := by decide +kernel
theorem dksJ13_init_1 : cJ13_init.data.toList.drop 24 = dktJ13_init_1 := dk_seg dksJ13_init_0 24 rfl rfl
theorem dJ13_init_0 : decode cJ13_init 0 = .ok (.aload_n 0, 1) := dk_42 (dk_at dksJ13_init_0 0 rfl rfl)
theorem dJ13_init_1 : decode cJ13_init 1 = .ok (.invokespecial 1, 3) := dk_183 0 1 (dk_at dksJ13_init_0 1 rfl rfl)
theorem dJ13_init_4 : decode cJ13_init 4 = .ok (.aload_n 0, 1) := dk_42 (dk_at dksJ13_init_0 4 rfl rfl)
theorem dJ13_init_5 : decode cJ13_init 5 = .ok (.aload_n 0, 1) := dk_42 (dk_at dksJ13_init_0 5 rfl rfl)
theorem dJ13_init_6 : decode cJ13_init 6 = .ok (.putfield 7, 3) := dk_181 0 7 (dk_at dksJ13_init_0 6 rfl rfl)
theorem dJ13_init_9 : decode cJ13_init 9 = .ok (.aload_n 0, 1) := dk_42 (dk_at dksJ13_init_0 9 rfl rfl)
theorem dJ13_init_10 : decode cJ13_init 10 = .ok (.getstatic 13, 3) := dk_178 0 13 (dk_at dksJ13_init_0 10 rfl rfl)
theorem dJ13_init_13 : decode cJ13_init 13 = .ok (.putfield 17, 3) := dk_181 0 17 (dk_at dksJ13_init_0 13 rfl rfl)
theorem dJ13_init_16 : decode cJ13_init 16 = .ok (.aload_n 0, 1) := dk_42 (dk_at dksJ13_init_0 16 rfl rfl)
theorem dJ13_init_17 : decode cJ13_init 17 = .ok (.getstatic 20, 3) := dk_178 0 20 (dk_at dksJ13_init_0 17 rfl rfl)
theorem dJ13_init_20 : decode cJ13_init 20 = .ok (.putfield 24, 3) := dk_181 0 24 (dk_at dksJ13_init_0 20 rfl rfl)
theorem dJ13_init_23 : decode cJ13_init 23 = .ok (.aload_n 0, 1) := dk_42 (dk_at dksJ13_init_0 23 rfl rfl)
theorem dJ13_init_24 : decode cJ13_init 24 = .ok (.invokevirtual 27, 3) := dk_182 0 27 (dk_at dksJ13_init_1 0 rfl rfl)
theorem dJ13_init_27 : decode cJ13_init 27 = .ok (.pop, 1) := dk_87 (dk_at dksJ13_init_1 3 rfl rfl)
theorem dJ13_init_28 : decode cJ13_init 28 = .ok (.return_, 1) := dk_177 (dk_at dksJ13_init_1 4 rfl rfl)
abbrev cJ13_init_2 : ByteArray := prog_43_method_5_code
def yJ13_init_2 : MethodName := ⟨RJ13, "<init>", "(Ljava/lang/String;Ljava/lang/Throwable;ZZ)V"⟩
def dkwJ13_init_2_2 : List UInt8 := [44, 181, 0, 7, 29, 154, 0, 8, 42, 1, 181, 0, 24, 177]
abbrev dktJ13_init_2_2 : List UInt8 := dkwJ13_init_2_2 ++ []
def dkwJ13_init_2_1 : List UInt8 := [21, 4, 153, 0, 11, 42, 182, 0, 27, 87, 167, 0, 8, 42, 1, 181, 0, 17, 42, 43, 181, 0, 31, 42]
abbrev dktJ13_init_2_1 : List UInt8 := dkwJ13_init_2_1 ++ dktJ13_init_2_2
def dkwJ13_init_2_0 : List UInt8 := [42, 183, 0, 1, 42, 42, 181, 0, 7, 42, 178, 0, 13, 181, 0, 17, 42, 178, 0, 20, 181, 0, 24]
abbrev dktJ13_init_2_0 : List UInt8 := dkwJ13_init_2_0 ++ dktJ13_init_2_1
theorem dksJ13_init_2_0 : cJ13_init_2.data.toList.drop 0 = dktJ13_init_2_0 := by decide +kernel
theorem dksJ13_init_2_1 : cJ13_init_2.data.toList.drop 23 = dktJ13_init_2_1 := dk_seg dksJ13_init_2_0 23 rfl rfl
theorem dksJ13_init_2_2 : cJ13_init_2.data.toList.drop 47 = dktJ13_init_2_2 := dk_seg dksJ13_init_2_1 24 rfl rfl
theorem dJ13_init_2_0 : decode cJ13_init_2 0 = .ok (.aload_n 0, 1) := dk_42 (dk_at dksJ13_init_2_0 0 rfl rfl)
theorem dJ13_init_2_1 : decode cJ13_init_2 1 = .ok (.invokespecial 1, 3) := dk_183 0 1 (dk_at dksJ13_init_2_0 1 rfl rfl)
theorem dJ13_init_2_4 : decode cJ13_init_2 4 = .ok (.aload_n 0, 1) := dk_42 (dk_at dksJ13_init_2_0 4 rfl rfl)
theorem dJ13_init_2_5 : decode cJ13_init_2 5 = .ok (.aload_n 0, 1) := dk_42 (dk_at dksJ13_init_2_0 5 rfl rfl)
theorem dJ13_init_2_6 : decode cJ13_init_2 6 = .ok (.putfield 7, 3) := dk_181 0 7 (dk_at dksJ13_init_2_0 6 rfl rfl)
theorem dJ13_init_2_9 : decode cJ13_init_2 9 = .ok (.aload_n 0, 1) := dk_42 (dk_at dksJ13_init_2_0 9 rfl rfl)
theorem dJ13_init_2_10 : decode cJ13_init_2 10 = .ok (.getstatic 13, 3) := dk_178 0 13 (dk_at dksJ13_init_2_0 10 rfl rfl)
theorem dJ13_init_2_13 : decode cJ13_init_2 13 = .ok (.putfield 17, 3) := dk_181 0 17 (dk_at dksJ13_init_2_0 13 rfl rfl)
theorem dJ13_init_2_16 : decode cJ13_init_2 16 = .ok (.aload_n 0, 1) := dk_42 (dk_at dksJ13_init_2_0 16 rfl rfl)
theorem dJ13_init_2_17 : decode cJ13_init_2 17 = .ok (.getstatic 20, 3) := dk_178 0 20 (dk_at dksJ13_init_2_0 17 rfl rfl)
theorem dJ13_init_2_20 : decode cJ13_init_2 20 = .ok (.putfield 24, 3) := dk_181 0 24 (dk_at dksJ13_init_2_0 20 rfl rfl)
theorem dJ13_init_2_23 : decode cJ13_init_2 23 = .ok (.iload 4, 2) := dk_21 4 (dk_at dksJ13_init_2_1 0 rfl rfl)
theorem dJ13_init_2_25 : decode cJ13_init_2 25 = .ok (.ifCond .eq 11, 3) := dk_153 0 11 (dk_at dksJ13_init_2_1 2 rfl rfl)
theorem dJ13_init_2_28 : decode cJ13_init_2 28 = .ok (.aload_n 0, 1) := dk_42 (dk_at dksJ13_init_2_1 5 rfl rfl)
theorem dJ13_init_2_29 : decode cJ13_init_2 29 = .ok (.invokevirtual 27, 3) := dk_182 0 27 (dk_at dksJ13_init_2_1 6 rfl rfl)
theorem dJ13_init_2_32 : decode cJ13_init_2 32 = .ok (.pop, 1) := dk_87 (dk_at dksJ13_init_2_1 9 rfl rfl)
theorem dJ13_init_2_33 : decode cJ13_init_2 33 = .ok (.goto 8, 3) := dk_167 0 8 (dk_at dksJ13_init_2_1 10 rfl rfl)
theorem dJ13_init_2_36 : decode cJ13_init_2 36 = .ok (.aload_n 0, 1) := dk_42 (dk_at dksJ13_init_2_1 13 rfl rfl)
theorem dJ13_init_2_37 : decode cJ13_init_2 37 = .ok (.aconst_null, 1) := dk_1 (dk_at dksJ13_init_2_1 14 rfl rfl)
theorem dJ13_init_2_38 : decode cJ13_init_2 38 = .ok (.putfield 17, 3) := dk_181 0 17 (dk_at dksJ13_init_2_1 15 rfl rfl)
theorem dJ13_init_2_41 : decode cJ13_init_2 41 = .ok (.aload_n 0, 1) := dk_42 (dk_at dksJ13_init_2_1 18 rfl rfl)
theorem dJ13_init_2_42 : decode cJ13_init_2 42 = .ok (.aload_n 1, 1) := dk_43 (dk_at dksJ13_init_2_1 19 rfl rfl)
theorem dJ13_init_2_43 : decode cJ13_init_2 43 = .ok (.putfield 31, 3) := dk_181 0 31 (dk_at dksJ13_init_2_1 20 rfl rfl)
theorem dJ13_init_2_46 : decode cJ13_init_2 46 = .ok (.aload_n 0, 1) := dk_42 (dk_at dksJ13_init_2_1 23 rfl rfl)
theorem dJ13_init_2_47 : decode cJ13_init_2 47 = .ok (.aload_n 2, 1) := dk_44 (dk_at dksJ13_init_2_2 0 rfl rfl)
theorem dJ13_init_2_48 : decode cJ13_init_2 48 = .ok (.putfield 7, 3) := dk_181 0 7 (dk_at dksJ13_init_2_2 1 rfl rfl)
theorem dJ13_init_2_51 : decode cJ13_init_2 51 = .ok (.iload_n 3, 1) := dk_29 (dk_at dksJ13_init_2_2 4 rfl rfl)
theorem dJ13_init_2_52 : decode cJ13_init_2 52 = .ok (.ifCond .ne 8, 3) := dk_154 0 8 (dk_at dksJ13_init_2_2 5 rfl rfl)
theorem dJ13_init_2_55 : decode cJ13_init_2 55 = .ok (.aload_n 0, 1) := dk_42 (dk_at dksJ13_init_2_2 8 rfl rfl)
theorem dJ13_init_2_56 : decode cJ13_init_2 56 = .ok (.aconst_null, 1) := dk_1 (dk_at dksJ13_init_2_2 9 rfl rfl)
theorem dJ13_init_2_57 : decode cJ13_init_2 57 = .ok (.putfield 24, 3) := dk_181 0 24 (dk_at dksJ13_init_2_2 10 rfl rfl)
theorem dJ13_init_2_60 : decode cJ13_init_2 60 = .ok (.return_, 1) := dk_177 (dk_at dksJ13_init_2_2 13 rfl rfl)
abbrev cJ14_init : ByteArray := prog_33_method_5_code
def yJ14_init : MethodName := ⟨RJ14, "<init>", "(Ljava/lang/String;Ljava/lang/Throwable;ZZ)V"⟩
def dkwJ14_init_0 : List UInt8 := [42, 43, 44, 29, 21, 4, 183, 0, 16, 177]
abbrev dktJ14_init_0 : List UInt8 := dkwJ14_init_0 ++ []
theorem dksJ14_init_0 : cJ14_init.data.toList.drop 0 = dktJ14_init_0 := by decide +kernel
theorem dJ14_init_0 : decode cJ14_init 0 = .ok (.aload_n 0, 1) := dk_42 (dk_at dksJ14_init_0 0 rfl rfl)
theorem dJ14_init_1 : decode cJ14_init 1 = .ok (.aload_n 1, 1) := dk_43 (dk_at dksJ14_init_0 1 rfl rfl)
theorem dJ14_init_2 : decode cJ14_init 2 = .ok (.aload_n 2, 1) := dk_44 (dk_at dksJ14_init_0 2 rfl rfl)
theorem dJ14_init_3 : decode cJ14_init 3 = .ok (.iload_n 3, 1) := dk_29 (dk_at dksJ14_init_0 3 rfl rfl)
theorem dJ14_init_4 : decode cJ14_init 4 = .ok (.iload 4, 2) := dk_21 4 (dk_at dksJ14_init_0 4 rfl rfl)
theorem dJ14_init_6 : decode cJ14_init 6 = .ok (.invokespecial 16, 3) := dk_183 0 16 (dk_at dksJ14_init_0 6 rfl rfl)
theorem dJ14_init_9 : decode cJ14_init 9 = .ok (.return_, 1) := dk_177 (dk_at dksJ14_init_0 9 rfl rfl)
abbrev cJ14_init_2 : ByteArray := prog_33_method_1_code
def yJ14_init_2 : MethodName := ⟨RJ14, "<init>", "()V"⟩
theorem dJ14_init_2_0 : decode cJ14_init_2 0 = .ok (.aload_n 0, 1) := by decide +kernel
theorem dJ14_init_2_1 : decode cJ14_init_2 1 = .ok (.invokespecial 1, 3) := by decide +kernel
theorem dJ14_init_2_4 : decode cJ14_init_2 4 = .ok (.return_, 1) := by decide +kernel
abbrev cJ17_bitCount : ByteArray := prog_34_method_49_code
def yJ17_bitCount : MethodName := ⟨RJ17, "bitCount", "(I)I"⟩
def dkwJ17_bitCount_2 : List UInt8 := [26, 16, 63, 126, 172]
abbrev dktJ17_bitCount_2 : List UInt8 := dkwJ17_bitCount_2 ++ []
def dkwJ17_bitCount_1 : List UInt8 := [26, 26, 7, 124, 96, 19, 1, 11, 126, 59, 26, 26, 16, 8, 124, 96, 59, 26, 26, 16, 16, 124, 96, 59]
abbrev dktJ17_bitCount_1 : List UInt8 := dkwJ17_bitCount_1 ++ dktJ17_bitCount_2
def dkwJ17_bitCount_0 : List UInt8 := [26, 26, 4, 124, 19, 1, 9, 126, 100, 59, 26, 19, 1, 10, 126, 26, 5, 124, 19, 1, 10, 126, 96, 59]
abbrev dktJ17_bitCount_0 : List UInt8 := dkwJ17_bitCount_0 ++ dktJ17_bitCount_1
theorem dksJ17_bitCount_0 : cJ17_bitCount.data.toList.drop 0 = dktJ17_bitCount_0 := by decide +kernel
theorem dksJ17_bitCount_1 : cJ17_bitCount.data.toList.drop 24 = dktJ17_bitCount_1 := dk_seg dksJ17_bitCount_0 24 rfl rfl
theorem dksJ17_bitCount_2 : cJ17_bitCount.data.toList.drop 48 = dktJ17_bitCount_2 := dk_seg dksJ17_bitCount_1 24 rfl rfl
theorem dJ17_bitCount_0 : decode cJ17_bitCount 0 = .ok (.iload_n 0, 1) := dk_26 (dk_at dksJ17_bitCount_0 0 rfl rfl)
theorem dJ17_bitCount_1 : decode cJ17_bitCount 1 = .ok (.iload_n 0, 1) := dk_26 (dk_at dksJ17_bitCount_0 1 rfl rfl)
theorem dJ17_bitCount_2 : decode cJ17_bitCount 2 = .ok (.iconst 1, 1) := dk_4 (dk_at dksJ17_bitCount_0 2 rfl rfl)
theorem dJ17_bitCount_3 : decode cJ17_bitCount 3 = .ok (.iushr, 1) := dk_124 (dk_at dksJ17_bitCount_0 3 rfl rfl)
theorem dJ17_bitCount_4 : decode cJ17_bitCount 4 = .ok (.ldc_w 265, 3) := dk_19 1 9 (dk_at dksJ17_bitCount_0 4 rfl rfl)
theorem dJ17_bitCount_7 : decode cJ17_bitCount 7 = .ok (.iand, 1) := dk_126 (dk_at dksJ17_bitCount_0 7 rfl rfl)
theorem dJ17_bitCount_8 : decode cJ17_bitCount 8 = .ok (.isub, 1) := dk_100 (dk_at dksJ17_bitCount_0 8 rfl rfl)
theorem dJ17_bitCount_9 : decode cJ17_bitCount 9 = .ok (.istore_n 0, 1) := dk_59 (dk_at dksJ17_bitCount_0 9 rfl rfl)
theorem dJ17_bitCount_10 : decode cJ17_bitCount 10 = .ok (.iload_n 0, 1) := dk_26 (dk_at dksJ17_bitCount_0 10 rfl rfl)
theorem dJ17_bitCount_11 : decode cJ17_bitCount 11 = .ok (.ldc_w 266, 3) := dk_19 1 10 (dk_at dksJ17_bitCount_0 11 rfl rfl)
theorem dJ17_bitCount_14 : decode cJ17_bitCount 14 = .ok (.iand, 1) := dk_126 (dk_at dksJ17_bitCount_0 14 rfl rfl)
theorem dJ17_bitCount_15 : decode cJ17_bitCount 15 = .ok (.iload_n 0, 1) := dk_26 (dk_at dksJ17_bitCount_0 15 rfl rfl)
theorem dJ17_bitCount_16 : decode cJ17_bitCount 16 = .ok (.iconst 2, 1) := dk_5 (dk_at dksJ17_bitCount_0 16 rfl rfl)
theorem dJ17_bitCount_17 : decode cJ17_bitCount 17 = .ok (.iushr, 1) := dk_124 (dk_at dksJ17_bitCount_0 17 rfl rfl)
theorem dJ17_bitCount_18 : decode cJ17_bitCount 18 = .ok (.ldc_w 266, 3) := dk_19 1 10 (dk_at dksJ17_bitCount_0 18 rfl rfl)
theorem dJ17_bitCount_21 : decode cJ17_bitCount 21 = .ok (.iand, 1) := dk_126 (dk_at dksJ17_bitCount_0 21 rfl rfl)
theorem dJ17_bitCount_22 : decode cJ17_bitCount 22 = .ok (.iadd, 1) := dk_96 (dk_at dksJ17_bitCount_0 22 rfl rfl)
theorem dJ17_bitCount_23 : decode cJ17_bitCount 23 = .ok (.istore_n 0, 1) := dk_59 (dk_at dksJ17_bitCount_0 23 rfl rfl)
theorem dJ17_bitCount_24 : decode cJ17_bitCount 24 = .ok (.iload_n 0, 1) := dk_26 (dk_at dksJ17_bitCount_1 0 rfl rfl)
theorem dJ17_bitCount_25 : decode cJ17_bitCount 25 = .ok (.iload_n 0, 1) := dk_26 (dk_at dksJ17_bitCount_1 1 rfl rfl)
theorem dJ17_bitCount_26 : decode cJ17_bitCount 26 = .ok (.iconst 4, 1) := dk_7 (dk_at dksJ17_bitCount_1 2 rfl rfl)
theorem dJ17_bitCount_27 : decode cJ17_bitCount 27 = .ok (.iushr, 1) := dk_124 (dk_at dksJ17_bitCount_1 3 rfl rfl)
theorem dJ17_bitCount_28 : decode cJ17_bitCount 28 = .ok (.iadd, 1) := dk_96 (dk_at dksJ17_bitCount_1 4 rfl rfl)
theorem dJ17_bitCount_29 : decode cJ17_bitCount 29 = .ok (.ldc_w 267, 3) := dk_19 1 11 (dk_at dksJ17_bitCount_1 5 rfl rfl)
theorem dJ17_bitCount_32 : decode cJ17_bitCount 32 = .ok (.iand, 1) := dk_126 (dk_at dksJ17_bitCount_1 8 rfl rfl)
theorem dJ17_bitCount_33 : decode cJ17_bitCount 33 = .ok (.istore_n 0, 1) := dk_59 (dk_at dksJ17_bitCount_1 9 rfl rfl)
theorem dJ17_bitCount_34 : decode cJ17_bitCount 34 = .ok (.iload_n 0, 1) := dk_26 (dk_at dksJ17_bitCount_1 10 rfl rfl)
theorem dJ17_bitCount_35 : decode cJ17_bitCount 35 = .ok (.iload_n 0, 1) := dk_26 (dk_at dksJ17_bitCount_1 11 rfl rfl)
theorem dJ17_bitCount_36 : decode cJ17_bitCount 36 = .ok (.bipush 8, 2) := dk_16 8 (dk_at dksJ17_bitCount_1 12 rfl rfl)
theorem dJ17_bitCount_38 : decode cJ17_bitCount 38 = .ok (.iushr, 1) := dk_124 (dk_at dksJ17_bitCount_1 14 rfl rfl)
theorem dJ17_bitCount_39 : decode cJ17_bitCount 39 = .ok (.iadd, 1) := dk_96 (dk_at dksJ17_bitCount_1 15 rfl rfl)
theorem dJ17_bitCount_40 : decode cJ17_bitCount 40 = .ok (.istore_n 0, 1) := dk_59 (dk_at dksJ17_bitCount_1 16 rfl rfl)
theorem dJ17_bitCount_41 : decode cJ17_bitCount 41 = .ok (.iload_n 0, 1) := dk_26 (dk_at dksJ17_bitCount_1 17 rfl rfl)
theorem dJ17_bitCount_42 : decode cJ17_bitCount 42 = .ok (.iload_n 0, 1) := dk_26 (dk_at dksJ17_bitCount_1 18 rfl rfl)
theorem dJ17_bitCount_43 : decode cJ17_bitCount 43 = .ok (.bipush 16, 2) := dk_16 16 (dk_at dksJ17_bitCount_1 19 rfl rfl)
theorem dJ17_bitCount_45 : decode cJ17_bitCount 45 = .ok (.iushr, 1) := dk_124 (dk_at dksJ17_bitCount_1 21 rfl rfl)
theorem dJ17_bitCount_46 : decode cJ17_bitCount 46 = .ok (.iadd, 1) := dk_96 (dk_at dksJ17_bitCount_1 22 rfl rfl)
theorem dJ17_bitCount_47 : decode cJ17_bitCount 47 = .ok (.istore_n 0, 1) := dk_59 (dk_at dksJ17_bitCount_1 23 rfl rfl)
theorem dJ17_bitCount_48 : decode cJ17_bitCount 48 = .ok (.iload_n 0, 1) := dk_26 (dk_at dksJ17_bitCount_2 0 rfl rfl)
theorem dJ17_bitCount_49 : decode cJ17_bitCount 49 = .ok (.bipush 63, 2) := dk_16 63 (dk_at dksJ17_bitCount_2 1 rfl rfl)
theorem dJ17_bitCount_51 : decode cJ17_bitCount 51 = .ok (.iand, 1) := dk_126 (dk_at dksJ17_bitCount_2 3 rfl rfl)
theorem dJ17_bitCount_52 : decode cJ17_bitCount 52 = .ok (.ireturn, 1) := dk_172 (dk_at dksJ17_bitCount_2 4 rfl rfl)
abbrev cJ2_init : ByteArray := prog_48_method_2_code
def yJ2_init : MethodName := ⟨RJ2, "<init>", "()V"⟩
def dkwJ2_init_0 : List UInt8 := [42, 183, 0, 1, 42, 178, 0, 39, 181, 0, 9, 177]
abbrev dktJ2_init_0 : List UInt8 := dkwJ2_init_0 ++ []
theorem dksJ2_init_0 : cJ2_init.data.toList.drop 0 = dktJ2_init_0 := by decide +kernel
theorem dJ2_init_0 : decode cJ2_init 0 = .ok (.aload_n 0, 1) := dk_42 (dk_at dksJ2_init_0 0 rfl rfl)
theorem dJ2_init_1 : decode cJ2_init 1 = .ok (.invokespecial 1, 3) := dk_183 0 1 (dk_at dksJ2_init_0 1 rfl rfl)
theorem dJ2_init_4 : decode cJ2_init 4 = .ok (.aload_n 0, 1) := dk_42 (dk_at dksJ2_init_0 4 rfl rfl)
theorem dJ2_init_5 : decode cJ2_init 5 = .ok (.getstatic 39, 3) := dk_178 0 39 (dk_at dksJ2_init_0 5 rfl rfl)
theorem dJ2_init_8 : decode cJ2_init 8 = .ok (.putfield 9, 3) := dk_181 0 9 (dk_at dksJ2_init_0 8 rfl rfl)
theorem dJ2_init_11 : decode cJ2_init 11 = .ok (.return_, 1) := dk_177 (dk_at dksJ2_init_0 11 rfl rfl)
abbrev cJ2_size : ByteArray := prog_48_method_8_code
def yJ2_size : MethodName := ⟨RJ2, "size", "()I"⟩
theorem dJ2_size_0 : decode cJ2_size 0 = .ok (.aload_n 0, 1) := by decide +kernel
theorem dJ2_size_1 : decode cJ2_size 1 = .ok (.getfield 48, 3) := by decide +kernel
theorem dJ2_size_4 : decode cJ2_size 4 = .ok (.ireturn, 1) := by decide +kernel
abbrev cJ2_get : ByteArray := prog_48_method_20_code
def yJ2_get : MethodName := ⟨RJ2, "get", "(I)Ljava/lang/Object;"⟩
def dkwJ2_get_0 : List UInt8 := [27, 42, 180, 0, 48, 184, 0, 118, 87, 42, 27, 182, 0, 123, 176]
abbrev dktJ2_get_0 : List UInt8 := dkwJ2_get_0 ++ []
theorem dksJ2_get_0 : cJ2_get.data.toList.drop 0 = dktJ2_get_0 := by decide +kernel
theorem dJ2_get_0 : decode cJ2_get 0 = .ok (.iload_n 1, 1) := dk_27 (dk_at dksJ2_get_0 0 rfl rfl)
theorem dJ2_get_1 : decode cJ2_get 1 = .ok (.aload_n 0, 1) := dk_42 (dk_at dksJ2_get_0 1 rfl rfl)
theorem dJ2_get_2 : decode cJ2_get 2 = .ok (.getfield 48, 3) := dk_180 0 48 (dk_at dksJ2_get_0 2 rfl rfl)
theorem dJ2_get_5 : decode cJ2_get 5 = .ok (.invokestatic 118, 3) := dk_184 0 118 (dk_at dksJ2_get_0 5 rfl rfl)
theorem dJ2_get_8 : decode cJ2_get 8 = .ok (.pop, 1) := dk_87 (dk_at dksJ2_get_0 8 rfl rfl)
theorem dJ2_get_9 : decode cJ2_get 9 = .ok (.aload_n 0, 1) := dk_42 (dk_at dksJ2_get_0 9 rfl rfl)
theorem dJ2_get_10 : decode cJ2_get 10 = .ok (.iload_n 1, 1) := dk_27 (dk_at dksJ2_get_0 10 rfl rfl)
theorem dJ2_get_11 : decode cJ2_get 11 = .ok (.invokevirtual 123, 3) := dk_182 0 123 (dk_at dksJ2_get_0 11 rfl rfl)
theorem dJ2_get_14 : decode cJ2_get 14 = .ok (.areturn, 1) := dk_176 (dk_at dksJ2_get_0 14 rfl rfl)
abbrev cJ2_elementData : ByteArray := prog_48_method_18_code
def yJ2_elementData : MethodName := ⟨RJ2, "elementData", "(I)Ljava/lang/Object;"⟩
def dkwJ2_elementData_0 : List UInt8 := [42, 180, 0, 9, 27, 50, 176]
abbrev dktJ2_elementData_0 : List UInt8 := dkwJ2_elementData_0 ++ []
theorem dksJ2_elementData_0 : cJ2_elementData.data.toList.drop 0 = dktJ2_elementData_0 := by decide +kernel
theorem dJ2_elementData_0 : decode cJ2_elementData 0 = .ok (.aload_n 0, 1) := dk_42 (dk_at dksJ2_elementData_0 0 rfl rfl)
theorem dJ2_elementData_1 : decode cJ2_elementData 1 = .ok (.getfield 9, 3) := dk_180 0 9 (dk_at dksJ2_elementData_0 1 rfl rfl)
theorem dJ2_elementData_4 : decode cJ2_elementData 4 = .ok (.iload_n 1, 1) := dk_27 (dk_at dksJ2_elementData_0 4 rfl rfl)
theorem dJ2_elementData_5 : decode cJ2_elementData 5 = .ok (.aaload, 1) := dk_50 (dk_at dksJ2_elementData_0 5 rfl rfl)
theorem dJ2_elementData_6 : decode cJ2_elementData 6 = .ok (.areturn, 1) := dk_176 (dk_at dksJ2_elementData_0 6 rfl rfl)
abbrev cJ2_add : ByteArray := prog_48_method_25_code
def yJ2_add : MethodName := ⟨RJ2, "add", "(Ljava/lang/Object;)Z"⟩
def dkwJ2_add_1 : List UInt8 := [172]
abbrev dktJ2_add_1 : List UInt8 := dkwJ2_add_1 ++ []
def dkwJ2_add_0 : List UInt8 := [42, 89, 180, 0, 63, 4, 96, 181, 0, 63, 42, 43, 42, 180, 0, 9, 42, 180, 0, 48, 182, 0, 131, 4]
abbrev dktJ2_add_0 : List UInt8 := dkwJ2_add_0 ++ dktJ2_add_1
theorem dksJ2_add_0 : cJ2_add.data.toList.drop 0 = dktJ2_add_0 := by decide +kernel
theorem dksJ2_add_1 : cJ2_add.data.toList.drop 24 = dktJ2_add_1 := dk_seg dksJ2_add_0 24 rfl rfl
theorem dJ2_add_0 : decode cJ2_add 0 = .ok (.aload_n 0, 1) := dk_42 (dk_at dksJ2_add_0 0 rfl rfl)
theorem dJ2_add_1 : decode cJ2_add 1 = .ok (.dup, 1) := dk_89 (dk_at dksJ2_add_0 1 rfl rfl)
theorem dJ2_add_2 : decode cJ2_add 2 = .ok (.getfield 63, 3) := dk_180 0 63 (dk_at dksJ2_add_0 2 rfl rfl)
theorem dJ2_add_5 : decode cJ2_add 5 = .ok (.iconst 1, 1) := dk_4 (dk_at dksJ2_add_0 5 rfl rfl)
theorem dJ2_add_6 : decode cJ2_add 6 = .ok (.iadd, 1) := dk_96 (dk_at dksJ2_add_0 6 rfl rfl)
theorem dJ2_add_7 : decode cJ2_add 7 = .ok (.putfield 63, 3) := dk_181 0 63 (dk_at dksJ2_add_0 7 rfl rfl)
theorem dJ2_add_10 : decode cJ2_add 10 = .ok (.aload_n 0, 1) := dk_42 (dk_at dksJ2_add_0 10 rfl rfl)
theorem dJ2_add_11 : decode cJ2_add 11 = .ok (.aload_n 1, 1) := dk_43 (dk_at dksJ2_add_0 11 rfl rfl)
theorem dJ2_add_12 : decode cJ2_add 12 = .ok (.aload_n 0, 1) := dk_42 (dk_at dksJ2_add_0 12 rfl rfl)
theorem dJ2_add_13 : decode cJ2_add 13 = .ok (.getfield 9, 3) := dk_180 0 9 (dk_at dksJ2_add_0 13 rfl rfl)
theorem dJ2_add_16 : decode cJ2_add 16 = .ok (.aload_n 0, 1) := dk_42 (dk_at dksJ2_add_0 16 rfl rfl)
theorem dJ2_add_17 : decode cJ2_add 17 = .ok (.getfield 48, 3) := dk_180 0 48 (dk_at dksJ2_add_0 17 rfl rfl)
theorem dJ2_add_20 : decode cJ2_add 20 = .ok (.invokevirtual 131, 3) := dk_182 0 131 (dk_at dksJ2_add_0 20 rfl rfl)
theorem dJ2_add_23 : decode cJ2_add 23 = .ok (.iconst 1, 1) := dk_4 (dk_at dksJ2_add_0 23 rfl rfl)
theorem dJ2_add_24 : decode cJ2_add 24 = .ok (.ireturn, 1) := dk_172 (dk_at dksJ2_add_1 0 rfl rfl)
abbrev cJ2_add_2 : ByteArray := prog_48_method_24_code
def yJ2_add_2 : MethodName := ⟨RJ2, "add", "(Ljava/lang/Object;[Ljava/lang/Object;I)V"⟩
def dkwJ2_add_2_0 : List UInt8 := [29, 44, 190, 160, 0, 8, 42, 182, 0, 129, 77, 44, 29, 43, 83, 42, 29, 4, 96, 181, 0, 48, 177]
abbrev dktJ2_add_2_0 : List UInt8 := dkwJ2_add_2_0 ++ []
theorem dksJ2_add_2_0 : cJ2_add_2.data.toList.drop 0 = dktJ2_add_2_0 := by decide +kernel
theorem dJ2_add_2_0 : decode cJ2_add_2 0 = .ok (.iload_n 3, 1) := dk_29 (dk_at dksJ2_add_2_0 0 rfl rfl)
theorem dJ2_add_2_1 : decode cJ2_add_2 1 = .ok (.aload_n 2, 1) := dk_44 (dk_at dksJ2_add_2_0 1 rfl rfl)
theorem dJ2_add_2_2 : decode cJ2_add_2 2 = .ok (.arraylength, 1) := dk_190 (dk_at dksJ2_add_2_0 2 rfl rfl)
theorem dJ2_add_2_3 : decode cJ2_add_2 3 = .ok (.if_icmp .ne 8, 3) := dk_160 0 8 (dk_at dksJ2_add_2_0 3 rfl rfl)
theorem dJ2_add_2_6 : decode cJ2_add_2 6 = .ok (.aload_n 0, 1) := dk_42 (dk_at dksJ2_add_2_0 6 rfl rfl)
theorem dJ2_add_2_7 : decode cJ2_add_2 7 = .ok (.invokevirtual 129, 3) := dk_182 0 129 (dk_at dksJ2_add_2_0 7 rfl rfl)
theorem dJ2_add_2_10 : decode cJ2_add_2 10 = .ok (.astore_n 2, 1) := dk_77 (dk_at dksJ2_add_2_0 10 rfl rfl)
theorem dJ2_add_2_11 : decode cJ2_add_2 11 = .ok (.aload_n 2, 1) := dk_44 (dk_at dksJ2_add_2_0 11 rfl rfl)
theorem dJ2_add_2_12 : decode cJ2_add_2 12 = .ok (.iload_n 3, 1) := dk_29 (dk_at dksJ2_add_2_0 12 rfl rfl)
theorem dJ2_add_2_13 : decode cJ2_add_2 13 = .ok (.aload_n 1, 1) := dk_43 (dk_at dksJ2_add_2_0 13 rfl rfl)
theorem dJ2_add_2_14 : decode cJ2_add_2 14 = .ok (.aastore, 1) := dk_83 (dk_at dksJ2_add_2_0 14 rfl rfl)
theorem dJ2_add_2_15 : decode cJ2_add_2 15 = .ok (.aload_n 0, 1) := dk_42 (dk_at dksJ2_add_2_0 15 rfl rfl)
theorem dJ2_add_2_16 : decode cJ2_add_2 16 = .ok (.iload_n 3, 1) := dk_29 (dk_at dksJ2_add_2_0 16 rfl rfl)
theorem dJ2_add_2_17 : decode cJ2_add_2 17 = .ok (.iconst 1, 1) := dk_4 (dk_at dksJ2_add_2_0 17 rfl rfl)
theorem dJ2_add_2_18 : decode cJ2_add_2 18 = .ok (.iadd, 1) := dk_96 (dk_at dksJ2_add_2_0 18 rfl rfl)
theorem dJ2_add_2_19 : decode cJ2_add_2 19 = .ok (.putfield 48, 3) := dk_181 0 48 (dk_at dksJ2_add_2_0 19 rfl rfl)
theorem dJ2_add_2_22 : decode cJ2_add_2 22 = .ok (.return_, 1) := dk_177 (dk_at dksJ2_add_2_0 22 rfl rfl)
abbrev cJ2_grow : ByteArray := prog_48_method_7_code
def yJ2_grow : MethodName := ⟨RJ2, "grow", "()[Ljava/lang/Object;"⟩
def dkwJ2_grow_0 : List UInt8 := [42, 42, 180, 0, 48, 4, 96, 182, 0, 69, 176]
abbrev dktJ2_grow_0 : List UInt8 := dkwJ2_grow_0 ++ []
theorem dksJ2_grow_0 : cJ2_grow.data.toList.drop 0 = dktJ2_grow_0 := by decide +kernel
theorem dJ2_grow_0 : decode cJ2_grow 0 = .ok (.aload_n 0, 1) := dk_42 (dk_at dksJ2_grow_0 0 rfl rfl)
theorem dJ2_grow_1 : decode cJ2_grow 1 = .ok (.aload_n 0, 1) := dk_42 (dk_at dksJ2_grow_0 1 rfl rfl)
theorem dJ2_grow_2 : decode cJ2_grow 2 = .ok (.getfield 48, 3) := dk_180 0 48 (dk_at dksJ2_grow_0 2 rfl rfl)
theorem dJ2_grow_5 : decode cJ2_grow 5 = .ok (.iconst 1, 1) := dk_4 (dk_at dksJ2_grow_0 5 rfl rfl)
theorem dJ2_grow_6 : decode cJ2_grow 6 = .ok (.iadd, 1) := dk_96 (dk_at dksJ2_grow_0 6 rfl rfl)
theorem dJ2_grow_7 : decode cJ2_grow 7 = .ok (.invokevirtual 69, 3) := dk_182 0 69 (dk_at dksJ2_grow_0 7 rfl rfl)
theorem dJ2_grow_10 : decode cJ2_grow 10 = .ok (.areturn, 1) := dk_176 (dk_at dksJ2_grow_0 10 rfl rfl)
abbrev cJ2_grow_2 : ByteArray := prog_48_method_6_code
def yJ2_grow_2 : MethodName := ⟨RJ2, "grow", "(I)[Ljava/lang/Object;"⟩
def dkwJ2_grow_2_2 : List UInt8 := [27, 184, 0, 79, 189, 0, 7, 90, 181, 0, 9, 176]
abbrev dktJ2_grow_2_2 : List UInt8 := dkwJ2_grow_2_2 ++ []
def dkwJ2_grow_2_1 : List UInt8 := [28, 4, 122, 184, 0, 73, 62, 42, 42, 180, 0, 9, 29, 184, 0, 66, 90, 181, 0, 9, 176, 42, 16, 10]
abbrev dktJ2_grow_2_1 : List UInt8 := dkwJ2_grow_2_1 ++ dktJ2_grow_2_2
def dkwJ2_grow_2_0 : List UInt8 := [42, 180, 0, 9, 190, 61, 28, 157, 0, 13, 42, 180, 0, 9, 178, 0, 39, 165, 0, 28, 28, 27, 28, 100]
abbrev dktJ2_grow_2_0 : List UInt8 := dkwJ2_grow_2_0 ++ dktJ2_grow_2_1
theorem dksJ2_grow_2_0 : cJ2_grow_2.data.toList.drop 0 = dktJ2_grow_2_0 := by decide +kernel
theorem dksJ2_grow_2_1 : cJ2_grow_2.data.toList.drop 24 = dktJ2_grow_2_1 := dk_seg dksJ2_grow_2_0 24 rfl rfl
theorem dksJ2_grow_2_2 : cJ2_grow_2.data.toList.drop 48 = dktJ2_grow_2_2 := dk_seg dksJ2_grow_2_1 24 rfl rfl
theorem dJ2_grow_2_0 : decode cJ2_grow_2 0 = .ok (.aload_n 0, 1) := dk_42 (dk_at dksJ2_grow_2_0 0 rfl rfl)
theorem dJ2_grow_2_1 : decode cJ2_grow_2 1 = .ok (.getfield 9, 3) := dk_180 0 9 (dk_at dksJ2_grow_2_0 1 rfl rfl)
theorem dJ2_grow_2_4 : decode cJ2_grow_2 4 = .ok (.arraylength, 1) := dk_190 (dk_at dksJ2_grow_2_0 4 rfl rfl)
theorem dJ2_grow_2_5 : decode cJ2_grow_2 5 = .ok (.istore_n 2, 1) := dk_61 (dk_at dksJ2_grow_2_0 5 rfl rfl)
theorem dJ2_grow_2_6 : decode cJ2_grow_2 6 = .ok (.iload_n 2, 1) := dk_28 (dk_at dksJ2_grow_2_0 6 rfl rfl)
theorem dJ2_grow_2_7 : decode cJ2_grow_2 7 = .ok (.ifCond .gt 13, 3) := dk_157 0 13 (dk_at dksJ2_grow_2_0 7 rfl rfl)
theorem dJ2_grow_2_10 : decode cJ2_grow_2 10 = .ok (.aload_n 0, 1) := dk_42 (dk_at dksJ2_grow_2_0 10 rfl rfl)
theorem dJ2_grow_2_11 : decode cJ2_grow_2 11 = .ok (.getfield 9, 3) := dk_180 0 9 (dk_at dksJ2_grow_2_0 11 rfl rfl)
theorem dJ2_grow_2_14 : decode cJ2_grow_2 14 = .ok (.getstatic 39, 3) := dk_178 0 39 (dk_at dksJ2_grow_2_0 14 rfl rfl)
theorem dJ2_grow_2_17 : decode cJ2_grow_2 17 = .ok (.if_acmp .eq 28, 3) := dk_165 0 28 (dk_at dksJ2_grow_2_0 17 rfl rfl)
theorem dJ2_grow_2_20 : decode cJ2_grow_2 20 = .ok (.iload_n 2, 1) := dk_28 (dk_at dksJ2_grow_2_0 20 rfl rfl)
theorem dJ2_grow_2_21 : decode cJ2_grow_2 21 = .ok (.iload_n 1, 1) := dk_27 (dk_at dksJ2_grow_2_0 21 rfl rfl)
theorem dJ2_grow_2_22 : decode cJ2_grow_2 22 = .ok (.iload_n 2, 1) := dk_28 (dk_at dksJ2_grow_2_0 22 rfl rfl)
theorem dJ2_grow_2_23 : decode cJ2_grow_2 23 = .ok (.isub, 1) := dk_100 (dk_at dksJ2_grow_2_0 23 rfl rfl)
theorem dJ2_grow_2_24 : decode cJ2_grow_2 24 = .ok (.iload_n 2, 1) := dk_28 (dk_at dksJ2_grow_2_1 0 rfl rfl)
theorem dJ2_grow_2_25 : decode cJ2_grow_2 25 = .ok (.iconst 1, 1) := dk_4 (dk_at dksJ2_grow_2_1 1 rfl rfl)
theorem dJ2_grow_2_26 : decode cJ2_grow_2 26 = .ok (.ishr, 1) := dk_122 (dk_at dksJ2_grow_2_1 2 rfl rfl)
theorem dJ2_grow_2_27 : decode cJ2_grow_2 27 = .ok (.invokestatic 73, 3) := dk_184 0 73 (dk_at dksJ2_grow_2_1 3 rfl rfl)
theorem dJ2_grow_2_30 : decode cJ2_grow_2 30 = .ok (.istore_n 3, 1) := dk_62 (dk_at dksJ2_grow_2_1 6 rfl rfl)
theorem dJ2_grow_2_31 : decode cJ2_grow_2 31 = .ok (.aload_n 0, 1) := dk_42 (dk_at dksJ2_grow_2_1 7 rfl rfl)
theorem dJ2_grow_2_32 : decode cJ2_grow_2 32 = .ok (.aload_n 0, 1) := dk_42 (dk_at dksJ2_grow_2_1 8 rfl rfl)
theorem dJ2_grow_2_33 : decode cJ2_grow_2 33 = .ok (.getfield 9, 3) := dk_180 0 9 (dk_at dksJ2_grow_2_1 9 rfl rfl)
theorem dJ2_grow_2_36 : decode cJ2_grow_2 36 = .ok (.iload_n 3, 1) := dk_29 (dk_at dksJ2_grow_2_1 12 rfl rfl)
theorem dJ2_grow_2_37 : decode cJ2_grow_2 37 = .ok (.invokestatic 66, 3) := dk_184 0 66 (dk_at dksJ2_grow_2_1 13 rfl rfl)
theorem dJ2_grow_2_40 : decode cJ2_grow_2 40 = .ok (.dup_x1, 1) := dk_90 (dk_at dksJ2_grow_2_1 16 rfl rfl)
theorem dJ2_grow_2_41 : decode cJ2_grow_2 41 = .ok (.putfield 9, 3) := dk_181 0 9 (dk_at dksJ2_grow_2_1 17 rfl rfl)
theorem dJ2_grow_2_44 : decode cJ2_grow_2 44 = .ok (.areturn, 1) := dk_176 (dk_at dksJ2_grow_2_1 20 rfl rfl)
theorem dJ2_grow_2_45 : decode cJ2_grow_2 45 = .ok (.aload_n 0, 1) := dk_42 (dk_at dksJ2_grow_2_1 21 rfl rfl)
theorem dJ2_grow_2_46 : decode cJ2_grow_2 46 = .ok (.bipush 10, 2) := dk_16 10 (dk_at dksJ2_grow_2_1 22 rfl rfl)
theorem dJ2_grow_2_48 : decode cJ2_grow_2 48 = .ok (.iload_n 1, 1) := dk_27 (dk_at dksJ2_grow_2_2 0 rfl rfl)
theorem dJ2_grow_2_49 : decode cJ2_grow_2 49 = .ok (.invokestatic 79, 3) := dk_184 0 79 (dk_at dksJ2_grow_2_2 1 rfl rfl)
theorem dJ2_grow_2_52 : decode cJ2_grow_2 52 = .ok (.anewarray 7, 3) := dk_189 0 7 (dk_at dksJ2_grow_2_2 4 rfl rfl)
theorem dJ2_grow_2_55 : decode cJ2_grow_2 55 = .ok (.dup_x1, 1) := dk_90 (dk_at dksJ2_grow_2_2 7 rfl rfl)
theorem dJ2_grow_2_56 : decode cJ2_grow_2 56 = .ok (.putfield 9, 3) := dk_181 0 9 (dk_at dksJ2_grow_2_2 8 rfl rfl)
theorem dJ2_grow_2_59 : decode cJ2_grow_2 59 = .ok (.areturn, 1) := dk_176 (dk_at dksJ2_grow_2_2 11 rfl rfl)
abbrev cJ3_fill : ByteArray := prog_49_method_103_code
def yJ3_fill : MethodName := ⟨RJ3, "fill", "([II)V"⟩
def dkwJ3_fill_0 : List UInt8 := [3, 61, 42, 190, 62, 28, 29, 162, 0, 13, 42, 28, 27, 79, 132, 2, 1, 167, 255, 244, 177]
abbrev dktJ3_fill_0 : List UInt8 := dkwJ3_fill_0 ++ []
theorem dksJ3_fill_0 : cJ3_fill.data.toList.drop 0 = dktJ3_fill_0 := by decide +kernel
theorem dJ3_fill_0 : decode cJ3_fill 0 = .ok (.iconst 0, 1) := dk_3 (dk_at dksJ3_fill_0 0 rfl rfl)
theorem dJ3_fill_1 : decode cJ3_fill 1 = .ok (.istore_n 2, 1) := dk_61 (dk_at dksJ3_fill_0 1 rfl rfl)
theorem dJ3_fill_2 : decode cJ3_fill 2 = .ok (.aload_n 0, 1) := dk_42 (dk_at dksJ3_fill_0 2 rfl rfl)
theorem dJ3_fill_3 : decode cJ3_fill 3 = .ok (.arraylength, 1) := dk_190 (dk_at dksJ3_fill_0 3 rfl rfl)
theorem dJ3_fill_4 : decode cJ3_fill 4 = .ok (.istore_n 3, 1) := dk_62 (dk_at dksJ3_fill_0 4 rfl rfl)
theorem dJ3_fill_5 : decode cJ3_fill 5 = .ok (.iload_n 2, 1) := dk_28 (dk_at dksJ3_fill_0 5 rfl rfl)
theorem dJ3_fill_6 : decode cJ3_fill 6 = .ok (.iload_n 3, 1) := dk_29 (dk_at dksJ3_fill_0 6 rfl rfl)
theorem dJ3_fill_7 : decode cJ3_fill 7 = .ok (.if_icmp .ge 13, 3) := dk_162 0 13 (dk_at dksJ3_fill_0 7 rfl rfl)
theorem dJ3_fill_10 : decode cJ3_fill 10 = .ok (.aload_n 0, 1) := dk_42 (dk_at dksJ3_fill_0 10 rfl rfl)
theorem dJ3_fill_11 : decode cJ3_fill 11 = .ok (.iload_n 2, 1) := dk_28 (dk_at dksJ3_fill_0 11 rfl rfl)
theorem dJ3_fill_12 : decode cJ3_fill 12 = .ok (.iload_n 1, 1) := dk_27 (dk_at dksJ3_fill_0 12 rfl rfl)
theorem dJ3_fill_13 : decode cJ3_fill 13 = .ok (.iastore, 1) := dk_79 (dk_at dksJ3_fill_0 13 rfl rfl)
theorem dJ3_fill_14 : decode cJ3_fill 14 = .ok (.iinc 2 1, 3) := dk_132 2 1 (dk_at dksJ3_fill_0 14 rfl rfl)
theorem dJ3_fill_17 : decode cJ3_fill 17 = .ok (.goto (-12), 3) := dk_167 255 244 (dk_at dksJ3_fill_0 17 rfl rfl)
theorem dJ3_fill_20 : decode cJ3_fill 20 = .ok (.return_, 1) := dk_177 (dk_at dksJ3_fill_0 20 rfl rfl)
abbrev cJ3_copyOf : ByteArray := prog_49_method_121_code
def yJ3_copyOf : MethodName := ⟨RJ3, "copyOf", "([BI)[B"⟩
def dkwJ3_copyOf_1 : List UInt8 := [27, 184, 1, 48, 184, 0, 150, 44, 176]
abbrev dktJ3_copyOf_1 : List UInt8 := dkwJ3_copyOf_1 ++ []
def dkwJ3_copyOf_0 : List UInt8 := [27, 42, 190, 160, 0, 11, 42, 182, 1, 54, 192, 1, 55, 176, 27, 188, 8, 77, 42, 3, 44, 3, 42, 190]
abbrev dktJ3_copyOf_0 : List UInt8 := dkwJ3_copyOf_0 ++ dktJ3_copyOf_1
theorem dksJ3_copyOf_0 : cJ3_copyOf.data.toList.drop 0 = dktJ3_copyOf_0 := by decide +kernel
theorem dksJ3_copyOf_1 : cJ3_copyOf.data.toList.drop 24 = dktJ3_copyOf_1 := dk_seg dksJ3_copyOf_0 24 rfl rfl
theorem dJ3_copyOf_0 : decode cJ3_copyOf 0 = .ok (.iload_n 1, 1) := dk_27 (dk_at dksJ3_copyOf_0 0 rfl rfl)
theorem dJ3_copyOf_1 : decode cJ3_copyOf 1 = .ok (.aload_n 0, 1) := dk_42 (dk_at dksJ3_copyOf_0 1 rfl rfl)
theorem dJ3_copyOf_2 : decode cJ3_copyOf 2 = .ok (.arraylength, 1) := dk_190 (dk_at dksJ3_copyOf_0 2 rfl rfl)
theorem dJ3_copyOf_3 : decode cJ3_copyOf 3 = .ok (.if_icmp .ne 11, 3) := dk_160 0 11 (dk_at dksJ3_copyOf_0 3 rfl rfl)
theorem dJ3_copyOf_6 : decode cJ3_copyOf 6 = .ok (.aload_n 0, 1) := dk_42 (dk_at dksJ3_copyOf_0 6 rfl rfl)
theorem dJ3_copyOf_7 : decode cJ3_copyOf 7 = .ok (.invokevirtual 310, 3) := dk_182 1 54 (dk_at dksJ3_copyOf_0 7 rfl rfl)
theorem dJ3_copyOf_10 : decode cJ3_copyOf 10 = .ok (.checkcast 311, 3) := dk_192 1 55 (dk_at dksJ3_copyOf_0 10 rfl rfl)
theorem dJ3_copyOf_13 : decode cJ3_copyOf 13 = .ok (.areturn, 1) := dk_176 (dk_at dksJ3_copyOf_0 13 rfl rfl)
theorem dJ3_copyOf_14 : decode cJ3_copyOf 14 = .ok (.iload_n 1, 1) := dk_27 (dk_at dksJ3_copyOf_0 14 rfl rfl)
theorem dJ3_copyOf_15 : decode cJ3_copyOf 15 = .ok (.newarray .byte, 2) := dk_188_8 (dk_at dksJ3_copyOf_0 15 rfl rfl)
theorem dJ3_copyOf_17 : decode cJ3_copyOf 17 = .ok (.astore_n 2, 1) := dk_77 (dk_at dksJ3_copyOf_0 17 rfl rfl)
theorem dJ3_copyOf_18 : decode cJ3_copyOf 18 = .ok (.aload_n 0, 1) := dk_42 (dk_at dksJ3_copyOf_0 18 rfl rfl)
theorem dJ3_copyOf_19 : decode cJ3_copyOf 19 = .ok (.iconst 0, 1) := dk_3 (dk_at dksJ3_copyOf_0 19 rfl rfl)
theorem dJ3_copyOf_20 : decode cJ3_copyOf 20 = .ok (.aload_n 2, 1) := dk_44 (dk_at dksJ3_copyOf_0 20 rfl rfl)
theorem dJ3_copyOf_21 : decode cJ3_copyOf 21 = .ok (.iconst 0, 1) := dk_3 (dk_at dksJ3_copyOf_0 21 rfl rfl)
theorem dJ3_copyOf_22 : decode cJ3_copyOf 22 = .ok (.aload_n 0, 1) := dk_42 (dk_at dksJ3_copyOf_0 22 rfl rfl)
theorem dJ3_copyOf_23 : decode cJ3_copyOf 23 = .ok (.arraylength, 1) := dk_190 (dk_at dksJ3_copyOf_0 23 rfl rfl)
theorem dJ3_copyOf_24 : decode cJ3_copyOf 24 = .ok (.iload_n 1, 1) := dk_27 (dk_at dksJ3_copyOf_1 0 rfl rfl)
theorem dJ3_copyOf_25 : decode cJ3_copyOf 25 = .ok (.invokestatic 304, 3) := dk_184 1 48 (dk_at dksJ3_copyOf_1 1 rfl rfl)
theorem dJ3_copyOf_28 : decode cJ3_copyOf 28 = .ok (.invokestatic 150, 3) := dk_184 0 150 (dk_at dksJ3_copyOf_1 4 rfl rfl)
theorem dJ3_copyOf_31 : decode cJ3_copyOf 31 = .ok (.aload_n 2, 1) := dk_44 (dk_at dksJ3_copyOf_1 7 rfl rfl)
theorem dJ3_copyOf_32 : decode cJ3_copyOf 32 = .ok (.areturn, 1) := dk_176 (dk_at dksJ3_copyOf_1 8 rfl rfl)
abbrev cJ3_copyOfRange : ByteArray := prog_49_method_132_code
def yJ3_copyOfRange : MethodName := ⟨RJ3, "copyOfRange", "([BII)[B"⟩
def dkwJ3_copyOfRange_1 : List UInt8 := [176]
abbrev dktJ3_copyOfRange_1 : List UInt8 := dkwJ3_copyOfRange_1 ++ []
def dkwJ3_copyOfRange_0 : List UInt8 := [27, 154, 0, 9, 28, 42, 190, 159, 0, 10, 42, 27, 28, 184, 1, 83, 176, 42, 182, 1, 54, 192, 1, 55]
abbrev dktJ3_copyOfRange_0 : List UInt8 := dkwJ3_copyOfRange_0 ++ dktJ3_copyOfRange_1
theorem dksJ3_copyOfRange_0 : cJ3_copyOfRange.data.toList.drop 0 = dktJ3_copyOfRange_0 := by decide +kernel
theorem dksJ3_copyOfRange_1 : cJ3_copyOfRange.data.toList.drop 24 = dktJ3_copyOfRange_1 := dk_seg dksJ3_copyOfRange_0 24 rfl rfl
theorem dJ3_copyOfRange_0 : decode cJ3_copyOfRange 0 = .ok (.iload_n 1, 1) := dk_27 (dk_at dksJ3_copyOfRange_0 0 rfl rfl)
theorem dJ3_copyOfRange_1 : decode cJ3_copyOfRange 1 = .ok (.ifCond .ne 9, 3) := dk_154 0 9 (dk_at dksJ3_copyOfRange_0 1 rfl rfl)
theorem dJ3_copyOfRange_4 : decode cJ3_copyOfRange 4 = .ok (.iload_n 2, 1) := dk_28 (dk_at dksJ3_copyOfRange_0 4 rfl rfl)
theorem dJ3_copyOfRange_5 : decode cJ3_copyOfRange 5 = .ok (.aload_n 0, 1) := dk_42 (dk_at dksJ3_copyOfRange_0 5 rfl rfl)
theorem dJ3_copyOfRange_6 : decode cJ3_copyOfRange 6 = .ok (.arraylength, 1) := dk_190 (dk_at dksJ3_copyOfRange_0 6 rfl rfl)
theorem dJ3_copyOfRange_7 : decode cJ3_copyOfRange 7 = .ok (.if_icmp .eq 10, 3) := dk_159 0 10 (dk_at dksJ3_copyOfRange_0 7 rfl rfl)
theorem dJ3_copyOfRange_10 : decode cJ3_copyOfRange 10 = .ok (.aload_n 0, 1) := dk_42 (dk_at dksJ3_copyOfRange_0 10 rfl rfl)
theorem dJ3_copyOfRange_11 : decode cJ3_copyOfRange 11 = .ok (.iload_n 1, 1) := dk_27 (dk_at dksJ3_copyOfRange_0 11 rfl rfl)
theorem dJ3_copyOfRange_12 : decode cJ3_copyOfRange 12 = .ok (.iload_n 2, 1) := dk_28 (dk_at dksJ3_copyOfRange_0 12 rfl rfl)
theorem dJ3_copyOfRange_13 : decode cJ3_copyOfRange 13 = .ok (.invokestatic 339, 3) := dk_184 1 83 (dk_at dksJ3_copyOfRange_0 13 rfl rfl)
theorem dJ3_copyOfRange_16 : decode cJ3_copyOfRange 16 = .ok (.areturn, 1) := dk_176 (dk_at dksJ3_copyOfRange_0 16 rfl rfl)
theorem dJ3_copyOfRange_17 : decode cJ3_copyOfRange 17 = .ok (.aload_n 0, 1) := dk_42 (dk_at dksJ3_copyOfRange_0 17 rfl rfl)
theorem dJ3_copyOfRange_18 : decode cJ3_copyOfRange 18 = .ok (.invokevirtual 310, 3) := dk_182 1 54 (dk_at dksJ3_copyOfRange_0 18 rfl rfl)
theorem dJ3_copyOfRange_21 : decode cJ3_copyOfRange 21 = .ok (.checkcast 311, 3) := dk_192 1 55 (dk_at dksJ3_copyOfRange_0 21 rfl rfl)
theorem dJ3_copyOfRange_24 : decode cJ3_copyOfRange 24 = .ok (.areturn, 1) := dk_176 (dk_at dksJ3_copyOfRange_1 0 rfl rfl)
abbrev cJ3_copyOfRangeByte : ByteArray := prog_49_method_133_code
def yJ3_copyOfRangeByte : MethodName := ⟨RJ3, "copyOfRangeByte", "([BII)[B"⟩
def dkwJ3_copyOfRangeByte_1 : List UInt8 := [184, 1, 48, 184, 0, 150, 25, 4, 176]
abbrev dktJ3_copyOfRangeByte_1 : List UInt8 := dkwJ3_copyOfRangeByte_1 ++ []
def dkwJ3_copyOfRangeByte_0 : List UInt8 := [27, 28, 184, 1, 87, 28, 27, 100, 62, 29, 188, 8, 58, 4, 42, 27, 25, 4, 3, 42, 190, 27, 100, 29]
abbrev dktJ3_copyOfRangeByte_0 : List UInt8 := dkwJ3_copyOfRangeByte_0 ++ dktJ3_copyOfRangeByte_1
theorem dksJ3_copyOfRangeByte_0 : cJ3_copyOfRangeByte.data.toList.drop 0 = dktJ3_copyOfRangeByte_0 := by decide +kernel
theorem dksJ3_copyOfRangeByte_1 : cJ3_copyOfRangeByte.data.toList.drop 24 = dktJ3_copyOfRangeByte_1 := dk_seg dksJ3_copyOfRangeByte_0 24 rfl rfl
theorem dJ3_copyOfRangeByte_0 : decode cJ3_copyOfRangeByte 0 = .ok (.iload_n 1, 1) := dk_27 (dk_at dksJ3_copyOfRangeByte_0 0 rfl rfl)
theorem dJ3_copyOfRangeByte_1 : decode cJ3_copyOfRangeByte 1 = .ok (.iload_n 2, 1) := dk_28 (dk_at dksJ3_copyOfRangeByte_0 1 rfl rfl)
theorem dJ3_copyOfRangeByte_2 : decode cJ3_copyOfRangeByte 2 = .ok (.invokestatic 343, 3) := dk_184 1 87 (dk_at dksJ3_copyOfRangeByte_0 2 rfl rfl)
theorem dJ3_copyOfRangeByte_5 : decode cJ3_copyOfRangeByte 5 = .ok (.iload_n 2, 1) := dk_28 (dk_at dksJ3_copyOfRangeByte_0 5 rfl rfl)
theorem dJ3_copyOfRangeByte_6 : decode cJ3_copyOfRangeByte 6 = .ok (.iload_n 1, 1) := dk_27 (dk_at dksJ3_copyOfRangeByte_0 6 rfl rfl)
theorem dJ3_copyOfRangeByte_7 : decode cJ3_copyOfRangeByte 7 = .ok (.isub, 1) := dk_100 (dk_at dksJ3_copyOfRangeByte_0 7 rfl rfl)
theorem dJ3_copyOfRangeByte_8 : decode cJ3_copyOfRangeByte 8 = .ok (.istore_n 3, 1) := dk_62 (dk_at dksJ3_copyOfRangeByte_0 8 rfl rfl)
theorem dJ3_copyOfRangeByte_9 : decode cJ3_copyOfRangeByte 9 = .ok (.iload_n 3, 1) := dk_29 (dk_at dksJ3_copyOfRangeByte_0 9 rfl rfl)
theorem dJ3_copyOfRangeByte_10 : decode cJ3_copyOfRangeByte 10 = .ok (.newarray .byte, 2) := dk_188_8 (dk_at dksJ3_copyOfRangeByte_0 10 rfl rfl)
theorem dJ3_copyOfRangeByte_12 : decode cJ3_copyOfRangeByte 12 = .ok (.astore 4, 2) := dk_58 4 (dk_at dksJ3_copyOfRangeByte_0 12 rfl rfl)
theorem dJ3_copyOfRangeByte_14 : decode cJ3_copyOfRangeByte 14 = .ok (.aload_n 0, 1) := dk_42 (dk_at dksJ3_copyOfRangeByte_0 14 rfl rfl)
theorem dJ3_copyOfRangeByte_15 : decode cJ3_copyOfRangeByte 15 = .ok (.iload_n 1, 1) := dk_27 (dk_at dksJ3_copyOfRangeByte_0 15 rfl rfl)
theorem dJ3_copyOfRangeByte_16 : decode cJ3_copyOfRangeByte 16 = .ok (.aload 4, 2) := dk_25 4 (dk_at dksJ3_copyOfRangeByte_0 16 rfl rfl)
theorem dJ3_copyOfRangeByte_18 : decode cJ3_copyOfRangeByte 18 = .ok (.iconst 0, 1) := dk_3 (dk_at dksJ3_copyOfRangeByte_0 18 rfl rfl)
theorem dJ3_copyOfRangeByte_19 : decode cJ3_copyOfRangeByte 19 = .ok (.aload_n 0, 1) := dk_42 (dk_at dksJ3_copyOfRangeByte_0 19 rfl rfl)
theorem dJ3_copyOfRangeByte_20 : decode cJ3_copyOfRangeByte 20 = .ok (.arraylength, 1) := dk_190 (dk_at dksJ3_copyOfRangeByte_0 20 rfl rfl)
theorem dJ3_copyOfRangeByte_21 : decode cJ3_copyOfRangeByte 21 = .ok (.iload_n 1, 1) := dk_27 (dk_at dksJ3_copyOfRangeByte_0 21 rfl rfl)
theorem dJ3_copyOfRangeByte_22 : decode cJ3_copyOfRangeByte 22 = .ok (.isub, 1) := dk_100 (dk_at dksJ3_copyOfRangeByte_0 22 rfl rfl)
theorem dJ3_copyOfRangeByte_23 : decode cJ3_copyOfRangeByte 23 = .ok (.iload_n 3, 1) := dk_29 (dk_at dksJ3_copyOfRangeByte_0 23 rfl rfl)
theorem dJ3_copyOfRangeByte_24 : decode cJ3_copyOfRangeByte 24 = .ok (.invokestatic 304, 3) := dk_184 1 48 (dk_at dksJ3_copyOfRangeByte_1 0 rfl rfl)
theorem dJ3_copyOfRangeByte_27 : decode cJ3_copyOfRangeByte 27 = .ok (.invokestatic 150, 3) := dk_184 0 150 (dk_at dksJ3_copyOfRangeByte_1 3 rfl rfl)
theorem dJ3_copyOfRangeByte_30 : decode cJ3_copyOfRangeByte 30 = .ok (.aload 4, 2) := dk_25 4 (dk_at dksJ3_copyOfRangeByte_1 6 rfl rfl)
theorem dJ3_copyOfRangeByte_32 : decode cJ3_copyOfRangeByte 32 = .ok (.areturn, 1) := dk_176 (dk_at dksJ3_copyOfRangeByte_1 8 rfl rfl)
abbrev cJ3_checkLength : ByteArray := prog_49_method_131_code
def yJ3_checkLength : MethodName := ⟨RJ3, "checkLength", "(II)V"⟩
def dkwJ3_checkLength_1 : List UInt8 := [182, 0, 50, 27, 182, 0, 54, 182, 0, 61, 183, 0, 65, 191, 177]
abbrev dktJ3_checkLength_1 : List UInt8 := dkwJ3_checkLength_1 ++ []
def dkwJ3_checkLength_0 : List UInt8 := [27, 26, 162, 0, 35, 187, 0, 43, 89, 187, 0, 45, 89, 183, 0, 47, 26, 182, 0, 54, 19, 1, 81]
abbrev dktJ3_checkLength_0 : List UInt8 := dkwJ3_checkLength_0 ++ dktJ3_checkLength_1
theorem dksJ3_checkLength_0 : cJ3_checkLength.data.toList.drop 0 = dktJ3_checkLength_0 := by decide +kernel
theorem dksJ3_checkLength_1 : cJ3_checkLength.data.toList.drop 23 = dktJ3_checkLength_1 := dk_seg dksJ3_checkLength_0 23 rfl rfl
theorem dJ3_checkLength_0 : decode cJ3_checkLength 0 = .ok (.iload_n 1, 1) := dk_27 (dk_at dksJ3_checkLength_0 0 rfl rfl)
theorem dJ3_checkLength_1 : decode cJ3_checkLength 1 = .ok (.iload_n 0, 1) := dk_26 (dk_at dksJ3_checkLength_0 1 rfl rfl)
theorem dJ3_checkLength_2 : decode cJ3_checkLength 2 = .ok (.if_icmp .ge 35, 3) := dk_162 0 35 (dk_at dksJ3_checkLength_0 2 rfl rfl)
theorem dJ3_checkLength_5 : decode cJ3_checkLength 5 = .ok (.new 43, 3) := dk_187 0 43 (dk_at dksJ3_checkLength_0 5 rfl rfl)
theorem dJ3_checkLength_8 : decode cJ3_checkLength 8 = .ok (.dup, 1) := dk_89 (dk_at dksJ3_checkLength_0 8 rfl rfl)
theorem dJ3_checkLength_9 : decode cJ3_checkLength 9 = .ok (.new 45, 3) := dk_187 0 45 (dk_at dksJ3_checkLength_0 9 rfl rfl)
theorem dJ3_checkLength_12 : decode cJ3_checkLength 12 = .ok (.dup, 1) := dk_89 (dk_at dksJ3_checkLength_0 12 rfl rfl)
theorem dJ3_checkLength_13 : decode cJ3_checkLength 13 = .ok (.invokespecial 47, 3) := dk_183 0 47 (dk_at dksJ3_checkLength_0 13 rfl rfl)
theorem dJ3_checkLength_16 : decode cJ3_checkLength 16 = .ok (.iload_n 0, 1) := dk_26 (dk_at dksJ3_checkLength_0 16 rfl rfl)
theorem dJ3_checkLength_17 : decode cJ3_checkLength 17 = .ok (.invokevirtual 54, 3) := dk_182 0 54 (dk_at dksJ3_checkLength_0 17 rfl rfl)
theorem dJ3_checkLength_20 : decode cJ3_checkLength 20 = .ok (.ldc_w 337, 3) := dk_19 1 81 (dk_at dksJ3_checkLength_0 20 rfl rfl)
theorem dJ3_checkLength_23 : decode cJ3_checkLength 23 = .ok (.invokevirtual 50, 3) := dk_182 0 50 (dk_at dksJ3_checkLength_1 0 rfl rfl)
theorem dJ3_checkLength_26 : decode cJ3_checkLength 26 = .ok (.iload_n 1, 1) := dk_27 (dk_at dksJ3_checkLength_1 3 rfl rfl)
theorem dJ3_checkLength_27 : decode cJ3_checkLength 27 = .ok (.invokevirtual 54, 3) := dk_182 0 54 (dk_at dksJ3_checkLength_1 4 rfl rfl)
theorem dJ3_checkLength_30 : decode cJ3_checkLength 30 = .ok (.invokevirtual 61, 3) := dk_182 0 61 (dk_at dksJ3_checkLength_1 7 rfl rfl)
theorem dJ3_checkLength_33 : decode cJ3_checkLength 33 = .ok (.invokespecial 65, 3) := dk_183 0 65 (dk_at dksJ3_checkLength_1 10 rfl rfl)
theorem dJ3_checkLength_36 : decode cJ3_checkLength 36 = .ok (.athrow, 1) := dk_191 (dk_at dksJ3_checkLength_1 13 rfl rfl)
theorem dJ3_checkLength_37 : decode cJ3_checkLength 37 = .ok (.return_, 1) := dk_177 (dk_at dksJ3_checkLength_1 14 rfl rfl)
abbrev cJ3_copyOf_2 : ByteArray := prog_49_method_119_code
def yJ3_copyOf_2 : MethodName := ⟨RJ3, "copyOf", "([Ljava/lang/Object;I)[Ljava/lang/Object;"⟩
def dkwJ3_copyOf_2_0 : List UInt8 := [42, 27, 42, 182, 0, 86, 184, 1, 44, 176]
abbrev dktJ3_copyOf_2_0 : List UInt8 := dkwJ3_copyOf_2_0 ++ []
theorem dksJ3_copyOf_2_0 : cJ3_copyOf_2.data.toList.drop 0 = dktJ3_copyOf_2_0 := by decide +kernel
theorem dJ3_copyOf_2_0 : decode cJ3_copyOf_2 0 = .ok (.aload_n 0, 1) := dk_42 (dk_at dksJ3_copyOf_2_0 0 rfl rfl)
theorem dJ3_copyOf_2_1 : decode cJ3_copyOf_2 1 = .ok (.iload_n 1, 1) := dk_27 (dk_at dksJ3_copyOf_2_0 1 rfl rfl)
theorem dJ3_copyOf_2_2 : decode cJ3_copyOf_2 2 = .ok (.aload_n 0, 1) := dk_42 (dk_at dksJ3_copyOf_2_0 2 rfl rfl)
theorem dJ3_copyOf_2_3 : decode cJ3_copyOf_2 3 = .ok (.invokevirtual 86, 3) := dk_182 0 86 (dk_at dksJ3_copyOf_2_0 3 rfl rfl)
theorem dJ3_copyOf_2_6 : decode cJ3_copyOf_2 6 = .ok (.invokestatic 300, 3) := dk_184 1 44 (dk_at dksJ3_copyOf_2_0 6 rfl rfl)
theorem dJ3_copyOf_2_9 : decode cJ3_copyOf_2 9 = .ok (.areturn, 1) := dk_176 (dk_at dksJ3_copyOf_2_0 9 rfl rfl)
abbrev cJ3_copyOf_3 : ByteArray := prog_49_method_120_code
def yJ3_copyOf_3 : MethodName := ⟨RJ3, "copyOf", "([Ljava/lang/Object;ILjava/lang/Class;)[Ljava/lang/Object;"⟩
def dkwJ3_copyOf_3_1 : List UInt8 := [78, 42, 3, 45, 3, 42, 190, 27, 184, 1, 48, 184, 0, 150, 45, 176]
abbrev dktJ3_copyOf_3_1 : List UInt8 := dkwJ3_copyOf_3_1 ++ []
def dkwJ3_copyOf_3_0 : List UInt8 := [44, 18, 110, 166, 0, 10, 27, 189, 0, 2, 167, 0, 14, 44, 182, 0, 90, 27, 184, 0, 95, 192, 0, 110]
abbrev dktJ3_copyOf_3_0 : List UInt8 := dkwJ3_copyOf_3_0 ++ dktJ3_copyOf_3_1
theorem dksJ3_copyOf_3_0 : cJ3_copyOf_3.data.toList.drop 0 = dktJ3_copyOf_3_0 := by decide +kernel
theorem dksJ3_copyOf_3_1 : cJ3_copyOf_3.data.toList.drop 24 = dktJ3_copyOf_3_1 := dk_seg dksJ3_copyOf_3_0 24 rfl rfl
theorem dJ3_copyOf_3_0 : decode cJ3_copyOf_3 0 = .ok (.aload_n 2, 1) := dk_44 (dk_at dksJ3_copyOf_3_0 0 rfl rfl)
theorem dJ3_copyOf_3_1 : decode cJ3_copyOf_3 1 = .ok (.ldc 110, 2) := dk_18 110 (dk_at dksJ3_copyOf_3_0 1 rfl rfl)
theorem dJ3_copyOf_3_3 : decode cJ3_copyOf_3 3 = .ok (.if_acmp .ne 10, 3) := dk_166 0 10 (dk_at dksJ3_copyOf_3_0 3 rfl rfl)
theorem dJ3_copyOf_3_6 : decode cJ3_copyOf_3 6 = .ok (.iload_n 1, 1) := dk_27 (dk_at dksJ3_copyOf_3_0 6 rfl rfl)
theorem dJ3_copyOf_3_7 : decode cJ3_copyOf_3 7 = .ok (.anewarray 2, 3) := dk_189 0 2 (dk_at dksJ3_copyOf_3_0 7 rfl rfl)
theorem dJ3_copyOf_3_10 : decode cJ3_copyOf_3 10 = .ok (.goto 14, 3) := dk_167 0 14 (dk_at dksJ3_copyOf_3_0 10 rfl rfl)
theorem dJ3_copyOf_3_13 : decode cJ3_copyOf_3 13 = .ok (.aload_n 2, 1) := dk_44 (dk_at dksJ3_copyOf_3_0 13 rfl rfl)
theorem dJ3_copyOf_3_14 : decode cJ3_copyOf_3 14 = .ok (.invokevirtual 90, 3) := dk_182 0 90 (dk_at dksJ3_copyOf_3_0 14 rfl rfl)
theorem dJ3_copyOf_3_17 : decode cJ3_copyOf_3 17 = .ok (.iload_n 1, 1) := dk_27 (dk_at dksJ3_copyOf_3_0 17 rfl rfl)
theorem dJ3_copyOf_3_18 : decode cJ3_copyOf_3 18 = .ok (.invokestatic 95, 3) := dk_184 0 95 (dk_at dksJ3_copyOf_3_0 18 rfl rfl)
theorem dJ3_copyOf_3_21 : decode cJ3_copyOf_3 21 = .ok (.checkcast 110, 3) := dk_192 0 110 (dk_at dksJ3_copyOf_3_0 21 rfl rfl)
theorem dJ3_copyOf_3_24 : decode cJ3_copyOf_3 24 = .ok (.astore_n 3, 1) := dk_78 (dk_at dksJ3_copyOf_3_1 0 rfl rfl)
theorem dJ3_copyOf_3_25 : decode cJ3_copyOf_3 25 = .ok (.aload_n 0, 1) := dk_42 (dk_at dksJ3_copyOf_3_1 1 rfl rfl)
theorem dJ3_copyOf_3_26 : decode cJ3_copyOf_3 26 = .ok (.iconst 0, 1) := dk_3 (dk_at dksJ3_copyOf_3_1 2 rfl rfl)
theorem dJ3_copyOf_3_27 : decode cJ3_copyOf_3 27 = .ok (.aload_n 3, 1) := dk_45 (dk_at dksJ3_copyOf_3_1 3 rfl rfl)
theorem dJ3_copyOf_3_28 : decode cJ3_copyOf_3 28 = .ok (.iconst 0, 1) := dk_3 (dk_at dksJ3_copyOf_3_1 4 rfl rfl)
theorem dJ3_copyOf_3_29 : decode cJ3_copyOf_3 29 = .ok (.aload_n 0, 1) := dk_42 (dk_at dksJ3_copyOf_3_1 5 rfl rfl)
theorem dJ3_copyOf_3_30 : decode cJ3_copyOf_3 30 = .ok (.arraylength, 1) := dk_190 (dk_at dksJ3_copyOf_3_1 6 rfl rfl)
theorem dJ3_copyOf_3_31 : decode cJ3_copyOf_3 31 = .ok (.iload_n 1, 1) := dk_27 (dk_at dksJ3_copyOf_3_1 7 rfl rfl)
theorem dJ3_copyOf_3_32 : decode cJ3_copyOf_3 32 = .ok (.invokestatic 304, 3) := dk_184 1 48 (dk_at dksJ3_copyOf_3_1 8 rfl rfl)
theorem dJ3_copyOf_3_35 : decode cJ3_copyOf_3 35 = .ok (.invokestatic 150, 3) := dk_184 0 150 (dk_at dksJ3_copyOf_3_1 11 rfl rfl)
theorem dJ3_copyOf_3_38 : decode cJ3_copyOf_3 38 = .ok (.aload_n 3, 1) := dk_45 (dk_at dksJ3_copyOf_3_1 14 rfl rfl)
theorem dJ3_copyOf_3_39 : decode cJ3_copyOf_3 39 = .ok (.areturn, 1) := dk_176 (dk_at dksJ3_copyOf_3_1 15 rfl rfl)
abbrev cJ4_checkIndex : ByteArray := prog_53_method_17_code
def yJ4_checkIndex : MethodName := ⟨RJ4, "checkIndex", "(II)I"⟩
def dkwJ4_checkIndex_0 : List UInt8 := [26, 27, 1, 184, 0, 105, 172]
abbrev dktJ4_checkIndex_0 : List UInt8 := dkwJ4_checkIndex_0 ++ []
theorem dksJ4_checkIndex_0 : cJ4_checkIndex.data.toList.drop 0 = dktJ4_checkIndex_0 := by decide +kernel
theorem dJ4_checkIndex_0 : decode cJ4_checkIndex 0 = .ok (.iload_n 0, 1) := dk_26 (dk_at dksJ4_checkIndex_0 0 rfl rfl)
theorem dJ4_checkIndex_1 : decode cJ4_checkIndex 1 = .ok (.iload_n 1, 1) := dk_27 (dk_at dksJ4_checkIndex_0 1 rfl rfl)
theorem dJ4_checkIndex_2 : decode cJ4_checkIndex 2 = .ok (.aconst_null, 1) := dk_1 (dk_at dksJ4_checkIndex_0 2 rfl rfl)
theorem dJ4_checkIndex_3 : decode cJ4_checkIndex 3 = .ok (.invokestatic 105, 3) := dk_184 0 105 (dk_at dksJ4_checkIndex_0 3 rfl rfl)
theorem dJ4_checkIndex_6 : decode cJ4_checkIndex 6 = .ok (.ireturn, 1) := dk_172 (dk_at dksJ4_checkIndex_0 6 rfl rfl)
abbrev cJ5_checkIndex : ByteArray := prog_57_method_11_code
def yJ5_checkIndex : MethodName := ⟨RJ5, "checkIndex", "(IILjava/util/function/BiFunction;)I"⟩
def dkwJ5_checkIndex_0 : List UInt8 := [26, 155, 0, 8, 26, 27, 161, 0, 10, 44, 26, 27, 184, 0, 95, 191, 26, 172]
abbrev dktJ5_checkIndex_0 : List UInt8 := dkwJ5_checkIndex_0 ++ []
theorem dksJ5_checkIndex_0 : cJ5_checkIndex.data.toList.drop 0 = dktJ5_checkIndex_0 := by decide +kernel
theorem dJ5_checkIndex_0 : decode cJ5_checkIndex 0 = .ok (.iload_n 0, 1) := dk_26 (dk_at dksJ5_checkIndex_0 0 rfl rfl)
theorem dJ5_checkIndex_1 : decode cJ5_checkIndex 1 = .ok (.ifCond .lt 8, 3) := dk_155 0 8 (dk_at dksJ5_checkIndex_0 1 rfl rfl)
theorem dJ5_checkIndex_4 : decode cJ5_checkIndex 4 = .ok (.iload_n 0, 1) := dk_26 (dk_at dksJ5_checkIndex_0 4 rfl rfl)
theorem dJ5_checkIndex_5 : decode cJ5_checkIndex 5 = .ok (.iload_n 1, 1) := dk_27 (dk_at dksJ5_checkIndex_0 5 rfl rfl)
theorem dJ5_checkIndex_6 : decode cJ5_checkIndex 6 = .ok (.if_icmp .lt 10, 3) := dk_161 0 10 (dk_at dksJ5_checkIndex_0 6 rfl rfl)
theorem dJ5_checkIndex_9 : decode cJ5_checkIndex 9 = .ok (.aload_n 2, 1) := dk_44 (dk_at dksJ5_checkIndex_0 9 rfl rfl)
theorem dJ5_checkIndex_10 : decode cJ5_checkIndex 10 = .ok (.iload_n 0, 1) := dk_26 (dk_at dksJ5_checkIndex_0 10 rfl rfl)
theorem dJ5_checkIndex_11 : decode cJ5_checkIndex 11 = .ok (.iload_n 1, 1) := dk_27 (dk_at dksJ5_checkIndex_0 11 rfl rfl)
theorem dJ5_checkIndex_12 : decode cJ5_checkIndex 12 = .ok (.invokestatic 95, 3) := dk_184 0 95 (dk_at dksJ5_checkIndex_0 12 rfl rfl)
theorem dJ5_checkIndex_15 : decode cJ5_checkIndex 15 = .ok (.athrow, 1) := dk_191 (dk_at dksJ5_checkIndex_0 15 rfl rfl)
theorem dJ5_checkIndex_16 : decode cJ5_checkIndex 16 = .ok (.iload_n 0, 1) := dk_26 (dk_at dksJ5_checkIndex_0 16 rfl rfl)
theorem dJ5_checkIndex_17 : decode cJ5_checkIndex 17 = .ok (.ireturn, 1) := dk_172 (dk_at dksJ5_checkIndex_0 17 rfl rfl)
abbrev cJ5_checkFromIndexSize : ByteArray := prog_57_method_13_code
def yJ5_checkFromIndexSize : MethodName := ⟨RJ5, "checkFromIndexSize", "(IIILjava/util/function/BiFunction;)I"⟩
def dkwJ5_checkFromIndexSize_1 : List UInt8 := [172]
abbrev dktJ5_checkFromIndexSize_1 : List UInt8 := dkwJ5_checkFromIndexSize_1 ++ []
def dkwJ5_checkFromIndexSize_0 : List UInt8 := [28, 26, 128, 27, 128, 155, 0, 10, 27, 28, 26, 100, 164, 0, 11, 45, 26, 27, 28, 184, 0, 103, 191, 26]
abbrev dktJ5_checkFromIndexSize_0 : List UInt8 := dkwJ5_checkFromIndexSize_0 ++ dktJ5_checkFromIndexSize_1
theorem dksJ5_checkFromIndexSize_0 : cJ5_checkFromIndexSize.data.toList.drop 0 = dktJ5_checkFromIndexSize_0 := by decide +kernel
theorem dksJ5_checkFromIndexSize_1 : cJ5_checkFromIndexSize.data.toList.drop 24 = dktJ5_checkFromIndexSize_1 := dk_seg dksJ5_checkFromIndexSize_0 24 rfl rfl
theorem dJ5_checkFromIndexSize_0 : decode cJ5_checkFromIndexSize 0 = .ok (.iload_n 2, 1) := dk_28 (dk_at dksJ5_checkFromIndexSize_0 0 rfl rfl)
theorem dJ5_checkFromIndexSize_1 : decode cJ5_checkFromIndexSize 1 = .ok (.iload_n 0, 1) := dk_26 (dk_at dksJ5_checkFromIndexSize_0 1 rfl rfl)
theorem dJ5_checkFromIndexSize_2 : decode cJ5_checkFromIndexSize 2 = .ok (.ior, 1) := dk_128 (dk_at dksJ5_checkFromIndexSize_0 2 rfl rfl)
theorem dJ5_checkFromIndexSize_3 : decode cJ5_checkFromIndexSize 3 = .ok (.iload_n 1, 1) := dk_27 (dk_at dksJ5_checkFromIndexSize_0 3 rfl rfl)
theorem dJ5_checkFromIndexSize_4 : decode cJ5_checkFromIndexSize 4 = .ok (.ior, 1) := dk_128 (dk_at dksJ5_checkFromIndexSize_0 4 rfl rfl)
theorem dJ5_checkFromIndexSize_5 : decode cJ5_checkFromIndexSize 5 = .ok (.ifCond .lt 10, 3) := dk_155 0 10 (dk_at dksJ5_checkFromIndexSize_0 5 rfl rfl)
theorem dJ5_checkFromIndexSize_8 : decode cJ5_checkFromIndexSize 8 = .ok (.iload_n 1, 1) := dk_27 (dk_at dksJ5_checkFromIndexSize_0 8 rfl rfl)
theorem dJ5_checkFromIndexSize_9 : decode cJ5_checkFromIndexSize 9 = .ok (.iload_n 2, 1) := dk_28 (dk_at dksJ5_checkFromIndexSize_0 9 rfl rfl)
theorem dJ5_checkFromIndexSize_10 : decode cJ5_checkFromIndexSize 10 = .ok (.iload_n 0, 1) := dk_26 (dk_at dksJ5_checkFromIndexSize_0 10 rfl rfl)
theorem dJ5_checkFromIndexSize_11 : decode cJ5_checkFromIndexSize 11 = .ok (.isub, 1) := dk_100 (dk_at dksJ5_checkFromIndexSize_0 11 rfl rfl)
theorem dJ5_checkFromIndexSize_12 : decode cJ5_checkFromIndexSize 12 = .ok (.if_icmp .le 11, 3) := dk_164 0 11 (dk_at dksJ5_checkFromIndexSize_0 12 rfl rfl)
theorem dJ5_checkFromIndexSize_15 : decode cJ5_checkFromIndexSize 15 = .ok (.aload_n 3, 1) := dk_45 (dk_at dksJ5_checkFromIndexSize_0 15 rfl rfl)
theorem dJ5_checkFromIndexSize_16 : decode cJ5_checkFromIndexSize 16 = .ok (.iload_n 0, 1) := dk_26 (dk_at dksJ5_checkFromIndexSize_0 16 rfl rfl)
theorem dJ5_checkFromIndexSize_17 : decode cJ5_checkFromIndexSize 17 = .ok (.iload_n 1, 1) := dk_27 (dk_at dksJ5_checkFromIndexSize_0 17 rfl rfl)
theorem dJ5_checkFromIndexSize_18 : decode cJ5_checkFromIndexSize 18 = .ok (.iload_n 2, 1) := dk_28 (dk_at dksJ5_checkFromIndexSize_0 18 rfl rfl)
theorem dJ5_checkFromIndexSize_19 : decode cJ5_checkFromIndexSize 19 = .ok (.invokestatic 103, 3) := dk_184 0 103 (dk_at dksJ5_checkFromIndexSize_0 19 rfl rfl)
theorem dJ5_checkFromIndexSize_22 : decode cJ5_checkFromIndexSize 22 = .ok (.athrow, 1) := dk_191 (dk_at dksJ5_checkFromIndexSize_0 22 rfl rfl)
theorem dJ5_checkFromIndexSize_23 : decode cJ5_checkFromIndexSize 23 = .ok (.iload_n 0, 1) := dk_26 (dk_at dksJ5_checkFromIndexSize_0 23 rfl rfl)
theorem dJ5_checkFromIndexSize_24 : decode cJ5_checkFromIndexSize 24 = .ok (.ireturn, 1) := dk_172 (dk_at dksJ5_checkFromIndexSize_1 0 rfl rfl)
abbrev cJ5_checkFromToIndex : ByteArray := prog_57_method_12_code
def yJ5_checkFromToIndex : MethodName := ⟨RJ5, "checkFromToIndex", "(IIILjava/util/function/BiFunction;)I"⟩
def dkwJ5_checkFromToIndex_0 : List UInt8 := [26, 155, 0, 13, 26, 27, 163, 0, 8, 27, 28, 164, 0, 11, 45, 26, 27, 28, 184, 0, 99, 191, 26, 172]
abbrev dktJ5_checkFromToIndex_0 : List UInt8 := dkwJ5_checkFromToIndex_0 ++ []
theorem dksJ5_checkFromToIndex_0 : cJ5_checkFromToIndex.data.toList.drop 0 = dktJ5_checkFromToIndex_0 := by decide +kernel
theorem dJ5_checkFromToIndex_0 : decode cJ5_checkFromToIndex 0 = .ok (.iload_n 0, 1) := dk_26 (dk_at dksJ5_checkFromToIndex_0 0 rfl rfl)
theorem dJ5_checkFromToIndex_1 : decode cJ5_checkFromToIndex 1 = .ok (.ifCond .lt 13, 3) := dk_155 0 13 (dk_at dksJ5_checkFromToIndex_0 1 rfl rfl)
theorem dJ5_checkFromToIndex_4 : decode cJ5_checkFromToIndex 4 = .ok (.iload_n 0, 1) := dk_26 (dk_at dksJ5_checkFromToIndex_0 4 rfl rfl)
theorem dJ5_checkFromToIndex_5 : decode cJ5_checkFromToIndex 5 = .ok (.iload_n 1, 1) := dk_27 (dk_at dksJ5_checkFromToIndex_0 5 rfl rfl)
theorem dJ5_checkFromToIndex_6 : decode cJ5_checkFromToIndex 6 = .ok (.if_icmp .gt 8, 3) := dk_163 0 8 (dk_at dksJ5_checkFromToIndex_0 6 rfl rfl)
theorem dJ5_checkFromToIndex_9 : decode cJ5_checkFromToIndex 9 = .ok (.iload_n 1, 1) := dk_27 (dk_at dksJ5_checkFromToIndex_0 9 rfl rfl)
theorem dJ5_checkFromToIndex_10 : decode cJ5_checkFromToIndex 10 = .ok (.iload_n 2, 1) := dk_28 (dk_at dksJ5_checkFromToIndex_0 10 rfl rfl)
theorem dJ5_checkFromToIndex_11 : decode cJ5_checkFromToIndex 11 = .ok (.if_icmp .le 11, 3) := dk_164 0 11 (dk_at dksJ5_checkFromToIndex_0 11 rfl rfl)
theorem dJ5_checkFromToIndex_14 : decode cJ5_checkFromToIndex 14 = .ok (.aload_n 3, 1) := dk_45 (dk_at dksJ5_checkFromToIndex_0 14 rfl rfl)
theorem dJ5_checkFromToIndex_15 : decode cJ5_checkFromToIndex 15 = .ok (.iload_n 0, 1) := dk_26 (dk_at dksJ5_checkFromToIndex_0 15 rfl rfl)
theorem dJ5_checkFromToIndex_16 : decode cJ5_checkFromToIndex 16 = .ok (.iload_n 1, 1) := dk_27 (dk_at dksJ5_checkFromToIndex_0 16 rfl rfl)
theorem dJ5_checkFromToIndex_17 : decode cJ5_checkFromToIndex 17 = .ok (.iload_n 2, 1) := dk_28 (dk_at dksJ5_checkFromToIndex_0 17 rfl rfl)
theorem dJ5_checkFromToIndex_18 : decode cJ5_checkFromToIndex 18 = .ok (.invokestatic 99, 3) := dk_184 0 99 (dk_at dksJ5_checkFromToIndex_0 18 rfl rfl)
theorem dJ5_checkFromToIndex_21 : decode cJ5_checkFromToIndex 21 = .ok (.athrow, 1) := dk_191 (dk_at dksJ5_checkFromToIndex_0 21 rfl rfl)
theorem dJ5_checkFromToIndex_22 : decode cJ5_checkFromToIndex 22 = .ok (.iload_n 0, 1) := dk_26 (dk_at dksJ5_checkFromToIndex_0 22 rfl rfl)
theorem dJ5_checkFromToIndex_23 : decode cJ5_checkFromToIndex 23 = .ok (.ireturn, 1) := dk_172 (dk_at dksJ5_checkFromToIndex_0 23 rfl rfl)
abbrev cJ6_init : ByteArray := prog_28_method_2_code
def yJ6_init : MethodName := ⟨RJ6, "<init>", "(I)V"⟩
def dkwJ6_init_1 : List UInt8 := [167, 0, 16, 42, 27, 184, 0, 26, 181, 0, 15, 42, 4, 181, 0, 22, 177]
abbrev dktJ6_init_1 : List UInt8 := dkwJ6_init_1 ++ []
def dkwJ6_init_0 : List UInt8 := [42, 183, 0, 3, 178, 0, 18, 153, 0, 18, 42, 27, 188, 8, 181, 0, 15, 42, 3, 181, 0, 22]
abbrev dktJ6_init_0 : List UInt8 := dkwJ6_init_0 ++ dktJ6_init_1
theorem dksJ6_init_0 : cJ6_init.data.toList.drop 0 = dktJ6_init_0 := by decide +kernel
theorem dksJ6_init_1 : cJ6_init.data.toList.drop 22 = dktJ6_init_1 := dk_seg dksJ6_init_0 22 rfl rfl
theorem dJ6_init_0 : decode cJ6_init 0 = .ok (.aload_n 0, 1) := dk_42 (dk_at dksJ6_init_0 0 rfl rfl)
theorem dJ6_init_1 : decode cJ6_init 1 = .ok (.invokespecial 3, 3) := dk_183 0 3 (dk_at dksJ6_init_0 1 rfl rfl)
theorem dJ6_init_4 : decode cJ6_init 4 = .ok (.getstatic 18, 3) := dk_178 0 18 (dk_at dksJ6_init_0 4 rfl rfl)
theorem dJ6_init_7 : decode cJ6_init 7 = .ok (.ifCond .eq 18, 3) := dk_153 0 18 (dk_at dksJ6_init_0 7 rfl rfl)
theorem dJ6_init_10 : decode cJ6_init 10 = .ok (.aload_n 0, 1) := dk_42 (dk_at dksJ6_init_0 10 rfl rfl)
theorem dJ6_init_11 : decode cJ6_init 11 = .ok (.iload_n 1, 1) := dk_27 (dk_at dksJ6_init_0 11 rfl rfl)
theorem dJ6_init_12 : decode cJ6_init 12 = .ok (.newarray .byte, 2) := dk_188_8 (dk_at dksJ6_init_0 12 rfl rfl)
theorem dJ6_init_14 : decode cJ6_init 14 = .ok (.putfield 15, 3) := dk_181 0 15 (dk_at dksJ6_init_0 14 rfl rfl)
theorem dJ6_init_17 : decode cJ6_init 17 = .ok (.aload_n 0, 1) := dk_42 (dk_at dksJ6_init_0 17 rfl rfl)
theorem dJ6_init_18 : decode cJ6_init 18 = .ok (.iconst 0, 1) := dk_3 (dk_at dksJ6_init_0 18 rfl rfl)
theorem dJ6_init_19 : decode cJ6_init 19 = .ok (.putfield 22, 3) := dk_181 0 22 (dk_at dksJ6_init_0 19 rfl rfl)
theorem dJ6_init_22 : decode cJ6_init 22 = .ok (.goto 16, 3) := dk_167 0 16 (dk_at dksJ6_init_1 0 rfl rfl)
theorem dJ6_init_25 : decode cJ6_init 25 = .ok (.aload_n 0, 1) := dk_42 (dk_at dksJ6_init_1 3 rfl rfl)
theorem dJ6_init_26 : decode cJ6_init 26 = .ok (.iload_n 1, 1) := dk_27 (dk_at dksJ6_init_1 4 rfl rfl)
theorem dJ6_init_27 : decode cJ6_init 27 = .ok (.invokestatic 26, 3) := dk_184 0 26 (dk_at dksJ6_init_1 5 rfl rfl)
theorem dJ6_init_30 : decode cJ6_init 30 = .ok (.putfield 15, 3) := dk_181 0 15 (dk_at dksJ6_init_1 8 rfl rfl)
theorem dJ6_init_33 : decode cJ6_init 33 = .ok (.aload_n 0, 1) := dk_42 (dk_at dksJ6_init_1 11 rfl rfl)
theorem dJ6_init_34 : decode cJ6_init 34 = .ok (.iconst 1, 1) := dk_4 (dk_at dksJ6_init_1 12 rfl rfl)
theorem dJ6_init_35 : decode cJ6_init 35 = .ok (.putfield 22, 3) := dk_181 0 22 (dk_at dksJ6_init_1 13 rfl rfl)
theorem dJ6_init_38 : decode cJ6_init 38 = .ok (.return_, 1) := dk_177 (dk_at dksJ6_init_1 16 rfl rfl)
abbrev cJ6_append : ByteArray := prog_28_method_31_code
def yJ6_append : MethodName := ⟨RJ6, "append", "(C)Ljava/lang/AbstractStringBuilder;"⟩
def dkwJ6_append_3 : List UInt8 := [181, 0, 79, 27, 184, 0, 197, 42, 176]
abbrev dktJ6_append_3 : List UInt8 := dkwJ6_append_3 ++ []
def dkwJ6_append_2 : List UInt8 := [182, 0, 83, 153, 0, 7, 42, 182, 0, 195, 42, 180, 0, 15, 42, 89, 180, 0, 79, 90, 4, 96]
abbrev dktJ6_append_2 : List UInt8 := dkwJ6_append_2 ++ dktJ6_append_3
def dkwJ6_append_1 : List UInt8 := [42, 180, 0, 15, 42, 89, 180, 0, 79, 90, 4, 96, 181, 0, 79, 27, 145, 84, 167, 0, 33, 42]
abbrev dktJ6_append_1 : List UInt8 := dkwJ6_append_1 ++ dktJ6_append_2
def dkwJ6_append_0 : List UInt8 := [42, 42, 180, 0, 79, 4, 96, 182, 0, 100, 42, 182, 0, 83, 153, 0, 31, 27, 184, 0, 191, 153, 0, 24]
abbrev dktJ6_append_0 : List UInt8 := dkwJ6_append_0 ++ dktJ6_append_1
theorem dksJ6_append_0 : cJ6_append.data.toList.drop 0 = dktJ6_append_0 := by decide +kernel
theorem dksJ6_append_1 : cJ6_append.data.toList.drop 24 = dktJ6_append_1 := dk_seg dksJ6_append_0 24 rfl rfl
theorem dksJ6_append_2 : cJ6_append.data.toList.drop 46 = dktJ6_append_2 := dk_seg dksJ6_append_1 22 rfl rfl
theorem dksJ6_append_3 : cJ6_append.data.toList.drop 68 = dktJ6_append_3 := dk_seg dksJ6_append_2 22 rfl rfl
theorem dJ6_append_0 : decode cJ6_append 0 = .ok (.aload_n 0, 1) := dk_42 (dk_at dksJ6_append_0 0 rfl rfl)
theorem dJ6_append_1 : decode cJ6_append 1 = .ok (.aload_n 0, 1) := dk_42 (dk_at dksJ6_append_0 1 rfl rfl)
theorem dJ6_append_2 : decode cJ6_append 2 = .ok (.getfield 79, 3) := dk_180 0 79 (dk_at dksJ6_append_0 2 rfl rfl)
theorem dJ6_append_5 : decode cJ6_append 5 = .ok (.iconst 1, 1) := dk_4 (dk_at dksJ6_append_0 5 rfl rfl)
theorem dJ6_append_6 : decode cJ6_append 6 = .ok (.iadd, 1) := dk_96 (dk_at dksJ6_append_0 6 rfl rfl)
theorem dJ6_append_7 : decode cJ6_append 7 = .ok (.invokevirtual 100, 3) := dk_182 0 100 (dk_at dksJ6_append_0 7 rfl rfl)
theorem dJ6_append_10 : decode cJ6_append 10 = .ok (.aload_n 0, 1) := dk_42 (dk_at dksJ6_append_0 10 rfl rfl)
theorem dJ6_append_11 : decode cJ6_append 11 = .ok (.invokevirtual 83, 3) := dk_182 0 83 (dk_at dksJ6_append_0 11 rfl rfl)
theorem dJ6_append_14 : decode cJ6_append 14 = .ok (.ifCond .eq 31, 3) := dk_153 0 31 (dk_at dksJ6_append_0 14 rfl rfl)
theorem dJ6_append_17 : decode cJ6_append 17 = .ok (.iload_n 1, 1) := dk_27 (dk_at dksJ6_append_0 17 rfl rfl)
theorem dJ6_append_18 : decode cJ6_append 18 = .ok (.invokestatic 191, 3) := dk_184 0 191 (dk_at dksJ6_append_0 18 rfl rfl)
theorem dJ6_append_21 : decode cJ6_append 21 = .ok (.ifCond .eq 24, 3) := dk_153 0 24 (dk_at dksJ6_append_0 21 rfl rfl)
theorem dJ6_append_24 : decode cJ6_append 24 = .ok (.aload_n 0, 1) := dk_42 (dk_at dksJ6_append_1 0 rfl rfl)
theorem dJ6_append_25 : decode cJ6_append 25 = .ok (.getfield 15, 3) := dk_180 0 15 (dk_at dksJ6_append_1 1 rfl rfl)
theorem dJ6_append_28 : decode cJ6_append 28 = .ok (.aload_n 0, 1) := dk_42 (dk_at dksJ6_append_1 4 rfl rfl)
theorem dJ6_append_29 : decode cJ6_append 29 = .ok (.dup, 1) := dk_89 (dk_at dksJ6_append_1 5 rfl rfl)
theorem dJ6_append_30 : decode cJ6_append 30 = .ok (.getfield 79, 3) := dk_180 0 79 (dk_at dksJ6_append_1 6 rfl rfl)
theorem dJ6_append_33 : decode cJ6_append 33 = .ok (.dup_x1, 1) := dk_90 (dk_at dksJ6_append_1 9 rfl rfl)
theorem dJ6_append_34 : decode cJ6_append 34 = .ok (.iconst 1, 1) := dk_4 (dk_at dksJ6_append_1 10 rfl rfl)
theorem dJ6_append_35 : decode cJ6_append 35 = .ok (.iadd, 1) := dk_96 (dk_at dksJ6_append_1 11 rfl rfl)
theorem dJ6_append_36 : decode cJ6_append 36 = .ok (.putfield 79, 3) := dk_181 0 79 (dk_at dksJ6_append_1 12 rfl rfl)
theorem dJ6_append_39 : decode cJ6_append 39 = .ok (.iload_n 1, 1) := dk_27 (dk_at dksJ6_append_1 15 rfl rfl)
theorem dJ6_append_40 : decode cJ6_append 40 = .ok (.i2b, 1) := dk_145 (dk_at dksJ6_append_1 16 rfl rfl)
theorem dJ6_append_41 : decode cJ6_append 41 = .ok (.bastore, 1) := dk_84 (dk_at dksJ6_append_1 17 rfl rfl)
theorem dJ6_append_42 : decode cJ6_append 42 = .ok (.goto 33, 3) := dk_167 0 33 (dk_at dksJ6_append_1 18 rfl rfl)
theorem dJ6_append_45 : decode cJ6_append 45 = .ok (.aload_n 0, 1) := dk_42 (dk_at dksJ6_append_1 21 rfl rfl)
theorem dJ6_append_46 : decode cJ6_append 46 = .ok (.invokevirtual 83, 3) := dk_182 0 83 (dk_at dksJ6_append_2 0 rfl rfl)
theorem dJ6_append_49 : decode cJ6_append 49 = .ok (.ifCond .eq 7, 3) := dk_153 0 7 (dk_at dksJ6_append_2 3 rfl rfl)
theorem dJ6_append_52 : decode cJ6_append 52 = .ok (.aload_n 0, 1) := dk_42 (dk_at dksJ6_append_2 6 rfl rfl)
theorem dJ6_append_53 : decode cJ6_append 53 = .ok (.invokevirtual 195, 3) := dk_182 0 195 (dk_at dksJ6_append_2 7 rfl rfl)
theorem dJ6_append_56 : decode cJ6_append 56 = .ok (.aload_n 0, 1) := dk_42 (dk_at dksJ6_append_2 10 rfl rfl)
theorem dJ6_append_57 : decode cJ6_append 57 = .ok (.getfield 15, 3) := dk_180 0 15 (dk_at dksJ6_append_2 11 rfl rfl)
theorem dJ6_append_60 : decode cJ6_append 60 = .ok (.aload_n 0, 1) := dk_42 (dk_at dksJ6_append_2 14 rfl rfl)
theorem dJ6_append_61 : decode cJ6_append 61 = .ok (.dup, 1) := dk_89 (dk_at dksJ6_append_2 15 rfl rfl)
theorem dJ6_append_62 : decode cJ6_append 62 = .ok (.getfield 79, 3) := dk_180 0 79 (dk_at dksJ6_append_2 16 rfl rfl)
theorem dJ6_append_65 : decode cJ6_append 65 = .ok (.dup_x1, 1) := dk_90 (dk_at dksJ6_append_2 19 rfl rfl)
theorem dJ6_append_66 : decode cJ6_append 66 = .ok (.iconst 1, 1) := dk_4 (dk_at dksJ6_append_2 20 rfl rfl)
theorem dJ6_append_67 : decode cJ6_append 67 = .ok (.iadd, 1) := dk_96 (dk_at dksJ6_append_2 21 rfl rfl)
theorem dJ6_append_68 : decode cJ6_append 68 = .ok (.putfield 79, 3) := dk_181 0 79 (dk_at dksJ6_append_3 0 rfl rfl)
theorem dJ6_append_71 : decode cJ6_append 71 = .ok (.iload_n 1, 1) := dk_27 (dk_at dksJ6_append_3 3 rfl rfl)
theorem dJ6_append_72 : decode cJ6_append 72 = .ok (.invokestatic 197, 3) := dk_184 0 197 (dk_at dksJ6_append_3 4 rfl rfl)
theorem dJ6_append_75 : decode cJ6_append 75 = .ok (.aload_n 0, 1) := dk_42 (dk_at dksJ6_append_3 7 rfl rfl)
theorem dJ6_append_76 : decode cJ6_append 76 = .ok (.areturn, 1) := dk_176 (dk_at dksJ6_append_3 8 rfl rfl)
abbrev cJ6_ensureCapacityInternal : ByteArray := prog_28_method_9_code
def yJ6_ensureCapacityInternal : MethodName := ⟨RJ6, "ensureCapacityInternal", "(I)V"⟩
def dkwJ6_ensureCapacityInternal_1 : List UInt8 := [182, 0, 104, 42, 180, 0, 22, 120, 184, 0, 108, 181, 0, 15, 177]
abbrev dktJ6_ensureCapacityInternal_1 : List UInt8 := dkwJ6_ensureCapacityInternal_1 ++ []
def dkwJ6_ensureCapacityInternal_0 : List UInt8 := [42, 180, 0, 15, 190, 42, 180, 0, 22, 122, 61, 27, 28, 100, 158, 0, 24, 42, 42, 180, 0, 15, 42, 27]
abbrev dktJ6_ensureCapacityInternal_0 : List UInt8 := dkwJ6_ensureCapacityInternal_0 ++ dktJ6_ensureCapacityInternal_1
theorem dksJ6_ensureCapacityInternal_0 : cJ6_ensureCapacityInternal.data.toList.drop 0 = dktJ6_ensureCapacityInternal_0 := by decide +kernel
theorem dksJ6_ensureCapacityInternal_1 : cJ6_ensureCapacityInternal.data.toList.drop 24 = dktJ6_ensureCapacityInternal_1 := dk_seg dksJ6_ensureCapacityInternal_0 24 rfl rfl
theorem dJ6_ensureCapacityInternal_0 : decode cJ6_ensureCapacityInternal 0 = .ok (.aload_n 0, 1) := dk_42 (dk_at dksJ6_ensureCapacityInternal_0 0 rfl rfl)
theorem dJ6_ensureCapacityInternal_1 : decode cJ6_ensureCapacityInternal 1 = .ok (.getfield 15, 3) := dk_180 0 15 (dk_at dksJ6_ensureCapacityInternal_0 1 rfl rfl)
theorem dJ6_ensureCapacityInternal_4 : decode cJ6_ensureCapacityInternal 4 = .ok (.arraylength, 1) := dk_190 (dk_at dksJ6_ensureCapacityInternal_0 4 rfl rfl)
theorem dJ6_ensureCapacityInternal_5 : decode cJ6_ensureCapacityInternal 5 = .ok (.aload_n 0, 1) := dk_42 (dk_at dksJ6_ensureCapacityInternal_0 5 rfl rfl)
theorem dJ6_ensureCapacityInternal_6 : decode cJ6_ensureCapacityInternal 6 = .ok (.getfield 22, 3) := dk_180 0 22 (dk_at dksJ6_ensureCapacityInternal_0 6 rfl rfl)
theorem dJ6_ensureCapacityInternal_9 : decode cJ6_ensureCapacityInternal 9 = .ok (.ishr, 1) := dk_122 (dk_at dksJ6_ensureCapacityInternal_0 9 rfl rfl)
theorem dJ6_ensureCapacityInternal_10 : decode cJ6_ensureCapacityInternal 10 = .ok (.istore_n 2, 1) := dk_61 (dk_at dksJ6_ensureCapacityInternal_0 10 rfl rfl)
theorem dJ6_ensureCapacityInternal_11 : decode cJ6_ensureCapacityInternal 11 = .ok (.iload_n 1, 1) := dk_27 (dk_at dksJ6_ensureCapacityInternal_0 11 rfl rfl)
theorem dJ6_ensureCapacityInternal_12 : decode cJ6_ensureCapacityInternal 12 = .ok (.iload_n 2, 1) := dk_28 (dk_at dksJ6_ensureCapacityInternal_0 12 rfl rfl)
theorem dJ6_ensureCapacityInternal_13 : decode cJ6_ensureCapacityInternal 13 = .ok (.isub, 1) := dk_100 (dk_at dksJ6_ensureCapacityInternal_0 13 rfl rfl)
theorem dJ6_ensureCapacityInternal_14 : decode cJ6_ensureCapacityInternal 14 = .ok (.ifCond .le 24, 3) := dk_158 0 24 (dk_at dksJ6_ensureCapacityInternal_0 14 rfl rfl)
theorem dJ6_ensureCapacityInternal_17 : decode cJ6_ensureCapacityInternal 17 = .ok (.aload_n 0, 1) := dk_42 (dk_at dksJ6_ensureCapacityInternal_0 17 rfl rfl)
theorem dJ6_ensureCapacityInternal_18 : decode cJ6_ensureCapacityInternal 18 = .ok (.aload_n 0, 1) := dk_42 (dk_at dksJ6_ensureCapacityInternal_0 18 rfl rfl)
theorem dJ6_ensureCapacityInternal_19 : decode cJ6_ensureCapacityInternal 19 = .ok (.getfield 15, 3) := dk_180 0 15 (dk_at dksJ6_ensureCapacityInternal_0 19 rfl rfl)
theorem dJ6_ensureCapacityInternal_22 : decode cJ6_ensureCapacityInternal 22 = .ok (.aload_n 0, 1) := dk_42 (dk_at dksJ6_ensureCapacityInternal_0 22 rfl rfl)
theorem dJ6_ensureCapacityInternal_23 : decode cJ6_ensureCapacityInternal 23 = .ok (.iload_n 1, 1) := dk_27 (dk_at dksJ6_ensureCapacityInternal_0 23 rfl rfl)
theorem dJ6_ensureCapacityInternal_24 : decode cJ6_ensureCapacityInternal 24 = .ok (.invokevirtual 104, 3) := dk_182 0 104 (dk_at dksJ6_ensureCapacityInternal_1 0 rfl rfl)
theorem dJ6_ensureCapacityInternal_27 : decode cJ6_ensureCapacityInternal 27 = .ok (.aload_n 0, 1) := dk_42 (dk_at dksJ6_ensureCapacityInternal_1 3 rfl rfl)
theorem dJ6_ensureCapacityInternal_28 : decode cJ6_ensureCapacityInternal 28 = .ok (.getfield 22, 3) := dk_180 0 22 (dk_at dksJ6_ensureCapacityInternal_1 4 rfl rfl)
theorem dJ6_ensureCapacityInternal_31 : decode cJ6_ensureCapacityInternal 31 = .ok (.ishl, 1) := dk_120 (dk_at dksJ6_ensureCapacityInternal_1 7 rfl rfl)
theorem dJ6_ensureCapacityInternal_32 : decode cJ6_ensureCapacityInternal 32 = .ok (.invokestatic 108, 3) := dk_184 0 108 (dk_at dksJ6_ensureCapacityInternal_1 8 rfl rfl)
theorem dJ6_ensureCapacityInternal_35 : decode cJ6_ensureCapacityInternal 35 = .ok (.putfield 15, 3) := dk_181 0 15 (dk_at dksJ6_ensureCapacityInternal_1 11 rfl rfl)
theorem dJ6_ensureCapacityInternal_38 : decode cJ6_ensureCapacityInternal 38 = .ok (.return_, 1) := dk_177 (dk_at dksJ6_ensureCapacityInternal_1 14 rfl rfl)
abbrev cJ6_newCapacity : ByteArray := prog_28_method_10_code
def yJ6_newCapacity : MethodName := ⟨RJ6, "newCapacity", "(I)I"⟩
def dkwJ6_newCapacity_2 : List UInt8 := [183, 0, 124, 191, 21, 5, 42, 180, 0, 22, 122, 172]
abbrev dktJ6_newCapacity_2 : List UInt8 := dkwJ6_newCapacity_2 ++ []
def dkwJ6_newCapacity_1 : List UInt8 := [180, 0, 22, 120, 96, 184, 0, 114, 54, 5, 21, 5, 18, 39, 160, 0, 13, 187, 0, 120, 89, 18, 122]
abbrev dktJ6_newCapacity_1 : List UInt8 := dkwJ6_newCapacity_1 ++ dktJ6_newCapacity_2
def dkwJ6_newCapacity_0 : List UInt8 := [42, 180, 0, 15, 190, 61, 27, 42, 180, 0, 22, 120, 62, 29, 28, 100, 54, 4, 28, 21, 4, 28, 5, 42]
abbrev dktJ6_newCapacity_0 : List UInt8 := dkwJ6_newCapacity_0 ++ dktJ6_newCapacity_1
theorem dksJ6_newCapacity_0 : cJ6_newCapacity.data.toList.drop 0 = dktJ6_newCapacity_0 := by decide +kernel
theorem dksJ6_newCapacity_1 : cJ6_newCapacity.data.toList.drop 24 = dktJ6_newCapacity_1 := dk_seg dksJ6_newCapacity_0 24 rfl rfl
theorem dksJ6_newCapacity_2 : cJ6_newCapacity.data.toList.drop 47 = dktJ6_newCapacity_2 := dk_seg dksJ6_newCapacity_1 23 rfl rfl
theorem dJ6_newCapacity_0 : decode cJ6_newCapacity 0 = .ok (.aload_n 0, 1) := dk_42 (dk_at dksJ6_newCapacity_0 0 rfl rfl)
theorem dJ6_newCapacity_1 : decode cJ6_newCapacity 1 = .ok (.getfield 15, 3) := dk_180 0 15 (dk_at dksJ6_newCapacity_0 1 rfl rfl)
theorem dJ6_newCapacity_4 : decode cJ6_newCapacity 4 = .ok (.arraylength, 1) := dk_190 (dk_at dksJ6_newCapacity_0 4 rfl rfl)
theorem dJ6_newCapacity_5 : decode cJ6_newCapacity 5 = .ok (.istore_n 2, 1) := dk_61 (dk_at dksJ6_newCapacity_0 5 rfl rfl)
theorem dJ6_newCapacity_6 : decode cJ6_newCapacity 6 = .ok (.iload_n 1, 1) := dk_27 (dk_at dksJ6_newCapacity_0 6 rfl rfl)
theorem dJ6_newCapacity_7 : decode cJ6_newCapacity 7 = .ok (.aload_n 0, 1) := dk_42 (dk_at dksJ6_newCapacity_0 7 rfl rfl)
theorem dJ6_newCapacity_8 : decode cJ6_newCapacity 8 = .ok (.getfield 22, 3) := dk_180 0 22 (dk_at dksJ6_newCapacity_0 8 rfl rfl)
theorem dJ6_newCapacity_11 : decode cJ6_newCapacity 11 = .ok (.ishl, 1) := dk_120 (dk_at dksJ6_newCapacity_0 11 rfl rfl)
theorem dJ6_newCapacity_12 : decode cJ6_newCapacity 12 = .ok (.istore_n 3, 1) := dk_62 (dk_at dksJ6_newCapacity_0 12 rfl rfl)
theorem dJ6_newCapacity_13 : decode cJ6_newCapacity 13 = .ok (.iload_n 3, 1) := dk_29 (dk_at dksJ6_newCapacity_0 13 rfl rfl)
theorem dJ6_newCapacity_14 : decode cJ6_newCapacity 14 = .ok (.iload_n 2, 1) := dk_28 (dk_at dksJ6_newCapacity_0 14 rfl rfl)
theorem dJ6_newCapacity_15 : decode cJ6_newCapacity 15 = .ok (.isub, 1) := dk_100 (dk_at dksJ6_newCapacity_0 15 rfl rfl)
theorem dJ6_newCapacity_16 : decode cJ6_newCapacity 16 = .ok (.istore 4, 2) := dk_54 4 (dk_at dksJ6_newCapacity_0 16 rfl rfl)
theorem dJ6_newCapacity_18 : decode cJ6_newCapacity 18 = .ok (.iload_n 2, 1) := dk_28 (dk_at dksJ6_newCapacity_0 18 rfl rfl)
theorem dJ6_newCapacity_19 : decode cJ6_newCapacity 19 = .ok (.iload 4, 2) := dk_21 4 (dk_at dksJ6_newCapacity_0 19 rfl rfl)
theorem dJ6_newCapacity_21 : decode cJ6_newCapacity 21 = .ok (.iload_n 2, 1) := dk_28 (dk_at dksJ6_newCapacity_0 21 rfl rfl)
theorem dJ6_newCapacity_22 : decode cJ6_newCapacity 22 = .ok (.iconst 2, 1) := dk_5 (dk_at dksJ6_newCapacity_0 22 rfl rfl)
theorem dJ6_newCapacity_23 : decode cJ6_newCapacity 23 = .ok (.aload_n 0, 1) := dk_42 (dk_at dksJ6_newCapacity_0 23 rfl rfl)
theorem dJ6_newCapacity_24 : decode cJ6_newCapacity 24 = .ok (.getfield 22, 3) := dk_180 0 22 (dk_at dksJ6_newCapacity_1 0 rfl rfl)
theorem dJ6_newCapacity_27 : decode cJ6_newCapacity 27 = .ok (.ishl, 1) := dk_120 (dk_at dksJ6_newCapacity_1 3 rfl rfl)
theorem dJ6_newCapacity_28 : decode cJ6_newCapacity 28 = .ok (.iadd, 1) := dk_96 (dk_at dksJ6_newCapacity_1 4 rfl rfl)
theorem dJ6_newCapacity_29 : decode cJ6_newCapacity 29 = .ok (.invokestatic 114, 3) := dk_184 0 114 (dk_at dksJ6_newCapacity_1 5 rfl rfl)
theorem dJ6_newCapacity_32 : decode cJ6_newCapacity 32 = .ok (.istore 5, 2) := dk_54 5 (dk_at dksJ6_newCapacity_1 8 rfl rfl)
theorem dJ6_newCapacity_34 : decode cJ6_newCapacity 34 = .ok (.iload 5, 2) := dk_21 5 (dk_at dksJ6_newCapacity_1 10 rfl rfl)
theorem dJ6_newCapacity_36 : decode cJ6_newCapacity 36 = .ok (.ldc 39, 2) := dk_18 39 (dk_at dksJ6_newCapacity_1 12 rfl rfl)
theorem dJ6_newCapacity_38 : decode cJ6_newCapacity 38 = .ok (.if_icmp .ne 13, 3) := dk_160 0 13 (dk_at dksJ6_newCapacity_1 14 rfl rfl)
theorem dJ6_newCapacity_41 : decode cJ6_newCapacity 41 = .ok (.new 120, 3) := dk_187 0 120 (dk_at dksJ6_newCapacity_1 17 rfl rfl)
theorem dJ6_newCapacity_44 : decode cJ6_newCapacity 44 = .ok (.dup, 1) := dk_89 (dk_at dksJ6_newCapacity_1 20 rfl rfl)
theorem dJ6_newCapacity_45 : decode cJ6_newCapacity 45 = .ok (.ldc 122, 2) := dk_18 122 (dk_at dksJ6_newCapacity_1 21 rfl rfl)
theorem dJ6_newCapacity_47 : decode cJ6_newCapacity 47 = .ok (.invokespecial 124, 3) := dk_183 0 124 (dk_at dksJ6_newCapacity_2 0 rfl rfl)
theorem dJ6_newCapacity_50 : decode cJ6_newCapacity 50 = .ok (.athrow, 1) := dk_191 (dk_at dksJ6_newCapacity_2 3 rfl rfl)
theorem dJ6_newCapacity_51 : decode cJ6_newCapacity 51 = .ok (.iload 5, 2) := dk_21 5 (dk_at dksJ6_newCapacity_2 4 rfl rfl)
theorem dJ6_newCapacity_53 : decode cJ6_newCapacity 53 = .ok (.aload_n 0, 1) := dk_42 (dk_at dksJ6_newCapacity_2 6 rfl rfl)
theorem dJ6_newCapacity_54 : decode cJ6_newCapacity 54 = .ok (.getfield 22, 3) := dk_180 0 22 (dk_at dksJ6_newCapacity_2 7 rfl rfl)
theorem dJ6_newCapacity_57 : decode cJ6_newCapacity 57 = .ok (.ishr, 1) := dk_122 (dk_at dksJ6_newCapacity_2 10 rfl rfl)
theorem dJ6_newCapacity_58 : decode cJ6_newCapacity 58 = .ok (.ireturn, 1) := dk_172 (dk_at dksJ6_newCapacity_2 11 rfl rfl)
abbrev cJ6_isLatin1 : ByteArray := prog_28_method_68_code
def yJ6_isLatin1 : MethodName := ⟨RJ6, "isLatin1", "()Z"⟩
def dkwJ6_isLatin1_0 : List UInt8 := [178, 0, 18, 153, 0, 14, 42, 180, 0, 22, 154, 0, 7, 4, 167, 0, 4, 3, 172]
abbrev dktJ6_isLatin1_0 : List UInt8 := dkwJ6_isLatin1_0 ++ []
theorem dksJ6_isLatin1_0 : cJ6_isLatin1.data.toList.drop 0 = dktJ6_isLatin1_0 := by decide +kernel
theorem dJ6_isLatin1_0 : decode cJ6_isLatin1 0 = .ok (.getstatic 18, 3) := dk_178 0 18 (dk_at dksJ6_isLatin1_0 0 rfl rfl)
theorem dJ6_isLatin1_3 : decode cJ6_isLatin1 3 = .ok (.ifCond .eq 14, 3) := dk_153 0 14 (dk_at dksJ6_isLatin1_0 3 rfl rfl)
theorem dJ6_isLatin1_6 : decode cJ6_isLatin1 6 = .ok (.aload_n 0, 1) := dk_42 (dk_at dksJ6_isLatin1_0 6 rfl rfl)
theorem dJ6_isLatin1_7 : decode cJ6_isLatin1 7 = .ok (.getfield 22, 3) := dk_180 0 22 (dk_at dksJ6_isLatin1_0 7 rfl rfl)
theorem dJ6_isLatin1_10 : decode cJ6_isLatin1 10 = .ok (.ifCond .ne 7, 3) := dk_154 0 7 (dk_at dksJ6_isLatin1_0 10 rfl rfl)
theorem dJ6_isLatin1_13 : decode cJ6_isLatin1 13 = .ok (.iconst 1, 1) := dk_4 (dk_at dksJ6_isLatin1_0 13 rfl rfl)
theorem dJ6_isLatin1_14 : decode cJ6_isLatin1 14 = .ok (.goto 4, 3) := dk_167 0 4 (dk_at dksJ6_isLatin1_0 14 rfl rfl)
theorem dJ6_isLatin1_17 : decode cJ6_isLatin1 17 = .ok (.iconst 0, 1) := dk_3 (dk_at dksJ6_isLatin1_0 17 rfl rfl)
theorem dJ6_isLatin1_18 : decode cJ6_isLatin1 18 = .ok (.ireturn, 1) := dk_172 (dk_at dksJ6_isLatin1_0 18 rfl rfl)
abbrev cJ6_inflate : ByteArray := prog_28_method_11_code
def yJ6_inflate : MethodName := ⟨RJ6, "inflate", "()V"⟩
def dkwJ6_inflate_1 : List UInt8 := [42, 180, 0, 79, 184, 0, 125, 42, 43, 181, 0, 15, 42, 4, 181, 0, 22, 177]
abbrev dktJ6_inflate_1 : List UInt8 := dkwJ6_inflate_1 ++ []
def dkwJ6_inflate_0 : List UInt8 := [42, 182, 0, 83, 154, 0, 4, 177, 42, 180, 0, 15, 190, 184, 0, 26, 76, 42, 180, 0, 15, 3, 43, 3]
abbrev dktJ6_inflate_0 : List UInt8 := dkwJ6_inflate_0 ++ dktJ6_inflate_1
theorem dksJ6_inflate_0 : cJ6_inflate.data.toList.drop 0 = dktJ6_inflate_0 := by decide +kernel
theorem dksJ6_inflate_1 : cJ6_inflate.data.toList.drop 24 = dktJ6_inflate_1 := dk_seg dksJ6_inflate_0 24 rfl rfl
theorem dJ6_inflate_0 : decode cJ6_inflate 0 = .ok (.aload_n 0, 1) := dk_42 (dk_at dksJ6_inflate_0 0 rfl rfl)
theorem dJ6_inflate_1 : decode cJ6_inflate 1 = .ok (.invokevirtual 83, 3) := dk_182 0 83 (dk_at dksJ6_inflate_0 1 rfl rfl)
theorem dJ6_inflate_4 : decode cJ6_inflate 4 = .ok (.ifCond .ne 4, 3) := dk_154 0 4 (dk_at dksJ6_inflate_0 4 rfl rfl)
theorem dJ6_inflate_7 : decode cJ6_inflate 7 = .ok (.return_, 1) := dk_177 (dk_at dksJ6_inflate_0 7 rfl rfl)
theorem dJ6_inflate_8 : decode cJ6_inflate 8 = .ok (.aload_n 0, 1) := dk_42 (dk_at dksJ6_inflate_0 8 rfl rfl)
theorem dJ6_inflate_9 : decode cJ6_inflate 9 = .ok (.getfield 15, 3) := dk_180 0 15 (dk_at dksJ6_inflate_0 9 rfl rfl)
theorem dJ6_inflate_12 : decode cJ6_inflate 12 = .ok (.arraylength, 1) := dk_190 (dk_at dksJ6_inflate_0 12 rfl rfl)
theorem dJ6_inflate_13 : decode cJ6_inflate 13 = .ok (.invokestatic 26, 3) := dk_184 0 26 (dk_at dksJ6_inflate_0 13 rfl rfl)
theorem dJ6_inflate_16 : decode cJ6_inflate 16 = .ok (.astore_n 1, 1) := dk_76 (dk_at dksJ6_inflate_0 16 rfl rfl)
theorem dJ6_inflate_17 : decode cJ6_inflate 17 = .ok (.aload_n 0, 1) := dk_42 (dk_at dksJ6_inflate_0 17 rfl rfl)
theorem dJ6_inflate_18 : decode cJ6_inflate 18 = .ok (.getfield 15, 3) := dk_180 0 15 (dk_at dksJ6_inflate_0 18 rfl rfl)
theorem dJ6_inflate_21 : decode cJ6_inflate 21 = .ok (.iconst 0, 1) := dk_3 (dk_at dksJ6_inflate_0 21 rfl rfl)
theorem dJ6_inflate_22 : decode cJ6_inflate 22 = .ok (.aload_n 1, 1) := dk_43 (dk_at dksJ6_inflate_0 22 rfl rfl)
theorem dJ6_inflate_23 : decode cJ6_inflate 23 = .ok (.iconst 0, 1) := dk_3 (dk_at dksJ6_inflate_0 23 rfl rfl)
theorem dJ6_inflate_24 : decode cJ6_inflate 24 = .ok (.aload_n 0, 1) := dk_42 (dk_at dksJ6_inflate_1 0 rfl rfl)
theorem dJ6_inflate_25 : decode cJ6_inflate 25 = .ok (.getfield 79, 3) := dk_180 0 79 (dk_at dksJ6_inflate_1 1 rfl rfl)
theorem dJ6_inflate_28 : decode cJ6_inflate 28 = .ok (.invokestatic 125, 3) := dk_184 0 125 (dk_at dksJ6_inflate_1 4 rfl rfl)
theorem dJ6_inflate_31 : decode cJ6_inflate 31 = .ok (.aload_n 0, 1) := dk_42 (dk_at dksJ6_inflate_1 7 rfl rfl)
theorem dJ6_inflate_32 : decode cJ6_inflate 32 = .ok (.aload_n 1, 1) := dk_43 (dk_at dksJ6_inflate_1 8 rfl rfl)
theorem dJ6_inflate_33 : decode cJ6_inflate 33 = .ok (.putfield 15, 3) := dk_181 0 15 (dk_at dksJ6_inflate_1 9 rfl rfl)
theorem dJ6_inflate_36 : decode cJ6_inflate 36 = .ok (.aload_n 0, 1) := dk_42 (dk_at dksJ6_inflate_1 12 rfl rfl)
theorem dJ6_inflate_37 : decode cJ6_inflate 37 = .ok (.iconst 1, 1) := dk_4 (dk_at dksJ6_inflate_1 13 rfl rfl)
theorem dJ6_inflate_38 : decode cJ6_inflate 38 = .ok (.putfield 22, 3) := dk_181 0 22 (dk_at dksJ6_inflate_1 14 rfl rfl)
theorem dJ6_inflate_41 : decode cJ6_inflate 41 = .ok (.return_, 1) := dk_177 (dk_at dksJ6_inflate_1 17 rfl rfl)
abbrev cJ6_getValue : ByteArray := prog_28_method_64_code
def yJ6_getValue : MethodName := ⟨RJ6, "getValue", "()[B"⟩
theorem dJ6_getValue_0 : decode cJ6_getValue 0 = .ok (.aload_n 0, 1) := by decide +kernel
theorem dJ6_getValue_1 : decode cJ6_getValue 1 = .ok (.getfield 15, 3) := by decide +kernel
theorem dJ6_getValue_4 : decode cJ6_getValue 4 = .ok (.areturn, 1) := by decide +kernel
abbrev cJ6_length : ByteArray := prog_28_method_6_code
def yJ6_length : MethodName := ⟨RJ6, "length", "()I"⟩
theorem dJ6_length_0 : decode cJ6_length 0 = .ok (.aload_n 0, 1) := by decide +kernel
theorem dJ6_length_1 : decode cJ6_length 1 = .ok (.getfield 79, 3) := by decide +kernel
theorem dJ6_length_4 : decode cJ6_length 4 = .ok (.ireturn, 1) := by decide +kernel
abbrev cJ6_append_2 : ByteArray := prog_28_method_22_code
def yJ6_append_2 : MethodName := ⟨RJ6, "append", "(Ljava/lang/String;)Ljava/lang/AbstractStringBuilder;"⟩
def dkwJ6_append_2_1 : List UInt8 := [42, 42, 180, 0, 79, 43, 182, 0, 208, 42, 89, 180, 0, 79, 28, 96, 181, 0, 79, 42, 176]
abbrev dktJ6_append_2_1 : List UInt8 := dkwJ6_append_2_1 ++ []
def dkwJ6_append_2_0 : List UInt8 := [43, 199, 0, 8, 42, 182, 0, 204, 176, 43, 182, 0, 32, 61, 42, 42, 180, 0, 79, 28, 96, 182, 0, 100]
abbrev dktJ6_append_2_0 : List UInt8 := dkwJ6_append_2_0 ++ dktJ6_append_2_1
theorem dksJ6_append_2_0 : cJ6_append_2.data.toList.drop 0 = dktJ6_append_2_0 := by decide +kernel
theorem dksJ6_append_2_1 : cJ6_append_2.data.toList.drop 24 = dktJ6_append_2_1 := dk_seg dksJ6_append_2_0 24 rfl rfl
theorem dJ6_append_2_0 : decode cJ6_append_2 0 = .ok (.aload_n 1, 1) := dk_43 (dk_at dksJ6_append_2_0 0 rfl rfl)
theorem dJ6_append_2_1 : decode cJ6_append_2 1 = .ok (.ifnonnull 8, 3) := dk_199 0 8 (dk_at dksJ6_append_2_0 1 rfl rfl)
theorem dJ6_append_2_4 : decode cJ6_append_2 4 = .ok (.aload_n 0, 1) := dk_42 (dk_at dksJ6_append_2_0 4 rfl rfl)
theorem dJ6_append_2_5 : decode cJ6_append_2 5 = .ok (.invokevirtual 204, 3) := dk_182 0 204 (dk_at dksJ6_append_2_0 5 rfl rfl)
theorem dJ6_append_2_8 : decode cJ6_append_2 8 = .ok (.areturn, 1) := dk_176 (dk_at dksJ6_append_2_0 8 rfl rfl)
theorem dJ6_append_2_9 : decode cJ6_append_2 9 = .ok (.aload_n 1, 1) := dk_43 (dk_at dksJ6_append_2_0 9 rfl rfl)
theorem dJ6_append_2_10 : decode cJ6_append_2 10 = .ok (.invokevirtual 32, 3) := dk_182 0 32 (dk_at dksJ6_append_2_0 10 rfl rfl)
theorem dJ6_append_2_13 : decode cJ6_append_2 13 = .ok (.istore_n 2, 1) := dk_61 (dk_at dksJ6_append_2_0 13 rfl rfl)
theorem dJ6_append_2_14 : decode cJ6_append_2 14 = .ok (.aload_n 0, 1) := dk_42 (dk_at dksJ6_append_2_0 14 rfl rfl)
theorem dJ6_append_2_15 : decode cJ6_append_2 15 = .ok (.aload_n 0, 1) := dk_42 (dk_at dksJ6_append_2_0 15 rfl rfl)
theorem dJ6_append_2_16 : decode cJ6_append_2 16 = .ok (.getfield 79, 3) := dk_180 0 79 (dk_at dksJ6_append_2_0 16 rfl rfl)
theorem dJ6_append_2_19 : decode cJ6_append_2 19 = .ok (.iload_n 2, 1) := dk_28 (dk_at dksJ6_append_2_0 19 rfl rfl)
theorem dJ6_append_2_20 : decode cJ6_append_2 20 = .ok (.iadd, 1) := dk_96 (dk_at dksJ6_append_2_0 20 rfl rfl)
theorem dJ6_append_2_21 : decode cJ6_append_2 21 = .ok (.invokevirtual 100, 3) := dk_182 0 100 (dk_at dksJ6_append_2_0 21 rfl rfl)
theorem dJ6_append_2_24 : decode cJ6_append_2 24 = .ok (.aload_n 0, 1) := dk_42 (dk_at dksJ6_append_2_1 0 rfl rfl)
theorem dJ6_append_2_25 : decode cJ6_append_2 25 = .ok (.aload_n 0, 1) := dk_42 (dk_at dksJ6_append_2_1 1 rfl rfl)
theorem dJ6_append_2_26 : decode cJ6_append_2 26 = .ok (.getfield 79, 3) := dk_180 0 79 (dk_at dksJ6_append_2_1 2 rfl rfl)
theorem dJ6_append_2_29 : decode cJ6_append_2 29 = .ok (.aload_n 1, 1) := dk_43 (dk_at dksJ6_append_2_1 5 rfl rfl)
theorem dJ6_append_2_30 : decode cJ6_append_2 30 = .ok (.invokevirtual 208, 3) := dk_182 0 208 (dk_at dksJ6_append_2_1 6 rfl rfl)
theorem dJ6_append_2_33 : decode cJ6_append_2 33 = .ok (.aload_n 0, 1) := dk_42 (dk_at dksJ6_append_2_1 9 rfl rfl)
theorem dJ6_append_2_34 : decode cJ6_append_2 34 = .ok (.dup, 1) := dk_89 (dk_at dksJ6_append_2_1 10 rfl rfl)
theorem dJ6_append_2_35 : decode cJ6_append_2 35 = .ok (.getfield 79, 3) := dk_180 0 79 (dk_at dksJ6_append_2_1 11 rfl rfl)
theorem dJ6_append_2_38 : decode cJ6_append_2 38 = .ok (.iload_n 2, 1) := dk_28 (dk_at dksJ6_append_2_1 14 rfl rfl)
theorem dJ6_append_2_39 : decode cJ6_append_2 39 = .ok (.iadd, 1) := dk_96 (dk_at dksJ6_append_2_1 15 rfl rfl)
theorem dJ6_append_2_40 : decode cJ6_append_2 40 = .ok (.putfield 79, 3) := dk_181 0 79 (dk_at dksJ6_append_2_1 16 rfl rfl)
theorem dJ6_append_2_43 : decode cJ6_append_2 43 = .ok (.aload_n 0, 1) := dk_42 (dk_at dksJ6_append_2_1 19 rfl rfl)
theorem dJ6_append_2_44 : decode cJ6_append_2 44 = .ok (.areturn, 1) := dk_176 (dk_at dksJ6_append_2_1 20 rfl rfl)
abbrev cJ6_appendNull : ByteArray := prog_28_method_26_code
def yJ6_appendNull : MethodName := ⟨RJ6, "appendNull", "()Ljava/lang/AbstractStringBuilder;"⟩
def dkwJ6_appendNull_3 : List UInt8 := [184, 0, 226, 60, 42, 27, 181, 0, 79, 42, 176]
abbrev dktJ6_appendNull_3 : List UInt8 := dkwJ6_appendNull_3 ++ []
def dkwJ6_appendNull_2 : List UInt8 := [16, 108, 84, 44, 27, 132, 1, 1, 16, 108, 84, 167, 0, 17, 44, 27, 16, 110, 16, 117, 16, 108, 16, 108]
abbrev dktJ6_appendNull_2 : List UInt8 := dkwJ6_appendNull_2 ++ dktJ6_appendNull_3
def dkwJ6_appendNull_1 : List UInt8 := [153, 0, 38, 44, 27, 132, 1, 1, 16, 110, 84, 44, 27, 132, 1, 1, 16, 117, 84, 44, 27, 132, 1, 1]
abbrev dktJ6_appendNull_1 : List UInt8 := dkwJ6_appendNull_1 ++ dktJ6_appendNull_2
def dkwJ6_appendNull_0 : List UInt8 := [42, 42, 180, 0, 79, 7, 96, 182, 0, 100, 42, 180, 0, 79, 60, 42, 180, 0, 15, 77, 42, 182, 0, 83]
abbrev dktJ6_appendNull_0 : List UInt8 := dkwJ6_appendNull_0 ++ dktJ6_appendNull_1
theorem dksJ6_appendNull_0 : cJ6_appendNull.data.toList.drop 0 = dktJ6_appendNull_0 := by decide +kernel
theorem dksJ6_appendNull_1 : cJ6_appendNull.data.toList.drop 24 = dktJ6_appendNull_1 := dk_seg dksJ6_appendNull_0 24 rfl rfl
theorem dksJ6_appendNull_2 : cJ6_appendNull.data.toList.drop 48 = dktJ6_appendNull_2 := dk_seg dksJ6_appendNull_1 24 rfl rfl
theorem dksJ6_appendNull_3 : cJ6_appendNull.data.toList.drop 72 = dktJ6_appendNull_3 := dk_seg dksJ6_appendNull_2 24 rfl rfl
theorem dJ6_appendNull_0 : decode cJ6_appendNull 0 = .ok (.aload_n 0, 1) := dk_42 (dk_at dksJ6_appendNull_0 0 rfl rfl)
theorem dJ6_appendNull_1 : decode cJ6_appendNull 1 = .ok (.aload_n 0, 1) := dk_42 (dk_at dksJ6_appendNull_0 1 rfl rfl)
theorem dJ6_appendNull_2 : decode cJ6_appendNull 2 = .ok (.getfield 79, 3) := dk_180 0 79 (dk_at dksJ6_appendNull_0 2 rfl rfl)
theorem dJ6_appendNull_5 : decode cJ6_appendNull 5 = .ok (.iconst 4, 1) := dk_7 (dk_at dksJ6_appendNull_0 5 rfl rfl)
theorem dJ6_appendNull_6 : decode cJ6_appendNull 6 = .ok (.iadd, 1) := dk_96 (dk_at dksJ6_appendNull_0 6 rfl rfl)
theorem dJ6_appendNull_7 : decode cJ6_appendNull 7 = .ok (.invokevirtual 100, 3) := dk_182 0 100 (dk_at dksJ6_appendNull_0 7 rfl rfl)
theorem dJ6_appendNull_10 : decode cJ6_appendNull 10 = .ok (.aload_n 0, 1) := dk_42 (dk_at dksJ6_appendNull_0 10 rfl rfl)
theorem dJ6_appendNull_11 : decode cJ6_appendNull 11 = .ok (.getfield 79, 3) := dk_180 0 79 (dk_at dksJ6_appendNull_0 11 rfl rfl)
theorem dJ6_appendNull_14 : decode cJ6_appendNull 14 = .ok (.istore_n 1, 1) := dk_60 (dk_at dksJ6_appendNull_0 14 rfl rfl)
theorem dJ6_appendNull_15 : decode cJ6_appendNull 15 = .ok (.aload_n 0, 1) := dk_42 (dk_at dksJ6_appendNull_0 15 rfl rfl)
theorem dJ6_appendNull_16 : decode cJ6_appendNull 16 = .ok (.getfield 15, 3) := dk_180 0 15 (dk_at dksJ6_appendNull_0 16 rfl rfl)
theorem dJ6_appendNull_19 : decode cJ6_appendNull 19 = .ok (.astore_n 2, 1) := dk_77 (dk_at dksJ6_appendNull_0 19 rfl rfl)
theorem dJ6_appendNull_20 : decode cJ6_appendNull 20 = .ok (.aload_n 0, 1) := dk_42 (dk_at dksJ6_appendNull_0 20 rfl rfl)
theorem dJ6_appendNull_21 : decode cJ6_appendNull 21 = .ok (.invokevirtual 83, 3) := dk_182 0 83 (dk_at dksJ6_appendNull_0 21 rfl rfl)
theorem dJ6_appendNull_24 : decode cJ6_appendNull 24 = .ok (.ifCond .eq 38, 3) := dk_153 0 38 (dk_at dksJ6_appendNull_1 0 rfl rfl)
theorem dJ6_appendNull_27 : decode cJ6_appendNull 27 = .ok (.aload_n 2, 1) := dk_44 (dk_at dksJ6_appendNull_1 3 rfl rfl)
theorem dJ6_appendNull_28 : decode cJ6_appendNull 28 = .ok (.iload_n 1, 1) := dk_27 (dk_at dksJ6_appendNull_1 4 rfl rfl)
theorem dJ6_appendNull_29 : decode cJ6_appendNull 29 = .ok (.iinc 1 1, 3) := dk_132 1 1 (dk_at dksJ6_appendNull_1 5 rfl rfl)
theorem dJ6_appendNull_32 : decode cJ6_appendNull 32 = .ok (.bipush 110, 2) := dk_16 110 (dk_at dksJ6_appendNull_1 8 rfl rfl)
theorem dJ6_appendNull_34 : decode cJ6_appendNull 34 = .ok (.bastore, 1) := dk_84 (dk_at dksJ6_appendNull_1 10 rfl rfl)
theorem dJ6_appendNull_35 : decode cJ6_appendNull 35 = .ok (.aload_n 2, 1) := dk_44 (dk_at dksJ6_appendNull_1 11 rfl rfl)
theorem dJ6_appendNull_36 : decode cJ6_appendNull 36 = .ok (.iload_n 1, 1) := dk_27 (dk_at dksJ6_appendNull_1 12 rfl rfl)
theorem dJ6_appendNull_37 : decode cJ6_appendNull 37 = .ok (.iinc 1 1, 3) := dk_132 1 1 (dk_at dksJ6_appendNull_1 13 rfl rfl)
theorem dJ6_appendNull_40 : decode cJ6_appendNull 40 = .ok (.bipush 117, 2) := dk_16 117 (dk_at dksJ6_appendNull_1 16 rfl rfl)
theorem dJ6_appendNull_42 : decode cJ6_appendNull 42 = .ok (.bastore, 1) := dk_84 (dk_at dksJ6_appendNull_1 18 rfl rfl)
theorem dJ6_appendNull_43 : decode cJ6_appendNull 43 = .ok (.aload_n 2, 1) := dk_44 (dk_at dksJ6_appendNull_1 19 rfl rfl)
theorem dJ6_appendNull_44 : decode cJ6_appendNull 44 = .ok (.iload_n 1, 1) := dk_27 (dk_at dksJ6_appendNull_1 20 rfl rfl)
theorem dJ6_appendNull_45 : decode cJ6_appendNull 45 = .ok (.iinc 1 1, 3) := dk_132 1 1 (dk_at dksJ6_appendNull_1 21 rfl rfl)
theorem dJ6_appendNull_48 : decode cJ6_appendNull 48 = .ok (.bipush 108, 2) := dk_16 108 (dk_at dksJ6_appendNull_2 0 rfl rfl)
theorem dJ6_appendNull_50 : decode cJ6_appendNull 50 = .ok (.bastore, 1) := dk_84 (dk_at dksJ6_appendNull_2 2 rfl rfl)
theorem dJ6_appendNull_51 : decode cJ6_appendNull 51 = .ok (.aload_n 2, 1) := dk_44 (dk_at dksJ6_appendNull_2 3 rfl rfl)
theorem dJ6_appendNull_52 : decode cJ6_appendNull 52 = .ok (.iload_n 1, 1) := dk_27 (dk_at dksJ6_appendNull_2 4 rfl rfl)
theorem dJ6_appendNull_53 : decode cJ6_appendNull 53 = .ok (.iinc 1 1, 3) := dk_132 1 1 (dk_at dksJ6_appendNull_2 5 rfl rfl)
theorem dJ6_appendNull_56 : decode cJ6_appendNull 56 = .ok (.bipush 108, 2) := dk_16 108 (dk_at dksJ6_appendNull_2 8 rfl rfl)
theorem dJ6_appendNull_58 : decode cJ6_appendNull 58 = .ok (.bastore, 1) := dk_84 (dk_at dksJ6_appendNull_2 10 rfl rfl)
theorem dJ6_appendNull_59 : decode cJ6_appendNull 59 = .ok (.goto 17, 3) := dk_167 0 17 (dk_at dksJ6_appendNull_2 11 rfl rfl)
theorem dJ6_appendNull_62 : decode cJ6_appendNull 62 = .ok (.aload_n 2, 1) := dk_44 (dk_at dksJ6_appendNull_2 14 rfl rfl)
theorem dJ6_appendNull_63 : decode cJ6_appendNull 63 = .ok (.iload_n 1, 1) := dk_27 (dk_at dksJ6_appendNull_2 15 rfl rfl)
theorem dJ6_appendNull_64 : decode cJ6_appendNull 64 = .ok (.bipush 110, 2) := dk_16 110 (dk_at dksJ6_appendNull_2 16 rfl rfl)
theorem dJ6_appendNull_66 : decode cJ6_appendNull 66 = .ok (.bipush 117, 2) := dk_16 117 (dk_at dksJ6_appendNull_2 18 rfl rfl)
theorem dJ6_appendNull_68 : decode cJ6_appendNull 68 = .ok (.bipush 108, 2) := dk_16 108 (dk_at dksJ6_appendNull_2 20 rfl rfl)
theorem dJ6_appendNull_70 : decode cJ6_appendNull 70 = .ok (.bipush 108, 2) := dk_16 108 (dk_at dksJ6_appendNull_2 22 rfl rfl)
theorem dJ6_appendNull_72 : decode cJ6_appendNull 72 = .ok (.invokestatic 226, 3) := dk_184 0 226 (dk_at dksJ6_appendNull_3 0 rfl rfl)
theorem dJ6_appendNull_75 : decode cJ6_appendNull 75 = .ok (.istore_n 1, 1) := dk_60 (dk_at dksJ6_appendNull_3 3 rfl rfl)
theorem dJ6_appendNull_76 : decode cJ6_appendNull 76 = .ok (.aload_n 0, 1) := dk_42 (dk_at dksJ6_appendNull_3 4 rfl rfl)
theorem dJ6_appendNull_77 : decode cJ6_appendNull 77 = .ok (.iload_n 1, 1) := dk_27 (dk_at dksJ6_appendNull_3 5 rfl rfl)
theorem dJ6_appendNull_78 : decode cJ6_appendNull 78 = .ok (.putfield 79, 3) := dk_181 0 79 (dk_at dksJ6_appendNull_3 6 rfl rfl)
theorem dJ6_appendNull_81 : decode cJ6_appendNull 81 = .ok (.aload_n 0, 1) := dk_42 (dk_at dksJ6_appendNull_3 9 rfl rfl)
theorem dJ6_appendNull_82 : decode cJ6_appendNull 82 = .ok (.areturn, 1) := dk_176 (dk_at dksJ6_appendNull_3 10 rfl rfl)
abbrev cJ6_putStringAt : ByteArray := prog_28_method_73_code
def yJ6_putStringAt : MethodName := ⟨RJ6, "putStringAt", "(ILjava/lang/String;)V"⟩
def dkwJ6_putStringAt_0 : List UInt8 := [42, 44, 182, 1, 141, 44, 42, 180, 0, 15, 27, 42, 180, 0, 22, 182, 1, 143, 177]
abbrev dktJ6_putStringAt_0 : List UInt8 := dkwJ6_putStringAt_0 ++ []
theorem dksJ6_putStringAt_0 : cJ6_putStringAt.data.toList.drop 0 = dktJ6_putStringAt_0 := by decide +kernel
theorem dJ6_putStringAt_0 : decode cJ6_putStringAt 0 = .ok (.aload_n 0, 1) := dk_42 (dk_at dksJ6_putStringAt_0 0 rfl rfl)
theorem dJ6_putStringAt_1 : decode cJ6_putStringAt 1 = .ok (.aload_n 2, 1) := dk_44 (dk_at dksJ6_putStringAt_0 1 rfl rfl)
theorem dJ6_putStringAt_2 : decode cJ6_putStringAt 2 = .ok (.invokevirtual 397, 3) := dk_182 1 141 (dk_at dksJ6_putStringAt_0 2 rfl rfl)
theorem dJ6_putStringAt_5 : decode cJ6_putStringAt 5 = .ok (.aload_n 2, 1) := dk_44 (dk_at dksJ6_putStringAt_0 5 rfl rfl)
theorem dJ6_putStringAt_6 : decode cJ6_putStringAt 6 = .ok (.aload_n 0, 1) := dk_42 (dk_at dksJ6_putStringAt_0 6 rfl rfl)
theorem dJ6_putStringAt_7 : decode cJ6_putStringAt 7 = .ok (.getfield 15, 3) := dk_180 0 15 (dk_at dksJ6_putStringAt_0 7 rfl rfl)
theorem dJ6_putStringAt_10 : decode cJ6_putStringAt 10 = .ok (.iload_n 1, 1) := dk_27 (dk_at dksJ6_putStringAt_0 10 rfl rfl)
theorem dJ6_putStringAt_11 : decode cJ6_putStringAt 11 = .ok (.aload_n 0, 1) := dk_42 (dk_at dksJ6_putStringAt_0 11 rfl rfl)
theorem dJ6_putStringAt_12 : decode cJ6_putStringAt 12 = .ok (.getfield 22, 3) := dk_180 0 22 (dk_at dksJ6_putStringAt_0 12 rfl rfl)
theorem dJ6_putStringAt_15 : decode cJ6_putStringAt 15 = .ok (.invokevirtual 399, 3) := dk_182 1 143 (dk_at dksJ6_putStringAt_0 15 rfl rfl)
theorem dJ6_putStringAt_18 : decode cJ6_putStringAt 18 = .ok (.return_, 1) := dk_177 (dk_at dksJ6_putStringAt_0 18 rfl rfl)
abbrev cJ6_inflateIfNeededFor : ByteArray := prog_28_method_71_code
def yJ6_inflateIfNeededFor : MethodName := ⟨RJ6, "inflateIfNeededFor", "(Ljava/lang/String;)V"⟩
def dkwJ6_inflateIfNeededFor_0 : List UInt8 := [178, 0, 18, 153, 0, 18, 42, 180, 0, 22, 43, 182, 0, 40, 159, 0, 7, 42, 182, 0, 195, 177]
abbrev dktJ6_inflateIfNeededFor_0 : List UInt8 := dkwJ6_inflateIfNeededFor_0 ++ []
theorem dksJ6_inflateIfNeededFor_0 : cJ6_inflateIfNeededFor.data.toList.drop 0 = dktJ6_inflateIfNeededFor_0 := by decide +kernel
theorem dJ6_inflateIfNeededFor_0 : decode cJ6_inflateIfNeededFor 0 = .ok (.getstatic 18, 3) := dk_178 0 18 (dk_at dksJ6_inflateIfNeededFor_0 0 rfl rfl)
theorem dJ6_inflateIfNeededFor_3 : decode cJ6_inflateIfNeededFor 3 = .ok (.ifCond .eq 18, 3) := dk_153 0 18 (dk_at dksJ6_inflateIfNeededFor_0 3 rfl rfl)
theorem dJ6_inflateIfNeededFor_6 : decode cJ6_inflateIfNeededFor 6 = .ok (.aload_n 0, 1) := dk_42 (dk_at dksJ6_inflateIfNeededFor_0 6 rfl rfl)
theorem dJ6_inflateIfNeededFor_7 : decode cJ6_inflateIfNeededFor 7 = .ok (.getfield 22, 3) := dk_180 0 22 (dk_at dksJ6_inflateIfNeededFor_0 7 rfl rfl)
theorem dJ6_inflateIfNeededFor_10 : decode cJ6_inflateIfNeededFor 10 = .ok (.aload_n 1, 1) := dk_43 (dk_at dksJ6_inflateIfNeededFor_0 10 rfl rfl)
theorem dJ6_inflateIfNeededFor_11 : decode cJ6_inflateIfNeededFor 11 = .ok (.invokevirtual 40, 3) := dk_182 0 40 (dk_at dksJ6_inflateIfNeededFor_0 11 rfl rfl)
theorem dJ6_inflateIfNeededFor_14 : decode cJ6_inflateIfNeededFor 14 = .ok (.if_icmp .eq 7, 3) := dk_159 0 7 (dk_at dksJ6_inflateIfNeededFor_0 14 rfl rfl)
theorem dJ6_inflateIfNeededFor_17 : decode cJ6_inflateIfNeededFor 17 = .ok (.aload_n 0, 1) := dk_42 (dk_at dksJ6_inflateIfNeededFor_0 17 rfl rfl)
theorem dJ6_inflateIfNeededFor_18 : decode cJ6_inflateIfNeededFor 18 = .ok (.invokevirtual 195, 3) := dk_182 0 195 (dk_at dksJ6_inflateIfNeededFor_0 18 rfl rfl)
theorem dJ6_inflateIfNeededFor_21 : decode cJ6_inflateIfNeededFor 21 = .ok (.return_, 1) := dk_177 (dk_at dksJ6_inflateIfNeededFor_0 21 rfl rfl)
abbrev cJ6_init_2 : ByteArray := prog_28_method_3_code
def yJ6_init_2 : MethodName := ⟨RJ6, "<init>", "(Ljava/lang/String;)V"⟩
def dkwJ6_init_2_2 : List UInt8 := [167, 0, 7, 29, 184, 0, 26, 181, 0, 15, 42, 43, 182, 0, 43, 87, 177]
abbrev dktJ6_init_2_2 : List UInt8 := dkwJ6_init_2_2 ++ []
def dkwJ6_init_2_1 : List UInt8 := [62, 43, 182, 0, 40, 54, 4, 42, 21, 4, 181, 0, 22, 42, 21, 4, 154, 0, 9, 29, 188, 8]
abbrev dktJ6_init_2_1 : List UInt8 := dkwJ6_init_2_1 ++ dktJ6_init_2_2
def dkwJ6_init_2_0 : List UInt8 := [42, 183, 0, 3, 43, 182, 0, 32, 61, 28, 18, 38, 162, 0, 10, 28, 16, 16, 96, 167, 0, 5, 18, 39]
abbrev dktJ6_init_2_0 : List UInt8 := dkwJ6_init_2_0 ++ dktJ6_init_2_1
theorem dksJ6_init_2_0 : cJ6_init_2.data.toList.drop 0 = dktJ6_init_2_0 := by decide +kernel
theorem dksJ6_init_2_1 : cJ6_init_2.data.toList.drop 24 = dktJ6_init_2_1 := dk_seg dksJ6_init_2_0 24 rfl rfl
theorem dksJ6_init_2_2 : cJ6_init_2.data.toList.drop 46 = dktJ6_init_2_2 := dk_seg dksJ6_init_2_1 22 rfl rfl
theorem dJ6_init_2_0 : decode cJ6_init_2 0 = .ok (.aload_n 0, 1) := dk_42 (dk_at dksJ6_init_2_0 0 rfl rfl)
theorem dJ6_init_2_1 : decode cJ6_init_2 1 = .ok (.invokespecial 3, 3) := dk_183 0 3 (dk_at dksJ6_init_2_0 1 rfl rfl)
theorem dJ6_init_2_4 : decode cJ6_init_2 4 = .ok (.aload_n 1, 1) := dk_43 (dk_at dksJ6_init_2_0 4 rfl rfl)
theorem dJ6_init_2_5 : decode cJ6_init_2 5 = .ok (.invokevirtual 32, 3) := dk_182 0 32 (dk_at dksJ6_init_2_0 5 rfl rfl)
theorem dJ6_init_2_8 : decode cJ6_init_2 8 = .ok (.istore_n 2, 1) := dk_61 (dk_at dksJ6_init_2_0 8 rfl rfl)
theorem dJ6_init_2_9 : decode cJ6_init_2 9 = .ok (.iload_n 2, 1) := dk_28 (dk_at dksJ6_init_2_0 9 rfl rfl)
theorem dJ6_init_2_10 : decode cJ6_init_2 10 = .ok (.ldc 38, 2) := dk_18 38 (dk_at dksJ6_init_2_0 10 rfl rfl)
theorem dJ6_init_2_12 : decode cJ6_init_2 12 = .ok (.if_icmp .ge 10, 3) := dk_162 0 10 (dk_at dksJ6_init_2_0 12 rfl rfl)
theorem dJ6_init_2_15 : decode cJ6_init_2 15 = .ok (.iload_n 2, 1) := dk_28 (dk_at dksJ6_init_2_0 15 rfl rfl)
theorem dJ6_init_2_16 : decode cJ6_init_2 16 = .ok (.bipush 16, 2) := dk_16 16 (dk_at dksJ6_init_2_0 16 rfl rfl)
theorem dJ6_init_2_18 : decode cJ6_init_2 18 = .ok (.iadd, 1) := dk_96 (dk_at dksJ6_init_2_0 18 rfl rfl)
theorem dJ6_init_2_19 : decode cJ6_init_2 19 = .ok (.goto 5, 3) := dk_167 0 5 (dk_at dksJ6_init_2_0 19 rfl rfl)
theorem dJ6_init_2_22 : decode cJ6_init_2 22 = .ok (.ldc 39, 2) := dk_18 39 (dk_at dksJ6_init_2_0 22 rfl rfl)
theorem dJ6_init_2_24 : decode cJ6_init_2 24 = .ok (.istore_n 3, 1) := dk_62 (dk_at dksJ6_init_2_1 0 rfl rfl)
theorem dJ6_init_2_25 : decode cJ6_init_2 25 = .ok (.aload_n 1, 1) := dk_43 (dk_at dksJ6_init_2_1 1 rfl rfl)
theorem dJ6_init_2_26 : decode cJ6_init_2 26 = .ok (.invokevirtual 40, 3) := dk_182 0 40 (dk_at dksJ6_init_2_1 2 rfl rfl)
theorem dJ6_init_2_29 : decode cJ6_init_2 29 = .ok (.istore 4, 2) := dk_54 4 (dk_at dksJ6_init_2_1 5 rfl rfl)
theorem dJ6_init_2_31 : decode cJ6_init_2 31 = .ok (.aload_n 0, 1) := dk_42 (dk_at dksJ6_init_2_1 7 rfl rfl)
theorem dJ6_init_2_32 : decode cJ6_init_2 32 = .ok (.iload 4, 2) := dk_21 4 (dk_at dksJ6_init_2_1 8 rfl rfl)
theorem dJ6_init_2_34 : decode cJ6_init_2 34 = .ok (.putfield 22, 3) := dk_181 0 22 (dk_at dksJ6_init_2_1 10 rfl rfl)
theorem dJ6_init_2_37 : decode cJ6_init_2 37 = .ok (.aload_n 0, 1) := dk_42 (dk_at dksJ6_init_2_1 13 rfl rfl)
theorem dJ6_init_2_38 : decode cJ6_init_2 38 = .ok (.iload 4, 2) := dk_21 4 (dk_at dksJ6_init_2_1 14 rfl rfl)
theorem dJ6_init_2_40 : decode cJ6_init_2 40 = .ok (.ifCond .ne 9, 3) := dk_154 0 9 (dk_at dksJ6_init_2_1 16 rfl rfl)
theorem dJ6_init_2_43 : decode cJ6_init_2 43 = .ok (.iload_n 3, 1) := dk_29 (dk_at dksJ6_init_2_1 19 rfl rfl)
theorem dJ6_init_2_44 : decode cJ6_init_2 44 = .ok (.newarray .byte, 2) := dk_188_8 (dk_at dksJ6_init_2_1 20 rfl rfl)
theorem dJ6_init_2_46 : decode cJ6_init_2 46 = .ok (.goto 7, 3) := dk_167 0 7 (dk_at dksJ6_init_2_2 0 rfl rfl)
theorem dJ6_init_2_49 : decode cJ6_init_2 49 = .ok (.iload_n 3, 1) := dk_29 (dk_at dksJ6_init_2_2 3 rfl rfl)
theorem dJ6_init_2_50 : decode cJ6_init_2 50 = .ok (.invokestatic 26, 3) := dk_184 0 26 (dk_at dksJ6_init_2_2 4 rfl rfl)
theorem dJ6_init_2_53 : decode cJ6_init_2 53 = .ok (.putfield 15, 3) := dk_181 0 15 (dk_at dksJ6_init_2_2 7 rfl rfl)
theorem dJ6_init_2_56 : decode cJ6_init_2 56 = .ok (.aload_n 0, 1) := dk_42 (dk_at dksJ6_init_2_2 10 rfl rfl)
theorem dJ6_init_2_57 : decode cJ6_init_2 57 = .ok (.aload_n 1, 1) := dk_43 (dk_at dksJ6_init_2_2 11 rfl rfl)
theorem dJ6_init_2_58 : decode cJ6_init_2 58 = .ok (.invokevirtual 43, 3) := dk_182 0 43 (dk_at dksJ6_init_2_2 12 rfl rfl)
theorem dJ6_init_2_61 : decode cJ6_init_2 61 = .ok (.pop, 1) := dk_87 (dk_at dksJ6_init_2_2 15 rfl rfl)
theorem dJ6_init_2_62 : decode cJ6_init_2 62 = .ok (.return_, 1) := dk_177 (dk_at dksJ6_init_2_2 16 rfl rfl)
abbrev cJ7_init : ByteArray := prog_39_method_1_code
def yJ7_init : MethodName := ⟨RJ7, "<init>", "()V"⟩
def dkwJ7_init_0 : List UInt8 := [42, 16, 16, 183, 0, 1, 177]
abbrev dktJ7_init_0 : List UInt8 := dkwJ7_init_0 ++ []
theorem dksJ7_init_0 : cJ7_init.data.toList.drop 0 = dktJ7_init_0 := by decide +kernel
theorem dJ7_init_0 : decode cJ7_init 0 = .ok (.aload_n 0, 1) := dk_42 (dk_at dksJ7_init_0 0 rfl rfl)
theorem dJ7_init_1 : decode cJ7_init 1 = .ok (.bipush 16, 2) := dk_16 16 (dk_at dksJ7_init_0 1 rfl rfl)
theorem dJ7_init_3 : decode cJ7_init 3 = .ok (.invokespecial 1, 3) := dk_183 0 1 (dk_at dksJ7_init_0 3 rfl rfl)
theorem dJ7_init_6 : decode cJ7_init 6 = .ok (.return_, 1) := dk_177 (dk_at dksJ7_init_0 6 rfl rfl)
abbrev cJ7_append : ByteArray := prog_39_method_14_code
def yJ7_append : MethodName := ⟨RJ7, "append", "(C)Ljava/lang/StringBuilder;"⟩
def dkwJ7_append_0 : List UInt8 := [42, 27, 183, 0, 50, 87, 42, 176]
abbrev dktJ7_append_0 : List UInt8 := dkwJ7_append_0 ++ []
theorem dksJ7_append_0 : cJ7_append.data.toList.drop 0 = dktJ7_append_0 := by decide +kernel
theorem dJ7_append_0 : decode cJ7_append 0 = .ok (.aload_n 0, 1) := dk_42 (dk_at dksJ7_append_0 0 rfl rfl)
theorem dJ7_append_1 : decode cJ7_append 1 = .ok (.iload_n 1, 1) := dk_27 (dk_at dksJ7_append_0 1 rfl rfl)
theorem dJ7_append_2 : decode cJ7_append 2 = .ok (.invokespecial 50, 3) := dk_183 0 50 (dk_at dksJ7_append_0 2 rfl rfl)
theorem dJ7_append_5 : decode cJ7_append 5 = .ok (.pop, 1) := dk_87 (dk_at dksJ7_append_0 5 rfl rfl)
theorem dJ7_append_6 : decode cJ7_append 6 = .ok (.aload_n 0, 1) := dk_42 (dk_at dksJ7_append_0 6 rfl rfl)
theorem dJ7_append_7 : decode cJ7_append 7 = .ok (.areturn, 1) := dk_176 (dk_at dksJ7_append_0 7 rfl rfl)
abbrev cJ7_toString : ByteArray := prog_39_method_42_code
def yJ7_toString : MethodName := ⟨RJ7, "toString", "()Ljava/lang/String;"⟩
def dkwJ7_toString_0 : List UInt8 := [187, 0, 18, 89, 42, 183, 0, 137, 176]
abbrev dktJ7_toString_0 : List UInt8 := dkwJ7_toString_0 ++ []
theorem dksJ7_toString_0 : cJ7_toString.data.toList.drop 0 = dktJ7_toString_0 := by decide +kernel
theorem dJ7_toString_0 : decode cJ7_toString 0 = .ok (.new 18, 3) := dk_187 0 18 (dk_at dksJ7_toString_0 0 rfl rfl)
theorem dJ7_toString_3 : decode cJ7_toString 3 = .ok (.dup, 1) := dk_89 (dk_at dksJ7_toString_0 3 rfl rfl)
theorem dJ7_toString_4 : decode cJ7_toString 4 = .ok (.aload_n 0, 1) := dk_42 (dk_at dksJ7_toString_0 4 rfl rfl)
theorem dJ7_toString_5 : decode cJ7_toString 5 = .ok (.invokespecial 137, 3) := dk_183 0 137 (dk_at dksJ7_toString_0 5 rfl rfl)
theorem dJ7_toString_8 : decode cJ7_toString 8 = .ok (.areturn, 1) := dk_176 (dk_at dksJ7_toString_0 8 rfl rfl)
abbrev cJ7_length : ByteArray := prog_39_method_93_code
def yJ7_length : MethodName := ⟨RJ7, "length", "()I"⟩
theorem dJ7_length_0 : decode cJ7_length 0 = .ok (.aload_n 0, 1) := by decide +kernel
theorem dJ7_length_1 : decode cJ7_length 1 = .ok (.invokespecial 343, 3) := by decide +kernel
theorem dJ7_length_4 : decode cJ7_length 4 = .ok (.ireturn, 1) := by decide +kernel
abbrev cJ7_append_2 : ByteArray := prog_39_method_7_code
def yJ7_append_2 : MethodName := ⟨RJ7, "append", "(Ljava/lang/String;)Ljava/lang/StringBuilder;"⟩
def dkwJ7_append_2_0 : List UInt8 := [42, 43, 183, 0, 29, 87, 42, 176]
abbrev dktJ7_append_2_0 : List UInt8 := dkwJ7_append_2_0 ++ []
theorem dksJ7_append_2_0 : cJ7_append_2.data.toList.drop 0 = dktJ7_append_2_0 := by decide +kernel
theorem dJ7_append_2_0 : decode cJ7_append_2 0 = .ok (.aload_n 0, 1) := dk_42 (dk_at dksJ7_append_2_0 0 rfl rfl)
theorem dJ7_append_2_1 : decode cJ7_append_2 1 = .ok (.aload_n 1, 1) := dk_43 (dk_at dksJ7_append_2_0 1 rfl rfl)
theorem dJ7_append_2_2 : decode cJ7_append_2 2 = .ok (.invokespecial 29, 3) := dk_183 0 29 (dk_at dksJ7_append_2_0 2 rfl rfl)
theorem dJ7_append_2_5 : decode cJ7_append_2 5 = .ok (.pop, 1) := dk_87 (dk_at dksJ7_append_2_0 5 rfl rfl)
theorem dJ7_append_2_6 : decode cJ7_append_2 6 = .ok (.aload_n 0, 1) := dk_42 (dk_at dksJ7_append_2_0 6 rfl rfl)
theorem dJ7_append_2_7 : decode cJ7_append_2 7 = .ok (.areturn, 1) := dk_176 (dk_at dksJ7_append_2_0 7 rfl rfl)
abbrev cJ7_init_2 : ByteArray := prog_39_method_3_code
def yJ7_init_2 : MethodName := ⟨RJ7, "<init>", "(Ljava/lang/String;)V"⟩
def dkwJ7_init_2_0 : List UInt8 := [42, 43, 183, 0, 7, 177]
abbrev dktJ7_init_2_0 : List UInt8 := dkwJ7_init_2_0 ++ []
theorem dksJ7_init_2_0 : cJ7_init_2.data.toList.drop 0 = dktJ7_init_2_0 := by decide +kernel
theorem dJ7_init_2_0 : decode cJ7_init_2 0 = .ok (.aload_n 0, 1) := dk_42 (dk_at dksJ7_init_2_0 0 rfl rfl)
theorem dJ7_init_2_1 : decode cJ7_init_2 1 = .ok (.aload_n 1, 1) := dk_43 (dk_at dksJ7_init_2_0 1 rfl rfl)
theorem dJ7_init_2_2 : decode cJ7_init_2 2 = .ok (.invokespecial 7, 3) := dk_183 0 7 (dk_at dksJ7_init_2_0 2 rfl rfl)
theorem dJ7_init_2_5 : decode cJ7_init_2 5 = .ok (.return_, 1) := dk_177 (dk_at dksJ7_init_2_0 5 rfl rfl)
abbrev cJ7_append_3 : ByteArray := prog_39_method_80_code
def yJ7_append_3 : MethodName := ⟨RJ7, "append", "(Ljava/lang/String;)Ljava/lang/AbstractStringBuilder;"⟩
def dkwJ7_append_3_0 : List UInt8 := [42, 43, 182, 0, 23, 176]
abbrev dktJ7_append_3_0 : List UInt8 := dkwJ7_append_3_0 ++ []
theorem dksJ7_append_3_0 : cJ7_append_3.data.toList.drop 0 = dktJ7_append_3_0 := by decide +kernel
theorem dJ7_append_3_0 : decode cJ7_append_3 0 = .ok (.aload_n 0, 1) := dk_42 (dk_at dksJ7_append_3_0 0 rfl rfl)
theorem dJ7_append_3_1 : decode cJ7_append_3 1 = .ok (.aload_n 1, 1) := dk_43 (dk_at dksJ7_append_3_0 1 rfl rfl)
theorem dJ7_append_3_2 : decode cJ7_append_3 2 = .ok (.invokevirtual 23, 3) := dk_182 0 23 (dk_at dksJ7_append_3_0 2 rfl rfl)
theorem dJ7_append_3_5 : decode cJ7_append_3 5 = .ok (.areturn, 1) := dk_176 (dk_at dksJ7_append_3_0 5 rfl rfl)
abbrev cJ8_checkBoundsOffCount : ByteArray := prog_38_method_157_code
def yJ8_checkBoundsOffCount : MethodName := ⟨RJ8, "checkBoundsOffCount", "(III)I"⟩
def dkwJ8_checkBoundsOffCount_0 : List UInt8 := [26, 27, 28, 178, 4, 29, 184, 4, 41, 172]
abbrev dktJ8_checkBoundsOffCount_0 : List UInt8 := dkwJ8_checkBoundsOffCount_0 ++ []
theorem dksJ8_checkBoundsOffCount_0 : cJ8_checkBoundsOffCount.data.toList.drop 0 = dktJ8_checkBoundsOffCount_0 := by decide +kernel
theorem dJ8_checkBoundsOffCount_0 : decode cJ8_checkBoundsOffCount 0 = .ok (.iload_n 0, 1) := dk_26 (dk_at dksJ8_checkBoundsOffCount_0 0 rfl rfl)
theorem dJ8_checkBoundsOffCount_1 : decode cJ8_checkBoundsOffCount 1 = .ok (.iload_n 1, 1) := dk_27 (dk_at dksJ8_checkBoundsOffCount_0 1 rfl rfl)
theorem dJ8_checkBoundsOffCount_2 : decode cJ8_checkBoundsOffCount 2 = .ok (.iload_n 2, 1) := dk_28 (dk_at dksJ8_checkBoundsOffCount_0 2 rfl rfl)
theorem dJ8_checkBoundsOffCount_3 : decode cJ8_checkBoundsOffCount 3 = .ok (.getstatic 1053, 3) := dk_178 4 29 (dk_at dksJ8_checkBoundsOffCount_0 3 rfl rfl)
theorem dJ8_checkBoundsOffCount_6 : decode cJ8_checkBoundsOffCount 6 = .ok (.invokestatic 1065, 3) := dk_184 4 41 (dk_at dksJ8_checkBoundsOffCount_0 6 rfl rfl)
theorem dJ8_checkBoundsOffCount_9 : decode cJ8_checkBoundsOffCount 9 = .ok (.ireturn, 1) := dk_172 (dk_at dksJ8_checkBoundsOffCount_0 9 rfl rfl)
abbrev cJ8_checkIndex : ByteArray := prog_38_method_155_code
def yJ8_checkIndex : MethodName := ⟨RJ8, "checkIndex", "(II)V"⟩
def dkwJ8_checkIndex_0 : List UInt8 := [26, 27, 178, 4, 29, 184, 4, 35, 87, 177]
abbrev dktJ8_checkIndex_0 : List UInt8 := dkwJ8_checkIndex_0 ++ []
theorem dksJ8_checkIndex_0 : cJ8_checkIndex.data.toList.drop 0 = dktJ8_checkIndex_0 := by decide +kernel
theorem dJ8_checkIndex_0 : decode cJ8_checkIndex 0 = .ok (.iload_n 0, 1) := dk_26 (dk_at dksJ8_checkIndex_0 0 rfl rfl)
theorem dJ8_checkIndex_1 : decode cJ8_checkIndex 1 = .ok (.iload_n 1, 1) := dk_27 (dk_at dksJ8_checkIndex_0 1 rfl rfl)
theorem dJ8_checkIndex_2 : decode cJ8_checkIndex 2 = .ok (.getstatic 1053, 3) := dk_178 4 29 (dk_at dksJ8_checkIndex_0 2 rfl rfl)
theorem dJ8_checkIndex_5 : decode cJ8_checkIndex 5 = .ok (.invokestatic 1059, 3) := dk_184 4 35 (dk_at dksJ8_checkIndex_0 5 rfl rfl)
theorem dJ8_checkIndex_8 : decode cJ8_checkIndex 8 = .ok (.pop, 1) := dk_87 (dk_at dksJ8_checkIndex_0 8 rfl rfl)
theorem dJ8_checkIndex_9 : decode cJ8_checkIndex 9 = .ok (.return_, 1) := dk_177 (dk_at dksJ8_checkIndex_0 9 rfl rfl)
abbrev cJ8_init : ByteArray := prog_38_method_53_code
def yJ8_init : MethodName := ⟨RJ8, "<init>", "(Ljava/lang/StringBuilder;)V"⟩
def dkwJ8_init_0 : List UInt8 := [42, 43, 1, 183, 1, 233, 177]
abbrev dktJ8_init_0 : List UInt8 := dkwJ8_init_0 ++ []
theorem dksJ8_init_0 : cJ8_init.data.toList.drop 0 = dktJ8_init_0 := by decide +kernel
theorem dJ8_init_0 : decode cJ8_init 0 = .ok (.aload_n 0, 1) := dk_42 (dk_at dksJ8_init_0 0 rfl rfl)
theorem dJ8_init_1 : decode cJ8_init 1 = .ok (.aload_n 1, 1) := dk_43 (dk_at dksJ8_init_0 1 rfl rfl)
theorem dJ8_init_2 : decode cJ8_init 2 = .ok (.aconst_null, 1) := dk_1 (dk_at dksJ8_init_0 2 rfl rfl)
theorem dJ8_init_3 : decode cJ8_init 3 = .ok (.invokespecial 489, 3) := dk_183 1 233 (dk_at dksJ8_init_0 3 rfl rfl)
theorem dJ8_init_6 : decode cJ8_init 6 = .ok (.return_, 1) := dk_177 (dk_at dksJ8_init_0 6 rfl rfl)
abbrev cJ8_init_2 : ByteArray := prog_38_method_150_code
def yJ8_init_2 : MethodName := ⟨RJ8, "<init>", "(Ljava/lang/AbstractStringBuilder;Ljava/lang/Void;)V"⟩
def dkwJ8_init_2_4 : List UInt8 := [181, 0, 9, 177]
abbrev dktJ8_init_2_4 : List UInt8 := dkwJ8_init_2_4 ++ []
def dkwJ8_init_2_3 : List UInt8 := [184, 0, 47, 181, 0, 15, 177, 42, 4, 181, 0, 15, 42, 45, 3, 21, 4, 4, 120, 184, 0, 54]
abbrev dktJ8_init_2_3 : List UInt8 := dkwJ8_init_2_3 ++ dktJ8_init_2_4
def dkwJ8_init_2_2 : List UInt8 := [180, 4, 24, 153, 0, 28, 42, 45, 3, 21, 4, 184, 4, 27, 181, 0, 9, 42, 42, 180, 0, 9, 21, 4]
abbrev dktJ8_init_2_2 : List UInt8 := dkwJ8_init_2_2 ++ dktJ8_init_2_3
def dkwJ8_init_2_1 : List UInt8 := [181, 0, 15, 42, 45, 3, 21, 4, 184, 0, 54, 181, 0, 9, 167, 0, 59, 178, 0, 38, 153, 0, 35, 43]
abbrev dktJ8_init_2_1 : List UInt8 := dkwJ8_init_2_1 ++ dktJ8_init_2_2
def dkwJ8_init_2_0 : List UInt8 := [42, 183, 0, 1, 43, 182, 2, 40, 78, 43, 182, 2, 37, 54, 4, 43, 182, 4, 23, 153, 0, 22, 42, 3]
abbrev dktJ8_init_2_0 : List UInt8 := dkwJ8_init_2_0 ++ dktJ8_init_2_1
theorem dksJ8_init_2_0 : cJ8_init_2.data.toList.drop 0 = dktJ8_init_2_0 := by decide +kernel
theorem dksJ8_init_2_1 : cJ8_init_2.data.toList.drop 24 = dktJ8_init_2_1 := dk_seg dksJ8_init_2_0 24 rfl rfl
theorem dksJ8_init_2_2 : cJ8_init_2.data.toList.drop 48 = dktJ8_init_2_2 := dk_seg dksJ8_init_2_1 24 rfl rfl
theorem dksJ8_init_2_3 : cJ8_init_2.data.toList.drop 72 = dktJ8_init_2_3 := dk_seg dksJ8_init_2_2 24 rfl rfl
theorem dksJ8_init_2_4 : cJ8_init_2.data.toList.drop 94 = dktJ8_init_2_4 := dk_seg dksJ8_init_2_3 22 rfl rfl
theorem dJ8_init_2_0 : decode cJ8_init_2 0 = .ok (.aload_n 0, 1) := dk_42 (dk_at dksJ8_init_2_0 0 rfl rfl)
theorem dJ8_init_2_1 : decode cJ8_init_2 1 = .ok (.invokespecial 1, 3) := dk_183 0 1 (dk_at dksJ8_init_2_0 1 rfl rfl)
theorem dJ8_init_2_4 : decode cJ8_init_2 4 = .ok (.aload_n 1, 1) := dk_43 (dk_at dksJ8_init_2_0 4 rfl rfl)
theorem dJ8_init_2_5 : decode cJ8_init_2 5 = .ok (.invokevirtual 552, 3) := dk_182 2 40 (dk_at dksJ8_init_2_0 5 rfl rfl)
theorem dJ8_init_2_8 : decode cJ8_init_2 8 = .ok (.astore_n 3, 1) := dk_78 (dk_at dksJ8_init_2_0 8 rfl rfl)
theorem dJ8_init_2_9 : decode cJ8_init_2 9 = .ok (.aload_n 1, 1) := dk_43 (dk_at dksJ8_init_2_0 9 rfl rfl)
theorem dJ8_init_2_10 : decode cJ8_init_2 10 = .ok (.invokevirtual 549, 3) := dk_182 2 37 (dk_at dksJ8_init_2_0 10 rfl rfl)
theorem dJ8_init_2_13 : decode cJ8_init_2 13 = .ok (.istore 4, 2) := dk_54 4 (dk_at dksJ8_init_2_0 13 rfl rfl)
theorem dJ8_init_2_15 : decode cJ8_init_2 15 = .ok (.aload_n 1, 1) := dk_43 (dk_at dksJ8_init_2_0 15 rfl rfl)
theorem dJ8_init_2_16 : decode cJ8_init_2 16 = .ok (.invokevirtual 1047, 3) := dk_182 4 23 (dk_at dksJ8_init_2_0 16 rfl rfl)
theorem dJ8_init_2_19 : decode cJ8_init_2 19 = .ok (.ifCond .eq 22, 3) := dk_153 0 22 (dk_at dksJ8_init_2_0 19 rfl rfl)
theorem dJ8_init_2_22 : decode cJ8_init_2 22 = .ok (.aload_n 0, 1) := dk_42 (dk_at dksJ8_init_2_0 22 rfl rfl)
theorem dJ8_init_2_23 : decode cJ8_init_2 23 = .ok (.iconst 0, 1) := dk_3 (dk_at dksJ8_init_2_0 23 rfl rfl)
theorem dJ8_init_2_24 : decode cJ8_init_2 24 = .ok (.putfield 15, 3) := dk_181 0 15 (dk_at dksJ8_init_2_1 0 rfl rfl)
theorem dJ8_init_2_27 : decode cJ8_init_2 27 = .ok (.aload_n 0, 1) := dk_42 (dk_at dksJ8_init_2_1 3 rfl rfl)
theorem dJ8_init_2_28 : decode cJ8_init_2 28 = .ok (.aload_n 3, 1) := dk_45 (dk_at dksJ8_init_2_1 4 rfl rfl)
theorem dJ8_init_2_29 : decode cJ8_init_2 29 = .ok (.iconst 0, 1) := dk_3 (dk_at dksJ8_init_2_1 5 rfl rfl)
theorem dJ8_init_2_30 : decode cJ8_init_2 30 = .ok (.iload 4, 2) := dk_21 4 (dk_at dksJ8_init_2_1 6 rfl rfl)
theorem dJ8_init_2_32 : decode cJ8_init_2 32 = .ok (.invokestatic 54, 3) := dk_184 0 54 (dk_at dksJ8_init_2_1 8 rfl rfl)
theorem dJ8_init_2_35 : decode cJ8_init_2 35 = .ok (.putfield 9, 3) := dk_181 0 9 (dk_at dksJ8_init_2_1 11 rfl rfl)
theorem dJ8_init_2_38 : decode cJ8_init_2 38 = .ok (.goto 59, 3) := dk_167 0 59 (dk_at dksJ8_init_2_1 14 rfl rfl)
theorem dJ8_init_2_41 : decode cJ8_init_2 41 = .ok (.getstatic 38, 3) := dk_178 0 38 (dk_at dksJ8_init_2_1 17 rfl rfl)
theorem dJ8_init_2_44 : decode cJ8_init_2 44 = .ok (.ifCond .eq 35, 3) := dk_153 0 35 (dk_at dksJ8_init_2_1 20 rfl rfl)
theorem dJ8_init_2_47 : decode cJ8_init_2 47 = .ok (.aload_n 1, 1) := dk_43 (dk_at dksJ8_init_2_1 23 rfl rfl)
theorem dJ8_init_2_48 : decode cJ8_init_2 48 = .ok (.getfield 1048, 3) := dk_180 4 24 (dk_at dksJ8_init_2_2 0 rfl rfl)
theorem dJ8_init_2_51 : decode cJ8_init_2 51 = .ok (.ifCond .eq 28, 3) := dk_153 0 28 (dk_at dksJ8_init_2_2 3 rfl rfl)
theorem dJ8_init_2_54 : decode cJ8_init_2 54 = .ok (.aload_n 0, 1) := dk_42 (dk_at dksJ8_init_2_2 6 rfl rfl)
theorem dJ8_init_2_55 : decode cJ8_init_2 55 = .ok (.aload_n 3, 1) := dk_45 (dk_at dksJ8_init_2_2 7 rfl rfl)
theorem dJ8_init_2_56 : decode cJ8_init_2 56 = .ok (.iconst 0, 1) := dk_3 (dk_at dksJ8_init_2_2 8 rfl rfl)
theorem dJ8_init_2_57 : decode cJ8_init_2 57 = .ok (.iload 4, 2) := dk_21 4 (dk_at dksJ8_init_2_2 9 rfl rfl)
theorem dJ8_init_2_59 : decode cJ8_init_2 59 = .ok (.invokestatic 1051, 3) := dk_184 4 27 (dk_at dksJ8_init_2_2 11 rfl rfl)
theorem dJ8_init_2_62 : decode cJ8_init_2 62 = .ok (.putfield 9, 3) := dk_181 0 9 (dk_at dksJ8_init_2_2 14 rfl rfl)
theorem dJ8_init_2_65 : decode cJ8_init_2 65 = .ok (.aload_n 0, 1) := dk_42 (dk_at dksJ8_init_2_2 17 rfl rfl)
theorem dJ8_init_2_66 : decode cJ8_init_2 66 = .ok (.aload_n 0, 1) := dk_42 (dk_at dksJ8_init_2_2 18 rfl rfl)
theorem dJ8_init_2_67 : decode cJ8_init_2 67 = .ok (.getfield 9, 3) := dk_180 0 9 (dk_at dksJ8_init_2_2 19 rfl rfl)
theorem dJ8_init_2_70 : decode cJ8_init_2 70 = .ok (.iload 4, 2) := dk_21 4 (dk_at dksJ8_init_2_2 22 rfl rfl)
theorem dJ8_init_2_72 : decode cJ8_init_2 72 = .ok (.invokestatic 47, 3) := dk_184 0 47 (dk_at dksJ8_init_2_3 0 rfl rfl)
theorem dJ8_init_2_75 : decode cJ8_init_2 75 = .ok (.putfield 15, 3) := dk_181 0 15 (dk_at dksJ8_init_2_3 3 rfl rfl)
theorem dJ8_init_2_78 : decode cJ8_init_2 78 = .ok (.return_, 1) := dk_177 (dk_at dksJ8_init_2_3 6 rfl rfl)
theorem dJ8_init_2_79 : decode cJ8_init_2 79 = .ok (.aload_n 0, 1) := dk_42 (dk_at dksJ8_init_2_3 7 rfl rfl)
theorem dJ8_init_2_80 : decode cJ8_init_2 80 = .ok (.iconst 1, 1) := dk_4 (dk_at dksJ8_init_2_3 8 rfl rfl)
theorem dJ8_init_2_81 : decode cJ8_init_2 81 = .ok (.putfield 15, 3) := dk_181 0 15 (dk_at dksJ8_init_2_3 9 rfl rfl)
theorem dJ8_init_2_84 : decode cJ8_init_2 84 = .ok (.aload_n 0, 1) := dk_42 (dk_at dksJ8_init_2_3 12 rfl rfl)
theorem dJ8_init_2_85 : decode cJ8_init_2 85 = .ok (.aload_n 3, 1) := dk_45 (dk_at dksJ8_init_2_3 13 rfl rfl)
theorem dJ8_init_2_86 : decode cJ8_init_2 86 = .ok (.iconst 0, 1) := dk_3 (dk_at dksJ8_init_2_3 14 rfl rfl)
theorem dJ8_init_2_87 : decode cJ8_init_2 87 = .ok (.iload 4, 2) := dk_21 4 (dk_at dksJ8_init_2_3 15 rfl rfl)
theorem dJ8_init_2_89 : decode cJ8_init_2 89 = .ok (.iconst 1, 1) := dk_4 (dk_at dksJ8_init_2_3 17 rfl rfl)
theorem dJ8_init_2_90 : decode cJ8_init_2 90 = .ok (.ishl, 1) := dk_120 (dk_at dksJ8_init_2_3 18 rfl rfl)
theorem dJ8_init_2_91 : decode cJ8_init_2 91 = .ok (.invokestatic 54, 3) := dk_184 0 54 (dk_at dksJ8_init_2_3 19 rfl rfl)
theorem dJ8_init_2_94 : decode cJ8_init_2 94 = .ok (.putfield 9, 3) := dk_181 0 9 (dk_at dksJ8_init_2_4 0 rfl rfl)
theorem dJ8_init_2_97 : decode cJ8_init_2 97 = .ok (.return_, 1) := dk_177 (dk_at dksJ8_init_2_4 3 rfl rfl)
abbrev cJ8_equals : ByteArray := prog_38_method_66_code
def yJ8_equals : MethodName := ⟨RJ8, "equals", "(Ljava/lang/Object;)Z"⟩
def dkwJ8_equals_2 : List UInt8 := [184, 2, 29, 153, 0, 7, 4, 167, 0, 4, 3, 172]
abbrev dktJ8_equals_2 : List UInt8 := dkwJ8_equals_2 ++ []
def dkwJ8_equals_1 : List UInt8 := [153, 0, 14, 42, 180, 0, 15, 44, 180, 0, 15, 160, 0, 21, 42, 180, 0, 9, 44, 180, 0, 9]
abbrev dktJ8_equals_1 : List UInt8 := dkwJ8_equals_1 ++ dktJ8_equals_2
def dkwJ8_equals_0 : List UInt8 := [42, 43, 166, 0, 5, 4, 172, 43, 193, 0, 10, 153, 0, 43, 43, 192, 0, 10, 77, 178, 0, 38]
abbrev dktJ8_equals_0 : List UInt8 := dkwJ8_equals_0 ++ dktJ8_equals_1
theorem dksJ8_equals_0 : cJ8_equals.data.toList.drop 0 = dktJ8_equals_0 := by decide +kernel
theorem dksJ8_equals_1 : cJ8_equals.data.toList.drop 22 = dktJ8_equals_1 := dk_seg dksJ8_equals_0 22 rfl rfl
theorem dksJ8_equals_2 : cJ8_equals.data.toList.drop 44 = dktJ8_equals_2 := dk_seg dksJ8_equals_1 22 rfl rfl
theorem dJ8_equals_0 : decode cJ8_equals 0 = .ok (.aload_n 0, 1) := dk_42 (dk_at dksJ8_equals_0 0 rfl rfl)
theorem dJ8_equals_1 : decode cJ8_equals 1 = .ok (.aload_n 1, 1) := dk_43 (dk_at dksJ8_equals_0 1 rfl rfl)
theorem dJ8_equals_2 : decode cJ8_equals 2 = .ok (.if_acmp .ne 5, 3) := dk_166 0 5 (dk_at dksJ8_equals_0 2 rfl rfl)
theorem dJ8_equals_5 : decode cJ8_equals 5 = .ok (.iconst 1, 1) := dk_4 (dk_at dksJ8_equals_0 5 rfl rfl)
theorem dJ8_equals_6 : decode cJ8_equals 6 = .ok (.ireturn, 1) := dk_172 (dk_at dksJ8_equals_0 6 rfl rfl)
theorem dJ8_equals_7 : decode cJ8_equals 7 = .ok (.aload_n 1, 1) := dk_43 (dk_at dksJ8_equals_0 7 rfl rfl)
theorem dJ8_equals_8 : decode cJ8_equals 8 = .ok (.instanceof 10, 3) := dk_193 0 10 (dk_at dksJ8_equals_0 8 rfl rfl)
theorem dJ8_equals_11 : decode cJ8_equals 11 = .ok (.ifCond .eq 43, 3) := dk_153 0 43 (dk_at dksJ8_equals_0 11 rfl rfl)
theorem dJ8_equals_14 : decode cJ8_equals 14 = .ok (.aload_n 1, 1) := dk_43 (dk_at dksJ8_equals_0 14 rfl rfl)
theorem dJ8_equals_15 : decode cJ8_equals 15 = .ok (.checkcast 10, 3) := dk_192 0 10 (dk_at dksJ8_equals_0 15 rfl rfl)
theorem dJ8_equals_18 : decode cJ8_equals 18 = .ok (.astore_n 2, 1) := dk_77 (dk_at dksJ8_equals_0 18 rfl rfl)
theorem dJ8_equals_19 : decode cJ8_equals 19 = .ok (.getstatic 38, 3) := dk_178 0 38 (dk_at dksJ8_equals_0 19 rfl rfl)
theorem dJ8_equals_22 : decode cJ8_equals 22 = .ok (.ifCond .eq 14, 3) := dk_153 0 14 (dk_at dksJ8_equals_1 0 rfl rfl)
theorem dJ8_equals_25 : decode cJ8_equals 25 = .ok (.aload_n 0, 1) := dk_42 (dk_at dksJ8_equals_1 3 rfl rfl)
theorem dJ8_equals_26 : decode cJ8_equals 26 = .ok (.getfield 15, 3) := dk_180 0 15 (dk_at dksJ8_equals_1 4 rfl rfl)
theorem dJ8_equals_29 : decode cJ8_equals 29 = .ok (.aload_n 2, 1) := dk_44 (dk_at dksJ8_equals_1 7 rfl rfl)
theorem dJ8_equals_30 : decode cJ8_equals 30 = .ok (.getfield 15, 3) := dk_180 0 15 (dk_at dksJ8_equals_1 8 rfl rfl)
theorem dJ8_equals_33 : decode cJ8_equals 33 = .ok (.if_icmp .ne 21, 3) := dk_160 0 21 (dk_at dksJ8_equals_1 11 rfl rfl)
theorem dJ8_equals_36 : decode cJ8_equals 36 = .ok (.aload_n 0, 1) := dk_42 (dk_at dksJ8_equals_1 14 rfl rfl)
theorem dJ8_equals_37 : decode cJ8_equals 37 = .ok (.getfield 9, 3) := dk_180 0 9 (dk_at dksJ8_equals_1 15 rfl rfl)
theorem dJ8_equals_40 : decode cJ8_equals 40 = .ok (.aload_n 2, 1) := dk_44 (dk_at dksJ8_equals_1 18 rfl rfl)
theorem dJ8_equals_41 : decode cJ8_equals 41 = .ok (.getfield 9, 3) := dk_180 0 9 (dk_at dksJ8_equals_1 19 rfl rfl)
theorem dJ8_equals_44 : decode cJ8_equals 44 = .ok (.invokestatic 541, 3) := dk_184 2 29 (dk_at dksJ8_equals_2 0 rfl rfl)
theorem dJ8_equals_47 : decode cJ8_equals 47 = .ok (.ifCond .eq 7, 3) := dk_153 0 7 (dk_at dksJ8_equals_2 3 rfl rfl)
theorem dJ8_equals_50 : decode cJ8_equals 50 = .ok (.iconst 1, 1) := dk_4 (dk_at dksJ8_equals_2 6 rfl rfl)
theorem dJ8_equals_51 : decode cJ8_equals 51 = .ok (.goto 4, 3) := dk_167 0 4 (dk_at dksJ8_equals_2 7 rfl rfl)
theorem dJ8_equals_54 : decode cJ8_equals 54 = .ok (.iconst 0, 1) := dk_3 (dk_at dksJ8_equals_2 10 rfl rfl)
theorem dJ8_equals_55 : decode cJ8_equals 55 = .ok (.ireturn, 1) := dk_172 (dk_at dksJ8_equals_2 11 rfl rfl)
abbrev cJ8_checkBoundsBeginEnd : ByteArray := prog_38_method_158_code
def yJ8_checkBoundsBeginEnd : MethodName := ⟨RJ8, "checkBoundsBeginEnd", "(III)V"⟩
def dkwJ8_checkBoundsBeginEnd_0 : List UInt8 := [26, 27, 28, 178, 4, 29, 184, 4, 38, 87, 177]
abbrev dktJ8_checkBoundsBeginEnd_0 : List UInt8 := dkwJ8_checkBoundsBeginEnd_0 ++ []
theorem dksJ8_checkBoundsBeginEnd_0 : cJ8_checkBoundsBeginEnd.data.toList.drop 0 = dktJ8_checkBoundsBeginEnd_0 := by decide +kernel
theorem dJ8_checkBoundsBeginEnd_0 : decode cJ8_checkBoundsBeginEnd 0 = .ok (.iload_n 0, 1) := dk_26 (dk_at dksJ8_checkBoundsBeginEnd_0 0 rfl rfl)
theorem dJ8_checkBoundsBeginEnd_1 : decode cJ8_checkBoundsBeginEnd 1 = .ok (.iload_n 1, 1) := dk_27 (dk_at dksJ8_checkBoundsBeginEnd_0 1 rfl rfl)
theorem dJ8_checkBoundsBeginEnd_2 : decode cJ8_checkBoundsBeginEnd 2 = .ok (.iload_n 2, 1) := dk_28 (dk_at dksJ8_checkBoundsBeginEnd_0 2 rfl rfl)
theorem dJ8_checkBoundsBeginEnd_3 : decode cJ8_checkBoundsBeginEnd 3 = .ok (.getstatic 1053, 3) := dk_178 4 29 (dk_at dksJ8_checkBoundsBeginEnd_0 3 rfl rfl)
theorem dJ8_checkBoundsBeginEnd_6 : decode cJ8_checkBoundsBeginEnd 6 = .ok (.invokestatic 1062, 3) := dk_184 4 38 (dk_at dksJ8_checkBoundsBeginEnd_0 6 rfl rfl)
theorem dJ8_checkBoundsBeginEnd_9 : decode cJ8_checkBoundsBeginEnd 9 = .ok (.pop, 1) := dk_87 (dk_at dksJ8_checkBoundsBeginEnd_0 9 rfl rfl)
theorem dJ8_checkBoundsBeginEnd_10 : decode cJ8_checkBoundsBeginEnd 10 = .ok (.return_, 1) := dk_177 (dk_at dksJ8_checkBoundsBeginEnd_0 10 rfl rfl)
abbrev cJ8_length : ByteArray := prog_38_method_54_code
def yJ8_length : MethodName := ⟨RJ8, "length", "()I"⟩
def dkwJ8_length_0 : List UInt8 := [42, 180, 0, 9, 190, 42, 182, 1, 79, 122, 172]
abbrev dktJ8_length_0 : List UInt8 := dkwJ8_length_0 ++ []
theorem dksJ8_length_0 : cJ8_length.data.toList.drop 0 = dktJ8_length_0 := by decide +kernel
theorem dJ8_length_0 : decode cJ8_length 0 = .ok (.aload_n 0, 1) := dk_42 (dk_at dksJ8_length_0 0 rfl rfl)
theorem dJ8_length_1 : decode cJ8_length 1 = .ok (.getfield 9, 3) := dk_180 0 9 (dk_at dksJ8_length_0 1 rfl rfl)
theorem dJ8_length_4 : decode cJ8_length 4 = .ok (.arraylength, 1) := dk_190 (dk_at dksJ8_length_0 4 rfl rfl)
theorem dJ8_length_5 : decode cJ8_length 5 = .ok (.aload_n 0, 1) := dk_42 (dk_at dksJ8_length_0 5 rfl rfl)
theorem dJ8_length_6 : decode cJ8_length 6 = .ok (.invokevirtual 335, 3) := dk_182 1 79 (dk_at dksJ8_length_0 6 rfl rfl)
theorem dJ8_length_9 : decode cJ8_length 9 = .ok (.ishr, 1) := dk_122 (dk_at dksJ8_length_0 9 rfl rfl)
theorem dJ8_length_10 : decode cJ8_length 10 = .ok (.ireturn, 1) := dk_172 (dk_at dksJ8_length_0 10 rfl rfl)
abbrev cJ8_coder : ByteArray := prog_38_method_152_code
def yJ8_coder : MethodName := ⟨RJ8, "coder", "()B"⟩
def dkwJ8_coder_0 : List UInt8 := [178, 0, 38, 153, 0, 10, 42, 180, 0, 15, 167, 0, 4, 4, 172]
abbrev dktJ8_coder_0 : List UInt8 := dkwJ8_coder_0 ++ []
theorem dksJ8_coder_0 : cJ8_coder.data.toList.drop 0 = dktJ8_coder_0 := by decide +kernel
theorem dJ8_coder_0 : decode cJ8_coder 0 = .ok (.getstatic 38, 3) := dk_178 0 38 (dk_at dksJ8_coder_0 0 rfl rfl)
theorem dJ8_coder_3 : decode cJ8_coder 3 = .ok (.ifCond .eq 10, 3) := dk_153 0 10 (dk_at dksJ8_coder_0 3 rfl rfl)
theorem dJ8_coder_6 : decode cJ8_coder 6 = .ok (.aload_n 0, 1) := dk_42 (dk_at dksJ8_coder_0 6 rfl rfl)
theorem dJ8_coder_7 : decode cJ8_coder 7 = .ok (.getfield 15, 3) := dk_180 0 15 (dk_at dksJ8_coder_0 7 rfl rfl)
theorem dJ8_coder_10 : decode cJ8_coder 10 = .ok (.goto 4, 3) := dk_167 0 4 (dk_at dksJ8_coder_0 10 rfl rfl)
theorem dJ8_coder_13 : decode cJ8_coder 13 = .ok (.iconst 1, 1) := dk_4 (dk_at dksJ8_coder_0 13 rfl rfl)
theorem dJ8_coder_14 : decode cJ8_coder 14 = .ok (.ireturn, 1) := dk_172 (dk_at dksJ8_coder_0 14 rfl rfl)
abbrev cJ8_getBytes : ByteArray := prog_38_method_147_code
def yJ8_getBytes : MethodName := ⟨RJ8, "getBytes", "([BIB)V"⟩
def dkwJ8_getBytes_1 : List UInt8 := [184, 0, 212, 167, 0, 18, 42, 180, 0, 9, 3, 43, 28, 42, 180, 0, 9, 190, 184, 0, 106, 177]
abbrev dktJ8_getBytes_1 : List UInt8 := dkwJ8_getBytes_1 ++ []
def dkwJ8_getBytes_0 : List UInt8 := [42, 182, 1, 79, 29, 160, 0, 23, 42, 180, 0, 9, 3, 43, 28, 29, 120, 42, 180, 0, 9, 190]
abbrev dktJ8_getBytes_0 : List UInt8 := dkwJ8_getBytes_0 ++ dktJ8_getBytes_1
theorem dksJ8_getBytes_0 : cJ8_getBytes.data.toList.drop 0 = dktJ8_getBytes_0 := by decide +kernel
theorem dksJ8_getBytes_1 : cJ8_getBytes.data.toList.drop 22 = dktJ8_getBytes_1 := dk_seg dksJ8_getBytes_0 22 rfl rfl
theorem dJ8_getBytes_0 : decode cJ8_getBytes 0 = .ok (.aload_n 0, 1) := dk_42 (dk_at dksJ8_getBytes_0 0 rfl rfl)
theorem dJ8_getBytes_1 : decode cJ8_getBytes 1 = .ok (.invokevirtual 335, 3) := dk_182 1 79 (dk_at dksJ8_getBytes_0 1 rfl rfl)
theorem dJ8_getBytes_4 : decode cJ8_getBytes 4 = .ok (.iload_n 3, 1) := dk_29 (dk_at dksJ8_getBytes_0 4 rfl rfl)
theorem dJ8_getBytes_5 : decode cJ8_getBytes 5 = .ok (.if_icmp .ne 23, 3) := dk_160 0 23 (dk_at dksJ8_getBytes_0 5 rfl rfl)
theorem dJ8_getBytes_8 : decode cJ8_getBytes 8 = .ok (.aload_n 0, 1) := dk_42 (dk_at dksJ8_getBytes_0 8 rfl rfl)
theorem dJ8_getBytes_9 : decode cJ8_getBytes 9 = .ok (.getfield 9, 3) := dk_180 0 9 (dk_at dksJ8_getBytes_0 9 rfl rfl)
theorem dJ8_getBytes_12 : decode cJ8_getBytes 12 = .ok (.iconst 0, 1) := dk_3 (dk_at dksJ8_getBytes_0 12 rfl rfl)
theorem dJ8_getBytes_13 : decode cJ8_getBytes 13 = .ok (.aload_n 1, 1) := dk_43 (dk_at dksJ8_getBytes_0 13 rfl rfl)
theorem dJ8_getBytes_14 : decode cJ8_getBytes 14 = .ok (.iload_n 2, 1) := dk_28 (dk_at dksJ8_getBytes_0 14 rfl rfl)
theorem dJ8_getBytes_15 : decode cJ8_getBytes 15 = .ok (.iload_n 3, 1) := dk_29 (dk_at dksJ8_getBytes_0 15 rfl rfl)
theorem dJ8_getBytes_16 : decode cJ8_getBytes 16 = .ok (.ishl, 1) := dk_120 (dk_at dksJ8_getBytes_0 16 rfl rfl)
theorem dJ8_getBytes_17 : decode cJ8_getBytes 17 = .ok (.aload_n 0, 1) := dk_42 (dk_at dksJ8_getBytes_0 17 rfl rfl)
theorem dJ8_getBytes_18 : decode cJ8_getBytes 18 = .ok (.getfield 9, 3) := dk_180 0 9 (dk_at dksJ8_getBytes_0 18 rfl rfl)
theorem dJ8_getBytes_21 : decode cJ8_getBytes 21 = .ok (.arraylength, 1) := dk_190 (dk_at dksJ8_getBytes_0 21 rfl rfl)
theorem dJ8_getBytes_22 : decode cJ8_getBytes 22 = .ok (.invokestatic 212, 3) := dk_184 0 212 (dk_at dksJ8_getBytes_1 0 rfl rfl)
theorem dJ8_getBytes_25 : decode cJ8_getBytes 25 = .ok (.goto 18, 3) := dk_167 0 18 (dk_at dksJ8_getBytes_1 3 rfl rfl)
theorem dJ8_getBytes_28 : decode cJ8_getBytes 28 = .ok (.aload_n 0, 1) := dk_42 (dk_at dksJ8_getBytes_1 6 rfl rfl)
theorem dJ8_getBytes_29 : decode cJ8_getBytes 29 = .ok (.getfield 9, 3) := dk_180 0 9 (dk_at dksJ8_getBytes_1 7 rfl rfl)
theorem dJ8_getBytes_32 : decode cJ8_getBytes 32 = .ok (.iconst 0, 1) := dk_3 (dk_at dksJ8_getBytes_1 10 rfl rfl)
theorem dJ8_getBytes_33 : decode cJ8_getBytes 33 = .ok (.aload_n 1, 1) := dk_43 (dk_at dksJ8_getBytes_1 11 rfl rfl)
theorem dJ8_getBytes_34 : decode cJ8_getBytes 34 = .ok (.iload_n 2, 1) := dk_28 (dk_at dksJ8_getBytes_1 12 rfl rfl)
theorem dJ8_getBytes_35 : decode cJ8_getBytes 35 = .ok (.aload_n 0, 1) := dk_42 (dk_at dksJ8_getBytes_1 13 rfl rfl)
theorem dJ8_getBytes_36 : decode cJ8_getBytes 36 = .ok (.getfield 9, 3) := dk_180 0 9 (dk_at dksJ8_getBytes_1 14 rfl rfl)
theorem dJ8_getBytes_39 : decode cJ8_getBytes 39 = .ok (.arraylength, 1) := dk_190 (dk_at dksJ8_getBytes_1 17 rfl rfl)
theorem dJ8_getBytes_40 : decode cJ8_getBytes 40 = .ok (.invokestatic 106, 3) := dk_184 0 106 (dk_at dksJ8_getBytes_1 18 rfl rfl)
theorem dJ8_getBytes_43 : decode cJ8_getBytes 43 = .ok (.return_, 1) := dk_177 (dk_at dksJ8_getBytes_1 21 rfl rfl)
abbrev cJ8_indexOf : ByteArray := prog_38_method_84_code
def yJ8_indexOf : MethodName := ⟨RJ8, "indexOf", "(Ljava/lang/String;)I"⟩
def dkwJ8_indexOf_2 : List UInt8 := [154, 0, 5, 2, 172, 42, 180, 0, 9, 43, 180, 0, 9, 184, 2, 138, 172]
abbrev dktJ8_indexOf_2 : List UInt8 := dkwJ8_indexOf_2 ++ []
def dkwJ8_indexOf_1 : List UInt8 := [43, 180, 0, 9, 184, 2, 135, 167, 0, 14, 42, 180, 0, 9, 43, 180, 0, 9, 184, 2, 137, 172, 28]
abbrev dktJ8_indexOf_1 : List UInt8 := dkwJ8_indexOf_1 ++ dktJ8_indexOf_2
def dkwJ8_indexOf_0 : List UInt8 := [42, 182, 1, 79, 61, 28, 43, 182, 1, 79, 160, 0, 36, 42, 182, 1, 236, 153, 0, 17, 42, 180, 0, 9]
abbrev dktJ8_indexOf_0 : List UInt8 := dkwJ8_indexOf_0 ++ dktJ8_indexOf_1
theorem dksJ8_indexOf_0 : cJ8_indexOf.data.toList.drop 0 = dktJ8_indexOf_0 := by decide +kernel
theorem dksJ8_indexOf_1 : cJ8_indexOf.data.toList.drop 24 = dktJ8_indexOf_1 := dk_seg dksJ8_indexOf_0 24 rfl rfl
theorem dksJ8_indexOf_2 : cJ8_indexOf.data.toList.drop 47 = dktJ8_indexOf_2 := dk_seg dksJ8_indexOf_1 23 rfl rfl
theorem dJ8_indexOf_0 : decode cJ8_indexOf 0 = .ok (.aload_n 0, 1) := dk_42 (dk_at dksJ8_indexOf_0 0 rfl rfl)
theorem dJ8_indexOf_1 : decode cJ8_indexOf 1 = .ok (.invokevirtual 335, 3) := dk_182 1 79 (dk_at dksJ8_indexOf_0 1 rfl rfl)
theorem dJ8_indexOf_4 : decode cJ8_indexOf 4 = .ok (.istore_n 2, 1) := dk_61 (dk_at dksJ8_indexOf_0 4 rfl rfl)
theorem dJ8_indexOf_5 : decode cJ8_indexOf 5 = .ok (.iload_n 2, 1) := dk_28 (dk_at dksJ8_indexOf_0 5 rfl rfl)
theorem dJ8_indexOf_6 : decode cJ8_indexOf 6 = .ok (.aload_n 1, 1) := dk_43 (dk_at dksJ8_indexOf_0 6 rfl rfl)
theorem dJ8_indexOf_7 : decode cJ8_indexOf 7 = .ok (.invokevirtual 335, 3) := dk_182 1 79 (dk_at dksJ8_indexOf_0 7 rfl rfl)
theorem dJ8_indexOf_10 : decode cJ8_indexOf 10 = .ok (.if_icmp .ne 36, 3) := dk_160 0 36 (dk_at dksJ8_indexOf_0 10 rfl rfl)
theorem dJ8_indexOf_13 : decode cJ8_indexOf 13 = .ok (.aload_n 0, 1) := dk_42 (dk_at dksJ8_indexOf_0 13 rfl rfl)
theorem dJ8_indexOf_14 : decode cJ8_indexOf 14 = .ok (.invokevirtual 492, 3) := dk_182 1 236 (dk_at dksJ8_indexOf_0 14 rfl rfl)
theorem dJ8_indexOf_17 : decode cJ8_indexOf 17 = .ok (.ifCond .eq 17, 3) := dk_153 0 17 (dk_at dksJ8_indexOf_0 17 rfl rfl)
theorem dJ8_indexOf_20 : decode cJ8_indexOf 20 = .ok (.aload_n 0, 1) := dk_42 (dk_at dksJ8_indexOf_0 20 rfl rfl)
theorem dJ8_indexOf_21 : decode cJ8_indexOf 21 = .ok (.getfield 9, 3) := dk_180 0 9 (dk_at dksJ8_indexOf_0 21 rfl rfl)
theorem dJ8_indexOf_24 : decode cJ8_indexOf 24 = .ok (.aload_n 1, 1) := dk_43 (dk_at dksJ8_indexOf_1 0 rfl rfl)
theorem dJ8_indexOf_25 : decode cJ8_indexOf 25 = .ok (.getfield 9, 3) := dk_180 0 9 (dk_at dksJ8_indexOf_1 1 rfl rfl)
theorem dJ8_indexOf_28 : decode cJ8_indexOf 28 = .ok (.invokestatic 647, 3) := dk_184 2 135 (dk_at dksJ8_indexOf_1 4 rfl rfl)
theorem dJ8_indexOf_31 : decode cJ8_indexOf 31 = .ok (.goto 14, 3) := dk_167 0 14 (dk_at dksJ8_indexOf_1 7 rfl rfl)
theorem dJ8_indexOf_34 : decode cJ8_indexOf 34 = .ok (.aload_n 0, 1) := dk_42 (dk_at dksJ8_indexOf_1 10 rfl rfl)
theorem dJ8_indexOf_35 : decode cJ8_indexOf 35 = .ok (.getfield 9, 3) := dk_180 0 9 (dk_at dksJ8_indexOf_1 11 rfl rfl)
theorem dJ8_indexOf_38 : decode cJ8_indexOf 38 = .ok (.aload_n 1, 1) := dk_43 (dk_at dksJ8_indexOf_1 14 rfl rfl)
theorem dJ8_indexOf_39 : decode cJ8_indexOf 39 = .ok (.getfield 9, 3) := dk_180 0 9 (dk_at dksJ8_indexOf_1 15 rfl rfl)
theorem dJ8_indexOf_42 : decode cJ8_indexOf 42 = .ok (.invokestatic 649, 3) := dk_184 2 137 (dk_at dksJ8_indexOf_1 18 rfl rfl)
theorem dJ8_indexOf_45 : decode cJ8_indexOf 45 = .ok (.ireturn, 1) := dk_172 (dk_at dksJ8_indexOf_1 21 rfl rfl)
theorem dJ8_indexOf_46 : decode cJ8_indexOf 46 = .ok (.iload_n 2, 1) := dk_28 (dk_at dksJ8_indexOf_1 22 rfl rfl)
theorem dJ8_indexOf_47 : decode cJ8_indexOf 47 = .ok (.ifCond .ne 5, 3) := dk_154 0 5 (dk_at dksJ8_indexOf_2 0 rfl rfl)
theorem dJ8_indexOf_50 : decode cJ8_indexOf 50 = .ok (.iconst (-1), 1) := dk_2 (dk_at dksJ8_indexOf_2 3 rfl rfl)
theorem dJ8_indexOf_51 : decode cJ8_indexOf 51 = .ok (.ireturn, 1) := dk_172 (dk_at dksJ8_indexOf_2 4 rfl rfl)
theorem dJ8_indexOf_52 : decode cJ8_indexOf 52 = .ok (.aload_n 0, 1) := dk_42 (dk_at dksJ8_indexOf_2 5 rfl rfl)
theorem dJ8_indexOf_53 : decode cJ8_indexOf 53 = .ok (.getfield 9, 3) := dk_180 0 9 (dk_at dksJ8_indexOf_2 6 rfl rfl)
theorem dJ8_indexOf_56 : decode cJ8_indexOf 56 = .ok (.aload_n 1, 1) := dk_43 (dk_at dksJ8_indexOf_2 9 rfl rfl)
theorem dJ8_indexOf_57 : decode cJ8_indexOf 57 = .ok (.getfield 9, 3) := dk_180 0 9 (dk_at dksJ8_indexOf_2 10 rfl rfl)
theorem dJ8_indexOf_60 : decode cJ8_indexOf 60 = .ok (.invokestatic 650, 3) := dk_184 2 138 (dk_at dksJ8_indexOf_2 13 rfl rfl)
theorem dJ8_indexOf_63 : decode cJ8_indexOf 63 = .ok (.ireturn, 1) := dk_172 (dk_at dksJ8_indexOf_2 16 rfl rfl)
abbrev cJ8_isLatin1 : ByteArray := prog_38_method_154_code
def yJ8_isLatin1 : MethodName := ⟨RJ8, "isLatin1", "()Z"⟩
def dkwJ8_isLatin1_0 : List UInt8 := [178, 0, 38, 153, 0, 14, 42, 180, 0, 15, 154, 0, 7, 4, 167, 0, 4, 3, 172]
abbrev dktJ8_isLatin1_0 : List UInt8 := dkwJ8_isLatin1_0 ++ []
theorem dksJ8_isLatin1_0 : cJ8_isLatin1.data.toList.drop 0 = dktJ8_isLatin1_0 := by decide +kernel
theorem dJ8_isLatin1_0 : decode cJ8_isLatin1 0 = .ok (.getstatic 38, 3) := dk_178 0 38 (dk_at dksJ8_isLatin1_0 0 rfl rfl)
theorem dJ8_isLatin1_3 : decode cJ8_isLatin1 3 = .ok (.ifCond .eq 14, 3) := dk_153 0 14 (dk_at dksJ8_isLatin1_0 3 rfl rfl)
theorem dJ8_isLatin1_6 : decode cJ8_isLatin1 6 = .ok (.aload_n 0, 1) := dk_42 (dk_at dksJ8_isLatin1_0 6 rfl rfl)
theorem dJ8_isLatin1_7 : decode cJ8_isLatin1 7 = .ok (.getfield 15, 3) := dk_180 0 15 (dk_at dksJ8_isLatin1_0 7 rfl rfl)
theorem dJ8_isLatin1_10 : decode cJ8_isLatin1 10 = .ok (.ifCond .ne 7, 3) := dk_154 0 7 (dk_at dksJ8_isLatin1_0 10 rfl rfl)
theorem dJ8_isLatin1_13 : decode cJ8_isLatin1 13 = .ok (.iconst 1, 1) := dk_4 (dk_at dksJ8_isLatin1_0 13 rfl rfl)
theorem dJ8_isLatin1_14 : decode cJ8_isLatin1 14 = .ok (.goto 4, 3) := dk_167 0 4 (dk_at dksJ8_isLatin1_0 14 rfl rfl)
theorem dJ8_isLatin1_17 : decode cJ8_isLatin1 17 = .ok (.iconst 0, 1) := dk_3 (dk_at dksJ8_isLatin1_0 17 rfl rfl)
theorem dJ8_isLatin1_18 : decode cJ8_isLatin1 18 = .ok (.ireturn, 1) := dk_172 (dk_at dksJ8_isLatin1_0 18 rfl rfl)
abbrev cJ8_charAt : ByteArray := prog_38_method_56_code
def yJ8_charAt : MethodName := ⟨RJ8, "charAt", "(I)C"⟩
def dkwJ8_charAt_1 : List UInt8 := [172]
abbrev dktJ8_charAt_1 : List UInt8 := dkwJ8_charAt_1 ++ []
def dkwJ8_charAt_0 : List UInt8 := [42, 182, 1, 236, 153, 0, 12, 42, 180, 0, 9, 27, 184, 1, 239, 172, 42, 180, 0, 9, 27, 184, 1, 242]
abbrev dktJ8_charAt_0 : List UInt8 := dkwJ8_charAt_0 ++ dktJ8_charAt_1
theorem dksJ8_charAt_0 : cJ8_charAt.data.toList.drop 0 = dktJ8_charAt_0 := by decide +kernel
theorem dksJ8_charAt_1 : cJ8_charAt.data.toList.drop 24 = dktJ8_charAt_1 := dk_seg dksJ8_charAt_0 24 rfl rfl
theorem dJ8_charAt_0 : decode cJ8_charAt 0 = .ok (.aload_n 0, 1) := dk_42 (dk_at dksJ8_charAt_0 0 rfl rfl)
theorem dJ8_charAt_1 : decode cJ8_charAt 1 = .ok (.invokevirtual 492, 3) := dk_182 1 236 (dk_at dksJ8_charAt_0 1 rfl rfl)
theorem dJ8_charAt_4 : decode cJ8_charAt 4 = .ok (.ifCond .eq 12, 3) := dk_153 0 12 (dk_at dksJ8_charAt_0 4 rfl rfl)
theorem dJ8_charAt_7 : decode cJ8_charAt 7 = .ok (.aload_n 0, 1) := dk_42 (dk_at dksJ8_charAt_0 7 rfl rfl)
theorem dJ8_charAt_8 : decode cJ8_charAt 8 = .ok (.getfield 9, 3) := dk_180 0 9 (dk_at dksJ8_charAt_0 8 rfl rfl)
theorem dJ8_charAt_11 : decode cJ8_charAt 11 = .ok (.iload_n 1, 1) := dk_27 (dk_at dksJ8_charAt_0 11 rfl rfl)
theorem dJ8_charAt_12 : decode cJ8_charAt 12 = .ok (.invokestatic 495, 3) := dk_184 1 239 (dk_at dksJ8_charAt_0 12 rfl rfl)
theorem dJ8_charAt_15 : decode cJ8_charAt 15 = .ok (.ireturn, 1) := dk_172 (dk_at dksJ8_charAt_0 15 rfl rfl)
theorem dJ8_charAt_16 : decode cJ8_charAt 16 = .ok (.aload_n 0, 1) := dk_42 (dk_at dksJ8_charAt_0 16 rfl rfl)
theorem dJ8_charAt_17 : decode cJ8_charAt 17 = .ok (.getfield 9, 3) := dk_180 0 9 (dk_at dksJ8_charAt_0 17 rfl rfl)
theorem dJ8_charAt_20 : decode cJ8_charAt 20 = .ok (.iload_n 1, 1) := dk_27 (dk_at dksJ8_charAt_0 20 rfl rfl)
theorem dJ8_charAt_21 : decode cJ8_charAt 21 = .ok (.invokestatic 498, 3) := dk_184 1 242 (dk_at dksJ8_charAt_0 21 rfl rfl)
theorem dJ8_charAt_24 : decode cJ8_charAt 24 = .ok (.ireturn, 1) := dk_172 (dk_at dksJ8_charAt_1 0 rfl rfl)
abbrev cJ9_newBytesFor : ByteArray := prog_41_method_2_code
def yJ9_newBytesFor : MethodName := ⟨RJ9, "newBytesFor", "(I)[B"⟩
def dkwJ9_newBytesFor_0 : List UInt8 := [26, 184, 0, 11, 188, 8, 176]
abbrev dktJ9_newBytesFor_0 : List UInt8 := dkwJ9_newBytesFor_0 ++ []
theorem dksJ9_newBytesFor_0 : cJ9_newBytesFor.data.toList.drop 0 = dktJ9_newBytesFor_0 := by decide +kernel
theorem dJ9_newBytesFor_0 : decode cJ9_newBytesFor 0 = .ok (.iload_n 0, 1) := dk_26 (dk_at dksJ9_newBytesFor_0 0 rfl rfl)
theorem dJ9_newBytesFor_1 : decode cJ9_newBytesFor 1 = .ok (.invokestatic 11, 3) := dk_184 0 11 (dk_at dksJ9_newBytesFor_0 1 rfl rfl)
theorem dJ9_newBytesFor_4 : decode cJ9_newBytesFor 4 = .ok (.newarray .byte, 2) := dk_188_8 (dk_at dksJ9_newBytesFor_0 4 rfl rfl)
theorem dJ9_newBytesFor_6 : decode cJ9_newBytesFor 6 = .ok (.areturn, 1) := dk_176 (dk_at dksJ9_newBytesFor_0 6 rfl rfl)
abbrev cJ9_newBytesLength : ByteArray := prog_41_method_3_code
def yJ9_newBytesLength : MethodName := ⟨RJ9, "newBytesLength", "(I)I"⟩
def dkwJ9_newBytesLength_2 : List UInt8 := [182, 0, 32, 182, 0, 37, 183, 0, 41, 191, 26, 4, 120, 172]
abbrev dktJ9_newBytesLength_2 : List UInt8 := dkwJ9_newBytesLength_2 ++ []
def dkwJ9_newBytesLength_1 : List UInt8 := [187, 0, 23, 89, 183, 0, 25, 18, 26, 182, 0, 28, 26, 182, 0, 32, 18, 35, 182, 0, 28, 18, 20]
abbrev dktJ9_newBytesLength_1 : List UInt8 := dkwJ9_newBytesLength_1 ++ dktJ9_newBytesLength_2
def dkwJ9_newBytesLength_0 : List UInt8 := [26, 156, 0, 11, 187, 0, 17, 89, 183, 0, 19, 191, 26, 18, 20, 161, 0, 40, 187, 0, 21, 89]
abbrev dktJ9_newBytesLength_0 : List UInt8 := dkwJ9_newBytesLength_0 ++ dktJ9_newBytesLength_1
theorem dksJ9_newBytesLength_0 : cJ9_newBytesLength.data.toList.drop 0 = dktJ9_newBytesLength_0 := by decide +kernel
theorem dksJ9_newBytesLength_1 : cJ9_newBytesLength.data.toList.drop 22 = dktJ9_newBytesLength_1 := dk_seg dksJ9_newBytesLength_0 22 rfl rfl
theorem dksJ9_newBytesLength_2 : cJ9_newBytesLength.data.toList.drop 45 = dktJ9_newBytesLength_2 := dk_seg dksJ9_newBytesLength_1 23 rfl rfl
theorem dJ9_newBytesLength_0 : decode cJ9_newBytesLength 0 = .ok (.iload_n 0, 1) := dk_26 (dk_at dksJ9_newBytesLength_0 0 rfl rfl)
theorem dJ9_newBytesLength_1 : decode cJ9_newBytesLength 1 = .ok (.ifCond .ge 11, 3) := dk_156 0 11 (dk_at dksJ9_newBytesLength_0 1 rfl rfl)
theorem dJ9_newBytesLength_4 : decode cJ9_newBytesLength 4 = .ok (.new 17, 3) := dk_187 0 17 (dk_at dksJ9_newBytesLength_0 4 rfl rfl)
theorem dJ9_newBytesLength_7 : decode cJ9_newBytesLength 7 = .ok (.dup, 1) := dk_89 (dk_at dksJ9_newBytesLength_0 7 rfl rfl)
theorem dJ9_newBytesLength_8 : decode cJ9_newBytesLength 8 = .ok (.invokespecial 19, 3) := dk_183 0 19 (dk_at dksJ9_newBytesLength_0 8 rfl rfl)
theorem dJ9_newBytesLength_11 : decode cJ9_newBytesLength 11 = .ok (.athrow, 1) := dk_191 (dk_at dksJ9_newBytesLength_0 11 rfl rfl)
theorem dJ9_newBytesLength_12 : decode cJ9_newBytesLength 12 = .ok (.iload_n 0, 1) := dk_26 (dk_at dksJ9_newBytesLength_0 12 rfl rfl)
theorem dJ9_newBytesLength_13 : decode cJ9_newBytesLength 13 = .ok (.ldc 20, 2) := dk_18 20 (dk_at dksJ9_newBytesLength_0 13 rfl rfl)
theorem dJ9_newBytesLength_15 : decode cJ9_newBytesLength 15 = .ok (.if_icmp .lt 40, 3) := dk_161 0 40 (dk_at dksJ9_newBytesLength_0 15 rfl rfl)
theorem dJ9_newBytesLength_18 : decode cJ9_newBytesLength 18 = .ok (.new 21, 3) := dk_187 0 21 (dk_at dksJ9_newBytesLength_0 18 rfl rfl)
theorem dJ9_newBytesLength_21 : decode cJ9_newBytesLength 21 = .ok (.dup, 1) := dk_89 (dk_at dksJ9_newBytesLength_0 21 rfl rfl)
theorem dJ9_newBytesLength_22 : decode cJ9_newBytesLength 22 = .ok (.new 23, 3) := dk_187 0 23 (dk_at dksJ9_newBytesLength_1 0 rfl rfl)
theorem dJ9_newBytesLength_25 : decode cJ9_newBytesLength 25 = .ok (.dup, 1) := dk_89 (dk_at dksJ9_newBytesLength_1 3 rfl rfl)
theorem dJ9_newBytesLength_26 : decode cJ9_newBytesLength 26 = .ok (.invokespecial 25, 3) := dk_183 0 25 (dk_at dksJ9_newBytesLength_1 4 rfl rfl)
theorem dJ9_newBytesLength_29 : decode cJ9_newBytesLength 29 = .ok (.ldc 26, 2) := dk_18 26 (dk_at dksJ9_newBytesLength_1 7 rfl rfl)
theorem dJ9_newBytesLength_31 : decode cJ9_newBytesLength 31 = .ok (.invokevirtual 28, 3) := dk_182 0 28 (dk_at dksJ9_newBytesLength_1 9 rfl rfl)
theorem dJ9_newBytesLength_34 : decode cJ9_newBytesLength 34 = .ok (.iload_n 0, 1) := dk_26 (dk_at dksJ9_newBytesLength_1 12 rfl rfl)
theorem dJ9_newBytesLength_35 : decode cJ9_newBytesLength 35 = .ok (.invokevirtual 32, 3) := dk_182 0 32 (dk_at dksJ9_newBytesLength_1 13 rfl rfl)
theorem dJ9_newBytesLength_38 : decode cJ9_newBytesLength 38 = .ok (.ldc 35, 2) := dk_18 35 (dk_at dksJ9_newBytesLength_1 16 rfl rfl)
theorem dJ9_newBytesLength_40 : decode cJ9_newBytesLength 40 = .ok (.invokevirtual 28, 3) := dk_182 0 28 (dk_at dksJ9_newBytesLength_1 18 rfl rfl)
theorem dJ9_newBytesLength_43 : decode cJ9_newBytesLength 43 = .ok (.ldc 20, 2) := dk_18 20 (dk_at dksJ9_newBytesLength_1 21 rfl rfl)
theorem dJ9_newBytesLength_45 : decode cJ9_newBytesLength 45 = .ok (.invokevirtual 32, 3) := dk_182 0 32 (dk_at dksJ9_newBytesLength_2 0 rfl rfl)
theorem dJ9_newBytesLength_48 : decode cJ9_newBytesLength 48 = .ok (.invokevirtual 37, 3) := dk_182 0 37 (dk_at dksJ9_newBytesLength_2 3 rfl rfl)
theorem dJ9_newBytesLength_51 : decode cJ9_newBytesLength 51 = .ok (.invokespecial 41, 3) := dk_183 0 41 (dk_at dksJ9_newBytesLength_2 6 rfl rfl)
theorem dJ9_newBytesLength_54 : decode cJ9_newBytesLength 54 = .ok (.athrow, 1) := dk_191 (dk_at dksJ9_newBytesLength_2 9 rfl rfl)
theorem dJ9_newBytesLength_55 : decode cJ9_newBytesLength 55 = .ok (.iload_n 0, 1) := dk_26 (dk_at dksJ9_newBytesLength_2 10 rfl rfl)
theorem dJ9_newBytesLength_56 : decode cJ9_newBytesLength 56 = .ok (.iconst 1, 1) := dk_4 (dk_at dksJ9_newBytesLength_2 11 rfl rfl)
theorem dJ9_newBytesLength_57 : decode cJ9_newBytesLength 57 = .ok (.ishl, 1) := dk_120 (dk_at dksJ9_newBytesLength_2 12 rfl rfl)
theorem dJ9_newBytesLength_58 : decode cJ9_newBytesLength 58 = .ok (.ireturn, 1) := dk_172 (dk_at dksJ9_newBytesLength_2 13 rfl rfl)
abbrev cJ9_inflate : ByteArray := prog_41_method_86_code
def yJ9_inflate : MethodName := ⟨RJ9, "inflate", "([BI[BII)V"⟩
def dkwJ9_inflate_1 : List UInt8 := [132, 1, 1, 51, 17, 0, 255, 126, 184, 0, 111, 132, 5, 1, 167, 255, 228, 177]
abbrev dktJ9_inflate_1 : List UInt8 := dkwJ9_inflate_1 ++ []
def dkwJ9_inflate_0 : List UInt8 := [29, 21, 4, 44, 184, 0, 173, 3, 54, 5, 21, 5, 21, 4, 162, 0, 27, 44, 29, 132, 3, 1, 42, 27]
abbrev dktJ9_inflate_0 : List UInt8 := dkwJ9_inflate_0 ++ dktJ9_inflate_1
theorem dksJ9_inflate_0 : cJ9_inflate.data.toList.drop 0 = dktJ9_inflate_0 := by decide +kernel
theorem dksJ9_inflate_1 : cJ9_inflate.data.toList.drop 24 = dktJ9_inflate_1 := dk_seg dksJ9_inflate_0 24 rfl rfl
theorem dJ9_inflate_0 : decode cJ9_inflate 0 = .ok (.iload_n 3, 1) := dk_29 (dk_at dksJ9_inflate_0 0 rfl rfl)
theorem dJ9_inflate_1 : decode cJ9_inflate 1 = .ok (.iload 4, 2) := dk_21 4 (dk_at dksJ9_inflate_0 1 rfl rfl)
theorem dJ9_inflate_3 : decode cJ9_inflate 3 = .ok (.aload_n 2, 1) := dk_44 (dk_at dksJ9_inflate_0 3 rfl rfl)
theorem dJ9_inflate_4 : decode cJ9_inflate 4 = .ok (.invokestatic 173, 3) := dk_184 0 173 (dk_at dksJ9_inflate_0 4 rfl rfl)
theorem dJ9_inflate_7 : decode cJ9_inflate 7 = .ok (.iconst 0, 1) := dk_3 (dk_at dksJ9_inflate_0 7 rfl rfl)
theorem dJ9_inflate_8 : decode cJ9_inflate 8 = .ok (.istore 5, 2) := dk_54 5 (dk_at dksJ9_inflate_0 8 rfl rfl)
theorem dJ9_inflate_10 : decode cJ9_inflate 10 = .ok (.iload 5, 2) := dk_21 5 (dk_at dksJ9_inflate_0 10 rfl rfl)
theorem dJ9_inflate_12 : decode cJ9_inflate 12 = .ok (.iload 4, 2) := dk_21 4 (dk_at dksJ9_inflate_0 12 rfl rfl)
theorem dJ9_inflate_14 : decode cJ9_inflate 14 = .ok (.if_icmp .ge 27, 3) := dk_162 0 27 (dk_at dksJ9_inflate_0 14 rfl rfl)
theorem dJ9_inflate_17 : decode cJ9_inflate 17 = .ok (.aload_n 2, 1) := dk_44 (dk_at dksJ9_inflate_0 17 rfl rfl)
theorem dJ9_inflate_18 : decode cJ9_inflate 18 = .ok (.iload_n 3, 1) := dk_29 (dk_at dksJ9_inflate_0 18 rfl rfl)
theorem dJ9_inflate_19 : decode cJ9_inflate 19 = .ok (.iinc 3 1, 3) := dk_132 3 1 (dk_at dksJ9_inflate_0 19 rfl rfl)
theorem dJ9_inflate_22 : decode cJ9_inflate 22 = .ok (.aload_n 0, 1) := dk_42 (dk_at dksJ9_inflate_0 22 rfl rfl)
theorem dJ9_inflate_23 : decode cJ9_inflate 23 = .ok (.iload_n 1, 1) := dk_27 (dk_at dksJ9_inflate_0 23 rfl rfl)
theorem dJ9_inflate_24 : decode cJ9_inflate 24 = .ok (.iinc 1 1, 3) := dk_132 1 1 (dk_at dksJ9_inflate_1 0 rfl rfl)
theorem dJ9_inflate_27 : decode cJ9_inflate 27 = .ok (.baload, 1) := dk_51 (dk_at dksJ9_inflate_1 3 rfl rfl)
theorem dJ9_inflate_28 : decode cJ9_inflate 28 = .ok (.sipush 255, 3) := dk_17 0 255 (dk_at dksJ9_inflate_1 4 rfl rfl)
theorem dJ9_inflate_31 : decode cJ9_inflate 31 = .ok (.iand, 1) := dk_126 (dk_at dksJ9_inflate_1 7 rfl rfl)
theorem dJ9_inflate_32 : decode cJ9_inflate 32 = .ok (.invokestatic 111, 3) := dk_184 0 111 (dk_at dksJ9_inflate_1 8 rfl rfl)
theorem dJ9_inflate_35 : decode cJ9_inflate 35 = .ok (.iinc 5 1, 3) := dk_132 5 1 (dk_at dksJ9_inflate_1 11 rfl rfl)
theorem dJ9_inflate_38 : decode cJ9_inflate 38 = .ok (.goto (-28), 3) := dk_167 255 228 (dk_at dksJ9_inflate_1 14 rfl rfl)
theorem dJ9_inflate_41 : decode cJ9_inflate 41 = .ok (.return_, 1) := dk_177 (dk_at dksJ9_inflate_1 17 rfl rfl)
abbrev cJ9_checkBoundsOffCount : ByteArray := prog_41_method_94_code
def yJ9_checkBoundsOffCount : MethodName := ⟨RJ9, "checkBoundsOffCount", "(II[B)V"⟩
def dkwJ9_checkBoundsOffCount_0 : List UInt8 := [26, 27, 44, 184, 0, 48, 184, 1, 163, 87, 177]
abbrev dktJ9_checkBoundsOffCount_0 : List UInt8 := dkwJ9_checkBoundsOffCount_0 ++ []
theorem dksJ9_checkBoundsOffCount_0 : cJ9_checkBoundsOffCount.data.toList.drop 0 = dktJ9_checkBoundsOffCount_0 := by decide +kernel
theorem dJ9_checkBoundsOffCount_0 : decode cJ9_checkBoundsOffCount 0 = .ok (.iload_n 0, 1) := dk_26 (dk_at dksJ9_checkBoundsOffCount_0 0 rfl rfl)
theorem dJ9_checkBoundsOffCount_1 : decode cJ9_checkBoundsOffCount 1 = .ok (.iload_n 1, 1) := dk_27 (dk_at dksJ9_checkBoundsOffCount_0 1 rfl rfl)
theorem dJ9_checkBoundsOffCount_2 : decode cJ9_checkBoundsOffCount 2 = .ok (.aload_n 2, 1) := dk_44 (dk_at dksJ9_checkBoundsOffCount_0 2 rfl rfl)
theorem dJ9_checkBoundsOffCount_3 : decode cJ9_checkBoundsOffCount 3 = .ok (.invokestatic 48, 3) := dk_184 0 48 (dk_at dksJ9_checkBoundsOffCount_0 3 rfl rfl)
theorem dJ9_checkBoundsOffCount_6 : decode cJ9_checkBoundsOffCount 6 = .ok (.invokestatic 419, 3) := dk_184 1 163 (dk_at dksJ9_checkBoundsOffCount_0 6 rfl rfl)
theorem dJ9_checkBoundsOffCount_9 : decode cJ9_checkBoundsOffCount 9 = .ok (.pop, 1) := dk_87 (dk_at dksJ9_checkBoundsOffCount_0 9 rfl rfl)
theorem dJ9_checkBoundsOffCount_10 : decode cJ9_checkBoundsOffCount 10 = .ok (.return_, 1) := dk_177 (dk_at dksJ9_checkBoundsOffCount_0 10 rfl rfl)
abbrev cJ9_length : ByteArray := prog_41_method_6_code
def yJ9_length : MethodName := ⟨RJ9, "length", "([B)I"⟩
def dkwJ9_length_0 : List UInt8 := [42, 190, 4, 122, 172]
abbrev dktJ9_length_0 : List UInt8 := dkwJ9_length_0 ++ []
theorem dksJ9_length_0 : cJ9_length.data.toList.drop 0 = dktJ9_length_0 := by decide +kernel
theorem dJ9_length_0 : decode cJ9_length 0 = .ok (.aload_n 0, 1) := dk_42 (dk_at dksJ9_length_0 0 rfl rfl)
theorem dJ9_length_1 : decode cJ9_length 1 = .ok (.arraylength, 1) := dk_190 (dk_at dksJ9_length_0 1 rfl rfl)
theorem dJ9_length_2 : decode cJ9_length 2 = .ok (.iconst 1, 1) := dk_4 (dk_at dksJ9_length_0 2 rfl rfl)
theorem dJ9_length_3 : decode cJ9_length 3 = .ok (.ishr, 1) := dk_122 (dk_at dksJ9_length_0 3 rfl rfl)
theorem dJ9_length_4 : decode cJ9_length 4 = .ok (.ireturn, 1) := dk_172 (dk_at dksJ9_length_0 4 rfl rfl)
abbrev cJ9_putChar : ByteArray := prog_41_method_4_code
def yJ9_putChar : MethodName := ⟨RJ9, "putChar", "([BII)V"⟩
def dkwJ9_putChar_2 : List UInt8 := [178, 0, 63, 122, 145, 84, 177]
abbrev dktJ9_putChar_2 : List UInt8 := dkwJ9_putChar_2 ++ []
def dkwJ9_putChar_1 : List UInt8 := [183, 0, 56, 191, 27, 4, 120, 60, 42, 27, 132, 1, 1, 28, 178, 0, 59, 122, 145, 84, 42, 27, 28]
abbrev dktJ9_putChar_1 : List UInt8 := dkwJ9_putChar_1 ++ dktJ9_putChar_2
def dkwJ9_putChar_0 : List UInt8 := [178, 0, 44, 154, 0, 25, 27, 155, 0, 11, 27, 42, 184, 0, 48, 161, 0, 13, 187, 0, 52, 89, 18, 54]
abbrev dktJ9_putChar_0 : List UInt8 := dkwJ9_putChar_0 ++ dktJ9_putChar_1
theorem dksJ9_putChar_0 : cJ9_putChar.data.toList.drop 0 = dktJ9_putChar_0 := by decide +kernel
theorem dksJ9_putChar_1 : cJ9_putChar.data.toList.drop 24 = dktJ9_putChar_1 := dk_seg dksJ9_putChar_0 24 rfl rfl
theorem dksJ9_putChar_2 : cJ9_putChar.data.toList.drop 47 = dktJ9_putChar_2 := dk_seg dksJ9_putChar_1 23 rfl rfl
theorem dJ9_putChar_0 : decode cJ9_putChar 0 = .ok (.getstatic 44, 3) := dk_178 0 44 (dk_at dksJ9_putChar_0 0 rfl rfl)
theorem dJ9_putChar_3 : decode cJ9_putChar 3 = .ok (.ifCond .ne 25, 3) := dk_154 0 25 (dk_at dksJ9_putChar_0 3 rfl rfl)
theorem dJ9_putChar_6 : decode cJ9_putChar 6 = .ok (.iload_n 1, 1) := dk_27 (dk_at dksJ9_putChar_0 6 rfl rfl)
theorem dJ9_putChar_7 : decode cJ9_putChar 7 = .ok (.ifCond .lt 11, 3) := dk_155 0 11 (dk_at dksJ9_putChar_0 7 rfl rfl)
theorem dJ9_putChar_10 : decode cJ9_putChar 10 = .ok (.iload_n 1, 1) := dk_27 (dk_at dksJ9_putChar_0 10 rfl rfl)
theorem dJ9_putChar_11 : decode cJ9_putChar 11 = .ok (.aload_n 0, 1) := dk_42 (dk_at dksJ9_putChar_0 11 rfl rfl)
theorem dJ9_putChar_12 : decode cJ9_putChar 12 = .ok (.invokestatic 48, 3) := dk_184 0 48 (dk_at dksJ9_putChar_0 12 rfl rfl)
theorem dJ9_putChar_15 : decode cJ9_putChar 15 = .ok (.if_icmp .lt 13, 3) := dk_161 0 13 (dk_at dksJ9_putChar_0 15 rfl rfl)
theorem dJ9_putChar_18 : decode cJ9_putChar 18 = .ok (.new 52, 3) := dk_187 0 52 (dk_at dksJ9_putChar_0 18 rfl rfl)
theorem dJ9_putChar_21 : decode cJ9_putChar 21 = .ok (.dup, 1) := dk_89 (dk_at dksJ9_putChar_0 21 rfl rfl)
theorem dJ9_putChar_22 : decode cJ9_putChar 22 = .ok (.ldc 54, 2) := dk_18 54 (dk_at dksJ9_putChar_0 22 rfl rfl)
theorem dJ9_putChar_24 : decode cJ9_putChar 24 = .ok (.invokespecial 56, 3) := dk_183 0 56 (dk_at dksJ9_putChar_1 0 rfl rfl)
theorem dJ9_putChar_27 : decode cJ9_putChar 27 = .ok (.athrow, 1) := dk_191 (dk_at dksJ9_putChar_1 3 rfl rfl)
theorem dJ9_putChar_28 : decode cJ9_putChar 28 = .ok (.iload_n 1, 1) := dk_27 (dk_at dksJ9_putChar_1 4 rfl rfl)
theorem dJ9_putChar_29 : decode cJ9_putChar 29 = .ok (.iconst 1, 1) := dk_4 (dk_at dksJ9_putChar_1 5 rfl rfl)
theorem dJ9_putChar_30 : decode cJ9_putChar 30 = .ok (.ishl, 1) := dk_120 (dk_at dksJ9_putChar_1 6 rfl rfl)
theorem dJ9_putChar_31 : decode cJ9_putChar 31 = .ok (.istore_n 1, 1) := dk_60 (dk_at dksJ9_putChar_1 7 rfl rfl)
theorem dJ9_putChar_32 : decode cJ9_putChar 32 = .ok (.aload_n 0, 1) := dk_42 (dk_at dksJ9_putChar_1 8 rfl rfl)
theorem dJ9_putChar_33 : decode cJ9_putChar 33 = .ok (.iload_n 1, 1) := dk_27 (dk_at dksJ9_putChar_1 9 rfl rfl)
theorem dJ9_putChar_34 : decode cJ9_putChar 34 = .ok (.iinc 1 1, 3) := dk_132 1 1 (dk_at dksJ9_putChar_1 10 rfl rfl)
theorem dJ9_putChar_37 : decode cJ9_putChar 37 = .ok (.iload_n 2, 1) := dk_28 (dk_at dksJ9_putChar_1 13 rfl rfl)
theorem dJ9_putChar_38 : decode cJ9_putChar 38 = .ok (.getstatic 59, 3) := dk_178 0 59 (dk_at dksJ9_putChar_1 14 rfl rfl)
theorem dJ9_putChar_41 : decode cJ9_putChar 41 = .ok (.ishr, 1) := dk_122 (dk_at dksJ9_putChar_1 17 rfl rfl)
theorem dJ9_putChar_42 : decode cJ9_putChar 42 = .ok (.i2b, 1) := dk_145 (dk_at dksJ9_putChar_1 18 rfl rfl)
theorem dJ9_putChar_43 : decode cJ9_putChar 43 = .ok (.bastore, 1) := dk_84 (dk_at dksJ9_putChar_1 19 rfl rfl)
theorem dJ9_putChar_44 : decode cJ9_putChar 44 = .ok (.aload_n 0, 1) := dk_42 (dk_at dksJ9_putChar_1 20 rfl rfl)
theorem dJ9_putChar_45 : decode cJ9_putChar 45 = .ok (.iload_n 1, 1) := dk_27 (dk_at dksJ9_putChar_1 21 rfl rfl)
theorem dJ9_putChar_46 : decode cJ9_putChar 46 = .ok (.iload_n 2, 1) := dk_28 (dk_at dksJ9_putChar_1 22 rfl rfl)
theorem dJ9_putChar_47 : decode cJ9_putChar 47 = .ok (.getstatic 63, 3) := dk_178 0 63 (dk_at dksJ9_putChar_2 0 rfl rfl)
theorem dJ9_putChar_50 : decode cJ9_putChar 50 = .ok (.ishr, 1) := dk_122 (dk_at dksJ9_putChar_2 3 rfl rfl)
theorem dJ9_putChar_51 : decode cJ9_putChar 51 = .ok (.i2b, 1) := dk_145 (dk_at dksJ9_putChar_2 4 rfl rfl)
theorem dJ9_putChar_52 : decode cJ9_putChar 52 = .ok (.bastore, 1) := dk_84 (dk_at dksJ9_putChar_2 5 rfl rfl)
theorem dJ9_putChar_53 : decode cJ9_putChar 53 = .ok (.return_, 1) := dk_177 (dk_at dksJ9_putChar_2 6 rfl rfl)
abbrev cJ9_putCharSB : ByteArray := prog_41_method_71_code
def yJ9_putCharSB : MethodName := ⟨RJ9, "putCharSB", "([BII)V"⟩
def dkwJ9_putCharSB_0 : List UInt8 := [27, 42, 184, 0, 67, 42, 27, 28, 184, 0, 111, 177]
abbrev dktJ9_putCharSB_0 : List UInt8 := dkwJ9_putCharSB_0 ++ []
theorem dksJ9_putCharSB_0 : cJ9_putCharSB.data.toList.drop 0 = dktJ9_putCharSB_0 := by decide +kernel
theorem dJ9_putCharSB_0 : decode cJ9_putCharSB 0 = .ok (.iload_n 1, 1) := dk_27 (dk_at dksJ9_putCharSB_0 0 rfl rfl)
theorem dJ9_putCharSB_1 : decode cJ9_putCharSB 1 = .ok (.aload_n 0, 1) := dk_42 (dk_at dksJ9_putCharSB_0 1 rfl rfl)
theorem dJ9_putCharSB_2 : decode cJ9_putCharSB 2 = .ok (.invokestatic 67, 3) := dk_184 0 67 (dk_at dksJ9_putCharSB_0 2 rfl rfl)
theorem dJ9_putCharSB_5 : decode cJ9_putCharSB 5 = .ok (.aload_n 0, 1) := dk_42 (dk_at dksJ9_putCharSB_0 5 rfl rfl)
theorem dJ9_putCharSB_6 : decode cJ9_putCharSB 6 = .ok (.iload_n 1, 1) := dk_27 (dk_at dksJ9_putCharSB_0 6 rfl rfl)
theorem dJ9_putCharSB_7 : decode cJ9_putCharSB 7 = .ok (.iload_n 2, 1) := dk_28 (dk_at dksJ9_putCharSB_0 7 rfl rfl)
theorem dJ9_putCharSB_8 : decode cJ9_putCharSB 8 = .ok (.invokestatic 111, 3) := dk_184 0 111 (dk_at dksJ9_putCharSB_0 8 rfl rfl)
theorem dJ9_putCharSB_11 : decode cJ9_putCharSB 11 = .ok (.return_, 1) := dk_177 (dk_at dksJ9_putCharSB_0 11 rfl rfl)
abbrev cJ9_checkIndex : ByteArray := prog_41_method_91_code
def yJ9_checkIndex : MethodName := ⟨RJ9, "checkIndex", "(I[B)V"⟩
def dkwJ9_checkIndex_0 : List UInt8 := [26, 43, 184, 0, 48, 184, 1, 158, 177]
abbrev dktJ9_checkIndex_0 : List UInt8 := dkwJ9_checkIndex_0 ++ []
theorem dksJ9_checkIndex_0 : cJ9_checkIndex.data.toList.drop 0 = dktJ9_checkIndex_0 := by decide +kernel
theorem dJ9_checkIndex_0 : decode cJ9_checkIndex 0 = .ok (.iload_n 0, 1) := dk_26 (dk_at dksJ9_checkIndex_0 0 rfl rfl)
theorem dJ9_checkIndex_1 : decode cJ9_checkIndex 1 = .ok (.aload_n 1, 1) := dk_43 (dk_at dksJ9_checkIndex_0 1 rfl rfl)
theorem dJ9_checkIndex_2 : decode cJ9_checkIndex 2 = .ok (.invokestatic 48, 3) := dk_184 0 48 (dk_at dksJ9_checkIndex_0 2 rfl rfl)
theorem dJ9_checkIndex_5 : decode cJ9_checkIndex 5 = .ok (.invokestatic 414, 3) := dk_184 1 158 (dk_at dksJ9_checkIndex_0 5 rfl rfl)
theorem dJ9_checkIndex_8 : decode cJ9_checkIndex 8 = .ok (.return_, 1) := dk_177 (dk_at dksJ9_checkIndex_0 8 rfl rfl)
abbrev cJ9_compress : ByteArray := prog_41_method_17_code
def yJ9_compress : MethodName := ⟨RJ9, "compress", "([BII)[B"⟩
def dkwJ9_compress_2 : List UInt8 := [25, 5, 3, 45, 3, 28, 184, 0, 123, 28, 159, 0, 6, 25, 5, 176, 45, 176]
abbrev dktJ9_compress_2 : List UInt8 := dkwJ9_compress_2 ++ []
def dkwJ9_compress_1 : List UInt8 := [27, 28, 96, 184, 0, 11, 184, 0, 126, 58, 5, 25, 5, 21, 4, 184, 0, 71, 17, 0, 255, 163, 0, 16]
abbrev dktJ9_compress_1 : List UInt8 := dkwJ9_compress_1 ++ dktJ9_compress_2
def dkwJ9_compress_0 : List UInt8 := [28, 188, 8, 78, 42, 27, 45, 3, 28, 184, 0, 123, 54, 4, 21, 4, 28, 159, 0, 47, 42, 27, 4, 120]
abbrev dktJ9_compress_0 : List UInt8 := dkwJ9_compress_0 ++ dktJ9_compress_1
theorem dksJ9_compress_0 : cJ9_compress.data.toList.drop 0 = dktJ9_compress_0 := by decide +kernel
theorem dksJ9_compress_1 : cJ9_compress.data.toList.drop 24 = dktJ9_compress_1 := dk_seg dksJ9_compress_0 24 rfl rfl
theorem dksJ9_compress_2 : cJ9_compress.data.toList.drop 48 = dktJ9_compress_2 := dk_seg dksJ9_compress_1 24 rfl rfl
theorem dJ9_compress_0 : decode cJ9_compress 0 = .ok (.iload_n 2, 1) := dk_28 (dk_at dksJ9_compress_0 0 rfl rfl)
theorem dJ9_compress_1 : decode cJ9_compress 1 = .ok (.newarray .byte, 2) := dk_188_8 (dk_at dksJ9_compress_0 1 rfl rfl)
theorem dJ9_compress_3 : decode cJ9_compress 3 = .ok (.astore_n 3, 1) := dk_78 (dk_at dksJ9_compress_0 3 rfl rfl)
theorem dJ9_compress_4 : decode cJ9_compress 4 = .ok (.aload_n 0, 1) := dk_42 (dk_at dksJ9_compress_0 4 rfl rfl)
theorem dJ9_compress_5 : decode cJ9_compress 5 = .ok (.iload_n 1, 1) := dk_27 (dk_at dksJ9_compress_0 5 rfl rfl)
theorem dJ9_compress_6 : decode cJ9_compress 6 = .ok (.aload_n 3, 1) := dk_45 (dk_at dksJ9_compress_0 6 rfl rfl)
theorem dJ9_compress_7 : decode cJ9_compress 7 = .ok (.iconst 0, 1) := dk_3 (dk_at dksJ9_compress_0 7 rfl rfl)
theorem dJ9_compress_8 : decode cJ9_compress 8 = .ok (.iload_n 2, 1) := dk_28 (dk_at dksJ9_compress_0 8 rfl rfl)
theorem dJ9_compress_9 : decode cJ9_compress 9 = .ok (.invokestatic 123, 3) := dk_184 0 123 (dk_at dksJ9_compress_0 9 rfl rfl)
theorem dJ9_compress_12 : decode cJ9_compress 12 = .ok (.istore 4, 2) := dk_54 4 (dk_at dksJ9_compress_0 12 rfl rfl)
theorem dJ9_compress_14 : decode cJ9_compress 14 = .ok (.iload 4, 2) := dk_21 4 (dk_at dksJ9_compress_0 14 rfl rfl)
theorem dJ9_compress_16 : decode cJ9_compress 16 = .ok (.iload_n 2, 1) := dk_28 (dk_at dksJ9_compress_0 16 rfl rfl)
theorem dJ9_compress_17 : decode cJ9_compress 17 = .ok (.if_icmp .eq 47, 3) := dk_159 0 47 (dk_at dksJ9_compress_0 17 rfl rfl)
theorem dJ9_compress_20 : decode cJ9_compress 20 = .ok (.aload_n 0, 1) := dk_42 (dk_at dksJ9_compress_0 20 rfl rfl)
theorem dJ9_compress_21 : decode cJ9_compress 21 = .ok (.iload_n 1, 1) := dk_27 (dk_at dksJ9_compress_0 21 rfl rfl)
theorem dJ9_compress_22 : decode cJ9_compress 22 = .ok (.iconst 1, 1) := dk_4 (dk_at dksJ9_compress_0 22 rfl rfl)
theorem dJ9_compress_23 : decode cJ9_compress 23 = .ok (.ishl, 1) := dk_120 (dk_at dksJ9_compress_0 23 rfl rfl)
theorem dJ9_compress_24 : decode cJ9_compress 24 = .ok (.iload_n 1, 1) := dk_27 (dk_at dksJ9_compress_1 0 rfl rfl)
theorem dJ9_compress_25 : decode cJ9_compress 25 = .ok (.iload_n 2, 1) := dk_28 (dk_at dksJ9_compress_1 1 rfl rfl)
theorem dJ9_compress_26 : decode cJ9_compress 26 = .ok (.iadd, 1) := dk_96 (dk_at dksJ9_compress_1 2 rfl rfl)
theorem dJ9_compress_27 : decode cJ9_compress 27 = .ok (.invokestatic 11, 3) := dk_184 0 11 (dk_at dksJ9_compress_1 3 rfl rfl)
theorem dJ9_compress_30 : decode cJ9_compress 30 = .ok (.invokestatic 126, 3) := dk_184 0 126 (dk_at dksJ9_compress_1 6 rfl rfl)
theorem dJ9_compress_33 : decode cJ9_compress 33 = .ok (.astore 5, 2) := dk_58 5 (dk_at dksJ9_compress_1 9 rfl rfl)
theorem dJ9_compress_35 : decode cJ9_compress 35 = .ok (.aload 5, 2) := dk_25 5 (dk_at dksJ9_compress_1 11 rfl rfl)
theorem dJ9_compress_37 : decode cJ9_compress 37 = .ok (.iload 4, 2) := dk_21 4 (dk_at dksJ9_compress_1 13 rfl rfl)
theorem dJ9_compress_39 : decode cJ9_compress 39 = .ok (.invokestatic 71, 3) := dk_184 0 71 (dk_at dksJ9_compress_1 15 rfl rfl)
theorem dJ9_compress_42 : decode cJ9_compress 42 = .ok (.sipush 255, 3) := dk_17 0 255 (dk_at dksJ9_compress_1 18 rfl rfl)
theorem dJ9_compress_45 : decode cJ9_compress 45 = .ok (.if_icmp .gt 16, 3) := dk_163 0 16 (dk_at dksJ9_compress_1 21 rfl rfl)
theorem dJ9_compress_48 : decode cJ9_compress 48 = .ok (.aload 5, 2) := dk_25 5 (dk_at dksJ9_compress_2 0 rfl rfl)
theorem dJ9_compress_50 : decode cJ9_compress 50 = .ok (.iconst 0, 1) := dk_3 (dk_at dksJ9_compress_2 2 rfl rfl)
theorem dJ9_compress_51 : decode cJ9_compress 51 = .ok (.aload_n 3, 1) := dk_45 (dk_at dksJ9_compress_2 3 rfl rfl)
theorem dJ9_compress_52 : decode cJ9_compress 52 = .ok (.iconst 0, 1) := dk_3 (dk_at dksJ9_compress_2 4 rfl rfl)
theorem dJ9_compress_53 : decode cJ9_compress 53 = .ok (.iload_n 2, 1) := dk_28 (dk_at dksJ9_compress_2 5 rfl rfl)
theorem dJ9_compress_54 : decode cJ9_compress 54 = .ok (.invokestatic 123, 3) := dk_184 0 123 (dk_at dksJ9_compress_2 6 rfl rfl)
theorem dJ9_compress_57 : decode cJ9_compress 57 = .ok (.iload_n 2, 1) := dk_28 (dk_at dksJ9_compress_2 9 rfl rfl)
theorem dJ9_compress_58 : decode cJ9_compress 58 = .ok (.if_icmp .eq 6, 3) := dk_159 0 6 (dk_at dksJ9_compress_2 10 rfl rfl)
theorem dJ9_compress_61 : decode cJ9_compress 61 = .ok (.aload 5, 2) := dk_25 5 (dk_at dksJ9_compress_2 13 rfl rfl)
theorem dJ9_compress_63 : decode cJ9_compress 63 = .ok (.areturn, 1) := dk_176 (dk_at dksJ9_compress_2 15 rfl rfl)
theorem dJ9_compress_64 : decode cJ9_compress 64 = .ok (.aload_n 3, 1) := dk_45 (dk_at dksJ9_compress_2 16 rfl rfl)
theorem dJ9_compress_65 : decode cJ9_compress 65 = .ok (.areturn, 1) := dk_176 (dk_at dksJ9_compress_2 17 rfl rfl)
abbrev cJ9_compress_2 : ByteArray := prog_41_method_22_code
def yJ9_compress_2 : MethodName := ⟨RJ9, "compress", "([BI[BII)I"⟩
def dkwJ9_compress_2_2 : List UInt8 := [132, 5, 1, 167, 255, 216, 21, 4, 172]
abbrev dktJ9_compress_2_2 : List UInt8 := dkwJ9_compress_2_2 ++ []
def dkwJ9_compress_2_1 : List UInt8 := [21, 6, 17, 0, 255, 164, 0, 6, 21, 5, 172, 44, 29, 21, 6, 145, 84, 132, 1, 1, 132, 3, 1]
abbrev dktJ9_compress_2_1 : List UInt8 := dkwJ9_compress_2_1 ++ dktJ9_compress_2_2
def dkwJ9_compress_2_0 : List UInt8 := [27, 21, 4, 42, 184, 0, 173, 3, 54, 5, 21, 5, 21, 4, 162, 0, 39, 42, 27, 184, 0, 71, 54, 6]
abbrev dktJ9_compress_2_0 : List UInt8 := dkwJ9_compress_2_0 ++ dktJ9_compress_2_1
theorem dksJ9_compress_2_0 : cJ9_compress_2.data.toList.drop 0 = dktJ9_compress_2_0 := by decide +kernel
theorem dksJ9_compress_2_1 : cJ9_compress_2.data.toList.drop 24 = dktJ9_compress_2_1 := dk_seg dksJ9_compress_2_0 24 rfl rfl
theorem dksJ9_compress_2_2 : cJ9_compress_2.data.toList.drop 47 = dktJ9_compress_2_2 := dk_seg dksJ9_compress_2_1 23 rfl rfl
theorem dJ9_compress_2_0 : decode cJ9_compress_2 0 = .ok (.iload_n 1, 1) := dk_27 (dk_at dksJ9_compress_2_0 0 rfl rfl)
theorem dJ9_compress_2_1 : decode cJ9_compress_2 1 = .ok (.iload 4, 2) := dk_21 4 (dk_at dksJ9_compress_2_0 1 rfl rfl)
theorem dJ9_compress_2_3 : decode cJ9_compress_2 3 = .ok (.aload_n 0, 1) := dk_42 (dk_at dksJ9_compress_2_0 3 rfl rfl)
theorem dJ9_compress_2_4 : decode cJ9_compress_2 4 = .ok (.invokestatic 173, 3) := dk_184 0 173 (dk_at dksJ9_compress_2_0 4 rfl rfl)
theorem dJ9_compress_2_7 : decode cJ9_compress_2 7 = .ok (.iconst 0, 1) := dk_3 (dk_at dksJ9_compress_2_0 7 rfl rfl)
theorem dJ9_compress_2_8 : decode cJ9_compress_2 8 = .ok (.istore 5, 2) := dk_54 5 (dk_at dksJ9_compress_2_0 8 rfl rfl)
theorem dJ9_compress_2_10 : decode cJ9_compress_2 10 = .ok (.iload 5, 2) := dk_21 5 (dk_at dksJ9_compress_2_0 10 rfl rfl)
theorem dJ9_compress_2_12 : decode cJ9_compress_2 12 = .ok (.iload 4, 2) := dk_21 4 (dk_at dksJ9_compress_2_0 12 rfl rfl)
theorem dJ9_compress_2_14 : decode cJ9_compress_2 14 = .ok (.if_icmp .ge 39, 3) := dk_162 0 39 (dk_at dksJ9_compress_2_0 14 rfl rfl)
theorem dJ9_compress_2_17 : decode cJ9_compress_2 17 = .ok (.aload_n 0, 1) := dk_42 (dk_at dksJ9_compress_2_0 17 rfl rfl)
theorem dJ9_compress_2_18 : decode cJ9_compress_2 18 = .ok (.iload_n 1, 1) := dk_27 (dk_at dksJ9_compress_2_0 18 rfl rfl)
theorem dJ9_compress_2_19 : decode cJ9_compress_2 19 = .ok (.invokestatic 71, 3) := dk_184 0 71 (dk_at dksJ9_compress_2_0 19 rfl rfl)
theorem dJ9_compress_2_22 : decode cJ9_compress_2 22 = .ok (.istore 6, 2) := dk_54 6 (dk_at dksJ9_compress_2_0 22 rfl rfl)
theorem dJ9_compress_2_24 : decode cJ9_compress_2 24 = .ok (.iload 6, 2) := dk_21 6 (dk_at dksJ9_compress_2_1 0 rfl rfl)
theorem dJ9_compress_2_26 : decode cJ9_compress_2 26 = .ok (.sipush 255, 3) := dk_17 0 255 (dk_at dksJ9_compress_2_1 2 rfl rfl)
theorem dJ9_compress_2_29 : decode cJ9_compress_2 29 = .ok (.if_icmp .le 6, 3) := dk_164 0 6 (dk_at dksJ9_compress_2_1 5 rfl rfl)
theorem dJ9_compress_2_32 : decode cJ9_compress_2 32 = .ok (.iload 5, 2) := dk_21 5 (dk_at dksJ9_compress_2_1 8 rfl rfl)
theorem dJ9_compress_2_34 : decode cJ9_compress_2 34 = .ok (.ireturn, 1) := dk_172 (dk_at dksJ9_compress_2_1 10 rfl rfl)
theorem dJ9_compress_2_35 : decode cJ9_compress_2 35 = .ok (.aload_n 2, 1) := dk_44 (dk_at dksJ9_compress_2_1 11 rfl rfl)
theorem dJ9_compress_2_36 : decode cJ9_compress_2 36 = .ok (.iload_n 3, 1) := dk_29 (dk_at dksJ9_compress_2_1 12 rfl rfl)
theorem dJ9_compress_2_37 : decode cJ9_compress_2 37 = .ok (.iload 6, 2) := dk_21 6 (dk_at dksJ9_compress_2_1 13 rfl rfl)
theorem dJ9_compress_2_39 : decode cJ9_compress_2 39 = .ok (.i2b, 1) := dk_145 (dk_at dksJ9_compress_2_1 15 rfl rfl)
theorem dJ9_compress_2_40 : decode cJ9_compress_2 40 = .ok (.bastore, 1) := dk_84 (dk_at dksJ9_compress_2_1 16 rfl rfl)
theorem dJ9_compress_2_41 : decode cJ9_compress_2 41 = .ok (.iinc 1 1, 3) := dk_132 1 1 (dk_at dksJ9_compress_2_1 17 rfl rfl)
theorem dJ9_compress_2_44 : decode cJ9_compress_2 44 = .ok (.iinc 3 1, 3) := dk_132 3 1 (dk_at dksJ9_compress_2_1 20 rfl rfl)
theorem dJ9_compress_2_47 : decode cJ9_compress_2 47 = .ok (.iinc 5 1, 3) := dk_132 5 1 (dk_at dksJ9_compress_2_2 0 rfl rfl)
theorem dJ9_compress_2_50 : decode cJ9_compress_2 50 = .ok (.goto (-40), 3) := dk_167 255 216 (dk_at dksJ9_compress_2_2 3 rfl rfl)
theorem dJ9_compress_2_53 : decode cJ9_compress_2 53 = .ok (.iload 4, 2) := dk_21 4 (dk_at dksJ9_compress_2_2 6 rfl rfl)
theorem dJ9_compress_2_55 : decode cJ9_compress_2 55 = .ok (.ireturn, 1) := dk_172 (dk_at dksJ9_compress_2_2 8 rfl rfl)
abbrev cJ9_getChar : ByteArray := prog_41_method_5_code
def yJ9_getChar : MethodName := ⟨RJ9, "getChar", "([BI)C"⟩
def dkwJ9_getChar_2 : List UInt8 := [51, 17, 0, 255, 126, 178, 0, 63, 120, 128, 146, 172]
abbrev dktJ9_getChar_2 : List UInt8 := dkwJ9_getChar_2 ++ []
def dkwJ9_getChar_1 : List UInt8 := [183, 0, 56, 191, 27, 4, 120, 60, 42, 27, 132, 1, 1, 51, 17, 0, 255, 126, 178, 0, 59, 120, 42, 27]
abbrev dktJ9_getChar_1 : List UInt8 := dkwJ9_getChar_1 ++ dktJ9_getChar_2
def dkwJ9_getChar_0 : List UInt8 := [178, 0, 44, 154, 0, 25, 27, 155, 0, 11, 27, 42, 184, 0, 48, 161, 0, 13, 187, 0, 52, 89, 18, 54]
abbrev dktJ9_getChar_0 : List UInt8 := dkwJ9_getChar_0 ++ dktJ9_getChar_1
theorem dksJ9_getChar_0 : cJ9_getChar.data.toList.drop 0 = dktJ9_getChar_0 := by decide +kernel
theorem dksJ9_getChar_1 : cJ9_getChar.data.toList.drop 24 = dktJ9_getChar_1 := dk_seg dksJ9_getChar_0 24 rfl rfl
theorem dksJ9_getChar_2 : cJ9_getChar.data.toList.drop 48 = dktJ9_getChar_2 := dk_seg dksJ9_getChar_1 24 rfl rfl
theorem dJ9_getChar_0 : decode cJ9_getChar 0 = .ok (.getstatic 44, 3) := dk_178 0 44 (dk_at dksJ9_getChar_0 0 rfl rfl)
theorem dJ9_getChar_3 : decode cJ9_getChar 3 = .ok (.ifCond .ne 25, 3) := dk_154 0 25 (dk_at dksJ9_getChar_0 3 rfl rfl)
theorem dJ9_getChar_6 : decode cJ9_getChar 6 = .ok (.iload_n 1, 1) := dk_27 (dk_at dksJ9_getChar_0 6 rfl rfl)
theorem dJ9_getChar_7 : decode cJ9_getChar 7 = .ok (.ifCond .lt 11, 3) := dk_155 0 11 (dk_at dksJ9_getChar_0 7 rfl rfl)
theorem dJ9_getChar_10 : decode cJ9_getChar 10 = .ok (.iload_n 1, 1) := dk_27 (dk_at dksJ9_getChar_0 10 rfl rfl)
theorem dJ9_getChar_11 : decode cJ9_getChar 11 = .ok (.aload_n 0, 1) := dk_42 (dk_at dksJ9_getChar_0 11 rfl rfl)
theorem dJ9_getChar_12 : decode cJ9_getChar 12 = .ok (.invokestatic 48, 3) := dk_184 0 48 (dk_at dksJ9_getChar_0 12 rfl rfl)
theorem dJ9_getChar_15 : decode cJ9_getChar 15 = .ok (.if_icmp .lt 13, 3) := dk_161 0 13 (dk_at dksJ9_getChar_0 15 rfl rfl)
theorem dJ9_getChar_18 : decode cJ9_getChar 18 = .ok (.new 52, 3) := dk_187 0 52 (dk_at dksJ9_getChar_0 18 rfl rfl)
theorem dJ9_getChar_21 : decode cJ9_getChar 21 = .ok (.dup, 1) := dk_89 (dk_at dksJ9_getChar_0 21 rfl rfl)
theorem dJ9_getChar_22 : decode cJ9_getChar 22 = .ok (.ldc 54, 2) := dk_18 54 (dk_at dksJ9_getChar_0 22 rfl rfl)
theorem dJ9_getChar_24 : decode cJ9_getChar 24 = .ok (.invokespecial 56, 3) := dk_183 0 56 (dk_at dksJ9_getChar_1 0 rfl rfl)
theorem dJ9_getChar_27 : decode cJ9_getChar 27 = .ok (.athrow, 1) := dk_191 (dk_at dksJ9_getChar_1 3 rfl rfl)
theorem dJ9_getChar_28 : decode cJ9_getChar 28 = .ok (.iload_n 1, 1) := dk_27 (dk_at dksJ9_getChar_1 4 rfl rfl)
theorem dJ9_getChar_29 : decode cJ9_getChar 29 = .ok (.iconst 1, 1) := dk_4 (dk_at dksJ9_getChar_1 5 rfl rfl)
theorem dJ9_getChar_30 : decode cJ9_getChar 30 = .ok (.ishl, 1) := dk_120 (dk_at dksJ9_getChar_1 6 rfl rfl)
theorem dJ9_getChar_31 : decode cJ9_getChar 31 = .ok (.istore_n 1, 1) := dk_60 (dk_at dksJ9_getChar_1 7 rfl rfl)
theorem dJ9_getChar_32 : decode cJ9_getChar 32 = .ok (.aload_n 0, 1) := dk_42 (dk_at dksJ9_getChar_1 8 rfl rfl)
theorem dJ9_getChar_33 : decode cJ9_getChar 33 = .ok (.iload_n 1, 1) := dk_27 (dk_at dksJ9_getChar_1 9 rfl rfl)
theorem dJ9_getChar_34 : decode cJ9_getChar 34 = .ok (.iinc 1 1, 3) := dk_132 1 1 (dk_at dksJ9_getChar_1 10 rfl rfl)
theorem dJ9_getChar_37 : decode cJ9_getChar 37 = .ok (.baload, 1) := dk_51 (dk_at dksJ9_getChar_1 13 rfl rfl)
theorem dJ9_getChar_38 : decode cJ9_getChar 38 = .ok (.sipush 255, 3) := dk_17 0 255 (dk_at dksJ9_getChar_1 14 rfl rfl)
theorem dJ9_getChar_41 : decode cJ9_getChar 41 = .ok (.iand, 1) := dk_126 (dk_at dksJ9_getChar_1 17 rfl rfl)
theorem dJ9_getChar_42 : decode cJ9_getChar 42 = .ok (.getstatic 59, 3) := dk_178 0 59 (dk_at dksJ9_getChar_1 18 rfl rfl)
theorem dJ9_getChar_45 : decode cJ9_getChar 45 = .ok (.ishl, 1) := dk_120 (dk_at dksJ9_getChar_1 21 rfl rfl)
theorem dJ9_getChar_46 : decode cJ9_getChar 46 = .ok (.aload_n 0, 1) := dk_42 (dk_at dksJ9_getChar_1 22 rfl rfl)
theorem dJ9_getChar_47 : decode cJ9_getChar 47 = .ok (.iload_n 1, 1) := dk_27 (dk_at dksJ9_getChar_1 23 rfl rfl)
theorem dJ9_getChar_48 : decode cJ9_getChar 48 = .ok (.baload, 1) := dk_51 (dk_at dksJ9_getChar_2 0 rfl rfl)
theorem dJ9_getChar_49 : decode cJ9_getChar 49 = .ok (.sipush 255, 3) := dk_17 0 255 (dk_at dksJ9_getChar_2 1 rfl rfl)
theorem dJ9_getChar_52 : decode cJ9_getChar 52 = .ok (.iand, 1) := dk_126 (dk_at dksJ9_getChar_2 4 rfl rfl)
theorem dJ9_getChar_53 : decode cJ9_getChar 53 = .ok (.getstatic 63, 3) := dk_178 0 63 (dk_at dksJ9_getChar_2 5 rfl rfl)
theorem dJ9_getChar_56 : decode cJ9_getChar 56 = .ok (.ishl, 1) := dk_120 (dk_at dksJ9_getChar_2 8 rfl rfl)
theorem dJ9_getChar_57 : decode cJ9_getChar 57 = .ok (.ior, 1) := dk_128 (dk_at dksJ9_getChar_2 9 rfl rfl)
theorem dJ9_getChar_58 : decode cJ9_getChar 58 = .ok (.i2c, 1) := dk_146 (dk_at dksJ9_getChar_2 10 rfl rfl)
theorem dJ9_getChar_59 : decode cJ9_getChar 59 = .ok (.ireturn, 1) := dk_172 (dk_at dksJ9_getChar_2 11 rfl rfl)
abbrev cJ9_coderFromArrayLen : ByteArray := prog_41_method_15_code
def yJ9_coderFromArrayLen : MethodName := ⟨RJ9, "coderFromArrayLen", "([BI)B"⟩
def dkwJ9_coderFromArrayLen_0 : List UInt8 := [27, 42, 190, 100, 16, 31, 124, 145, 172]
abbrev dktJ9_coderFromArrayLen_0 : List UInt8 := dkwJ9_coderFromArrayLen_0 ++ []
theorem dksJ9_coderFromArrayLen_0 : cJ9_coderFromArrayLen.data.toList.drop 0 = dktJ9_coderFromArrayLen_0 := by decide +kernel
theorem dJ9_coderFromArrayLen_0 : decode cJ9_coderFromArrayLen 0 = .ok (.iload_n 1, 1) := dk_27 (dk_at dksJ9_coderFromArrayLen_0 0 rfl rfl)
theorem dJ9_coderFromArrayLen_1 : decode cJ9_coderFromArrayLen 1 = .ok (.aload_n 0, 1) := dk_42 (dk_at dksJ9_coderFromArrayLen_0 1 rfl rfl)
theorem dJ9_coderFromArrayLen_2 : decode cJ9_coderFromArrayLen 2 = .ok (.arraylength, 1) := dk_190 (dk_at dksJ9_coderFromArrayLen_0 2 rfl rfl)
theorem dJ9_coderFromArrayLen_3 : decode cJ9_coderFromArrayLen 3 = .ok (.isub, 1) := dk_100 (dk_at dksJ9_coderFromArrayLen_0 3 rfl rfl)
theorem dJ9_coderFromArrayLen_4 : decode cJ9_coderFromArrayLen 4 = .ok (.bipush 31, 2) := dk_16 31 (dk_at dksJ9_coderFromArrayLen_0 4 rfl rfl)
theorem dJ9_coderFromArrayLen_6 : decode cJ9_coderFromArrayLen 6 = .ok (.iushr, 1) := dk_124 (dk_at dksJ9_coderFromArrayLen_0 6 rfl rfl)
theorem dJ9_coderFromArrayLen_7 : decode cJ9_coderFromArrayLen 7 = .ok (.i2b, 1) := dk_145 (dk_at dksJ9_coderFromArrayLen_0 7 rfl rfl)
theorem dJ9_coderFromArrayLen_8 : decode cJ9_coderFromArrayLen 8 = .ok (.ireturn, 1) := dk_172 (dk_at dksJ9_coderFromArrayLen_0 8 rfl rfl)
abbrev cJ9_putCharsAt : ByteArray := prog_41_method_81_code
def yJ9_putCharsAt : MethodName := ⟨RJ9, "putCharsAt", "([BICCCC)I"⟩
def dkwJ9_putCharsAt_3 : List UInt8 := [21, 6, 172]
abbrev dktJ9_putCharsAt_3 : List UInt8 := dkwJ9_putCharsAt_3 ++ []
def dkwJ9_putCharsAt_2 : List UInt8 := [184, 0, 111, 178, 0, 44, 154, 0, 17, 27, 21, 6, 159, 0, 11, 187, 0, 52, 89, 183, 0, 66, 191]
abbrev dktJ9_putCharsAt_2 : List UInt8 := dkwJ9_putCharsAt_2 ++ dktJ9_putCharsAt_3
def dkwJ9_putCharsAt_1 : List UInt8 := [132, 1, 1, 29, 184, 0, 111, 42, 27, 132, 1, 1, 21, 4, 184, 0, 111, 42, 27, 132, 1, 1, 21, 5]
abbrev dktJ9_putCharsAt_1 : List UInt8 := dkwJ9_putCharsAt_1 ++ dktJ9_putCharsAt_2
def dkwJ9_putCharsAt_0 : List UInt8 := [27, 7, 96, 54, 6, 27, 21, 6, 42, 184, 0, 96, 42, 27, 132, 1, 1, 28, 184, 0, 111, 42, 27]
abbrev dktJ9_putCharsAt_0 : List UInt8 := dkwJ9_putCharsAt_0 ++ dktJ9_putCharsAt_1
theorem dksJ9_putCharsAt_0 : cJ9_putCharsAt.data.toList.drop 0 = dktJ9_putCharsAt_0 := by decide +kernel
theorem dksJ9_putCharsAt_1 : cJ9_putCharsAt.data.toList.drop 23 = dktJ9_putCharsAt_1 := dk_seg dksJ9_putCharsAt_0 23 rfl rfl
theorem dksJ9_putCharsAt_2 : cJ9_putCharsAt.data.toList.drop 47 = dktJ9_putCharsAt_2 := dk_seg dksJ9_putCharsAt_1 24 rfl rfl
theorem dksJ9_putCharsAt_3 : cJ9_putCharsAt.data.toList.drop 70 = dktJ9_putCharsAt_3 := dk_seg dksJ9_putCharsAt_2 23 rfl rfl
theorem dJ9_putCharsAt_0 : decode cJ9_putCharsAt 0 = .ok (.iload_n 1, 1) := dk_27 (dk_at dksJ9_putCharsAt_0 0 rfl rfl)
theorem dJ9_putCharsAt_1 : decode cJ9_putCharsAt 1 = .ok (.iconst 4, 1) := dk_7 (dk_at dksJ9_putCharsAt_0 1 rfl rfl)
theorem dJ9_putCharsAt_2 : decode cJ9_putCharsAt 2 = .ok (.iadd, 1) := dk_96 (dk_at dksJ9_putCharsAt_0 2 rfl rfl)
theorem dJ9_putCharsAt_3 : decode cJ9_putCharsAt 3 = .ok (.istore 6, 2) := dk_54 6 (dk_at dksJ9_putCharsAt_0 3 rfl rfl)
theorem dJ9_putCharsAt_5 : decode cJ9_putCharsAt 5 = .ok (.iload_n 1, 1) := dk_27 (dk_at dksJ9_putCharsAt_0 5 rfl rfl)
theorem dJ9_putCharsAt_6 : decode cJ9_putCharsAt 6 = .ok (.iload 6, 2) := dk_21 6 (dk_at dksJ9_putCharsAt_0 6 rfl rfl)
theorem dJ9_putCharsAt_8 : decode cJ9_putCharsAt 8 = .ok (.aload_n 0, 1) := dk_42 (dk_at dksJ9_putCharsAt_0 8 rfl rfl)
theorem dJ9_putCharsAt_9 : decode cJ9_putCharsAt 9 = .ok (.invokestatic 96, 3) := dk_184 0 96 (dk_at dksJ9_putCharsAt_0 9 rfl rfl)
theorem dJ9_putCharsAt_12 : decode cJ9_putCharsAt 12 = .ok (.aload_n 0, 1) := dk_42 (dk_at dksJ9_putCharsAt_0 12 rfl rfl)
theorem dJ9_putCharsAt_13 : decode cJ9_putCharsAt 13 = .ok (.iload_n 1, 1) := dk_27 (dk_at dksJ9_putCharsAt_0 13 rfl rfl)
theorem dJ9_putCharsAt_14 : decode cJ9_putCharsAt 14 = .ok (.iinc 1 1, 3) := dk_132 1 1 (dk_at dksJ9_putCharsAt_0 14 rfl rfl)
theorem dJ9_putCharsAt_17 : decode cJ9_putCharsAt 17 = .ok (.iload_n 2, 1) := dk_28 (dk_at dksJ9_putCharsAt_0 17 rfl rfl)
theorem dJ9_putCharsAt_18 : decode cJ9_putCharsAt 18 = .ok (.invokestatic 111, 3) := dk_184 0 111 (dk_at dksJ9_putCharsAt_0 18 rfl rfl)
theorem dJ9_putCharsAt_21 : decode cJ9_putCharsAt 21 = .ok (.aload_n 0, 1) := dk_42 (dk_at dksJ9_putCharsAt_0 21 rfl rfl)
theorem dJ9_putCharsAt_22 : decode cJ9_putCharsAt 22 = .ok (.iload_n 1, 1) := dk_27 (dk_at dksJ9_putCharsAt_0 22 rfl rfl)
theorem dJ9_putCharsAt_23 : decode cJ9_putCharsAt 23 = .ok (.iinc 1 1, 3) := dk_132 1 1 (dk_at dksJ9_putCharsAt_1 0 rfl rfl)
theorem dJ9_putCharsAt_26 : decode cJ9_putCharsAt 26 = .ok (.iload_n 3, 1) := dk_29 (dk_at dksJ9_putCharsAt_1 3 rfl rfl)
theorem dJ9_putCharsAt_27 : decode cJ9_putCharsAt 27 = .ok (.invokestatic 111, 3) := dk_184 0 111 (dk_at dksJ9_putCharsAt_1 4 rfl rfl)
theorem dJ9_putCharsAt_30 : decode cJ9_putCharsAt 30 = .ok (.aload_n 0, 1) := dk_42 (dk_at dksJ9_putCharsAt_1 7 rfl rfl)
theorem dJ9_putCharsAt_31 : decode cJ9_putCharsAt 31 = .ok (.iload_n 1, 1) := dk_27 (dk_at dksJ9_putCharsAt_1 8 rfl rfl)
theorem dJ9_putCharsAt_32 : decode cJ9_putCharsAt 32 = .ok (.iinc 1 1, 3) := dk_132 1 1 (dk_at dksJ9_putCharsAt_1 9 rfl rfl)
theorem dJ9_putCharsAt_35 : decode cJ9_putCharsAt 35 = .ok (.iload 4, 2) := dk_21 4 (dk_at dksJ9_putCharsAt_1 12 rfl rfl)
theorem dJ9_putCharsAt_37 : decode cJ9_putCharsAt 37 = .ok (.invokestatic 111, 3) := dk_184 0 111 (dk_at dksJ9_putCharsAt_1 14 rfl rfl)
theorem dJ9_putCharsAt_40 : decode cJ9_putCharsAt 40 = .ok (.aload_n 0, 1) := dk_42 (dk_at dksJ9_putCharsAt_1 17 rfl rfl)
theorem dJ9_putCharsAt_41 : decode cJ9_putCharsAt 41 = .ok (.iload_n 1, 1) := dk_27 (dk_at dksJ9_putCharsAt_1 18 rfl rfl)
theorem dJ9_putCharsAt_42 : decode cJ9_putCharsAt 42 = .ok (.iinc 1 1, 3) := dk_132 1 1 (dk_at dksJ9_putCharsAt_1 19 rfl rfl)
theorem dJ9_putCharsAt_45 : decode cJ9_putCharsAt 45 = .ok (.iload 5, 2) := dk_21 5 (dk_at dksJ9_putCharsAt_1 22 rfl rfl)
theorem dJ9_putCharsAt_47 : decode cJ9_putCharsAt 47 = .ok (.invokestatic 111, 3) := dk_184 0 111 (dk_at dksJ9_putCharsAt_2 0 rfl rfl)
theorem dJ9_putCharsAt_50 : decode cJ9_putCharsAt 50 = .ok (.getstatic 44, 3) := dk_178 0 44 (dk_at dksJ9_putCharsAt_2 3 rfl rfl)
theorem dJ9_putCharsAt_53 : decode cJ9_putCharsAt 53 = .ok (.ifCond .ne 17, 3) := dk_154 0 17 (dk_at dksJ9_putCharsAt_2 6 rfl rfl)
theorem dJ9_putCharsAt_56 : decode cJ9_putCharsAt 56 = .ok (.iload_n 1, 1) := dk_27 (dk_at dksJ9_putCharsAt_2 9 rfl rfl)
theorem dJ9_putCharsAt_57 : decode cJ9_putCharsAt 57 = .ok (.iload 6, 2) := dk_21 6 (dk_at dksJ9_putCharsAt_2 10 rfl rfl)
theorem dJ9_putCharsAt_59 : decode cJ9_putCharsAt 59 = .ok (.if_icmp .eq 11, 3) := dk_159 0 11 (dk_at dksJ9_putCharsAt_2 12 rfl rfl)
theorem dJ9_putCharsAt_62 : decode cJ9_putCharsAt 62 = .ok (.new 52, 3) := dk_187 0 52 (dk_at dksJ9_putCharsAt_2 15 rfl rfl)
theorem dJ9_putCharsAt_65 : decode cJ9_putCharsAt 65 = .ok (.dup, 1) := dk_89 (dk_at dksJ9_putCharsAt_2 18 rfl rfl)
theorem dJ9_putCharsAt_66 : decode cJ9_putCharsAt 66 = .ok (.invokespecial 66, 3) := dk_183 0 66 (dk_at dksJ9_putCharsAt_2 19 rfl rfl)
theorem dJ9_putCharsAt_69 : decode cJ9_putCharsAt 69 = .ok (.athrow, 1) := dk_191 (dk_at dksJ9_putCharsAt_2 22 rfl rfl)
theorem dJ9_putCharsAt_70 : decode cJ9_putCharsAt 70 = .ok (.iload 6, 2) := dk_21 6 (dk_at dksJ9_putCharsAt_3 0 rfl rfl)
theorem dJ9_putCharsAt_72 : decode cJ9_putCharsAt 72 = .ok (.ireturn, 1) := dk_172 (dk_at dksJ9_putCharsAt_3 2 rfl rfl)
abbrev cJ9_checkBoundsBeginEnd : ByteArray := prog_41_method_93_code
def yJ9_checkBoundsBeginEnd : MethodName := ⟨RJ9, "checkBoundsBeginEnd", "(II[B)V"⟩
def dkwJ9_checkBoundsBeginEnd_0 : List UInt8 := [26, 27, 44, 184, 0, 48, 184, 0, 241, 177]
abbrev dktJ9_checkBoundsBeginEnd_0 : List UInt8 := dkwJ9_checkBoundsBeginEnd_0 ++ []
theorem dksJ9_checkBoundsBeginEnd_0 : cJ9_checkBoundsBeginEnd.data.toList.drop 0 = dktJ9_checkBoundsBeginEnd_0 := by decide +kernel
theorem dJ9_checkBoundsBeginEnd_0 : decode cJ9_checkBoundsBeginEnd 0 = .ok (.iload_n 0, 1) := dk_26 (dk_at dksJ9_checkBoundsBeginEnd_0 0 rfl rfl)
theorem dJ9_checkBoundsBeginEnd_1 : decode cJ9_checkBoundsBeginEnd 1 = .ok (.iload_n 1, 1) := dk_27 (dk_at dksJ9_checkBoundsBeginEnd_0 1 rfl rfl)
theorem dJ9_checkBoundsBeginEnd_2 : decode cJ9_checkBoundsBeginEnd 2 = .ok (.aload_n 2, 1) := dk_44 (dk_at dksJ9_checkBoundsBeginEnd_0 2 rfl rfl)
theorem dJ9_checkBoundsBeginEnd_3 : decode cJ9_checkBoundsBeginEnd 3 = .ok (.invokestatic 48, 3) := dk_184 0 48 (dk_at dksJ9_checkBoundsBeginEnd_0 3 rfl rfl)
theorem dJ9_checkBoundsBeginEnd_6 : decode cJ9_checkBoundsBeginEnd 6 = .ok (.invokestatic 241, 3) := dk_184 0 241 (dk_at dksJ9_checkBoundsBeginEnd_0 6 rfl rfl)
theorem dJ9_checkBoundsBeginEnd_9 : decode cJ9_checkBoundsBeginEnd 9 = .ok (.return_, 1) := dk_177 (dk_at dksJ9_checkBoundsBeginEnd_0 9 rfl rfl)
abbrev cJ9_indexOf : ByteArray := prog_41_method_41_code
def yJ9_indexOf : MethodName := ⟨RJ9, "indexOf", "([B[B)I"⟩
def dkwJ9_indexOf_1 : List UInt8 := [184, 0, 48, 3, 184, 0, 235, 172]
abbrev dktJ9_indexOf_1 : List UInt8 := dkwJ9_indexOf_1 ++ []
def dkwJ9_indexOf_0 : List UInt8 := [43, 190, 154, 0, 5, 3, 172, 42, 190, 43, 190, 162, 0, 5, 2, 172, 42, 42, 184, 0, 48, 43, 43]
abbrev dktJ9_indexOf_0 : List UInt8 := dkwJ9_indexOf_0 ++ dktJ9_indexOf_1
theorem dksJ9_indexOf_0 : cJ9_indexOf.data.toList.drop 0 = dktJ9_indexOf_0 := by decide +kernel
theorem dksJ9_indexOf_1 : cJ9_indexOf.data.toList.drop 23 = dktJ9_indexOf_1 := dk_seg dksJ9_indexOf_0 23 rfl rfl
theorem dJ9_indexOf_0 : decode cJ9_indexOf 0 = .ok (.aload_n 1, 1) := dk_43 (dk_at dksJ9_indexOf_0 0 rfl rfl)
theorem dJ9_indexOf_1 : decode cJ9_indexOf 1 = .ok (.arraylength, 1) := dk_190 (dk_at dksJ9_indexOf_0 1 rfl rfl)
theorem dJ9_indexOf_2 : decode cJ9_indexOf 2 = .ok (.ifCond .ne 5, 3) := dk_154 0 5 (dk_at dksJ9_indexOf_0 2 rfl rfl)
theorem dJ9_indexOf_5 : decode cJ9_indexOf 5 = .ok (.iconst 0, 1) := dk_3 (dk_at dksJ9_indexOf_0 5 rfl rfl)
theorem dJ9_indexOf_6 : decode cJ9_indexOf 6 = .ok (.ireturn, 1) := dk_172 (dk_at dksJ9_indexOf_0 6 rfl rfl)
theorem dJ9_indexOf_7 : decode cJ9_indexOf 7 = .ok (.aload_n 0, 1) := dk_42 (dk_at dksJ9_indexOf_0 7 rfl rfl)
theorem dJ9_indexOf_8 : decode cJ9_indexOf 8 = .ok (.arraylength, 1) := dk_190 (dk_at dksJ9_indexOf_0 8 rfl rfl)
theorem dJ9_indexOf_9 : decode cJ9_indexOf 9 = .ok (.aload_n 1, 1) := dk_43 (dk_at dksJ9_indexOf_0 9 rfl rfl)
theorem dJ9_indexOf_10 : decode cJ9_indexOf 10 = .ok (.arraylength, 1) := dk_190 (dk_at dksJ9_indexOf_0 10 rfl rfl)
theorem dJ9_indexOf_11 : decode cJ9_indexOf 11 = .ok (.if_icmp .ge 5, 3) := dk_162 0 5 (dk_at dksJ9_indexOf_0 11 rfl rfl)
theorem dJ9_indexOf_14 : decode cJ9_indexOf 14 = .ok (.iconst (-1), 1) := dk_2 (dk_at dksJ9_indexOf_0 14 rfl rfl)
theorem dJ9_indexOf_15 : decode cJ9_indexOf 15 = .ok (.ireturn, 1) := dk_172 (dk_at dksJ9_indexOf_0 15 rfl rfl)
theorem dJ9_indexOf_16 : decode cJ9_indexOf 16 = .ok (.aload_n 0, 1) := dk_42 (dk_at dksJ9_indexOf_0 16 rfl rfl)
theorem dJ9_indexOf_17 : decode cJ9_indexOf 17 = .ok (.aload_n 0, 1) := dk_42 (dk_at dksJ9_indexOf_0 17 rfl rfl)
theorem dJ9_indexOf_18 : decode cJ9_indexOf 18 = .ok (.invokestatic 48, 3) := dk_184 0 48 (dk_at dksJ9_indexOf_0 18 rfl rfl)
theorem dJ9_indexOf_21 : decode cJ9_indexOf 21 = .ok (.aload_n 1, 1) := dk_43 (dk_at dksJ9_indexOf_0 21 rfl rfl)
theorem dJ9_indexOf_22 : decode cJ9_indexOf 22 = .ok (.aload_n 1, 1) := dk_43 (dk_at dksJ9_indexOf_0 22 rfl rfl)
theorem dJ9_indexOf_23 : decode cJ9_indexOf 23 = .ok (.invokestatic 48, 3) := dk_184 0 48 (dk_at dksJ9_indexOf_1 0 rfl rfl)
theorem dJ9_indexOf_26 : decode cJ9_indexOf 26 = .ok (.iconst 0, 1) := dk_3 (dk_at dksJ9_indexOf_1 3 rfl rfl)
theorem dJ9_indexOf_27 : decode cJ9_indexOf 27 = .ok (.invokestatic 235, 3) := dk_184 0 235 (dk_at dksJ9_indexOf_1 4 rfl rfl)
theorem dJ9_indexOf_30 : decode cJ9_indexOf 30 = .ok (.ireturn, 1) := dk_172 (dk_at dksJ9_indexOf_1 7 rfl rfl)
abbrev cJ9_indexOfUnsafe : ByteArray := prog_41_method_43_code
def yJ9_indexOfUnsafe : MethodName := ⟨RJ9, "indexOfUnsafe", "([BI[BII)I"⟩
def dkwJ9_indexOfUnsafe_9 : List UInt8 := [167, 255, 146, 2, 172]
abbrev dktJ9_indexOfUnsafe_9 : List UInt8 := dkwJ9_indexOfUnsafe_9 ++ []
def dkwJ9_indexOfUnsafe_8 : List UInt8 := [132, 8, 1, 132, 10, 1, 167, 255, 228, 21, 8, 21, 9, 160, 0, 6, 21, 7, 172, 132, 7, 1]
abbrev dktJ9_indexOfUnsafe_8 : List UInt8 := dkwJ9_indexOfUnsafe_8 ++ dktJ9_indexOfUnsafe_9
def dkwJ9_indexOfUnsafe_7 : List UInt8 := [21, 8, 21, 9, 162, 0, 27, 42, 21, 8, 184, 0, 71, 44, 21, 10, 184, 0, 71, 160, 0, 12]
abbrev dktJ9_indexOfUnsafe_7 : List UInt8 := dkwJ9_indexOfUnsafe_7 ++ dktJ9_indexOfUnsafe_8
def dkwJ9_indexOfUnsafe_6 : List UInt8 := [21, 7, 21, 6, 163, 0, 61, 21, 7, 4, 96, 54, 8, 21, 8, 29, 96, 4, 100, 54, 9, 4, 54, 10]
abbrev dktJ9_indexOfUnsafe_6 : List UInt8 := dkwJ9_indexOfUnsafe_6 ++ dktJ9_indexOfUnsafe_7
def dkwJ9_indexOfUnsafe_5 : List UInt8 := [132, 7, 1, 21, 7, 21, 6, 163, 0, 17, 42, 21, 7, 184, 0, 71, 21, 5, 159, 0, 6, 167, 255, 235]
abbrev dktJ9_indexOfUnsafe_5 : List UInt8 := dkwJ9_indexOfUnsafe_5 ++ dktJ9_indexOfUnsafe_6
def dkwJ9_indexOfUnsafe_4 : List UInt8 := [21, 4, 54, 7, 21, 7, 21, 6, 163, 0, 109, 42, 21, 7, 184, 0, 71, 21, 5, 159, 0, 27]
abbrev dktJ9_indexOfUnsafe_4 : List UInt8 := dkwJ9_indexOfUnsafe_4 ++ dktJ9_indexOfUnsafe_5
def dkwJ9_indexOfUnsafe_3 : List UInt8 := [162, 0, 11, 187, 0, 52, 89, 183, 0, 66, 191, 44, 3, 184, 0, 71, 54, 5, 27, 29, 100, 54, 6]
abbrev dktJ9_indexOfUnsafe_3 : List UInt8 := dkwJ9_indexOfUnsafe_3 ++ dktJ9_indexOfUnsafe_4
def dkwJ9_indexOfUnsafe_2 : List UInt8 := [184, 0, 48, 164, 0, 11, 187, 0, 52, 89, 183, 0, 66, 191, 178, 0, 44, 154, 0, 16, 27, 29]
abbrev dktJ9_indexOfUnsafe_2 : List UInt8 := dkwJ9_indexOfUnsafe_2 ++ dktJ9_indexOfUnsafe_3
def dkwJ9_indexOfUnsafe_1 : List UInt8 := [154, 0, 15, 29, 157, 0, 11, 187, 0, 52, 89, 183, 0, 66, 191, 178, 0, 44, 154, 0, 19, 29, 44]
abbrev dktJ9_indexOfUnsafe_1 : List UInt8 := dkwJ9_indexOfUnsafe_1 ++ dktJ9_indexOfUnsafe_2
def dkwJ9_indexOfUnsafe_0 : List UInt8 := [178, 0, 44, 154, 0, 16, 21, 4, 156, 0, 11, 187, 0, 52, 89, 183, 0, 66, 191, 178, 0, 44]
abbrev dktJ9_indexOfUnsafe_0 : List UInt8 := dkwJ9_indexOfUnsafe_0 ++ dktJ9_indexOfUnsafe_1
theorem dksJ9_indexOfUnsafe_0 : cJ9_indexOfUnsafe.data.toList.drop 0 = dktJ9_indexOfUnsafe_0 := by decide +kernel
theorem dksJ9_indexOfUnsafe_1 : cJ9_indexOfUnsafe.data.toList.drop 22 = dktJ9_indexOfUnsafe_1 := dk_seg dksJ9_indexOfUnsafe_0 22 rfl rfl
theorem dksJ9_indexOfUnsafe_2 : cJ9_indexOfUnsafe.data.toList.drop 45 = dktJ9_indexOfUnsafe_2 := dk_seg dksJ9_indexOfUnsafe_1 23 rfl rfl
theorem dksJ9_indexOfUnsafe_3 : cJ9_indexOfUnsafe.data.toList.drop 67 = dktJ9_indexOfUnsafe_3 := dk_seg dksJ9_indexOfUnsafe_2 22 rfl rfl
theorem dksJ9_indexOfUnsafe_4 : cJ9_indexOfUnsafe.data.toList.drop 90 = dktJ9_indexOfUnsafe_4 := dk_seg dksJ9_indexOfUnsafe_3 23 rfl rfl
theorem dksJ9_indexOfUnsafe_5 : cJ9_indexOfUnsafe.data.toList.drop 112 = dktJ9_indexOfUnsafe_5 := dk_seg dksJ9_indexOfUnsafe_4 22 rfl rfl
theorem dksJ9_indexOfUnsafe_6 : cJ9_indexOfUnsafe.data.toList.drop 136 = dktJ9_indexOfUnsafe_6 := dk_seg dksJ9_indexOfUnsafe_5 24 rfl rfl
theorem dksJ9_indexOfUnsafe_7 : cJ9_indexOfUnsafe.data.toList.drop 160 = dktJ9_indexOfUnsafe_7 := dk_seg dksJ9_indexOfUnsafe_6 24 rfl rfl
theorem dksJ9_indexOfUnsafe_8 : cJ9_indexOfUnsafe.data.toList.drop 182 = dktJ9_indexOfUnsafe_8 := dk_seg dksJ9_indexOfUnsafe_7 22 rfl rfl
theorem dksJ9_indexOfUnsafe_9 : cJ9_indexOfUnsafe.data.toList.drop 204 = dktJ9_indexOfUnsafe_9 := dk_seg dksJ9_indexOfUnsafe_8 22 rfl rfl
theorem dJ9_indexOfUnsafe_0 : decode cJ9_indexOfUnsafe 0 = .ok (.getstatic 44, 3) := dk_178 0 44 (dk_at dksJ9_indexOfUnsafe_0 0 rfl rfl)
theorem dJ9_indexOfUnsafe_3 : decode cJ9_indexOfUnsafe 3 = .ok (.ifCond .ne 16, 3) := dk_154 0 16 (dk_at dksJ9_indexOfUnsafe_0 3 rfl rfl)
theorem dJ9_indexOfUnsafe_6 : decode cJ9_indexOfUnsafe 6 = .ok (.iload 4, 2) := dk_21 4 (dk_at dksJ9_indexOfUnsafe_0 6 rfl rfl)
theorem dJ9_indexOfUnsafe_8 : decode cJ9_indexOfUnsafe 8 = .ok (.ifCond .ge 11, 3) := dk_156 0 11 (dk_at dksJ9_indexOfUnsafe_0 8 rfl rfl)
theorem dJ9_indexOfUnsafe_11 : decode cJ9_indexOfUnsafe 11 = .ok (.new 52, 3) := dk_187 0 52 (dk_at dksJ9_indexOfUnsafe_0 11 rfl rfl)
theorem dJ9_indexOfUnsafe_14 : decode cJ9_indexOfUnsafe 14 = .ok (.dup, 1) := dk_89 (dk_at dksJ9_indexOfUnsafe_0 14 rfl rfl)
theorem dJ9_indexOfUnsafe_15 : decode cJ9_indexOfUnsafe 15 = .ok (.invokespecial 66, 3) := dk_183 0 66 (dk_at dksJ9_indexOfUnsafe_0 15 rfl rfl)
theorem dJ9_indexOfUnsafe_18 : decode cJ9_indexOfUnsafe 18 = .ok (.athrow, 1) := dk_191 (dk_at dksJ9_indexOfUnsafe_0 18 rfl rfl)
theorem dJ9_indexOfUnsafe_19 : decode cJ9_indexOfUnsafe 19 = .ok (.getstatic 44, 3) := dk_178 0 44 (dk_at dksJ9_indexOfUnsafe_0 19 rfl rfl)
theorem dJ9_indexOfUnsafe_22 : decode cJ9_indexOfUnsafe 22 = .ok (.ifCond .ne 15, 3) := dk_154 0 15 (dk_at dksJ9_indexOfUnsafe_1 0 rfl rfl)
theorem dJ9_indexOfUnsafe_25 : decode cJ9_indexOfUnsafe 25 = .ok (.iload_n 3, 1) := dk_29 (dk_at dksJ9_indexOfUnsafe_1 3 rfl rfl)
theorem dJ9_indexOfUnsafe_26 : decode cJ9_indexOfUnsafe 26 = .ok (.ifCond .gt 11, 3) := dk_157 0 11 (dk_at dksJ9_indexOfUnsafe_1 4 rfl rfl)
theorem dJ9_indexOfUnsafe_29 : decode cJ9_indexOfUnsafe 29 = .ok (.new 52, 3) := dk_187 0 52 (dk_at dksJ9_indexOfUnsafe_1 7 rfl rfl)
theorem dJ9_indexOfUnsafe_32 : decode cJ9_indexOfUnsafe 32 = .ok (.dup, 1) := dk_89 (dk_at dksJ9_indexOfUnsafe_1 10 rfl rfl)
theorem dJ9_indexOfUnsafe_33 : decode cJ9_indexOfUnsafe 33 = .ok (.invokespecial 66, 3) := dk_183 0 66 (dk_at dksJ9_indexOfUnsafe_1 11 rfl rfl)
theorem dJ9_indexOfUnsafe_36 : decode cJ9_indexOfUnsafe 36 = .ok (.athrow, 1) := dk_191 (dk_at dksJ9_indexOfUnsafe_1 14 rfl rfl)
theorem dJ9_indexOfUnsafe_37 : decode cJ9_indexOfUnsafe 37 = .ok (.getstatic 44, 3) := dk_178 0 44 (dk_at dksJ9_indexOfUnsafe_1 15 rfl rfl)
theorem dJ9_indexOfUnsafe_40 : decode cJ9_indexOfUnsafe 40 = .ok (.ifCond .ne 19, 3) := dk_154 0 19 (dk_at dksJ9_indexOfUnsafe_1 18 rfl rfl)
theorem dJ9_indexOfUnsafe_43 : decode cJ9_indexOfUnsafe 43 = .ok (.iload_n 3, 1) := dk_29 (dk_at dksJ9_indexOfUnsafe_1 21 rfl rfl)
theorem dJ9_indexOfUnsafe_44 : decode cJ9_indexOfUnsafe 44 = .ok (.aload_n 2, 1) := dk_44 (dk_at dksJ9_indexOfUnsafe_1 22 rfl rfl)
theorem dJ9_indexOfUnsafe_45 : decode cJ9_indexOfUnsafe 45 = .ok (.invokestatic 48, 3) := dk_184 0 48 (dk_at dksJ9_indexOfUnsafe_2 0 rfl rfl)
theorem dJ9_indexOfUnsafe_48 : decode cJ9_indexOfUnsafe 48 = .ok (.if_icmp .le 11, 3) := dk_164 0 11 (dk_at dksJ9_indexOfUnsafe_2 3 rfl rfl)
theorem dJ9_indexOfUnsafe_51 : decode cJ9_indexOfUnsafe 51 = .ok (.new 52, 3) := dk_187 0 52 (dk_at dksJ9_indexOfUnsafe_2 6 rfl rfl)
theorem dJ9_indexOfUnsafe_54 : decode cJ9_indexOfUnsafe 54 = .ok (.dup, 1) := dk_89 (dk_at dksJ9_indexOfUnsafe_2 9 rfl rfl)
theorem dJ9_indexOfUnsafe_55 : decode cJ9_indexOfUnsafe 55 = .ok (.invokespecial 66, 3) := dk_183 0 66 (dk_at dksJ9_indexOfUnsafe_2 10 rfl rfl)
theorem dJ9_indexOfUnsafe_58 : decode cJ9_indexOfUnsafe 58 = .ok (.athrow, 1) := dk_191 (dk_at dksJ9_indexOfUnsafe_2 13 rfl rfl)
theorem dJ9_indexOfUnsafe_59 : decode cJ9_indexOfUnsafe 59 = .ok (.getstatic 44, 3) := dk_178 0 44 (dk_at dksJ9_indexOfUnsafe_2 14 rfl rfl)
theorem dJ9_indexOfUnsafe_62 : decode cJ9_indexOfUnsafe 62 = .ok (.ifCond .ne 16, 3) := dk_154 0 16 (dk_at dksJ9_indexOfUnsafe_2 17 rfl rfl)
theorem dJ9_indexOfUnsafe_65 : decode cJ9_indexOfUnsafe 65 = .ok (.iload_n 1, 1) := dk_27 (dk_at dksJ9_indexOfUnsafe_2 20 rfl rfl)
theorem dJ9_indexOfUnsafe_66 : decode cJ9_indexOfUnsafe 66 = .ok (.iload_n 3, 1) := dk_29 (dk_at dksJ9_indexOfUnsafe_2 21 rfl rfl)
theorem dJ9_indexOfUnsafe_67 : decode cJ9_indexOfUnsafe 67 = .ok (.if_icmp .ge 11, 3) := dk_162 0 11 (dk_at dksJ9_indexOfUnsafe_3 0 rfl rfl)
theorem dJ9_indexOfUnsafe_70 : decode cJ9_indexOfUnsafe 70 = .ok (.new 52, 3) := dk_187 0 52 (dk_at dksJ9_indexOfUnsafe_3 3 rfl rfl)
theorem dJ9_indexOfUnsafe_73 : decode cJ9_indexOfUnsafe 73 = .ok (.dup, 1) := dk_89 (dk_at dksJ9_indexOfUnsafe_3 6 rfl rfl)
theorem dJ9_indexOfUnsafe_74 : decode cJ9_indexOfUnsafe 74 = .ok (.invokespecial 66, 3) := dk_183 0 66 (dk_at dksJ9_indexOfUnsafe_3 7 rfl rfl)
theorem dJ9_indexOfUnsafe_77 : decode cJ9_indexOfUnsafe 77 = .ok (.athrow, 1) := dk_191 (dk_at dksJ9_indexOfUnsafe_3 10 rfl rfl)
theorem dJ9_indexOfUnsafe_78 : decode cJ9_indexOfUnsafe 78 = .ok (.aload_n 2, 1) := dk_44 (dk_at dksJ9_indexOfUnsafe_3 11 rfl rfl)
theorem dJ9_indexOfUnsafe_79 : decode cJ9_indexOfUnsafe 79 = .ok (.iconst 0, 1) := dk_3 (dk_at dksJ9_indexOfUnsafe_3 12 rfl rfl)
theorem dJ9_indexOfUnsafe_80 : decode cJ9_indexOfUnsafe 80 = .ok (.invokestatic 71, 3) := dk_184 0 71 (dk_at dksJ9_indexOfUnsafe_3 13 rfl rfl)
theorem dJ9_indexOfUnsafe_83 : decode cJ9_indexOfUnsafe 83 = .ok (.istore 5, 2) := dk_54 5 (dk_at dksJ9_indexOfUnsafe_3 16 rfl rfl)
theorem dJ9_indexOfUnsafe_85 : decode cJ9_indexOfUnsafe 85 = .ok (.iload_n 1, 1) := dk_27 (dk_at dksJ9_indexOfUnsafe_3 18 rfl rfl)
theorem dJ9_indexOfUnsafe_86 : decode cJ9_indexOfUnsafe 86 = .ok (.iload_n 3, 1) := dk_29 (dk_at dksJ9_indexOfUnsafe_3 19 rfl rfl)
theorem dJ9_indexOfUnsafe_87 : decode cJ9_indexOfUnsafe 87 = .ok (.isub, 1) := dk_100 (dk_at dksJ9_indexOfUnsafe_3 20 rfl rfl)
theorem dJ9_indexOfUnsafe_88 : decode cJ9_indexOfUnsafe 88 = .ok (.istore 6, 2) := dk_54 6 (dk_at dksJ9_indexOfUnsafe_3 21 rfl rfl)
theorem dJ9_indexOfUnsafe_90 : decode cJ9_indexOfUnsafe 90 = .ok (.iload 4, 2) := dk_21 4 (dk_at dksJ9_indexOfUnsafe_4 0 rfl rfl)
theorem dJ9_indexOfUnsafe_92 : decode cJ9_indexOfUnsafe 92 = .ok (.istore 7, 2) := dk_54 7 (dk_at dksJ9_indexOfUnsafe_4 2 rfl rfl)
theorem dJ9_indexOfUnsafe_94 : decode cJ9_indexOfUnsafe 94 = .ok (.iload 7, 2) := dk_21 7 (dk_at dksJ9_indexOfUnsafe_4 4 rfl rfl)
theorem dJ9_indexOfUnsafe_96 : decode cJ9_indexOfUnsafe 96 = .ok (.iload 6, 2) := dk_21 6 (dk_at dksJ9_indexOfUnsafe_4 6 rfl rfl)
theorem dJ9_indexOfUnsafe_98 : decode cJ9_indexOfUnsafe 98 = .ok (.if_icmp .gt 109, 3) := dk_163 0 109 (dk_at dksJ9_indexOfUnsafe_4 8 rfl rfl)
theorem dJ9_indexOfUnsafe_101 : decode cJ9_indexOfUnsafe 101 = .ok (.aload_n 0, 1) := dk_42 (dk_at dksJ9_indexOfUnsafe_4 11 rfl rfl)
theorem dJ9_indexOfUnsafe_102 : decode cJ9_indexOfUnsafe 102 = .ok (.iload 7, 2) := dk_21 7 (dk_at dksJ9_indexOfUnsafe_4 12 rfl rfl)
theorem dJ9_indexOfUnsafe_104 : decode cJ9_indexOfUnsafe 104 = .ok (.invokestatic 71, 3) := dk_184 0 71 (dk_at dksJ9_indexOfUnsafe_4 14 rfl rfl)
theorem dJ9_indexOfUnsafe_107 : decode cJ9_indexOfUnsafe 107 = .ok (.iload 5, 2) := dk_21 5 (dk_at dksJ9_indexOfUnsafe_4 17 rfl rfl)
theorem dJ9_indexOfUnsafe_109 : decode cJ9_indexOfUnsafe 109 = .ok (.if_icmp .eq 27, 3) := dk_159 0 27 (dk_at dksJ9_indexOfUnsafe_4 19 rfl rfl)
theorem dJ9_indexOfUnsafe_112 : decode cJ9_indexOfUnsafe 112 = .ok (.iinc 7 1, 3) := dk_132 7 1 (dk_at dksJ9_indexOfUnsafe_5 0 rfl rfl)
theorem dJ9_indexOfUnsafe_115 : decode cJ9_indexOfUnsafe 115 = .ok (.iload 7, 2) := dk_21 7 (dk_at dksJ9_indexOfUnsafe_5 3 rfl rfl)
theorem dJ9_indexOfUnsafe_117 : decode cJ9_indexOfUnsafe 117 = .ok (.iload 6, 2) := dk_21 6 (dk_at dksJ9_indexOfUnsafe_5 5 rfl rfl)
theorem dJ9_indexOfUnsafe_119 : decode cJ9_indexOfUnsafe 119 = .ok (.if_icmp .gt 17, 3) := dk_163 0 17 (dk_at dksJ9_indexOfUnsafe_5 7 rfl rfl)
theorem dJ9_indexOfUnsafe_122 : decode cJ9_indexOfUnsafe 122 = .ok (.aload_n 0, 1) := dk_42 (dk_at dksJ9_indexOfUnsafe_5 10 rfl rfl)
theorem dJ9_indexOfUnsafe_123 : decode cJ9_indexOfUnsafe 123 = .ok (.iload 7, 2) := dk_21 7 (dk_at dksJ9_indexOfUnsafe_5 11 rfl rfl)
theorem dJ9_indexOfUnsafe_125 : decode cJ9_indexOfUnsafe 125 = .ok (.invokestatic 71, 3) := dk_184 0 71 (dk_at dksJ9_indexOfUnsafe_5 13 rfl rfl)
theorem dJ9_indexOfUnsafe_128 : decode cJ9_indexOfUnsafe 128 = .ok (.iload 5, 2) := dk_21 5 (dk_at dksJ9_indexOfUnsafe_5 16 rfl rfl)
theorem dJ9_indexOfUnsafe_130 : decode cJ9_indexOfUnsafe 130 = .ok (.if_icmp .eq 6, 3) := dk_159 0 6 (dk_at dksJ9_indexOfUnsafe_5 18 rfl rfl)
theorem dJ9_indexOfUnsafe_133 : decode cJ9_indexOfUnsafe 133 = .ok (.goto (-21), 3) := dk_167 255 235 (dk_at dksJ9_indexOfUnsafe_5 21 rfl rfl)
theorem dJ9_indexOfUnsafe_136 : decode cJ9_indexOfUnsafe 136 = .ok (.iload 7, 2) := dk_21 7 (dk_at dksJ9_indexOfUnsafe_6 0 rfl rfl)
theorem dJ9_indexOfUnsafe_138 : decode cJ9_indexOfUnsafe 138 = .ok (.iload 6, 2) := dk_21 6 (dk_at dksJ9_indexOfUnsafe_6 2 rfl rfl)
theorem dJ9_indexOfUnsafe_140 : decode cJ9_indexOfUnsafe 140 = .ok (.if_icmp .gt 61, 3) := dk_163 0 61 (dk_at dksJ9_indexOfUnsafe_6 4 rfl rfl)
theorem dJ9_indexOfUnsafe_143 : decode cJ9_indexOfUnsafe 143 = .ok (.iload 7, 2) := dk_21 7 (dk_at dksJ9_indexOfUnsafe_6 7 rfl rfl)
theorem dJ9_indexOfUnsafe_145 : decode cJ9_indexOfUnsafe 145 = .ok (.iconst 1, 1) := dk_4 (dk_at dksJ9_indexOfUnsafe_6 9 rfl rfl)
theorem dJ9_indexOfUnsafe_146 : decode cJ9_indexOfUnsafe 146 = .ok (.iadd, 1) := dk_96 (dk_at dksJ9_indexOfUnsafe_6 10 rfl rfl)
theorem dJ9_indexOfUnsafe_147 : decode cJ9_indexOfUnsafe 147 = .ok (.istore 8, 2) := dk_54 8 (dk_at dksJ9_indexOfUnsafe_6 11 rfl rfl)
theorem dJ9_indexOfUnsafe_149 : decode cJ9_indexOfUnsafe 149 = .ok (.iload 8, 2) := dk_21 8 (dk_at dksJ9_indexOfUnsafe_6 13 rfl rfl)
theorem dJ9_indexOfUnsafe_151 : decode cJ9_indexOfUnsafe 151 = .ok (.iload_n 3, 1) := dk_29 (dk_at dksJ9_indexOfUnsafe_6 15 rfl rfl)
theorem dJ9_indexOfUnsafe_152 : decode cJ9_indexOfUnsafe 152 = .ok (.iadd, 1) := dk_96 (dk_at dksJ9_indexOfUnsafe_6 16 rfl rfl)
theorem dJ9_indexOfUnsafe_153 : decode cJ9_indexOfUnsafe 153 = .ok (.iconst 1, 1) := dk_4 (dk_at dksJ9_indexOfUnsafe_6 17 rfl rfl)
theorem dJ9_indexOfUnsafe_154 : decode cJ9_indexOfUnsafe 154 = .ok (.isub, 1) := dk_100 (dk_at dksJ9_indexOfUnsafe_6 18 rfl rfl)
theorem dJ9_indexOfUnsafe_155 : decode cJ9_indexOfUnsafe 155 = .ok (.istore 9, 2) := dk_54 9 (dk_at dksJ9_indexOfUnsafe_6 19 rfl rfl)
theorem dJ9_indexOfUnsafe_157 : decode cJ9_indexOfUnsafe 157 = .ok (.iconst 1, 1) := dk_4 (dk_at dksJ9_indexOfUnsafe_6 21 rfl rfl)
theorem dJ9_indexOfUnsafe_158 : decode cJ9_indexOfUnsafe 158 = .ok (.istore 10, 2) := dk_54 10 (dk_at dksJ9_indexOfUnsafe_6 22 rfl rfl)
theorem dJ9_indexOfUnsafe_160 : decode cJ9_indexOfUnsafe 160 = .ok (.iload 8, 2) := dk_21 8 (dk_at dksJ9_indexOfUnsafe_7 0 rfl rfl)
theorem dJ9_indexOfUnsafe_162 : decode cJ9_indexOfUnsafe 162 = .ok (.iload 9, 2) := dk_21 9 (dk_at dksJ9_indexOfUnsafe_7 2 rfl rfl)
theorem dJ9_indexOfUnsafe_164 : decode cJ9_indexOfUnsafe 164 = .ok (.if_icmp .ge 27, 3) := dk_162 0 27 (dk_at dksJ9_indexOfUnsafe_7 4 rfl rfl)
theorem dJ9_indexOfUnsafe_167 : decode cJ9_indexOfUnsafe 167 = .ok (.aload_n 0, 1) := dk_42 (dk_at dksJ9_indexOfUnsafe_7 7 rfl rfl)
theorem dJ9_indexOfUnsafe_168 : decode cJ9_indexOfUnsafe 168 = .ok (.iload 8, 2) := dk_21 8 (dk_at dksJ9_indexOfUnsafe_7 8 rfl rfl)
theorem dJ9_indexOfUnsafe_170 : decode cJ9_indexOfUnsafe 170 = .ok (.invokestatic 71, 3) := dk_184 0 71 (dk_at dksJ9_indexOfUnsafe_7 10 rfl rfl)
theorem dJ9_indexOfUnsafe_173 : decode cJ9_indexOfUnsafe 173 = .ok (.aload_n 2, 1) := dk_44 (dk_at dksJ9_indexOfUnsafe_7 13 rfl rfl)
theorem dJ9_indexOfUnsafe_174 : decode cJ9_indexOfUnsafe 174 = .ok (.iload 10, 2) := dk_21 10 (dk_at dksJ9_indexOfUnsafe_7 14 rfl rfl)
theorem dJ9_indexOfUnsafe_176 : decode cJ9_indexOfUnsafe 176 = .ok (.invokestatic 71, 3) := dk_184 0 71 (dk_at dksJ9_indexOfUnsafe_7 16 rfl rfl)
theorem dJ9_indexOfUnsafe_179 : decode cJ9_indexOfUnsafe 179 = .ok (.if_icmp .ne 12, 3) := dk_160 0 12 (dk_at dksJ9_indexOfUnsafe_7 19 rfl rfl)
theorem dJ9_indexOfUnsafe_182 : decode cJ9_indexOfUnsafe 182 = .ok (.iinc 8 1, 3) := dk_132 8 1 (dk_at dksJ9_indexOfUnsafe_8 0 rfl rfl)
theorem dJ9_indexOfUnsafe_185 : decode cJ9_indexOfUnsafe 185 = .ok (.iinc 10 1, 3) := dk_132 10 1 (dk_at dksJ9_indexOfUnsafe_8 3 rfl rfl)
theorem dJ9_indexOfUnsafe_188 : decode cJ9_indexOfUnsafe 188 = .ok (.goto (-28), 3) := dk_167 255 228 (dk_at dksJ9_indexOfUnsafe_8 6 rfl rfl)
theorem dJ9_indexOfUnsafe_191 : decode cJ9_indexOfUnsafe 191 = .ok (.iload 8, 2) := dk_21 8 (dk_at dksJ9_indexOfUnsafe_8 9 rfl rfl)
theorem dJ9_indexOfUnsafe_193 : decode cJ9_indexOfUnsafe 193 = .ok (.iload 9, 2) := dk_21 9 (dk_at dksJ9_indexOfUnsafe_8 11 rfl rfl)
theorem dJ9_indexOfUnsafe_195 : decode cJ9_indexOfUnsafe 195 = .ok (.if_icmp .ne 6, 3) := dk_160 0 6 (dk_at dksJ9_indexOfUnsafe_8 13 rfl rfl)
theorem dJ9_indexOfUnsafe_198 : decode cJ9_indexOfUnsafe 198 = .ok (.iload 7, 2) := dk_21 7 (dk_at dksJ9_indexOfUnsafe_8 16 rfl rfl)
theorem dJ9_indexOfUnsafe_200 : decode cJ9_indexOfUnsafe 200 = .ok (.ireturn, 1) := dk_172 (dk_at dksJ9_indexOfUnsafe_8 18 rfl rfl)
theorem dJ9_indexOfUnsafe_201 : decode cJ9_indexOfUnsafe 201 = .ok (.iinc 7 1, 3) := dk_132 7 1 (dk_at dksJ9_indexOfUnsafe_8 19 rfl rfl)
theorem dJ9_indexOfUnsafe_204 : decode cJ9_indexOfUnsafe 204 = .ok (.goto (-110), 3) := dk_167 255 146 (dk_at dksJ9_indexOfUnsafe_9 0 rfl rfl)
theorem dJ9_indexOfUnsafe_207 : decode cJ9_indexOfUnsafe 207 = .ok (.iconst (-1), 1) := dk_2 (dk_at dksJ9_indexOfUnsafe_9 3 rfl rfl)
theorem dJ9_indexOfUnsafe_208 : decode cJ9_indexOfUnsafe 208 = .ok (.ireturn, 1) := dk_172 (dk_at dksJ9_indexOfUnsafe_9 4 rfl rfl)
abbrev cJ9_indexOfLatin1 : ByteArray := prog_41_method_44_code
def yJ9_indexOfLatin1 : MethodName := ⟨RJ9, "indexOfLatin1", "([B[B)I"⟩
def dkwJ9_indexOfLatin1_1 : List UInt8 := [43, 190, 3, 184, 0, 238, 172]
abbrev dktJ9_indexOfLatin1_1 : List UInt8 := dkwJ9_indexOfLatin1_1 ++ []
def dkwJ9_indexOfLatin1_0 : List UInt8 := [43, 190, 154, 0, 5, 3, 172, 42, 184, 0, 48, 43, 190, 162, 0, 5, 2, 172, 42, 42, 184, 0, 48, 43]
abbrev dktJ9_indexOfLatin1_0 : List UInt8 := dkwJ9_indexOfLatin1_0 ++ dktJ9_indexOfLatin1_1
theorem dksJ9_indexOfLatin1_0 : cJ9_indexOfLatin1.data.toList.drop 0 = dktJ9_indexOfLatin1_0 := by decide +kernel
theorem dksJ9_indexOfLatin1_1 : cJ9_indexOfLatin1.data.toList.drop 24 = dktJ9_indexOfLatin1_1 := dk_seg dksJ9_indexOfLatin1_0 24 rfl rfl
theorem dJ9_indexOfLatin1_0 : decode cJ9_indexOfLatin1 0 = .ok (.aload_n 1, 1) := dk_43 (dk_at dksJ9_indexOfLatin1_0 0 rfl rfl)
theorem dJ9_indexOfLatin1_1 : decode cJ9_indexOfLatin1 1 = .ok (.arraylength, 1) := dk_190 (dk_at dksJ9_indexOfLatin1_0 1 rfl rfl)
theorem dJ9_indexOfLatin1_2 : decode cJ9_indexOfLatin1 2 = .ok (.ifCond .ne 5, 3) := dk_154 0 5 (dk_at dksJ9_indexOfLatin1_0 2 rfl rfl)
theorem dJ9_indexOfLatin1_5 : decode cJ9_indexOfLatin1 5 = .ok (.iconst 0, 1) := dk_3 (dk_at dksJ9_indexOfLatin1_0 5 rfl rfl)
theorem dJ9_indexOfLatin1_6 : decode cJ9_indexOfLatin1 6 = .ok (.ireturn, 1) := dk_172 (dk_at dksJ9_indexOfLatin1_0 6 rfl rfl)
theorem dJ9_indexOfLatin1_7 : decode cJ9_indexOfLatin1 7 = .ok (.aload_n 0, 1) := dk_42 (dk_at dksJ9_indexOfLatin1_0 7 rfl rfl)
theorem dJ9_indexOfLatin1_8 : decode cJ9_indexOfLatin1 8 = .ok (.invokestatic 48, 3) := dk_184 0 48 (dk_at dksJ9_indexOfLatin1_0 8 rfl rfl)
theorem dJ9_indexOfLatin1_11 : decode cJ9_indexOfLatin1 11 = .ok (.aload_n 1, 1) := dk_43 (dk_at dksJ9_indexOfLatin1_0 11 rfl rfl)
theorem dJ9_indexOfLatin1_12 : decode cJ9_indexOfLatin1 12 = .ok (.arraylength, 1) := dk_190 (dk_at dksJ9_indexOfLatin1_0 12 rfl rfl)
theorem dJ9_indexOfLatin1_13 : decode cJ9_indexOfLatin1 13 = .ok (.if_icmp .ge 5, 3) := dk_162 0 5 (dk_at dksJ9_indexOfLatin1_0 13 rfl rfl)
theorem dJ9_indexOfLatin1_16 : decode cJ9_indexOfLatin1 16 = .ok (.iconst (-1), 1) := dk_2 (dk_at dksJ9_indexOfLatin1_0 16 rfl rfl)
theorem dJ9_indexOfLatin1_17 : decode cJ9_indexOfLatin1 17 = .ok (.ireturn, 1) := dk_172 (dk_at dksJ9_indexOfLatin1_0 17 rfl rfl)
theorem dJ9_indexOfLatin1_18 : decode cJ9_indexOfLatin1 18 = .ok (.aload_n 0, 1) := dk_42 (dk_at dksJ9_indexOfLatin1_0 18 rfl rfl)
theorem dJ9_indexOfLatin1_19 : decode cJ9_indexOfLatin1 19 = .ok (.aload_n 0, 1) := dk_42 (dk_at dksJ9_indexOfLatin1_0 19 rfl rfl)
theorem dJ9_indexOfLatin1_20 : decode cJ9_indexOfLatin1 20 = .ok (.invokestatic 48, 3) := dk_184 0 48 (dk_at dksJ9_indexOfLatin1_0 20 rfl rfl)
theorem dJ9_indexOfLatin1_23 : decode cJ9_indexOfLatin1 23 = .ok (.aload_n 1, 1) := dk_43 (dk_at dksJ9_indexOfLatin1_0 23 rfl rfl)
theorem dJ9_indexOfLatin1_24 : decode cJ9_indexOfLatin1 24 = .ok (.aload_n 1, 1) := dk_43 (dk_at dksJ9_indexOfLatin1_1 0 rfl rfl)
theorem dJ9_indexOfLatin1_25 : decode cJ9_indexOfLatin1 25 = .ok (.arraylength, 1) := dk_190 (dk_at dksJ9_indexOfLatin1_1 1 rfl rfl)
theorem dJ9_indexOfLatin1_26 : decode cJ9_indexOfLatin1 26 = .ok (.iconst 0, 1) := dk_3 (dk_at dksJ9_indexOfLatin1_1 2 rfl rfl)
theorem dJ9_indexOfLatin1_27 : decode cJ9_indexOfLatin1 27 = .ok (.invokestatic 238, 3) := dk_184 0 238 (dk_at dksJ9_indexOfLatin1_1 3 rfl rfl)
theorem dJ9_indexOfLatin1_30 : decode cJ9_indexOfLatin1 30 = .ok (.ireturn, 1) := dk_172 (dk_at dksJ9_indexOfLatin1_1 6 rfl rfl)
abbrev cJ9_indexOfLatin1Unsafe : ByteArray := prog_41_method_46_code
def yJ9_indexOfLatin1Unsafe : MethodName := ⟨RJ9, "indexOfLatin1Unsafe", "([BI[BII)I"⟩
def dkwJ9_indexOfLatin1Unsafe_9 : List UInt8 := [167, 255, 144, 2, 172]
abbrev dktJ9_indexOfLatin1Unsafe_9 : List UInt8 := dkwJ9_indexOfLatin1Unsafe_9 ++ []
def dkwJ9_indexOfLatin1Unsafe_8 : List UInt8 := [132, 8, 1, 132, 10, 1, 167, 255, 226, 21, 8, 21, 9, 160, 0, 6, 21, 7, 172, 132, 7, 1]
abbrev dktJ9_indexOfLatin1Unsafe_8 : List UInt8 := dkwJ9_indexOfLatin1Unsafe_8 ++ dktJ9_indexOfLatin1Unsafe_9
def dkwJ9_indexOfLatin1Unsafe_7 : List UInt8 := [21, 8, 21, 9, 162, 0, 29, 42, 21, 8, 184, 0, 71, 44, 21, 10, 51, 17, 0, 255, 126, 160, 0, 12]
abbrev dktJ9_indexOfLatin1Unsafe_7 : List UInt8 := dkwJ9_indexOfLatin1Unsafe_7 ++ dktJ9_indexOfLatin1Unsafe_8
def dkwJ9_indexOfLatin1Unsafe_6 : List UInt8 := [21, 7, 21, 6, 163, 0, 63, 21, 7, 4, 96, 54, 8, 21, 8, 29, 96, 4, 100, 54, 9, 4, 54, 10]
abbrev dktJ9_indexOfLatin1Unsafe_6 : List UInt8 := dkwJ9_indexOfLatin1Unsafe_6 ++ dktJ9_indexOfLatin1Unsafe_7
def dkwJ9_indexOfLatin1Unsafe_5 : List UInt8 := [132, 7, 1, 21, 7, 21, 6, 163, 0, 17, 42, 21, 7, 184, 0, 71, 21, 5, 159, 0, 6, 167, 255, 235]
abbrev dktJ9_indexOfLatin1Unsafe_5 : List UInt8 := dkwJ9_indexOfLatin1Unsafe_5 ++ dktJ9_indexOfLatin1Unsafe_6
def dkwJ9_indexOfLatin1Unsafe_4 : List UInt8 := [21, 4, 54, 7, 21, 7, 21, 6, 163, 0, 111, 42, 21, 7, 184, 0, 71, 21, 5, 159, 0, 27]
abbrev dktJ9_indexOfLatin1Unsafe_4 : List UInt8 := dkwJ9_indexOfLatin1Unsafe_4 ++ dktJ9_indexOfLatin1Unsafe_5
def dkwJ9_indexOfLatin1Unsafe_3 : List UInt8 := [187, 0, 52, 89, 183, 0, 66, 191, 44, 3, 51, 17, 0, 255, 126, 146, 54, 5, 27, 29, 100, 54, 6]
abbrev dktJ9_indexOfLatin1Unsafe_3 : List UInt8 := dkwJ9_indexOfLatin1Unsafe_3 ++ dktJ9_indexOfLatin1Unsafe_4
def dkwJ9_indexOfLatin1Unsafe_2 : List UInt8 := [164, 0, 11, 187, 0, 52, 89, 183, 0, 66, 191, 178, 0, 44, 154, 0, 16, 27, 29, 162, 0, 11]
abbrev dktJ9_indexOfLatin1Unsafe_2 : List UInt8 := dkwJ9_indexOfLatin1Unsafe_2 ++ dktJ9_indexOfLatin1Unsafe_3
def dkwJ9_indexOfLatin1Unsafe_1 : List UInt8 := [154, 0, 15, 29, 157, 0, 11, 187, 0, 52, 89, 183, 0, 66, 191, 178, 0, 44, 154, 0, 17, 29, 44, 190]
abbrev dktJ9_indexOfLatin1Unsafe_1 : List UInt8 := dkwJ9_indexOfLatin1Unsafe_1 ++ dktJ9_indexOfLatin1Unsafe_2
def dkwJ9_indexOfLatin1Unsafe_0 : List UInt8 := [178, 0, 44, 154, 0, 16, 21, 4, 156, 0, 11, 187, 0, 52, 89, 183, 0, 66, 191, 178, 0, 44]
abbrev dktJ9_indexOfLatin1Unsafe_0 : List UInt8 := dkwJ9_indexOfLatin1Unsafe_0 ++ dktJ9_indexOfLatin1Unsafe_1
theorem dksJ9_indexOfLatin1Unsafe_0 : cJ9_indexOfLatin1Unsafe.data.toList.drop 0 = dktJ9_indexOfLatin1Unsafe_0 := by decide +kernel
theorem dksJ9_indexOfLatin1Unsafe_1 : cJ9_indexOfLatin1Unsafe.data.toList.drop 22 = dktJ9_indexOfLatin1Unsafe_1 := dk_seg dksJ9_indexOfLatin1Unsafe_0 22 rfl rfl
theorem dksJ9_indexOfLatin1Unsafe_2 : cJ9_indexOfLatin1Unsafe.data.toList.drop 46 = dktJ9_indexOfLatin1Unsafe_2 := dk_seg dksJ9_indexOfLatin1Unsafe_1 24 rfl rfl
theorem dksJ9_indexOfLatin1Unsafe_3 : cJ9_indexOfLatin1Unsafe.data.toList.drop 68 = dktJ9_indexOfLatin1Unsafe_3 := dk_seg dksJ9_indexOfLatin1Unsafe_2 22 rfl rfl
theorem dksJ9_indexOfLatin1Unsafe_4 : cJ9_indexOfLatin1Unsafe.data.toList.drop 91 = dktJ9_indexOfLatin1Unsafe_4 := dk_seg dksJ9_indexOfLatin1Unsafe_3 23 rfl rfl
theorem dksJ9_indexOfLatin1Unsafe_5 : cJ9_indexOfLatin1Unsafe.data.toList.drop 113 = dktJ9_indexOfLatin1Unsafe_5 := dk_seg dksJ9_indexOfLatin1Unsafe_4 22 rfl rfl
theorem dksJ9_indexOfLatin1Unsafe_6 : cJ9_indexOfLatin1Unsafe.data.toList.drop 137 = dktJ9_indexOfLatin1Unsafe_6 := dk_seg dksJ9_indexOfLatin1Unsafe_5 24 rfl rfl
theorem dksJ9_indexOfLatin1Unsafe_7 : cJ9_indexOfLatin1Unsafe.data.toList.drop 161 = dktJ9_indexOfLatin1Unsafe_7 := dk_seg dksJ9_indexOfLatin1Unsafe_6 24 rfl rfl
theorem dksJ9_indexOfLatin1Unsafe_8 : cJ9_indexOfLatin1Unsafe.data.toList.drop 185 = dktJ9_indexOfLatin1Unsafe_8 := dk_seg dksJ9_indexOfLatin1Unsafe_7 24 rfl rfl
theorem dksJ9_indexOfLatin1Unsafe_9 : cJ9_indexOfLatin1Unsafe.data.toList.drop 207 = dktJ9_indexOfLatin1Unsafe_9 := dk_seg dksJ9_indexOfLatin1Unsafe_8 22 rfl rfl
theorem dJ9_indexOfLatin1Unsafe_0 : decode cJ9_indexOfLatin1Unsafe 0 = .ok (.getstatic 44, 3) := dk_178 0 44 (dk_at dksJ9_indexOfLatin1Unsafe_0 0 rfl rfl)
theorem dJ9_indexOfLatin1Unsafe_3 : decode cJ9_indexOfLatin1Unsafe 3 = .ok (.ifCond .ne 16, 3) := dk_154 0 16 (dk_at dksJ9_indexOfLatin1Unsafe_0 3 rfl rfl)
theorem dJ9_indexOfLatin1Unsafe_6 : decode cJ9_indexOfLatin1Unsafe 6 = .ok (.iload 4, 2) := dk_21 4 (dk_at dksJ9_indexOfLatin1Unsafe_0 6 rfl rfl)
theorem dJ9_indexOfLatin1Unsafe_8 : decode cJ9_indexOfLatin1Unsafe 8 = .ok (.ifCond .ge 11, 3) := dk_156 0 11 (dk_at dksJ9_indexOfLatin1Unsafe_0 8 rfl rfl)
theorem dJ9_indexOfLatin1Unsafe_11 : decode cJ9_indexOfLatin1Unsafe 11 = .ok (.new 52, 3) := dk_187 0 52 (dk_at dksJ9_indexOfLatin1Unsafe_0 11 rfl rfl)
theorem dJ9_indexOfLatin1Unsafe_14 : decode cJ9_indexOfLatin1Unsafe 14 = .ok (.dup, 1) := dk_89 (dk_at dksJ9_indexOfLatin1Unsafe_0 14 rfl rfl)
theorem dJ9_indexOfLatin1Unsafe_15 : decode cJ9_indexOfLatin1Unsafe 15 = .ok (.invokespecial 66, 3) := dk_183 0 66 (dk_at dksJ9_indexOfLatin1Unsafe_0 15 rfl rfl)
theorem dJ9_indexOfLatin1Unsafe_18 : decode cJ9_indexOfLatin1Unsafe 18 = .ok (.athrow, 1) := dk_191 (dk_at dksJ9_indexOfLatin1Unsafe_0 18 rfl rfl)
theorem dJ9_indexOfLatin1Unsafe_19 : decode cJ9_indexOfLatin1Unsafe 19 = .ok (.getstatic 44, 3) := dk_178 0 44 (dk_at dksJ9_indexOfLatin1Unsafe_0 19 rfl rfl)
theorem dJ9_indexOfLatin1Unsafe_22 : decode cJ9_indexOfLatin1Unsafe 22 = .ok (.ifCond .ne 15, 3) := dk_154 0 15 (dk_at dksJ9_indexOfLatin1Unsafe_1 0 rfl rfl)
theorem dJ9_indexOfLatin1Unsafe_25 : decode cJ9_indexOfLatin1Unsafe 25 = .ok (.iload_n 3, 1) := dk_29 (dk_at dksJ9_indexOfLatin1Unsafe_1 3 rfl rfl)
theorem dJ9_indexOfLatin1Unsafe_26 : decode cJ9_indexOfLatin1Unsafe 26 = .ok (.ifCond .gt 11, 3) := dk_157 0 11 (dk_at dksJ9_indexOfLatin1Unsafe_1 4 rfl rfl)
theorem dJ9_indexOfLatin1Unsafe_29 : decode cJ9_indexOfLatin1Unsafe 29 = .ok (.new 52, 3) := dk_187 0 52 (dk_at dksJ9_indexOfLatin1Unsafe_1 7 rfl rfl)
theorem dJ9_indexOfLatin1Unsafe_32 : decode cJ9_indexOfLatin1Unsafe 32 = .ok (.dup, 1) := dk_89 (dk_at dksJ9_indexOfLatin1Unsafe_1 10 rfl rfl)
theorem dJ9_indexOfLatin1Unsafe_33 : decode cJ9_indexOfLatin1Unsafe 33 = .ok (.invokespecial 66, 3) := dk_183 0 66 (dk_at dksJ9_indexOfLatin1Unsafe_1 11 rfl rfl)
theorem dJ9_indexOfLatin1Unsafe_36 : decode cJ9_indexOfLatin1Unsafe 36 = .ok (.athrow, 1) := dk_191 (dk_at dksJ9_indexOfLatin1Unsafe_1 14 rfl rfl)
theorem dJ9_indexOfLatin1Unsafe_37 : decode cJ9_indexOfLatin1Unsafe 37 = .ok (.getstatic 44, 3) := dk_178 0 44 (dk_at dksJ9_indexOfLatin1Unsafe_1 15 rfl rfl)
theorem dJ9_indexOfLatin1Unsafe_40 : decode cJ9_indexOfLatin1Unsafe 40 = .ok (.ifCond .ne 17, 3) := dk_154 0 17 (dk_at dksJ9_indexOfLatin1Unsafe_1 18 rfl rfl)
theorem dJ9_indexOfLatin1Unsafe_43 : decode cJ9_indexOfLatin1Unsafe 43 = .ok (.iload_n 3, 1) := dk_29 (dk_at dksJ9_indexOfLatin1Unsafe_1 21 rfl rfl)
theorem dJ9_indexOfLatin1Unsafe_44 : decode cJ9_indexOfLatin1Unsafe 44 = .ok (.aload_n 2, 1) := dk_44 (dk_at dksJ9_indexOfLatin1Unsafe_1 22 rfl rfl)
theorem dJ9_indexOfLatin1Unsafe_45 : decode cJ9_indexOfLatin1Unsafe 45 = .ok (.arraylength, 1) := dk_190 (dk_at dksJ9_indexOfLatin1Unsafe_1 23 rfl rfl)
theorem dJ9_indexOfLatin1Unsafe_46 : decode cJ9_indexOfLatin1Unsafe 46 = .ok (.if_icmp .le 11, 3) := dk_164 0 11 (dk_at dksJ9_indexOfLatin1Unsafe_2 0 rfl rfl)
theorem dJ9_indexOfLatin1Unsafe_49 : decode cJ9_indexOfLatin1Unsafe 49 = .ok (.new 52, 3) := dk_187 0 52 (dk_at dksJ9_indexOfLatin1Unsafe_2 3 rfl rfl)
theorem dJ9_indexOfLatin1Unsafe_52 : decode cJ9_indexOfLatin1Unsafe 52 = .ok (.dup, 1) := dk_89 (dk_at dksJ9_indexOfLatin1Unsafe_2 6 rfl rfl)
theorem dJ9_indexOfLatin1Unsafe_53 : decode cJ9_indexOfLatin1Unsafe 53 = .ok (.invokespecial 66, 3) := dk_183 0 66 (dk_at dksJ9_indexOfLatin1Unsafe_2 7 rfl rfl)
theorem dJ9_indexOfLatin1Unsafe_56 : decode cJ9_indexOfLatin1Unsafe 56 = .ok (.athrow, 1) := dk_191 (dk_at dksJ9_indexOfLatin1Unsafe_2 10 rfl rfl)
theorem dJ9_indexOfLatin1Unsafe_57 : decode cJ9_indexOfLatin1Unsafe 57 = .ok (.getstatic 44, 3) := dk_178 0 44 (dk_at dksJ9_indexOfLatin1Unsafe_2 11 rfl rfl)
theorem dJ9_indexOfLatin1Unsafe_60 : decode cJ9_indexOfLatin1Unsafe 60 = .ok (.ifCond .ne 16, 3) := dk_154 0 16 (dk_at dksJ9_indexOfLatin1Unsafe_2 14 rfl rfl)
theorem dJ9_indexOfLatin1Unsafe_63 : decode cJ9_indexOfLatin1Unsafe 63 = .ok (.iload_n 1, 1) := dk_27 (dk_at dksJ9_indexOfLatin1Unsafe_2 17 rfl rfl)
theorem dJ9_indexOfLatin1Unsafe_64 : decode cJ9_indexOfLatin1Unsafe 64 = .ok (.iload_n 3, 1) := dk_29 (dk_at dksJ9_indexOfLatin1Unsafe_2 18 rfl rfl)
theorem dJ9_indexOfLatin1Unsafe_65 : decode cJ9_indexOfLatin1Unsafe 65 = .ok (.if_icmp .ge 11, 3) := dk_162 0 11 (dk_at dksJ9_indexOfLatin1Unsafe_2 19 rfl rfl)
theorem dJ9_indexOfLatin1Unsafe_68 : decode cJ9_indexOfLatin1Unsafe 68 = .ok (.new 52, 3) := dk_187 0 52 (dk_at dksJ9_indexOfLatin1Unsafe_3 0 rfl rfl)
theorem dJ9_indexOfLatin1Unsafe_71 : decode cJ9_indexOfLatin1Unsafe 71 = .ok (.dup, 1) := dk_89 (dk_at dksJ9_indexOfLatin1Unsafe_3 3 rfl rfl)
theorem dJ9_indexOfLatin1Unsafe_72 : decode cJ9_indexOfLatin1Unsafe 72 = .ok (.invokespecial 66, 3) := dk_183 0 66 (dk_at dksJ9_indexOfLatin1Unsafe_3 4 rfl rfl)
theorem dJ9_indexOfLatin1Unsafe_75 : decode cJ9_indexOfLatin1Unsafe 75 = .ok (.athrow, 1) := dk_191 (dk_at dksJ9_indexOfLatin1Unsafe_3 7 rfl rfl)
theorem dJ9_indexOfLatin1Unsafe_76 : decode cJ9_indexOfLatin1Unsafe 76 = .ok (.aload_n 2, 1) := dk_44 (dk_at dksJ9_indexOfLatin1Unsafe_3 8 rfl rfl)
theorem dJ9_indexOfLatin1Unsafe_77 : decode cJ9_indexOfLatin1Unsafe 77 = .ok (.iconst 0, 1) := dk_3 (dk_at dksJ9_indexOfLatin1Unsafe_3 9 rfl rfl)
theorem dJ9_indexOfLatin1Unsafe_78 : decode cJ9_indexOfLatin1Unsafe 78 = .ok (.baload, 1) := dk_51 (dk_at dksJ9_indexOfLatin1Unsafe_3 10 rfl rfl)
theorem dJ9_indexOfLatin1Unsafe_79 : decode cJ9_indexOfLatin1Unsafe 79 = .ok (.sipush 255, 3) := dk_17 0 255 (dk_at dksJ9_indexOfLatin1Unsafe_3 11 rfl rfl)
theorem dJ9_indexOfLatin1Unsafe_82 : decode cJ9_indexOfLatin1Unsafe 82 = .ok (.iand, 1) := dk_126 (dk_at dksJ9_indexOfLatin1Unsafe_3 14 rfl rfl)
theorem dJ9_indexOfLatin1Unsafe_83 : decode cJ9_indexOfLatin1Unsafe 83 = .ok (.i2c, 1) := dk_146 (dk_at dksJ9_indexOfLatin1Unsafe_3 15 rfl rfl)
theorem dJ9_indexOfLatin1Unsafe_84 : decode cJ9_indexOfLatin1Unsafe 84 = .ok (.istore 5, 2) := dk_54 5 (dk_at dksJ9_indexOfLatin1Unsafe_3 16 rfl rfl)
theorem dJ9_indexOfLatin1Unsafe_86 : decode cJ9_indexOfLatin1Unsafe 86 = .ok (.iload_n 1, 1) := dk_27 (dk_at dksJ9_indexOfLatin1Unsafe_3 18 rfl rfl)
theorem dJ9_indexOfLatin1Unsafe_87 : decode cJ9_indexOfLatin1Unsafe 87 = .ok (.iload_n 3, 1) := dk_29 (dk_at dksJ9_indexOfLatin1Unsafe_3 19 rfl rfl)
theorem dJ9_indexOfLatin1Unsafe_88 : decode cJ9_indexOfLatin1Unsafe 88 = .ok (.isub, 1) := dk_100 (dk_at dksJ9_indexOfLatin1Unsafe_3 20 rfl rfl)
theorem dJ9_indexOfLatin1Unsafe_89 : decode cJ9_indexOfLatin1Unsafe 89 = .ok (.istore 6, 2) := dk_54 6 (dk_at dksJ9_indexOfLatin1Unsafe_3 21 rfl rfl)
theorem dJ9_indexOfLatin1Unsafe_91 : decode cJ9_indexOfLatin1Unsafe 91 = .ok (.iload 4, 2) := dk_21 4 (dk_at dksJ9_indexOfLatin1Unsafe_4 0 rfl rfl)
theorem dJ9_indexOfLatin1Unsafe_93 : decode cJ9_indexOfLatin1Unsafe 93 = .ok (.istore 7, 2) := dk_54 7 (dk_at dksJ9_indexOfLatin1Unsafe_4 2 rfl rfl)
theorem dJ9_indexOfLatin1Unsafe_95 : decode cJ9_indexOfLatin1Unsafe 95 = .ok (.iload 7, 2) := dk_21 7 (dk_at dksJ9_indexOfLatin1Unsafe_4 4 rfl rfl)
theorem dJ9_indexOfLatin1Unsafe_97 : decode cJ9_indexOfLatin1Unsafe 97 = .ok (.iload 6, 2) := dk_21 6 (dk_at dksJ9_indexOfLatin1Unsafe_4 6 rfl rfl)
theorem dJ9_indexOfLatin1Unsafe_99 : decode cJ9_indexOfLatin1Unsafe 99 = .ok (.if_icmp .gt 111, 3) := dk_163 0 111 (dk_at dksJ9_indexOfLatin1Unsafe_4 8 rfl rfl)
theorem dJ9_indexOfLatin1Unsafe_102 : decode cJ9_indexOfLatin1Unsafe 102 = .ok (.aload_n 0, 1) := dk_42 (dk_at dksJ9_indexOfLatin1Unsafe_4 11 rfl rfl)
theorem dJ9_indexOfLatin1Unsafe_103 : decode cJ9_indexOfLatin1Unsafe 103 = .ok (.iload 7, 2) := dk_21 7 (dk_at dksJ9_indexOfLatin1Unsafe_4 12 rfl rfl)
theorem dJ9_indexOfLatin1Unsafe_105 : decode cJ9_indexOfLatin1Unsafe 105 = .ok (.invokestatic 71, 3) := dk_184 0 71 (dk_at dksJ9_indexOfLatin1Unsafe_4 14 rfl rfl)
theorem dJ9_indexOfLatin1Unsafe_108 : decode cJ9_indexOfLatin1Unsafe 108 = .ok (.iload 5, 2) := dk_21 5 (dk_at dksJ9_indexOfLatin1Unsafe_4 17 rfl rfl)
theorem dJ9_indexOfLatin1Unsafe_110 : decode cJ9_indexOfLatin1Unsafe 110 = .ok (.if_icmp .eq 27, 3) := dk_159 0 27 (dk_at dksJ9_indexOfLatin1Unsafe_4 19 rfl rfl)
theorem dJ9_indexOfLatin1Unsafe_113 : decode cJ9_indexOfLatin1Unsafe 113 = .ok (.iinc 7 1, 3) := dk_132 7 1 (dk_at dksJ9_indexOfLatin1Unsafe_5 0 rfl rfl)
theorem dJ9_indexOfLatin1Unsafe_116 : decode cJ9_indexOfLatin1Unsafe 116 = .ok (.iload 7, 2) := dk_21 7 (dk_at dksJ9_indexOfLatin1Unsafe_5 3 rfl rfl)
theorem dJ9_indexOfLatin1Unsafe_118 : decode cJ9_indexOfLatin1Unsafe 118 = .ok (.iload 6, 2) := dk_21 6 (dk_at dksJ9_indexOfLatin1Unsafe_5 5 rfl rfl)
theorem dJ9_indexOfLatin1Unsafe_120 : decode cJ9_indexOfLatin1Unsafe 120 = .ok (.if_icmp .gt 17, 3) := dk_163 0 17 (dk_at dksJ9_indexOfLatin1Unsafe_5 7 rfl rfl)
theorem dJ9_indexOfLatin1Unsafe_123 : decode cJ9_indexOfLatin1Unsafe 123 = .ok (.aload_n 0, 1) := dk_42 (dk_at dksJ9_indexOfLatin1Unsafe_5 10 rfl rfl)
theorem dJ9_indexOfLatin1Unsafe_124 : decode cJ9_indexOfLatin1Unsafe 124 = .ok (.iload 7, 2) := dk_21 7 (dk_at dksJ9_indexOfLatin1Unsafe_5 11 rfl rfl)
theorem dJ9_indexOfLatin1Unsafe_126 : decode cJ9_indexOfLatin1Unsafe 126 = .ok (.invokestatic 71, 3) := dk_184 0 71 (dk_at dksJ9_indexOfLatin1Unsafe_5 13 rfl rfl)
theorem dJ9_indexOfLatin1Unsafe_129 : decode cJ9_indexOfLatin1Unsafe 129 = .ok (.iload 5, 2) := dk_21 5 (dk_at dksJ9_indexOfLatin1Unsafe_5 16 rfl rfl)
theorem dJ9_indexOfLatin1Unsafe_131 : decode cJ9_indexOfLatin1Unsafe 131 = .ok (.if_icmp .eq 6, 3) := dk_159 0 6 (dk_at dksJ9_indexOfLatin1Unsafe_5 18 rfl rfl)
theorem dJ9_indexOfLatin1Unsafe_134 : decode cJ9_indexOfLatin1Unsafe 134 = .ok (.goto (-21), 3) := dk_167 255 235 (dk_at dksJ9_indexOfLatin1Unsafe_5 21 rfl rfl)
theorem dJ9_indexOfLatin1Unsafe_137 : decode cJ9_indexOfLatin1Unsafe 137 = .ok (.iload 7, 2) := dk_21 7 (dk_at dksJ9_indexOfLatin1Unsafe_6 0 rfl rfl)
theorem dJ9_indexOfLatin1Unsafe_139 : decode cJ9_indexOfLatin1Unsafe 139 = .ok (.iload 6, 2) := dk_21 6 (dk_at dksJ9_indexOfLatin1Unsafe_6 2 rfl rfl)
theorem dJ9_indexOfLatin1Unsafe_141 : decode cJ9_indexOfLatin1Unsafe 141 = .ok (.if_icmp .gt 63, 3) := dk_163 0 63 (dk_at dksJ9_indexOfLatin1Unsafe_6 4 rfl rfl)
theorem dJ9_indexOfLatin1Unsafe_144 : decode cJ9_indexOfLatin1Unsafe 144 = .ok (.iload 7, 2) := dk_21 7 (dk_at dksJ9_indexOfLatin1Unsafe_6 7 rfl rfl)
theorem dJ9_indexOfLatin1Unsafe_146 : decode cJ9_indexOfLatin1Unsafe 146 = .ok (.iconst 1, 1) := dk_4 (dk_at dksJ9_indexOfLatin1Unsafe_6 9 rfl rfl)
theorem dJ9_indexOfLatin1Unsafe_147 : decode cJ9_indexOfLatin1Unsafe 147 = .ok (.iadd, 1) := dk_96 (dk_at dksJ9_indexOfLatin1Unsafe_6 10 rfl rfl)
theorem dJ9_indexOfLatin1Unsafe_148 : decode cJ9_indexOfLatin1Unsafe 148 = .ok (.istore 8, 2) := dk_54 8 (dk_at dksJ9_indexOfLatin1Unsafe_6 11 rfl rfl)
theorem dJ9_indexOfLatin1Unsafe_150 : decode cJ9_indexOfLatin1Unsafe 150 = .ok (.iload 8, 2) := dk_21 8 (dk_at dksJ9_indexOfLatin1Unsafe_6 13 rfl rfl)
theorem dJ9_indexOfLatin1Unsafe_152 : decode cJ9_indexOfLatin1Unsafe 152 = .ok (.iload_n 3, 1) := dk_29 (dk_at dksJ9_indexOfLatin1Unsafe_6 15 rfl rfl)
theorem dJ9_indexOfLatin1Unsafe_153 : decode cJ9_indexOfLatin1Unsafe 153 = .ok (.iadd, 1) := dk_96 (dk_at dksJ9_indexOfLatin1Unsafe_6 16 rfl rfl)
theorem dJ9_indexOfLatin1Unsafe_154 : decode cJ9_indexOfLatin1Unsafe 154 = .ok (.iconst 1, 1) := dk_4 (dk_at dksJ9_indexOfLatin1Unsafe_6 17 rfl rfl)
theorem dJ9_indexOfLatin1Unsafe_155 : decode cJ9_indexOfLatin1Unsafe 155 = .ok (.isub, 1) := dk_100 (dk_at dksJ9_indexOfLatin1Unsafe_6 18 rfl rfl)
theorem dJ9_indexOfLatin1Unsafe_156 : decode cJ9_indexOfLatin1Unsafe 156 = .ok (.istore 9, 2) := dk_54 9 (dk_at dksJ9_indexOfLatin1Unsafe_6 19 rfl rfl)
theorem dJ9_indexOfLatin1Unsafe_158 : decode cJ9_indexOfLatin1Unsafe 158 = .ok (.iconst 1, 1) := dk_4 (dk_at dksJ9_indexOfLatin1Unsafe_6 21 rfl rfl)
theorem dJ9_indexOfLatin1Unsafe_159 : decode cJ9_indexOfLatin1Unsafe 159 = .ok (.istore 10, 2) := dk_54 10 (dk_at dksJ9_indexOfLatin1Unsafe_6 22 rfl rfl)
theorem dJ9_indexOfLatin1Unsafe_161 : decode cJ9_indexOfLatin1Unsafe 161 = .ok (.iload 8, 2) := dk_21 8 (dk_at dksJ9_indexOfLatin1Unsafe_7 0 rfl rfl)
theorem dJ9_indexOfLatin1Unsafe_163 : decode cJ9_indexOfLatin1Unsafe 163 = .ok (.iload 9, 2) := dk_21 9 (dk_at dksJ9_indexOfLatin1Unsafe_7 2 rfl rfl)
theorem dJ9_indexOfLatin1Unsafe_165 : decode cJ9_indexOfLatin1Unsafe 165 = .ok (.if_icmp .ge 29, 3) := dk_162 0 29 (dk_at dksJ9_indexOfLatin1Unsafe_7 4 rfl rfl)
theorem dJ9_indexOfLatin1Unsafe_168 : decode cJ9_indexOfLatin1Unsafe 168 = .ok (.aload_n 0, 1) := dk_42 (dk_at dksJ9_indexOfLatin1Unsafe_7 7 rfl rfl)
theorem dJ9_indexOfLatin1Unsafe_169 : decode cJ9_indexOfLatin1Unsafe 169 = .ok (.iload 8, 2) := dk_21 8 (dk_at dksJ9_indexOfLatin1Unsafe_7 8 rfl rfl)
theorem dJ9_indexOfLatin1Unsafe_171 : decode cJ9_indexOfLatin1Unsafe 171 = .ok (.invokestatic 71, 3) := dk_184 0 71 (dk_at dksJ9_indexOfLatin1Unsafe_7 10 rfl rfl)
theorem dJ9_indexOfLatin1Unsafe_174 : decode cJ9_indexOfLatin1Unsafe 174 = .ok (.aload_n 2, 1) := dk_44 (dk_at dksJ9_indexOfLatin1Unsafe_7 13 rfl rfl)
theorem dJ9_indexOfLatin1Unsafe_175 : decode cJ9_indexOfLatin1Unsafe 175 = .ok (.iload 10, 2) := dk_21 10 (dk_at dksJ9_indexOfLatin1Unsafe_7 14 rfl rfl)
theorem dJ9_indexOfLatin1Unsafe_177 : decode cJ9_indexOfLatin1Unsafe 177 = .ok (.baload, 1) := dk_51 (dk_at dksJ9_indexOfLatin1Unsafe_7 16 rfl rfl)
theorem dJ9_indexOfLatin1Unsafe_178 : decode cJ9_indexOfLatin1Unsafe 178 = .ok (.sipush 255, 3) := dk_17 0 255 (dk_at dksJ9_indexOfLatin1Unsafe_7 17 rfl rfl)
theorem dJ9_indexOfLatin1Unsafe_181 : decode cJ9_indexOfLatin1Unsafe 181 = .ok (.iand, 1) := dk_126 (dk_at dksJ9_indexOfLatin1Unsafe_7 20 rfl rfl)
theorem dJ9_indexOfLatin1Unsafe_182 : decode cJ9_indexOfLatin1Unsafe 182 = .ok (.if_icmp .ne 12, 3) := dk_160 0 12 (dk_at dksJ9_indexOfLatin1Unsafe_7 21 rfl rfl)
theorem dJ9_indexOfLatin1Unsafe_185 : decode cJ9_indexOfLatin1Unsafe 185 = .ok (.iinc 8 1, 3) := dk_132 8 1 (dk_at dksJ9_indexOfLatin1Unsafe_8 0 rfl rfl)
theorem dJ9_indexOfLatin1Unsafe_188 : decode cJ9_indexOfLatin1Unsafe 188 = .ok (.iinc 10 1, 3) := dk_132 10 1 (dk_at dksJ9_indexOfLatin1Unsafe_8 3 rfl rfl)
theorem dJ9_indexOfLatin1Unsafe_191 : decode cJ9_indexOfLatin1Unsafe 191 = .ok (.goto (-30), 3) := dk_167 255 226 (dk_at dksJ9_indexOfLatin1Unsafe_8 6 rfl rfl)
theorem dJ9_indexOfLatin1Unsafe_194 : decode cJ9_indexOfLatin1Unsafe 194 = .ok (.iload 8, 2) := dk_21 8 (dk_at dksJ9_indexOfLatin1Unsafe_8 9 rfl rfl)
theorem dJ9_indexOfLatin1Unsafe_196 : decode cJ9_indexOfLatin1Unsafe 196 = .ok (.iload 9, 2) := dk_21 9 (dk_at dksJ9_indexOfLatin1Unsafe_8 11 rfl rfl)
theorem dJ9_indexOfLatin1Unsafe_198 : decode cJ9_indexOfLatin1Unsafe 198 = .ok (.if_icmp .ne 6, 3) := dk_160 0 6 (dk_at dksJ9_indexOfLatin1Unsafe_8 13 rfl rfl)
theorem dJ9_indexOfLatin1Unsafe_201 : decode cJ9_indexOfLatin1Unsafe 201 = .ok (.iload 7, 2) := dk_21 7 (dk_at dksJ9_indexOfLatin1Unsafe_8 16 rfl rfl)
theorem dJ9_indexOfLatin1Unsafe_203 : decode cJ9_indexOfLatin1Unsafe 203 = .ok (.ireturn, 1) := dk_172 (dk_at dksJ9_indexOfLatin1Unsafe_8 18 rfl rfl)
theorem dJ9_indexOfLatin1Unsafe_204 : decode cJ9_indexOfLatin1Unsafe 204 = .ok (.iinc 7 1, 3) := dk_132 7 1 (dk_at dksJ9_indexOfLatin1Unsafe_8 19 rfl rfl)
theorem dJ9_indexOfLatin1Unsafe_207 : decode cJ9_indexOfLatin1Unsafe 207 = .ok (.goto (-112), 3) := dk_167 255 144 (dk_at dksJ9_indexOfLatin1Unsafe_9 0 rfl rfl)
theorem dJ9_indexOfLatin1Unsafe_210 : decode cJ9_indexOfLatin1Unsafe 210 = .ok (.iconst (-1), 1) := dk_2 (dk_at dksJ9_indexOfLatin1Unsafe_9 3 rfl rfl)
theorem dJ9_indexOfLatin1Unsafe_211 : decode cJ9_indexOfLatin1Unsafe 211 = .ok (.ireturn, 1) := dk_172 (dk_at dksJ9_indexOfLatin1Unsafe_9 4 rfl rfl)
abbrev cJ9_charAt : ByteArray := prog_41_method_83_code
def yJ9_charAt : MethodName := ⟨RJ9, "charAt", "([BI)C"⟩
def dkwJ9_charAt_0 : List UInt8 := [27, 42, 184, 0, 67, 42, 27, 184, 0, 71, 172]
abbrev dktJ9_charAt_0 : List UInt8 := dkwJ9_charAt_0 ++ []
theorem dksJ9_charAt_0 : cJ9_charAt.data.toList.drop 0 = dktJ9_charAt_0 := by decide +kernel
theorem dJ9_charAt_0 : decode cJ9_charAt 0 = .ok (.iload_n 1, 1) := dk_27 (dk_at dksJ9_charAt_0 0 rfl rfl)
theorem dJ9_charAt_1 : decode cJ9_charAt 1 = .ok (.aload_n 0, 1) := dk_42 (dk_at dksJ9_charAt_0 1 rfl rfl)
theorem dJ9_charAt_2 : decode cJ9_charAt 2 = .ok (.invokestatic 67, 3) := dk_184 0 67 (dk_at dksJ9_charAt_0 2 rfl rfl)
theorem dJ9_charAt_5 : decode cJ9_charAt 5 = .ok (.aload_n 0, 1) := dk_42 (dk_at dksJ9_charAt_0 5 rfl rfl)
theorem dJ9_charAt_6 : decode cJ9_charAt 6 = .ok (.iload_n 1, 1) := dk_27 (dk_at dksJ9_charAt_0 6 rfl rfl)
theorem dJ9_charAt_7 : decode cJ9_charAt 7 = .ok (.invokestatic 71, 3) := dk_184 0 71 (dk_at dksJ9_charAt_0 7 rfl rfl)
theorem dJ9_charAt_10 : decode cJ9_charAt 10 = .ok (.ireturn, 1) := dk_172 (dk_at dksJ9_charAt_0 10 rfl rfl)
abbrev cX0_person : ByteArray := method_3_code
def yX0_person : MethodName := ⟨RX0, "person", "(LStrangerMarket;II[J)I"⟩
def dkwX0_person_0 : List UInt8 := [45, 3, 42, 27, 28, 182, 0, 7, 133, 80, 167, 0, 7, 58, 4, 4, 172, 3, 172]
abbrev dktX0_person_0 : List UInt8 := dkwX0_person_0 ++ []
theorem dksX0_person_0 : cX0_person.data.toList.drop 0 = dktX0_person_0 := by decide +kernel
theorem dX0_person_0 : decode cX0_person 0 = .ok (.aload_n 3, 1) := dk_45 (dk_at dksX0_person_0 0 rfl rfl)
theorem dX0_person_1 : decode cX0_person 1 = .ok (.iconst 0, 1) := dk_3 (dk_at dksX0_person_0 1 rfl rfl)
theorem dX0_person_2 : decode cX0_person 2 = .ok (.aload_n 0, 1) := dk_42 (dk_at dksX0_person_0 2 rfl rfl)
theorem dX0_person_3 : decode cX0_person 3 = .ok (.iload_n 1, 1) := dk_27 (dk_at dksX0_person_0 3 rfl rfl)
theorem dX0_person_4 : decode cX0_person 4 = .ok (.iload_n 2, 1) := dk_28 (dk_at dksX0_person_0 4 rfl rfl)
theorem dX0_person_5 : decode cX0_person 5 = .ok (.invokevirtual 7, 3) := dk_182 0 7 (dk_at dksX0_person_0 5 rfl rfl)
theorem dX0_person_8 : decode cX0_person 8 = .ok (.i2l, 1) := dk_133 (dk_at dksX0_person_0 8 rfl rfl)
theorem dX0_person_9 : decode cX0_person 9 = .ok (.lastore, 1) := dk_80 (dk_at dksX0_person_0 9 rfl rfl)
theorem dX0_person_10 : decode cX0_person 10 = .ok (.goto 7, 3) := dk_167 0 7 (dk_at dksX0_person_0 10 rfl rfl)
theorem dX0_person_13 : decode cX0_person 13 = .ok (.astore 4, 2) := dk_58 4 (dk_at dksX0_person_0 13 rfl rfl)
theorem dX0_person_15 : decode cX0_person 15 = .ok (.iconst 1, 1) := dk_4 (dk_at dksX0_person_0 15 rfl rfl)
theorem dX0_person_16 : decode cX0_person 16 = .ok (.ireturn, 1) := dk_172 (dk_at dksX0_person_0 16 rfl rfl)
theorem dX0_person_17 : decode cX0_person 17 = .ok (.iconst 0, 1) := dk_3 (dk_at dksX0_person_0 17 rfl rfl)
theorem dX0_person_18 : decode cX0_person 18 = .ok (.ireturn, 1) := dk_172 (dk_at dksX0_person_0 18 rfl rfl)
abbrev cX1_init : ByteArray := prog_1_method_5_code
def yX1_init : MethodName := ⟨RX1, "<init>", "()V"⟩
def dkwX1_init_8 : List UInt8 := [187, 0, 29, 89, 183, 0, 31, 83, 132, 1, 1, 167, 255, 234, 177]
abbrev dktX1_init_8 : List UInt8 := dkwX1_init_8 ++ []
def dkwX1_init_7 : List UInt8 := [187, 0, 79, 89, 183, 0, 81, 83, 181, 0, 82, 3, 60, 27, 16, 8, 162, 0, 22, 42, 180, 0, 43, 27]
abbrev dktX1_init_7 : List UInt8 := dkwX1_init_7 ++ dktX1_init_8
def dkwX1_init_6 : List UInt8 := [2, 79, 181, 0, 76, 42, 5, 189, 0, 79, 89, 3, 187, 0, 79, 89, 183, 0, 81, 83, 89, 4]
abbrev dktX1_init_6 : List UInt8 := dkwX1_init_6 ++ dktX1_init_7
def dkwX1_init_5 : List UInt8 := [42, 18, 70, 181, 0, 72, 42, 7, 188, 10, 89, 3, 2, 79, 89, 4, 2, 79, 89, 5, 2, 79, 89, 6]
abbrev dktX1_init_5 : List UInt8 := dkwX1_init_5 ++ dktX1_init_6
def dkwX1_init_4 : List UInt8 := [181, 0, 58, 42, 16, 7, 188, 10, 181, 0, 61, 42, 16, 7, 188, 10, 181, 0, 64, 42, 2, 181, 0, 67]
abbrev dktX1_init_4 : List UInt8 := dkwX1_init_4 ++ dktX1_init_5
def dkwX1_init_3 : List UInt8 := [16, 49, 188, 10, 181, 0, 47, 42, 16, 7, 188, 10, 181, 0, 51, 42, 2, 181, 0, 54, 42, 2]
abbrev dktX1_init_3 : List UInt8 := dkwX1_init_3 ++ dktX1_init_4
def dkwX1_init_2 : List UInt8 := [183, 0, 31, 42, 180, 0, 25, 182, 0, 32, 181, 0, 40, 42, 16, 8, 189, 0, 29, 181, 0, 43, 42]
abbrev dktX1_init_2 : List UInt8 := dkwX1_init_2 ++ dktX1_init_3
def dkwX1_init_1 : List UInt8 := [42, 187, 0, 29, 89, 183, 0, 31, 42, 180, 0, 25, 182, 0, 32, 181, 0, 36, 42, 187, 0, 29, 89]
abbrev dktX1_init_1 : List UInt8 := dkwX1_init_1 ++ dktX1_init_2
def dkwX1_init_0 : List UInt8 := [42, 183, 0, 13, 42, 17, 3, 172, 188, 8, 181, 0, 18, 42, 187, 0, 22, 89, 183, 0, 24, 181, 0, 25]
abbrev dktX1_init_0 : List UInt8 := dkwX1_init_0 ++ dktX1_init_1
theorem dksX1_init_0 : cX1_init.data.toList.drop 0 = dktX1_init_0 := by decide +kernel
theorem dksX1_init_1 : cX1_init.data.toList.drop 24 = dktX1_init_1 := dk_seg dksX1_init_0 24 rfl rfl
theorem dksX1_init_2 : cX1_init.data.toList.drop 47 = dktX1_init_2 := dk_seg dksX1_init_1 23 rfl rfl
theorem dksX1_init_3 : cX1_init.data.toList.drop 70 = dktX1_init_3 := dk_seg dksX1_init_2 23 rfl rfl
theorem dksX1_init_4 : cX1_init.data.toList.drop 92 = dktX1_init_4 := dk_seg dksX1_init_3 22 rfl rfl
theorem dksX1_init_5 : cX1_init.data.toList.drop 116 = dktX1_init_5 := dk_seg dksX1_init_4 24 rfl rfl
theorem dksX1_init_6 : cX1_init.data.toList.drop 140 = dktX1_init_6 := dk_seg dksX1_init_5 24 rfl rfl
theorem dksX1_init_7 : cX1_init.data.toList.drop 162 = dktX1_init_7 := dk_seg dksX1_init_6 22 rfl rfl
theorem dksX1_init_8 : cX1_init.data.toList.drop 186 = dktX1_init_8 := dk_seg dksX1_init_7 24 rfl rfl
theorem dX1_init_0 : decode cX1_init 0 = .ok (.aload_n 0, 1) := dk_42 (dk_at dksX1_init_0 0 rfl rfl)
theorem dX1_init_1 : decode cX1_init 1 = .ok (.invokespecial 13, 3) := dk_183 0 13 (dk_at dksX1_init_0 1 rfl rfl)
theorem dX1_init_4 : decode cX1_init 4 = .ok (.aload_n 0, 1) := dk_42 (dk_at dksX1_init_0 4 rfl rfl)
theorem dX1_init_5 : decode cX1_init 5 = .ok (.sipush 940, 3) := dk_17 3 172 (dk_at dksX1_init_0 5 rfl rfl)
theorem dX1_init_8 : decode cX1_init 8 = .ok (.newarray .byte, 2) := dk_188_8 (dk_at dksX1_init_0 8 rfl rfl)
theorem dX1_init_10 : decode cX1_init 10 = .ok (.putfield 18, 3) := dk_181 0 18 (dk_at dksX1_init_0 10 rfl rfl)
theorem dX1_init_13 : decode cX1_init 13 = .ok (.aload_n 0, 1) := dk_42 (dk_at dksX1_init_0 13 rfl rfl)
theorem dX1_init_14 : decode cX1_init 14 = .ok (.new 22, 3) := dk_187 0 22 (dk_at dksX1_init_0 14 rfl rfl)
theorem dX1_init_17 : decode cX1_init 17 = .ok (.dup, 1) := dk_89 (dk_at dksX1_init_0 17 rfl rfl)
theorem dX1_init_18 : decode cX1_init 18 = .ok (.invokespecial 24, 3) := dk_183 0 24 (dk_at dksX1_init_0 18 rfl rfl)
theorem dX1_init_21 : decode cX1_init 21 = .ok (.putfield 25, 3) := dk_181 0 25 (dk_at dksX1_init_0 21 rfl rfl)
theorem dX1_init_24 : decode cX1_init 24 = .ok (.aload_n 0, 1) := dk_42 (dk_at dksX1_init_1 0 rfl rfl)
theorem dX1_init_25 : decode cX1_init 25 = .ok (.new 29, 3) := dk_187 0 29 (dk_at dksX1_init_1 1 rfl rfl)
theorem dX1_init_28 : decode cX1_init 28 = .ok (.dup, 1) := dk_89 (dk_at dksX1_init_1 4 rfl rfl)
theorem dX1_init_29 : decode cX1_init 29 = .ok (.invokespecial 31, 3) := dk_183 0 31 (dk_at dksX1_init_1 5 rfl rfl)
theorem dX1_init_32 : decode cX1_init 32 = .ok (.aload_n 0, 1) := dk_42 (dk_at dksX1_init_1 8 rfl rfl)
theorem dX1_init_33 : decode cX1_init 33 = .ok (.getfield 25, 3) := dk_180 0 25 (dk_at dksX1_init_1 9 rfl rfl)
theorem dX1_init_36 : decode cX1_init 36 = .ok (.invokevirtual 32, 3) := dk_182 0 32 (dk_at dksX1_init_1 12 rfl rfl)
theorem dX1_init_39 : decode cX1_init 39 = .ok (.putfield 36, 3) := dk_181 0 36 (dk_at dksX1_init_1 15 rfl rfl)
theorem dX1_init_42 : decode cX1_init 42 = .ok (.aload_n 0, 1) := dk_42 (dk_at dksX1_init_1 18 rfl rfl)
theorem dX1_init_43 : decode cX1_init 43 = .ok (.new 29, 3) := dk_187 0 29 (dk_at dksX1_init_1 19 rfl rfl)
theorem dX1_init_46 : decode cX1_init 46 = .ok (.dup, 1) := dk_89 (dk_at dksX1_init_1 22 rfl rfl)
theorem dX1_init_47 : decode cX1_init 47 = .ok (.invokespecial 31, 3) := dk_183 0 31 (dk_at dksX1_init_2 0 rfl rfl)
theorem dX1_init_50 : decode cX1_init 50 = .ok (.aload_n 0, 1) := dk_42 (dk_at dksX1_init_2 3 rfl rfl)
theorem dX1_init_51 : decode cX1_init 51 = .ok (.getfield 25, 3) := dk_180 0 25 (dk_at dksX1_init_2 4 rfl rfl)
theorem dX1_init_54 : decode cX1_init 54 = .ok (.invokevirtual 32, 3) := dk_182 0 32 (dk_at dksX1_init_2 7 rfl rfl)
theorem dX1_init_57 : decode cX1_init 57 = .ok (.putfield 40, 3) := dk_181 0 40 (dk_at dksX1_init_2 10 rfl rfl)
theorem dX1_init_60 : decode cX1_init 60 = .ok (.aload_n 0, 1) := dk_42 (dk_at dksX1_init_2 13 rfl rfl)
theorem dX1_init_61 : decode cX1_init 61 = .ok (.bipush 8, 2) := dk_16 8 (dk_at dksX1_init_2 14 rfl rfl)
theorem dX1_init_63 : decode cX1_init 63 = .ok (.anewarray 29, 3) := dk_189 0 29 (dk_at dksX1_init_2 16 rfl rfl)
theorem dX1_init_66 : decode cX1_init 66 = .ok (.putfield 43, 3) := dk_181 0 43 (dk_at dksX1_init_2 19 rfl rfl)
theorem dX1_init_69 : decode cX1_init 69 = .ok (.aload_n 0, 1) := dk_42 (dk_at dksX1_init_2 22 rfl rfl)
theorem dX1_init_70 : decode cX1_init 70 = .ok (.bipush 49, 2) := dk_16 49 (dk_at dksX1_init_3 0 rfl rfl)
theorem dX1_init_72 : decode cX1_init 72 = .ok (.newarray .int, 2) := dk_188_10 (dk_at dksX1_init_3 2 rfl rfl)
theorem dX1_init_74 : decode cX1_init 74 = .ok (.putfield 47, 3) := dk_181 0 47 (dk_at dksX1_init_3 4 rfl rfl)
theorem dX1_init_77 : decode cX1_init 77 = .ok (.aload_n 0, 1) := dk_42 (dk_at dksX1_init_3 7 rfl rfl)
theorem dX1_init_78 : decode cX1_init 78 = .ok (.bipush 7, 2) := dk_16 7 (dk_at dksX1_init_3 8 rfl rfl)
theorem dX1_init_80 : decode cX1_init 80 = .ok (.newarray .int, 2) := dk_188_10 (dk_at dksX1_init_3 10 rfl rfl)
theorem dX1_init_82 : decode cX1_init 82 = .ok (.putfield 51, 3) := dk_181 0 51 (dk_at dksX1_init_3 12 rfl rfl)
theorem dX1_init_85 : decode cX1_init 85 = .ok (.aload_n 0, 1) := dk_42 (dk_at dksX1_init_3 15 rfl rfl)
theorem dX1_init_86 : decode cX1_init 86 = .ok (.iconst (-1), 1) := dk_2 (dk_at dksX1_init_3 16 rfl rfl)
theorem dX1_init_87 : decode cX1_init 87 = .ok (.putfield 54, 3) := dk_181 0 54 (dk_at dksX1_init_3 17 rfl rfl)
theorem dX1_init_90 : decode cX1_init 90 = .ok (.aload_n 0, 1) := dk_42 (dk_at dksX1_init_3 20 rfl rfl)
theorem dX1_init_91 : decode cX1_init 91 = .ok (.iconst (-1), 1) := dk_2 (dk_at dksX1_init_3 21 rfl rfl)
theorem dX1_init_92 : decode cX1_init 92 = .ok (.putfield 58, 3) := dk_181 0 58 (dk_at dksX1_init_4 0 rfl rfl)
theorem dX1_init_95 : decode cX1_init 95 = .ok (.aload_n 0, 1) := dk_42 (dk_at dksX1_init_4 3 rfl rfl)
theorem dX1_init_96 : decode cX1_init 96 = .ok (.bipush 7, 2) := dk_16 7 (dk_at dksX1_init_4 4 rfl rfl)
theorem dX1_init_98 : decode cX1_init 98 = .ok (.newarray .int, 2) := dk_188_10 (dk_at dksX1_init_4 6 rfl rfl)
theorem dX1_init_100 : decode cX1_init 100 = .ok (.putfield 61, 3) := dk_181 0 61 (dk_at dksX1_init_4 8 rfl rfl)
theorem dX1_init_103 : decode cX1_init 103 = .ok (.aload_n 0, 1) := dk_42 (dk_at dksX1_init_4 11 rfl rfl)
theorem dX1_init_104 : decode cX1_init 104 = .ok (.bipush 7, 2) := dk_16 7 (dk_at dksX1_init_4 12 rfl rfl)
theorem dX1_init_106 : decode cX1_init 106 = .ok (.newarray .int, 2) := dk_188_10 (dk_at dksX1_init_4 14 rfl rfl)
theorem dX1_init_108 : decode cX1_init 108 = .ok (.putfield 64, 3) := dk_181 0 64 (dk_at dksX1_init_4 16 rfl rfl)
theorem dX1_init_111 : decode cX1_init 111 = .ok (.aload_n 0, 1) := dk_42 (dk_at dksX1_init_4 19 rfl rfl)
theorem dX1_init_112 : decode cX1_init 112 = .ok (.iconst (-1), 1) := dk_2 (dk_at dksX1_init_4 20 rfl rfl)
theorem dX1_init_113 : decode cX1_init 113 = .ok (.putfield 67, 3) := dk_181 0 67 (dk_at dksX1_init_4 21 rfl rfl)
theorem dX1_init_116 : decode cX1_init 116 = .ok (.aload_n 0, 1) := dk_42 (dk_at dksX1_init_5 0 rfl rfl)
theorem dX1_init_117 : decode cX1_init 117 = .ok (.ldc 70, 2) := dk_18 70 (dk_at dksX1_init_5 1 rfl rfl)
theorem dX1_init_119 : decode cX1_init 119 = .ok (.putfield 72, 3) := dk_181 0 72 (dk_at dksX1_init_5 3 rfl rfl)
theorem dX1_init_122 : decode cX1_init 122 = .ok (.aload_n 0, 1) := dk_42 (dk_at dksX1_init_5 6 rfl rfl)
theorem dX1_init_123 : decode cX1_init 123 = .ok (.iconst 4, 1) := dk_7 (dk_at dksX1_init_5 7 rfl rfl)
theorem dX1_init_124 : decode cX1_init 124 = .ok (.newarray .int, 2) := dk_188_10 (dk_at dksX1_init_5 8 rfl rfl)
theorem dX1_init_126 : decode cX1_init 126 = .ok (.dup, 1) := dk_89 (dk_at dksX1_init_5 10 rfl rfl)
theorem dX1_init_127 : decode cX1_init 127 = .ok (.iconst 0, 1) := dk_3 (dk_at dksX1_init_5 11 rfl rfl)
theorem dX1_init_128 : decode cX1_init 128 = .ok (.iconst (-1), 1) := dk_2 (dk_at dksX1_init_5 12 rfl rfl)
theorem dX1_init_129 : decode cX1_init 129 = .ok (.iastore, 1) := dk_79 (dk_at dksX1_init_5 13 rfl rfl)
theorem dX1_init_130 : decode cX1_init 130 = .ok (.dup, 1) := dk_89 (dk_at dksX1_init_5 14 rfl rfl)
theorem dX1_init_131 : decode cX1_init 131 = .ok (.iconst 1, 1) := dk_4 (dk_at dksX1_init_5 15 rfl rfl)
theorem dX1_init_132 : decode cX1_init 132 = .ok (.iconst (-1), 1) := dk_2 (dk_at dksX1_init_5 16 rfl rfl)
theorem dX1_init_133 : decode cX1_init 133 = .ok (.iastore, 1) := dk_79 (dk_at dksX1_init_5 17 rfl rfl)
theorem dX1_init_134 : decode cX1_init 134 = .ok (.dup, 1) := dk_89 (dk_at dksX1_init_5 18 rfl rfl)
theorem dX1_init_135 : decode cX1_init 135 = .ok (.iconst 2, 1) := dk_5 (dk_at dksX1_init_5 19 rfl rfl)
theorem dX1_init_136 : decode cX1_init 136 = .ok (.iconst (-1), 1) := dk_2 (dk_at dksX1_init_5 20 rfl rfl)
theorem dX1_init_137 : decode cX1_init 137 = .ok (.iastore, 1) := dk_79 (dk_at dksX1_init_5 21 rfl rfl)
theorem dX1_init_138 : decode cX1_init 138 = .ok (.dup, 1) := dk_89 (dk_at dksX1_init_5 22 rfl rfl)
theorem dX1_init_139 : decode cX1_init 139 = .ok (.iconst 3, 1) := dk_6 (dk_at dksX1_init_5 23 rfl rfl)
theorem dX1_init_140 : decode cX1_init 140 = .ok (.iconst (-1), 1) := dk_2 (dk_at dksX1_init_6 0 rfl rfl)
theorem dX1_init_141 : decode cX1_init 141 = .ok (.iastore, 1) := dk_79 (dk_at dksX1_init_6 1 rfl rfl)
theorem dX1_init_142 : decode cX1_init 142 = .ok (.putfield 76, 3) := dk_181 0 76 (dk_at dksX1_init_6 2 rfl rfl)
theorem dX1_init_145 : decode cX1_init 145 = .ok (.aload_n 0, 1) := dk_42 (dk_at dksX1_init_6 5 rfl rfl)
theorem dX1_init_146 : decode cX1_init 146 = .ok (.iconst 2, 1) := dk_5 (dk_at dksX1_init_6 6 rfl rfl)
theorem dX1_init_147 : decode cX1_init 147 = .ok (.anewarray 79, 3) := dk_189 0 79 (dk_at dksX1_init_6 7 rfl rfl)
theorem dX1_init_150 : decode cX1_init 150 = .ok (.dup, 1) := dk_89 (dk_at dksX1_init_6 10 rfl rfl)
theorem dX1_init_151 : decode cX1_init 151 = .ok (.iconst 0, 1) := dk_3 (dk_at dksX1_init_6 11 rfl rfl)
theorem dX1_init_152 : decode cX1_init 152 = .ok (.new 79, 3) := dk_187 0 79 (dk_at dksX1_init_6 12 rfl rfl)
theorem dX1_init_155 : decode cX1_init 155 = .ok (.dup, 1) := dk_89 (dk_at dksX1_init_6 15 rfl rfl)
theorem dX1_init_156 : decode cX1_init 156 = .ok (.invokespecial 81, 3) := dk_183 0 81 (dk_at dksX1_init_6 16 rfl rfl)
theorem dX1_init_159 : decode cX1_init 159 = .ok (.aastore, 1) := dk_83 (dk_at dksX1_init_6 19 rfl rfl)
theorem dX1_init_160 : decode cX1_init 160 = .ok (.dup, 1) := dk_89 (dk_at dksX1_init_6 20 rfl rfl)
theorem dX1_init_161 : decode cX1_init 161 = .ok (.iconst 1, 1) := dk_4 (dk_at dksX1_init_6 21 rfl rfl)
theorem dX1_init_162 : decode cX1_init 162 = .ok (.new 79, 3) := dk_187 0 79 (dk_at dksX1_init_7 0 rfl rfl)
theorem dX1_init_165 : decode cX1_init 165 = .ok (.dup, 1) := dk_89 (dk_at dksX1_init_7 3 rfl rfl)
theorem dX1_init_166 : decode cX1_init 166 = .ok (.invokespecial 81, 3) := dk_183 0 81 (dk_at dksX1_init_7 4 rfl rfl)
theorem dX1_init_169 : decode cX1_init 169 = .ok (.aastore, 1) := dk_83 (dk_at dksX1_init_7 7 rfl rfl)
theorem dX1_init_170 : decode cX1_init 170 = .ok (.putfield 82, 3) := dk_181 0 82 (dk_at dksX1_init_7 8 rfl rfl)
theorem dX1_init_173 : decode cX1_init 173 = .ok (.iconst 0, 1) := dk_3 (dk_at dksX1_init_7 11 rfl rfl)
theorem dX1_init_174 : decode cX1_init 174 = .ok (.istore_n 1, 1) := dk_60 (dk_at dksX1_init_7 12 rfl rfl)
theorem dX1_init_175 : decode cX1_init 175 = .ok (.iload_n 1, 1) := dk_27 (dk_at dksX1_init_7 13 rfl rfl)
theorem dX1_init_176 : decode cX1_init 176 = .ok (.bipush 8, 2) := dk_16 8 (dk_at dksX1_init_7 14 rfl rfl)
theorem dX1_init_178 : decode cX1_init 178 = .ok (.if_icmp .ge 22, 3) := dk_162 0 22 (dk_at dksX1_init_7 16 rfl rfl)
theorem dX1_init_181 : decode cX1_init 181 = .ok (.aload_n 0, 1) := dk_42 (dk_at dksX1_init_7 19 rfl rfl)
theorem dX1_init_182 : decode cX1_init 182 = .ok (.getfield 43, 3) := dk_180 0 43 (dk_at dksX1_init_7 20 rfl rfl)
theorem dX1_init_185 : decode cX1_init 185 = .ok (.iload_n 1, 1) := dk_27 (dk_at dksX1_init_7 23 rfl rfl)
theorem dX1_init_186 : decode cX1_init 186 = .ok (.new 29, 3) := dk_187 0 29 (dk_at dksX1_init_8 0 rfl rfl)
theorem dX1_init_189 : decode cX1_init 189 = .ok (.dup, 1) := dk_89 (dk_at dksX1_init_8 3 rfl rfl)
theorem dX1_init_190 : decode cX1_init 190 = .ok (.invokespecial 31, 3) := dk_183 0 31 (dk_at dksX1_init_8 4 rfl rfl)
theorem dX1_init_193 : decode cX1_init 193 = .ok (.aastore, 1) := dk_83 (dk_at dksX1_init_8 7 rfl rfl)
theorem dX1_init_194 : decode cX1_init 194 = .ok (.iinc 1 1, 3) := dk_132 1 1 (dk_at dksX1_init_8 8 rfl rfl)
theorem dX1_init_197 : decode cX1_init 197 = .ok (.goto (-22), 3) := dk_167 255 234 (dk_at dksX1_init_8 11 rfl rfl)
theorem dX1_init_200 : decode cX1_init 200 = .ok (.return_, 1) := dk_177 (dk_at dksX1_init_8 14 rfl rfl)
abbrev cX1_feed : ByteArray := prog_1_method_7_code
def yX1_feed : MethodName := ⟨RX1, "feed", "(IIIII)I"⟩
def dkwX1_feed_2 : List UInt8 := [172]
abbrev dktX1_feed_2 : List UInt8 := dkwX1_feed_2 ++ []
def dkwX1_feed_1 : List UInt8 := [182, 0, 89, 42, 29, 182, 0, 89, 42, 21, 4, 182, 0, 89, 42, 21, 5, 182, 0, 89, 42, 180, 0, 86]
abbrev dktX1_feed_1 : List UInt8 := dkwX1_feed_1 ++ dktX1_feed_2
def dkwX1_feed_0 : List UInt8 := [42, 180, 0, 86, 16, 20, 96, 17, 3, 172, 164, 0, 5, 2, 172, 42, 27, 182, 0, 89, 42, 28]
abbrev dktX1_feed_0 : List UInt8 := dkwX1_feed_0 ++ dktX1_feed_1
theorem dksX1_feed_0 : cX1_feed.data.toList.drop 0 = dktX1_feed_0 := by decide +kernel
theorem dksX1_feed_1 : cX1_feed.data.toList.drop 22 = dktX1_feed_1 := dk_seg dksX1_feed_0 22 rfl rfl
theorem dksX1_feed_2 : cX1_feed.data.toList.drop 46 = dktX1_feed_2 := dk_seg dksX1_feed_1 24 rfl rfl
theorem dX1_feed_0 : decode cX1_feed 0 = .ok (.aload_n 0, 1) := dk_42 (dk_at dksX1_feed_0 0 rfl rfl)
theorem dX1_feed_1 : decode cX1_feed 1 = .ok (.getfield 86, 3) := dk_180 0 86 (dk_at dksX1_feed_0 1 rfl rfl)
theorem dX1_feed_4 : decode cX1_feed 4 = .ok (.bipush 20, 2) := dk_16 20 (dk_at dksX1_feed_0 4 rfl rfl)
theorem dX1_feed_6 : decode cX1_feed 6 = .ok (.iadd, 1) := dk_96 (dk_at dksX1_feed_0 6 rfl rfl)
theorem dX1_feed_7 : decode cX1_feed 7 = .ok (.sipush 940, 3) := dk_17 3 172 (dk_at dksX1_feed_0 7 rfl rfl)
theorem dX1_feed_10 : decode cX1_feed 10 = .ok (.if_icmp .le 5, 3) := dk_164 0 5 (dk_at dksX1_feed_0 10 rfl rfl)
theorem dX1_feed_13 : decode cX1_feed 13 = .ok (.iconst (-1), 1) := dk_2 (dk_at dksX1_feed_0 13 rfl rfl)
theorem dX1_feed_14 : decode cX1_feed 14 = .ok (.ireturn, 1) := dk_172 (dk_at dksX1_feed_0 14 rfl rfl)
theorem dX1_feed_15 : decode cX1_feed 15 = .ok (.aload_n 0, 1) := dk_42 (dk_at dksX1_feed_0 15 rfl rfl)
theorem dX1_feed_16 : decode cX1_feed 16 = .ok (.iload_n 1, 1) := dk_27 (dk_at dksX1_feed_0 16 rfl rfl)
theorem dX1_feed_17 : decode cX1_feed 17 = .ok (.invokevirtual 89, 3) := dk_182 0 89 (dk_at dksX1_feed_0 17 rfl rfl)
theorem dX1_feed_20 : decode cX1_feed 20 = .ok (.aload_n 0, 1) := dk_42 (dk_at dksX1_feed_0 20 rfl rfl)
theorem dX1_feed_21 : decode cX1_feed 21 = .ok (.iload_n 2, 1) := dk_28 (dk_at dksX1_feed_0 21 rfl rfl)
theorem dX1_feed_22 : decode cX1_feed 22 = .ok (.invokevirtual 89, 3) := dk_182 0 89 (dk_at dksX1_feed_1 0 rfl rfl)
theorem dX1_feed_25 : decode cX1_feed 25 = .ok (.aload_n 0, 1) := dk_42 (dk_at dksX1_feed_1 3 rfl rfl)
theorem dX1_feed_26 : decode cX1_feed 26 = .ok (.iload_n 3, 1) := dk_29 (dk_at dksX1_feed_1 4 rfl rfl)
theorem dX1_feed_27 : decode cX1_feed 27 = .ok (.invokevirtual 89, 3) := dk_182 0 89 (dk_at dksX1_feed_1 5 rfl rfl)
theorem dX1_feed_30 : decode cX1_feed 30 = .ok (.aload_n 0, 1) := dk_42 (dk_at dksX1_feed_1 8 rfl rfl)
theorem dX1_feed_31 : decode cX1_feed 31 = .ok (.iload 4, 2) := dk_21 4 (dk_at dksX1_feed_1 9 rfl rfl)
theorem dX1_feed_33 : decode cX1_feed 33 = .ok (.invokevirtual 89, 3) := dk_182 0 89 (dk_at dksX1_feed_1 11 rfl rfl)
theorem dX1_feed_36 : decode cX1_feed 36 = .ok (.aload_n 0, 1) := dk_42 (dk_at dksX1_feed_1 14 rfl rfl)
theorem dX1_feed_37 : decode cX1_feed 37 = .ok (.iload 5, 2) := dk_21 5 (dk_at dksX1_feed_1 15 rfl rfl)
theorem dX1_feed_39 : decode cX1_feed 39 = .ok (.invokevirtual 89, 3) := dk_182 0 89 (dk_at dksX1_feed_1 17 rfl rfl)
theorem dX1_feed_42 : decode cX1_feed 42 = .ok (.aload_n 0, 1) := dk_42 (dk_at dksX1_feed_1 20 rfl rfl)
theorem dX1_feed_43 : decode cX1_feed 43 = .ok (.getfield 86, 3) := dk_180 0 86 (dk_at dksX1_feed_1 21 rfl rfl)
theorem dX1_feed_46 : decode cX1_feed 46 = .ok (.ireturn, 1) := dk_172 (dk_at dksX1_feed_2 0 rfl rfl)
abbrev cX1_come : ByteArray := prog_1_method_6_code
def yX1_come : MethodName := ⟨RX1, "come", "(I)V"⟩
def dkwX1_come_1 : List UInt8 := [180, 0, 86, 4, 96, 181, 0, 86, 132, 2, 248, 167, 255, 226, 177]
abbrev dktX1_come_1 : List UInt8 := dkwX1_come_1 ++ []
def dkwX1_come_0 : List UInt8 := [16, 24, 61, 28, 155, 0, 32, 42, 180, 0, 18, 42, 180, 0, 86, 27, 28, 122, 145, 84, 42, 89]
abbrev dktX1_come_0 : List UInt8 := dkwX1_come_0 ++ dktX1_come_1
theorem dksX1_come_0 : cX1_come.data.toList.drop 0 = dktX1_come_0 := by decide +kernel
theorem dksX1_come_1 : cX1_come.data.toList.drop 22 = dktX1_come_1 := dk_seg dksX1_come_0 22 rfl rfl
theorem dX1_come_0 : decode cX1_come 0 = .ok (.bipush 24, 2) := dk_16 24 (dk_at dksX1_come_0 0 rfl rfl)
theorem dX1_come_2 : decode cX1_come 2 = .ok (.istore_n 2, 1) := dk_61 (dk_at dksX1_come_0 2 rfl rfl)
theorem dX1_come_3 : decode cX1_come 3 = .ok (.iload_n 2, 1) := dk_28 (dk_at dksX1_come_0 3 rfl rfl)
theorem dX1_come_4 : decode cX1_come 4 = .ok (.ifCond .lt 32, 3) := dk_155 0 32 (dk_at dksX1_come_0 4 rfl rfl)
theorem dX1_come_7 : decode cX1_come 7 = .ok (.aload_n 0, 1) := dk_42 (dk_at dksX1_come_0 7 rfl rfl)
theorem dX1_come_8 : decode cX1_come 8 = .ok (.getfield 18, 3) := dk_180 0 18 (dk_at dksX1_come_0 8 rfl rfl)
theorem dX1_come_11 : decode cX1_come 11 = .ok (.aload_n 0, 1) := dk_42 (dk_at dksX1_come_0 11 rfl rfl)
theorem dX1_come_12 : decode cX1_come 12 = .ok (.getfield 86, 3) := dk_180 0 86 (dk_at dksX1_come_0 12 rfl rfl)
theorem dX1_come_15 : decode cX1_come 15 = .ok (.iload_n 1, 1) := dk_27 (dk_at dksX1_come_0 15 rfl rfl)
theorem dX1_come_16 : decode cX1_come 16 = .ok (.iload_n 2, 1) := dk_28 (dk_at dksX1_come_0 16 rfl rfl)
theorem dX1_come_17 : decode cX1_come 17 = .ok (.ishr, 1) := dk_122 (dk_at dksX1_come_0 17 rfl rfl)
theorem dX1_come_18 : decode cX1_come 18 = .ok (.i2b, 1) := dk_145 (dk_at dksX1_come_0 18 rfl rfl)
theorem dX1_come_19 : decode cX1_come 19 = .ok (.bastore, 1) := dk_84 (dk_at dksX1_come_0 19 rfl rfl)
theorem dX1_come_20 : decode cX1_come 20 = .ok (.aload_n 0, 1) := dk_42 (dk_at dksX1_come_0 20 rfl rfl)
theorem dX1_come_21 : decode cX1_come 21 = .ok (.dup, 1) := dk_89 (dk_at dksX1_come_0 21 rfl rfl)
theorem dX1_come_22 : decode cX1_come 22 = .ok (.getfield 86, 3) := dk_180 0 86 (dk_at dksX1_come_1 0 rfl rfl)
theorem dX1_come_25 : decode cX1_come 25 = .ok (.iconst 1, 1) := dk_4 (dk_at dksX1_come_1 3 rfl rfl)
theorem dX1_come_26 : decode cX1_come 26 = .ok (.iadd, 1) := dk_96 (dk_at dksX1_come_1 4 rfl rfl)
theorem dX1_come_27 : decode cX1_come 27 = .ok (.putfield 86, 3) := dk_181 0 86 (dk_at dksX1_come_1 5 rfl rfl)
theorem dX1_come_30 : decode cX1_come 30 = .ok (.iinc 2 (-8), 3) := dk_132 2 248 (dk_at dksX1_come_1 8 rfl rfl)
theorem dX1_come_33 : decode cX1_come 33 = .ok (.goto (-30), 3) := dk_167 255 226 (dk_at dksX1_come_1 11 rfl rfl)
theorem dX1_come_36 : decode cX1_come 36 = .ok (.return_, 1) := dk_177 (dk_at dksX1_come_1 14 rfl rfl)
abbrev cX1_end : ByteArray := prog_1_method_8_code
def yX1_end : MethodName := ⟨RX1, "end", "(I)Z"⟩
def dkwX1_end_0 : List UInt8 := [27, 155, 0, 11, 27, 42, 180, 0, 86, 164, 0, 5, 3, 172, 42, 27, 181, 0, 86, 4, 172]
abbrev dktX1_end_0 : List UInt8 := dkwX1_end_0 ++ []
theorem dksX1_end_0 : cX1_end.data.toList.drop 0 = dktX1_end_0 := by decide +kernel
theorem dX1_end_0 : decode cX1_end 0 = .ok (.iload_n 1, 1) := dk_27 (dk_at dksX1_end_0 0 rfl rfl)
theorem dX1_end_1 : decode cX1_end 1 = .ok (.ifCond .lt 11, 3) := dk_155 0 11 (dk_at dksX1_end_0 1 rfl rfl)
theorem dX1_end_4 : decode cX1_end 4 = .ok (.iload_n 1, 1) := dk_27 (dk_at dksX1_end_0 4 rfl rfl)
theorem dX1_end_5 : decode cX1_end 5 = .ok (.aload_n 0, 1) := dk_42 (dk_at dksX1_end_0 5 rfl rfl)
theorem dX1_end_6 : decode cX1_end 6 = .ok (.getfield 86, 3) := dk_180 0 86 (dk_at dksX1_end_0 6 rfl rfl)
theorem dX1_end_9 : decode cX1_end 9 = .ok (.if_icmp .le 5, 3) := dk_164 0 5 (dk_at dksX1_end_0 9 rfl rfl)
theorem dX1_end_12 : decode cX1_end 12 = .ok (.iconst 0, 1) := dk_3 (dk_at dksX1_end_0 12 rfl rfl)
theorem dX1_end_13 : decode cX1_end 13 = .ok (.ireturn, 1) := dk_172 (dk_at dksX1_end_0 13 rfl rfl)
theorem dX1_end_14 : decode cX1_end 14 = .ok (.aload_n 0, 1) := dk_42 (dk_at dksX1_end_0 14 rfl rfl)
theorem dX1_end_15 : decode cX1_end 15 = .ok (.iload_n 1, 1) := dk_27 (dk_at dksX1_end_0 15 rfl rfl)
theorem dX1_end_16 : decode cX1_end 16 = .ok (.putfield 86, 3) := dk_181 0 86 (dk_at dksX1_end_0 16 rfl rfl)
theorem dX1_end_19 : decode cX1_end 19 = .ok (.iconst 1, 1) := dk_4 (dk_at dksX1_end_0 19 rfl rfl)
theorem dX1_end_20 : decode cX1_end 20 = .ok (.ireturn, 1) := dk_172 (dk_at dksX1_end_0 20 rfl rfl)
abbrev cX1_county : ByteArray := prog_1_method_11_code
def yX1_county : MethodName := ⟨RX1, "county", "()I"⟩
def dkwX1_county_3 : List UInt8 := [180, 0, 124, 100, 172]
abbrev dktX1_county_3 : List UInt8 := dkwX1_county_3 ++ []
def dkwX1_county_2 : List UInt8 := [3, 181, 0, 113, 42, 180, 0, 25, 180, 0, 116, 172, 77, 42, 44, 180, 0, 121, 181, 0, 97, 2, 44]
abbrev dktX1_county_2 : List UInt8 := dkwX1_county_2 ++ dktX1_county_3
def dkwX1_county_1 : List UInt8 := [182, 0, 105, 181, 0, 25, 42, 180, 0, 36, 42, 180, 0, 25, 182, 0, 32, 87, 42, 1, 181, 0, 109, 42]
abbrev dktX1_county_1 : List UInt8 := dkwX1_county_1 ++ dktX1_county_2
def dkwX1_county_0 : List UInt8 := [42, 182, 0, 93, 60, 42, 3, 181, 0, 97, 42, 187, 0, 100, 89, 42, 180, 0, 18, 27, 183, 0, 102]
abbrev dktX1_county_0 : List UInt8 := dkwX1_county_0 ++ dktX1_county_1
theorem dksX1_county_0 : cX1_county.data.toList.drop 0 = dktX1_county_0 := by decide +kernel
theorem dksX1_county_1 : cX1_county.data.toList.drop 23 = dktX1_county_1 := dk_seg dksX1_county_0 23 rfl rfl
theorem dksX1_county_2 : cX1_county.data.toList.drop 47 = dktX1_county_2 := dk_seg dksX1_county_1 24 rfl rfl
theorem dksX1_county_3 : cX1_county.data.toList.drop 70 = dktX1_county_3 := dk_seg dksX1_county_2 23 rfl rfl
theorem dX1_county_0 : decode cX1_county 0 = .ok (.aload_n 0, 1) := dk_42 (dk_at dksX1_county_0 0 rfl rfl)
theorem dX1_county_1 : decode cX1_county 1 = .ok (.invokevirtual 93, 3) := dk_182 0 93 (dk_at dksX1_county_0 1 rfl rfl)
theorem dX1_county_4 : decode cX1_county 4 = .ok (.istore_n 1, 1) := dk_60 (dk_at dksX1_county_0 4 rfl rfl)
theorem dX1_county_5 : decode cX1_county 5 = .ok (.aload_n 0, 1) := dk_42 (dk_at dksX1_county_0 5 rfl rfl)
theorem dX1_county_6 : decode cX1_county 6 = .ok (.iconst 0, 1) := dk_3 (dk_at dksX1_county_0 6 rfl rfl)
theorem dX1_county_7 : decode cX1_county 7 = .ok (.putfield 97, 3) := dk_181 0 97 (dk_at dksX1_county_0 7 rfl rfl)
theorem dX1_county_10 : decode cX1_county 10 = .ok (.aload_n 0, 1) := dk_42 (dk_at dksX1_county_0 10 rfl rfl)
theorem dX1_county_11 : decode cX1_county 11 = .ok (.new 100, 3) := dk_187 0 100 (dk_at dksX1_county_0 11 rfl rfl)
theorem dX1_county_14 : decode cX1_county 14 = .ok (.dup, 1) := dk_89 (dk_at dksX1_county_0 14 rfl rfl)
theorem dX1_county_15 : decode cX1_county 15 = .ok (.aload_n 0, 1) := dk_42 (dk_at dksX1_county_0 15 rfl rfl)
theorem dX1_county_16 : decode cX1_county 16 = .ok (.getfield 18, 3) := dk_180 0 18 (dk_at dksX1_county_0 16 rfl rfl)
theorem dX1_county_19 : decode cX1_county 19 = .ok (.iload_n 1, 1) := dk_27 (dk_at dksX1_county_0 19 rfl rfl)
theorem dX1_county_20 : decode cX1_county 20 = .ok (.invokespecial 102, 3) := dk_183 0 102 (dk_at dksX1_county_0 20 rfl rfl)
theorem dX1_county_23 : decode cX1_county 23 = .ok (.invokevirtual 105, 3) := dk_182 0 105 (dk_at dksX1_county_1 0 rfl rfl)
theorem dX1_county_26 : decode cX1_county 26 = .ok (.putfield 25, 3) := dk_181 0 25 (dk_at dksX1_county_1 3 rfl rfl)
theorem dX1_county_29 : decode cX1_county 29 = .ok (.aload_n 0, 1) := dk_42 (dk_at dksX1_county_1 6 rfl rfl)
theorem dX1_county_30 : decode cX1_county 30 = .ok (.getfield 36, 3) := dk_180 0 36 (dk_at dksX1_county_1 7 rfl rfl)
theorem dX1_county_33 : decode cX1_county 33 = .ok (.aload_n 0, 1) := dk_42 (dk_at dksX1_county_1 10 rfl rfl)
theorem dX1_county_34 : decode cX1_county 34 = .ok (.getfield 25, 3) := dk_180 0 25 (dk_at dksX1_county_1 11 rfl rfl)
theorem dX1_county_37 : decode cX1_county 37 = .ok (.invokevirtual 32, 3) := dk_182 0 32 (dk_at dksX1_county_1 14 rfl rfl)
theorem dX1_county_40 : decode cX1_county 40 = .ok (.pop, 1) := dk_87 (dk_at dksX1_county_1 17 rfl rfl)
theorem dX1_county_41 : decode cX1_county 41 = .ok (.aload_n 0, 1) := dk_42 (dk_at dksX1_county_1 18 rfl rfl)
theorem dX1_county_42 : decode cX1_county 42 = .ok (.aconst_null, 1) := dk_1 (dk_at dksX1_county_1 19 rfl rfl)
theorem dX1_county_43 : decode cX1_county 43 = .ok (.putfield 109, 3) := dk_181 0 109 (dk_at dksX1_county_1 20 rfl rfl)
theorem dX1_county_46 : decode cX1_county 46 = .ok (.aload_n 0, 1) := dk_42 (dk_at dksX1_county_1 23 rfl rfl)
theorem dX1_county_47 : decode cX1_county 47 = .ok (.iconst 0, 1) := dk_3 (dk_at dksX1_county_2 0 rfl rfl)
theorem dX1_county_48 : decode cX1_county 48 = .ok (.putfield 113, 3) := dk_181 0 113 (dk_at dksX1_county_2 1 rfl rfl)
theorem dX1_county_51 : decode cX1_county 51 = .ok (.aload_n 0, 1) := dk_42 (dk_at dksX1_county_2 4 rfl rfl)
theorem dX1_county_52 : decode cX1_county 52 = .ok (.getfield 25, 3) := dk_180 0 25 (dk_at dksX1_county_2 5 rfl rfl)
theorem dX1_county_55 : decode cX1_county 55 = .ok (.getfield 116, 3) := dk_180 0 116 (dk_at dksX1_county_2 8 rfl rfl)
theorem dX1_county_58 : decode cX1_county 58 = .ok (.ireturn, 1) := dk_172 (dk_at dksX1_county_2 11 rfl rfl)
theorem dX1_county_59 : decode cX1_county 59 = .ok (.astore_n 2, 1) := dk_77 (dk_at dksX1_county_2 12 rfl rfl)
theorem dX1_county_60 : decode cX1_county 60 = .ok (.aload_n 0, 1) := dk_42 (dk_at dksX1_county_2 13 rfl rfl)
theorem dX1_county_61 : decode cX1_county 61 = .ok (.aload_n 2, 1) := dk_44 (dk_at dksX1_county_2 14 rfl rfl)
theorem dX1_county_62 : decode cX1_county 62 = .ok (.getfield 121, 3) := dk_180 0 121 (dk_at dksX1_county_2 15 rfl rfl)
theorem dX1_county_65 : decode cX1_county 65 = .ok (.putfield 97, 3) := dk_181 0 97 (dk_at dksX1_county_2 18 rfl rfl)
theorem dX1_county_68 : decode cX1_county 68 = .ok (.iconst (-1), 1) := dk_2 (dk_at dksX1_county_2 21 rfl rfl)
theorem dX1_county_69 : decode cX1_county 69 = .ok (.aload_n 2, 1) := dk_44 (dk_at dksX1_county_2 22 rfl rfl)
theorem dX1_county_70 : decode cX1_county 70 = .ok (.getfield 124, 3) := dk_180 0 124 (dk_at dksX1_county_3 0 rfl rfl)
theorem dX1_county_73 : decode cX1_county 73 = .ok (.isub, 1) := dk_100 (dk_at dksX1_county_3 3 rfl rfl)
theorem dX1_county_74 : decode cX1_county 74 = .ok (.ireturn, 1) := dk_172 (dk_at dksX1_county_3 4 rfl rfl)
abbrev cX1_take : ByteArray := prog_1_method_9_code
def yX1_take : MethodName := ⟨RX1, "take", "()I"⟩
def dkwX1_take_0 : List UInt8 := [42, 180, 0, 86, 60, 42, 3, 181, 0, 86, 27, 172]
abbrev dktX1_take_0 : List UInt8 := dkwX1_take_0 ++ []
theorem dksX1_take_0 : cX1_take.data.toList.drop 0 = dktX1_take_0 := by decide +kernel
theorem dX1_take_0 : decode cX1_take 0 = .ok (.aload_n 0, 1) := dk_42 (dk_at dksX1_take_0 0 rfl rfl)
theorem dX1_take_1 : decode cX1_take 1 = .ok (.getfield 86, 3) := dk_180 0 86 (dk_at dksX1_take_0 1 rfl rfl)
theorem dX1_take_4 : decode cX1_take 4 = .ok (.istore_n 1, 1) := dk_60 (dk_at dksX1_take_0 4 rfl rfl)
theorem dX1_take_5 : decode cX1_take 5 = .ok (.aload_n 0, 1) := dk_42 (dk_at dksX1_take_0 5 rfl rfl)
theorem dX1_take_6 : decode cX1_take 6 = .ok (.iconst 0, 1) := dk_3 (dk_at dksX1_take_0 6 rfl rfl)
theorem dX1_take_7 : decode cX1_take 7 = .ok (.putfield 86, 3) := dk_181 0 86 (dk_at dksX1_take_0 7 rfl rfl)
theorem dX1_take_10 : decode cX1_take 10 = .ok (.iload_n 1, 1) := dk_27 (dk_at dksX1_take_0 10 rfl rfl)
theorem dX1_take_11 : decode cX1_take 11 = .ok (.ireturn, 1) := dk_172 (dk_at dksX1_take_0 11 rfl rfl)
abbrev cX1_isIn : ByteArray := prog_1_method_1_code
def yX1_isIn : MethodName := ⟨RX1, "isIn", "(III)Z"⟩
def dkwX1_isIn_0 : List UInt8 := [26, 27, 161, 0, 12, 26, 28, 163, 0, 7, 4, 167, 0, 4, 3, 172]
abbrev dktX1_isIn_0 : List UInt8 := dkwX1_isIn_0 ++ []
theorem dksX1_isIn_0 : cX1_isIn.data.toList.drop 0 = dktX1_isIn_0 := by decide +kernel
theorem dX1_isIn_0 : decode cX1_isIn 0 = .ok (.iload_n 0, 1) := dk_26 (dk_at dksX1_isIn_0 0 rfl rfl)
theorem dX1_isIn_1 : decode cX1_isIn 1 = .ok (.iload_n 1, 1) := dk_27 (dk_at dksX1_isIn_0 1 rfl rfl)
theorem dX1_isIn_2 : decode cX1_isIn 2 = .ok (.if_icmp .lt 12, 3) := dk_161 0 12 (dk_at dksX1_isIn_0 2 rfl rfl)
theorem dX1_isIn_5 : decode cX1_isIn 5 = .ok (.iload_n 0, 1) := dk_26 (dk_at dksX1_isIn_0 5 rfl rfl)
theorem dX1_isIn_6 : decode cX1_isIn 6 = .ok (.iload_n 2, 1) := dk_28 (dk_at dksX1_isIn_0 6 rfl rfl)
theorem dX1_isIn_7 : decode cX1_isIn 7 = .ok (.if_icmp .gt 7, 3) := dk_163 0 7 (dk_at dksX1_isIn_0 7 rfl rfl)
theorem dX1_isIn_10 : decode cX1_isIn 10 = .ok (.iconst 1, 1) := dk_4 (dk_at dksX1_isIn_0 10 rfl rfl)
theorem dX1_isIn_11 : decode cX1_isIn 11 = .ok (.goto 4, 3) := dk_167 0 4 (dk_at dksX1_isIn_0 11 rfl rfl)
theorem dX1_isIn_14 : decode cX1_isIn 14 = .ok (.iconst 0, 1) := dk_3 (dk_at dksX1_isIn_0 14 rfl rfl)
theorem dX1_isIn_15 : decode cX1_isIn 15 = .ok (.ireturn, 1) := dk_172 (dk_at dksX1_isIn_0 15 rfl rfl)
abbrev cX1_isOf : ByteArray := prog_1_method_2_code
def yX1_isOf : MethodName := ⟨RX1, "isOf", "(II)Z"⟩
def dkwX1_isOf_0 : List UInt8 := [26, 27, 122, 4, 126, 4, 160, 0, 7, 4, 167, 0, 4, 3, 172]
abbrev dktX1_isOf_0 : List UInt8 := dkwX1_isOf_0 ++ []
theorem dksX1_isOf_0 : cX1_isOf.data.toList.drop 0 = dktX1_isOf_0 := by decide +kernel
theorem dX1_isOf_0 : decode cX1_isOf 0 = .ok (.iload_n 0, 1) := dk_26 (dk_at dksX1_isOf_0 0 rfl rfl)
theorem dX1_isOf_1 : decode cX1_isOf 1 = .ok (.iload_n 1, 1) := dk_27 (dk_at dksX1_isOf_0 1 rfl rfl)
theorem dX1_isOf_2 : decode cX1_isOf 2 = .ok (.ishr, 1) := dk_122 (dk_at dksX1_isOf_0 2 rfl rfl)
theorem dX1_isOf_3 : decode cX1_isOf 3 = .ok (.iconst 1, 1) := dk_4 (dk_at dksX1_isOf_0 3 rfl rfl)
theorem dX1_isOf_4 : decode cX1_isOf 4 = .ok (.iand, 1) := dk_126 (dk_at dksX1_isOf_0 4 rfl rfl)
theorem dX1_isOf_5 : decode cX1_isOf 5 = .ok (.iconst 1, 1) := dk_4 (dk_at dksX1_isOf_0 5 rfl rfl)
theorem dX1_isOf_6 : decode cX1_isOf 6 = .ok (.if_icmp .ne 7, 3) := dk_160 0 7 (dk_at dksX1_isOf_0 6 rfl rfl)
theorem dX1_isOf_9 : decode cX1_isOf 9 = .ok (.iconst 1, 1) := dk_4 (dk_at dksX1_isOf_0 9 rfl rfl)
theorem dX1_isOf_10 : decode cX1_isOf 10 = .ok (.goto 4, 3) := dk_167 0 4 (dk_at dksX1_isOf_0 10 rfl rfl)
theorem dX1_isOf_13 : decode cX1_isOf 13 = .ok (.iconst 0, 1) := dk_3 (dk_at dksX1_isOf_0 13 rfl rfl)
theorem dX1_isOf_14 : decode cX1_isOf 14 = .ok (.ireturn, 1) := dk_172 (dk_at dksX1_isOf_0 14 rfl rfl)
abbrev cX1_fault : ByteArray := prog_1_method_12_code
def yX1_fault : MethodName := ⟨RX1, "fault", "()I"⟩
theorem dX1_fault_0 : decode cX1_fault 0 = .ok (.aload_n 0, 1) := by decide +kernel
theorem dX1_fault_1 : decode cX1_fault 1 = .ok (.getfield 97, 3) := by decide +kernel
theorem dX1_fault_4 : decode cX1_fault 4 = .ok (.ireturn, 1) := by decide +kernel
abbrev cX1_good : ByteArray := prog_1_method_18_code
def yX1_good : MethodName := ⟨RX1, "good", "(III)I"⟩
def dkwX1_good_3 : List UInt8 := [42, 180, 0, 36, 27, 182, 0, 160, 180, 0, 191, 28, 46, 172]
abbrev dktX1_good_3 : List UInt8 := dkwX1_good_3 ++ []
def dkwX1_good_2 : List UInt8 := [167, 0, 37, 29, 4, 160, 0, 19, 42, 180, 0, 36, 180, 0, 188, 8, 27, 104, 28, 96, 46, 167, 0, 16]
abbrev dktX1_good_2 : List UInt8 := dkwX1_good_2 ++ dktX1_good_3
def dkwX1_good_1 : List UInt8 := [154, 0, 5, 2, 172, 29, 154, 0, 19, 42, 180, 0, 36, 180, 0, 185, 8, 27, 104, 28, 96, 46]
abbrev dktX1_good_1 : List UInt8 := dkwX1_good_1 ++ dktX1_good_2
def dkwX1_good_0 : List UInt8 := [42, 27, 182, 0, 145, 153, 0, 20, 42, 28, 182, 0, 184, 153, 0, 12, 29, 3, 5, 184, 0, 146]
abbrev dktX1_good_0 : List UInt8 := dkwX1_good_0 ++ dktX1_good_1
theorem dksX1_good_0 : cX1_good.data.toList.drop 0 = dktX1_good_0 := by decide +kernel
theorem dksX1_good_1 : cX1_good.data.toList.drop 22 = dktX1_good_1 := dk_seg dksX1_good_0 22 rfl rfl
theorem dksX1_good_2 : cX1_good.data.toList.drop 44 = dktX1_good_2 := dk_seg dksX1_good_1 22 rfl rfl
theorem dksX1_good_3 : cX1_good.data.toList.drop 68 = dktX1_good_3 := dk_seg dksX1_good_2 24 rfl rfl
theorem dX1_good_0 : decode cX1_good 0 = .ok (.aload_n 0, 1) := dk_42 (dk_at dksX1_good_0 0 rfl rfl)
theorem dX1_good_1 : decode cX1_good 1 = .ok (.iload_n 1, 1) := dk_27 (dk_at dksX1_good_0 1 rfl rfl)
theorem dX1_good_2 : decode cX1_good 2 = .ok (.invokevirtual 145, 3) := dk_182 0 145 (dk_at dksX1_good_0 2 rfl rfl)
theorem dX1_good_5 : decode cX1_good 5 = .ok (.ifCond .eq 20, 3) := dk_153 0 20 (dk_at dksX1_good_0 5 rfl rfl)
theorem dX1_good_8 : decode cX1_good 8 = .ok (.aload_n 0, 1) := dk_42 (dk_at dksX1_good_0 8 rfl rfl)
theorem dX1_good_9 : decode cX1_good 9 = .ok (.iload_n 2, 1) := dk_28 (dk_at dksX1_good_0 9 rfl rfl)
theorem dX1_good_10 : decode cX1_good 10 = .ok (.invokevirtual 184, 3) := dk_182 0 184 (dk_at dksX1_good_0 10 rfl rfl)
theorem dX1_good_13 : decode cX1_good 13 = .ok (.ifCond .eq 12, 3) := dk_153 0 12 (dk_at dksX1_good_0 13 rfl rfl)
theorem dX1_good_16 : decode cX1_good 16 = .ok (.iload_n 3, 1) := dk_29 (dk_at dksX1_good_0 16 rfl rfl)
theorem dX1_good_17 : decode cX1_good 17 = .ok (.iconst 0, 1) := dk_3 (dk_at dksX1_good_0 17 rfl rfl)
theorem dX1_good_18 : decode cX1_good 18 = .ok (.iconst 2, 1) := dk_5 (dk_at dksX1_good_0 18 rfl rfl)
theorem dX1_good_19 : decode cX1_good 19 = .ok (.invokestatic 146, 3) := dk_184 0 146 (dk_at dksX1_good_0 19 rfl rfl)
theorem dX1_good_22 : decode cX1_good 22 = .ok (.ifCond .ne 5, 3) := dk_154 0 5 (dk_at dksX1_good_1 0 rfl rfl)
theorem dX1_good_25 : decode cX1_good 25 = .ok (.iconst (-1), 1) := dk_2 (dk_at dksX1_good_1 3 rfl rfl)
theorem dX1_good_26 : decode cX1_good 26 = .ok (.ireturn, 1) := dk_172 (dk_at dksX1_good_1 4 rfl rfl)
theorem dX1_good_27 : decode cX1_good 27 = .ok (.iload_n 3, 1) := dk_29 (dk_at dksX1_good_1 5 rfl rfl)
theorem dX1_good_28 : decode cX1_good 28 = .ok (.ifCond .ne 19, 3) := dk_154 0 19 (dk_at dksX1_good_1 6 rfl rfl)
theorem dX1_good_31 : decode cX1_good 31 = .ok (.aload_n 0, 1) := dk_42 (dk_at dksX1_good_1 9 rfl rfl)
theorem dX1_good_32 : decode cX1_good 32 = .ok (.getfield 36, 3) := dk_180 0 36 (dk_at dksX1_good_1 10 rfl rfl)
theorem dX1_good_35 : decode cX1_good 35 = .ok (.getfield 185, 3) := dk_180 0 185 (dk_at dksX1_good_1 13 rfl rfl)
theorem dX1_good_38 : decode cX1_good 38 = .ok (.iconst 5, 1) := dk_8 (dk_at dksX1_good_1 16 rfl rfl)
theorem dX1_good_39 : decode cX1_good 39 = .ok (.iload_n 1, 1) := dk_27 (dk_at dksX1_good_1 17 rfl rfl)
theorem dX1_good_40 : decode cX1_good 40 = .ok (.imul, 1) := dk_104 (dk_at dksX1_good_1 18 rfl rfl)
theorem dX1_good_41 : decode cX1_good 41 = .ok (.iload_n 2, 1) := dk_28 (dk_at dksX1_good_1 19 rfl rfl)
theorem dX1_good_42 : decode cX1_good 42 = .ok (.iadd, 1) := dk_96 (dk_at dksX1_good_1 20 rfl rfl)
theorem dX1_good_43 : decode cX1_good 43 = .ok (.iaload, 1) := dk_46 (dk_at dksX1_good_1 21 rfl rfl)
theorem dX1_good_44 : decode cX1_good 44 = .ok (.goto 37, 3) := dk_167 0 37 (dk_at dksX1_good_2 0 rfl rfl)
theorem dX1_good_47 : decode cX1_good 47 = .ok (.iload_n 3, 1) := dk_29 (dk_at dksX1_good_2 3 rfl rfl)
theorem dX1_good_48 : decode cX1_good 48 = .ok (.iconst 1, 1) := dk_4 (dk_at dksX1_good_2 4 rfl rfl)
theorem dX1_good_49 : decode cX1_good 49 = .ok (.if_icmp .ne 19, 3) := dk_160 0 19 (dk_at dksX1_good_2 5 rfl rfl)
theorem dX1_good_52 : decode cX1_good 52 = .ok (.aload_n 0, 1) := dk_42 (dk_at dksX1_good_2 8 rfl rfl)
theorem dX1_good_53 : decode cX1_good 53 = .ok (.getfield 36, 3) := dk_180 0 36 (dk_at dksX1_good_2 9 rfl rfl)
theorem dX1_good_56 : decode cX1_good 56 = .ok (.getfield 188, 3) := dk_180 0 188 (dk_at dksX1_good_2 12 rfl rfl)
theorem dX1_good_59 : decode cX1_good 59 = .ok (.iconst 5, 1) := dk_8 (dk_at dksX1_good_2 15 rfl rfl)
theorem dX1_good_60 : decode cX1_good 60 = .ok (.iload_n 1, 1) := dk_27 (dk_at dksX1_good_2 16 rfl rfl)
theorem dX1_good_61 : decode cX1_good 61 = .ok (.imul, 1) := dk_104 (dk_at dksX1_good_2 17 rfl rfl)
theorem dX1_good_62 : decode cX1_good 62 = .ok (.iload_n 2, 1) := dk_28 (dk_at dksX1_good_2 18 rfl rfl)
theorem dX1_good_63 : decode cX1_good 63 = .ok (.iadd, 1) := dk_96 (dk_at dksX1_good_2 19 rfl rfl)
theorem dX1_good_64 : decode cX1_good 64 = .ok (.iaload, 1) := dk_46 (dk_at dksX1_good_2 20 rfl rfl)
theorem dX1_good_65 : decode cX1_good 65 = .ok (.goto 16, 3) := dk_167 0 16 (dk_at dksX1_good_2 21 rfl rfl)
theorem dX1_good_68 : decode cX1_good 68 = .ok (.aload_n 0, 1) := dk_42 (dk_at dksX1_good_3 0 rfl rfl)
theorem dX1_good_69 : decode cX1_good 69 = .ok (.getfield 36, 3) := dk_180 0 36 (dk_at dksX1_good_3 1 rfl rfl)
theorem dX1_good_72 : decode cX1_good 72 = .ok (.iload_n 1, 1) := dk_27 (dk_at dksX1_good_3 4 rfl rfl)
theorem dX1_good_73 : decode cX1_good 73 = .ok (.invokevirtual 160, 3) := dk_182 0 160 (dk_at dksX1_good_3 5 rfl rfl)
theorem dX1_good_76 : decode cX1_good 76 = .ok (.getfield 191, 3) := dk_180 0 191 (dk_at dksX1_good_3 8 rfl rfl)
theorem dX1_good_79 : decode cX1_good 79 = .ok (.iload_n 2, 1) := dk_28 (dk_at dksX1_good_3 11 rfl rfl)
theorem dX1_good_80 : decode cX1_good 80 = .ok (.iaload, 1) := dk_46 (dk_at dksX1_good_3 12 rfl rfl)
theorem dX1_good_81 : decode cX1_good 81 = .ok (.ireturn, 1) := dk_172 (dk_at dksX1_good_3 13 rfl rfl)
abbrev cX1_isPerson : ByteArray := prog_1_method_13_code
def yX1_isPerson : MethodName := ⟨RX1, "isPerson", "(I)Z"⟩
def dkwX1_isPerson_0 : List UInt8 := [42, 180, 0, 25, 27, 182, 0, 127, 172]
abbrev dktX1_isPerson_0 : List UInt8 := dkwX1_isPerson_0 ++ []
theorem dksX1_isPerson_0 : cX1_isPerson.data.toList.drop 0 = dktX1_isPerson_0 := by decide +kernel
theorem dX1_isPerson_0 : decode cX1_isPerson 0 = .ok (.aload_n 0, 1) := dk_42 (dk_at dksX1_isPerson_0 0 rfl rfl)
theorem dX1_isPerson_1 : decode cX1_isPerson 1 = .ok (.getfield 25, 3) := dk_180 0 25 (dk_at dksX1_isPerson_0 1 rfl rfl)
theorem dX1_isPerson_4 : decode cX1_isPerson 4 = .ok (.iload_n 1, 1) := dk_27 (dk_at dksX1_isPerson_0 4 rfl rfl)
theorem dX1_isPerson_5 : decode cX1_isPerson 5 = .ok (.invokevirtual 127, 3) := dk_182 0 127 (dk_at dksX1_isPerson_0 5 rfl rfl)
theorem dX1_isPerson_8 : decode cX1_isPerson 8 = .ok (.ireturn, 1) := dk_172 (dk_at dksX1_isPerson_0 8 rfl rfl)
abbrev cX1_isGood : ByteArray := prog_1_method_14_code
def yX1_isGood : MethodName := ⟨RX1, "isGood", "(I)Z"⟩
def dkwX1_isGood_0 : List UInt8 := [42, 180, 0, 25, 27, 182, 0, 131, 172]
abbrev dktX1_isGood_0 : List UInt8 := dkwX1_isGood_0 ++ []
theorem dksX1_isGood_0 : cX1_isGood.data.toList.drop 0 = dktX1_isGood_0 := by decide +kernel
theorem dX1_isGood_0 : decode cX1_isGood 0 = .ok (.aload_n 0, 1) := dk_42 (dk_at dksX1_isGood_0 0 rfl rfl)
theorem dX1_isGood_1 : decode cX1_isGood 1 = .ok (.getfield 25, 3) := dk_180 0 25 (dk_at dksX1_isGood_0 1 rfl rfl)
theorem dX1_isGood_4 : decode cX1_isGood 4 = .ok (.iload_n 1, 1) := dk_27 (dk_at dksX1_isGood_0 4 rfl rfl)
theorem dX1_isGood_5 : decode cX1_isGood 5 = .ok (.invokevirtual 131, 3) := dk_182 0 131 (dk_at dksX1_isGood_0 5 rfl rfl)
theorem dX1_isGood_8 : decode cX1_isGood 8 = .ok (.ireturn, 1) := dk_172 (dk_at dksX1_isGood_0 8 rfl rfl)
abbrev cX1_deals : ByteArray := prog_1_method_19_code
def yX1_deals : MethodName := ⟨RX1, "deals", "(II)I"⟩
def dkwX1_deals_1 : List UInt8 := [180, 0, 36, 180, 0, 194, 16, 7, 27, 104, 28, 96, 46, 167, 0, 4, 2, 172]
abbrev dktX1_deals_1 : List UInt8 := dkwX1_deals_1 ++ []
def dkwX1_deals_0 : List UInt8 := [42, 27, 182, 0, 145, 153, 0, 33, 42, 28, 182, 0, 145, 153, 0, 25, 27, 28, 159, 0, 20, 42]
abbrev dktX1_deals_0 : List UInt8 := dkwX1_deals_0 ++ dktX1_deals_1
theorem dksX1_deals_0 : cX1_deals.data.toList.drop 0 = dktX1_deals_0 := by decide +kernel
theorem dksX1_deals_1 : cX1_deals.data.toList.drop 22 = dktX1_deals_1 := dk_seg dksX1_deals_0 22 rfl rfl
theorem dX1_deals_0 : decode cX1_deals 0 = .ok (.aload_n 0, 1) := dk_42 (dk_at dksX1_deals_0 0 rfl rfl)
theorem dX1_deals_1 : decode cX1_deals 1 = .ok (.iload_n 1, 1) := dk_27 (dk_at dksX1_deals_0 1 rfl rfl)
theorem dX1_deals_2 : decode cX1_deals 2 = .ok (.invokevirtual 145, 3) := dk_182 0 145 (dk_at dksX1_deals_0 2 rfl rfl)
theorem dX1_deals_5 : decode cX1_deals 5 = .ok (.ifCond .eq 33, 3) := dk_153 0 33 (dk_at dksX1_deals_0 5 rfl rfl)
theorem dX1_deals_8 : decode cX1_deals 8 = .ok (.aload_n 0, 1) := dk_42 (dk_at dksX1_deals_0 8 rfl rfl)
theorem dX1_deals_9 : decode cX1_deals 9 = .ok (.iload_n 2, 1) := dk_28 (dk_at dksX1_deals_0 9 rfl rfl)
theorem dX1_deals_10 : decode cX1_deals 10 = .ok (.invokevirtual 145, 3) := dk_182 0 145 (dk_at dksX1_deals_0 10 rfl rfl)
theorem dX1_deals_13 : decode cX1_deals 13 = .ok (.ifCond .eq 25, 3) := dk_153 0 25 (dk_at dksX1_deals_0 13 rfl rfl)
theorem dX1_deals_16 : decode cX1_deals 16 = .ok (.iload_n 1, 1) := dk_27 (dk_at dksX1_deals_0 16 rfl rfl)
theorem dX1_deals_17 : decode cX1_deals 17 = .ok (.iload_n 2, 1) := dk_28 (dk_at dksX1_deals_0 17 rfl rfl)
theorem dX1_deals_18 : decode cX1_deals 18 = .ok (.if_icmp .eq 20, 3) := dk_159 0 20 (dk_at dksX1_deals_0 18 rfl rfl)
theorem dX1_deals_21 : decode cX1_deals 21 = .ok (.aload_n 0, 1) := dk_42 (dk_at dksX1_deals_0 21 rfl rfl)
theorem dX1_deals_22 : decode cX1_deals 22 = .ok (.getfield 36, 3) := dk_180 0 36 (dk_at dksX1_deals_1 0 rfl rfl)
theorem dX1_deals_25 : decode cX1_deals 25 = .ok (.getfield 194, 3) := dk_180 0 194 (dk_at dksX1_deals_1 3 rfl rfl)
theorem dX1_deals_28 : decode cX1_deals 28 = .ok (.bipush 7, 2) := dk_16 7 (dk_at dksX1_deals_1 6 rfl rfl)
theorem dX1_deals_30 : decode cX1_deals 30 = .ok (.iload_n 1, 1) := dk_27 (dk_at dksX1_deals_1 8 rfl rfl)
theorem dX1_deals_31 : decode cX1_deals 31 = .ok (.imul, 1) := dk_104 (dk_at dksX1_deals_1 9 rfl rfl)
theorem dX1_deals_32 : decode cX1_deals 32 = .ok (.iload_n 2, 1) := dk_28 (dk_at dksX1_deals_1 10 rfl rfl)
theorem dX1_deals_33 : decode cX1_deals 33 = .ok (.iadd, 1) := dk_96 (dk_at dksX1_deals_1 11 rfl rfl)
theorem dX1_deals_34 : decode cX1_deals 34 = .ok (.iaload, 1) := dk_46 (dk_at dksX1_deals_1 12 rfl rfl)
theorem dX1_deals_35 : decode cX1_deals 35 = .ok (.goto 4, 3) := dk_167 0 4 (dk_at dksX1_deals_1 13 rfl rfl)
theorem dX1_deals_38 : decode cX1_deals 38 = .ok (.iconst (-1), 1) := dk_2 (dk_at dksX1_deals_1 16 rfl rfl)
theorem dX1_deals_39 : decode cX1_deals 39 = .ok (.ireturn, 1) := dk_172 (dk_at dksX1_deals_1 17 rfl rfl)
abbrev cX1_now : ByteArray := prog_1_method_22_code
def yX1_now : MethodName := ⟨RX1, "now", "(I)I"⟩
def dkwX1_now_6 : List UInt8 := [5, 108, 172, 42, 180, 0, 36, 180, 0, 178, 184, 0, 216, 172, 2, 172]
abbrev dktX1_now_6 : List UInt8 := dkwX1_now_6 ++ []
def dkwX1_now_5 : List UInt8 := [162, 0, 23, 45, 21, 5, 46, 54, 6, 28, 21, 6, 184, 0, 213, 96, 61, 132, 5, 1, 167, 255, 232, 28]
abbrev dktX1_now_5 : List UInt8 := dkwX1_now_5 ++ dktX1_now_6
def dkwX1_now_4 : List UInt8 := [172, 3, 61, 42, 180, 0, 36, 180, 0, 210, 78, 45, 190, 54, 4, 3, 54, 5, 21, 5, 21, 4]
abbrev dktX1_now_4 : List UInt8 := dkwX1_now_4 ++ dktX1_now_5
def dkwX1_now_3 : List UInt8 := [42, 42, 180, 0, 36, 182, 0, 200, 172, 42, 180, 0, 36, 180, 0, 204, 172, 42, 180, 0, 36, 180, 0, 207]
abbrev dktX1_now_3 : List UInt8 := dkwX1_now_3 ++ dktX1_now_4
def dkwX1_now_2 : List UInt8 := [42, 180, 0, 36, 180, 0, 197, 172, 42, 180, 0, 36, 180, 0, 172, 172, 42, 180, 0, 36, 180, 0, 175, 172]
abbrev dktX1_now_2 : List UInt8 := dkwX1_now_2 ++ dktX1_now_3
def dkwX1_now_1 : List UInt8 := [170, 0, 0, 0, 0, 0, 155, 0, 0, 0, 0, 0, 0, 0, 7, 0, 0, 0, 47, 0, 0, 0, 55, 0, 0, 0, 63, 0, 0, 0, 71, 0, 0, 0, 80, 0, 0, 0, 88, 0, 0, 0, 96, 0, 0, 0, 144]
abbrev dktX1_now_1 : List UInt8 := dkwX1_now_1 ++ dktX1_now_2
def dkwX1_now_0 : List UInt8 := [27]
abbrev dktX1_now_0 : List UInt8 := dkwX1_now_0 ++ dktX1_now_1
theorem dksX1_now_0 : cX1_now.data.toList.drop 0 = dktX1_now_0 := by decide +kernel
theorem dksX1_now_1 : cX1_now.data.toList.drop 1 = dktX1_now_1 := dk_seg dksX1_now_0 1 rfl rfl
theorem dksX1_now_2 : cX1_now.data.toList.drop 48 = dktX1_now_2 := dk_seg dksX1_now_1 47 rfl rfl
theorem dksX1_now_3 : cX1_now.data.toList.drop 72 = dktX1_now_3 := dk_seg dksX1_now_2 24 rfl rfl
theorem dksX1_now_4 : cX1_now.data.toList.drop 96 = dktX1_now_4 := dk_seg dksX1_now_3 24 rfl rfl
theorem dksX1_now_5 : cX1_now.data.toList.drop 118 = dktX1_now_5 := dk_seg dksX1_now_4 22 rfl rfl
theorem dksX1_now_6 : cX1_now.data.toList.drop 142 = dktX1_now_6 := dk_seg dksX1_now_5 24 rfl rfl
theorem dX1_now_0 : decode cX1_now 0 = .ok (.iload_n 1, 1) := dk_27 (dk_at dksX1_now_0 0 rfl rfl)
theorem dX1_now_1 : decode cX1_now 1 = .ok (.tableswitch 155 0 7 #[47, 55, 63, 71, 80, 88, 96, 144], 47) := by decide +kernel
theorem dX1_now_48 : decode cX1_now 48 = .ok (.aload_n 0, 1) := dk_42 (dk_at dksX1_now_2 0 rfl rfl)
theorem dX1_now_49 : decode cX1_now 49 = .ok (.getfield 36, 3) := dk_180 0 36 (dk_at dksX1_now_2 1 rfl rfl)
theorem dX1_now_52 : decode cX1_now 52 = .ok (.getfield 197, 3) := dk_180 0 197 (dk_at dksX1_now_2 4 rfl rfl)
theorem dX1_now_55 : decode cX1_now 55 = .ok (.ireturn, 1) := dk_172 (dk_at dksX1_now_2 7 rfl rfl)
theorem dX1_now_56 : decode cX1_now 56 = .ok (.aload_n 0, 1) := dk_42 (dk_at dksX1_now_2 8 rfl rfl)
theorem dX1_now_57 : decode cX1_now 57 = .ok (.getfield 36, 3) := dk_180 0 36 (dk_at dksX1_now_2 9 rfl rfl)
theorem dX1_now_60 : decode cX1_now 60 = .ok (.getfield 172, 3) := dk_180 0 172 (dk_at dksX1_now_2 12 rfl rfl)
theorem dX1_now_63 : decode cX1_now 63 = .ok (.ireturn, 1) := dk_172 (dk_at dksX1_now_2 15 rfl rfl)
theorem dX1_now_64 : decode cX1_now 64 = .ok (.aload_n 0, 1) := dk_42 (dk_at dksX1_now_2 16 rfl rfl)
theorem dX1_now_65 : decode cX1_now 65 = .ok (.getfield 36, 3) := dk_180 0 36 (dk_at dksX1_now_2 17 rfl rfl)
theorem dX1_now_68 : decode cX1_now 68 = .ok (.getfield 175, 3) := dk_180 0 175 (dk_at dksX1_now_2 20 rfl rfl)
theorem dX1_now_71 : decode cX1_now 71 = .ok (.ireturn, 1) := dk_172 (dk_at dksX1_now_2 23 rfl rfl)
theorem dX1_now_72 : decode cX1_now 72 = .ok (.aload_n 0, 1) := dk_42 (dk_at dksX1_now_3 0 rfl rfl)
theorem dX1_now_73 : decode cX1_now 73 = .ok (.aload_n 0, 1) := dk_42 (dk_at dksX1_now_3 1 rfl rfl)
theorem dX1_now_74 : decode cX1_now 74 = .ok (.getfield 36, 3) := dk_180 0 36 (dk_at dksX1_now_3 2 rfl rfl)
theorem dX1_now_77 : decode cX1_now 77 = .ok (.invokevirtual 200, 3) := dk_182 0 200 (dk_at dksX1_now_3 5 rfl rfl)
theorem dX1_now_80 : decode cX1_now 80 = .ok (.ireturn, 1) := dk_172 (dk_at dksX1_now_3 8 rfl rfl)
theorem dX1_now_81 : decode cX1_now 81 = .ok (.aload_n 0, 1) := dk_42 (dk_at dksX1_now_3 9 rfl rfl)
theorem dX1_now_82 : decode cX1_now 82 = .ok (.getfield 36, 3) := dk_180 0 36 (dk_at dksX1_now_3 10 rfl rfl)
theorem dX1_now_85 : decode cX1_now 85 = .ok (.getfield 204, 3) := dk_180 0 204 (dk_at dksX1_now_3 13 rfl rfl)
theorem dX1_now_88 : decode cX1_now 88 = .ok (.ireturn, 1) := dk_172 (dk_at dksX1_now_3 16 rfl rfl)
theorem dX1_now_89 : decode cX1_now 89 = .ok (.aload_n 0, 1) := dk_42 (dk_at dksX1_now_3 17 rfl rfl)
theorem dX1_now_90 : decode cX1_now 90 = .ok (.getfield 36, 3) := dk_180 0 36 (dk_at dksX1_now_3 18 rfl rfl)
theorem dX1_now_93 : decode cX1_now 93 = .ok (.getfield 207, 3) := dk_180 0 207 (dk_at dksX1_now_3 21 rfl rfl)
theorem dX1_now_96 : decode cX1_now 96 = .ok (.ireturn, 1) := dk_172 (dk_at dksX1_now_4 0 rfl rfl)
theorem dX1_now_97 : decode cX1_now 97 = .ok (.iconst 0, 1) := dk_3 (dk_at dksX1_now_4 1 rfl rfl)
theorem dX1_now_98 : decode cX1_now 98 = .ok (.istore_n 2, 1) := dk_61 (dk_at dksX1_now_4 2 rfl rfl)
theorem dX1_now_99 : decode cX1_now 99 = .ok (.aload_n 0, 1) := dk_42 (dk_at dksX1_now_4 3 rfl rfl)
theorem dX1_now_100 : decode cX1_now 100 = .ok (.getfield 36, 3) := dk_180 0 36 (dk_at dksX1_now_4 4 rfl rfl)
theorem dX1_now_103 : decode cX1_now 103 = .ok (.getfield 210, 3) := dk_180 0 210 (dk_at dksX1_now_4 7 rfl rfl)
theorem dX1_now_106 : decode cX1_now 106 = .ok (.astore_n 3, 1) := dk_78 (dk_at dksX1_now_4 10 rfl rfl)
theorem dX1_now_107 : decode cX1_now 107 = .ok (.aload_n 3, 1) := dk_45 (dk_at dksX1_now_4 11 rfl rfl)
theorem dX1_now_108 : decode cX1_now 108 = .ok (.arraylength, 1) := dk_190 (dk_at dksX1_now_4 12 rfl rfl)
theorem dX1_now_109 : decode cX1_now 109 = .ok (.istore 4, 2) := dk_54 4 (dk_at dksX1_now_4 13 rfl rfl)
theorem dX1_now_111 : decode cX1_now 111 = .ok (.iconst 0, 1) := dk_3 (dk_at dksX1_now_4 15 rfl rfl)
theorem dX1_now_112 : decode cX1_now 112 = .ok (.istore 5, 2) := dk_54 5 (dk_at dksX1_now_4 16 rfl rfl)
theorem dX1_now_114 : decode cX1_now 114 = .ok (.iload 5, 2) := dk_21 5 (dk_at dksX1_now_4 18 rfl rfl)
theorem dX1_now_116 : decode cX1_now 116 = .ok (.iload 4, 2) := dk_21 4 (dk_at dksX1_now_4 20 rfl rfl)
theorem dX1_now_118 : decode cX1_now 118 = .ok (.if_icmp .ge 23, 3) := dk_162 0 23 (dk_at dksX1_now_5 0 rfl rfl)
theorem dX1_now_121 : decode cX1_now 121 = .ok (.aload_n 3, 1) := dk_45 (dk_at dksX1_now_5 3 rfl rfl)
theorem dX1_now_122 : decode cX1_now 122 = .ok (.iload 5, 2) := dk_21 5 (dk_at dksX1_now_5 4 rfl rfl)
theorem dX1_now_124 : decode cX1_now 124 = .ok (.iaload, 1) := dk_46 (dk_at dksX1_now_5 6 rfl rfl)
theorem dX1_now_125 : decode cX1_now 125 = .ok (.istore 6, 2) := dk_54 6 (dk_at dksX1_now_5 7 rfl rfl)
theorem dX1_now_127 : decode cX1_now 127 = .ok (.iload_n 2, 1) := dk_28 (dk_at dksX1_now_5 9 rfl rfl)
theorem dX1_now_128 : decode cX1_now 128 = .ok (.iload 6, 2) := dk_21 6 (dk_at dksX1_now_5 10 rfl rfl)
theorem dX1_now_130 : decode cX1_now 130 = .ok (.invokestatic 213, 3) := dk_184 0 213 (dk_at dksX1_now_5 12 rfl rfl)
theorem dX1_now_133 : decode cX1_now 133 = .ok (.iadd, 1) := dk_96 (dk_at dksX1_now_5 15 rfl rfl)
theorem dX1_now_134 : decode cX1_now 134 = .ok (.istore_n 2, 1) := dk_61 (dk_at dksX1_now_5 16 rfl rfl)
theorem dX1_now_135 : decode cX1_now 135 = .ok (.iinc 5 1, 3) := dk_132 5 1 (dk_at dksX1_now_5 17 rfl rfl)
theorem dX1_now_138 : decode cX1_now 138 = .ok (.goto (-24), 3) := dk_167 255 232 (dk_at dksX1_now_5 20 rfl rfl)
theorem dX1_now_141 : decode cX1_now 141 = .ok (.iload_n 2, 1) := dk_28 (dk_at dksX1_now_5 23 rfl rfl)
theorem dX1_now_142 : decode cX1_now 142 = .ok (.iconst 2, 1) := dk_5 (dk_at dksX1_now_6 0 rfl rfl)
theorem dX1_now_143 : decode cX1_now 143 = .ok (.idiv, 1) := dk_108 (dk_at dksX1_now_6 1 rfl rfl)
theorem dX1_now_144 : decode cX1_now 144 = .ok (.ireturn, 1) := dk_172 (dk_at dksX1_now_6 2 rfl rfl)
theorem dX1_now_145 : decode cX1_now 145 = .ok (.aload_n 0, 1) := dk_42 (dk_at dksX1_now_6 3 rfl rfl)
theorem dX1_now_146 : decode cX1_now 146 = .ok (.getfield 36, 3) := dk_180 0 36 (dk_at dksX1_now_6 4 rfl rfl)
theorem dX1_now_149 : decode cX1_now 149 = .ok (.getfield 178, 3) := dk_180 0 178 (dk_at dksX1_now_6 7 rfl rfl)
theorem dX1_now_152 : decode cX1_now 152 = .ok (.invokestatic 216, 3) := dk_184 0 216 (dk_at dksX1_now_6 10 rfl rfl)
theorem dX1_now_155 : decode cX1_now 155 = .ok (.ireturn, 1) := dk_172 (dk_at dksX1_now_6 13 rfl rfl)
theorem dX1_now_156 : decode cX1_now 156 = .ok (.iconst (-1), 1) := dk_2 (dk_at dksX1_now_6 14 rfl rfl)
theorem dX1_now_157 : decode cX1_now 157 = .ok (.ireturn, 1) := dk_172 (dk_at dksX1_now_6 15 rfl rfl)
abbrev cX1_fed : ByteArray := prog_1_method_21_code
def yX1_fed : MethodName := ⟨RX1, "fed", "(LStrangerMarket$Market;)I"⟩
def dkwX1_fed_1 : List UInt8 := [128, 61, 132, 3, 1, 167, 255, 231, 28, 172]
abbrev dktX1_fed_1 : List UInt8 := dkwX1_fed_1 ++ []
def dkwX1_fed_0 : List UInt8 := [3, 61, 3, 62, 29, 42, 182, 0, 143, 162, 0, 23, 43, 29, 182, 0, 181, 154, 0, 9, 28, 4, 29, 120]
abbrev dktX1_fed_0 : List UInt8 := dkwX1_fed_0 ++ dktX1_fed_1
theorem dksX1_fed_0 : cX1_fed.data.toList.drop 0 = dktX1_fed_0 := by decide +kernel
theorem dksX1_fed_1 : cX1_fed.data.toList.drop 24 = dktX1_fed_1 := dk_seg dksX1_fed_0 24 rfl rfl
theorem dX1_fed_0 : decode cX1_fed 0 = .ok (.iconst 0, 1) := dk_3 (dk_at dksX1_fed_0 0 rfl rfl)
theorem dX1_fed_1 : decode cX1_fed 1 = .ok (.istore_n 2, 1) := dk_61 (dk_at dksX1_fed_0 1 rfl rfl)
theorem dX1_fed_2 : decode cX1_fed 2 = .ok (.iconst 0, 1) := dk_3 (dk_at dksX1_fed_0 2 rfl rfl)
theorem dX1_fed_3 : decode cX1_fed 3 = .ok (.istore_n 3, 1) := dk_62 (dk_at dksX1_fed_0 3 rfl rfl)
theorem dX1_fed_4 : decode cX1_fed 4 = .ok (.iload_n 3, 1) := dk_29 (dk_at dksX1_fed_0 4 rfl rfl)
theorem dX1_fed_5 : decode cX1_fed 5 = .ok (.aload_n 0, 1) := dk_42 (dk_at dksX1_fed_0 5 rfl rfl)
theorem dX1_fed_6 : decode cX1_fed 6 = .ok (.invokevirtual 143, 3) := dk_182 0 143 (dk_at dksX1_fed_0 6 rfl rfl)
theorem dX1_fed_9 : decode cX1_fed 9 = .ok (.if_icmp .ge 23, 3) := dk_162 0 23 (dk_at dksX1_fed_0 9 rfl rfl)
theorem dX1_fed_12 : decode cX1_fed 12 = .ok (.aload_n 1, 1) := dk_43 (dk_at dksX1_fed_0 12 rfl rfl)
theorem dX1_fed_13 : decode cX1_fed 13 = .ok (.iload_n 3, 1) := dk_29 (dk_at dksX1_fed_0 13 rfl rfl)
theorem dX1_fed_14 : decode cX1_fed 14 = .ok (.invokevirtual 181, 3) := dk_182 0 181 (dk_at dksX1_fed_0 14 rfl rfl)
theorem dX1_fed_17 : decode cX1_fed 17 = .ok (.ifCond .ne 9, 3) := dk_154 0 9 (dk_at dksX1_fed_0 17 rfl rfl)
theorem dX1_fed_20 : decode cX1_fed 20 = .ok (.iload_n 2, 1) := dk_28 (dk_at dksX1_fed_0 20 rfl rfl)
theorem dX1_fed_21 : decode cX1_fed 21 = .ok (.iconst 1, 1) := dk_4 (dk_at dksX1_fed_0 21 rfl rfl)
theorem dX1_fed_22 : decode cX1_fed 22 = .ok (.iload_n 3, 1) := dk_29 (dk_at dksX1_fed_0 22 rfl rfl)
theorem dX1_fed_23 : decode cX1_fed 23 = .ok (.ishl, 1) := dk_120 (dk_at dksX1_fed_0 23 rfl rfl)
theorem dX1_fed_24 : decode cX1_fed 24 = .ok (.ior, 1) := dk_128 (dk_at dksX1_fed_1 0 rfl rfl)
theorem dX1_fed_25 : decode cX1_fed 25 = .ok (.istore_n 2, 1) := dk_61 (dk_at dksX1_fed_1 1 rfl rfl)
theorem dX1_fed_26 : decode cX1_fed 26 = .ok (.iinc 3 1, 3) := dk_132 3 1 (dk_at dksX1_fed_1 2 rfl rfl)
theorem dX1_fed_29 : decode cX1_fed 29 = .ok (.goto (-25), 3) := dk_167 255 231 (dk_at dksX1_fed_1 5 rfl rfl)
theorem dX1_fed_32 : decode cX1_fed 32 = .ok (.iload_n 2, 1) := dk_28 (dk_at dksX1_fed_1 8 rfl rfl)
theorem dX1_fed_33 : decode cX1_fed 33 = .ok (.ireturn, 1) := dk_172 (dk_at dksX1_fed_1 9 rfl rfl)
abbrev cX1_persons : ByteArray := prog_1_method_15_code
def yX1_persons : MethodName := ⟨RX1, "persons", "()I"⟩
def dkwX1_persons_0 : List UInt8 := [42, 180, 0, 25, 180, 0, 134, 182, 0, 138, 172]
abbrev dktX1_persons_0 : List UInt8 := dkwX1_persons_0 ++ []
theorem dksX1_persons_0 : cX1_persons.data.toList.drop 0 = dktX1_persons_0 := by decide +kernel
theorem dX1_persons_0 : decode cX1_persons 0 = .ok (.aload_n 0, 1) := dk_42 (dk_at dksX1_persons_0 0 rfl rfl)
theorem dX1_persons_1 : decode cX1_persons 1 = .ok (.getfield 25, 3) := dk_180 0 25 (dk_at dksX1_persons_0 1 rfl rfl)
theorem dX1_persons_4 : decode cX1_persons 4 = .ok (.getfield 134, 3) := dk_180 0 134 (dk_at dksX1_persons_0 4 rfl rfl)
theorem dX1_persons_7 : decode cX1_persons 7 = .ok (.invokevirtual 138, 3) := dk_182 0 138 (dk_at dksX1_persons_0 7 rfl rfl)
theorem dX1_persons_10 : decode cX1_persons 10 = .ok (.ireturn, 1) := dk_172 (dk_at dksX1_persons_0 10 rfl rfl)
abbrev cX1_many : ByteArray := prog_1_method_3_code
def yX1_many : MethodName := ⟨RX1, "many", "(I)I"⟩
theorem dX1_many_0 : decode cX1_many 0 = .ok (.iload_n 0, 1) := by decide +kernel
theorem dX1_many_1 : decode cX1_many 1 = .ok (.invokestatic 1, 3) := by decide +kernel
theorem dX1_many_4 : decode cX1_many 4 = .ok (.ireturn, 1) := by decide +kernel
abbrev cX1_sum : ByteArray := prog_1_method_20_code
def yX1_sum : MethodName := ⟨RX1, "sum", "([I)I"⟩
def dkwX1_sum_1 : List UInt8 := [21, 5, 96, 60, 132, 4, 1, 167, 255, 236, 27, 172]
abbrev dktX1_sum_1 : List UInt8 := dkwX1_sum_1 ++ []
def dkwX1_sum_0 : List UInt8 := [3, 60, 42, 77, 44, 190, 62, 3, 54, 4, 21, 4, 29, 162, 0, 20, 44, 21, 4, 46, 54, 5, 27]
abbrev dktX1_sum_0 : List UInt8 := dkwX1_sum_0 ++ dktX1_sum_1
theorem dksX1_sum_0 : cX1_sum.data.toList.drop 0 = dktX1_sum_0 := by decide +kernel
theorem dksX1_sum_1 : cX1_sum.data.toList.drop 23 = dktX1_sum_1 := dk_seg dksX1_sum_0 23 rfl rfl
theorem dX1_sum_0 : decode cX1_sum 0 = .ok (.iconst 0, 1) := dk_3 (dk_at dksX1_sum_0 0 rfl rfl)
theorem dX1_sum_1 : decode cX1_sum 1 = .ok (.istore_n 1, 1) := dk_60 (dk_at dksX1_sum_0 1 rfl rfl)
theorem dX1_sum_2 : decode cX1_sum 2 = .ok (.aload_n 0, 1) := dk_42 (dk_at dksX1_sum_0 2 rfl rfl)
theorem dX1_sum_3 : decode cX1_sum 3 = .ok (.astore_n 2, 1) := dk_77 (dk_at dksX1_sum_0 3 rfl rfl)
theorem dX1_sum_4 : decode cX1_sum 4 = .ok (.aload_n 2, 1) := dk_44 (dk_at dksX1_sum_0 4 rfl rfl)
theorem dX1_sum_5 : decode cX1_sum 5 = .ok (.arraylength, 1) := dk_190 (dk_at dksX1_sum_0 5 rfl rfl)
theorem dX1_sum_6 : decode cX1_sum 6 = .ok (.istore_n 3, 1) := dk_62 (dk_at dksX1_sum_0 6 rfl rfl)
theorem dX1_sum_7 : decode cX1_sum 7 = .ok (.iconst 0, 1) := dk_3 (dk_at dksX1_sum_0 7 rfl rfl)
theorem dX1_sum_8 : decode cX1_sum 8 = .ok (.istore 4, 2) := dk_54 4 (dk_at dksX1_sum_0 8 rfl rfl)
theorem dX1_sum_10 : decode cX1_sum 10 = .ok (.iload 4, 2) := dk_21 4 (dk_at dksX1_sum_0 10 rfl rfl)
theorem dX1_sum_12 : decode cX1_sum 12 = .ok (.iload_n 3, 1) := dk_29 (dk_at dksX1_sum_0 12 rfl rfl)
theorem dX1_sum_13 : decode cX1_sum 13 = .ok (.if_icmp .ge 20, 3) := dk_162 0 20 (dk_at dksX1_sum_0 13 rfl rfl)
theorem dX1_sum_16 : decode cX1_sum 16 = .ok (.aload_n 2, 1) := dk_44 (dk_at dksX1_sum_0 16 rfl rfl)
theorem dX1_sum_17 : decode cX1_sum 17 = .ok (.iload 4, 2) := dk_21 4 (dk_at dksX1_sum_0 17 rfl rfl)
theorem dX1_sum_19 : decode cX1_sum 19 = .ok (.iaload, 1) := dk_46 (dk_at dksX1_sum_0 19 rfl rfl)
theorem dX1_sum_20 : decode cX1_sum 20 = .ok (.istore 5, 2) := dk_54 5 (dk_at dksX1_sum_0 20 rfl rfl)
theorem dX1_sum_22 : decode cX1_sum 22 = .ok (.iload_n 1, 1) := dk_27 (dk_at dksX1_sum_0 22 rfl rfl)
theorem dX1_sum_23 : decode cX1_sum 23 = .ok (.iload 5, 2) := dk_21 5 (dk_at dksX1_sum_1 0 rfl rfl)
theorem dX1_sum_25 : decode cX1_sum 25 = .ok (.iadd, 1) := dk_96 (dk_at dksX1_sum_1 2 rfl rfl)
theorem dX1_sum_26 : decode cX1_sum 26 = .ok (.istore_n 1, 1) := dk_60 (dk_at dksX1_sum_1 3 rfl rfl)
theorem dX1_sum_27 : decode cX1_sum 27 = .ok (.iinc 4 1, 3) := dk_132 4 1 (dk_at dksX1_sum_1 4 rfl rfl)
theorem dX1_sum_30 : decode cX1_sum 30 = .ok (.goto (-20), 3) := dk_167 255 236 (dk_at dksX1_sum_1 7 rfl rfl)
theorem dX1_sum_33 : decode cX1_sum 33 = .ok (.iload_n 1, 1) := dk_27 (dk_at dksX1_sum_1 10 rfl rfl)
theorem dX1_sum_34 : decode cX1_sum 34 = .ok (.ireturn, 1) := dk_172 (dk_at dksX1_sum_1 11 rfl rfl)
abbrev cX1_buy : ByteArray := prog_1_method_25_code
def yX1_buy : MethodName := ⟨RX1, "buy", "(III)I"⟩
def dkwX1_buy_1 : List UInt8 := [42, 187, 0, 232, 89, 27, 28, 29, 183, 0, 234, 182, 0, 237, 167, 0, 4, 2, 172]
abbrev dktX1_buy_1 : List UInt8 := dkwX1_buy_1 ++ []
def dkwX1_buy_0 : List UInt8 := [42, 27, 182, 0, 145, 153, 0, 36, 42, 28, 182, 0, 184, 153, 0, 28, 42, 29, 182, 0, 145, 153, 0, 20]
abbrev dktX1_buy_0 : List UInt8 := dkwX1_buy_0 ++ dktX1_buy_1
theorem dksX1_buy_0 : cX1_buy.data.toList.drop 0 = dktX1_buy_0 := by decide +kernel
theorem dksX1_buy_1 : cX1_buy.data.toList.drop 24 = dktX1_buy_1 := dk_seg dksX1_buy_0 24 rfl rfl
theorem dX1_buy_0 : decode cX1_buy 0 = .ok (.aload_n 0, 1) := dk_42 (dk_at dksX1_buy_0 0 rfl rfl)
theorem dX1_buy_1 : decode cX1_buy 1 = .ok (.iload_n 1, 1) := dk_27 (dk_at dksX1_buy_0 1 rfl rfl)
theorem dX1_buy_2 : decode cX1_buy 2 = .ok (.invokevirtual 145, 3) := dk_182 0 145 (dk_at dksX1_buy_0 2 rfl rfl)
theorem dX1_buy_5 : decode cX1_buy 5 = .ok (.ifCond .eq 36, 3) := dk_153 0 36 (dk_at dksX1_buy_0 5 rfl rfl)
theorem dX1_buy_8 : decode cX1_buy 8 = .ok (.aload_n 0, 1) := dk_42 (dk_at dksX1_buy_0 8 rfl rfl)
theorem dX1_buy_9 : decode cX1_buy 9 = .ok (.iload_n 2, 1) := dk_28 (dk_at dksX1_buy_0 9 rfl rfl)
theorem dX1_buy_10 : decode cX1_buy 10 = .ok (.invokevirtual 184, 3) := dk_182 0 184 (dk_at dksX1_buy_0 10 rfl rfl)
theorem dX1_buy_13 : decode cX1_buy 13 = .ok (.ifCond .eq 28, 3) := dk_153 0 28 (dk_at dksX1_buy_0 13 rfl rfl)
theorem dX1_buy_16 : decode cX1_buy 16 = .ok (.aload_n 0, 1) := dk_42 (dk_at dksX1_buy_0 16 rfl rfl)
theorem dX1_buy_17 : decode cX1_buy 17 = .ok (.iload_n 3, 1) := dk_29 (dk_at dksX1_buy_0 17 rfl rfl)
theorem dX1_buy_18 : decode cX1_buy 18 = .ok (.invokevirtual 145, 3) := dk_182 0 145 (dk_at dksX1_buy_0 18 rfl rfl)
theorem dX1_buy_21 : decode cX1_buy 21 = .ok (.ifCond .eq 20, 3) := dk_153 0 20 (dk_at dksX1_buy_0 21 rfl rfl)
theorem dX1_buy_24 : decode cX1_buy 24 = .ok (.aload_n 0, 1) := dk_42 (dk_at dksX1_buy_1 0 rfl rfl)
theorem dX1_buy_25 : decode cX1_buy 25 = .ok (.new 232, 3) := dk_187 0 232 (dk_at dksX1_buy_1 1 rfl rfl)
theorem dX1_buy_28 : decode cX1_buy 28 = .ok (.dup, 1) := dk_89 (dk_at dksX1_buy_1 4 rfl rfl)
theorem dX1_buy_29 : decode cX1_buy 29 = .ok (.iload_n 1, 1) := dk_27 (dk_at dksX1_buy_1 5 rfl rfl)
theorem dX1_buy_30 : decode cX1_buy 30 = .ok (.iload_n 2, 1) := dk_28 (dk_at dksX1_buy_1 6 rfl rfl)
theorem dX1_buy_31 : decode cX1_buy 31 = .ok (.iload_n 3, 1) := dk_29 (dk_at dksX1_buy_1 7 rfl rfl)
theorem dX1_buy_32 : decode cX1_buy 32 = .ok (.invokespecial 234, 3) := dk_183 0 234 (dk_at dksX1_buy_1 8 rfl rfl)
theorem dX1_buy_35 : decode cX1_buy 35 = .ok (.invokevirtual 237, 3) := dk_182 0 237 (dk_at dksX1_buy_1 11 rfl rfl)
theorem dX1_buy_38 : decode cX1_buy 38 = .ok (.goto 4, 3) := dk_167 0 4 (dk_at dksX1_buy_1 14 rfl rfl)
theorem dX1_buy_41 : decode cX1_buy 41 = .ok (.iconst (-1), 1) := dk_2 (dk_at dksX1_buy_1 17 rfl rfl)
theorem dX1_buy_42 : decode cX1_buy 42 = .ok (.ireturn, 1) := dk_172 (dk_at dksX1_buy_1 18 rfl rfl)
abbrev cX1_does : ByteArray := prog_1_method_24_code
def yX1_does : MethodName := ⟨RX1, "does", "(LStrangerMarket$Act;)I"⟩
def dkwX1_does_1 : List UInt8 := [172, 42, 182, 0, 229, 42, 180, 0, 36, 42, 180, 0, 40, 182, 0, 220, 87, 3, 172]
abbrev dktX1_does_1 : List UInt8 := dkwX1_does_1 ++ []
def dkwX1_does_0 : List UInt8 := [43, 42, 180, 0, 40, 42, 180, 0, 36, 182, 0, 220, 182, 0, 224, 61, 28, 153, 0, 8, 28, 16, 10, 112]
abbrev dktX1_does_0 : List UInt8 := dkwX1_does_0 ++ dktX1_does_1
theorem dksX1_does_0 : cX1_does.data.toList.drop 0 = dktX1_does_0 := by decide +kernel
theorem dksX1_does_1 : cX1_does.data.toList.drop 24 = dktX1_does_1 := dk_seg dksX1_does_0 24 rfl rfl
theorem dX1_does_0 : decode cX1_does 0 = .ok (.aload_n 1, 1) := dk_43 (dk_at dksX1_does_0 0 rfl rfl)
theorem dX1_does_1 : decode cX1_does 1 = .ok (.aload_n 0, 1) := dk_42 (dk_at dksX1_does_0 1 rfl rfl)
theorem dX1_does_2 : decode cX1_does 2 = .ok (.getfield 40, 3) := dk_180 0 40 (dk_at dksX1_does_0 2 rfl rfl)
theorem dX1_does_5 : decode cX1_does 5 = .ok (.aload_n 0, 1) := dk_42 (dk_at dksX1_does_0 5 rfl rfl)
theorem dX1_does_6 : decode cX1_does 6 = .ok (.getfield 36, 3) := dk_180 0 36 (dk_at dksX1_does_0 6 rfl rfl)
theorem dX1_does_9 : decode cX1_does 9 = .ok (.invokevirtual 220, 3) := dk_182 0 220 (dk_at dksX1_does_0 9 rfl rfl)
theorem dX1_does_12 : decode cX1_does 12 = .ok (.invokevirtual 224, 3) := dk_182 0 224 (dk_at dksX1_does_0 12 rfl rfl)
theorem dX1_does_15 : decode cX1_does 15 = .ok (.istore_n 2, 1) := dk_61 (dk_at dksX1_does_0 15 rfl rfl)
theorem dX1_does_16 : decode cX1_does 16 = .ok (.iload_n 2, 1) := dk_28 (dk_at dksX1_does_0 16 rfl rfl)
theorem dX1_does_17 : decode cX1_does 17 = .ok (.ifCond .eq 8, 3) := dk_153 0 8 (dk_at dksX1_does_0 17 rfl rfl)
theorem dX1_does_20 : decode cX1_does 20 = .ok (.iload_n 2, 1) := dk_28 (dk_at dksX1_does_0 20 rfl rfl)
theorem dX1_does_21 : decode cX1_does 21 = .ok (.bipush 10, 2) := dk_16 10 (dk_at dksX1_does_0 21 rfl rfl)
theorem dX1_does_23 : decode cX1_does 23 = .ok (.irem, 1) := dk_112 (dk_at dksX1_does_0 23 rfl rfl)
theorem dX1_does_24 : decode cX1_does 24 = .ok (.ireturn, 1) := dk_172 (dk_at dksX1_does_1 0 rfl rfl)
theorem dX1_does_25 : decode cX1_does 25 = .ok (.aload_n 0, 1) := dk_42 (dk_at dksX1_does_1 1 rfl rfl)
theorem dX1_does_26 : decode cX1_does 26 = .ok (.invokevirtual 229, 3) := dk_182 0 229 (dk_at dksX1_does_1 2 rfl rfl)
theorem dX1_does_29 : decode cX1_does 29 = .ok (.aload_n 0, 1) := dk_42 (dk_at dksX1_does_1 5 rfl rfl)
theorem dX1_does_30 : decode cX1_does 30 = .ok (.getfield 36, 3) := dk_180 0 36 (dk_at dksX1_does_1 6 rfl rfl)
theorem dX1_does_33 : decode cX1_does 33 = .ok (.aload_n 0, 1) := dk_42 (dk_at dksX1_does_1 9 rfl rfl)
theorem dX1_does_34 : decode cX1_does 34 = .ok (.getfield 40, 3) := dk_180 0 40 (dk_at dksX1_does_1 10 rfl rfl)
theorem dX1_does_37 : decode cX1_does 37 = .ok (.invokevirtual 220, 3) := dk_182 0 220 (dk_at dksX1_does_1 13 rfl rfl)
theorem dX1_does_40 : decode cX1_does 40 = .ok (.pop, 1) := dk_87 (dk_at dksX1_does_1 16 rfl rfl)
theorem dX1_does_41 : decode cX1_does 41 = .ok (.iconst 0, 1) := dk_3 (dk_at dksX1_does_1 17 rfl rfl)
theorem dX1_does_42 : decode cX1_does 42 = .ok (.ireturn, 1) := dk_172 (dk_at dksX1_does_1 18 rfl rfl)
abbrev cX1_snap : ByteArray := prog_1_method_23_code
def yX1_snap : MethodName := ⟨RX1, "snap", "()V"⟩
def dkwX1_snap_3 : List UInt8 := [180, 0, 36, 182, 0, 220, 87, 42, 89, 180, 0, 113, 4, 96, 181, 0, 113, 177]
abbrev dktX1_snap_3 : List UInt8 := dkwX1_snap_3 ++ []
def dkwX1_snap_2 : List UInt8 := [16, 7, 43, 83, 42, 89, 180, 0, 113, 4, 100, 181, 0, 113, 42, 180, 0, 43, 42, 180, 0, 113, 50, 42]
abbrev dktX1_snap_2 : List UInt8 := dkwX1_snap_2 ++ dktX1_snap_3
def dkwX1_snap_1 : List UInt8 := [42, 180, 0, 43, 28, 4, 100, 42, 180, 0, 43, 28, 50, 83, 132, 2, 1, 167, 255, 233, 42, 180, 0, 43]
abbrev dktX1_snap_1 : List UInt8 := dkwX1_snap_1 ++ dktX1_snap_2
def dkwX1_snap_0 : List UInt8 := [42, 180, 0, 113, 16, 8, 160, 0, 56, 42, 180, 0, 43, 3, 50, 76, 4, 61, 28, 16, 8, 162, 0, 23]
abbrev dktX1_snap_0 : List UInt8 := dkwX1_snap_0 ++ dktX1_snap_1
theorem dksX1_snap_0 : cX1_snap.data.toList.drop 0 = dktX1_snap_0 := by decide +kernel
theorem dksX1_snap_1 : cX1_snap.data.toList.drop 24 = dktX1_snap_1 := dk_seg dksX1_snap_0 24 rfl rfl
theorem dksX1_snap_2 : cX1_snap.data.toList.drop 48 = dktX1_snap_2 := dk_seg dksX1_snap_1 24 rfl rfl
theorem dksX1_snap_3 : cX1_snap.data.toList.drop 72 = dktX1_snap_3 := dk_seg dksX1_snap_2 24 rfl rfl
theorem dX1_snap_0 : decode cX1_snap 0 = .ok (.aload_n 0, 1) := dk_42 (dk_at dksX1_snap_0 0 rfl rfl)
theorem dX1_snap_1 : decode cX1_snap 1 = .ok (.getfield 113, 3) := dk_180 0 113 (dk_at dksX1_snap_0 1 rfl rfl)
theorem dX1_snap_4 : decode cX1_snap 4 = .ok (.bipush 8, 2) := dk_16 8 (dk_at dksX1_snap_0 4 rfl rfl)
theorem dX1_snap_6 : decode cX1_snap 6 = .ok (.if_icmp .ne 56, 3) := dk_160 0 56 (dk_at dksX1_snap_0 6 rfl rfl)
theorem dX1_snap_9 : decode cX1_snap 9 = .ok (.aload_n 0, 1) := dk_42 (dk_at dksX1_snap_0 9 rfl rfl)
theorem dX1_snap_10 : decode cX1_snap 10 = .ok (.getfield 43, 3) := dk_180 0 43 (dk_at dksX1_snap_0 10 rfl rfl)
theorem dX1_snap_13 : decode cX1_snap 13 = .ok (.iconst 0, 1) := dk_3 (dk_at dksX1_snap_0 13 rfl rfl)
theorem dX1_snap_14 : decode cX1_snap 14 = .ok (.aaload, 1) := dk_50 (dk_at dksX1_snap_0 14 rfl rfl)
theorem dX1_snap_15 : decode cX1_snap 15 = .ok (.astore_n 1, 1) := dk_76 (dk_at dksX1_snap_0 15 rfl rfl)
theorem dX1_snap_16 : decode cX1_snap 16 = .ok (.iconst 1, 1) := dk_4 (dk_at dksX1_snap_0 16 rfl rfl)
theorem dX1_snap_17 : decode cX1_snap 17 = .ok (.istore_n 2, 1) := dk_61 (dk_at dksX1_snap_0 17 rfl rfl)
theorem dX1_snap_18 : decode cX1_snap 18 = .ok (.iload_n 2, 1) := dk_28 (dk_at dksX1_snap_0 18 rfl rfl)
theorem dX1_snap_19 : decode cX1_snap 19 = .ok (.bipush 8, 2) := dk_16 8 (dk_at dksX1_snap_0 19 rfl rfl)
theorem dX1_snap_21 : decode cX1_snap 21 = .ok (.if_icmp .ge 23, 3) := dk_162 0 23 (dk_at dksX1_snap_0 21 rfl rfl)
theorem dX1_snap_24 : decode cX1_snap 24 = .ok (.aload_n 0, 1) := dk_42 (dk_at dksX1_snap_1 0 rfl rfl)
theorem dX1_snap_25 : decode cX1_snap 25 = .ok (.getfield 43, 3) := dk_180 0 43 (dk_at dksX1_snap_1 1 rfl rfl)
theorem dX1_snap_28 : decode cX1_snap 28 = .ok (.iload_n 2, 1) := dk_28 (dk_at dksX1_snap_1 4 rfl rfl)
theorem dX1_snap_29 : decode cX1_snap 29 = .ok (.iconst 1, 1) := dk_4 (dk_at dksX1_snap_1 5 rfl rfl)
theorem dX1_snap_30 : decode cX1_snap 30 = .ok (.isub, 1) := dk_100 (dk_at dksX1_snap_1 6 rfl rfl)
theorem dX1_snap_31 : decode cX1_snap 31 = .ok (.aload_n 0, 1) := dk_42 (dk_at dksX1_snap_1 7 rfl rfl)
theorem dX1_snap_32 : decode cX1_snap 32 = .ok (.getfield 43, 3) := dk_180 0 43 (dk_at dksX1_snap_1 8 rfl rfl)
theorem dX1_snap_35 : decode cX1_snap 35 = .ok (.iload_n 2, 1) := dk_28 (dk_at dksX1_snap_1 11 rfl rfl)
theorem dX1_snap_36 : decode cX1_snap 36 = .ok (.aaload, 1) := dk_50 (dk_at dksX1_snap_1 12 rfl rfl)
theorem dX1_snap_37 : decode cX1_snap 37 = .ok (.aastore, 1) := dk_83 (dk_at dksX1_snap_1 13 rfl rfl)
theorem dX1_snap_38 : decode cX1_snap 38 = .ok (.iinc 2 1, 3) := dk_132 2 1 (dk_at dksX1_snap_1 14 rfl rfl)
theorem dX1_snap_41 : decode cX1_snap 41 = .ok (.goto (-23), 3) := dk_167 255 233 (dk_at dksX1_snap_1 17 rfl rfl)
theorem dX1_snap_44 : decode cX1_snap 44 = .ok (.aload_n 0, 1) := dk_42 (dk_at dksX1_snap_1 20 rfl rfl)
theorem dX1_snap_45 : decode cX1_snap 45 = .ok (.getfield 43, 3) := dk_180 0 43 (dk_at dksX1_snap_1 21 rfl rfl)
theorem dX1_snap_48 : decode cX1_snap 48 = .ok (.bipush 7, 2) := dk_16 7 (dk_at dksX1_snap_2 0 rfl rfl)
theorem dX1_snap_50 : decode cX1_snap 50 = .ok (.aload_n 1, 1) := dk_43 (dk_at dksX1_snap_2 2 rfl rfl)
theorem dX1_snap_51 : decode cX1_snap 51 = .ok (.aastore, 1) := dk_83 (dk_at dksX1_snap_2 3 rfl rfl)
theorem dX1_snap_52 : decode cX1_snap 52 = .ok (.aload_n 0, 1) := dk_42 (dk_at dksX1_snap_2 4 rfl rfl)
theorem dX1_snap_53 : decode cX1_snap 53 = .ok (.dup, 1) := dk_89 (dk_at dksX1_snap_2 5 rfl rfl)
theorem dX1_snap_54 : decode cX1_snap 54 = .ok (.getfield 113, 3) := dk_180 0 113 (dk_at dksX1_snap_2 6 rfl rfl)
theorem dX1_snap_57 : decode cX1_snap 57 = .ok (.iconst 1, 1) := dk_4 (dk_at dksX1_snap_2 9 rfl rfl)
theorem dX1_snap_58 : decode cX1_snap 58 = .ok (.isub, 1) := dk_100 (dk_at dksX1_snap_2 10 rfl rfl)
theorem dX1_snap_59 : decode cX1_snap 59 = .ok (.putfield 113, 3) := dk_181 0 113 (dk_at dksX1_snap_2 11 rfl rfl)
theorem dX1_snap_62 : decode cX1_snap 62 = .ok (.aload_n 0, 1) := dk_42 (dk_at dksX1_snap_2 14 rfl rfl)
theorem dX1_snap_63 : decode cX1_snap 63 = .ok (.getfield 43, 3) := dk_180 0 43 (dk_at dksX1_snap_2 15 rfl rfl)
theorem dX1_snap_66 : decode cX1_snap 66 = .ok (.aload_n 0, 1) := dk_42 (dk_at dksX1_snap_2 18 rfl rfl)
theorem dX1_snap_67 : decode cX1_snap 67 = .ok (.getfield 113, 3) := dk_180 0 113 (dk_at dksX1_snap_2 19 rfl rfl)
theorem dX1_snap_70 : decode cX1_snap 70 = .ok (.aaload, 1) := dk_50 (dk_at dksX1_snap_2 22 rfl rfl)
theorem dX1_snap_71 : decode cX1_snap 71 = .ok (.aload_n 0, 1) := dk_42 (dk_at dksX1_snap_2 23 rfl rfl)
theorem dX1_snap_72 : decode cX1_snap 72 = .ok (.getfield 36, 3) := dk_180 0 36 (dk_at dksX1_snap_3 0 rfl rfl)
theorem dX1_snap_75 : decode cX1_snap 75 = .ok (.invokevirtual 220, 3) := dk_182 0 220 (dk_at dksX1_snap_3 3 rfl rfl)
theorem dX1_snap_78 : decode cX1_snap 78 = .ok (.pop, 1) := dk_87 (dk_at dksX1_snap_3 6 rfl rfl)
theorem dX1_snap_79 : decode cX1_snap 79 = .ok (.aload_n 0, 1) := dk_42 (dk_at dksX1_snap_3 7 rfl rfl)
theorem dX1_snap_80 : decode cX1_snap 80 = .ok (.dup, 1) := dk_89 (dk_at dksX1_snap_3 8 rfl rfl)
theorem dX1_snap_81 : decode cX1_snap 81 = .ok (.getfield 113, 3) := dk_180 0 113 (dk_at dksX1_snap_3 9 rfl rfl)
theorem dX1_snap_84 : decode cX1_snap 84 = .ok (.iconst 1, 1) := dk_4 (dk_at dksX1_snap_3 12 rfl rfl)
theorem dX1_snap_85 : decode cX1_snap 85 = .ok (.iadd, 1) := dk_96 (dk_at dksX1_snap_3 13 rfl rfl)
theorem dX1_snap_86 : decode cX1_snap 86 = .ok (.putfield 113, 3) := dk_181 0 113 (dk_at dksX1_snap_3 14 rfl rfl)
theorem dX1_snap_89 : decode cX1_snap 89 = .ok (.return_, 1) := dk_177 (dk_at dksX1_snap_3 17 rfl rfl)
abbrev cX1_nod : ByteArray := prog_1_method_26_code
def yX1_nod : MethodName := ⟨RX1, "nod", "(II)I"⟩
def dkwX1_nod_1 : List UInt8 := [183, 0, 242, 182, 0, 237, 167, 0, 4, 2, 172]
abbrev dktX1_nod_1 : List UInt8 := dkwX1_nod_1 ++ []
def dkwX1_nod_0 : List UInt8 := [42, 27, 182, 0, 145, 153, 0, 27, 42, 28, 182, 0, 145, 153, 0, 19, 42, 187, 0, 240, 89, 27, 28]
abbrev dktX1_nod_0 : List UInt8 := dkwX1_nod_0 ++ dktX1_nod_1
theorem dksX1_nod_0 : cX1_nod.data.toList.drop 0 = dktX1_nod_0 := by decide +kernel
theorem dksX1_nod_1 : cX1_nod.data.toList.drop 23 = dktX1_nod_1 := dk_seg dksX1_nod_0 23 rfl rfl
theorem dX1_nod_0 : decode cX1_nod 0 = .ok (.aload_n 0, 1) := dk_42 (dk_at dksX1_nod_0 0 rfl rfl)
theorem dX1_nod_1 : decode cX1_nod 1 = .ok (.iload_n 1, 1) := dk_27 (dk_at dksX1_nod_0 1 rfl rfl)
theorem dX1_nod_2 : decode cX1_nod 2 = .ok (.invokevirtual 145, 3) := dk_182 0 145 (dk_at dksX1_nod_0 2 rfl rfl)
theorem dX1_nod_5 : decode cX1_nod 5 = .ok (.ifCond .eq 27, 3) := dk_153 0 27 (dk_at dksX1_nod_0 5 rfl rfl)
theorem dX1_nod_8 : decode cX1_nod 8 = .ok (.aload_n 0, 1) := dk_42 (dk_at dksX1_nod_0 8 rfl rfl)
theorem dX1_nod_9 : decode cX1_nod 9 = .ok (.iload_n 2, 1) := dk_28 (dk_at dksX1_nod_0 9 rfl rfl)
theorem dX1_nod_10 : decode cX1_nod 10 = .ok (.invokevirtual 145, 3) := dk_182 0 145 (dk_at dksX1_nod_0 10 rfl rfl)
theorem dX1_nod_13 : decode cX1_nod 13 = .ok (.ifCond .eq 19, 3) := dk_153 0 19 (dk_at dksX1_nod_0 13 rfl rfl)
theorem dX1_nod_16 : decode cX1_nod 16 = .ok (.aload_n 0, 1) := dk_42 (dk_at dksX1_nod_0 16 rfl rfl)
theorem dX1_nod_17 : decode cX1_nod 17 = .ok (.new 240, 3) := dk_187 0 240 (dk_at dksX1_nod_0 17 rfl rfl)
theorem dX1_nod_20 : decode cX1_nod 20 = .ok (.dup, 1) := dk_89 (dk_at dksX1_nod_0 20 rfl rfl)
theorem dX1_nod_21 : decode cX1_nod 21 = .ok (.iload_n 1, 1) := dk_27 (dk_at dksX1_nod_0 21 rfl rfl)
theorem dX1_nod_22 : decode cX1_nod 22 = .ok (.iload_n 2, 1) := dk_28 (dk_at dksX1_nod_0 22 rfl rfl)
theorem dX1_nod_23 : decode cX1_nod 23 = .ok (.invokespecial 242, 3) := dk_183 0 242 (dk_at dksX1_nod_1 0 rfl rfl)
theorem dX1_nod_26 : decode cX1_nod 26 = .ok (.invokevirtual 237, 3) := dk_182 0 237 (dk_at dksX1_nod_1 3 rfl rfl)
theorem dX1_nod_29 : decode cX1_nod 29 = .ok (.goto 4, 3) := dk_167 0 4 (dk_at dksX1_nod_1 6 rfl rfl)
theorem dX1_nod_32 : decode cX1_nod 32 = .ok (.iconst (-1), 1) := dk_2 (dk_at dksX1_nod_1 9 rfl rfl)
theorem dX1_nod_33 : decode cX1_nod 33 = .ok (.ireturn, 1) := dk_172 (dk_at dksX1_nod_1 10 rfl rfl)
abbrev cX1_veil : ByteArray := prog_1_method_27_code
def yX1_veil : MethodName := ⟨RX1, "veil", "(I)I"⟩
def dkwX1_veil_1 : List UInt8 := [172]
abbrev dktX1_veil_1 : List UInt8 := dkwX1_veil_1 ++ []
def dkwX1_veil_0 : List UInt8 := [42, 27, 182, 0, 145, 153, 0, 18, 42, 187, 0, 245, 89, 27, 183, 0, 247, 182, 0, 237, 167, 0, 4, 2]
abbrev dktX1_veil_0 : List UInt8 := dkwX1_veil_0 ++ dktX1_veil_1
theorem dksX1_veil_0 : cX1_veil.data.toList.drop 0 = dktX1_veil_0 := by decide +kernel
theorem dksX1_veil_1 : cX1_veil.data.toList.drop 24 = dktX1_veil_1 := dk_seg dksX1_veil_0 24 rfl rfl
theorem dX1_veil_0 : decode cX1_veil 0 = .ok (.aload_n 0, 1) := dk_42 (dk_at dksX1_veil_0 0 rfl rfl)
theorem dX1_veil_1 : decode cX1_veil 1 = .ok (.iload_n 1, 1) := dk_27 (dk_at dksX1_veil_0 1 rfl rfl)
theorem dX1_veil_2 : decode cX1_veil 2 = .ok (.invokevirtual 145, 3) := dk_182 0 145 (dk_at dksX1_veil_0 2 rfl rfl)
theorem dX1_veil_5 : decode cX1_veil 5 = .ok (.ifCond .eq 18, 3) := dk_153 0 18 (dk_at dksX1_veil_0 5 rfl rfl)
theorem dX1_veil_8 : decode cX1_veil 8 = .ok (.aload_n 0, 1) := dk_42 (dk_at dksX1_veil_0 8 rfl rfl)
theorem dX1_veil_9 : decode cX1_veil 9 = .ok (.new 245, 3) := dk_187 0 245 (dk_at dksX1_veil_0 9 rfl rfl)
theorem dX1_veil_12 : decode cX1_veil 12 = .ok (.dup, 1) := dk_89 (dk_at dksX1_veil_0 12 rfl rfl)
theorem dX1_veil_13 : decode cX1_veil 13 = .ok (.iload_n 1, 1) := dk_27 (dk_at dksX1_veil_0 13 rfl rfl)
theorem dX1_veil_14 : decode cX1_veil 14 = .ok (.invokespecial 247, 3) := dk_183 0 247 (dk_at dksX1_veil_0 14 rfl rfl)
theorem dX1_veil_17 : decode cX1_veil 17 = .ok (.invokevirtual 237, 3) := dk_182 0 237 (dk_at dksX1_veil_0 17 rfl rfl)
theorem dX1_veil_20 : decode cX1_veil 20 = .ok (.goto 4, 3) := dk_167 0 4 (dk_at dksX1_veil_0 20 rfl rfl)
theorem dX1_veil_23 : decode cX1_veil 23 = .ok (.iconst (-1), 1) := dk_2 (dk_at dksX1_veil_0 23 rfl rfl)
theorem dX1_veil_24 : decode cX1_veil 24 = .ok (.ireturn, 1) := dk_172 (dk_at dksX1_veil_1 0 rfl rfl)
abbrev cX1_tell : ByteArray := prog_1_method_28_code
def yX1_tell : MethodName := ⟨RX1, "tell", "(III)I"⟩
def dkwX1_tell_1 : List UInt8 := [42, 187, 0, 249, 89, 27, 28, 29, 183, 0, 251, 182, 0, 237, 167, 0, 4, 2, 172]
abbrev dktX1_tell_1 : List UInt8 := dkwX1_tell_1 ++ []
def dkwX1_tell_0 : List UInt8 := [42, 27, 182, 0, 145, 153, 0, 36, 42, 28, 182, 0, 145, 153, 0, 28, 42, 29, 182, 0, 145, 153, 0, 20]
abbrev dktX1_tell_0 : List UInt8 := dkwX1_tell_0 ++ dktX1_tell_1
theorem dksX1_tell_0 : cX1_tell.data.toList.drop 0 = dktX1_tell_0 := by decide +kernel
theorem dksX1_tell_1 : cX1_tell.data.toList.drop 24 = dktX1_tell_1 := dk_seg dksX1_tell_0 24 rfl rfl
theorem dX1_tell_0 : decode cX1_tell 0 = .ok (.aload_n 0, 1) := dk_42 (dk_at dksX1_tell_0 0 rfl rfl)
theorem dX1_tell_1 : decode cX1_tell 1 = .ok (.iload_n 1, 1) := dk_27 (dk_at dksX1_tell_0 1 rfl rfl)
theorem dX1_tell_2 : decode cX1_tell 2 = .ok (.invokevirtual 145, 3) := dk_182 0 145 (dk_at dksX1_tell_0 2 rfl rfl)
theorem dX1_tell_5 : decode cX1_tell 5 = .ok (.ifCond .eq 36, 3) := dk_153 0 36 (dk_at dksX1_tell_0 5 rfl rfl)
theorem dX1_tell_8 : decode cX1_tell 8 = .ok (.aload_n 0, 1) := dk_42 (dk_at dksX1_tell_0 8 rfl rfl)
theorem dX1_tell_9 : decode cX1_tell 9 = .ok (.iload_n 2, 1) := dk_28 (dk_at dksX1_tell_0 9 rfl rfl)
theorem dX1_tell_10 : decode cX1_tell 10 = .ok (.invokevirtual 145, 3) := dk_182 0 145 (dk_at dksX1_tell_0 10 rfl rfl)
theorem dX1_tell_13 : decode cX1_tell 13 = .ok (.ifCond .eq 28, 3) := dk_153 0 28 (dk_at dksX1_tell_0 13 rfl rfl)
theorem dX1_tell_16 : decode cX1_tell 16 = .ok (.aload_n 0, 1) := dk_42 (dk_at dksX1_tell_0 16 rfl rfl)
theorem dX1_tell_17 : decode cX1_tell 17 = .ok (.iload_n 3, 1) := dk_29 (dk_at dksX1_tell_0 17 rfl rfl)
theorem dX1_tell_18 : decode cX1_tell 18 = .ok (.invokevirtual 145, 3) := dk_182 0 145 (dk_at dksX1_tell_0 18 rfl rfl)
theorem dX1_tell_21 : decode cX1_tell 21 = .ok (.ifCond .eq 20, 3) := dk_153 0 20 (dk_at dksX1_tell_0 21 rfl rfl)
theorem dX1_tell_24 : decode cX1_tell 24 = .ok (.aload_n 0, 1) := dk_42 (dk_at dksX1_tell_1 0 rfl rfl)
theorem dX1_tell_25 : decode cX1_tell 25 = .ok (.new 249, 3) := dk_187 0 249 (dk_at dksX1_tell_1 1 rfl rfl)
theorem dX1_tell_28 : decode cX1_tell 28 = .ok (.dup, 1) := dk_89 (dk_at dksX1_tell_1 4 rfl rfl)
theorem dX1_tell_29 : decode cX1_tell 29 = .ok (.iload_n 1, 1) := dk_27 (dk_at dksX1_tell_1 5 rfl rfl)
theorem dX1_tell_30 : decode cX1_tell 30 = .ok (.iload_n 2, 1) := dk_28 (dk_at dksX1_tell_1 6 rfl rfl)
theorem dX1_tell_31 : decode cX1_tell 31 = .ok (.iload_n 3, 1) := dk_29 (dk_at dksX1_tell_1 7 rfl rfl)
theorem dX1_tell_32 : decode cX1_tell 32 = .ok (.invokespecial 251, 3) := dk_183 0 251 (dk_at dksX1_tell_1 8 rfl rfl)
theorem dX1_tell_35 : decode cX1_tell 35 = .ok (.invokevirtual 237, 3) := dk_182 0 237 (dk_at dksX1_tell_1 11 rfl rfl)
theorem dX1_tell_38 : decode cX1_tell 38 = .ok (.goto 4, 3) := dk_167 0 4 (dk_at dksX1_tell_1 14 rfl rfl)
theorem dX1_tell_41 : decode cX1_tell 41 = .ok (.iconst (-1), 1) := dk_2 (dk_at dksX1_tell_1 17 rfl rfl)
theorem dX1_tell_42 : decode cX1_tell 42 = .ok (.ireturn, 1) := dk_172 (dk_at dksX1_tell_1 18 rfl rfl)
abbrev cX1_days : ByteArray := prog_1_method_29_code
def yX1_days : MethodName := ⟨RX1, "days", "(I)I"⟩
def dkwX1_days_1 : List UInt8 := [42, 182, 0, 229, 42, 180, 0, 36, 27, 182, 1, 0, 172]
abbrev dktX1_days_1 : List UInt8 := dkwX1_days_1 ++ []
def dkwX1_days_0 : List UInt8 := [27, 4, 16, 60, 184, 0, 146, 154, 0, 5, 2, 172, 42, 180, 0, 36, 182, 0, 252, 153, 0, 5, 3, 172]
abbrev dktX1_days_0 : List UInt8 := dkwX1_days_0 ++ dktX1_days_1
theorem dksX1_days_0 : cX1_days.data.toList.drop 0 = dktX1_days_0 := by decide +kernel
theorem dksX1_days_1 : cX1_days.data.toList.drop 24 = dktX1_days_1 := dk_seg dksX1_days_0 24 rfl rfl
theorem dX1_days_0 : decode cX1_days 0 = .ok (.iload_n 1, 1) := dk_27 (dk_at dksX1_days_0 0 rfl rfl)
theorem dX1_days_1 : decode cX1_days 1 = .ok (.iconst 1, 1) := dk_4 (dk_at dksX1_days_0 1 rfl rfl)
theorem dX1_days_2 : decode cX1_days 2 = .ok (.bipush 60, 2) := dk_16 60 (dk_at dksX1_days_0 2 rfl rfl)
theorem dX1_days_4 : decode cX1_days 4 = .ok (.invokestatic 146, 3) := dk_184 0 146 (dk_at dksX1_days_0 4 rfl rfl)
theorem dX1_days_7 : decode cX1_days 7 = .ok (.ifCond .ne 5, 3) := dk_154 0 5 (dk_at dksX1_days_0 7 rfl rfl)
theorem dX1_days_10 : decode cX1_days 10 = .ok (.iconst (-1), 1) := dk_2 (dk_at dksX1_days_0 10 rfl rfl)
theorem dX1_days_11 : decode cX1_days 11 = .ok (.ireturn, 1) := dk_172 (dk_at dksX1_days_0 11 rfl rfl)
theorem dX1_days_12 : decode cX1_days 12 = .ok (.aload_n 0, 1) := dk_42 (dk_at dksX1_days_0 12 rfl rfl)
theorem dX1_days_13 : decode cX1_days 13 = .ok (.getfield 36, 3) := dk_180 0 36 (dk_at dksX1_days_0 13 rfl rfl)
theorem dX1_days_16 : decode cX1_days 16 = .ok (.invokevirtual 252, 3) := dk_182 0 252 (dk_at dksX1_days_0 16 rfl rfl)
theorem dX1_days_19 : decode cX1_days 19 = .ok (.ifCond .eq 5, 3) := dk_153 0 5 (dk_at dksX1_days_0 19 rfl rfl)
theorem dX1_days_22 : decode cX1_days 22 = .ok (.iconst 0, 1) := dk_3 (dk_at dksX1_days_0 22 rfl rfl)
theorem dX1_days_23 : decode cX1_days 23 = .ok (.ireturn, 1) := dk_172 (dk_at dksX1_days_0 23 rfl rfl)
theorem dX1_days_24 : decode cX1_days 24 = .ok (.aload_n 0, 1) := dk_42 (dk_at dksX1_days_1 0 rfl rfl)
theorem dX1_days_25 : decode cX1_days 25 = .ok (.invokevirtual 229, 3) := dk_182 0 229 (dk_at dksX1_days_1 1 rfl rfl)
theorem dX1_days_28 : decode cX1_days 28 = .ok (.aload_n 0, 1) := dk_42 (dk_at dksX1_days_1 4 rfl rfl)
theorem dX1_days_29 : decode cX1_days 29 = .ok (.getfield 36, 3) := dk_180 0 36 (dk_at dksX1_days_1 5 rfl rfl)
theorem dX1_days_32 : decode cX1_days 32 = .ok (.iload_n 1, 1) := dk_27 (dk_at dksX1_days_1 8 rfl rfl)
theorem dX1_days_33 : decode cX1_days 33 = .ok (.invokevirtual 256, 3) := dk_182 1 0 (dk_at dksX1_days_1 9 rfl rfl)
theorem dX1_days_36 : decode cX1_days 36 = .ok (.ireturn, 1) := dk_172 (dk_at dksX1_days_1 12 rfl rfl)
abbrev cX1_undo : ByteArray := prog_1_method_30_code
def yX1_undo : MethodName := ⟨RX1, "undo", "()I"⟩
def dkwX1_undo_1 : List UInt8 := [180, 0, 43, 42, 180, 0, 113, 50, 182, 0, 220, 87, 42, 180, 0, 113, 172]
abbrev dktX1_undo_1 : List UInt8 := dkwX1_undo_1 ++ []
def dkwX1_undo_0 : List UInt8 := [42, 180, 0, 113, 154, 0, 5, 2, 172, 42, 89, 180, 0, 113, 4, 100, 181, 0, 113, 42, 180, 0, 36, 42]
abbrev dktX1_undo_0 : List UInt8 := dkwX1_undo_0 ++ dktX1_undo_1
theorem dksX1_undo_0 : cX1_undo.data.toList.drop 0 = dktX1_undo_0 := by decide +kernel
theorem dksX1_undo_1 : cX1_undo.data.toList.drop 24 = dktX1_undo_1 := dk_seg dksX1_undo_0 24 rfl rfl
theorem dX1_undo_0 : decode cX1_undo 0 = .ok (.aload_n 0, 1) := dk_42 (dk_at dksX1_undo_0 0 rfl rfl)
theorem dX1_undo_1 : decode cX1_undo 1 = .ok (.getfield 113, 3) := dk_180 0 113 (dk_at dksX1_undo_0 1 rfl rfl)
theorem dX1_undo_4 : decode cX1_undo 4 = .ok (.ifCond .ne 5, 3) := dk_154 0 5 (dk_at dksX1_undo_0 4 rfl rfl)
theorem dX1_undo_7 : decode cX1_undo 7 = .ok (.iconst (-1), 1) := dk_2 (dk_at dksX1_undo_0 7 rfl rfl)
theorem dX1_undo_8 : decode cX1_undo 8 = .ok (.ireturn, 1) := dk_172 (dk_at dksX1_undo_0 8 rfl rfl)
theorem dX1_undo_9 : decode cX1_undo 9 = .ok (.aload_n 0, 1) := dk_42 (dk_at dksX1_undo_0 9 rfl rfl)
theorem dX1_undo_10 : decode cX1_undo 10 = .ok (.dup, 1) := dk_89 (dk_at dksX1_undo_0 10 rfl rfl)
theorem dX1_undo_11 : decode cX1_undo 11 = .ok (.getfield 113, 3) := dk_180 0 113 (dk_at dksX1_undo_0 11 rfl rfl)
theorem dX1_undo_14 : decode cX1_undo 14 = .ok (.iconst 1, 1) := dk_4 (dk_at dksX1_undo_0 14 rfl rfl)
theorem dX1_undo_15 : decode cX1_undo 15 = .ok (.isub, 1) := dk_100 (dk_at dksX1_undo_0 15 rfl rfl)
theorem dX1_undo_16 : decode cX1_undo 16 = .ok (.putfield 113, 3) := dk_181 0 113 (dk_at dksX1_undo_0 16 rfl rfl)
theorem dX1_undo_19 : decode cX1_undo 19 = .ok (.aload_n 0, 1) := dk_42 (dk_at dksX1_undo_0 19 rfl rfl)
theorem dX1_undo_20 : decode cX1_undo 20 = .ok (.getfield 36, 3) := dk_180 0 36 (dk_at dksX1_undo_0 20 rfl rfl)
theorem dX1_undo_23 : decode cX1_undo 23 = .ok (.aload_n 0, 1) := dk_42 (dk_at dksX1_undo_0 23 rfl rfl)
theorem dX1_undo_24 : decode cX1_undo 24 = .ok (.getfield 43, 3) := dk_180 0 43 (dk_at dksX1_undo_1 0 rfl rfl)
theorem dX1_undo_27 : decode cX1_undo 27 = .ok (.aload_n 0, 1) := dk_42 (dk_at dksX1_undo_1 3 rfl rfl)
theorem dX1_undo_28 : decode cX1_undo 28 = .ok (.getfield 113, 3) := dk_180 0 113 (dk_at dksX1_undo_1 4 rfl rfl)
theorem dX1_undo_31 : decode cX1_undo 31 = .ok (.aaload, 1) := dk_50 (dk_at dksX1_undo_1 7 rfl rfl)
theorem dX1_undo_32 : decode cX1_undo 32 = .ok (.invokevirtual 220, 3) := dk_182 0 220 (dk_at dksX1_undo_1 8 rfl rfl)
theorem dX1_undo_35 : decode cX1_undo 35 = .ok (.pop, 1) := dk_87 (dk_at dksX1_undo_1 11 rfl rfl)
theorem dX1_undo_36 : decode cX1_undo 36 = .ok (.aload_n 0, 1) := dk_42 (dk_at dksX1_undo_1 12 rfl rfl)
theorem dX1_undo_37 : decode cX1_undo 37 = .ok (.getfield 113, 3) := dk_180 0 113 (dk_at dksX1_undo_1 13 rfl rfl)
theorem dX1_undo_40 : decode cX1_undo 40 = .ok (.ireturn, 1) := dk_172 (dk_at dksX1_undo_1 16 rfl rfl)
abbrev cX1_most : ByteArray := prog_1_method_33_code
def yX1_most : MethodName := ⟨RX1, "most", "(I)I"⟩
def dkwX1_most_4 : List UInt8 := [182, 1, 22, 153, 0, 6, 132, 2, 1, 132, 4, 255, 167, 255, 232, 132, 3, 1, 167, 255, 203, 28, 172]
abbrev dktX1_most_4 : List UInt8 := dkwX1_most_4 ++ []
def dkwX1_most_3 : List UInt8 := [180, 0, 188, 8, 29, 104, 27, 96, 46, 54, 4, 21, 4, 158, 0, 25, 42, 3, 181, 1, 12, 42, 29]
abbrev dktX1_most_3 : List UInt8 := dkwX1_most_3 ++ dktX1_most_4
def dkwX1_most_2 : List UInt8 := [79, 132, 2, 1, 167, 255, 226, 3, 61, 3, 62, 29, 42, 182, 0, 143, 162, 0, 51, 42, 180, 0, 36]
abbrev dktX1_most_2 : List UInt8 := dkwX1_most_2 ++ dktX1_most_3
def dkwX1_most_1 : List UInt8 := [182, 0, 143, 162, 0, 28, 42, 180, 0, 51, 28, 42, 180, 0, 36, 180, 0, 185, 8, 28, 104, 27, 96, 46]
abbrev dktX1_most_1 : List UInt8 := dkwX1_most_1 ++ dktX1_most_2
def dkwX1_most_0 : List UInt8 := [42, 27, 182, 0, 184, 154, 0, 5, 2, 172, 42, 180, 0, 47, 3, 184, 1, 25, 3, 61, 28, 42]
abbrev dktX1_most_0 : List UInt8 := dkwX1_most_0 ++ dktX1_most_1
theorem dksX1_most_0 : cX1_most.data.toList.drop 0 = dktX1_most_0 := by decide +kernel
theorem dksX1_most_1 : cX1_most.data.toList.drop 22 = dktX1_most_1 := dk_seg dksX1_most_0 22 rfl rfl
theorem dksX1_most_2 : cX1_most.data.toList.drop 46 = dktX1_most_2 := dk_seg dksX1_most_1 24 rfl rfl
theorem dksX1_most_3 : cX1_most.data.toList.drop 69 = dktX1_most_3 := dk_seg dksX1_most_2 23 rfl rfl
theorem dksX1_most_4 : cX1_most.data.toList.drop 92 = dktX1_most_4 := dk_seg dksX1_most_3 23 rfl rfl
theorem dX1_most_0 : decode cX1_most 0 = .ok (.aload_n 0, 1) := dk_42 (dk_at dksX1_most_0 0 rfl rfl)
theorem dX1_most_1 : decode cX1_most 1 = .ok (.iload_n 1, 1) := dk_27 (dk_at dksX1_most_0 1 rfl rfl)
theorem dX1_most_2 : decode cX1_most 2 = .ok (.invokevirtual 184, 3) := dk_182 0 184 (dk_at dksX1_most_0 2 rfl rfl)
theorem dX1_most_5 : decode cX1_most 5 = .ok (.ifCond .ne 5, 3) := dk_154 0 5 (dk_at dksX1_most_0 5 rfl rfl)
theorem dX1_most_8 : decode cX1_most 8 = .ok (.iconst (-1), 1) := dk_2 (dk_at dksX1_most_0 8 rfl rfl)
theorem dX1_most_9 : decode cX1_most 9 = .ok (.ireturn, 1) := dk_172 (dk_at dksX1_most_0 9 rfl rfl)
theorem dX1_most_10 : decode cX1_most 10 = .ok (.aload_n 0, 1) := dk_42 (dk_at dksX1_most_0 10 rfl rfl)
theorem dX1_most_11 : decode cX1_most 11 = .ok (.getfield 47, 3) := dk_180 0 47 (dk_at dksX1_most_0 11 rfl rfl)
theorem dX1_most_14 : decode cX1_most 14 = .ok (.iconst 0, 1) := dk_3 (dk_at dksX1_most_0 14 rfl rfl)
theorem dX1_most_15 : decode cX1_most 15 = .ok (.invokestatic 281, 3) := dk_184 1 25 (dk_at dksX1_most_0 15 rfl rfl)
theorem dX1_most_18 : decode cX1_most 18 = .ok (.iconst 0, 1) := dk_3 (dk_at dksX1_most_0 18 rfl rfl)
theorem dX1_most_19 : decode cX1_most 19 = .ok (.istore_n 2, 1) := dk_61 (dk_at dksX1_most_0 19 rfl rfl)
theorem dX1_most_20 : decode cX1_most 20 = .ok (.iload_n 2, 1) := dk_28 (dk_at dksX1_most_0 20 rfl rfl)
theorem dX1_most_21 : decode cX1_most 21 = .ok (.aload_n 0, 1) := dk_42 (dk_at dksX1_most_0 21 rfl rfl)
theorem dX1_most_22 : decode cX1_most 22 = .ok (.invokevirtual 143, 3) := dk_182 0 143 (dk_at dksX1_most_1 0 rfl rfl)
theorem dX1_most_25 : decode cX1_most 25 = .ok (.if_icmp .ge 28, 3) := dk_162 0 28 (dk_at dksX1_most_1 3 rfl rfl)
theorem dX1_most_28 : decode cX1_most 28 = .ok (.aload_n 0, 1) := dk_42 (dk_at dksX1_most_1 6 rfl rfl)
theorem dX1_most_29 : decode cX1_most 29 = .ok (.getfield 51, 3) := dk_180 0 51 (dk_at dksX1_most_1 7 rfl rfl)
theorem dX1_most_32 : decode cX1_most 32 = .ok (.iload_n 2, 1) := dk_28 (dk_at dksX1_most_1 10 rfl rfl)
theorem dX1_most_33 : decode cX1_most 33 = .ok (.aload_n 0, 1) := dk_42 (dk_at dksX1_most_1 11 rfl rfl)
theorem dX1_most_34 : decode cX1_most 34 = .ok (.getfield 36, 3) := dk_180 0 36 (dk_at dksX1_most_1 12 rfl rfl)
theorem dX1_most_37 : decode cX1_most 37 = .ok (.getfield 185, 3) := dk_180 0 185 (dk_at dksX1_most_1 15 rfl rfl)
theorem dX1_most_40 : decode cX1_most 40 = .ok (.iconst 5, 1) := dk_8 (dk_at dksX1_most_1 18 rfl rfl)
theorem dX1_most_41 : decode cX1_most 41 = .ok (.iload_n 2, 1) := dk_28 (dk_at dksX1_most_1 19 rfl rfl)
theorem dX1_most_42 : decode cX1_most 42 = .ok (.imul, 1) := dk_104 (dk_at dksX1_most_1 20 rfl rfl)
theorem dX1_most_43 : decode cX1_most 43 = .ok (.iload_n 1, 1) := dk_27 (dk_at dksX1_most_1 21 rfl rfl)
theorem dX1_most_44 : decode cX1_most 44 = .ok (.iadd, 1) := dk_96 (dk_at dksX1_most_1 22 rfl rfl)
theorem dX1_most_45 : decode cX1_most 45 = .ok (.iaload, 1) := dk_46 (dk_at dksX1_most_1 23 rfl rfl)
theorem dX1_most_46 : decode cX1_most 46 = .ok (.iastore, 1) := dk_79 (dk_at dksX1_most_2 0 rfl rfl)
theorem dX1_most_47 : decode cX1_most 47 = .ok (.iinc 2 1, 3) := dk_132 2 1 (dk_at dksX1_most_2 1 rfl rfl)
theorem dX1_most_50 : decode cX1_most 50 = .ok (.goto (-30), 3) := dk_167 255 226 (dk_at dksX1_most_2 4 rfl rfl)
theorem dX1_most_53 : decode cX1_most 53 = .ok (.iconst 0, 1) := dk_3 (dk_at dksX1_most_2 7 rfl rfl)
theorem dX1_most_54 : decode cX1_most 54 = .ok (.istore_n 2, 1) := dk_61 (dk_at dksX1_most_2 8 rfl rfl)
theorem dX1_most_55 : decode cX1_most 55 = .ok (.iconst 0, 1) := dk_3 (dk_at dksX1_most_2 9 rfl rfl)
theorem dX1_most_56 : decode cX1_most 56 = .ok (.istore_n 3, 1) := dk_62 (dk_at dksX1_most_2 10 rfl rfl)
theorem dX1_most_57 : decode cX1_most 57 = .ok (.iload_n 3, 1) := dk_29 (dk_at dksX1_most_2 11 rfl rfl)
theorem dX1_most_58 : decode cX1_most 58 = .ok (.aload_n 0, 1) := dk_42 (dk_at dksX1_most_2 12 rfl rfl)
theorem dX1_most_59 : decode cX1_most 59 = .ok (.invokevirtual 143, 3) := dk_182 0 143 (dk_at dksX1_most_2 13 rfl rfl)
theorem dX1_most_62 : decode cX1_most 62 = .ok (.if_icmp .ge 51, 3) := dk_162 0 51 (dk_at dksX1_most_2 16 rfl rfl)
theorem dX1_most_65 : decode cX1_most 65 = .ok (.aload_n 0, 1) := dk_42 (dk_at dksX1_most_2 19 rfl rfl)
theorem dX1_most_66 : decode cX1_most 66 = .ok (.getfield 36, 3) := dk_180 0 36 (dk_at dksX1_most_2 20 rfl rfl)
theorem dX1_most_69 : decode cX1_most 69 = .ok (.getfield 188, 3) := dk_180 0 188 (dk_at dksX1_most_3 0 rfl rfl)
theorem dX1_most_72 : decode cX1_most 72 = .ok (.iconst 5, 1) := dk_8 (dk_at dksX1_most_3 3 rfl rfl)
theorem dX1_most_73 : decode cX1_most 73 = .ok (.iload_n 3, 1) := dk_29 (dk_at dksX1_most_3 4 rfl rfl)
theorem dX1_most_74 : decode cX1_most 74 = .ok (.imul, 1) := dk_104 (dk_at dksX1_most_3 5 rfl rfl)
theorem dX1_most_75 : decode cX1_most 75 = .ok (.iload_n 1, 1) := dk_27 (dk_at dksX1_most_3 6 rfl rfl)
theorem dX1_most_76 : decode cX1_most 76 = .ok (.iadd, 1) := dk_96 (dk_at dksX1_most_3 7 rfl rfl)
theorem dX1_most_77 : decode cX1_most 77 = .ok (.iaload, 1) := dk_46 (dk_at dksX1_most_3 8 rfl rfl)
theorem dX1_most_78 : decode cX1_most 78 = .ok (.istore 4, 2) := dk_54 4 (dk_at dksX1_most_3 9 rfl rfl)
theorem dX1_most_80 : decode cX1_most 80 = .ok (.iload 4, 2) := dk_21 4 (dk_at dksX1_most_3 11 rfl rfl)
theorem dX1_most_82 : decode cX1_most 82 = .ok (.ifCond .le 25, 3) := dk_158 0 25 (dk_at dksX1_most_3 13 rfl rfl)
theorem dX1_most_85 : decode cX1_most 85 = .ok (.aload_n 0, 1) := dk_42 (dk_at dksX1_most_3 16 rfl rfl)
theorem dX1_most_86 : decode cX1_most 86 = .ok (.iconst 0, 1) := dk_3 (dk_at dksX1_most_3 17 rfl rfl)
theorem dX1_most_87 : decode cX1_most 87 = .ok (.putfield 268, 3) := dk_181 1 12 (dk_at dksX1_most_3 18 rfl rfl)
theorem dX1_most_90 : decode cX1_most 90 = .ok (.aload_n 0, 1) := dk_42 (dk_at dksX1_most_3 21 rfl rfl)
theorem dX1_most_91 : decode cX1_most 91 = .ok (.iload_n 3, 1) := dk_29 (dk_at dksX1_most_3 22 rfl rfl)
theorem dX1_most_92 : decode cX1_most 92 = .ok (.invokevirtual 278, 3) := dk_182 1 22 (dk_at dksX1_most_4 0 rfl rfl)
theorem dX1_most_95 : decode cX1_most 95 = .ok (.ifCond .eq 6, 3) := dk_153 0 6 (dk_at dksX1_most_4 3 rfl rfl)
theorem dX1_most_98 : decode cX1_most 98 = .ok (.iinc 2 1, 3) := dk_132 2 1 (dk_at dksX1_most_4 6 rfl rfl)
theorem dX1_most_101 : decode cX1_most 101 = .ok (.iinc 4 (-1), 3) := dk_132 4 255 (dk_at dksX1_most_4 9 rfl rfl)
theorem dX1_most_104 : decode cX1_most 104 = .ok (.goto (-24), 3) := dk_167 255 232 (dk_at dksX1_most_4 12 rfl rfl)
theorem dX1_most_107 : decode cX1_most 107 = .ok (.iinc 3 1, 3) := dk_132 3 1 (dk_at dksX1_most_4 15 rfl rfl)
theorem dX1_most_110 : decode cX1_most 110 = .ok (.goto (-53), 3) := dk_167 255 203 (dk_at dksX1_most_4 18 rfl rfl)
theorem dX1_most_113 : decode cX1_most 113 = .ok (.iload_n 2, 1) := dk_28 (dk_at dksX1_most_4 21 rfl rfl)
theorem dX1_most_114 : decode cX1_most 114 = .ok (.ireturn, 1) := dk_172 (dk_at dksX1_most_4 22 rfl rfl)
abbrev cX1_comes : ByteArray := prog_1_method_32_code
def yX1_comes : MethodName := ⟨RX1, "comes", "(I)Z"⟩
def dkwX1_comes_7 : List UInt8 := [132, 3, 1, 167, 255, 183, 132, 2, 1, 167, 255, 85, 3, 172]
abbrev dktX1_comes_7 : List UInt8 := dkwX1_comes_7 ++ []
def dkwX1_comes_6 : List UInt8 := [92, 46, 4, 100, 79, 42, 180, 0, 47, 16, 7, 27, 104, 28, 96, 92, 46, 4, 96, 79, 4, 172]
abbrev dktX1_comes_6 : List UInt8 := dkwX1_comes_6 ++ dktX1_comes_7
def dkwX1_comes_5 : List UInt8 := [153, 0, 46, 42, 29, 182, 1, 22, 154, 0, 6, 167, 0, 35, 42, 180, 0, 47, 16, 7, 29, 104, 28, 96]
abbrev dktX1_comes_5 : List UInt8 := dkwX1_comes_5 ++ dktX1_comes_6
def dkwX1_comes_4 : List UInt8 := [29, 42, 182, 0, 143, 162, 0, 71, 29, 27, 159, 0, 60, 42, 180, 0, 47, 16, 7, 29, 104, 28, 96, 46]
abbrev dktX1_comes_4 : List UInt8 := dkwX1_comes_4 ++ dktX1_comes_5
def dkwX1_comes_3 : List UInt8 := [92, 46, 4, 100, 79, 42, 180, 0, 47, 16, 7, 27, 104, 28, 96, 92, 46, 4, 96, 79, 4, 172, 3, 62]
abbrev dktX1_comes_3 : List UInt8 := dkwX1_comes_3 ++ dktX1_comes_4
def dkwX1_comes_2 : List UInt8 := [180, 1, 12, 4, 28, 120, 128, 181, 1, 12, 42, 180, 0, 51, 28, 46, 158, 0, 30, 42, 180, 0, 51, 28]
abbrev dktX1_comes_2 : List UInt8 := dkwX1_comes_2 ++ dktX1_comes_3
def dkwX1_comes_1 : List UInt8 := [180, 0, 47, 16, 7, 27, 104, 28, 96, 46, 42, 27, 28, 182, 1, 18, 161, 0, 6, 167, 0, 129, 42, 89]
abbrev dktX1_comes_1 : List UInt8 := dkwX1_comes_1 ++ dktX1_comes_2
def dkwX1_comes_0 : List UInt8 := [3, 61, 28, 42, 182, 0, 143, 162, 0, 169, 42, 180, 1, 12, 28, 184, 1, 15, 154, 0, 152, 42]
abbrev dktX1_comes_0 : List UInt8 := dkwX1_comes_0 ++ dktX1_comes_1
theorem dksX1_comes_0 : cX1_comes.data.toList.drop 0 = dktX1_comes_0 := by decide +kernel
theorem dksX1_comes_1 : cX1_comes.data.toList.drop 22 = dktX1_comes_1 := dk_seg dksX1_comes_0 22 rfl rfl
theorem dksX1_comes_2 : cX1_comes.data.toList.drop 46 = dktX1_comes_2 := dk_seg dksX1_comes_1 24 rfl rfl
theorem dksX1_comes_3 : cX1_comes.data.toList.drop 70 = dktX1_comes_3 := dk_seg dksX1_comes_2 24 rfl rfl
theorem dksX1_comes_4 : cX1_comes.data.toList.drop 94 = dktX1_comes_4 := dk_seg dksX1_comes_3 24 rfl rfl
theorem dksX1_comes_5 : cX1_comes.data.toList.drop 118 = dktX1_comes_5 := dk_seg dksX1_comes_4 24 rfl rfl
theorem dksX1_comes_6 : cX1_comes.data.toList.drop 142 = dktX1_comes_6 := dk_seg dksX1_comes_5 24 rfl rfl
theorem dksX1_comes_7 : cX1_comes.data.toList.drop 164 = dktX1_comes_7 := dk_seg dksX1_comes_6 22 rfl rfl
theorem dX1_comes_0 : decode cX1_comes 0 = .ok (.iconst 0, 1) := dk_3 (dk_at dksX1_comes_0 0 rfl rfl)
theorem dX1_comes_1 : decode cX1_comes 1 = .ok (.istore_n 2, 1) := dk_61 (dk_at dksX1_comes_0 1 rfl rfl)
theorem dX1_comes_2 : decode cX1_comes 2 = .ok (.iload_n 2, 1) := dk_28 (dk_at dksX1_comes_0 2 rfl rfl)
theorem dX1_comes_3 : decode cX1_comes 3 = .ok (.aload_n 0, 1) := dk_42 (dk_at dksX1_comes_0 3 rfl rfl)
theorem dX1_comes_4 : decode cX1_comes 4 = .ok (.invokevirtual 143, 3) := dk_182 0 143 (dk_at dksX1_comes_0 4 rfl rfl)
theorem dX1_comes_7 : decode cX1_comes 7 = .ok (.if_icmp .ge 169, 3) := dk_162 0 169 (dk_at dksX1_comes_0 7 rfl rfl)
theorem dX1_comes_10 : decode cX1_comes 10 = .ok (.aload_n 0, 1) := dk_42 (dk_at dksX1_comes_0 10 rfl rfl)
theorem dX1_comes_11 : decode cX1_comes 11 = .ok (.getfield 268, 3) := dk_180 1 12 (dk_at dksX1_comes_0 11 rfl rfl)
theorem dX1_comes_14 : decode cX1_comes 14 = .ok (.iload_n 2, 1) := dk_28 (dk_at dksX1_comes_0 14 rfl rfl)
theorem dX1_comes_15 : decode cX1_comes 15 = .ok (.invokestatic 271, 3) := dk_184 1 15 (dk_at dksX1_comes_0 15 rfl rfl)
theorem dX1_comes_18 : decode cX1_comes 18 = .ok (.ifCond .ne 152, 3) := dk_154 0 152 (dk_at dksX1_comes_0 18 rfl rfl)
theorem dX1_comes_21 : decode cX1_comes 21 = .ok (.aload_n 0, 1) := dk_42 (dk_at dksX1_comes_0 21 rfl rfl)
theorem dX1_comes_22 : decode cX1_comes 22 = .ok (.getfield 47, 3) := dk_180 0 47 (dk_at dksX1_comes_1 0 rfl rfl)
theorem dX1_comes_25 : decode cX1_comes 25 = .ok (.bipush 7, 2) := dk_16 7 (dk_at dksX1_comes_1 3 rfl rfl)
theorem dX1_comes_27 : decode cX1_comes 27 = .ok (.iload_n 1, 1) := dk_27 (dk_at dksX1_comes_1 5 rfl rfl)
theorem dX1_comes_28 : decode cX1_comes 28 = .ok (.imul, 1) := dk_104 (dk_at dksX1_comes_1 6 rfl rfl)
theorem dX1_comes_29 : decode cX1_comes 29 = .ok (.iload_n 2, 1) := dk_28 (dk_at dksX1_comes_1 7 rfl rfl)
theorem dX1_comes_30 : decode cX1_comes 30 = .ok (.iadd, 1) := dk_96 (dk_at dksX1_comes_1 8 rfl rfl)
theorem dX1_comes_31 : decode cX1_comes 31 = .ok (.iaload, 1) := dk_46 (dk_at dksX1_comes_1 9 rfl rfl)
theorem dX1_comes_32 : decode cX1_comes 32 = .ok (.aload_n 0, 1) := dk_42 (dk_at dksX1_comes_1 10 rfl rfl)
theorem dX1_comes_33 : decode cX1_comes 33 = .ok (.iload_n 1, 1) := dk_27 (dk_at dksX1_comes_1 11 rfl rfl)
theorem dX1_comes_34 : decode cX1_comes 34 = .ok (.iload_n 2, 1) := dk_28 (dk_at dksX1_comes_1 12 rfl rfl)
theorem dX1_comes_35 : decode cX1_comes 35 = .ok (.invokevirtual 274, 3) := dk_182 1 18 (dk_at dksX1_comes_1 13 rfl rfl)
theorem dX1_comes_38 : decode cX1_comes 38 = .ok (.if_icmp .lt 6, 3) := dk_161 0 6 (dk_at dksX1_comes_1 16 rfl rfl)
theorem dX1_comes_41 : decode cX1_comes 41 = .ok (.goto 129, 3) := dk_167 0 129 (dk_at dksX1_comes_1 19 rfl rfl)
theorem dX1_comes_44 : decode cX1_comes 44 = .ok (.aload_n 0, 1) := dk_42 (dk_at dksX1_comes_1 22 rfl rfl)
theorem dX1_comes_45 : decode cX1_comes 45 = .ok (.dup, 1) := dk_89 (dk_at dksX1_comes_1 23 rfl rfl)
theorem dX1_comes_46 : decode cX1_comes 46 = .ok (.getfield 268, 3) := dk_180 1 12 (dk_at dksX1_comes_2 0 rfl rfl)
theorem dX1_comes_49 : decode cX1_comes 49 = .ok (.iconst 1, 1) := dk_4 (dk_at dksX1_comes_2 3 rfl rfl)
theorem dX1_comes_50 : decode cX1_comes 50 = .ok (.iload_n 2, 1) := dk_28 (dk_at dksX1_comes_2 4 rfl rfl)
theorem dX1_comes_51 : decode cX1_comes 51 = .ok (.ishl, 1) := dk_120 (dk_at dksX1_comes_2 5 rfl rfl)
theorem dX1_comes_52 : decode cX1_comes 52 = .ok (.ior, 1) := dk_128 (dk_at dksX1_comes_2 6 rfl rfl)
theorem dX1_comes_53 : decode cX1_comes 53 = .ok (.putfield 268, 3) := dk_181 1 12 (dk_at dksX1_comes_2 7 rfl rfl)
theorem dX1_comes_56 : decode cX1_comes 56 = .ok (.aload_n 0, 1) := dk_42 (dk_at dksX1_comes_2 10 rfl rfl)
theorem dX1_comes_57 : decode cX1_comes 57 = .ok (.getfield 51, 3) := dk_180 0 51 (dk_at dksX1_comes_2 11 rfl rfl)
theorem dX1_comes_60 : decode cX1_comes 60 = .ok (.iload_n 2, 1) := dk_28 (dk_at dksX1_comes_2 14 rfl rfl)
theorem dX1_comes_61 : decode cX1_comes 61 = .ok (.iaload, 1) := dk_46 (dk_at dksX1_comes_2 15 rfl rfl)
theorem dX1_comes_62 : decode cX1_comes 62 = .ok (.ifCond .le 30, 3) := dk_158 0 30 (dk_at dksX1_comes_2 16 rfl rfl)
theorem dX1_comes_65 : decode cX1_comes 65 = .ok (.aload_n 0, 1) := dk_42 (dk_at dksX1_comes_2 19 rfl rfl)
theorem dX1_comes_66 : decode cX1_comes 66 = .ok (.getfield 51, 3) := dk_180 0 51 (dk_at dksX1_comes_2 20 rfl rfl)
theorem dX1_comes_69 : decode cX1_comes 69 = .ok (.iload_n 2, 1) := dk_28 (dk_at dksX1_comes_2 23 rfl rfl)
theorem dX1_comes_70 : decode cX1_comes 70 = .ok (.dup2, 1) := dk_92 (dk_at dksX1_comes_3 0 rfl rfl)
theorem dX1_comes_71 : decode cX1_comes 71 = .ok (.iaload, 1) := dk_46 (dk_at dksX1_comes_3 1 rfl rfl)
theorem dX1_comes_72 : decode cX1_comes 72 = .ok (.iconst 1, 1) := dk_4 (dk_at dksX1_comes_3 2 rfl rfl)
theorem dX1_comes_73 : decode cX1_comes 73 = .ok (.isub, 1) := dk_100 (dk_at dksX1_comes_3 3 rfl rfl)
theorem dX1_comes_74 : decode cX1_comes 74 = .ok (.iastore, 1) := dk_79 (dk_at dksX1_comes_3 4 rfl rfl)
theorem dX1_comes_75 : decode cX1_comes 75 = .ok (.aload_n 0, 1) := dk_42 (dk_at dksX1_comes_3 5 rfl rfl)
theorem dX1_comes_76 : decode cX1_comes 76 = .ok (.getfield 47, 3) := dk_180 0 47 (dk_at dksX1_comes_3 6 rfl rfl)
theorem dX1_comes_79 : decode cX1_comes 79 = .ok (.bipush 7, 2) := dk_16 7 (dk_at dksX1_comes_3 9 rfl rfl)
theorem dX1_comes_81 : decode cX1_comes 81 = .ok (.iload_n 1, 1) := dk_27 (dk_at dksX1_comes_3 11 rfl rfl)
theorem dX1_comes_82 : decode cX1_comes 82 = .ok (.imul, 1) := dk_104 (dk_at dksX1_comes_3 12 rfl rfl)
theorem dX1_comes_83 : decode cX1_comes 83 = .ok (.iload_n 2, 1) := dk_28 (dk_at dksX1_comes_3 13 rfl rfl)
theorem dX1_comes_84 : decode cX1_comes 84 = .ok (.iadd, 1) := dk_96 (dk_at dksX1_comes_3 14 rfl rfl)
theorem dX1_comes_85 : decode cX1_comes 85 = .ok (.dup2, 1) := dk_92 (dk_at dksX1_comes_3 15 rfl rfl)
theorem dX1_comes_86 : decode cX1_comes 86 = .ok (.iaload, 1) := dk_46 (dk_at dksX1_comes_3 16 rfl rfl)
theorem dX1_comes_87 : decode cX1_comes 87 = .ok (.iconst 1, 1) := dk_4 (dk_at dksX1_comes_3 17 rfl rfl)
theorem dX1_comes_88 : decode cX1_comes 88 = .ok (.iadd, 1) := dk_96 (dk_at dksX1_comes_3 18 rfl rfl)
theorem dX1_comes_89 : decode cX1_comes 89 = .ok (.iastore, 1) := dk_79 (dk_at dksX1_comes_3 19 rfl rfl)
theorem dX1_comes_90 : decode cX1_comes 90 = .ok (.iconst 1, 1) := dk_4 (dk_at dksX1_comes_3 20 rfl rfl)
theorem dX1_comes_91 : decode cX1_comes 91 = .ok (.ireturn, 1) := dk_172 (dk_at dksX1_comes_3 21 rfl rfl)
theorem dX1_comes_92 : decode cX1_comes 92 = .ok (.iconst 0, 1) := dk_3 (dk_at dksX1_comes_3 22 rfl rfl)
theorem dX1_comes_93 : decode cX1_comes 93 = .ok (.istore_n 3, 1) := dk_62 (dk_at dksX1_comes_3 23 rfl rfl)
theorem dX1_comes_94 : decode cX1_comes 94 = .ok (.iload_n 3, 1) := dk_29 (dk_at dksX1_comes_4 0 rfl rfl)
theorem dX1_comes_95 : decode cX1_comes 95 = .ok (.aload_n 0, 1) := dk_42 (dk_at dksX1_comes_4 1 rfl rfl)
theorem dX1_comes_96 : decode cX1_comes 96 = .ok (.invokevirtual 143, 3) := dk_182 0 143 (dk_at dksX1_comes_4 2 rfl rfl)
theorem dX1_comes_99 : decode cX1_comes 99 = .ok (.if_icmp .ge 71, 3) := dk_162 0 71 (dk_at dksX1_comes_4 5 rfl rfl)
theorem dX1_comes_102 : decode cX1_comes 102 = .ok (.iload_n 3, 1) := dk_29 (dk_at dksX1_comes_4 8 rfl rfl)
theorem dX1_comes_103 : decode cX1_comes 103 = .ok (.iload_n 1, 1) := dk_27 (dk_at dksX1_comes_4 9 rfl rfl)
theorem dX1_comes_104 : decode cX1_comes 104 = .ok (.if_icmp .eq 60, 3) := dk_159 0 60 (dk_at dksX1_comes_4 10 rfl rfl)
theorem dX1_comes_107 : decode cX1_comes 107 = .ok (.aload_n 0, 1) := dk_42 (dk_at dksX1_comes_4 13 rfl rfl)
theorem dX1_comes_108 : decode cX1_comes 108 = .ok (.getfield 47, 3) := dk_180 0 47 (dk_at dksX1_comes_4 14 rfl rfl)
theorem dX1_comes_111 : decode cX1_comes 111 = .ok (.bipush 7, 2) := dk_16 7 (dk_at dksX1_comes_4 17 rfl rfl)
theorem dX1_comes_113 : decode cX1_comes 113 = .ok (.iload_n 3, 1) := dk_29 (dk_at dksX1_comes_4 19 rfl rfl)
theorem dX1_comes_114 : decode cX1_comes 114 = .ok (.imul, 1) := dk_104 (dk_at dksX1_comes_4 20 rfl rfl)
theorem dX1_comes_115 : decode cX1_comes 115 = .ok (.iload_n 2, 1) := dk_28 (dk_at dksX1_comes_4 21 rfl rfl)
theorem dX1_comes_116 : decode cX1_comes 116 = .ok (.iadd, 1) := dk_96 (dk_at dksX1_comes_4 22 rfl rfl)
theorem dX1_comes_117 : decode cX1_comes 117 = .ok (.iaload, 1) := dk_46 (dk_at dksX1_comes_4 23 rfl rfl)
theorem dX1_comes_118 : decode cX1_comes 118 = .ok (.ifCond .eq 46, 3) := dk_153 0 46 (dk_at dksX1_comes_5 0 rfl rfl)
theorem dX1_comes_121 : decode cX1_comes 121 = .ok (.aload_n 0, 1) := dk_42 (dk_at dksX1_comes_5 3 rfl rfl)
theorem dX1_comes_122 : decode cX1_comes 122 = .ok (.iload_n 3, 1) := dk_29 (dk_at dksX1_comes_5 4 rfl rfl)
theorem dX1_comes_123 : decode cX1_comes 123 = .ok (.invokevirtual 278, 3) := dk_182 1 22 (dk_at dksX1_comes_5 5 rfl rfl)
theorem dX1_comes_126 : decode cX1_comes 126 = .ok (.ifCond .ne 6, 3) := dk_154 0 6 (dk_at dksX1_comes_5 8 rfl rfl)
theorem dX1_comes_129 : decode cX1_comes 129 = .ok (.goto 35, 3) := dk_167 0 35 (dk_at dksX1_comes_5 11 rfl rfl)
theorem dX1_comes_132 : decode cX1_comes 132 = .ok (.aload_n 0, 1) := dk_42 (dk_at dksX1_comes_5 14 rfl rfl)
theorem dX1_comes_133 : decode cX1_comes 133 = .ok (.getfield 47, 3) := dk_180 0 47 (dk_at dksX1_comes_5 15 rfl rfl)
theorem dX1_comes_136 : decode cX1_comes 136 = .ok (.bipush 7, 2) := dk_16 7 (dk_at dksX1_comes_5 18 rfl rfl)
theorem dX1_comes_138 : decode cX1_comes 138 = .ok (.iload_n 3, 1) := dk_29 (dk_at dksX1_comes_5 20 rfl rfl)
theorem dX1_comes_139 : decode cX1_comes 139 = .ok (.imul, 1) := dk_104 (dk_at dksX1_comes_5 21 rfl rfl)
theorem dX1_comes_140 : decode cX1_comes 140 = .ok (.iload_n 2, 1) := dk_28 (dk_at dksX1_comes_5 22 rfl rfl)
theorem dX1_comes_141 : decode cX1_comes 141 = .ok (.iadd, 1) := dk_96 (dk_at dksX1_comes_5 23 rfl rfl)
theorem dX1_comes_142 : decode cX1_comes 142 = .ok (.dup2, 1) := dk_92 (dk_at dksX1_comes_6 0 rfl rfl)
theorem dX1_comes_143 : decode cX1_comes 143 = .ok (.iaload, 1) := dk_46 (dk_at dksX1_comes_6 1 rfl rfl)
theorem dX1_comes_144 : decode cX1_comes 144 = .ok (.iconst 1, 1) := dk_4 (dk_at dksX1_comes_6 2 rfl rfl)
theorem dX1_comes_145 : decode cX1_comes 145 = .ok (.isub, 1) := dk_100 (dk_at dksX1_comes_6 3 rfl rfl)
theorem dX1_comes_146 : decode cX1_comes 146 = .ok (.iastore, 1) := dk_79 (dk_at dksX1_comes_6 4 rfl rfl)
theorem dX1_comes_147 : decode cX1_comes 147 = .ok (.aload_n 0, 1) := dk_42 (dk_at dksX1_comes_6 5 rfl rfl)
theorem dX1_comes_148 : decode cX1_comes 148 = .ok (.getfield 47, 3) := dk_180 0 47 (dk_at dksX1_comes_6 6 rfl rfl)
theorem dX1_comes_151 : decode cX1_comes 151 = .ok (.bipush 7, 2) := dk_16 7 (dk_at dksX1_comes_6 9 rfl rfl)
theorem dX1_comes_153 : decode cX1_comes 153 = .ok (.iload_n 1, 1) := dk_27 (dk_at dksX1_comes_6 11 rfl rfl)
theorem dX1_comes_154 : decode cX1_comes 154 = .ok (.imul, 1) := dk_104 (dk_at dksX1_comes_6 12 rfl rfl)
theorem dX1_comes_155 : decode cX1_comes 155 = .ok (.iload_n 2, 1) := dk_28 (dk_at dksX1_comes_6 13 rfl rfl)
theorem dX1_comes_156 : decode cX1_comes 156 = .ok (.iadd, 1) := dk_96 (dk_at dksX1_comes_6 14 rfl rfl)
theorem dX1_comes_157 : decode cX1_comes 157 = .ok (.dup2, 1) := dk_92 (dk_at dksX1_comes_6 15 rfl rfl)
theorem dX1_comes_158 : decode cX1_comes 158 = .ok (.iaload, 1) := dk_46 (dk_at dksX1_comes_6 16 rfl rfl)
theorem dX1_comes_159 : decode cX1_comes 159 = .ok (.iconst 1, 1) := dk_4 (dk_at dksX1_comes_6 17 rfl rfl)
theorem dX1_comes_160 : decode cX1_comes 160 = .ok (.iadd, 1) := dk_96 (dk_at dksX1_comes_6 18 rfl rfl)
theorem dX1_comes_161 : decode cX1_comes 161 = .ok (.iastore, 1) := dk_79 (dk_at dksX1_comes_6 19 rfl rfl)
theorem dX1_comes_162 : decode cX1_comes 162 = .ok (.iconst 1, 1) := dk_4 (dk_at dksX1_comes_6 20 rfl rfl)
theorem dX1_comes_163 : decode cX1_comes 163 = .ok (.ireturn, 1) := dk_172 (dk_at dksX1_comes_6 21 rfl rfl)
theorem dX1_comes_164 : decode cX1_comes 164 = .ok (.iinc 3 1, 3) := dk_132 3 1 (dk_at dksX1_comes_7 0 rfl rfl)
theorem dX1_comes_167 : decode cX1_comes 167 = .ok (.goto (-73), 3) := dk_167 255 183 (dk_at dksX1_comes_7 3 rfl rfl)
theorem dX1_comes_170 : decode cX1_comes 170 = .ok (.iinc 2 1, 3) := dk_132 2 1 (dk_at dksX1_comes_7 6 rfl rfl)
theorem dX1_comes_173 : decode cX1_comes 173 = .ok (.goto (-171), 3) := dk_167 255 85 (dk_at dksX1_comes_7 9 rfl rfl)
theorem dX1_comes_176 : decode cX1_comes 176 = .ok (.iconst 0, 1) := dk_3 (dk_at dksX1_comes_7 12 rfl rfl)
theorem dX1_comes_177 : decode cX1_comes 177 = .ok (.ireturn, 1) := dk_172 (dk_at dksX1_comes_7 13 rfl rfl)
abbrev cX1_room : ByteArray := prog_1_method_31_code
def yX1_room : MethodName := ⟨RX1, "room", "(II)I"⟩
def dkwX1_room_2 : List UInt8 := [16, 7, 27, 104, 28, 96, 46, 100, 172]
abbrev dktX1_room_2 : List UInt8 := dkwX1_room_2 ++ []
def dkwX1_room_1 : List UInt8 := [153, 0, 9, 17, 3, 232, 167, 0, 25, 42, 180, 0, 25, 180, 1, 10, 42, 180, 0, 36, 180, 0, 194]
abbrev dktX1_room_1 : List UInt8 := dkwX1_room_1 ++ dktX1_room_2
def dkwX1_room_0 : List UInt8 := [42, 180, 0, 36, 27, 28, 182, 1, 3, 154, 0, 5, 3, 172, 42, 180, 0, 36, 27, 28, 182, 1, 7]
abbrev dktX1_room_0 : List UInt8 := dkwX1_room_0 ++ dktX1_room_1
theorem dksX1_room_0 : cX1_room.data.toList.drop 0 = dktX1_room_0 := by decide +kernel
theorem dksX1_room_1 : cX1_room.data.toList.drop 23 = dktX1_room_1 := dk_seg dksX1_room_0 23 rfl rfl
theorem dksX1_room_2 : cX1_room.data.toList.drop 46 = dktX1_room_2 := dk_seg dksX1_room_1 23 rfl rfl
theorem dX1_room_0 : decode cX1_room 0 = .ok (.aload_n 0, 1) := dk_42 (dk_at dksX1_room_0 0 rfl rfl)
theorem dX1_room_1 : decode cX1_room 1 = .ok (.getfield 36, 3) := dk_180 0 36 (dk_at dksX1_room_0 1 rfl rfl)
theorem dX1_room_4 : decode cX1_room 4 = .ok (.iload_n 1, 1) := dk_27 (dk_at dksX1_room_0 4 rfl rfl)
theorem dX1_room_5 : decode cX1_room 5 = .ok (.iload_n 2, 1) := dk_28 (dk_at dksX1_room_0 5 rfl rfl)
theorem dX1_room_6 : decode cX1_room 6 = .ok (.invokevirtual 259, 3) := dk_182 1 3 (dk_at dksX1_room_0 6 rfl rfl)
theorem dX1_room_9 : decode cX1_room 9 = .ok (.ifCond .ne 5, 3) := dk_154 0 5 (dk_at dksX1_room_0 9 rfl rfl)
theorem dX1_room_12 : decode cX1_room 12 = .ok (.iconst 0, 1) := dk_3 (dk_at dksX1_room_0 12 rfl rfl)
theorem dX1_room_13 : decode cX1_room 13 = .ok (.ireturn, 1) := dk_172 (dk_at dksX1_room_0 13 rfl rfl)
theorem dX1_room_14 : decode cX1_room 14 = .ok (.aload_n 0, 1) := dk_42 (dk_at dksX1_room_0 14 rfl rfl)
theorem dX1_room_15 : decode cX1_room 15 = .ok (.getfield 36, 3) := dk_180 0 36 (dk_at dksX1_room_0 15 rfl rfl)
theorem dX1_room_18 : decode cX1_room 18 = .ok (.iload_n 1, 1) := dk_27 (dk_at dksX1_room_0 18 rfl rfl)
theorem dX1_room_19 : decode cX1_room 19 = .ok (.iload_n 2, 1) := dk_28 (dk_at dksX1_room_0 19 rfl rfl)
theorem dX1_room_20 : decode cX1_room 20 = .ok (.invokevirtual 263, 3) := dk_182 1 7 (dk_at dksX1_room_0 20 rfl rfl)
theorem dX1_room_23 : decode cX1_room 23 = .ok (.ifCond .eq 9, 3) := dk_153 0 9 (dk_at dksX1_room_1 0 rfl rfl)
theorem dX1_room_26 : decode cX1_room 26 = .ok (.sipush 1000, 3) := dk_17 3 232 (dk_at dksX1_room_1 3 rfl rfl)
theorem dX1_room_29 : decode cX1_room 29 = .ok (.goto 25, 3) := dk_167 0 25 (dk_at dksX1_room_1 6 rfl rfl)
theorem dX1_room_32 : decode cX1_room 32 = .ok (.aload_n 0, 1) := dk_42 (dk_at dksX1_room_1 9 rfl rfl)
theorem dX1_room_33 : decode cX1_room 33 = .ok (.getfield 25, 3) := dk_180 0 25 (dk_at dksX1_room_1 10 rfl rfl)
theorem dX1_room_36 : decode cX1_room 36 = .ok (.getfield 266, 3) := dk_180 1 10 (dk_at dksX1_room_1 13 rfl rfl)
theorem dX1_room_39 : decode cX1_room 39 = .ok (.aload_n 0, 1) := dk_42 (dk_at dksX1_room_1 16 rfl rfl)
theorem dX1_room_40 : decode cX1_room 40 = .ok (.getfield 36, 3) := dk_180 0 36 (dk_at dksX1_room_1 17 rfl rfl)
theorem dX1_room_43 : decode cX1_room 43 = .ok (.getfield 194, 3) := dk_180 0 194 (dk_at dksX1_room_1 20 rfl rfl)
theorem dX1_room_46 : decode cX1_room 46 = .ok (.bipush 7, 2) := dk_16 7 (dk_at dksX1_room_2 0 rfl rfl)
theorem dX1_room_48 : decode cX1_room 48 = .ok (.iload_n 1, 1) := dk_27 (dk_at dksX1_room_2 2 rfl rfl)
theorem dX1_room_49 : decode cX1_room 49 = .ok (.imul, 1) := dk_104 (dk_at dksX1_room_2 3 rfl rfl)
theorem dX1_room_50 : decode cX1_room 50 = .ok (.iload_n 2, 1) := dk_28 (dk_at dksX1_room_2 4 rfl rfl)
theorem dX1_room_51 : decode cX1_room 51 = .ok (.iadd, 1) := dk_96 (dk_at dksX1_room_2 5 rfl rfl)
theorem dX1_room_52 : decode cX1_room 52 = .ok (.iaload, 1) := dk_46 (dk_at dksX1_room_2 6 rfl rfl)
theorem dX1_room_53 : decode cX1_room 53 = .ok (.isub, 1) := dk_100 (dk_at dksX1_room_2 7 rfl rfl)
theorem dX1_room_54 : decode cX1_room 54 = .ok (.ireturn, 1) := dk_172 (dk_at dksX1_room_2 8 rfl rfl)
abbrev cX1_who : ByteArray := prog_1_method_36_code
def yX1_who : MethodName := ⟨RX1, "who", "()I"⟩
def dkwX1_who_6 : List UInt8 := [167, 255, 222, 28, 172]
abbrev dktX1_who_6 : List UInt8 := dkwX1_who_6 ++ []
def dkwX1_who_5 : List UInt8 := [182, 1, 42, 42, 28, 42, 180, 0, 54, 182, 1, 42, 162, 0, 8, 42, 29, 181, 0, 54, 132, 3, 1]
abbrev dktX1_who_5 : List UInt8 := dkwX1_who_5 ++ dktX1_who_6
def dkwX1_who_4 : List UInt8 := [28, 154, 0, 5, 3, 172, 42, 3, 181, 0, 54, 4, 62, 29, 42, 182, 0, 143, 162, 0, 32, 42, 28, 29]
abbrev dktX1_who_4 : List UInt8 := dkwX1_who_4 ++ dktX1_who_5
def dkwX1_who_3 : List UInt8 := [162, 0, 24, 42, 29, 27, 182, 1, 39, 153, 0, 9, 28, 4, 29, 120, 128, 61, 132, 3, 1, 167, 255, 230]
abbrev dktX1_who_3 : List UInt8 := dkwX1_who_3 ++ dktX1_who_4
def dkwX1_who_2 : List UInt8 := [182, 1, 31, 4, 164, 0, 5, 2, 172, 132, 2, 2, 167, 255, 223, 3, 61, 3, 62, 29, 42, 182, 0, 143]
abbrev dktX1_who_2 : List UInt8 := dkwX1_who_2 ++ dktX1_who_3
def dkwX1_who_1 : List UInt8 := [172, 3, 61, 28, 27, 162, 0, 34, 42, 42, 28, 182, 1, 31, 182, 0, 145, 153, 0, 14, 42, 28, 4, 96]
abbrev dktX1_who_1 : List UInt8 := dkwX1_who_1 ++ dktX1_who_2
def dkwX1_who_0 : List UInt8 := [42, 182, 0, 93, 60, 27, 5, 112, 154, 0, 15, 27, 5, 108, 4, 16, 8, 184, 0, 146, 154, 0, 5, 2]
abbrev dktX1_who_0 : List UInt8 := dkwX1_who_0 ++ dktX1_who_1
theorem dksX1_who_0 : cX1_who.data.toList.drop 0 = dktX1_who_0 := by decide +kernel
theorem dksX1_who_1 : cX1_who.data.toList.drop 24 = dktX1_who_1 := dk_seg dksX1_who_0 24 rfl rfl
theorem dksX1_who_2 : cX1_who.data.toList.drop 48 = dktX1_who_2 := dk_seg dksX1_who_1 24 rfl rfl
theorem dksX1_who_3 : cX1_who.data.toList.drop 72 = dktX1_who_3 := dk_seg dksX1_who_2 24 rfl rfl
theorem dksX1_who_4 : cX1_who.data.toList.drop 96 = dktX1_who_4 := dk_seg dksX1_who_3 24 rfl rfl
theorem dksX1_who_5 : cX1_who.data.toList.drop 120 = dktX1_who_5 := dk_seg dksX1_who_4 24 rfl rfl
theorem dksX1_who_6 : cX1_who.data.toList.drop 143 = dktX1_who_6 := dk_seg dksX1_who_5 23 rfl rfl
theorem dX1_who_0 : decode cX1_who 0 = .ok (.aload_n 0, 1) := dk_42 (dk_at dksX1_who_0 0 rfl rfl)
theorem dX1_who_1 : decode cX1_who 1 = .ok (.invokevirtual 93, 3) := dk_182 0 93 (dk_at dksX1_who_0 1 rfl rfl)
theorem dX1_who_4 : decode cX1_who 4 = .ok (.istore_n 1, 1) := dk_60 (dk_at dksX1_who_0 4 rfl rfl)
theorem dX1_who_5 : decode cX1_who 5 = .ok (.iload_n 1, 1) := dk_27 (dk_at dksX1_who_0 5 rfl rfl)
theorem dX1_who_6 : decode cX1_who 6 = .ok (.iconst 2, 1) := dk_5 (dk_at dksX1_who_0 6 rfl rfl)
theorem dX1_who_7 : decode cX1_who 7 = .ok (.irem, 1) := dk_112 (dk_at dksX1_who_0 7 rfl rfl)
theorem dX1_who_8 : decode cX1_who 8 = .ok (.ifCond .ne 15, 3) := dk_154 0 15 (dk_at dksX1_who_0 8 rfl rfl)
theorem dX1_who_11 : decode cX1_who 11 = .ok (.iload_n 1, 1) := dk_27 (dk_at dksX1_who_0 11 rfl rfl)
theorem dX1_who_12 : decode cX1_who 12 = .ok (.iconst 2, 1) := dk_5 (dk_at dksX1_who_0 12 rfl rfl)
theorem dX1_who_13 : decode cX1_who 13 = .ok (.idiv, 1) := dk_108 (dk_at dksX1_who_0 13 rfl rfl)
theorem dX1_who_14 : decode cX1_who 14 = .ok (.iconst 1, 1) := dk_4 (dk_at dksX1_who_0 14 rfl rfl)
theorem dX1_who_15 : decode cX1_who 15 = .ok (.bipush 8, 2) := dk_16 8 (dk_at dksX1_who_0 15 rfl rfl)
theorem dX1_who_17 : decode cX1_who 17 = .ok (.invokestatic 146, 3) := dk_184 0 146 (dk_at dksX1_who_0 17 rfl rfl)
theorem dX1_who_20 : decode cX1_who 20 = .ok (.ifCond .ne 5, 3) := dk_154 0 5 (dk_at dksX1_who_0 20 rfl rfl)
theorem dX1_who_23 : decode cX1_who 23 = .ok (.iconst (-1), 1) := dk_2 (dk_at dksX1_who_0 23 rfl rfl)
theorem dX1_who_24 : decode cX1_who 24 = .ok (.ireturn, 1) := dk_172 (dk_at dksX1_who_1 0 rfl rfl)
theorem dX1_who_25 : decode cX1_who 25 = .ok (.iconst 0, 1) := dk_3 (dk_at dksX1_who_1 1 rfl rfl)
theorem dX1_who_26 : decode cX1_who 26 = .ok (.istore_n 2, 1) := dk_61 (dk_at dksX1_who_1 2 rfl rfl)
theorem dX1_who_27 : decode cX1_who 27 = .ok (.iload_n 2, 1) := dk_28 (dk_at dksX1_who_1 3 rfl rfl)
theorem dX1_who_28 : decode cX1_who 28 = .ok (.iload_n 1, 1) := dk_27 (dk_at dksX1_who_1 4 rfl rfl)
theorem dX1_who_29 : decode cX1_who 29 = .ok (.if_icmp .ge 34, 3) := dk_162 0 34 (dk_at dksX1_who_1 5 rfl rfl)
theorem dX1_who_32 : decode cX1_who 32 = .ok (.aload_n 0, 1) := dk_42 (dk_at dksX1_who_1 8 rfl rfl)
theorem dX1_who_33 : decode cX1_who 33 = .ok (.aload_n 0, 1) := dk_42 (dk_at dksX1_who_1 9 rfl rfl)
theorem dX1_who_34 : decode cX1_who 34 = .ok (.iload_n 2, 1) := dk_28 (dk_at dksX1_who_1 10 rfl rfl)
theorem dX1_who_35 : decode cX1_who 35 = .ok (.invokevirtual 287, 3) := dk_182 1 31 (dk_at dksX1_who_1 11 rfl rfl)
theorem dX1_who_38 : decode cX1_who 38 = .ok (.invokevirtual 145, 3) := dk_182 0 145 (dk_at dksX1_who_1 14 rfl rfl)
theorem dX1_who_41 : decode cX1_who 41 = .ok (.ifCond .eq 14, 3) := dk_153 0 14 (dk_at dksX1_who_1 17 rfl rfl)
theorem dX1_who_44 : decode cX1_who 44 = .ok (.aload_n 0, 1) := dk_42 (dk_at dksX1_who_1 20 rfl rfl)
theorem dX1_who_45 : decode cX1_who 45 = .ok (.iload_n 2, 1) := dk_28 (dk_at dksX1_who_1 21 rfl rfl)
theorem dX1_who_46 : decode cX1_who 46 = .ok (.iconst 1, 1) := dk_4 (dk_at dksX1_who_1 22 rfl rfl)
theorem dX1_who_47 : decode cX1_who 47 = .ok (.iadd, 1) := dk_96 (dk_at dksX1_who_1 23 rfl rfl)
theorem dX1_who_48 : decode cX1_who 48 = .ok (.invokevirtual 287, 3) := dk_182 1 31 (dk_at dksX1_who_2 0 rfl rfl)
theorem dX1_who_51 : decode cX1_who 51 = .ok (.iconst 1, 1) := dk_4 (dk_at dksX1_who_2 3 rfl rfl)
theorem dX1_who_52 : decode cX1_who 52 = .ok (.if_icmp .le 5, 3) := dk_164 0 5 (dk_at dksX1_who_2 4 rfl rfl)
theorem dX1_who_55 : decode cX1_who 55 = .ok (.iconst (-1), 1) := dk_2 (dk_at dksX1_who_2 7 rfl rfl)
theorem dX1_who_56 : decode cX1_who 56 = .ok (.ireturn, 1) := dk_172 (dk_at dksX1_who_2 8 rfl rfl)
theorem dX1_who_57 : decode cX1_who 57 = .ok (.iinc 2 2, 3) := dk_132 2 2 (dk_at dksX1_who_2 9 rfl rfl)
theorem dX1_who_60 : decode cX1_who 60 = .ok (.goto (-33), 3) := dk_167 255 223 (dk_at dksX1_who_2 12 rfl rfl)
theorem dX1_who_63 : decode cX1_who 63 = .ok (.iconst 0, 1) := dk_3 (dk_at dksX1_who_2 15 rfl rfl)
theorem dX1_who_64 : decode cX1_who 64 = .ok (.istore_n 2, 1) := dk_61 (dk_at dksX1_who_2 16 rfl rfl)
theorem dX1_who_65 : decode cX1_who 65 = .ok (.iconst 0, 1) := dk_3 (dk_at dksX1_who_2 17 rfl rfl)
theorem dX1_who_66 : decode cX1_who 66 = .ok (.istore_n 3, 1) := dk_62 (dk_at dksX1_who_2 18 rfl rfl)
theorem dX1_who_67 : decode cX1_who 67 = .ok (.iload_n 3, 1) := dk_29 (dk_at dksX1_who_2 19 rfl rfl)
theorem dX1_who_68 : decode cX1_who 68 = .ok (.aload_n 0, 1) := dk_42 (dk_at dksX1_who_2 20 rfl rfl)
theorem dX1_who_69 : decode cX1_who 69 = .ok (.invokevirtual 143, 3) := dk_182 0 143 (dk_at dksX1_who_2 21 rfl rfl)
theorem dX1_who_72 : decode cX1_who 72 = .ok (.if_icmp .ge 24, 3) := dk_162 0 24 (dk_at dksX1_who_3 0 rfl rfl)
theorem dX1_who_75 : decode cX1_who 75 = .ok (.aload_n 0, 1) := dk_42 (dk_at dksX1_who_3 3 rfl rfl)
theorem dX1_who_76 : decode cX1_who 76 = .ok (.iload_n 3, 1) := dk_29 (dk_at dksX1_who_3 4 rfl rfl)
theorem dX1_who_77 : decode cX1_who 77 = .ok (.iload_n 1, 1) := dk_27 (dk_at dksX1_who_3 5 rfl rfl)
theorem dX1_who_78 : decode cX1_who 78 = .ok (.invokevirtual 295, 3) := dk_182 1 39 (dk_at dksX1_who_3 6 rfl rfl)
theorem dX1_who_81 : decode cX1_who 81 = .ok (.ifCond .eq 9, 3) := dk_153 0 9 (dk_at dksX1_who_3 9 rfl rfl)
theorem dX1_who_84 : decode cX1_who 84 = .ok (.iload_n 2, 1) := dk_28 (dk_at dksX1_who_3 12 rfl rfl)
theorem dX1_who_85 : decode cX1_who 85 = .ok (.iconst 1, 1) := dk_4 (dk_at dksX1_who_3 13 rfl rfl)
theorem dX1_who_86 : decode cX1_who 86 = .ok (.iload_n 3, 1) := dk_29 (dk_at dksX1_who_3 14 rfl rfl)
theorem dX1_who_87 : decode cX1_who 87 = .ok (.ishl, 1) := dk_120 (dk_at dksX1_who_3 15 rfl rfl)
theorem dX1_who_88 : decode cX1_who 88 = .ok (.ior, 1) := dk_128 (dk_at dksX1_who_3 16 rfl rfl)
theorem dX1_who_89 : decode cX1_who 89 = .ok (.istore_n 2, 1) := dk_61 (dk_at dksX1_who_3 17 rfl rfl)
theorem dX1_who_90 : decode cX1_who 90 = .ok (.iinc 3 1, 3) := dk_132 3 1 (dk_at dksX1_who_3 18 rfl rfl)
theorem dX1_who_93 : decode cX1_who 93 = .ok (.goto (-26), 3) := dk_167 255 230 (dk_at dksX1_who_3 21 rfl rfl)
theorem dX1_who_96 : decode cX1_who 96 = .ok (.iload_n 2, 1) := dk_28 (dk_at dksX1_who_4 0 rfl rfl)
theorem dX1_who_97 : decode cX1_who 97 = .ok (.ifCond .ne 5, 3) := dk_154 0 5 (dk_at dksX1_who_4 1 rfl rfl)
theorem dX1_who_100 : decode cX1_who 100 = .ok (.iconst 0, 1) := dk_3 (dk_at dksX1_who_4 4 rfl rfl)
theorem dX1_who_101 : decode cX1_who 101 = .ok (.ireturn, 1) := dk_172 (dk_at dksX1_who_4 5 rfl rfl)
theorem dX1_who_102 : decode cX1_who 102 = .ok (.aload_n 0, 1) := dk_42 (dk_at dksX1_who_4 6 rfl rfl)
theorem dX1_who_103 : decode cX1_who 103 = .ok (.iconst 0, 1) := dk_3 (dk_at dksX1_who_4 7 rfl rfl)
theorem dX1_who_104 : decode cX1_who 104 = .ok (.putfield 54, 3) := dk_181 0 54 (dk_at dksX1_who_4 8 rfl rfl)
theorem dX1_who_107 : decode cX1_who 107 = .ok (.iconst 1, 1) := dk_4 (dk_at dksX1_who_4 11 rfl rfl)
theorem dX1_who_108 : decode cX1_who 108 = .ok (.istore_n 3, 1) := dk_62 (dk_at dksX1_who_4 12 rfl rfl)
theorem dX1_who_109 : decode cX1_who 109 = .ok (.iload_n 3, 1) := dk_29 (dk_at dksX1_who_4 13 rfl rfl)
theorem dX1_who_110 : decode cX1_who 110 = .ok (.aload_n 0, 1) := dk_42 (dk_at dksX1_who_4 14 rfl rfl)
theorem dX1_who_111 : decode cX1_who 111 = .ok (.invokevirtual 143, 3) := dk_182 0 143 (dk_at dksX1_who_4 15 rfl rfl)
theorem dX1_who_114 : decode cX1_who 114 = .ok (.if_icmp .ge 32, 3) := dk_162 0 32 (dk_at dksX1_who_4 18 rfl rfl)
theorem dX1_who_117 : decode cX1_who 117 = .ok (.aload_n 0, 1) := dk_42 (dk_at dksX1_who_4 21 rfl rfl)
theorem dX1_who_118 : decode cX1_who 118 = .ok (.iload_n 2, 1) := dk_28 (dk_at dksX1_who_4 22 rfl rfl)
theorem dX1_who_119 : decode cX1_who 119 = .ok (.iload_n 3, 1) := dk_29 (dk_at dksX1_who_4 23 rfl rfl)
theorem dX1_who_120 : decode cX1_who 120 = .ok (.invokevirtual 298, 3) := dk_182 1 42 (dk_at dksX1_who_5 0 rfl rfl)
theorem dX1_who_123 : decode cX1_who 123 = .ok (.aload_n 0, 1) := dk_42 (dk_at dksX1_who_5 3 rfl rfl)
theorem dX1_who_124 : decode cX1_who 124 = .ok (.iload_n 2, 1) := dk_28 (dk_at dksX1_who_5 4 rfl rfl)
theorem dX1_who_125 : decode cX1_who 125 = .ok (.aload_n 0, 1) := dk_42 (dk_at dksX1_who_5 5 rfl rfl)
theorem dX1_who_126 : decode cX1_who 126 = .ok (.getfield 54, 3) := dk_180 0 54 (dk_at dksX1_who_5 6 rfl rfl)
theorem dX1_who_129 : decode cX1_who 129 = .ok (.invokevirtual 298, 3) := dk_182 1 42 (dk_at dksX1_who_5 9 rfl rfl)
theorem dX1_who_132 : decode cX1_who 132 = .ok (.if_icmp .ge 8, 3) := dk_162 0 8 (dk_at dksX1_who_5 12 rfl rfl)
theorem dX1_who_135 : decode cX1_who 135 = .ok (.aload_n 0, 1) := dk_42 (dk_at dksX1_who_5 15 rfl rfl)
theorem dX1_who_136 : decode cX1_who 136 = .ok (.iload_n 3, 1) := dk_29 (dk_at dksX1_who_5 16 rfl rfl)
theorem dX1_who_137 : decode cX1_who 137 = .ok (.putfield 54, 3) := dk_181 0 54 (dk_at dksX1_who_5 17 rfl rfl)
theorem dX1_who_140 : decode cX1_who 140 = .ok (.iinc 3 1, 3) := dk_132 3 1 (dk_at dksX1_who_5 20 rfl rfl)
theorem dX1_who_143 : decode cX1_who 143 = .ok (.goto (-34), 3) := dk_167 255 222 (dk_at dksX1_who_6 0 rfl rfl)
theorem dX1_who_146 : decode cX1_who 146 = .ok (.iload_n 2, 1) := dk_28 (dk_at dksX1_who_6 3 rfl rfl)
theorem dX1_who_147 : decode cX1_who 147 = .ok (.ireturn, 1) := dk_172 (dk_at dksX1_who_6 4 rfl rfl)
abbrev cX1_onTape : ByteArray := prog_1_method_10_code
def yX1_onTape : MethodName := ⟨RX1, "onTape", "(I)I"⟩
def dkwX1_onTape_0 : List UInt8 := [42, 180, 0, 18, 27, 51, 17, 0, 255, 126, 172]
abbrev dktX1_onTape_0 : List UInt8 := dkwX1_onTape_0 ++ []
theorem dksX1_onTape_0 : cX1_onTape.data.toList.drop 0 = dktX1_onTape_0 := by decide +kernel
theorem dX1_onTape_0 : decode cX1_onTape 0 = .ok (.aload_n 0, 1) := dk_42 (dk_at dksX1_onTape_0 0 rfl rfl)
theorem dX1_onTape_1 : decode cX1_onTape 1 = .ok (.getfield 18, 3) := dk_180 0 18 (dk_at dksX1_onTape_0 1 rfl rfl)
theorem dX1_onTape_4 : decode cX1_onTape 4 = .ok (.iload_n 1, 1) := dk_27 (dk_at dksX1_onTape_0 4 rfl rfl)
theorem dX1_onTape_5 : decode cX1_onTape 5 = .ok (.baload, 1) := dk_51 (dk_at dksX1_onTape_0 5 rfl rfl)
theorem dX1_onTape_6 : decode cX1_onTape 6 = .ok (.sipush 255, 3) := dk_17 0 255 (dk_at dksX1_onTape_0 6 rfl rfl)
theorem dX1_onTape_9 : decode cX1_onTape 9 = .ok (.iand, 1) := dk_126 (dk_at dksX1_onTape_0 9 rfl rfl)
theorem dX1_onTape_10 : decode cX1_onTape 10 = .ok (.ireturn, 1) := dk_172 (dk_at dksX1_onTape_0 10 rfl rfl)
abbrev cX1_isMasked : ByteArray := prog_1_method_34_code
def yX1_isMasked : MethodName := ⟨RX1, "isMasked", "(II)Z"⟩
def dkwX1_isMasked_2 : List UInt8 := [159, 0, 5, 3, 172, 132, 3, 2, 167, 255, 205, 4, 172]
abbrev dktX1_isMasked_2 : List UInt8 := dkwX1_isMasked_2 ++ []
def dkwX1_isMasked_1 : List UInt8 := [182, 1, 31, 182, 1, 3, 42, 29, 4, 96, 182, 1, 31, 4, 160, 0, 7, 4, 167, 0, 4, 3]
abbrev dktX1_isMasked_1 : List UInt8 := dkwX1_isMasked_1 ++ dktX1_isMasked_2
def dkwX1_isMasked_0 : List UInt8 := [3, 62, 29, 28, 162, 0, 52, 42, 29, 182, 1, 31, 27, 159, 0, 35, 42, 180, 0, 36, 27, 42, 29]
abbrev dktX1_isMasked_0 : List UInt8 := dkwX1_isMasked_0 ++ dktX1_isMasked_1
theorem dksX1_isMasked_0 : cX1_isMasked.data.toList.drop 0 = dktX1_isMasked_0 := by decide +kernel
theorem dksX1_isMasked_1 : cX1_isMasked.data.toList.drop 23 = dktX1_isMasked_1 := dk_seg dksX1_isMasked_0 23 rfl rfl
theorem dksX1_isMasked_2 : cX1_isMasked.data.toList.drop 45 = dktX1_isMasked_2 := dk_seg dksX1_isMasked_1 22 rfl rfl
theorem dX1_isMasked_0 : decode cX1_isMasked 0 = .ok (.iconst 0, 1) := dk_3 (dk_at dksX1_isMasked_0 0 rfl rfl)
theorem dX1_isMasked_1 : decode cX1_isMasked 1 = .ok (.istore_n 3, 1) := dk_62 (dk_at dksX1_isMasked_0 1 rfl rfl)
theorem dX1_isMasked_2 : decode cX1_isMasked 2 = .ok (.iload_n 3, 1) := dk_29 (dk_at dksX1_isMasked_0 2 rfl rfl)
theorem dX1_isMasked_3 : decode cX1_isMasked 3 = .ok (.iload_n 2, 1) := dk_28 (dk_at dksX1_isMasked_0 3 rfl rfl)
theorem dX1_isMasked_4 : decode cX1_isMasked 4 = .ok (.if_icmp .ge 52, 3) := dk_162 0 52 (dk_at dksX1_isMasked_0 4 rfl rfl)
theorem dX1_isMasked_7 : decode cX1_isMasked 7 = .ok (.aload_n 0, 1) := dk_42 (dk_at dksX1_isMasked_0 7 rfl rfl)
theorem dX1_isMasked_8 : decode cX1_isMasked 8 = .ok (.iload_n 3, 1) := dk_29 (dk_at dksX1_isMasked_0 8 rfl rfl)
theorem dX1_isMasked_9 : decode cX1_isMasked 9 = .ok (.invokevirtual 287, 3) := dk_182 1 31 (dk_at dksX1_isMasked_0 9 rfl rfl)
theorem dX1_isMasked_12 : decode cX1_isMasked 12 = .ok (.iload_n 1, 1) := dk_27 (dk_at dksX1_isMasked_0 12 rfl rfl)
theorem dX1_isMasked_13 : decode cX1_isMasked 13 = .ok (.if_icmp .eq 35, 3) := dk_159 0 35 (dk_at dksX1_isMasked_0 13 rfl rfl)
theorem dX1_isMasked_16 : decode cX1_isMasked 16 = .ok (.aload_n 0, 1) := dk_42 (dk_at dksX1_isMasked_0 16 rfl rfl)
theorem dX1_isMasked_17 : decode cX1_isMasked 17 = .ok (.getfield 36, 3) := dk_180 0 36 (dk_at dksX1_isMasked_0 17 rfl rfl)
theorem dX1_isMasked_20 : decode cX1_isMasked 20 = .ok (.iload_n 1, 1) := dk_27 (dk_at dksX1_isMasked_0 20 rfl rfl)
theorem dX1_isMasked_21 : decode cX1_isMasked 21 = .ok (.aload_n 0, 1) := dk_42 (dk_at dksX1_isMasked_0 21 rfl rfl)
theorem dX1_isMasked_22 : decode cX1_isMasked 22 = .ok (.iload_n 3, 1) := dk_29 (dk_at dksX1_isMasked_0 22 rfl rfl)
theorem dX1_isMasked_23 : decode cX1_isMasked 23 = .ok (.invokevirtual 287, 3) := dk_182 1 31 (dk_at dksX1_isMasked_1 0 rfl rfl)
theorem dX1_isMasked_26 : decode cX1_isMasked 26 = .ok (.invokevirtual 259, 3) := dk_182 1 3 (dk_at dksX1_isMasked_1 3 rfl rfl)
theorem dX1_isMasked_29 : decode cX1_isMasked 29 = .ok (.aload_n 0, 1) := dk_42 (dk_at dksX1_isMasked_1 6 rfl rfl)
theorem dX1_isMasked_30 : decode cX1_isMasked 30 = .ok (.iload_n 3, 1) := dk_29 (dk_at dksX1_isMasked_1 7 rfl rfl)
theorem dX1_isMasked_31 : decode cX1_isMasked 31 = .ok (.iconst 1, 1) := dk_4 (dk_at dksX1_isMasked_1 8 rfl rfl)
theorem dX1_isMasked_32 : decode cX1_isMasked 32 = .ok (.iadd, 1) := dk_96 (dk_at dksX1_isMasked_1 9 rfl rfl)
theorem dX1_isMasked_33 : decode cX1_isMasked 33 = .ok (.invokevirtual 287, 3) := dk_182 1 31 (dk_at dksX1_isMasked_1 10 rfl rfl)
theorem dX1_isMasked_36 : decode cX1_isMasked 36 = .ok (.iconst 1, 1) := dk_4 (dk_at dksX1_isMasked_1 13 rfl rfl)
theorem dX1_isMasked_37 : decode cX1_isMasked 37 = .ok (.if_icmp .ne 7, 3) := dk_160 0 7 (dk_at dksX1_isMasked_1 14 rfl rfl)
theorem dX1_isMasked_40 : decode cX1_isMasked 40 = .ok (.iconst 1, 1) := dk_4 (dk_at dksX1_isMasked_1 17 rfl rfl)
theorem dX1_isMasked_41 : decode cX1_isMasked 41 = .ok (.goto 4, 3) := dk_167 0 4 (dk_at dksX1_isMasked_1 18 rfl rfl)
theorem dX1_isMasked_44 : decode cX1_isMasked 44 = .ok (.iconst 0, 1) := dk_3 (dk_at dksX1_isMasked_1 21 rfl rfl)
theorem dX1_isMasked_45 : decode cX1_isMasked 45 = .ok (.if_icmp .eq 5, 3) := dk_159 0 5 (dk_at dksX1_isMasked_2 0 rfl rfl)
theorem dX1_isMasked_48 : decode cX1_isMasked 48 = .ok (.iconst 0, 1) := dk_3 (dk_at dksX1_isMasked_2 3 rfl rfl)
theorem dX1_isMasked_49 : decode cX1_isMasked 49 = .ok (.ireturn, 1) := dk_172 (dk_at dksX1_isMasked_2 4 rfl rfl)
theorem dX1_isMasked_50 : decode cX1_isMasked 50 = .ok (.iinc 3 2, 3) := dk_132 3 2 (dk_at dksX1_isMasked_2 5 rfl rfl)
theorem dX1_isMasked_53 : decode cX1_isMasked 53 = .ok (.goto (-51), 3) := dk_167 255 205 (dk_at dksX1_isMasked_2 8 rfl rfl)
theorem dX1_isMasked_56 : decode cX1_isMasked 56 = .ok (.iconst 1, 1) := dk_4 (dk_at dksX1_isMasked_2 11 rfl rfl)
theorem dX1_isMasked_57 : decode cX1_isMasked 57 = .ok (.ireturn, 1) := dk_172 (dk_at dksX1_isMasked_2 12 rfl rfl)
abbrev cX1_leftBy : ByteArray := prog_1_method_35_code
def yX1_leftBy : MethodName := ⟨RX1, "leftBy", "(II)I"⟩
def dkwX1_leftBy_1 : List UInt8 := [172]
abbrev dktX1_leftBy_1 : List UInt8 := dkwX1_leftBy_1 ++ []
def dkwX1_leftBy_0 : List UInt8 := [27, 42, 180, 0, 36, 28, 182, 0, 169, 126, 184, 0, 213, 62, 29, 27, 184, 0, 213, 29, 100, 184, 1, 34]
abbrev dktX1_leftBy_0 : List UInt8 := dkwX1_leftBy_0 ++ dktX1_leftBy_1
theorem dksX1_leftBy_0 : cX1_leftBy.data.toList.drop 0 = dktX1_leftBy_0 := by decide +kernel
theorem dksX1_leftBy_1 : cX1_leftBy.data.toList.drop 24 = dktX1_leftBy_1 := dk_seg dksX1_leftBy_0 24 rfl rfl
theorem dX1_leftBy_0 : decode cX1_leftBy 0 = .ok (.iload_n 1, 1) := dk_27 (dk_at dksX1_leftBy_0 0 rfl rfl)
theorem dX1_leftBy_1 : decode cX1_leftBy 1 = .ok (.aload_n 0, 1) := dk_42 (dk_at dksX1_leftBy_0 1 rfl rfl)
theorem dX1_leftBy_2 : decode cX1_leftBy 2 = .ok (.getfield 36, 3) := dk_180 0 36 (dk_at dksX1_leftBy_0 2 rfl rfl)
theorem dX1_leftBy_5 : decode cX1_leftBy 5 = .ok (.iload_n 2, 1) := dk_28 (dk_at dksX1_leftBy_0 5 rfl rfl)
theorem dX1_leftBy_6 : decode cX1_leftBy 6 = .ok (.invokevirtual 169, 3) := dk_182 0 169 (dk_at dksX1_leftBy_0 6 rfl rfl)
theorem dX1_leftBy_9 : decode cX1_leftBy 9 = .ok (.iand, 1) := dk_126 (dk_at dksX1_leftBy_0 9 rfl rfl)
theorem dX1_leftBy_10 : decode cX1_leftBy 10 = .ok (.invokestatic 213, 3) := dk_184 0 213 (dk_at dksX1_leftBy_0 10 rfl rfl)
theorem dX1_leftBy_13 : decode cX1_leftBy 13 = .ok (.istore_n 3, 1) := dk_62 (dk_at dksX1_leftBy_0 13 rfl rfl)
theorem dX1_leftBy_14 : decode cX1_leftBy 14 = .ok (.iload_n 3, 1) := dk_29 (dk_at dksX1_leftBy_0 14 rfl rfl)
theorem dX1_leftBy_15 : decode cX1_leftBy 15 = .ok (.iload_n 1, 1) := dk_27 (dk_at dksX1_leftBy_0 15 rfl rfl)
theorem dX1_leftBy_16 : decode cX1_leftBy 16 = .ok (.invokestatic 213, 3) := dk_184 0 213 (dk_at dksX1_leftBy_0 16 rfl rfl)
theorem dX1_leftBy_19 : decode cX1_leftBy 19 = .ok (.iload_n 3, 1) := dk_29 (dk_at dksX1_leftBy_0 19 rfl rfl)
theorem dX1_leftBy_20 : decode cX1_leftBy 20 = .ok (.isub, 1) := dk_100 (dk_at dksX1_leftBy_0 20 rfl rfl)
theorem dX1_leftBy_21 : decode cX1_leftBy 21 = .ok (.invokestatic 290, 3) := dk_184 1 34 (dk_at dksX1_leftBy_0 21 rfl rfl)
theorem dX1_leftBy_24 : decode cX1_leftBy 24 = .ok (.ireturn, 1) := dk_172 (dk_at dksX1_leftBy_1 0 rfl rfl)
abbrev cX1_ask : ByteArray := prog_1_method_37_code
def yX1_ask : MethodName := ⟨RX1, "ask", "()I"⟩
theorem dX1_ask_0 : decode cX1_ask 0 = .ok (.aload_n 0, 1) := by decide +kernel
theorem dX1_ask_1 : decode cX1_ask 1 = .ok (.getfield 54, 3) := by decide +kernel
theorem dX1_ask_4 : decode cX1_ask 4 = .ok (.ireturn, 1) := by decide +kernel
abbrev cX1_serve : ByteArray := prog_1_method_39_code
def yX1_serve : MethodName := ⟨RX1, "serve", "(I)I"⟩
def dkwX1_serve_5 : List UInt8 := [29, 184, 0, 213, 172]
abbrev dktX1_serve_5 : List UInt8 := dkwX1_serve_5 ++ []
def dkwX1_serve_4 : List UInt8 := [153, 0, 6, 21, 4, 62, 132, 4, 1, 167, 255, 208, 29, 2, 160, 0, 5, 2, 172, 42, 29, 181, 0, 58]
abbrev dktX1_serve_4 : List UInt8 := dkwX1_serve_4 ++ dktX1_serve_5
def dkwX1_serve_3 : List UInt8 := [2, 159, 0, 15, 21, 4, 184, 0, 213, 29, 184, 0, 213, 162, 0, 16, 42, 21, 4, 27, 182, 1, 49]
abbrev dktX1_serve_3 : List UInt8 := dkwX1_serve_3 ++ dktX1_serve_4
def dkwX1_serve_2 : List UInt8 := [167, 255, 224, 2, 62, 3, 54, 4, 21, 4, 28, 163, 0, 48, 21, 4, 28, 2, 130, 126, 154, 0, 33, 29]
abbrev dktX1_serve_2 : List UInt8 := dkwX1_serve_2 ++ dktX1_serve_3
def dkwX1_serve_1 : List UInt8 := [180, 0, 36, 29, 182, 0, 160, 27, 182, 1, 46, 153, 0, 9, 28, 4, 29, 120, 128, 61, 132, 3, 1]
abbrev dktX1_serve_1 : List UInt8 := dkwX1_serve_1 ++ dktX1_serve_2
def dkwX1_serve_0 : List UInt8 := [42, 27, 182, 0, 184, 154, 0, 5, 2, 172, 3, 61, 3, 62, 29, 42, 182, 0, 143, 162, 0, 30, 42]
abbrev dktX1_serve_0 : List UInt8 := dkwX1_serve_0 ++ dktX1_serve_1
theorem dksX1_serve_0 : cX1_serve.data.toList.drop 0 = dktX1_serve_0 := by decide +kernel
theorem dksX1_serve_1 : cX1_serve.data.toList.drop 23 = dktX1_serve_1 := dk_seg dksX1_serve_0 23 rfl rfl
theorem dksX1_serve_2 : cX1_serve.data.toList.drop 46 = dktX1_serve_2 := dk_seg dksX1_serve_1 23 rfl rfl
theorem dksX1_serve_3 : cX1_serve.data.toList.drop 70 = dktX1_serve_3 := dk_seg dksX1_serve_2 24 rfl rfl
theorem dksX1_serve_4 : cX1_serve.data.toList.drop 93 = dktX1_serve_4 := dk_seg dksX1_serve_3 23 rfl rfl
theorem dksX1_serve_5 : cX1_serve.data.toList.drop 117 = dktX1_serve_5 := dk_seg dksX1_serve_4 24 rfl rfl
theorem dX1_serve_0 : decode cX1_serve 0 = .ok (.aload_n 0, 1) := dk_42 (dk_at dksX1_serve_0 0 rfl rfl)
theorem dX1_serve_1 : decode cX1_serve 1 = .ok (.iload_n 1, 1) := dk_27 (dk_at dksX1_serve_0 1 rfl rfl)
theorem dX1_serve_2 : decode cX1_serve 2 = .ok (.invokevirtual 184, 3) := dk_182 0 184 (dk_at dksX1_serve_0 2 rfl rfl)
theorem dX1_serve_5 : decode cX1_serve 5 = .ok (.ifCond .ne 5, 3) := dk_154 0 5 (dk_at dksX1_serve_0 5 rfl rfl)
theorem dX1_serve_8 : decode cX1_serve 8 = .ok (.iconst (-1), 1) := dk_2 (dk_at dksX1_serve_0 8 rfl rfl)
theorem dX1_serve_9 : decode cX1_serve 9 = .ok (.ireturn, 1) := dk_172 (dk_at dksX1_serve_0 9 rfl rfl)
theorem dX1_serve_10 : decode cX1_serve 10 = .ok (.iconst 0, 1) := dk_3 (dk_at dksX1_serve_0 10 rfl rfl)
theorem dX1_serve_11 : decode cX1_serve 11 = .ok (.istore_n 2, 1) := dk_61 (dk_at dksX1_serve_0 11 rfl rfl)
theorem dX1_serve_12 : decode cX1_serve 12 = .ok (.iconst 0, 1) := dk_3 (dk_at dksX1_serve_0 12 rfl rfl)
theorem dX1_serve_13 : decode cX1_serve 13 = .ok (.istore_n 3, 1) := dk_62 (dk_at dksX1_serve_0 13 rfl rfl)
theorem dX1_serve_14 : decode cX1_serve 14 = .ok (.iload_n 3, 1) := dk_29 (dk_at dksX1_serve_0 14 rfl rfl)
theorem dX1_serve_15 : decode cX1_serve 15 = .ok (.aload_n 0, 1) := dk_42 (dk_at dksX1_serve_0 15 rfl rfl)
theorem dX1_serve_16 : decode cX1_serve 16 = .ok (.invokevirtual 143, 3) := dk_182 0 143 (dk_at dksX1_serve_0 16 rfl rfl)
theorem dX1_serve_19 : decode cX1_serve 19 = .ok (.if_icmp .ge 30, 3) := dk_162 0 30 (dk_at dksX1_serve_0 19 rfl rfl)
theorem dX1_serve_22 : decode cX1_serve 22 = .ok (.aload_n 0, 1) := dk_42 (dk_at dksX1_serve_0 22 rfl rfl)
theorem dX1_serve_23 : decode cX1_serve 23 = .ok (.getfield 36, 3) := dk_180 0 36 (dk_at dksX1_serve_1 0 rfl rfl)
theorem dX1_serve_26 : decode cX1_serve 26 = .ok (.iload_n 3, 1) := dk_29 (dk_at dksX1_serve_1 3 rfl rfl)
theorem dX1_serve_27 : decode cX1_serve 27 = .ok (.invokevirtual 160, 3) := dk_182 0 160 (dk_at dksX1_serve_1 4 rfl rfl)
theorem dX1_serve_30 : decode cX1_serve 30 = .ok (.iload_n 1, 1) := dk_27 (dk_at dksX1_serve_1 7 rfl rfl)
theorem dX1_serve_31 : decode cX1_serve 31 = .ok (.invokevirtual 302, 3) := dk_182 1 46 (dk_at dksX1_serve_1 8 rfl rfl)
theorem dX1_serve_34 : decode cX1_serve 34 = .ok (.ifCond .eq 9, 3) := dk_153 0 9 (dk_at dksX1_serve_1 11 rfl rfl)
theorem dX1_serve_37 : decode cX1_serve 37 = .ok (.iload_n 2, 1) := dk_28 (dk_at dksX1_serve_1 14 rfl rfl)
theorem dX1_serve_38 : decode cX1_serve 38 = .ok (.iconst 1, 1) := dk_4 (dk_at dksX1_serve_1 15 rfl rfl)
theorem dX1_serve_39 : decode cX1_serve 39 = .ok (.iload_n 3, 1) := dk_29 (dk_at dksX1_serve_1 16 rfl rfl)
theorem dX1_serve_40 : decode cX1_serve 40 = .ok (.ishl, 1) := dk_120 (dk_at dksX1_serve_1 17 rfl rfl)
theorem dX1_serve_41 : decode cX1_serve 41 = .ok (.ior, 1) := dk_128 (dk_at dksX1_serve_1 18 rfl rfl)
theorem dX1_serve_42 : decode cX1_serve 42 = .ok (.istore_n 2, 1) := dk_61 (dk_at dksX1_serve_1 19 rfl rfl)
theorem dX1_serve_43 : decode cX1_serve 43 = .ok (.iinc 3 1, 3) := dk_132 3 1 (dk_at dksX1_serve_1 20 rfl rfl)
theorem dX1_serve_46 : decode cX1_serve 46 = .ok (.goto (-32), 3) := dk_167 255 224 (dk_at dksX1_serve_2 0 rfl rfl)
theorem dX1_serve_49 : decode cX1_serve 49 = .ok (.iconst (-1), 1) := dk_2 (dk_at dksX1_serve_2 3 rfl rfl)
theorem dX1_serve_50 : decode cX1_serve 50 = .ok (.istore_n 3, 1) := dk_62 (dk_at dksX1_serve_2 4 rfl rfl)
theorem dX1_serve_51 : decode cX1_serve 51 = .ok (.iconst 0, 1) := dk_3 (dk_at dksX1_serve_2 5 rfl rfl)
theorem dX1_serve_52 : decode cX1_serve 52 = .ok (.istore 4, 2) := dk_54 4 (dk_at dksX1_serve_2 6 rfl rfl)
theorem dX1_serve_54 : decode cX1_serve 54 = .ok (.iload 4, 2) := dk_21 4 (dk_at dksX1_serve_2 8 rfl rfl)
theorem dX1_serve_56 : decode cX1_serve 56 = .ok (.iload_n 2, 1) := dk_28 (dk_at dksX1_serve_2 10 rfl rfl)
theorem dX1_serve_57 : decode cX1_serve 57 = .ok (.if_icmp .gt 48, 3) := dk_163 0 48 (dk_at dksX1_serve_2 11 rfl rfl)
theorem dX1_serve_60 : decode cX1_serve 60 = .ok (.iload 4, 2) := dk_21 4 (dk_at dksX1_serve_2 14 rfl rfl)
theorem dX1_serve_62 : decode cX1_serve 62 = .ok (.iload_n 2, 1) := dk_28 (dk_at dksX1_serve_2 16 rfl rfl)
theorem dX1_serve_63 : decode cX1_serve 63 = .ok (.iconst (-1), 1) := dk_2 (dk_at dksX1_serve_2 17 rfl rfl)
theorem dX1_serve_64 : decode cX1_serve 64 = .ok (.ixor, 1) := dk_130 (dk_at dksX1_serve_2 18 rfl rfl)
theorem dX1_serve_65 : decode cX1_serve 65 = .ok (.iand, 1) := dk_126 (dk_at dksX1_serve_2 19 rfl rfl)
theorem dX1_serve_66 : decode cX1_serve 66 = .ok (.ifCond .ne 33, 3) := dk_154 0 33 (dk_at dksX1_serve_2 20 rfl rfl)
theorem dX1_serve_69 : decode cX1_serve 69 = .ok (.iload_n 3, 1) := dk_29 (dk_at dksX1_serve_2 23 rfl rfl)
theorem dX1_serve_70 : decode cX1_serve 70 = .ok (.iconst (-1), 1) := dk_2 (dk_at dksX1_serve_3 0 rfl rfl)
theorem dX1_serve_71 : decode cX1_serve 71 = .ok (.if_icmp .eq 15, 3) := dk_159 0 15 (dk_at dksX1_serve_3 1 rfl rfl)
theorem dX1_serve_74 : decode cX1_serve 74 = .ok (.iload 4, 2) := dk_21 4 (dk_at dksX1_serve_3 4 rfl rfl)
theorem dX1_serve_76 : decode cX1_serve 76 = .ok (.invokestatic 213, 3) := dk_184 0 213 (dk_at dksX1_serve_3 6 rfl rfl)
theorem dX1_serve_79 : decode cX1_serve 79 = .ok (.iload_n 3, 1) := dk_29 (dk_at dksX1_serve_3 9 rfl rfl)
theorem dX1_serve_80 : decode cX1_serve 80 = .ok (.invokestatic 213, 3) := dk_184 0 213 (dk_at dksX1_serve_3 10 rfl rfl)
theorem dX1_serve_83 : decode cX1_serve 83 = .ok (.if_icmp .ge 16, 3) := dk_162 0 16 (dk_at dksX1_serve_3 13 rfl rfl)
theorem dX1_serve_86 : decode cX1_serve 86 = .ok (.aload_n 0, 1) := dk_42 (dk_at dksX1_serve_3 16 rfl rfl)
theorem dX1_serve_87 : decode cX1_serve 87 = .ok (.iload 4, 2) := dk_21 4 (dk_at dksX1_serve_3 17 rfl rfl)
theorem dX1_serve_89 : decode cX1_serve 89 = .ok (.iload_n 1, 1) := dk_27 (dk_at dksX1_serve_3 19 rfl rfl)
theorem dX1_serve_90 : decode cX1_serve 90 = .ok (.invokevirtual 305, 3) := dk_182 1 49 (dk_at dksX1_serve_3 20 rfl rfl)
theorem dX1_serve_93 : decode cX1_serve 93 = .ok (.ifCond .eq 6, 3) := dk_153 0 6 (dk_at dksX1_serve_4 0 rfl rfl)
theorem dX1_serve_96 : decode cX1_serve 96 = .ok (.iload 4, 2) := dk_21 4 (dk_at dksX1_serve_4 3 rfl rfl)
theorem dX1_serve_98 : decode cX1_serve 98 = .ok (.istore_n 3, 1) := dk_62 (dk_at dksX1_serve_4 5 rfl rfl)
theorem dX1_serve_99 : decode cX1_serve 99 = .ok (.iinc 4 1, 3) := dk_132 4 1 (dk_at dksX1_serve_4 6 rfl rfl)
theorem dX1_serve_102 : decode cX1_serve 102 = .ok (.goto (-48), 3) := dk_167 255 208 (dk_at dksX1_serve_4 9 rfl rfl)
theorem dX1_serve_105 : decode cX1_serve 105 = .ok (.iload_n 3, 1) := dk_29 (dk_at dksX1_serve_4 12 rfl rfl)
theorem dX1_serve_106 : decode cX1_serve 106 = .ok (.iconst (-1), 1) := dk_2 (dk_at dksX1_serve_4 13 rfl rfl)
theorem dX1_serve_107 : decode cX1_serve 107 = .ok (.if_icmp .ne 5, 3) := dk_160 0 5 (dk_at dksX1_serve_4 14 rfl rfl)
theorem dX1_serve_110 : decode cX1_serve 110 = .ok (.iconst (-1), 1) := dk_2 (dk_at dksX1_serve_4 17 rfl rfl)
theorem dX1_serve_111 : decode cX1_serve 111 = .ok (.ireturn, 1) := dk_172 (dk_at dksX1_serve_4 18 rfl rfl)
theorem dX1_serve_112 : decode cX1_serve 112 = .ok (.aload_n 0, 1) := dk_42 (dk_at dksX1_serve_4 19 rfl rfl)
theorem dX1_serve_113 : decode cX1_serve 113 = .ok (.iload_n 3, 1) := dk_29 (dk_at dksX1_serve_4 20 rfl rfl)
theorem dX1_serve_114 : decode cX1_serve 114 = .ok (.putfield 58, 3) := dk_181 0 58 (dk_at dksX1_serve_4 21 rfl rfl)
theorem dX1_serve_117 : decode cX1_serve 117 = .ok (.iload_n 3, 1) := dk_29 (dk_at dksX1_serve_5 0 rfl rfl)
theorem dX1_serve_118 : decode cX1_serve 118 = .ok (.invokestatic 213, 3) := dk_184 0 213 (dk_at dksX1_serve_5 1 rfl rfl)
theorem dX1_serve_121 : decode cX1_serve 121 = .ok (.ireturn, 1) := dk_172 (dk_at dksX1_serve_5 4 rfl rfl)
abbrev cX1_isServed : ByteArray := prog_1_method_38_code
def yX1_isServed : MethodName := ⟨RX1, "isServed", "(II)Z"⟩
def dkwX1_isServed_2 : List UInt8 := [4, 172]
abbrev dktX1_isServed_2 : List UInt8 := dkwX1_isServed_2 ++ []
def dkwX1_isServed_1 : List UInt8 := [158, 0, 18, 42, 180, 0, 36, 29, 182, 0, 169, 27, 126, 154, 0, 5, 3, 172, 132, 3, 1, 167, 255, 214]
abbrev dktX1_isServed_1 : List UInt8 := dkwX1_isServed_1 ++ dktX1_isServed_2
def dkwX1_isServed_0 : List UInt8 := [3, 62, 29, 42, 182, 0, 143, 162, 0, 40, 42, 180, 0, 36, 29, 182, 0, 160, 180, 1, 45, 28, 46]
abbrev dktX1_isServed_0 : List UInt8 := dkwX1_isServed_0 ++ dktX1_isServed_1
theorem dksX1_isServed_0 : cX1_isServed.data.toList.drop 0 = dktX1_isServed_0 := by decide +kernel
theorem dksX1_isServed_1 : cX1_isServed.data.toList.drop 23 = dktX1_isServed_1 := dk_seg dksX1_isServed_0 23 rfl rfl
theorem dksX1_isServed_2 : cX1_isServed.data.toList.drop 47 = dktX1_isServed_2 := dk_seg dksX1_isServed_1 24 rfl rfl
theorem dX1_isServed_0 : decode cX1_isServed 0 = .ok (.iconst 0, 1) := dk_3 (dk_at dksX1_isServed_0 0 rfl rfl)
theorem dX1_isServed_1 : decode cX1_isServed 1 = .ok (.istore_n 3, 1) := dk_62 (dk_at dksX1_isServed_0 1 rfl rfl)
theorem dX1_isServed_2 : decode cX1_isServed 2 = .ok (.iload_n 3, 1) := dk_29 (dk_at dksX1_isServed_0 2 rfl rfl)
theorem dX1_isServed_3 : decode cX1_isServed 3 = .ok (.aload_n 0, 1) := dk_42 (dk_at dksX1_isServed_0 3 rfl rfl)
theorem dX1_isServed_4 : decode cX1_isServed 4 = .ok (.invokevirtual 143, 3) := dk_182 0 143 (dk_at dksX1_isServed_0 4 rfl rfl)
theorem dX1_isServed_7 : decode cX1_isServed 7 = .ok (.if_icmp .ge 40, 3) := dk_162 0 40 (dk_at dksX1_isServed_0 7 rfl rfl)
theorem dX1_isServed_10 : decode cX1_isServed 10 = .ok (.aload_n 0, 1) := dk_42 (dk_at dksX1_isServed_0 10 rfl rfl)
theorem dX1_isServed_11 : decode cX1_isServed 11 = .ok (.getfield 36, 3) := dk_180 0 36 (dk_at dksX1_isServed_0 11 rfl rfl)
theorem dX1_isServed_14 : decode cX1_isServed 14 = .ok (.iload_n 3, 1) := dk_29 (dk_at dksX1_isServed_0 14 rfl rfl)
theorem dX1_isServed_15 : decode cX1_isServed 15 = .ok (.invokevirtual 160, 3) := dk_182 0 160 (dk_at dksX1_isServed_0 15 rfl rfl)
theorem dX1_isServed_18 : decode cX1_isServed 18 = .ok (.getfield 301, 3) := dk_180 1 45 (dk_at dksX1_isServed_0 18 rfl rfl)
theorem dX1_isServed_21 : decode cX1_isServed 21 = .ok (.iload_n 2, 1) := dk_28 (dk_at dksX1_isServed_0 21 rfl rfl)
theorem dX1_isServed_22 : decode cX1_isServed 22 = .ok (.iaload, 1) := dk_46 (dk_at dksX1_isServed_0 22 rfl rfl)
theorem dX1_isServed_23 : decode cX1_isServed 23 = .ok (.ifCond .le 18, 3) := dk_158 0 18 (dk_at dksX1_isServed_1 0 rfl rfl)
theorem dX1_isServed_26 : decode cX1_isServed 26 = .ok (.aload_n 0, 1) := dk_42 (dk_at dksX1_isServed_1 3 rfl rfl)
theorem dX1_isServed_27 : decode cX1_isServed 27 = .ok (.getfield 36, 3) := dk_180 0 36 (dk_at dksX1_isServed_1 4 rfl rfl)
theorem dX1_isServed_30 : decode cX1_isServed 30 = .ok (.iload_n 3, 1) := dk_29 (dk_at dksX1_isServed_1 7 rfl rfl)
theorem dX1_isServed_31 : decode cX1_isServed 31 = .ok (.invokevirtual 169, 3) := dk_182 0 169 (dk_at dksX1_isServed_1 8 rfl rfl)
theorem dX1_isServed_34 : decode cX1_isServed 34 = .ok (.iload_n 1, 1) := dk_27 (dk_at dksX1_isServed_1 11 rfl rfl)
theorem dX1_isServed_35 : decode cX1_isServed 35 = .ok (.iand, 1) := dk_126 (dk_at dksX1_isServed_1 12 rfl rfl)
theorem dX1_isServed_36 : decode cX1_isServed 36 = .ok (.ifCond .ne 5, 3) := dk_154 0 5 (dk_at dksX1_isServed_1 13 rfl rfl)
theorem dX1_isServed_39 : decode cX1_isServed 39 = .ok (.iconst 0, 1) := dk_3 (dk_at dksX1_isServed_1 16 rfl rfl)
theorem dX1_isServed_40 : decode cX1_isServed 40 = .ok (.ireturn, 1) := dk_172 (dk_at dksX1_isServed_1 17 rfl rfl)
theorem dX1_isServed_41 : decode cX1_isServed 41 = .ok (.iinc 3 1, 3) := dk_132 3 1 (dk_at dksX1_isServed_1 18 rfl rfl)
theorem dX1_isServed_44 : decode cX1_isServed 44 = .ok (.goto (-42), 3) := dk_167 255 214 (dk_at dksX1_isServed_1 21 rfl rfl)
theorem dX1_isServed_47 : decode cX1_isServed 47 = .ok (.iconst 1, 1) := dk_4 (dk_at dksX1_isServed_2 0 rfl rfl)
theorem dX1_isServed_48 : decode cX1_isServed 48 = .ok (.ireturn, 1) := dk_172 (dk_at dksX1_isServed_2 1 rfl rfl)
abbrev cX1_serving : ByteArray := prog_1_method_40_code
def yX1_serving : MethodName := ⟨RX1, "serving", "()I"⟩
theorem dX1_serving_0 : decode cX1_serving 0 = .ok (.aload_n 0, 1) := by decide +kernel
theorem dX1_serving_1 : decode cX1_serving 1 = .ok (.getfield 58, 3) := by decide +kernel
theorem dX1_serving_4 : decode cX1_serving 4 = .ok (.ireturn, 1) := by decide +kernel
abbrev cX1_chain : ByteArray := prog_1_method_42_code
def yX1_chain : MethodName := ⟨RX1, "chain", "(II)I"⟩
def dkwX1_chain_3 : List UInt8 := [181, 1, 62, 29, 172, 132, 3, 1, 167, 255, 205, 2, 172]
abbrev dktX1_chain_3 : List UInt8 := dkwX1_chain_3 ++ []
def dkwX1_chain_2 : List UInt8 := [154, 0, 6, 167, 0, 24, 42, 180, 0, 61, 3, 42, 180, 0, 64, 3, 29, 184, 1, 56, 42, 29]
abbrev dktX1_chain_2 : List UInt8 := dkwX1_chain_2 ++ dktX1_chain_3
def dkwX1_chain_1 : List UInt8 := [62, 29, 42, 182, 0, 143, 4, 100, 162, 0, 47, 42, 3, 29, 27, 28, 4, 27, 120, 182, 1, 52]
abbrev dktX1_chain_1 : List UInt8 := dkwX1_chain_1 ++ dktX1_chain_2
def dkwX1_chain_0 : List UInt8 := [42, 27, 182, 0, 145, 153, 0, 16, 42, 28, 182, 0, 145, 153, 0, 8, 27, 28, 160, 0, 5, 2, 172, 3]
abbrev dktX1_chain_0 : List UInt8 := dkwX1_chain_0 ++ dktX1_chain_1
theorem dksX1_chain_0 : cX1_chain.data.toList.drop 0 = dktX1_chain_0 := by decide +kernel
theorem dksX1_chain_1 : cX1_chain.data.toList.drop 24 = dktX1_chain_1 := dk_seg dksX1_chain_0 24 rfl rfl
theorem dksX1_chain_2 : cX1_chain.data.toList.drop 46 = dktX1_chain_2 := dk_seg dksX1_chain_1 22 rfl rfl
theorem dksX1_chain_3 : cX1_chain.data.toList.drop 68 = dktX1_chain_3 := dk_seg dksX1_chain_2 22 rfl rfl
theorem dX1_chain_0 : decode cX1_chain 0 = .ok (.aload_n 0, 1) := dk_42 (dk_at dksX1_chain_0 0 rfl rfl)
theorem dX1_chain_1 : decode cX1_chain 1 = .ok (.iload_n 1, 1) := dk_27 (dk_at dksX1_chain_0 1 rfl rfl)
theorem dX1_chain_2 : decode cX1_chain 2 = .ok (.invokevirtual 145, 3) := dk_182 0 145 (dk_at dksX1_chain_0 2 rfl rfl)
theorem dX1_chain_5 : decode cX1_chain 5 = .ok (.ifCond .eq 16, 3) := dk_153 0 16 (dk_at dksX1_chain_0 5 rfl rfl)
theorem dX1_chain_8 : decode cX1_chain 8 = .ok (.aload_n 0, 1) := dk_42 (dk_at dksX1_chain_0 8 rfl rfl)
theorem dX1_chain_9 : decode cX1_chain 9 = .ok (.iload_n 2, 1) := dk_28 (dk_at dksX1_chain_0 9 rfl rfl)
theorem dX1_chain_10 : decode cX1_chain 10 = .ok (.invokevirtual 145, 3) := dk_182 0 145 (dk_at dksX1_chain_0 10 rfl rfl)
theorem dX1_chain_13 : decode cX1_chain 13 = .ok (.ifCond .eq 8, 3) := dk_153 0 8 (dk_at dksX1_chain_0 13 rfl rfl)
theorem dX1_chain_16 : decode cX1_chain 16 = .ok (.iload_n 1, 1) := dk_27 (dk_at dksX1_chain_0 16 rfl rfl)
theorem dX1_chain_17 : decode cX1_chain 17 = .ok (.iload_n 2, 1) := dk_28 (dk_at dksX1_chain_0 17 rfl rfl)
theorem dX1_chain_18 : decode cX1_chain 18 = .ok (.if_icmp .ne 5, 3) := dk_160 0 5 (dk_at dksX1_chain_0 18 rfl rfl)
theorem dX1_chain_21 : decode cX1_chain 21 = .ok (.iconst (-1), 1) := dk_2 (dk_at dksX1_chain_0 21 rfl rfl)
theorem dX1_chain_22 : decode cX1_chain 22 = .ok (.ireturn, 1) := dk_172 (dk_at dksX1_chain_0 22 rfl rfl)
theorem dX1_chain_23 : decode cX1_chain 23 = .ok (.iconst 0, 1) := dk_3 (dk_at dksX1_chain_0 23 rfl rfl)
theorem dX1_chain_24 : decode cX1_chain 24 = .ok (.istore_n 3, 1) := dk_62 (dk_at dksX1_chain_1 0 rfl rfl)
theorem dX1_chain_25 : decode cX1_chain 25 = .ok (.iload_n 3, 1) := dk_29 (dk_at dksX1_chain_1 1 rfl rfl)
theorem dX1_chain_26 : decode cX1_chain 26 = .ok (.aload_n 0, 1) := dk_42 (dk_at dksX1_chain_1 2 rfl rfl)
theorem dX1_chain_27 : decode cX1_chain 27 = .ok (.invokevirtual 143, 3) := dk_182 0 143 (dk_at dksX1_chain_1 3 rfl rfl)
theorem dX1_chain_30 : decode cX1_chain 30 = .ok (.iconst 1, 1) := dk_4 (dk_at dksX1_chain_1 6 rfl rfl)
theorem dX1_chain_31 : decode cX1_chain 31 = .ok (.isub, 1) := dk_100 (dk_at dksX1_chain_1 7 rfl rfl)
theorem dX1_chain_32 : decode cX1_chain 32 = .ok (.if_icmp .ge 47, 3) := dk_162 0 47 (dk_at dksX1_chain_1 8 rfl rfl)
theorem dX1_chain_35 : decode cX1_chain 35 = .ok (.aload_n 0, 1) := dk_42 (dk_at dksX1_chain_1 11 rfl rfl)
theorem dX1_chain_36 : decode cX1_chain 36 = .ok (.iconst 0, 1) := dk_3 (dk_at dksX1_chain_1 12 rfl rfl)
theorem dX1_chain_37 : decode cX1_chain 37 = .ok (.iload_n 3, 1) := dk_29 (dk_at dksX1_chain_1 13 rfl rfl)
theorem dX1_chain_38 : decode cX1_chain 38 = .ok (.iload_n 1, 1) := dk_27 (dk_at dksX1_chain_1 14 rfl rfl)
theorem dX1_chain_39 : decode cX1_chain 39 = .ok (.iload_n 2, 1) := dk_28 (dk_at dksX1_chain_1 15 rfl rfl)
theorem dX1_chain_40 : decode cX1_chain 40 = .ok (.iconst 1, 1) := dk_4 (dk_at dksX1_chain_1 16 rfl rfl)
theorem dX1_chain_41 : decode cX1_chain 41 = .ok (.iload_n 1, 1) := dk_27 (dk_at dksX1_chain_1 17 rfl rfl)
theorem dX1_chain_42 : decode cX1_chain 42 = .ok (.ishl, 1) := dk_120 (dk_at dksX1_chain_1 18 rfl rfl)
theorem dX1_chain_43 : decode cX1_chain 43 = .ok (.invokevirtual 308, 3) := dk_182 1 52 (dk_at dksX1_chain_1 19 rfl rfl)
theorem dX1_chain_46 : decode cX1_chain 46 = .ok (.ifCond .ne 6, 3) := dk_154 0 6 (dk_at dksX1_chain_2 0 rfl rfl)
theorem dX1_chain_49 : decode cX1_chain 49 = .ok (.goto 24, 3) := dk_167 0 24 (dk_at dksX1_chain_2 3 rfl rfl)
theorem dX1_chain_52 : decode cX1_chain 52 = .ok (.aload_n 0, 1) := dk_42 (dk_at dksX1_chain_2 6 rfl rfl)
theorem dX1_chain_53 : decode cX1_chain 53 = .ok (.getfield 61, 3) := dk_180 0 61 (dk_at dksX1_chain_2 7 rfl rfl)
theorem dX1_chain_56 : decode cX1_chain 56 = .ok (.iconst 0, 1) := dk_3 (dk_at dksX1_chain_2 10 rfl rfl)
theorem dX1_chain_57 : decode cX1_chain 57 = .ok (.aload_n 0, 1) := dk_42 (dk_at dksX1_chain_2 11 rfl rfl)
theorem dX1_chain_58 : decode cX1_chain 58 = .ok (.getfield 64, 3) := dk_180 0 64 (dk_at dksX1_chain_2 12 rfl rfl)
theorem dX1_chain_61 : decode cX1_chain 61 = .ok (.iconst 0, 1) := dk_3 (dk_at dksX1_chain_2 15 rfl rfl)
theorem dX1_chain_62 : decode cX1_chain 62 = .ok (.iload_n 3, 1) := dk_29 (dk_at dksX1_chain_2 16 rfl rfl)
theorem dX1_chain_63 : decode cX1_chain 63 = .ok (.invokestatic 312, 3) := dk_184 1 56 (dk_at dksX1_chain_2 17 rfl rfl)
theorem dX1_chain_66 : decode cX1_chain 66 = .ok (.aload_n 0, 1) := dk_42 (dk_at dksX1_chain_2 20 rfl rfl)
theorem dX1_chain_67 : decode cX1_chain 67 = .ok (.iload_n 3, 1) := dk_29 (dk_at dksX1_chain_2 21 rfl rfl)
theorem dX1_chain_68 : decode cX1_chain 68 = .ok (.putfield 318, 3) := dk_181 1 62 (dk_at dksX1_chain_3 0 rfl rfl)
theorem dX1_chain_71 : decode cX1_chain 71 = .ok (.iload_n 3, 1) := dk_29 (dk_at dksX1_chain_3 3 rfl rfl)
theorem dX1_chain_72 : decode cX1_chain 72 = .ok (.ireturn, 1) := dk_172 (dk_at dksX1_chain_3 4 rfl rfl)
theorem dX1_chain_73 : decode cX1_chain 73 = .ok (.iinc 3 1, 3) := dk_132 3 1 (dk_at dksX1_chain_3 5 rfl rfl)
theorem dX1_chain_76 : decode cX1_chain 76 = .ok (.goto (-51), 3) := dk_167 255 205 (dk_at dksX1_chain_3 8 rfl rfl)
theorem dX1_chain_79 : decode cX1_chain 79 = .ok (.iconst (-1), 1) := dk_2 (dk_at dksX1_chain_3 11 rfl rfl)
theorem dX1_chain_80 : decode cX1_chain 80 = .ok (.ireturn, 1) := dk_172 (dk_at dksX1_chain_3 12 rfl rfl)
abbrev cX1_leads : ByteArray := prog_1_method_41_code
def yX1_leads : MethodName := ⟨RX1, "leads", "(IIIII)Z"⟩
def dkwX1_leads_4 : List UInt8 := [132, 6, 1, 167, 255, 179, 3, 172]
abbrev dktX1_leads_4 : List UInt8 := dkwX1_leads_4 ++ []
def dkwX1_leads_3 : List UInt8 := [27, 4, 96, 28, 21, 6, 21, 4, 21, 5, 4, 21, 6, 120, 128, 182, 1, 52, 153, 0, 5, 4, 172]
abbrev dktX1_leads_3 : List UInt8 := dkwX1_leads_3 ++ dktX1_leads_4
def dkwX1_leads_2 : List UInt8 := [180, 0, 36, 29, 21, 6, 182, 1, 3, 154, 0, 6, 167, 0, 35, 42, 180, 0, 61, 27, 21, 6, 79, 42]
abbrev dktX1_leads_2 : List UInt8 := dkwX1_leads_2 ++ dktX1_leads_3
def dkwX1_leads_1 : List UInt8 := [182, 0, 143, 162, 0, 74, 21, 6, 21, 4, 159, 0, 61, 21, 5, 21, 6, 184, 1, 15, 154, 0, 51, 42]
abbrev dktX1_leads_1 : List UInt8 := dkwX1_leads_1 ++ dktX1_leads_2
def dkwX1_leads_0 : List UInt8 := [27, 28, 160, 0, 14, 42, 180, 0, 36, 29, 21, 4, 182, 1, 3, 172, 3, 54, 6, 21, 6, 42]
abbrev dktX1_leads_0 : List UInt8 := dkwX1_leads_0 ++ dktX1_leads_1
theorem dksX1_leads_0 : cX1_leads.data.toList.drop 0 = dktX1_leads_0 := by decide +kernel
theorem dksX1_leads_1 : cX1_leads.data.toList.drop 22 = dktX1_leads_1 := dk_seg dksX1_leads_0 22 rfl rfl
theorem dksX1_leads_2 : cX1_leads.data.toList.drop 46 = dktX1_leads_2 := dk_seg dksX1_leads_1 24 rfl rfl
theorem dksX1_leads_3 : cX1_leads.data.toList.drop 70 = dktX1_leads_3 := dk_seg dksX1_leads_2 24 rfl rfl
theorem dksX1_leads_4 : cX1_leads.data.toList.drop 93 = dktX1_leads_4 := dk_seg dksX1_leads_3 23 rfl rfl
theorem dX1_leads_0 : decode cX1_leads 0 = .ok (.iload_n 1, 1) := dk_27 (dk_at dksX1_leads_0 0 rfl rfl)
theorem dX1_leads_1 : decode cX1_leads 1 = .ok (.iload_n 2, 1) := dk_28 (dk_at dksX1_leads_0 1 rfl rfl)
theorem dX1_leads_2 : decode cX1_leads 2 = .ok (.if_icmp .ne 14, 3) := dk_160 0 14 (dk_at dksX1_leads_0 2 rfl rfl)
theorem dX1_leads_5 : decode cX1_leads 5 = .ok (.aload_n 0, 1) := dk_42 (dk_at dksX1_leads_0 5 rfl rfl)
theorem dX1_leads_6 : decode cX1_leads 6 = .ok (.getfield 36, 3) := dk_180 0 36 (dk_at dksX1_leads_0 6 rfl rfl)
theorem dX1_leads_9 : decode cX1_leads 9 = .ok (.iload_n 3, 1) := dk_29 (dk_at dksX1_leads_0 9 rfl rfl)
theorem dX1_leads_10 : decode cX1_leads 10 = .ok (.iload 4, 2) := dk_21 4 (dk_at dksX1_leads_0 10 rfl rfl)
theorem dX1_leads_12 : decode cX1_leads 12 = .ok (.invokevirtual 259, 3) := dk_182 1 3 (dk_at dksX1_leads_0 12 rfl rfl)
theorem dX1_leads_15 : decode cX1_leads 15 = .ok (.ireturn, 1) := dk_172 (dk_at dksX1_leads_0 15 rfl rfl)
theorem dX1_leads_16 : decode cX1_leads 16 = .ok (.iconst 0, 1) := dk_3 (dk_at dksX1_leads_0 16 rfl rfl)
theorem dX1_leads_17 : decode cX1_leads 17 = .ok (.istore 6, 2) := dk_54 6 (dk_at dksX1_leads_0 17 rfl rfl)
theorem dX1_leads_19 : decode cX1_leads 19 = .ok (.iload 6, 2) := dk_21 6 (dk_at dksX1_leads_0 19 rfl rfl)
theorem dX1_leads_21 : decode cX1_leads 21 = .ok (.aload_n 0, 1) := dk_42 (dk_at dksX1_leads_0 21 rfl rfl)
theorem dX1_leads_22 : decode cX1_leads 22 = .ok (.invokevirtual 143, 3) := dk_182 0 143 (dk_at dksX1_leads_1 0 rfl rfl)
theorem dX1_leads_25 : decode cX1_leads 25 = .ok (.if_icmp .ge 74, 3) := dk_162 0 74 (dk_at dksX1_leads_1 3 rfl rfl)
theorem dX1_leads_28 : decode cX1_leads 28 = .ok (.iload 6, 2) := dk_21 6 (dk_at dksX1_leads_1 6 rfl rfl)
theorem dX1_leads_30 : decode cX1_leads 30 = .ok (.iload 4, 2) := dk_21 4 (dk_at dksX1_leads_1 8 rfl rfl)
theorem dX1_leads_32 : decode cX1_leads 32 = .ok (.if_icmp .eq 61, 3) := dk_159 0 61 (dk_at dksX1_leads_1 10 rfl rfl)
theorem dX1_leads_35 : decode cX1_leads 35 = .ok (.iload 5, 2) := dk_21 5 (dk_at dksX1_leads_1 13 rfl rfl)
theorem dX1_leads_37 : decode cX1_leads 37 = .ok (.iload 6, 2) := dk_21 6 (dk_at dksX1_leads_1 15 rfl rfl)
theorem dX1_leads_39 : decode cX1_leads 39 = .ok (.invokestatic 271, 3) := dk_184 1 15 (dk_at dksX1_leads_1 17 rfl rfl)
theorem dX1_leads_42 : decode cX1_leads 42 = .ok (.ifCond .ne 51, 3) := dk_154 0 51 (dk_at dksX1_leads_1 20 rfl rfl)
theorem dX1_leads_45 : decode cX1_leads 45 = .ok (.aload_n 0, 1) := dk_42 (dk_at dksX1_leads_1 23 rfl rfl)
theorem dX1_leads_46 : decode cX1_leads 46 = .ok (.getfield 36, 3) := dk_180 0 36 (dk_at dksX1_leads_2 0 rfl rfl)
theorem dX1_leads_49 : decode cX1_leads 49 = .ok (.iload_n 3, 1) := dk_29 (dk_at dksX1_leads_2 3 rfl rfl)
theorem dX1_leads_50 : decode cX1_leads 50 = .ok (.iload 6, 2) := dk_21 6 (dk_at dksX1_leads_2 4 rfl rfl)
theorem dX1_leads_52 : decode cX1_leads 52 = .ok (.invokevirtual 259, 3) := dk_182 1 3 (dk_at dksX1_leads_2 6 rfl rfl)
theorem dX1_leads_55 : decode cX1_leads 55 = .ok (.ifCond .ne 6, 3) := dk_154 0 6 (dk_at dksX1_leads_2 9 rfl rfl)
theorem dX1_leads_58 : decode cX1_leads 58 = .ok (.goto 35, 3) := dk_167 0 35 (dk_at dksX1_leads_2 12 rfl rfl)
theorem dX1_leads_61 : decode cX1_leads 61 = .ok (.aload_n 0, 1) := dk_42 (dk_at dksX1_leads_2 15 rfl rfl)
theorem dX1_leads_62 : decode cX1_leads 62 = .ok (.getfield 61, 3) := dk_180 0 61 (dk_at dksX1_leads_2 16 rfl rfl)
theorem dX1_leads_65 : decode cX1_leads 65 = .ok (.iload_n 1, 1) := dk_27 (dk_at dksX1_leads_2 19 rfl rfl)
theorem dX1_leads_66 : decode cX1_leads 66 = .ok (.iload 6, 2) := dk_21 6 (dk_at dksX1_leads_2 20 rfl rfl)
theorem dX1_leads_68 : decode cX1_leads 68 = .ok (.iastore, 1) := dk_79 (dk_at dksX1_leads_2 22 rfl rfl)
theorem dX1_leads_69 : decode cX1_leads 69 = .ok (.aload_n 0, 1) := dk_42 (dk_at dksX1_leads_2 23 rfl rfl)
theorem dX1_leads_70 : decode cX1_leads 70 = .ok (.iload_n 1, 1) := dk_27 (dk_at dksX1_leads_3 0 rfl rfl)
theorem dX1_leads_71 : decode cX1_leads 71 = .ok (.iconst 1, 1) := dk_4 (dk_at dksX1_leads_3 1 rfl rfl)
theorem dX1_leads_72 : decode cX1_leads 72 = .ok (.iadd, 1) := dk_96 (dk_at dksX1_leads_3 2 rfl rfl)
theorem dX1_leads_73 : decode cX1_leads 73 = .ok (.iload_n 2, 1) := dk_28 (dk_at dksX1_leads_3 3 rfl rfl)
theorem dX1_leads_74 : decode cX1_leads 74 = .ok (.iload 6, 2) := dk_21 6 (dk_at dksX1_leads_3 4 rfl rfl)
theorem dX1_leads_76 : decode cX1_leads 76 = .ok (.iload 4, 2) := dk_21 4 (dk_at dksX1_leads_3 6 rfl rfl)
theorem dX1_leads_78 : decode cX1_leads 78 = .ok (.iload 5, 2) := dk_21 5 (dk_at dksX1_leads_3 8 rfl rfl)
theorem dX1_leads_80 : decode cX1_leads 80 = .ok (.iconst 1, 1) := dk_4 (dk_at dksX1_leads_3 10 rfl rfl)
theorem dX1_leads_81 : decode cX1_leads 81 = .ok (.iload 6, 2) := dk_21 6 (dk_at dksX1_leads_3 11 rfl rfl)
theorem dX1_leads_83 : decode cX1_leads 83 = .ok (.ishl, 1) := dk_120 (dk_at dksX1_leads_3 13 rfl rfl)
theorem dX1_leads_84 : decode cX1_leads 84 = .ok (.ior, 1) := dk_128 (dk_at dksX1_leads_3 14 rfl rfl)
theorem dX1_leads_85 : decode cX1_leads 85 = .ok (.invokevirtual 308, 3) := dk_182 1 52 (dk_at dksX1_leads_3 15 rfl rfl)
theorem dX1_leads_88 : decode cX1_leads 88 = .ok (.ifCond .eq 5, 3) := dk_153 0 5 (dk_at dksX1_leads_3 18 rfl rfl)
theorem dX1_leads_91 : decode cX1_leads 91 = .ok (.iconst 1, 1) := dk_4 (dk_at dksX1_leads_3 21 rfl rfl)
theorem dX1_leads_92 : decode cX1_leads 92 = .ok (.ireturn, 1) := dk_172 (dk_at dksX1_leads_3 22 rfl rfl)
theorem dX1_leads_93 : decode cX1_leads 93 = .ok (.iinc 6 1, 3) := dk_132 6 1 (dk_at dksX1_leads_4 0 rfl rfl)
theorem dX1_leads_96 : decode cX1_leads 96 = .ok (.goto (-77), 3) := dk_167 255 179 (dk_at dksX1_leads_4 3 rfl rfl)
theorem dX1_leads_99 : decode cX1_leads 99 = .ok (.iconst 0, 1) := dk_3 (dk_at dksX1_leads_4 6 rfl rfl)
theorem dX1_leads_100 : decode cX1_leads 100 = .ok (.ireturn, 1) := dk_172 (dk_at dksX1_leads_4 7 rfl rfl)
abbrev cX1_chainAt : ByteArray := prog_1_method_43_code
def yX1_chainAt : MethodName := ⟨RX1, "chainAt", "(I)I"⟩
def dkwX1_chainAt_1 : List UInt8 := [172]
abbrev dktX1_chainAt_1 : List UInt8 := dkwX1_chainAt_1 ++ []
def dkwX1_chainAt_0 : List UInt8 := [27, 3, 42, 180, 1, 62, 4, 100, 184, 0, 146, 153, 0, 12, 42, 180, 0, 64, 27, 46, 167, 0, 4, 2]
abbrev dktX1_chainAt_0 : List UInt8 := dkwX1_chainAt_0 ++ dktX1_chainAt_1
theorem dksX1_chainAt_0 : cX1_chainAt.data.toList.drop 0 = dktX1_chainAt_0 := by decide +kernel
theorem dksX1_chainAt_1 : cX1_chainAt.data.toList.drop 24 = dktX1_chainAt_1 := dk_seg dksX1_chainAt_0 24 rfl rfl
theorem dX1_chainAt_0 : decode cX1_chainAt 0 = .ok (.iload_n 1, 1) := dk_27 (dk_at dksX1_chainAt_0 0 rfl rfl)
theorem dX1_chainAt_1 : decode cX1_chainAt 1 = .ok (.iconst 0, 1) := dk_3 (dk_at dksX1_chainAt_0 1 rfl rfl)
theorem dX1_chainAt_2 : decode cX1_chainAt 2 = .ok (.aload_n 0, 1) := dk_42 (dk_at dksX1_chainAt_0 2 rfl rfl)
theorem dX1_chainAt_3 : decode cX1_chainAt 3 = .ok (.getfield 318, 3) := dk_180 1 62 (dk_at dksX1_chainAt_0 3 rfl rfl)
theorem dX1_chainAt_6 : decode cX1_chainAt 6 = .ok (.iconst 1, 1) := dk_4 (dk_at dksX1_chainAt_0 6 rfl rfl)
theorem dX1_chainAt_7 : decode cX1_chainAt 7 = .ok (.isub, 1) := dk_100 (dk_at dksX1_chainAt_0 7 rfl rfl)
theorem dX1_chainAt_8 : decode cX1_chainAt 8 = .ok (.invokestatic 146, 3) := dk_184 0 146 (dk_at dksX1_chainAt_0 8 rfl rfl)
theorem dX1_chainAt_11 : decode cX1_chainAt 11 = .ok (.ifCond .eq 12, 3) := dk_153 0 12 (dk_at dksX1_chainAt_0 11 rfl rfl)
theorem dX1_chainAt_14 : decode cX1_chainAt 14 = .ok (.aload_n 0, 1) := dk_42 (dk_at dksX1_chainAt_0 14 rfl rfl)
theorem dX1_chainAt_15 : decode cX1_chainAt 15 = .ok (.getfield 64, 3) := dk_180 0 64 (dk_at dksX1_chainAt_0 15 rfl rfl)
theorem dX1_chainAt_18 : decode cX1_chainAt 18 = .ok (.iload_n 1, 1) := dk_27 (dk_at dksX1_chainAt_0 18 rfl rfl)
theorem dX1_chainAt_19 : decode cX1_chainAt 19 = .ok (.iaload, 1) := dk_46 (dk_at dksX1_chainAt_0 19 rfl rfl)
theorem dX1_chainAt_20 : decode cX1_chainAt 20 = .ok (.goto 4, 3) := dk_167 0 4 (dk_at dksX1_chainAt_0 20 rfl rfl)
theorem dX1_chainAt_23 : decode cX1_chainAt 23 = .ok (.iconst (-1), 1) := dk_2 (dk_at dksX1_chainAt_0 23 rfl rfl)
theorem dX1_chainAt_24 : decode cX1_chainAt 24 = .ok (.ireturn, 1) := dk_172 (dk_at dksX1_chainAt_1 0 rfl rfl)
abbrev cX1_out : ByteArray := prog_1_method_45_code
def yX1_out : MethodName := ⟨RX1, "out", "(I)I"⟩
def dkwX1_out_1 : List UInt8 := [182, 1, 65, 160, 0, 5, 29, 172, 42, 28, 3, 182, 1, 68, 61, 132, 3, 1, 167, 255, 230, 2, 172]
abbrev dktX1_out_1 : List UInt8 := dkwX1_out_1 ++ []
def dkwX1_out_0 : List UInt8 := [42, 27, 182, 0, 145, 154, 0, 5, 2, 172, 4, 27, 120, 61, 3, 62, 29, 16, 7, 162, 0, 26, 28, 42]
abbrev dktX1_out_0 : List UInt8 := dkwX1_out_0 ++ dktX1_out_1
theorem dksX1_out_0 : cX1_out.data.toList.drop 0 = dktX1_out_0 := by decide +kernel
theorem dksX1_out_1 : cX1_out.data.toList.drop 24 = dktX1_out_1 := dk_seg dksX1_out_0 24 rfl rfl
theorem dX1_out_0 : decode cX1_out 0 = .ok (.aload_n 0, 1) := dk_42 (dk_at dksX1_out_0 0 rfl rfl)
theorem dX1_out_1 : decode cX1_out 1 = .ok (.iload_n 1, 1) := dk_27 (dk_at dksX1_out_0 1 rfl rfl)
theorem dX1_out_2 : decode cX1_out 2 = .ok (.invokevirtual 145, 3) := dk_182 0 145 (dk_at dksX1_out_0 2 rfl rfl)
theorem dX1_out_5 : decode cX1_out 5 = .ok (.ifCond .ne 5, 3) := dk_154 0 5 (dk_at dksX1_out_0 5 rfl rfl)
theorem dX1_out_8 : decode cX1_out 8 = .ok (.iconst (-1), 1) := dk_2 (dk_at dksX1_out_0 8 rfl rfl)
theorem dX1_out_9 : decode cX1_out 9 = .ok (.ireturn, 1) := dk_172 (dk_at dksX1_out_0 9 rfl rfl)
theorem dX1_out_10 : decode cX1_out 10 = .ok (.iconst 1, 1) := dk_4 (dk_at dksX1_out_0 10 rfl rfl)
theorem dX1_out_11 : decode cX1_out 11 = .ok (.iload_n 1, 1) := dk_27 (dk_at dksX1_out_0 11 rfl rfl)
theorem dX1_out_12 : decode cX1_out 12 = .ok (.ishl, 1) := dk_120 (dk_at dksX1_out_0 12 rfl rfl)
theorem dX1_out_13 : decode cX1_out 13 = .ok (.istore_n 2, 1) := dk_61 (dk_at dksX1_out_0 13 rfl rfl)
theorem dX1_out_14 : decode cX1_out 14 = .ok (.iconst 0, 1) := dk_3 (dk_at dksX1_out_0 14 rfl rfl)
theorem dX1_out_15 : decode cX1_out 15 = .ok (.istore_n 3, 1) := dk_62 (dk_at dksX1_out_0 15 rfl rfl)
theorem dX1_out_16 : decode cX1_out 16 = .ok (.iload_n 3, 1) := dk_29 (dk_at dksX1_out_0 16 rfl rfl)
theorem dX1_out_17 : decode cX1_out 17 = .ok (.bipush 7, 2) := dk_16 7 (dk_at dksX1_out_0 17 rfl rfl)
theorem dX1_out_19 : decode cX1_out 19 = .ok (.if_icmp .ge 26, 3) := dk_162 0 26 (dk_at dksX1_out_0 19 rfl rfl)
theorem dX1_out_22 : decode cX1_out 22 = .ok (.iload_n 2, 1) := dk_28 (dk_at dksX1_out_0 22 rfl rfl)
theorem dX1_out_23 : decode cX1_out 23 = .ok (.aload_n 0, 1) := dk_42 (dk_at dksX1_out_0 23 rfl rfl)
theorem dX1_out_24 : decode cX1_out 24 = .ok (.invokevirtual 321, 3) := dk_182 1 65 (dk_at dksX1_out_1 0 rfl rfl)
theorem dX1_out_27 : decode cX1_out 27 = .ok (.if_icmp .ne 5, 3) := dk_160 0 5 (dk_at dksX1_out_1 3 rfl rfl)
theorem dX1_out_30 : decode cX1_out 30 = .ok (.iload_n 3, 1) := dk_29 (dk_at dksX1_out_1 6 rfl rfl)
theorem dX1_out_31 : decode cX1_out 31 = .ok (.ireturn, 1) := dk_172 (dk_at dksX1_out_1 7 rfl rfl)
theorem dX1_out_32 : decode cX1_out 32 = .ok (.aload_n 0, 1) := dk_42 (dk_at dksX1_out_1 8 rfl rfl)
theorem dX1_out_33 : decode cX1_out 33 = .ok (.iload_n 2, 1) := dk_28 (dk_at dksX1_out_1 9 rfl rfl)
theorem dX1_out_34 : decode cX1_out 34 = .ok (.iconst 0, 1) := dk_3 (dk_at dksX1_out_1 10 rfl rfl)
theorem dX1_out_35 : decode cX1_out 35 = .ok (.invokevirtual 324, 3) := dk_182 1 68 (dk_at dksX1_out_1 11 rfl rfl)
theorem dX1_out_38 : decode cX1_out 38 = .ok (.istore_n 2, 1) := dk_61 (dk_at dksX1_out_1 14 rfl rfl)
theorem dX1_out_39 : decode cX1_out 39 = .ok (.iinc 3 1, 3) := dk_132 3 1 (dk_at dksX1_out_1 15 rfl rfl)
theorem dX1_out_42 : decode cX1_out 42 = .ok (.goto (-26), 3) := dk_167 255 230 (dk_at dksX1_out_1 18 rfl rfl)
theorem dX1_out_45 : decode cX1_out 45 = .ok (.iconst (-1), 1) := dk_2 (dk_at dksX1_out_1 21 rfl rfl)
theorem dX1_out_46 : decode cX1_out 46 = .ok (.ireturn, 1) := dk_172 (dk_at dksX1_out_1 22 rfl rfl)
abbrev cX1_all : ByteArray := prog_1_method_16_code
def yX1_all : MethodName := ⟨RX1, "all", "()I"⟩
def dkwX1_all_0 : List UInt8 := [4, 42, 182, 0, 143, 120, 4, 100, 172]
abbrev dktX1_all_0 : List UInt8 := dkwX1_all_0 ++ []
theorem dksX1_all_0 : cX1_all.data.toList.drop 0 = dktX1_all_0 := by decide +kernel
theorem dX1_all_0 : decode cX1_all 0 = .ok (.iconst 1, 1) := dk_4 (dk_at dksX1_all_0 0 rfl rfl)
theorem dX1_all_1 : decode cX1_all 1 = .ok (.aload_n 0, 1) := dk_42 (dk_at dksX1_all_0 1 rfl rfl)
theorem dX1_all_2 : decode cX1_all 2 = .ok (.invokevirtual 143, 3) := dk_182 0 143 (dk_at dksX1_all_0 2 rfl rfl)
theorem dX1_all_5 : decode cX1_all 5 = .ok (.ishl, 1) := dk_120 (dk_at dksX1_all_0 5 rfl rfl)
theorem dX1_all_6 : decode cX1_all 6 = .ok (.iconst 1, 1) := dk_4 (dk_at dksX1_all_0 6 rfl rfl)
theorem dX1_all_7 : decode cX1_all 7 = .ok (.isub, 1) := dk_100 (dk_at dksX1_all_0 7 rfl rfl)
theorem dX1_all_8 : decode cX1_all 8 = .ok (.ireturn, 1) := dk_172 (dk_at dksX1_all_0 8 rfl rfl)
abbrev cX1_tellsOn : ByteArray := prog_1_method_44_code
def yX1_tellsOn : MethodName := ⟨RX1, "tellsOn", "(II)I"⟩
def dkwX1_tellsOn_1 : List UInt8 := [153, 0, 15, 29, 42, 180, 0, 36, 21, 4, 182, 0, 157, 128, 62, 132, 4, 1, 167, 255, 219, 29, 172]
abbrev dktX1_tellsOn_1 : List UInt8 := dkwX1_tellsOn_1 ++ []
def dkwX1_tellsOn_0 : List UInt8 := [27, 62, 3, 54, 4, 21, 4, 42, 182, 0, 143, 162, 0, 34, 27, 28, 2, 130, 126, 21, 4, 184, 1, 15]
abbrev dktX1_tellsOn_0 : List UInt8 := dkwX1_tellsOn_0 ++ dktX1_tellsOn_1
theorem dksX1_tellsOn_0 : cX1_tellsOn.data.toList.drop 0 = dktX1_tellsOn_0 := by decide +kernel
theorem dksX1_tellsOn_1 : cX1_tellsOn.data.toList.drop 24 = dktX1_tellsOn_1 := dk_seg dksX1_tellsOn_0 24 rfl rfl
theorem dX1_tellsOn_0 : decode cX1_tellsOn 0 = .ok (.iload_n 1, 1) := dk_27 (dk_at dksX1_tellsOn_0 0 rfl rfl)
theorem dX1_tellsOn_1 : decode cX1_tellsOn 1 = .ok (.istore_n 3, 1) := dk_62 (dk_at dksX1_tellsOn_0 1 rfl rfl)
theorem dX1_tellsOn_2 : decode cX1_tellsOn 2 = .ok (.iconst 0, 1) := dk_3 (dk_at dksX1_tellsOn_0 2 rfl rfl)
theorem dX1_tellsOn_3 : decode cX1_tellsOn 3 = .ok (.istore 4, 2) := dk_54 4 (dk_at dksX1_tellsOn_0 3 rfl rfl)
theorem dX1_tellsOn_5 : decode cX1_tellsOn 5 = .ok (.iload 4, 2) := dk_21 4 (dk_at dksX1_tellsOn_0 5 rfl rfl)
theorem dX1_tellsOn_7 : decode cX1_tellsOn 7 = .ok (.aload_n 0, 1) := dk_42 (dk_at dksX1_tellsOn_0 7 rfl rfl)
theorem dX1_tellsOn_8 : decode cX1_tellsOn 8 = .ok (.invokevirtual 143, 3) := dk_182 0 143 (dk_at dksX1_tellsOn_0 8 rfl rfl)
theorem dX1_tellsOn_11 : decode cX1_tellsOn 11 = .ok (.if_icmp .ge 34, 3) := dk_162 0 34 (dk_at dksX1_tellsOn_0 11 rfl rfl)
theorem dX1_tellsOn_14 : decode cX1_tellsOn 14 = .ok (.iload_n 1, 1) := dk_27 (dk_at dksX1_tellsOn_0 14 rfl rfl)
theorem dX1_tellsOn_15 : decode cX1_tellsOn 15 = .ok (.iload_n 2, 1) := dk_28 (dk_at dksX1_tellsOn_0 15 rfl rfl)
theorem dX1_tellsOn_16 : decode cX1_tellsOn 16 = .ok (.iconst (-1), 1) := dk_2 (dk_at dksX1_tellsOn_0 16 rfl rfl)
theorem dX1_tellsOn_17 : decode cX1_tellsOn 17 = .ok (.ixor, 1) := dk_130 (dk_at dksX1_tellsOn_0 17 rfl rfl)
theorem dX1_tellsOn_18 : decode cX1_tellsOn 18 = .ok (.iand, 1) := dk_126 (dk_at dksX1_tellsOn_0 18 rfl rfl)
theorem dX1_tellsOn_19 : decode cX1_tellsOn 19 = .ok (.iload 4, 2) := dk_21 4 (dk_at dksX1_tellsOn_0 19 rfl rfl)
theorem dX1_tellsOn_21 : decode cX1_tellsOn 21 = .ok (.invokestatic 271, 3) := dk_184 1 15 (dk_at dksX1_tellsOn_0 21 rfl rfl)
theorem dX1_tellsOn_24 : decode cX1_tellsOn 24 = .ok (.ifCond .eq 15, 3) := dk_153 0 15 (dk_at dksX1_tellsOn_1 0 rfl rfl)
theorem dX1_tellsOn_27 : decode cX1_tellsOn 27 = .ok (.iload_n 3, 1) := dk_29 (dk_at dksX1_tellsOn_1 3 rfl rfl)
theorem dX1_tellsOn_28 : decode cX1_tellsOn 28 = .ok (.aload_n 0, 1) := dk_42 (dk_at dksX1_tellsOn_1 4 rfl rfl)
theorem dX1_tellsOn_29 : decode cX1_tellsOn 29 = .ok (.getfield 36, 3) := dk_180 0 36 (dk_at dksX1_tellsOn_1 5 rfl rfl)
theorem dX1_tellsOn_32 : decode cX1_tellsOn 32 = .ok (.iload 4, 2) := dk_21 4 (dk_at dksX1_tellsOn_1 8 rfl rfl)
theorem dX1_tellsOn_34 : decode cX1_tellsOn 34 = .ok (.invokevirtual 157, 3) := dk_182 0 157 (dk_at dksX1_tellsOn_1 10 rfl rfl)
theorem dX1_tellsOn_37 : decode cX1_tellsOn 37 = .ok (.ior, 1) := dk_128 (dk_at dksX1_tellsOn_1 13 rfl rfl)
theorem dX1_tellsOn_38 : decode cX1_tellsOn 38 = .ok (.istore_n 3, 1) := dk_62 (dk_at dksX1_tellsOn_1 14 rfl rfl)
theorem dX1_tellsOn_39 : decode cX1_tellsOn 39 = .ok (.iinc 4 1, 3) := dk_132 4 1 (dk_at dksX1_tellsOn_1 15 rfl rfl)
theorem dX1_tellsOn_42 : decode cX1_tellsOn 42 = .ok (.goto (-37), 3) := dk_167 255 219 (dk_at dksX1_tellsOn_1 18 rfl rfl)
theorem dX1_tellsOn_45 : decode cX1_tellsOn 45 = .ok (.iload_n 3, 1) := dk_29 (dk_at dksX1_tellsOn_1 21 rfl rfl)
theorem dX1_tellsOn_46 : decode cX1_tellsOn 46 = .ok (.ireturn, 1) := dk_172 (dk_at dksX1_tellsOn_1 22 rfl rfl)
abbrev cX1_apart : ByteArray := prog_1_method_47_code
def yX1_apart : MethodName := ⟨RX1, "apart", "(II)I"⟩
def dkwX1_apart_4 : List UInt8 := [21, 5, 54, 4, 132, 5, 255, 167, 255, 211, 42, 21, 4, 181, 0, 67, 21, 4, 184, 0, 213, 172]
abbrev dktX1_apart_4 : List UInt8 := dkwX1_apart_4 ++ []
def dkwX1_apart_3 : List UInt8 := [21, 5, 184, 0, 213, 21, 4, 184, 0, 213, 163, 0, 18, 42, 27, 28, 21, 5, 182, 1, 74, 154, 0, 7]
abbrev dktX1_apart_3 : List UInt8 := dkwX1_apart_3 ++ dktX1_apart_4
def dkwX1_apart_2 : List UInt8 := [2, 130, 126, 62, 29, 54, 4, 29, 54, 5, 21, 5, 155, 0, 46, 21, 5, 29, 2, 130, 126, 154, 0, 31]
abbrev dktX1_apart_2 : List UInt8 := dkwX1_apart_2 ++ dktX1_apart_3
def dkwX1_apart_1 : List UInt8 := [180, 0, 36, 27, 28, 182, 1, 71, 153, 0, 5, 2, 172, 42, 182, 1, 65, 4, 27, 120, 4, 28, 120, 128]
abbrev dktX1_apart_1 : List UInt8 := dkwX1_apart_1 ++ dktX1_apart_2
def dkwX1_apart_0 : List UInt8 := [42, 27, 182, 0, 145, 153, 0, 28, 42, 28, 182, 0, 145, 153, 0, 20, 27, 28, 159, 0, 15, 42]
abbrev dktX1_apart_0 : List UInt8 := dkwX1_apart_0 ++ dktX1_apart_1
theorem dksX1_apart_0 : cX1_apart.data.toList.drop 0 = dktX1_apart_0 := by decide +kernel
theorem dksX1_apart_1 : cX1_apart.data.toList.drop 22 = dktX1_apart_1 := dk_seg dksX1_apart_0 22 rfl rfl
theorem dksX1_apart_2 : cX1_apart.data.toList.drop 46 = dktX1_apart_2 := dk_seg dksX1_apart_1 24 rfl rfl
theorem dksX1_apart_3 : cX1_apart.data.toList.drop 70 = dktX1_apart_3 := dk_seg dksX1_apart_2 24 rfl rfl
theorem dksX1_apart_4 : cX1_apart.data.toList.drop 94 = dktX1_apart_4 := dk_seg dksX1_apart_3 24 rfl rfl
theorem dX1_apart_0 : decode cX1_apart 0 = .ok (.aload_n 0, 1) := dk_42 (dk_at dksX1_apart_0 0 rfl rfl)
theorem dX1_apart_1 : decode cX1_apart 1 = .ok (.iload_n 1, 1) := dk_27 (dk_at dksX1_apart_0 1 rfl rfl)
theorem dX1_apart_2 : decode cX1_apart 2 = .ok (.invokevirtual 145, 3) := dk_182 0 145 (dk_at dksX1_apart_0 2 rfl rfl)
theorem dX1_apart_5 : decode cX1_apart 5 = .ok (.ifCond .eq 28, 3) := dk_153 0 28 (dk_at dksX1_apart_0 5 rfl rfl)
theorem dX1_apart_8 : decode cX1_apart 8 = .ok (.aload_n 0, 1) := dk_42 (dk_at dksX1_apart_0 8 rfl rfl)
theorem dX1_apart_9 : decode cX1_apart 9 = .ok (.iload_n 2, 1) := dk_28 (dk_at dksX1_apart_0 9 rfl rfl)
theorem dX1_apart_10 : decode cX1_apart 10 = .ok (.invokevirtual 145, 3) := dk_182 0 145 (dk_at dksX1_apart_0 10 rfl rfl)
theorem dX1_apart_13 : decode cX1_apart 13 = .ok (.ifCond .eq 20, 3) := dk_153 0 20 (dk_at dksX1_apart_0 13 rfl rfl)
theorem dX1_apart_16 : decode cX1_apart 16 = .ok (.iload_n 1, 1) := dk_27 (dk_at dksX1_apart_0 16 rfl rfl)
theorem dX1_apart_17 : decode cX1_apart 17 = .ok (.iload_n 2, 1) := dk_28 (dk_at dksX1_apart_0 17 rfl rfl)
theorem dX1_apart_18 : decode cX1_apart 18 = .ok (.if_icmp .eq 15, 3) := dk_159 0 15 (dk_at dksX1_apart_0 18 rfl rfl)
theorem dX1_apart_21 : decode cX1_apart 21 = .ok (.aload_n 0, 1) := dk_42 (dk_at dksX1_apart_0 21 rfl rfl)
theorem dX1_apart_22 : decode cX1_apart 22 = .ok (.getfield 36, 3) := dk_180 0 36 (dk_at dksX1_apart_1 0 rfl rfl)
theorem dX1_apart_25 : decode cX1_apart 25 = .ok (.iload_n 1, 1) := dk_27 (dk_at dksX1_apart_1 3 rfl rfl)
theorem dX1_apart_26 : decode cX1_apart 26 = .ok (.iload_n 2, 1) := dk_28 (dk_at dksX1_apart_1 4 rfl rfl)
theorem dX1_apart_27 : decode cX1_apart 27 = .ok (.invokevirtual 327, 3) := dk_182 1 71 (dk_at dksX1_apart_1 5 rfl rfl)
theorem dX1_apart_30 : decode cX1_apart 30 = .ok (.ifCond .eq 5, 3) := dk_153 0 5 (dk_at dksX1_apart_1 8 rfl rfl)
theorem dX1_apart_33 : decode cX1_apart 33 = .ok (.iconst (-1), 1) := dk_2 (dk_at dksX1_apart_1 11 rfl rfl)
theorem dX1_apart_34 : decode cX1_apart 34 = .ok (.ireturn, 1) := dk_172 (dk_at dksX1_apart_1 12 rfl rfl)
theorem dX1_apart_35 : decode cX1_apart 35 = .ok (.aload_n 0, 1) := dk_42 (dk_at dksX1_apart_1 13 rfl rfl)
theorem dX1_apart_36 : decode cX1_apart 36 = .ok (.invokevirtual 321, 3) := dk_182 1 65 (dk_at dksX1_apart_1 14 rfl rfl)
theorem dX1_apart_39 : decode cX1_apart 39 = .ok (.iconst 1, 1) := dk_4 (dk_at dksX1_apart_1 17 rfl rfl)
theorem dX1_apart_40 : decode cX1_apart 40 = .ok (.iload_n 1, 1) := dk_27 (dk_at dksX1_apart_1 18 rfl rfl)
theorem dX1_apart_41 : decode cX1_apart 41 = .ok (.ishl, 1) := dk_120 (dk_at dksX1_apart_1 19 rfl rfl)
theorem dX1_apart_42 : decode cX1_apart 42 = .ok (.iconst 1, 1) := dk_4 (dk_at dksX1_apart_1 20 rfl rfl)
theorem dX1_apart_43 : decode cX1_apart 43 = .ok (.iload_n 2, 1) := dk_28 (dk_at dksX1_apart_1 21 rfl rfl)
theorem dX1_apart_44 : decode cX1_apart 44 = .ok (.ishl, 1) := dk_120 (dk_at dksX1_apart_1 22 rfl rfl)
theorem dX1_apart_45 : decode cX1_apart 45 = .ok (.ior, 1) := dk_128 (dk_at dksX1_apart_1 23 rfl rfl)
theorem dX1_apart_46 : decode cX1_apart 46 = .ok (.iconst (-1), 1) := dk_2 (dk_at dksX1_apart_2 0 rfl rfl)
theorem dX1_apart_47 : decode cX1_apart 47 = .ok (.ixor, 1) := dk_130 (dk_at dksX1_apart_2 1 rfl rfl)
theorem dX1_apart_48 : decode cX1_apart 48 = .ok (.iand, 1) := dk_126 (dk_at dksX1_apart_2 2 rfl rfl)
theorem dX1_apart_49 : decode cX1_apart 49 = .ok (.istore_n 3, 1) := dk_62 (dk_at dksX1_apart_2 3 rfl rfl)
theorem dX1_apart_50 : decode cX1_apart 50 = .ok (.iload_n 3, 1) := dk_29 (dk_at dksX1_apart_2 4 rfl rfl)
theorem dX1_apart_51 : decode cX1_apart 51 = .ok (.istore 4, 2) := dk_54 4 (dk_at dksX1_apart_2 5 rfl rfl)
theorem dX1_apart_53 : decode cX1_apart 53 = .ok (.iload_n 3, 1) := dk_29 (dk_at dksX1_apart_2 7 rfl rfl)
theorem dX1_apart_54 : decode cX1_apart 54 = .ok (.istore 5, 2) := dk_54 5 (dk_at dksX1_apart_2 8 rfl rfl)
theorem dX1_apart_56 : decode cX1_apart 56 = .ok (.iload 5, 2) := dk_21 5 (dk_at dksX1_apart_2 10 rfl rfl)
theorem dX1_apart_58 : decode cX1_apart 58 = .ok (.ifCond .lt 46, 3) := dk_155 0 46 (dk_at dksX1_apart_2 12 rfl rfl)
theorem dX1_apart_61 : decode cX1_apart 61 = .ok (.iload 5, 2) := dk_21 5 (dk_at dksX1_apart_2 15 rfl rfl)
theorem dX1_apart_63 : decode cX1_apart 63 = .ok (.iload_n 3, 1) := dk_29 (dk_at dksX1_apart_2 17 rfl rfl)
theorem dX1_apart_64 : decode cX1_apart 64 = .ok (.iconst (-1), 1) := dk_2 (dk_at dksX1_apart_2 18 rfl rfl)
theorem dX1_apart_65 : decode cX1_apart 65 = .ok (.ixor, 1) := dk_130 (dk_at dksX1_apart_2 19 rfl rfl)
theorem dX1_apart_66 : decode cX1_apart 66 = .ok (.iand, 1) := dk_126 (dk_at dksX1_apart_2 20 rfl rfl)
theorem dX1_apart_67 : decode cX1_apart 67 = .ok (.ifCond .ne 31, 3) := dk_154 0 31 (dk_at dksX1_apart_2 21 rfl rfl)
theorem dX1_apart_70 : decode cX1_apart 70 = .ok (.iload 5, 2) := dk_21 5 (dk_at dksX1_apart_3 0 rfl rfl)
theorem dX1_apart_72 : decode cX1_apart 72 = .ok (.invokestatic 213, 3) := dk_184 0 213 (dk_at dksX1_apart_3 2 rfl rfl)
theorem dX1_apart_75 : decode cX1_apart 75 = .ok (.iload 4, 2) := dk_21 4 (dk_at dksX1_apart_3 5 rfl rfl)
theorem dX1_apart_77 : decode cX1_apart 77 = .ok (.invokestatic 213, 3) := dk_184 0 213 (dk_at dksX1_apart_3 7 rfl rfl)
theorem dX1_apart_80 : decode cX1_apart 80 = .ok (.if_icmp .gt 18, 3) := dk_163 0 18 (dk_at dksX1_apart_3 10 rfl rfl)
theorem dX1_apart_83 : decode cX1_apart 83 = .ok (.aload_n 0, 1) := dk_42 (dk_at dksX1_apart_3 13 rfl rfl)
theorem dX1_apart_84 : decode cX1_apart 84 = .ok (.iload_n 1, 1) := dk_27 (dk_at dksX1_apart_3 14 rfl rfl)
theorem dX1_apart_85 : decode cX1_apart 85 = .ok (.iload_n 2, 1) := dk_28 (dk_at dksX1_apart_3 15 rfl rfl)
theorem dX1_apart_86 : decode cX1_apart 86 = .ok (.iload 5, 2) := dk_21 5 (dk_at dksX1_apart_3 16 rfl rfl)
theorem dX1_apart_88 : decode cX1_apart 88 = .ok (.invokevirtual 330, 3) := dk_182 1 74 (dk_at dksX1_apart_3 18 rfl rfl)
theorem dX1_apart_91 : decode cX1_apart 91 = .ok (.ifCond .ne 7, 3) := dk_154 0 7 (dk_at dksX1_apart_3 21 rfl rfl)
theorem dX1_apart_94 : decode cX1_apart 94 = .ok (.iload 5, 2) := dk_21 5 (dk_at dksX1_apart_4 0 rfl rfl)
theorem dX1_apart_96 : decode cX1_apart 96 = .ok (.istore 4, 2) := dk_54 4 (dk_at dksX1_apart_4 2 rfl rfl)
theorem dX1_apart_98 : decode cX1_apart 98 = .ok (.iinc 5 (-1), 3) := dk_132 5 255 (dk_at dksX1_apart_4 4 rfl rfl)
theorem dX1_apart_101 : decode cX1_apart 101 = .ok (.goto (-45), 3) := dk_167 255 211 (dk_at dksX1_apart_4 7 rfl rfl)
theorem dX1_apart_104 : decode cX1_apart 104 = .ok (.aload_n 0, 1) := dk_42 (dk_at dksX1_apart_4 10 rfl rfl)
theorem dX1_apart_105 : decode cX1_apart 105 = .ok (.iload 4, 2) := dk_21 4 (dk_at dksX1_apart_4 11 rfl rfl)
theorem dX1_apart_107 : decode cX1_apart 107 = .ok (.putfield 67, 3) := dk_181 0 67 (dk_at dksX1_apart_4 13 rfl rfl)
theorem dX1_apart_110 : decode cX1_apart 110 = .ok (.iload 4, 2) := dk_21 4 (dk_at dksX1_apart_4 16 rfl rfl)
theorem dX1_apart_112 : decode cX1_apart 112 = .ok (.invokestatic 213, 3) := dk_184 0 213 (dk_at dksX1_apart_4 18 rfl rfl)
theorem dX1_apart_115 : decode cX1_apart 115 = .ok (.ireturn, 1) := dk_172 (dk_at dksX1_apart_4 21 rfl rfl)
abbrev cX1_comesTo : ByteArray := prog_1_method_46_code
def yX1_comesTo : MethodName := ⟨RX1, "comesTo", "(III)Z"⟩
def dkwX1_comesTo_1 : List UInt8 := [132, 5, 1, 167, 255, 237, 21, 4, 28, 184, 1, 15, 172]
abbrev dktX1_comesTo_1 : List UInt8 := dkwX1_comesTo_1 ++ []
def dkwX1_comesTo_0 : List UInt8 := [4, 27, 120, 54, 4, 3, 54, 5, 21, 5, 16, 7, 162, 0, 18, 42, 21, 4, 29, 182, 1, 68, 54, 4]
abbrev dktX1_comesTo_0 : List UInt8 := dkwX1_comesTo_0 ++ dktX1_comesTo_1
theorem dksX1_comesTo_0 : cX1_comesTo.data.toList.drop 0 = dktX1_comesTo_0 := by decide +kernel
theorem dksX1_comesTo_1 : cX1_comesTo.data.toList.drop 24 = dktX1_comesTo_1 := dk_seg dksX1_comesTo_0 24 rfl rfl
theorem dX1_comesTo_0 : decode cX1_comesTo 0 = .ok (.iconst 1, 1) := dk_4 (dk_at dksX1_comesTo_0 0 rfl rfl)
theorem dX1_comesTo_1 : decode cX1_comesTo 1 = .ok (.iload_n 1, 1) := dk_27 (dk_at dksX1_comesTo_0 1 rfl rfl)
theorem dX1_comesTo_2 : decode cX1_comesTo 2 = .ok (.ishl, 1) := dk_120 (dk_at dksX1_comesTo_0 2 rfl rfl)
theorem dX1_comesTo_3 : decode cX1_comesTo 3 = .ok (.istore 4, 2) := dk_54 4 (dk_at dksX1_comesTo_0 3 rfl rfl)
theorem dX1_comesTo_5 : decode cX1_comesTo 5 = .ok (.iconst 0, 1) := dk_3 (dk_at dksX1_comesTo_0 5 rfl rfl)
theorem dX1_comesTo_6 : decode cX1_comesTo 6 = .ok (.istore 5, 2) := dk_54 5 (dk_at dksX1_comesTo_0 6 rfl rfl)
theorem dX1_comesTo_8 : decode cX1_comesTo 8 = .ok (.iload 5, 2) := dk_21 5 (dk_at dksX1_comesTo_0 8 rfl rfl)
theorem dX1_comesTo_10 : decode cX1_comesTo 10 = .ok (.bipush 7, 2) := dk_16 7 (dk_at dksX1_comesTo_0 10 rfl rfl)
theorem dX1_comesTo_12 : decode cX1_comesTo 12 = .ok (.if_icmp .ge 18, 3) := dk_162 0 18 (dk_at dksX1_comesTo_0 12 rfl rfl)
theorem dX1_comesTo_15 : decode cX1_comesTo 15 = .ok (.aload_n 0, 1) := dk_42 (dk_at dksX1_comesTo_0 15 rfl rfl)
theorem dX1_comesTo_16 : decode cX1_comesTo 16 = .ok (.iload 4, 2) := dk_21 4 (dk_at dksX1_comesTo_0 16 rfl rfl)
theorem dX1_comesTo_18 : decode cX1_comesTo 18 = .ok (.iload_n 3, 1) := dk_29 (dk_at dksX1_comesTo_0 18 rfl rfl)
theorem dX1_comesTo_19 : decode cX1_comesTo 19 = .ok (.invokevirtual 324, 3) := dk_182 1 68 (dk_at dksX1_comesTo_0 19 rfl rfl)
theorem dX1_comesTo_22 : decode cX1_comesTo 22 = .ok (.istore 4, 2) := dk_54 4 (dk_at dksX1_comesTo_0 22 rfl rfl)
theorem dX1_comesTo_24 : decode cX1_comesTo 24 = .ok (.iinc 5 1, 3) := dk_132 5 1 (dk_at dksX1_comesTo_1 0 rfl rfl)
theorem dX1_comesTo_27 : decode cX1_comesTo 27 = .ok (.goto (-19), 3) := dk_167 255 237 (dk_at dksX1_comesTo_1 3 rfl rfl)
theorem dX1_comesTo_30 : decode cX1_comesTo 30 = .ok (.iload 4, 2) := dk_21 4 (dk_at dksX1_comesTo_1 6 rfl rfl)
theorem dX1_comesTo_32 : decode cX1_comesTo 32 = .ok (.iload_n 2, 1) := dk_28 (dk_at dksX1_comesTo_1 8 rfl rfl)
theorem dX1_comesTo_33 : decode cX1_comesTo 33 = .ok (.invokestatic 271, 3) := dk_184 1 15 (dk_at dksX1_comesTo_1 9 rfl rfl)
theorem dX1_comesTo_36 : decode cX1_comesTo 36 = .ok (.ireturn, 1) := dk_172 (dk_at dksX1_comesTo_1 12 rfl rfl)
abbrev cX1_parting : ByteArray := prog_1_method_48_code
def yX1_parting : MethodName := ⟨RX1, "parting", "()I"⟩
theorem dX1_parting_0 : decode cX1_parting 0 = .ok (.aload_n 0, 1) := by decide +kernel
theorem dX1_parting_1 : decode cX1_parting 1 = .ok (.getfield 67, 3) := by decide +kernel
theorem dX1_parting_4 : decode cX1_parting 4 = .ok (.ireturn, 1) := by decide +kernel
abbrev cX1_recluse : ByteArray := prog_1_method_49_code
def yX1_recluse : MethodName := ⟨RX1, "recluse", "()I"⟩
def dkwX1_recluse_2 : List UInt8 := [132, 2, 1, 167, 255, 213, 27, 172]
abbrev dktX1_recluse_2 : List UInt8 := dkwX1_recluse_2 ++ []
def dkwX1_recluse_1 : List UInt8 := [182, 0, 157, 184, 0, 213, 42, 180, 0, 36, 27, 182, 0, 157, 184, 0, 213, 162, 0, 5, 28, 60]
abbrev dktX1_recluse_1 : List UInt8 := dkwX1_recluse_1 ++ dktX1_recluse_2
def dkwX1_recluse_0 : List UInt8 := [2, 60, 3, 61, 28, 42, 182, 0, 143, 162, 0, 41, 27, 2, 159, 0, 28, 42, 180, 0, 36, 28]
abbrev dktX1_recluse_0 : List UInt8 := dkwX1_recluse_0 ++ dktX1_recluse_1
theorem dksX1_recluse_0 : cX1_recluse.data.toList.drop 0 = dktX1_recluse_0 := by decide +kernel
theorem dksX1_recluse_1 : cX1_recluse.data.toList.drop 22 = dktX1_recluse_1 := dk_seg dksX1_recluse_0 22 rfl rfl
theorem dksX1_recluse_2 : cX1_recluse.data.toList.drop 44 = dktX1_recluse_2 := dk_seg dksX1_recluse_1 22 rfl rfl
theorem dX1_recluse_0 : decode cX1_recluse 0 = .ok (.iconst (-1), 1) := dk_2 (dk_at dksX1_recluse_0 0 rfl rfl)
theorem dX1_recluse_1 : decode cX1_recluse 1 = .ok (.istore_n 1, 1) := dk_60 (dk_at dksX1_recluse_0 1 rfl rfl)
theorem dX1_recluse_2 : decode cX1_recluse 2 = .ok (.iconst 0, 1) := dk_3 (dk_at dksX1_recluse_0 2 rfl rfl)
theorem dX1_recluse_3 : decode cX1_recluse 3 = .ok (.istore_n 2, 1) := dk_61 (dk_at dksX1_recluse_0 3 rfl rfl)
theorem dX1_recluse_4 : decode cX1_recluse 4 = .ok (.iload_n 2, 1) := dk_28 (dk_at dksX1_recluse_0 4 rfl rfl)
theorem dX1_recluse_5 : decode cX1_recluse 5 = .ok (.aload_n 0, 1) := dk_42 (dk_at dksX1_recluse_0 5 rfl rfl)
theorem dX1_recluse_6 : decode cX1_recluse 6 = .ok (.invokevirtual 143, 3) := dk_182 0 143 (dk_at dksX1_recluse_0 6 rfl rfl)
theorem dX1_recluse_9 : decode cX1_recluse 9 = .ok (.if_icmp .ge 41, 3) := dk_162 0 41 (dk_at dksX1_recluse_0 9 rfl rfl)
theorem dX1_recluse_12 : decode cX1_recluse 12 = .ok (.iload_n 1, 1) := dk_27 (dk_at dksX1_recluse_0 12 rfl rfl)
theorem dX1_recluse_13 : decode cX1_recluse 13 = .ok (.iconst (-1), 1) := dk_2 (dk_at dksX1_recluse_0 13 rfl rfl)
theorem dX1_recluse_14 : decode cX1_recluse 14 = .ok (.if_icmp .eq 28, 3) := dk_159 0 28 (dk_at dksX1_recluse_0 14 rfl rfl)
theorem dX1_recluse_17 : decode cX1_recluse 17 = .ok (.aload_n 0, 1) := dk_42 (dk_at dksX1_recluse_0 17 rfl rfl)
theorem dX1_recluse_18 : decode cX1_recluse 18 = .ok (.getfield 36, 3) := dk_180 0 36 (dk_at dksX1_recluse_0 18 rfl rfl)
theorem dX1_recluse_21 : decode cX1_recluse 21 = .ok (.iload_n 2, 1) := dk_28 (dk_at dksX1_recluse_0 21 rfl rfl)
theorem dX1_recluse_22 : decode cX1_recluse 22 = .ok (.invokevirtual 157, 3) := dk_182 0 157 (dk_at dksX1_recluse_1 0 rfl rfl)
theorem dX1_recluse_25 : decode cX1_recluse 25 = .ok (.invokestatic 213, 3) := dk_184 0 213 (dk_at dksX1_recluse_1 3 rfl rfl)
theorem dX1_recluse_28 : decode cX1_recluse 28 = .ok (.aload_n 0, 1) := dk_42 (dk_at dksX1_recluse_1 6 rfl rfl)
theorem dX1_recluse_29 : decode cX1_recluse 29 = .ok (.getfield 36, 3) := dk_180 0 36 (dk_at dksX1_recluse_1 7 rfl rfl)
theorem dX1_recluse_32 : decode cX1_recluse 32 = .ok (.iload_n 1, 1) := dk_27 (dk_at dksX1_recluse_1 10 rfl rfl)
theorem dX1_recluse_33 : decode cX1_recluse 33 = .ok (.invokevirtual 157, 3) := dk_182 0 157 (dk_at dksX1_recluse_1 11 rfl rfl)
theorem dX1_recluse_36 : decode cX1_recluse 36 = .ok (.invokestatic 213, 3) := dk_184 0 213 (dk_at dksX1_recluse_1 14 rfl rfl)
theorem dX1_recluse_39 : decode cX1_recluse 39 = .ok (.if_icmp .ge 5, 3) := dk_162 0 5 (dk_at dksX1_recluse_1 17 rfl rfl)
theorem dX1_recluse_42 : decode cX1_recluse 42 = .ok (.iload_n 2, 1) := dk_28 (dk_at dksX1_recluse_1 20 rfl rfl)
theorem dX1_recluse_43 : decode cX1_recluse 43 = .ok (.istore_n 1, 1) := dk_60 (dk_at dksX1_recluse_1 21 rfl rfl)
theorem dX1_recluse_44 : decode cX1_recluse 44 = .ok (.iinc 2 1, 3) := dk_132 2 1 (dk_at dksX1_recluse_2 0 rfl rfl)
theorem dX1_recluse_47 : decode cX1_recluse 47 = .ok (.goto (-43), 3) := dk_167 255 213 (dk_at dksX1_recluse_2 3 rfl rfl)
theorem dX1_recluse_50 : decode cX1_recluse 50 = .ok (.iload_n 1, 1) := dk_27 (dk_at dksX1_recluse_2 6 rfl rfl)
theorem dX1_recluse_51 : decode cX1_recluse 51 = .ok (.ireturn, 1) := dk_172 (dk_at dksX1_recluse_2 7 rfl rfl)
abbrev cX1_face : ByteArray := prog_1_method_50_code
def yX1_face : MethodName := ⟨RX1, "face", "(I)I"⟩
def dkwX1_face_6 : List UInt8 := [182, 1, 87, 87, 42, 44, 182, 1, 106, 181, 0, 72, 42, 180, 0, 72, 182, 1, 110, 172]
abbrev dktX1_face_6 : List UInt8 := dkwX1_face_6 ++ []
def dkwX1_face_5 : List UInt8 := [19, 1, 99, 182, 1, 87, 87, 42, 180, 0, 36, 27, 182, 1, 101, 153, 0, 11, 44, 19, 1, 104]
abbrev dktX1_face_5 : List UInt8 := dkwX1_face_5 ++ dktX1_face_6
def dkwX1_face_4 : List UInt8 := [154, 0, 11, 44, 19, 1, 94, 182, 1, 87, 87, 42, 180, 0, 36, 27, 182, 1, 96, 153, 0, 11, 44]
abbrev dktX1_face_4 : List UInt8 := dkwX1_face_4 ++ dktX1_face_5
def dkwX1_face_3 : List UInt8 := [182, 0, 160, 180, 1, 79, 182, 1, 87, 87, 132, 3, 1, 167, 255, 212, 42, 180, 0, 36, 27, 182, 0, 157]
abbrev dktX1_face_3 : List UInt8 := dkwX1_face_3 ++ dktX1_face_4
def dkwX1_face_2 : List UInt8 := [180, 0, 36, 27, 29, 182, 1, 71, 153, 0, 24, 44, 16, 32, 182, 1, 91, 42, 180, 0, 36, 29]
abbrev dktX1_face_2 : List UInt8 := dkwX1_face_2 ++ dktX1_face_3
def dkwX1_face_1 : List UInt8 := [180, 1, 79, 183, 1, 82, 19, 1, 85, 182, 1, 87, 77, 3, 62, 29, 42, 182, 0, 143, 162, 0, 42, 42]
abbrev dktX1_face_1 : List UInt8 := dkwX1_face_1 ++ dktX1_face_2
def dkwX1_face_0 : List UInt8 := [42, 27, 182, 0, 145, 154, 0, 5, 2, 172, 187, 1, 77, 89, 42, 180, 0, 36, 27, 182, 0, 160]
abbrev dktX1_face_0 : List UInt8 := dkwX1_face_0 ++ dktX1_face_1
theorem dksX1_face_0 : cX1_face.data.toList.drop 0 = dktX1_face_0 := by decide +kernel
theorem dksX1_face_1 : cX1_face.data.toList.drop 22 = dktX1_face_1 := dk_seg dksX1_face_0 22 rfl rfl
theorem dksX1_face_2 : cX1_face.data.toList.drop 46 = dktX1_face_2 := dk_seg dksX1_face_1 24 rfl rfl
theorem dksX1_face_3 : cX1_face.data.toList.drop 68 = dktX1_face_3 := dk_seg dksX1_face_2 22 rfl rfl
theorem dksX1_face_4 : cX1_face.data.toList.drop 92 = dktX1_face_4 := dk_seg dksX1_face_3 24 rfl rfl
theorem dksX1_face_5 : cX1_face.data.toList.drop 115 = dktX1_face_5 := dk_seg dksX1_face_4 23 rfl rfl
theorem dksX1_face_6 : cX1_face.data.toList.drop 137 = dktX1_face_6 := dk_seg dksX1_face_5 22 rfl rfl
theorem dX1_face_0 : decode cX1_face 0 = .ok (.aload_n 0, 1) := dk_42 (dk_at dksX1_face_0 0 rfl rfl)
theorem dX1_face_1 : decode cX1_face 1 = .ok (.iload_n 1, 1) := dk_27 (dk_at dksX1_face_0 1 rfl rfl)
theorem dX1_face_2 : decode cX1_face 2 = .ok (.invokevirtual 145, 3) := dk_182 0 145 (dk_at dksX1_face_0 2 rfl rfl)
theorem dX1_face_5 : decode cX1_face 5 = .ok (.ifCond .ne 5, 3) := dk_154 0 5 (dk_at dksX1_face_0 5 rfl rfl)
theorem dX1_face_8 : decode cX1_face 8 = .ok (.iconst (-1), 1) := dk_2 (dk_at dksX1_face_0 8 rfl rfl)
theorem dX1_face_9 : decode cX1_face 9 = .ok (.ireturn, 1) := dk_172 (dk_at dksX1_face_0 9 rfl rfl)
theorem dX1_face_10 : decode cX1_face 10 = .ok (.new 333, 3) := dk_187 1 77 (dk_at dksX1_face_0 10 rfl rfl)
theorem dX1_face_13 : decode cX1_face 13 = .ok (.dup, 1) := dk_89 (dk_at dksX1_face_0 13 rfl rfl)
theorem dX1_face_14 : decode cX1_face 14 = .ok (.aload_n 0, 1) := dk_42 (dk_at dksX1_face_0 14 rfl rfl)
theorem dX1_face_15 : decode cX1_face 15 = .ok (.getfield 36, 3) := dk_180 0 36 (dk_at dksX1_face_0 15 rfl rfl)
theorem dX1_face_18 : decode cX1_face 18 = .ok (.iload_n 1, 1) := dk_27 (dk_at dksX1_face_0 18 rfl rfl)
theorem dX1_face_19 : decode cX1_face 19 = .ok (.invokevirtual 160, 3) := dk_182 0 160 (dk_at dksX1_face_0 19 rfl rfl)
theorem dX1_face_22 : decode cX1_face 22 = .ok (.getfield 335, 3) := dk_180 1 79 (dk_at dksX1_face_1 0 rfl rfl)
theorem dX1_face_25 : decode cX1_face 25 = .ok (.invokespecial 338, 3) := dk_183 1 82 (dk_at dksX1_face_1 3 rfl rfl)
theorem dX1_face_28 : decode cX1_face 28 = .ok (.ldc_w 341, 3) := dk_19 1 85 (dk_at dksX1_face_1 6 rfl rfl)
theorem dX1_face_31 : decode cX1_face 31 = .ok (.invokevirtual 343, 3) := dk_182 1 87 (dk_at dksX1_face_1 9 rfl rfl)
theorem dX1_face_34 : decode cX1_face 34 = .ok (.astore_n 2, 1) := dk_77 (dk_at dksX1_face_1 12 rfl rfl)
theorem dX1_face_35 : decode cX1_face 35 = .ok (.iconst 0, 1) := dk_3 (dk_at dksX1_face_1 13 rfl rfl)
theorem dX1_face_36 : decode cX1_face 36 = .ok (.istore_n 3, 1) := dk_62 (dk_at dksX1_face_1 14 rfl rfl)
theorem dX1_face_37 : decode cX1_face 37 = .ok (.iload_n 3, 1) := dk_29 (dk_at dksX1_face_1 15 rfl rfl)
theorem dX1_face_38 : decode cX1_face 38 = .ok (.aload_n 0, 1) := dk_42 (dk_at dksX1_face_1 16 rfl rfl)
theorem dX1_face_39 : decode cX1_face 39 = .ok (.invokevirtual 143, 3) := dk_182 0 143 (dk_at dksX1_face_1 17 rfl rfl)
theorem dX1_face_42 : decode cX1_face 42 = .ok (.if_icmp .ge 42, 3) := dk_162 0 42 (dk_at dksX1_face_1 20 rfl rfl)
theorem dX1_face_45 : decode cX1_face 45 = .ok (.aload_n 0, 1) := dk_42 (dk_at dksX1_face_1 23 rfl rfl)
theorem dX1_face_46 : decode cX1_face 46 = .ok (.getfield 36, 3) := dk_180 0 36 (dk_at dksX1_face_2 0 rfl rfl)
theorem dX1_face_49 : decode cX1_face 49 = .ok (.iload_n 1, 1) := dk_27 (dk_at dksX1_face_2 3 rfl rfl)
theorem dX1_face_50 : decode cX1_face 50 = .ok (.iload_n 3, 1) := dk_29 (dk_at dksX1_face_2 4 rfl rfl)
theorem dX1_face_51 : decode cX1_face 51 = .ok (.invokevirtual 327, 3) := dk_182 1 71 (dk_at dksX1_face_2 5 rfl rfl)
theorem dX1_face_54 : decode cX1_face 54 = .ok (.ifCond .eq 24, 3) := dk_153 0 24 (dk_at dksX1_face_2 8 rfl rfl)
theorem dX1_face_57 : decode cX1_face 57 = .ok (.aload_n 2, 1) := dk_44 (dk_at dksX1_face_2 11 rfl rfl)
theorem dX1_face_58 : decode cX1_face 58 = .ok (.bipush 32, 2) := dk_16 32 (dk_at dksX1_face_2 12 rfl rfl)
theorem dX1_face_60 : decode cX1_face 60 = .ok (.invokevirtual 347, 3) := dk_182 1 91 (dk_at dksX1_face_2 14 rfl rfl)
theorem dX1_face_63 : decode cX1_face 63 = .ok (.aload_n 0, 1) := dk_42 (dk_at dksX1_face_2 17 rfl rfl)
theorem dX1_face_64 : decode cX1_face 64 = .ok (.getfield 36, 3) := dk_180 0 36 (dk_at dksX1_face_2 18 rfl rfl)
theorem dX1_face_67 : decode cX1_face 67 = .ok (.iload_n 3, 1) := dk_29 (dk_at dksX1_face_2 21 rfl rfl)
theorem dX1_face_68 : decode cX1_face 68 = .ok (.invokevirtual 160, 3) := dk_182 0 160 (dk_at dksX1_face_3 0 rfl rfl)
theorem dX1_face_71 : decode cX1_face 71 = .ok (.getfield 335, 3) := dk_180 1 79 (dk_at dksX1_face_3 3 rfl rfl)
theorem dX1_face_74 : decode cX1_face 74 = .ok (.invokevirtual 343, 3) := dk_182 1 87 (dk_at dksX1_face_3 6 rfl rfl)
theorem dX1_face_77 : decode cX1_face 77 = .ok (.pop, 1) := dk_87 (dk_at dksX1_face_3 9 rfl rfl)
theorem dX1_face_78 : decode cX1_face 78 = .ok (.iinc 3 1, 3) := dk_132 3 1 (dk_at dksX1_face_3 10 rfl rfl)
theorem dX1_face_81 : decode cX1_face 81 = .ok (.goto (-44), 3) := dk_167 255 212 (dk_at dksX1_face_3 13 rfl rfl)
theorem dX1_face_84 : decode cX1_face 84 = .ok (.aload_n 0, 1) := dk_42 (dk_at dksX1_face_3 16 rfl rfl)
theorem dX1_face_85 : decode cX1_face 85 = .ok (.getfield 36, 3) := dk_180 0 36 (dk_at dksX1_face_3 17 rfl rfl)
theorem dX1_face_88 : decode cX1_face 88 = .ok (.iload_n 1, 1) := dk_27 (dk_at dksX1_face_3 20 rfl rfl)
theorem dX1_face_89 : decode cX1_face 89 = .ok (.invokevirtual 157, 3) := dk_182 0 157 (dk_at dksX1_face_3 21 rfl rfl)
theorem dX1_face_92 : decode cX1_face 92 = .ok (.ifCond .ne 11, 3) := dk_154 0 11 (dk_at dksX1_face_4 0 rfl rfl)
theorem dX1_face_95 : decode cX1_face 95 = .ok (.aload_n 2, 1) := dk_44 (dk_at dksX1_face_4 3 rfl rfl)
theorem dX1_face_96 : decode cX1_face 96 = .ok (.ldc_w 350, 3) := dk_19 1 94 (dk_at dksX1_face_4 4 rfl rfl)
theorem dX1_face_99 : decode cX1_face 99 = .ok (.invokevirtual 343, 3) := dk_182 1 87 (dk_at dksX1_face_4 7 rfl rfl)
theorem dX1_face_102 : decode cX1_face 102 = .ok (.pop, 1) := dk_87 (dk_at dksX1_face_4 10 rfl rfl)
theorem dX1_face_103 : decode cX1_face 103 = .ok (.aload_n 0, 1) := dk_42 (dk_at dksX1_face_4 11 rfl rfl)
theorem dX1_face_104 : decode cX1_face 104 = .ok (.getfield 36, 3) := dk_180 0 36 (dk_at dksX1_face_4 12 rfl rfl)
theorem dX1_face_107 : decode cX1_face 107 = .ok (.iload_n 1, 1) := dk_27 (dk_at dksX1_face_4 15 rfl rfl)
theorem dX1_face_108 : decode cX1_face 108 = .ok (.invokevirtual 352, 3) := dk_182 1 96 (dk_at dksX1_face_4 16 rfl rfl)
theorem dX1_face_111 : decode cX1_face 111 = .ok (.ifCond .eq 11, 3) := dk_153 0 11 (dk_at dksX1_face_4 19 rfl rfl)
theorem dX1_face_114 : decode cX1_face 114 = .ok (.aload_n 2, 1) := dk_44 (dk_at dksX1_face_4 22 rfl rfl)
theorem dX1_face_115 : decode cX1_face 115 = .ok (.ldc_w 355, 3) := dk_19 1 99 (dk_at dksX1_face_5 0 rfl rfl)
theorem dX1_face_118 : decode cX1_face 118 = .ok (.invokevirtual 343, 3) := dk_182 1 87 (dk_at dksX1_face_5 3 rfl rfl)
theorem dX1_face_121 : decode cX1_face 121 = .ok (.pop, 1) := dk_87 (dk_at dksX1_face_5 6 rfl rfl)
theorem dX1_face_122 : decode cX1_face 122 = .ok (.aload_n 0, 1) := dk_42 (dk_at dksX1_face_5 7 rfl rfl)
theorem dX1_face_123 : decode cX1_face 123 = .ok (.getfield 36, 3) := dk_180 0 36 (dk_at dksX1_face_5 8 rfl rfl)
theorem dX1_face_126 : decode cX1_face 126 = .ok (.iload_n 1, 1) := dk_27 (dk_at dksX1_face_5 11 rfl rfl)
theorem dX1_face_127 : decode cX1_face 127 = .ok (.invokevirtual 357, 3) := dk_182 1 101 (dk_at dksX1_face_5 12 rfl rfl)
theorem dX1_face_130 : decode cX1_face 130 = .ok (.ifCond .eq 11, 3) := dk_153 0 11 (dk_at dksX1_face_5 15 rfl rfl)
theorem dX1_face_133 : decode cX1_face 133 = .ok (.aload_n 2, 1) := dk_44 (dk_at dksX1_face_5 18 rfl rfl)
theorem dX1_face_134 : decode cX1_face 134 = .ok (.ldc_w 360, 3) := dk_19 1 104 (dk_at dksX1_face_5 19 rfl rfl)
theorem dX1_face_137 : decode cX1_face 137 = .ok (.invokevirtual 343, 3) := dk_182 1 87 (dk_at dksX1_face_6 0 rfl rfl)
theorem dX1_face_140 : decode cX1_face 140 = .ok (.pop, 1) := dk_87 (dk_at dksX1_face_6 3 rfl rfl)
theorem dX1_face_141 : decode cX1_face 141 = .ok (.aload_n 0, 1) := dk_42 (dk_at dksX1_face_6 4 rfl rfl)
theorem dX1_face_142 : decode cX1_face 142 = .ok (.aload_n 2, 1) := dk_44 (dk_at dksX1_face_6 5 rfl rfl)
theorem dX1_face_143 : decode cX1_face 143 = .ok (.invokevirtual 362, 3) := dk_182 1 106 (dk_at dksX1_face_6 6 rfl rfl)
theorem dX1_face_146 : decode cX1_face 146 = .ok (.putfield 72, 3) := dk_181 0 72 (dk_at dksX1_face_6 9 rfl rfl)
theorem dX1_face_149 : decode cX1_face 149 = .ok (.aload_n 0, 1) := dk_42 (dk_at dksX1_face_6 12 rfl rfl)
theorem dX1_face_150 : decode cX1_face 150 = .ok (.getfield 72, 3) := dk_180 0 72 (dk_at dksX1_face_6 13 rfl rfl)
theorem dX1_face_153 : decode cX1_face 153 = .ok (.invokevirtual 366, 3) := dk_182 1 110 (dk_at dksX1_face_6 16 rfl rfl)
theorem dX1_face_156 : decode cX1_face 156 = .ok (.ireturn, 1) := dk_172 (dk_at dksX1_face_6 19 rfl rfl)
abbrev cX1_byteAt : ByteArray := prog_1_method_51_code
def yX1_byteAt : MethodName := ⟨RX1, "byteAt", "(I)I"⟩
def dkwX1_byteAt_1 : List UInt8 := [182, 1, 115, 167, 0, 4, 2, 172]
abbrev dktX1_byteAt_1 : List UInt8 := dkwX1_byteAt_1 ++ []
def dkwX1_byteAt_0 : List UInt8 := [27, 3, 42, 180, 0, 72, 182, 1, 110, 4, 100, 184, 0, 146, 153, 0, 14, 42, 180, 0, 72, 27]
abbrev dktX1_byteAt_0 : List UInt8 := dkwX1_byteAt_0 ++ dktX1_byteAt_1
theorem dksX1_byteAt_0 : cX1_byteAt.data.toList.drop 0 = dktX1_byteAt_0 := by decide +kernel
theorem dksX1_byteAt_1 : cX1_byteAt.data.toList.drop 22 = dktX1_byteAt_1 := dk_seg dksX1_byteAt_0 22 rfl rfl
theorem dX1_byteAt_0 : decode cX1_byteAt 0 = .ok (.iload_n 1, 1) := dk_27 (dk_at dksX1_byteAt_0 0 rfl rfl)
theorem dX1_byteAt_1 : decode cX1_byteAt 1 = .ok (.iconst 0, 1) := dk_3 (dk_at dksX1_byteAt_0 1 rfl rfl)
theorem dX1_byteAt_2 : decode cX1_byteAt 2 = .ok (.aload_n 0, 1) := dk_42 (dk_at dksX1_byteAt_0 2 rfl rfl)
theorem dX1_byteAt_3 : decode cX1_byteAt 3 = .ok (.getfield 72, 3) := dk_180 0 72 (dk_at dksX1_byteAt_0 3 rfl rfl)
theorem dX1_byteAt_6 : decode cX1_byteAt 6 = .ok (.invokevirtual 366, 3) := dk_182 1 110 (dk_at dksX1_byteAt_0 6 rfl rfl)
theorem dX1_byteAt_9 : decode cX1_byteAt 9 = .ok (.iconst 1, 1) := dk_4 (dk_at dksX1_byteAt_0 9 rfl rfl)
theorem dX1_byteAt_10 : decode cX1_byteAt 10 = .ok (.isub, 1) := dk_100 (dk_at dksX1_byteAt_0 10 rfl rfl)
theorem dX1_byteAt_11 : decode cX1_byteAt 11 = .ok (.invokestatic 146, 3) := dk_184 0 146 (dk_at dksX1_byteAt_0 11 rfl rfl)
theorem dX1_byteAt_14 : decode cX1_byteAt 14 = .ok (.ifCond .eq 14, 3) := dk_153 0 14 (dk_at dksX1_byteAt_0 14 rfl rfl)
theorem dX1_byteAt_17 : decode cX1_byteAt 17 = .ok (.aload_n 0, 1) := dk_42 (dk_at dksX1_byteAt_0 17 rfl rfl)
theorem dX1_byteAt_18 : decode cX1_byteAt 18 = .ok (.getfield 72, 3) := dk_180 0 72 (dk_at dksX1_byteAt_0 18 rfl rfl)
theorem dX1_byteAt_21 : decode cX1_byteAt 21 = .ok (.iload_n 1, 1) := dk_27 (dk_at dksX1_byteAt_0 21 rfl rfl)
theorem dX1_byteAt_22 : decode cX1_byteAt 22 = .ok (.invokevirtual 371, 3) := dk_182 1 115 (dk_at dksX1_byteAt_1 0 rfl rfl)
theorem dX1_byteAt_25 : decode cX1_byteAt 25 = .ok (.goto 4, 3) := dk_167 0 4 (dk_at dksX1_byteAt_1 3 rfl rfl)
theorem dX1_byteAt_28 : decode cX1_byteAt 28 = .ok (.iconst (-1), 1) := dk_2 (dk_at dksX1_byteAt_1 6 rfl rfl)
theorem dX1_byteAt_29 : decode cX1_byteAt 29 = .ok (.ireturn, 1) := dk_172 (dk_at dksX1_byteAt_1 7 rfl rfl)
abbrev cX1_drawn : ByteArray := prog_1_method_52_code
def yX1_drawn : MethodName := ⟨RX1, "drawn", "(II)I"⟩
def dkwX1_drawn_1 : List UInt8 := [42, 182, 0, 229, 42, 180, 0, 36, 27, 28, 182, 1, 119, 172]
abbrev dktX1_drawn_1 : List UInt8 := dkwX1_drawn_1 ++ []
def dkwX1_drawn_0 : List UInt8 := [27, 4, 16, 60, 184, 0, 146, 154, 0, 5, 2, 172, 42, 180, 0, 36, 182, 0, 252, 153, 0, 5, 3, 172]
abbrev dktX1_drawn_0 : List UInt8 := dkwX1_drawn_0 ++ dktX1_drawn_1
theorem dksX1_drawn_0 : cX1_drawn.data.toList.drop 0 = dktX1_drawn_0 := by decide +kernel
theorem dksX1_drawn_1 : cX1_drawn.data.toList.drop 24 = dktX1_drawn_1 := dk_seg dksX1_drawn_0 24 rfl rfl
theorem dX1_drawn_0 : decode cX1_drawn 0 = .ok (.iload_n 1, 1) := dk_27 (dk_at dksX1_drawn_0 0 rfl rfl)
theorem dX1_drawn_1 : decode cX1_drawn 1 = .ok (.iconst 1, 1) := dk_4 (dk_at dksX1_drawn_0 1 rfl rfl)
theorem dX1_drawn_2 : decode cX1_drawn 2 = .ok (.bipush 60, 2) := dk_16 60 (dk_at dksX1_drawn_0 2 rfl rfl)
theorem dX1_drawn_4 : decode cX1_drawn 4 = .ok (.invokestatic 146, 3) := dk_184 0 146 (dk_at dksX1_drawn_0 4 rfl rfl)
theorem dX1_drawn_7 : decode cX1_drawn 7 = .ok (.ifCond .ne 5, 3) := dk_154 0 5 (dk_at dksX1_drawn_0 7 rfl rfl)
theorem dX1_drawn_10 : decode cX1_drawn 10 = .ok (.iconst (-1), 1) := dk_2 (dk_at dksX1_drawn_0 10 rfl rfl)
theorem dX1_drawn_11 : decode cX1_drawn 11 = .ok (.ireturn, 1) := dk_172 (dk_at dksX1_drawn_0 11 rfl rfl)
theorem dX1_drawn_12 : decode cX1_drawn 12 = .ok (.aload_n 0, 1) := dk_42 (dk_at dksX1_drawn_0 12 rfl rfl)
theorem dX1_drawn_13 : decode cX1_drawn 13 = .ok (.getfield 36, 3) := dk_180 0 36 (dk_at dksX1_drawn_0 13 rfl rfl)
theorem dX1_drawn_16 : decode cX1_drawn 16 = .ok (.invokevirtual 252, 3) := dk_182 0 252 (dk_at dksX1_drawn_0 16 rfl rfl)
theorem dX1_drawn_19 : decode cX1_drawn 19 = .ok (.ifCond .eq 5, 3) := dk_153 0 5 (dk_at dksX1_drawn_0 19 rfl rfl)
theorem dX1_drawn_22 : decode cX1_drawn 22 = .ok (.iconst 0, 1) := dk_3 (dk_at dksX1_drawn_0 22 rfl rfl)
theorem dX1_drawn_23 : decode cX1_drawn 23 = .ok (.ireturn, 1) := dk_172 (dk_at dksX1_drawn_0 23 rfl rfl)
theorem dX1_drawn_24 : decode cX1_drawn 24 = .ok (.aload_n 0, 1) := dk_42 (dk_at dksX1_drawn_1 0 rfl rfl)
theorem dX1_drawn_25 : decode cX1_drawn 25 = .ok (.invokevirtual 229, 3) := dk_182 0 229 (dk_at dksX1_drawn_1 1 rfl rfl)
theorem dX1_drawn_28 : decode cX1_drawn 28 = .ok (.aload_n 0, 1) := dk_42 (dk_at dksX1_drawn_1 4 rfl rfl)
theorem dX1_drawn_29 : decode cX1_drawn 29 = .ok (.getfield 36, 3) := dk_180 0 36 (dk_at dksX1_drawn_1 5 rfl rfl)
theorem dX1_drawn_32 : decode cX1_drawn 32 = .ok (.iload_n 1, 1) := dk_27 (dk_at dksX1_drawn_1 8 rfl rfl)
theorem dX1_drawn_33 : decode cX1_drawn 33 = .ok (.iload_n 2, 1) := dk_28 (dk_at dksX1_drawn_1 9 rfl rfl)
theorem dX1_drawn_34 : decode cX1_drawn 34 = .ok (.invokevirtual 375, 3) := dk_182 1 119 (dk_at dksX1_drawn_1 10 rfl rfl)
theorem dX1_drawn_37 : decode cX1_drawn 37 = .ok (.ireturn, 1) := dk_172 (dk_at dksX1_drawn_1 13 rfl rfl)
abbrev cX1_odds : ByteArray := prog_1_method_53_code
def yX1_odds : MethodName := ⟨RX1, "odds", "(III)I"⟩
def dkwX1_odds_3 : List UInt8 := [164, 0, 6, 132, 4, 1, 132, 5, 1, 167, 255, 202, 21, 4, 172]
abbrev dktX1_odds_3 : List UInt8 := dkwX1_odds_3 ++ []
def dkwX1_odds_2 : List UInt8 := [96, 182, 1, 119, 87, 42, 180, 0, 40, 180, 0, 154, 27, 46, 42, 180, 0, 36, 180, 0, 154, 27, 46]
abbrev dktX1_odds_2 : List UInt8 := dkwX1_odds_2 ++ dktX1_odds_3
def dkwX1_odds_1 : List UInt8 := [54, 5, 21, 5, 28, 162, 0, 54, 42, 180, 0, 40, 42, 180, 0, 36, 182, 0, 220, 16, 10, 29, 21, 5]
abbrev dktX1_odds_1 : List UInt8 := dkwX1_odds_1 ++ dktX1_odds_2
def dkwX1_odds_0 : List UInt8 := [42, 27, 182, 0, 145, 153, 0, 13, 28, 4, 16, 30, 184, 0, 146, 154, 0, 5, 2, 172, 3, 54, 4, 3]
abbrev dktX1_odds_0 : List UInt8 := dkwX1_odds_0 ++ dktX1_odds_1
theorem dksX1_odds_0 : cX1_odds.data.toList.drop 0 = dktX1_odds_0 := by decide +kernel
theorem dksX1_odds_1 : cX1_odds.data.toList.drop 24 = dktX1_odds_1 := dk_seg dksX1_odds_0 24 rfl rfl
theorem dksX1_odds_2 : cX1_odds.data.toList.drop 48 = dktX1_odds_2 := dk_seg dksX1_odds_1 24 rfl rfl
theorem dksX1_odds_3 : cX1_odds.data.toList.drop 71 = dktX1_odds_3 := dk_seg dksX1_odds_2 23 rfl rfl
theorem dX1_odds_0 : decode cX1_odds 0 = .ok (.aload_n 0, 1) := dk_42 (dk_at dksX1_odds_0 0 rfl rfl)
theorem dX1_odds_1 : decode cX1_odds 1 = .ok (.iload_n 1, 1) := dk_27 (dk_at dksX1_odds_0 1 rfl rfl)
theorem dX1_odds_2 : decode cX1_odds 2 = .ok (.invokevirtual 145, 3) := dk_182 0 145 (dk_at dksX1_odds_0 2 rfl rfl)
theorem dX1_odds_5 : decode cX1_odds 5 = .ok (.ifCond .eq 13, 3) := dk_153 0 13 (dk_at dksX1_odds_0 5 rfl rfl)
theorem dX1_odds_8 : decode cX1_odds 8 = .ok (.iload_n 2, 1) := dk_28 (dk_at dksX1_odds_0 8 rfl rfl)
theorem dX1_odds_9 : decode cX1_odds 9 = .ok (.iconst 1, 1) := dk_4 (dk_at dksX1_odds_0 9 rfl rfl)
theorem dX1_odds_10 : decode cX1_odds 10 = .ok (.bipush 30, 2) := dk_16 30 (dk_at dksX1_odds_0 10 rfl rfl)
theorem dX1_odds_12 : decode cX1_odds 12 = .ok (.invokestatic 146, 3) := dk_184 0 146 (dk_at dksX1_odds_0 12 rfl rfl)
theorem dX1_odds_15 : decode cX1_odds 15 = .ok (.ifCond .ne 5, 3) := dk_154 0 5 (dk_at dksX1_odds_0 15 rfl rfl)
theorem dX1_odds_18 : decode cX1_odds 18 = .ok (.iconst (-1), 1) := dk_2 (dk_at dksX1_odds_0 18 rfl rfl)
theorem dX1_odds_19 : decode cX1_odds 19 = .ok (.ireturn, 1) := dk_172 (dk_at dksX1_odds_0 19 rfl rfl)
theorem dX1_odds_20 : decode cX1_odds 20 = .ok (.iconst 0, 1) := dk_3 (dk_at dksX1_odds_0 20 rfl rfl)
theorem dX1_odds_21 : decode cX1_odds 21 = .ok (.istore 4, 2) := dk_54 4 (dk_at dksX1_odds_0 21 rfl rfl)
theorem dX1_odds_23 : decode cX1_odds 23 = .ok (.iconst 0, 1) := dk_3 (dk_at dksX1_odds_0 23 rfl rfl)
theorem dX1_odds_24 : decode cX1_odds 24 = .ok (.istore 5, 2) := dk_54 5 (dk_at dksX1_odds_1 0 rfl rfl)
theorem dX1_odds_26 : decode cX1_odds 26 = .ok (.iload 5, 2) := dk_21 5 (dk_at dksX1_odds_1 2 rfl rfl)
theorem dX1_odds_28 : decode cX1_odds 28 = .ok (.iload_n 2, 1) := dk_28 (dk_at dksX1_odds_1 4 rfl rfl)
theorem dX1_odds_29 : decode cX1_odds 29 = .ok (.if_icmp .ge 54, 3) := dk_162 0 54 (dk_at dksX1_odds_1 5 rfl rfl)
theorem dX1_odds_32 : decode cX1_odds 32 = .ok (.aload_n 0, 1) := dk_42 (dk_at dksX1_odds_1 8 rfl rfl)
theorem dX1_odds_33 : decode cX1_odds 33 = .ok (.getfield 40, 3) := dk_180 0 40 (dk_at dksX1_odds_1 9 rfl rfl)
theorem dX1_odds_36 : decode cX1_odds 36 = .ok (.aload_n 0, 1) := dk_42 (dk_at dksX1_odds_1 12 rfl rfl)
theorem dX1_odds_37 : decode cX1_odds 37 = .ok (.getfield 36, 3) := dk_180 0 36 (dk_at dksX1_odds_1 13 rfl rfl)
theorem dX1_odds_40 : decode cX1_odds 40 = .ok (.invokevirtual 220, 3) := dk_182 0 220 (dk_at dksX1_odds_1 16 rfl rfl)
theorem dX1_odds_43 : decode cX1_odds 43 = .ok (.bipush 10, 2) := dk_16 10 (dk_at dksX1_odds_1 19 rfl rfl)
theorem dX1_odds_45 : decode cX1_odds 45 = .ok (.iload_n 3, 1) := dk_29 (dk_at dksX1_odds_1 21 rfl rfl)
theorem dX1_odds_46 : decode cX1_odds 46 = .ok (.iload 5, 2) := dk_21 5 (dk_at dksX1_odds_1 22 rfl rfl)
theorem dX1_odds_48 : decode cX1_odds 48 = .ok (.iadd, 1) := dk_96 (dk_at dksX1_odds_2 0 rfl rfl)
theorem dX1_odds_49 : decode cX1_odds 49 = .ok (.invokevirtual 375, 3) := dk_182 1 119 (dk_at dksX1_odds_2 1 rfl rfl)
theorem dX1_odds_52 : decode cX1_odds 52 = .ok (.pop, 1) := dk_87 (dk_at dksX1_odds_2 4 rfl rfl)
theorem dX1_odds_53 : decode cX1_odds 53 = .ok (.aload_n 0, 1) := dk_42 (dk_at dksX1_odds_2 5 rfl rfl)
theorem dX1_odds_54 : decode cX1_odds 54 = .ok (.getfield 40, 3) := dk_180 0 40 (dk_at dksX1_odds_2 6 rfl rfl)
theorem dX1_odds_57 : decode cX1_odds 57 = .ok (.getfield 154, 3) := dk_180 0 154 (dk_at dksX1_odds_2 9 rfl rfl)
theorem dX1_odds_60 : decode cX1_odds 60 = .ok (.iload_n 1, 1) := dk_27 (dk_at dksX1_odds_2 12 rfl rfl)
theorem dX1_odds_61 : decode cX1_odds 61 = .ok (.iaload, 1) := dk_46 (dk_at dksX1_odds_2 13 rfl rfl)
theorem dX1_odds_62 : decode cX1_odds 62 = .ok (.aload_n 0, 1) := dk_42 (dk_at dksX1_odds_2 14 rfl rfl)
theorem dX1_odds_63 : decode cX1_odds 63 = .ok (.getfield 36, 3) := dk_180 0 36 (dk_at dksX1_odds_2 15 rfl rfl)
theorem dX1_odds_66 : decode cX1_odds 66 = .ok (.getfield 154, 3) := dk_180 0 154 (dk_at dksX1_odds_2 18 rfl rfl)
theorem dX1_odds_69 : decode cX1_odds 69 = .ok (.iload_n 1, 1) := dk_27 (dk_at dksX1_odds_2 21 rfl rfl)
theorem dX1_odds_70 : decode cX1_odds 70 = .ok (.iaload, 1) := dk_46 (dk_at dksX1_odds_2 22 rfl rfl)
theorem dX1_odds_71 : decode cX1_odds 71 = .ok (.if_icmp .le 6, 3) := dk_164 0 6 (dk_at dksX1_odds_3 0 rfl rfl)
theorem dX1_odds_74 : decode cX1_odds 74 = .ok (.iinc 4 1, 3) := dk_132 4 1 (dk_at dksX1_odds_3 3 rfl rfl)
theorem dX1_odds_77 : decode cX1_odds 77 = .ok (.iinc 5 1, 3) := dk_132 5 1 (dk_at dksX1_odds_3 6 rfl rfl)
theorem dX1_odds_80 : decode cX1_odds 80 = .ok (.goto (-54), 3) := dk_167 255 202 (dk_at dksX1_odds_3 9 rfl rfl)
theorem dX1_odds_83 : decode cX1_odds 83 = .ok (.iload 4, 2) := dk_21 4 (dk_at dksX1_odds_3 12 rfl rfl)
theorem dX1_odds_85 : decode cX1_odds 85 = .ok (.ireturn, 1) := dk_172 (dk_at dksX1_odds_3 14 rfl rfl)
abbrev cX1_book : ByteArray := prog_1_method_54_code
def yX1_book : MethodName := ⟨RX1, "book", "(I)I"⟩
def dkwX1_book_3 : List UInt8 := [100, 172]
abbrev dktX1_book_3 : List UInt8 := dkwX1_book_3 ++ []
def dkwX1_book_2 : List UInt8 := [4, 167, 0, 4, 3, 182, 1, 130, 172, 78, 42, 45, 180, 0, 121, 181, 0, 97, 16, 254, 45, 180, 0, 124]
abbrev dktX1_book_2 : List UInt8 := dkwX1_book_2 ++ dktX1_book_3
def dkwX1_book_1 : List UInt8 := [187, 1, 122, 89, 42, 180, 0, 18, 28, 42, 180, 0, 25, 183, 1, 124, 182, 1, 127, 27, 4, 160, 0, 7]
abbrev dktX1_book_1 : List UInt8 := dkwX1_book_1 ++ dktX1_book_2
def dkwX1_book_0 : List UInt8 := [27, 3, 4, 184, 0, 146, 154, 0, 7, 17, 252, 24, 172, 42, 182, 0, 93, 61, 42, 3, 181, 0, 97, 42]
abbrev dktX1_book_0 : List UInt8 := dkwX1_book_0 ++ dktX1_book_1
theorem dksX1_book_0 : cX1_book.data.toList.drop 0 = dktX1_book_0 := by decide +kernel
theorem dksX1_book_1 : cX1_book.data.toList.drop 24 = dktX1_book_1 := dk_seg dksX1_book_0 24 rfl rfl
theorem dksX1_book_2 : cX1_book.data.toList.drop 48 = dktX1_book_2 := dk_seg dksX1_book_1 24 rfl rfl
theorem dksX1_book_3 : cX1_book.data.toList.drop 72 = dktX1_book_3 := dk_seg dksX1_book_2 24 rfl rfl
theorem dX1_book_0 : decode cX1_book 0 = .ok (.iload_n 1, 1) := dk_27 (dk_at dksX1_book_0 0 rfl rfl)
theorem dX1_book_1 : decode cX1_book 1 = .ok (.iconst 0, 1) := dk_3 (dk_at dksX1_book_0 1 rfl rfl)
theorem dX1_book_2 : decode cX1_book 2 = .ok (.iconst 1, 1) := dk_4 (dk_at dksX1_book_0 2 rfl rfl)
theorem dX1_book_3 : decode cX1_book 3 = .ok (.invokestatic 146, 3) := dk_184 0 146 (dk_at dksX1_book_0 3 rfl rfl)
theorem dX1_book_6 : decode cX1_book 6 = .ok (.ifCond .ne 7, 3) := dk_154 0 7 (dk_at dksX1_book_0 6 rfl rfl)
theorem dX1_book_9 : decode cX1_book 9 = .ok (.sipush (-1000), 3) := dk_17 252 24 (dk_at dksX1_book_0 9 rfl rfl)
theorem dX1_book_12 : decode cX1_book 12 = .ok (.ireturn, 1) := dk_172 (dk_at dksX1_book_0 12 rfl rfl)
theorem dX1_book_13 : decode cX1_book 13 = .ok (.aload_n 0, 1) := dk_42 (dk_at dksX1_book_0 13 rfl rfl)
theorem dX1_book_14 : decode cX1_book 14 = .ok (.invokevirtual 93, 3) := dk_182 0 93 (dk_at dksX1_book_0 14 rfl rfl)
theorem dX1_book_17 : decode cX1_book 17 = .ok (.istore_n 2, 1) := dk_61 (dk_at dksX1_book_0 17 rfl rfl)
theorem dX1_book_18 : decode cX1_book 18 = .ok (.aload_n 0, 1) := dk_42 (dk_at dksX1_book_0 18 rfl rfl)
theorem dX1_book_19 : decode cX1_book 19 = .ok (.iconst 0, 1) := dk_3 (dk_at dksX1_book_0 19 rfl rfl)
theorem dX1_book_20 : decode cX1_book 20 = .ok (.putfield 97, 3) := dk_181 0 97 (dk_at dksX1_book_0 20 rfl rfl)
theorem dX1_book_23 : decode cX1_book 23 = .ok (.aload_n 0, 1) := dk_42 (dk_at dksX1_book_0 23 rfl rfl)
theorem dX1_book_24 : decode cX1_book 24 = .ok (.new 378, 3) := dk_187 1 122 (dk_at dksX1_book_1 0 rfl rfl)
theorem dX1_book_27 : decode cX1_book 27 = .ok (.dup, 1) := dk_89 (dk_at dksX1_book_1 3 rfl rfl)
theorem dX1_book_28 : decode cX1_book 28 = .ok (.aload_n 0, 1) := dk_42 (dk_at dksX1_book_1 4 rfl rfl)
theorem dX1_book_29 : decode cX1_book 29 = .ok (.getfield 18, 3) := dk_180 0 18 (dk_at dksX1_book_1 5 rfl rfl)
theorem dX1_book_32 : decode cX1_book 32 = .ok (.iload_n 2, 1) := dk_28 (dk_at dksX1_book_1 8 rfl rfl)
theorem dX1_book_33 : decode cX1_book 33 = .ok (.aload_n 0, 1) := dk_42 (dk_at dksX1_book_1 9 rfl rfl)
theorem dX1_book_34 : decode cX1_book 34 = .ok (.getfield 25, 3) := dk_180 0 25 (dk_at dksX1_book_1 10 rfl rfl)
theorem dX1_book_37 : decode cX1_book 37 = .ok (.invokespecial 380, 3) := dk_183 1 124 (dk_at dksX1_book_1 13 rfl rfl)
theorem dX1_book_40 : decode cX1_book 40 = .ok (.invokevirtual 383, 3) := dk_182 1 127 (dk_at dksX1_book_1 16 rfl rfl)
theorem dX1_book_43 : decode cX1_book 43 = .ok (.iload_n 1, 1) := dk_27 (dk_at dksX1_book_1 19 rfl rfl)
theorem dX1_book_44 : decode cX1_book 44 = .ok (.iconst 1, 1) := dk_4 (dk_at dksX1_book_1 20 rfl rfl)
theorem dX1_book_45 : decode cX1_book 45 = .ok (.if_icmp .ne 7, 3) := dk_160 0 7 (dk_at dksX1_book_1 21 rfl rfl)
theorem dX1_book_48 : decode cX1_book 48 = .ok (.iconst 1, 1) := dk_4 (dk_at dksX1_book_2 0 rfl rfl)
theorem dX1_book_49 : decode cX1_book 49 = .ok (.goto 4, 3) := dk_167 0 4 (dk_at dksX1_book_2 1 rfl rfl)
theorem dX1_book_52 : decode cX1_book 52 = .ok (.iconst 0, 1) := dk_3 (dk_at dksX1_book_2 4 rfl rfl)
theorem dX1_book_53 : decode cX1_book 53 = .ok (.invokevirtual 386, 3) := dk_182 1 130 (dk_at dksX1_book_2 5 rfl rfl)
theorem dX1_book_56 : decode cX1_book 56 = .ok (.ireturn, 1) := dk_172 (dk_at dksX1_book_2 8 rfl rfl)
theorem dX1_book_57 : decode cX1_book 57 = .ok (.astore_n 3, 1) := dk_78 (dk_at dksX1_book_2 9 rfl rfl)
theorem dX1_book_58 : decode cX1_book 58 = .ok (.aload_n 0, 1) := dk_42 (dk_at dksX1_book_2 10 rfl rfl)
theorem dX1_book_59 : decode cX1_book 59 = .ok (.aload_n 3, 1) := dk_45 (dk_at dksX1_book_2 11 rfl rfl)
theorem dX1_book_60 : decode cX1_book 60 = .ok (.getfield 121, 3) := dk_180 0 121 (dk_at dksX1_book_2 12 rfl rfl)
theorem dX1_book_63 : decode cX1_book 63 = .ok (.putfield 97, 3) := dk_181 0 97 (dk_at dksX1_book_2 15 rfl rfl)
theorem dX1_book_66 : decode cX1_book 66 = .ok (.bipush (-2), 2) := dk_16 254 (dk_at dksX1_book_2 18 rfl rfl)
theorem dX1_book_68 : decode cX1_book 68 = .ok (.aload_n 3, 1) := dk_45 (dk_at dksX1_book_2 20 rfl rfl)
theorem dX1_book_69 : decode cX1_book 69 = .ok (.getfield 124, 3) := dk_180 0 124 (dk_at dksX1_book_2 21 rfl rfl)
theorem dX1_book_72 : decode cX1_book 72 = .ok (.isub, 1) := dk_100 (dk_at dksX1_book_3 0 rfl rfl)
theorem dX1_book_73 : decode cX1_book 73 = .ok (.ireturn, 1) := dk_172 (dk_at dksX1_book_3 1 rfl rfl)
abbrev cX1_lived : ByteArray := prog_1_method_55_code
def yX1_lived : MethodName := ⟨RX1, "lived", "(Ljava/util/ArrayList;Z)I"⟩
def dkwX1_lived_5 : List UInt8 := [180, 0, 40, 182, 0, 220, 87, 29, 154, 0, 7, 2, 167, 0, 5, 21, 4, 172]
abbrev dktX1_lived_5 : List UInt8 := dkwX1_lived_5 ++ []
def dkwX1_lived_4 : List UInt8 := [182, 0, 200, 79, 28, 153, 0, 24, 21, 4, 158, 0, 19, 42, 182, 0, 229, 42, 180, 0, 36, 42]
abbrev dktX1_lived_4 : List UInt8 := dkwX1_lived_4 ++ dktX1_lived_5
def dkwX1_lived_3 : List UInt8 := [79, 42, 180, 0, 76, 5, 42, 180, 0, 40, 180, 0, 197, 79, 42, 180, 0, 76, 6, 42, 42, 180, 0, 40]
abbrev dktX1_lived_3 : List UInt8 := dkwX1_lived_3 ++ dktX1_lived_4
def dkwX1_lived_2 : List UInt8 := [29, 154, 255, 225, 132, 4, 1, 167, 255, 219, 42, 180, 0, 76, 3, 29, 79, 42, 180, 0, 76, 4, 21, 4]
abbrev dktX1_lived_2 : List UInt8 := dkwX1_lived_2 ++ dktX1_lived_3
def dkwX1_lived_1 : List UInt8 := [162, 0, 34, 29, 154, 0, 30, 43, 21, 4, 182, 1, 134, 192, 0, 225, 42, 180, 0, 40, 182, 0, 224, 62]
abbrev dktX1_lived_1 : List UInt8 := dkwX1_lived_1 ++ dktX1_lived_2
def dkwX1_lived_0 : List UInt8 := [42, 180, 0, 40, 42, 180, 0, 36, 182, 0, 220, 87, 3, 62, 3, 54, 4, 21, 4, 43, 182, 0, 138]
abbrev dktX1_lived_0 : List UInt8 := dkwX1_lived_0 ++ dktX1_lived_1
theorem dksX1_lived_0 : cX1_lived.data.toList.drop 0 = dktX1_lived_0 := by decide +kernel
theorem dksX1_lived_1 : cX1_lived.data.toList.drop 23 = dktX1_lived_1 := dk_seg dksX1_lived_0 23 rfl rfl
theorem dksX1_lived_2 : cX1_lived.data.toList.drop 47 = dktX1_lived_2 := dk_seg dksX1_lived_1 24 rfl rfl
theorem dksX1_lived_3 : cX1_lived.data.toList.drop 71 = dktX1_lived_3 := dk_seg dksX1_lived_2 24 rfl rfl
theorem dksX1_lived_4 : cX1_lived.data.toList.drop 95 = dktX1_lived_4 := dk_seg dksX1_lived_3 24 rfl rfl
theorem dksX1_lived_5 : cX1_lived.data.toList.drop 117 = dktX1_lived_5 := dk_seg dksX1_lived_4 22 rfl rfl
theorem dX1_lived_0 : decode cX1_lived 0 = .ok (.aload_n 0, 1) := dk_42 (dk_at dksX1_lived_0 0 rfl rfl)
theorem dX1_lived_1 : decode cX1_lived 1 = .ok (.getfield 40, 3) := dk_180 0 40 (dk_at dksX1_lived_0 1 rfl rfl)
theorem dX1_lived_4 : decode cX1_lived 4 = .ok (.aload_n 0, 1) := dk_42 (dk_at dksX1_lived_0 4 rfl rfl)
theorem dX1_lived_5 : decode cX1_lived 5 = .ok (.getfield 36, 3) := dk_180 0 36 (dk_at dksX1_lived_0 5 rfl rfl)
theorem dX1_lived_8 : decode cX1_lived 8 = .ok (.invokevirtual 220, 3) := dk_182 0 220 (dk_at dksX1_lived_0 8 rfl rfl)
theorem dX1_lived_11 : decode cX1_lived 11 = .ok (.pop, 1) := dk_87 (dk_at dksX1_lived_0 11 rfl rfl)
theorem dX1_lived_12 : decode cX1_lived 12 = .ok (.iconst 0, 1) := dk_3 (dk_at dksX1_lived_0 12 rfl rfl)
theorem dX1_lived_13 : decode cX1_lived 13 = .ok (.istore_n 3, 1) := dk_62 (dk_at dksX1_lived_0 13 rfl rfl)
theorem dX1_lived_14 : decode cX1_lived 14 = .ok (.iconst 0, 1) := dk_3 (dk_at dksX1_lived_0 14 rfl rfl)
theorem dX1_lived_15 : decode cX1_lived 15 = .ok (.istore 4, 2) := dk_54 4 (dk_at dksX1_lived_0 15 rfl rfl)
theorem dX1_lived_17 : decode cX1_lived 17 = .ok (.iload 4, 2) := dk_21 4 (dk_at dksX1_lived_0 17 rfl rfl)
theorem dX1_lived_19 : decode cX1_lived 19 = .ok (.aload_n 1, 1) := dk_43 (dk_at dksX1_lived_0 19 rfl rfl)
theorem dX1_lived_20 : decode cX1_lived 20 = .ok (.invokevirtual 138, 3) := dk_182 0 138 (dk_at dksX1_lived_0 20 rfl rfl)
theorem dX1_lived_23 : decode cX1_lived 23 = .ok (.if_icmp .ge 34, 3) := dk_162 0 34 (dk_at dksX1_lived_1 0 rfl rfl)
theorem dX1_lived_26 : decode cX1_lived 26 = .ok (.iload_n 3, 1) := dk_29 (dk_at dksX1_lived_1 3 rfl rfl)
theorem dX1_lived_27 : decode cX1_lived 27 = .ok (.ifCond .ne 30, 3) := dk_154 0 30 (dk_at dksX1_lived_1 4 rfl rfl)
theorem dX1_lived_30 : decode cX1_lived 30 = .ok (.aload_n 1, 1) := dk_43 (dk_at dksX1_lived_1 7 rfl rfl)
theorem dX1_lived_31 : decode cX1_lived 31 = .ok (.iload 4, 2) := dk_21 4 (dk_at dksX1_lived_1 8 rfl rfl)
theorem dX1_lived_33 : decode cX1_lived 33 = .ok (.invokevirtual 390, 3) := dk_182 1 134 (dk_at dksX1_lived_1 10 rfl rfl)
theorem dX1_lived_36 : decode cX1_lived 36 = .ok (.checkcast 225, 3) := dk_192 0 225 (dk_at dksX1_lived_1 13 rfl rfl)
theorem dX1_lived_39 : decode cX1_lived 39 = .ok (.aload_n 0, 1) := dk_42 (dk_at dksX1_lived_1 16 rfl rfl)
theorem dX1_lived_40 : decode cX1_lived 40 = .ok (.getfield 40, 3) := dk_180 0 40 (dk_at dksX1_lived_1 17 rfl rfl)
theorem dX1_lived_43 : decode cX1_lived 43 = .ok (.invokevirtual 224, 3) := dk_182 0 224 (dk_at dksX1_lived_1 20 rfl rfl)
theorem dX1_lived_46 : decode cX1_lived 46 = .ok (.istore_n 3, 1) := dk_62 (dk_at dksX1_lived_1 23 rfl rfl)
theorem dX1_lived_47 : decode cX1_lived 47 = .ok (.iload_n 3, 1) := dk_29 (dk_at dksX1_lived_2 0 rfl rfl)
theorem dX1_lived_48 : decode cX1_lived 48 = .ok (.ifCond .ne (-31), 3) := dk_154 255 225 (dk_at dksX1_lived_2 1 rfl rfl)
theorem dX1_lived_51 : decode cX1_lived 51 = .ok (.iinc 4 1, 3) := dk_132 4 1 (dk_at dksX1_lived_2 4 rfl rfl)
theorem dX1_lived_54 : decode cX1_lived 54 = .ok (.goto (-37), 3) := dk_167 255 219 (dk_at dksX1_lived_2 7 rfl rfl)
theorem dX1_lived_57 : decode cX1_lived 57 = .ok (.aload_n 0, 1) := dk_42 (dk_at dksX1_lived_2 10 rfl rfl)
theorem dX1_lived_58 : decode cX1_lived 58 = .ok (.getfield 76, 3) := dk_180 0 76 (dk_at dksX1_lived_2 11 rfl rfl)
theorem dX1_lived_61 : decode cX1_lived 61 = .ok (.iconst 0, 1) := dk_3 (dk_at dksX1_lived_2 14 rfl rfl)
theorem dX1_lived_62 : decode cX1_lived 62 = .ok (.iload_n 3, 1) := dk_29 (dk_at dksX1_lived_2 15 rfl rfl)
theorem dX1_lived_63 : decode cX1_lived 63 = .ok (.iastore, 1) := dk_79 (dk_at dksX1_lived_2 16 rfl rfl)
theorem dX1_lived_64 : decode cX1_lived 64 = .ok (.aload_n 0, 1) := dk_42 (dk_at dksX1_lived_2 17 rfl rfl)
theorem dX1_lived_65 : decode cX1_lived 65 = .ok (.getfield 76, 3) := dk_180 0 76 (dk_at dksX1_lived_2 18 rfl rfl)
theorem dX1_lived_68 : decode cX1_lived 68 = .ok (.iconst 1, 1) := dk_4 (dk_at dksX1_lived_2 21 rfl rfl)
theorem dX1_lived_69 : decode cX1_lived 69 = .ok (.iload 4, 2) := dk_21 4 (dk_at dksX1_lived_2 22 rfl rfl)
theorem dX1_lived_71 : decode cX1_lived 71 = .ok (.iastore, 1) := dk_79 (dk_at dksX1_lived_3 0 rfl rfl)
theorem dX1_lived_72 : decode cX1_lived 72 = .ok (.aload_n 0, 1) := dk_42 (dk_at dksX1_lived_3 1 rfl rfl)
theorem dX1_lived_73 : decode cX1_lived 73 = .ok (.getfield 76, 3) := dk_180 0 76 (dk_at dksX1_lived_3 2 rfl rfl)
theorem dX1_lived_76 : decode cX1_lived 76 = .ok (.iconst 2, 1) := dk_5 (dk_at dksX1_lived_3 5 rfl rfl)
theorem dX1_lived_77 : decode cX1_lived 77 = .ok (.aload_n 0, 1) := dk_42 (dk_at dksX1_lived_3 6 rfl rfl)
theorem dX1_lived_78 : decode cX1_lived 78 = .ok (.getfield 40, 3) := dk_180 0 40 (dk_at dksX1_lived_3 7 rfl rfl)
theorem dX1_lived_81 : decode cX1_lived 81 = .ok (.getfield 197, 3) := dk_180 0 197 (dk_at dksX1_lived_3 10 rfl rfl)
theorem dX1_lived_84 : decode cX1_lived 84 = .ok (.iastore, 1) := dk_79 (dk_at dksX1_lived_3 13 rfl rfl)
theorem dX1_lived_85 : decode cX1_lived 85 = .ok (.aload_n 0, 1) := dk_42 (dk_at dksX1_lived_3 14 rfl rfl)
theorem dX1_lived_86 : decode cX1_lived 86 = .ok (.getfield 76, 3) := dk_180 0 76 (dk_at dksX1_lived_3 15 rfl rfl)
theorem dX1_lived_89 : decode cX1_lived 89 = .ok (.iconst 3, 1) := dk_6 (dk_at dksX1_lived_3 18 rfl rfl)
theorem dX1_lived_90 : decode cX1_lived 90 = .ok (.aload_n 0, 1) := dk_42 (dk_at dksX1_lived_3 19 rfl rfl)
theorem dX1_lived_91 : decode cX1_lived 91 = .ok (.aload_n 0, 1) := dk_42 (dk_at dksX1_lived_3 20 rfl rfl)
theorem dX1_lived_92 : decode cX1_lived 92 = .ok (.getfield 40, 3) := dk_180 0 40 (dk_at dksX1_lived_3 21 rfl rfl)
theorem dX1_lived_95 : decode cX1_lived 95 = .ok (.invokevirtual 200, 3) := dk_182 0 200 (dk_at dksX1_lived_4 0 rfl rfl)
theorem dX1_lived_98 : decode cX1_lived 98 = .ok (.iastore, 1) := dk_79 (dk_at dksX1_lived_4 3 rfl rfl)
theorem dX1_lived_99 : decode cX1_lived 99 = .ok (.iload_n 2, 1) := dk_28 (dk_at dksX1_lived_4 4 rfl rfl)
theorem dX1_lived_100 : decode cX1_lived 100 = .ok (.ifCond .eq 24, 3) := dk_153 0 24 (dk_at dksX1_lived_4 5 rfl rfl)
theorem dX1_lived_103 : decode cX1_lived 103 = .ok (.iload 4, 2) := dk_21 4 (dk_at dksX1_lived_4 8 rfl rfl)
theorem dX1_lived_105 : decode cX1_lived 105 = .ok (.ifCond .le 19, 3) := dk_158 0 19 (dk_at dksX1_lived_4 10 rfl rfl)
theorem dX1_lived_108 : decode cX1_lived 108 = .ok (.aload_n 0, 1) := dk_42 (dk_at dksX1_lived_4 13 rfl rfl)
theorem dX1_lived_109 : decode cX1_lived 109 = .ok (.invokevirtual 229, 3) := dk_182 0 229 (dk_at dksX1_lived_4 14 rfl rfl)
theorem dX1_lived_112 : decode cX1_lived 112 = .ok (.aload_n 0, 1) := dk_42 (dk_at dksX1_lived_4 17 rfl rfl)
theorem dX1_lived_113 : decode cX1_lived 113 = .ok (.getfield 36, 3) := dk_180 0 36 (dk_at dksX1_lived_4 18 rfl rfl)
theorem dX1_lived_116 : decode cX1_lived 116 = .ok (.aload_n 0, 1) := dk_42 (dk_at dksX1_lived_4 21 rfl rfl)
theorem dX1_lived_117 : decode cX1_lived 117 = .ok (.getfield 40, 3) := dk_180 0 40 (dk_at dksX1_lived_5 0 rfl rfl)
theorem dX1_lived_120 : decode cX1_lived 120 = .ok (.invokevirtual 220, 3) := dk_182 0 220 (dk_at dksX1_lived_5 3 rfl rfl)
theorem dX1_lived_123 : decode cX1_lived 123 = .ok (.pop, 1) := dk_87 (dk_at dksX1_lived_5 6 rfl rfl)
theorem dX1_lived_124 : decode cX1_lived 124 = .ok (.iload_n 3, 1) := dk_29 (dk_at dksX1_lived_5 7 rfl rfl)
theorem dX1_lived_125 : decode cX1_lived 125 = .ok (.ifCond .ne 7, 3) := dk_154 0 7 (dk_at dksX1_lived_5 8 rfl rfl)
theorem dX1_lived_128 : decode cX1_lived 128 = .ok (.iconst (-1), 1) := dk_2 (dk_at dksX1_lived_5 11 rfl rfl)
theorem dX1_lived_129 : decode cX1_lived 129 = .ok (.goto 5, 3) := dk_167 0 5 (dk_at dksX1_lived_5 12 rfl rfl)
theorem dX1_lived_132 : decode cX1_lived 132 = .ok (.iload 4, 2) := dk_21 4 (dk_at dksX1_lived_5 15 rfl rfl)
theorem dX1_lived_134 : decode cX1_lived 134 = .ok (.ireturn, 1) := dk_172 (dk_at dksX1_lived_5 17 rfl rfl)
abbrev cX1_told : ByteArray := prog_1_method_56_code
def yX1_told : MethodName := ⟨RX1, "told", "(I)I"⟩
def dkwX1_told_0 : List UInt8 := [27, 3, 6, 184, 0, 146, 153, 0, 12, 42, 180, 0, 76, 27, 46, 167, 0, 4, 2, 172]
abbrev dktX1_told_0 : List UInt8 := dkwX1_told_0 ++ []
theorem dksX1_told_0 : cX1_told.data.toList.drop 0 = dktX1_told_0 := by decide +kernel
theorem dX1_told_0 : decode cX1_told 0 = .ok (.iload_n 1, 1) := dk_27 (dk_at dksX1_told_0 0 rfl rfl)
theorem dX1_told_1 : decode cX1_told 1 = .ok (.iconst 0, 1) := dk_3 (dk_at dksX1_told_0 1 rfl rfl)
theorem dX1_told_2 : decode cX1_told 2 = .ok (.iconst 3, 1) := dk_6 (dk_at dksX1_told_0 2 rfl rfl)
theorem dX1_told_3 : decode cX1_told 3 = .ok (.invokestatic 146, 3) := dk_184 0 146 (dk_at dksX1_told_0 3 rfl rfl)
theorem dX1_told_6 : decode cX1_told 6 = .ok (.ifCond .eq 12, 3) := dk_153 0 12 (dk_at dksX1_told_0 6 rfl rfl)
theorem dX1_told_9 : decode cX1_told 9 = .ok (.aload_n 0, 1) := dk_42 (dk_at dksX1_told_0 9 rfl rfl)
theorem dX1_told_10 : decode cX1_told 10 = .ok (.getfield 76, 3) := dk_180 0 76 (dk_at dksX1_told_0 10 rfl rfl)
theorem dX1_told_13 : decode cX1_told 13 = .ok (.iload_n 1, 1) := dk_27 (dk_at dksX1_told_0 13 rfl rfl)
theorem dX1_told_14 : decode cX1_told 14 = .ok (.iaload, 1) := dk_46 (dk_at dksX1_told_0 14 rfl rfl)
theorem dX1_told_15 : decode cX1_told 15 = .ok (.goto 4, 3) := dk_167 0 4 (dk_at dksX1_told_0 15 rfl rfl)
theorem dX1_told_18 : decode cX1_told 18 = .ok (.iconst (-1), 1) := dk_2 (dk_at dksX1_told_0 18 rfl rfl)
theorem dX1_told_19 : decode cX1_told 19 = .ok (.ireturn, 1) := dk_172 (dk_at dksX1_told_0 19 rfl rfl)
abbrev cX1_sentence : ByteArray := prog_1_method_57_code
def yX1_sentence : MethodName := ⟨RX1, "sentence", "()I"⟩
def dkwX1_sentence_2 : List UInt8 := [181, 0, 97, 2, 44, 180, 0, 124, 100, 172]
abbrev dktX1_sentence_2 : List UInt8 := dkwX1_sentence_2 ++ []
def dkwX1_sentence_1 : List UInt8 := [183, 1, 140, 77, 42, 44, 182, 1, 141, 181, 0, 109, 44, 180, 1, 144, 172, 77, 42, 44, 180, 0, 121]
abbrev dktX1_sentence_1 : List UInt8 := dkwX1_sentence_1 ++ dktX1_sentence_2
def dkwX1_sentence_0 : List UInt8 := [42, 182, 0, 93, 60, 42, 3, 181, 0, 97, 187, 1, 138, 89, 42, 180, 0, 18, 27, 42, 180, 0, 25]
abbrev dktX1_sentence_0 : List UInt8 := dkwX1_sentence_0 ++ dktX1_sentence_1
theorem dksX1_sentence_0 : cX1_sentence.data.toList.drop 0 = dktX1_sentence_0 := by decide +kernel
theorem dksX1_sentence_1 : cX1_sentence.data.toList.drop 23 = dktX1_sentence_1 := dk_seg dksX1_sentence_0 23 rfl rfl
theorem dksX1_sentence_2 : cX1_sentence.data.toList.drop 46 = dktX1_sentence_2 := dk_seg dksX1_sentence_1 23 rfl rfl
theorem dX1_sentence_0 : decode cX1_sentence 0 = .ok (.aload_n 0, 1) := dk_42 (dk_at dksX1_sentence_0 0 rfl rfl)
theorem dX1_sentence_1 : decode cX1_sentence 1 = .ok (.invokevirtual 93, 3) := dk_182 0 93 (dk_at dksX1_sentence_0 1 rfl rfl)
theorem dX1_sentence_4 : decode cX1_sentence 4 = .ok (.istore_n 1, 1) := dk_60 (dk_at dksX1_sentence_0 4 rfl rfl)
theorem dX1_sentence_5 : decode cX1_sentence 5 = .ok (.aload_n 0, 1) := dk_42 (dk_at dksX1_sentence_0 5 rfl rfl)
theorem dX1_sentence_6 : decode cX1_sentence 6 = .ok (.iconst 0, 1) := dk_3 (dk_at dksX1_sentence_0 6 rfl rfl)
theorem dX1_sentence_7 : decode cX1_sentence 7 = .ok (.putfield 97, 3) := dk_181 0 97 (dk_at dksX1_sentence_0 7 rfl rfl)
theorem dX1_sentence_10 : decode cX1_sentence 10 = .ok (.new 394, 3) := dk_187 1 138 (dk_at dksX1_sentence_0 10 rfl rfl)
theorem dX1_sentence_13 : decode cX1_sentence 13 = .ok (.dup, 1) := dk_89 (dk_at dksX1_sentence_0 13 rfl rfl)
theorem dX1_sentence_14 : decode cX1_sentence 14 = .ok (.aload_n 0, 1) := dk_42 (dk_at dksX1_sentence_0 14 rfl rfl)
theorem dX1_sentence_15 : decode cX1_sentence 15 = .ok (.getfield 18, 3) := dk_180 0 18 (dk_at dksX1_sentence_0 15 rfl rfl)
theorem dX1_sentence_18 : decode cX1_sentence 18 = .ok (.iload_n 1, 1) := dk_27 (dk_at dksX1_sentence_0 18 rfl rfl)
theorem dX1_sentence_19 : decode cX1_sentence 19 = .ok (.aload_n 0, 1) := dk_42 (dk_at dksX1_sentence_0 19 rfl rfl)
theorem dX1_sentence_20 : decode cX1_sentence 20 = .ok (.getfield 25, 3) := dk_180 0 25 (dk_at dksX1_sentence_0 20 rfl rfl)
theorem dX1_sentence_23 : decode cX1_sentence 23 = .ok (.invokespecial 396, 3) := dk_183 1 140 (dk_at dksX1_sentence_1 0 rfl rfl)
theorem dX1_sentence_26 : decode cX1_sentence 26 = .ok (.astore_n 2, 1) := dk_77 (dk_at dksX1_sentence_1 3 rfl rfl)
theorem dX1_sentence_27 : decode cX1_sentence 27 = .ok (.aload_n 0, 1) := dk_42 (dk_at dksX1_sentence_1 4 rfl rfl)
theorem dX1_sentence_28 : decode cX1_sentence 28 = .ok (.aload_n 2, 1) := dk_44 (dk_at dksX1_sentence_1 5 rfl rfl)
theorem dX1_sentence_29 : decode cX1_sentence 29 = .ok (.invokevirtual 397, 3) := dk_182 1 141 (dk_at dksX1_sentence_1 6 rfl rfl)
theorem dX1_sentence_32 : decode cX1_sentence 32 = .ok (.putfield 109, 3) := dk_181 0 109 (dk_at dksX1_sentence_1 9 rfl rfl)
theorem dX1_sentence_35 : decode cX1_sentence 35 = .ok (.aload_n 2, 1) := dk_44 (dk_at dksX1_sentence_1 12 rfl rfl)
theorem dX1_sentence_36 : decode cX1_sentence 36 = .ok (.getfield 400, 3) := dk_180 1 144 (dk_at dksX1_sentence_1 13 rfl rfl)
theorem dX1_sentence_39 : decode cX1_sentence 39 = .ok (.ireturn, 1) := dk_172 (dk_at dksX1_sentence_1 16 rfl rfl)
theorem dX1_sentence_40 : decode cX1_sentence 40 = .ok (.astore_n 2, 1) := dk_77 (dk_at dksX1_sentence_1 17 rfl rfl)
theorem dX1_sentence_41 : decode cX1_sentence 41 = .ok (.aload_n 0, 1) := dk_42 (dk_at dksX1_sentence_1 18 rfl rfl)
theorem dX1_sentence_42 : decode cX1_sentence 42 = .ok (.aload_n 2, 1) := dk_44 (dk_at dksX1_sentence_1 19 rfl rfl)
theorem dX1_sentence_43 : decode cX1_sentence 43 = .ok (.getfield 121, 3) := dk_180 0 121 (dk_at dksX1_sentence_1 20 rfl rfl)
theorem dX1_sentence_46 : decode cX1_sentence 46 = .ok (.putfield 97, 3) := dk_181 0 97 (dk_at dksX1_sentence_2 0 rfl rfl)
theorem dX1_sentence_49 : decode cX1_sentence 49 = .ok (.iconst (-1), 1) := dk_2 (dk_at dksX1_sentence_2 3 rfl rfl)
theorem dX1_sentence_50 : decode cX1_sentence 50 = .ok (.aload_n 2, 1) := dk_44 (dk_at dksX1_sentence_2 4 rfl rfl)
theorem dX1_sentence_51 : decode cX1_sentence 51 = .ok (.getfield 124, 3) := dk_180 0 124 (dk_at dksX1_sentence_2 5 rfl rfl)
theorem dX1_sentence_54 : decode cX1_sentence 54 = .ok (.isub, 1) := dk_100 (dk_at dksX1_sentence_2 8 rfl rfl)
theorem dX1_sentence_55 : decode cX1_sentence 55 = .ok (.ireturn, 1) := dk_172 (dk_at dksX1_sentence_2 9 rfl rfl)
abbrev cX1_said : ByteArray := prog_1_method_58_code
def yX1_said : MethodName := ⟨RX1, "said", "(I)I"⟩
def dkwX1_said_2 : List UInt8 := [132, 2, 1, 132, 3, 1, 167, 255, 217, 27, 2, 160, 0, 7, 28, 167, 0, 4, 2, 172]
abbrev dktX1_said_2 : List UInt8 := dkwX1_said_2 ++ []
def dkwX1_said_1 : List UInt8 := [180, 0, 109, 42, 180, 0, 36, 29, 182, 1, 147, 154, 0, 6, 167, 0, 13, 28, 27, 160, 0, 5, 29, 172]
abbrev dktX1_said_1 : List UInt8 := dkwX1_said_1 ++ dktX1_said_2
def dkwX1_said_0 : List UInt8 := [42, 180, 0, 109, 199, 0, 5, 2, 172, 3, 61, 3, 62, 29, 42, 182, 0, 143, 162, 0, 37, 42]
abbrev dktX1_said_0 : List UInt8 := dkwX1_said_0 ++ dktX1_said_1
theorem dksX1_said_0 : cX1_said.data.toList.drop 0 = dktX1_said_0 := by decide +kernel
theorem dksX1_said_1 : cX1_said.data.toList.drop 22 = dktX1_said_1 := dk_seg dksX1_said_0 22 rfl rfl
theorem dksX1_said_2 : cX1_said.data.toList.drop 46 = dktX1_said_2 := dk_seg dksX1_said_1 24 rfl rfl
theorem dX1_said_0 : decode cX1_said 0 = .ok (.aload_n 0, 1) := dk_42 (dk_at dksX1_said_0 0 rfl rfl)
theorem dX1_said_1 : decode cX1_said 1 = .ok (.getfield 109, 3) := dk_180 0 109 (dk_at dksX1_said_0 1 rfl rfl)
theorem dX1_said_4 : decode cX1_said 4 = .ok (.ifnonnull 5, 3) := dk_199 0 5 (dk_at dksX1_said_0 4 rfl rfl)
theorem dX1_said_7 : decode cX1_said 7 = .ok (.iconst (-1), 1) := dk_2 (dk_at dksX1_said_0 7 rfl rfl)
theorem dX1_said_8 : decode cX1_said 8 = .ok (.ireturn, 1) := dk_172 (dk_at dksX1_said_0 8 rfl rfl)
theorem dX1_said_9 : decode cX1_said 9 = .ok (.iconst 0, 1) := dk_3 (dk_at dksX1_said_0 9 rfl rfl)
theorem dX1_said_10 : decode cX1_said 10 = .ok (.istore_n 2, 1) := dk_61 (dk_at dksX1_said_0 10 rfl rfl)
theorem dX1_said_11 : decode cX1_said 11 = .ok (.iconst 0, 1) := dk_3 (dk_at dksX1_said_0 11 rfl rfl)
theorem dX1_said_12 : decode cX1_said 12 = .ok (.istore_n 3, 1) := dk_62 (dk_at dksX1_said_0 12 rfl rfl)
theorem dX1_said_13 : decode cX1_said 13 = .ok (.iload_n 3, 1) := dk_29 (dk_at dksX1_said_0 13 rfl rfl)
theorem dX1_said_14 : decode cX1_said 14 = .ok (.aload_n 0, 1) := dk_42 (dk_at dksX1_said_0 14 rfl rfl)
theorem dX1_said_15 : decode cX1_said 15 = .ok (.invokevirtual 143, 3) := dk_182 0 143 (dk_at dksX1_said_0 15 rfl rfl)
theorem dX1_said_18 : decode cX1_said 18 = .ok (.if_icmp .ge 37, 3) := dk_162 0 37 (dk_at dksX1_said_0 18 rfl rfl)
theorem dX1_said_21 : decode cX1_said 21 = .ok (.aload_n 0, 1) := dk_42 (dk_at dksX1_said_0 21 rfl rfl)
theorem dX1_said_22 : decode cX1_said 22 = .ok (.getfield 109, 3) := dk_180 0 109 (dk_at dksX1_said_1 0 rfl rfl)
theorem dX1_said_25 : decode cX1_said 25 = .ok (.aload_n 0, 1) := dk_42 (dk_at dksX1_said_1 3 rfl rfl)
theorem dX1_said_26 : decode cX1_said 26 = .ok (.getfield 36, 3) := dk_180 0 36 (dk_at dksX1_said_1 4 rfl rfl)
theorem dX1_said_29 : decode cX1_said 29 = .ok (.iload_n 3, 1) := dk_29 (dk_at dksX1_said_1 7 rfl rfl)
theorem dX1_said_30 : decode cX1_said 30 = .ok (.invokevirtual 403, 3) := dk_182 1 147 (dk_at dksX1_said_1 8 rfl rfl)
theorem dX1_said_33 : decode cX1_said 33 = .ok (.ifCond .ne 6, 3) := dk_154 0 6 (dk_at dksX1_said_1 11 rfl rfl)
theorem dX1_said_36 : decode cX1_said 36 = .ok (.goto 13, 3) := dk_167 0 13 (dk_at dksX1_said_1 14 rfl rfl)
theorem dX1_said_39 : decode cX1_said 39 = .ok (.iload_n 2, 1) := dk_28 (dk_at dksX1_said_1 17 rfl rfl)
theorem dX1_said_40 : decode cX1_said 40 = .ok (.iload_n 1, 1) := dk_27 (dk_at dksX1_said_1 18 rfl rfl)
theorem dX1_said_41 : decode cX1_said 41 = .ok (.if_icmp .ne 5, 3) := dk_160 0 5 (dk_at dksX1_said_1 19 rfl rfl)
theorem dX1_said_44 : decode cX1_said 44 = .ok (.iload_n 3, 1) := dk_29 (dk_at dksX1_said_1 22 rfl rfl)
theorem dX1_said_45 : decode cX1_said 45 = .ok (.ireturn, 1) := dk_172 (dk_at dksX1_said_1 23 rfl rfl)
theorem dX1_said_46 : decode cX1_said 46 = .ok (.iinc 2 1, 3) := dk_132 2 1 (dk_at dksX1_said_2 0 rfl rfl)
theorem dX1_said_49 : decode cX1_said 49 = .ok (.iinc 3 1, 3) := dk_132 3 1 (dk_at dksX1_said_2 3 rfl rfl)
theorem dX1_said_52 : decode cX1_said 52 = .ok (.goto (-39), 3) := dk_167 255 217 (dk_at dksX1_said_2 6 rfl rfl)
theorem dX1_said_55 : decode cX1_said 55 = .ok (.iload_n 1, 1) := dk_27 (dk_at dksX1_said_2 9 rfl rfl)
theorem dX1_said_56 : decode cX1_said 56 = .ok (.iconst (-1), 1) := dk_2 (dk_at dksX1_said_2 10 rfl rfl)
theorem dX1_said_57 : decode cX1_said 57 = .ok (.if_icmp .ne 7, 3) := dk_160 0 7 (dk_at dksX1_said_2 11 rfl rfl)
theorem dX1_said_60 : decode cX1_said 60 = .ok (.iload_n 2, 1) := dk_28 (dk_at dksX1_said_2 14 rfl rfl)
theorem dX1_said_61 : decode cX1_said 61 = .ok (.goto 4, 3) := dk_167 0 4 (dk_at dksX1_said_2 15 rfl rfl)
theorem dX1_said_64 : decode cX1_said 64 = .ok (.iconst (-1), 1) := dk_2 (dk_at dksX1_said_2 18 rfl rfl)
theorem dX1_said_65 : decode cX1_said 65 = .ok (.ireturn, 1) := dk_172 (dk_at dksX1_said_2 19 rfl rfl)
abbrev cX1_image : ByteArray := prog_1_method_59_code
def yX1_image : MethodName := ⟨RX1, "image", "(I)Z"⟩
def dkwX1_image_2 : List UInt8 := [180, 0, 36, 182, 0, 220, 87, 4, 172]
abbrev dktX1_image_2 : List UInt8 := dkwX1_image_2 ++ []
def dkwX1_image_1 : List UInt8 := [42, 180, 0, 82, 27, 50, 42, 180, 0, 109, 181, 1, 154, 42, 180, 0, 82, 27, 50, 180, 1, 155, 42]
abbrev dktX1_image_1 : List UInt8 := dkwX1_image_1 ++ dktX1_image_2
def dkwX1_image_0 : List UInt8 := [27, 3, 4, 184, 0, 146, 154, 0, 5, 3, 172, 42, 180, 0, 82, 27, 50, 42, 180, 0, 25, 181, 1, 153]
abbrev dktX1_image_0 : List UInt8 := dkwX1_image_0 ++ dktX1_image_1
theorem dksX1_image_0 : cX1_image.data.toList.drop 0 = dktX1_image_0 := by decide +kernel
theorem dksX1_image_1 : cX1_image.data.toList.drop 24 = dktX1_image_1 := dk_seg dksX1_image_0 24 rfl rfl
theorem dksX1_image_2 : cX1_image.data.toList.drop 47 = dktX1_image_2 := dk_seg dksX1_image_1 23 rfl rfl
theorem dX1_image_0 : decode cX1_image 0 = .ok (.iload_n 1, 1) := dk_27 (dk_at dksX1_image_0 0 rfl rfl)
theorem dX1_image_1 : decode cX1_image 1 = .ok (.iconst 0, 1) := dk_3 (dk_at dksX1_image_0 1 rfl rfl)
theorem dX1_image_2 : decode cX1_image 2 = .ok (.iconst 1, 1) := dk_4 (dk_at dksX1_image_0 2 rfl rfl)
theorem dX1_image_3 : decode cX1_image 3 = .ok (.invokestatic 146, 3) := dk_184 0 146 (dk_at dksX1_image_0 3 rfl rfl)
theorem dX1_image_6 : decode cX1_image 6 = .ok (.ifCond .ne 5, 3) := dk_154 0 5 (dk_at dksX1_image_0 6 rfl rfl)
theorem dX1_image_9 : decode cX1_image 9 = .ok (.iconst 0, 1) := dk_3 (dk_at dksX1_image_0 9 rfl rfl)
theorem dX1_image_10 : decode cX1_image 10 = .ok (.ireturn, 1) := dk_172 (dk_at dksX1_image_0 10 rfl rfl)
theorem dX1_image_11 : decode cX1_image 11 = .ok (.aload_n 0, 1) := dk_42 (dk_at dksX1_image_0 11 rfl rfl)
theorem dX1_image_12 : decode cX1_image 12 = .ok (.getfield 82, 3) := dk_180 0 82 (dk_at dksX1_image_0 12 rfl rfl)
theorem dX1_image_15 : decode cX1_image 15 = .ok (.iload_n 1, 1) := dk_27 (dk_at dksX1_image_0 15 rfl rfl)
theorem dX1_image_16 : decode cX1_image 16 = .ok (.aaload, 1) := dk_50 (dk_at dksX1_image_0 16 rfl rfl)
theorem dX1_image_17 : decode cX1_image 17 = .ok (.aload_n 0, 1) := dk_42 (dk_at dksX1_image_0 17 rfl rfl)
theorem dX1_image_18 : decode cX1_image 18 = .ok (.getfield 25, 3) := dk_180 0 25 (dk_at dksX1_image_0 18 rfl rfl)
theorem dX1_image_21 : decode cX1_image 21 = .ok (.putfield 409, 3) := dk_181 1 153 (dk_at dksX1_image_0 21 rfl rfl)
theorem dX1_image_24 : decode cX1_image 24 = .ok (.aload_n 0, 1) := dk_42 (dk_at dksX1_image_1 0 rfl rfl)
theorem dX1_image_25 : decode cX1_image 25 = .ok (.getfield 82, 3) := dk_180 0 82 (dk_at dksX1_image_1 1 rfl rfl)
theorem dX1_image_28 : decode cX1_image 28 = .ok (.iload_n 1, 1) := dk_27 (dk_at dksX1_image_1 4 rfl rfl)
theorem dX1_image_29 : decode cX1_image 29 = .ok (.aaload, 1) := dk_50 (dk_at dksX1_image_1 5 rfl rfl)
theorem dX1_image_30 : decode cX1_image 30 = .ok (.aload_n 0, 1) := dk_42 (dk_at dksX1_image_1 6 rfl rfl)
theorem dX1_image_31 : decode cX1_image 31 = .ok (.getfield 109, 3) := dk_180 0 109 (dk_at dksX1_image_1 7 rfl rfl)
theorem dX1_image_34 : decode cX1_image 34 = .ok (.putfield 410, 3) := dk_181 1 154 (dk_at dksX1_image_1 10 rfl rfl)
theorem dX1_image_37 : decode cX1_image 37 = .ok (.aload_n 0, 1) := dk_42 (dk_at dksX1_image_1 13 rfl rfl)
theorem dX1_image_38 : decode cX1_image 38 = .ok (.getfield 82, 3) := dk_180 0 82 (dk_at dksX1_image_1 14 rfl rfl)
theorem dX1_image_41 : decode cX1_image 41 = .ok (.iload_n 1, 1) := dk_27 (dk_at dksX1_image_1 17 rfl rfl)
theorem dX1_image_42 : decode cX1_image 42 = .ok (.aaload, 1) := dk_50 (dk_at dksX1_image_1 18 rfl rfl)
theorem dX1_image_43 : decode cX1_image 43 = .ok (.getfield 411, 3) := dk_180 1 155 (dk_at dksX1_image_1 19 rfl rfl)
theorem dX1_image_46 : decode cX1_image 46 = .ok (.aload_n 0, 1) := dk_42 (dk_at dksX1_image_1 22 rfl rfl)
theorem dX1_image_47 : decode cX1_image 47 = .ok (.getfield 36, 3) := dk_180 0 36 (dk_at dksX1_image_2 0 rfl rfl)
theorem dX1_image_50 : decode cX1_image 50 = .ok (.invokevirtual 220, 3) := dk_182 0 220 (dk_at dksX1_image_2 3 rfl rfl)
theorem dX1_image_53 : decode cX1_image 53 = .ok (.pop, 1) := dk_87 (dk_at dksX1_image_2 6 rfl rfl)
theorem dX1_image_54 : decode cX1_image 54 = .ok (.iconst 1, 1) := dk_4 (dk_at dksX1_image_2 7 rfl rfl)
theorem dX1_image_55 : decode cX1_image 55 = .ok (.ireturn, 1) := dk_172 (dk_at dksX1_image_2 8 rfl rfl)
abbrev cX1_restore : ByteArray := prog_1_method_60_code
def yX1_restore : MethodName := ⟨RX1, "restore", "(I)Z"⟩
def dkwX1_restore_3 : List UInt8 := [181, 0, 113, 4, 172]
abbrev dktX1_restore_3 : List UInt8 := dkwX1_restore_3 ++ []
def dkwX1_restore_2 : List UInt8 := [181, 0, 109, 42, 180, 0, 36, 42, 180, 0, 82, 27, 50, 180, 1, 155, 182, 0, 220, 87, 42, 3]
abbrev dktX1_restore_2 : List UInt8 := dkwX1_restore_2 ++ dktX1_restore_3
def dkwX1_restore_1 : List UInt8 := [42, 180, 0, 82, 27, 50, 180, 1, 153, 181, 0, 25, 42, 42, 180, 0, 82, 27, 50, 180, 1, 154]
abbrev dktX1_restore_1 : List UInt8 := dkwX1_restore_1 ++ dktX1_restore_2
def dkwX1_restore_0 : List UInt8 := [27, 3, 4, 184, 0, 146, 153, 0, 15, 42, 180, 0, 82, 27, 50, 180, 1, 153, 199, 0, 5, 3, 172, 42]
abbrev dktX1_restore_0 : List UInt8 := dkwX1_restore_0 ++ dktX1_restore_1
theorem dksX1_restore_0 : cX1_restore.data.toList.drop 0 = dktX1_restore_0 := by decide +kernel
theorem dksX1_restore_1 : cX1_restore.data.toList.drop 24 = dktX1_restore_1 := dk_seg dksX1_restore_0 24 rfl rfl
theorem dksX1_restore_2 : cX1_restore.data.toList.drop 46 = dktX1_restore_2 := dk_seg dksX1_restore_1 22 rfl rfl
theorem dksX1_restore_3 : cX1_restore.data.toList.drop 68 = dktX1_restore_3 := dk_seg dksX1_restore_2 22 rfl rfl
theorem dX1_restore_0 : decode cX1_restore 0 = .ok (.iload_n 1, 1) := dk_27 (dk_at dksX1_restore_0 0 rfl rfl)
theorem dX1_restore_1 : decode cX1_restore 1 = .ok (.iconst 0, 1) := dk_3 (dk_at dksX1_restore_0 1 rfl rfl)
theorem dX1_restore_2 : decode cX1_restore 2 = .ok (.iconst 1, 1) := dk_4 (dk_at dksX1_restore_0 2 rfl rfl)
theorem dX1_restore_3 : decode cX1_restore 3 = .ok (.invokestatic 146, 3) := dk_184 0 146 (dk_at dksX1_restore_0 3 rfl rfl)
theorem dX1_restore_6 : decode cX1_restore 6 = .ok (.ifCond .eq 15, 3) := dk_153 0 15 (dk_at dksX1_restore_0 6 rfl rfl)
theorem dX1_restore_9 : decode cX1_restore 9 = .ok (.aload_n 0, 1) := dk_42 (dk_at dksX1_restore_0 9 rfl rfl)
theorem dX1_restore_10 : decode cX1_restore 10 = .ok (.getfield 82, 3) := dk_180 0 82 (dk_at dksX1_restore_0 10 rfl rfl)
theorem dX1_restore_13 : decode cX1_restore 13 = .ok (.iload_n 1, 1) := dk_27 (dk_at dksX1_restore_0 13 rfl rfl)
theorem dX1_restore_14 : decode cX1_restore 14 = .ok (.aaload, 1) := dk_50 (dk_at dksX1_restore_0 14 rfl rfl)
theorem dX1_restore_15 : decode cX1_restore 15 = .ok (.getfield 409, 3) := dk_180 1 153 (dk_at dksX1_restore_0 15 rfl rfl)
theorem dX1_restore_18 : decode cX1_restore 18 = .ok (.ifnonnull 5, 3) := dk_199 0 5 (dk_at dksX1_restore_0 18 rfl rfl)
theorem dX1_restore_21 : decode cX1_restore 21 = .ok (.iconst 0, 1) := dk_3 (dk_at dksX1_restore_0 21 rfl rfl)
theorem dX1_restore_22 : decode cX1_restore 22 = .ok (.ireturn, 1) := dk_172 (dk_at dksX1_restore_0 22 rfl rfl)
theorem dX1_restore_23 : decode cX1_restore 23 = .ok (.aload_n 0, 1) := dk_42 (dk_at dksX1_restore_0 23 rfl rfl)
theorem dX1_restore_24 : decode cX1_restore 24 = .ok (.aload_n 0, 1) := dk_42 (dk_at dksX1_restore_1 0 rfl rfl)
theorem dX1_restore_25 : decode cX1_restore 25 = .ok (.getfield 82, 3) := dk_180 0 82 (dk_at dksX1_restore_1 1 rfl rfl)
theorem dX1_restore_28 : decode cX1_restore 28 = .ok (.iload_n 1, 1) := dk_27 (dk_at dksX1_restore_1 4 rfl rfl)
theorem dX1_restore_29 : decode cX1_restore 29 = .ok (.aaload, 1) := dk_50 (dk_at dksX1_restore_1 5 rfl rfl)
theorem dX1_restore_30 : decode cX1_restore 30 = .ok (.getfield 409, 3) := dk_180 1 153 (dk_at dksX1_restore_1 6 rfl rfl)
theorem dX1_restore_33 : decode cX1_restore 33 = .ok (.putfield 25, 3) := dk_181 0 25 (dk_at dksX1_restore_1 9 rfl rfl)
theorem dX1_restore_36 : decode cX1_restore 36 = .ok (.aload_n 0, 1) := dk_42 (dk_at dksX1_restore_1 12 rfl rfl)
theorem dX1_restore_37 : decode cX1_restore 37 = .ok (.aload_n 0, 1) := dk_42 (dk_at dksX1_restore_1 13 rfl rfl)
theorem dX1_restore_38 : decode cX1_restore 38 = .ok (.getfield 82, 3) := dk_180 0 82 (dk_at dksX1_restore_1 14 rfl rfl)
theorem dX1_restore_41 : decode cX1_restore 41 = .ok (.iload_n 1, 1) := dk_27 (dk_at dksX1_restore_1 17 rfl rfl)
theorem dX1_restore_42 : decode cX1_restore 42 = .ok (.aaload, 1) := dk_50 (dk_at dksX1_restore_1 18 rfl rfl)
theorem dX1_restore_43 : decode cX1_restore 43 = .ok (.getfield 410, 3) := dk_180 1 154 (dk_at dksX1_restore_1 19 rfl rfl)
theorem dX1_restore_46 : decode cX1_restore 46 = .ok (.putfield 109, 3) := dk_181 0 109 (dk_at dksX1_restore_2 0 rfl rfl)
theorem dX1_restore_49 : decode cX1_restore 49 = .ok (.aload_n 0, 1) := dk_42 (dk_at dksX1_restore_2 3 rfl rfl)
theorem dX1_restore_50 : decode cX1_restore 50 = .ok (.getfield 36, 3) := dk_180 0 36 (dk_at dksX1_restore_2 4 rfl rfl)
theorem dX1_restore_53 : decode cX1_restore 53 = .ok (.aload_n 0, 1) := dk_42 (dk_at dksX1_restore_2 7 rfl rfl)
theorem dX1_restore_54 : decode cX1_restore 54 = .ok (.getfield 82, 3) := dk_180 0 82 (dk_at dksX1_restore_2 8 rfl rfl)
theorem dX1_restore_57 : decode cX1_restore 57 = .ok (.iload_n 1, 1) := dk_27 (dk_at dksX1_restore_2 11 rfl rfl)
theorem dX1_restore_58 : decode cX1_restore 58 = .ok (.aaload, 1) := dk_50 (dk_at dksX1_restore_2 12 rfl rfl)
theorem dX1_restore_59 : decode cX1_restore 59 = .ok (.getfield 411, 3) := dk_180 1 155 (dk_at dksX1_restore_2 13 rfl rfl)
theorem dX1_restore_62 : decode cX1_restore 62 = .ok (.invokevirtual 220, 3) := dk_182 0 220 (dk_at dksX1_restore_2 16 rfl rfl)
theorem dX1_restore_65 : decode cX1_restore 65 = .ok (.pop, 1) := dk_87 (dk_at dksX1_restore_2 19 rfl rfl)
theorem dX1_restore_66 : decode cX1_restore 66 = .ok (.aload_n 0, 1) := dk_42 (dk_at dksX1_restore_2 20 rfl rfl)
theorem dX1_restore_67 : decode cX1_restore 67 = .ok (.iconst 0, 1) := dk_3 (dk_at dksX1_restore_2 21 rfl rfl)
theorem dX1_restore_68 : decode cX1_restore 68 = .ok (.putfield 113, 3) := dk_181 0 113 (dk_at dksX1_restore_3 0 rfl rfl)
theorem dX1_restore_71 : decode cX1_restore 71 = .ok (.iconst 1, 1) := dk_4 (dk_at dksX1_restore_3 3 rfl rfl)
theorem dX1_restore_72 : decode cX1_restore 72 = .ok (.ireturn, 1) := dk_172 (dk_at dksX1_restore_3 4 rfl rfl)
abbrev cX1_count : ByteArray := prog_1_method_61_code
def yX1_count : MethodName := ⟨RX1, "count", "(I)I"⟩
def dkwX1_count_3 : List UInt8 := [42, 180, 0, 25, 180, 1, 161, 172, 42, 180, 0, 25, 180, 1, 162, 172, 42, 180, 0, 86, 172, 2, 172]
abbrev dktX1_count_3 : List UInt8 := dkwX1_count_3 ++ []
def dkwX1_count_2 : List UInt8 := [42, 182, 0, 143, 172, 42, 180, 0, 25, 180, 1, 158, 182, 0, 138, 172, 42, 180, 0, 25, 180, 1, 10, 172]
abbrev dktX1_count_2 : List UInt8 := dkwX1_count_2 ++ dktX1_count_3
def dkwX1_count_1 : List UInt8 := [170, 0, 0, 0, 0, 0, 84, 0, 0, 0, 0, 0, 0, 0, 5, 0, 0, 0, 39, 0, 0, 0, 44, 0, 0, 0, 55, 0, 0, 0, 63, 0, 0, 0, 71, 0, 0, 0, 79]
abbrev dktX1_count_1 : List UInt8 := dkwX1_count_1 ++ dktX1_count_2
def dkwX1_count_0 : List UInt8 := [27]
abbrev dktX1_count_0 : List UInt8 := dkwX1_count_0 ++ dktX1_count_1
theorem dksX1_count_0 : cX1_count.data.toList.drop 0 = dktX1_count_0 := by decide +kernel
theorem dksX1_count_1 : cX1_count.data.toList.drop 1 = dktX1_count_1 := dk_seg dksX1_count_0 1 rfl rfl
theorem dksX1_count_2 : cX1_count.data.toList.drop 40 = dktX1_count_2 := dk_seg dksX1_count_1 39 rfl rfl
theorem dksX1_count_3 : cX1_count.data.toList.drop 64 = dktX1_count_3 := dk_seg dksX1_count_2 24 rfl rfl
theorem dX1_count_0 : decode cX1_count 0 = .ok (.iload_n 1, 1) := dk_27 (dk_at dksX1_count_0 0 rfl rfl)
theorem dX1_count_1 : decode cX1_count 1 = .ok (.tableswitch 84 0 5 #[39, 44, 55, 63, 71, 79], 39) := by decide +kernel
theorem dX1_count_40 : decode cX1_count 40 = .ok (.aload_n 0, 1) := dk_42 (dk_at dksX1_count_2 0 rfl rfl)
theorem dX1_count_41 : decode cX1_count 41 = .ok (.invokevirtual 143, 3) := dk_182 0 143 (dk_at dksX1_count_2 1 rfl rfl)
theorem dX1_count_44 : decode cX1_count 44 = .ok (.ireturn, 1) := dk_172 (dk_at dksX1_count_2 4 rfl rfl)
theorem dX1_count_45 : decode cX1_count 45 = .ok (.aload_n 0, 1) := dk_42 (dk_at dksX1_count_2 5 rfl rfl)
theorem dX1_count_46 : decode cX1_count 46 = .ok (.getfield 25, 3) := dk_180 0 25 (dk_at dksX1_count_2 6 rfl rfl)
theorem dX1_count_49 : decode cX1_count 49 = .ok (.getfield 414, 3) := dk_180 1 158 (dk_at dksX1_count_2 9 rfl rfl)
theorem dX1_count_52 : decode cX1_count 52 = .ok (.invokevirtual 138, 3) := dk_182 0 138 (dk_at dksX1_count_2 12 rfl rfl)
theorem dX1_count_55 : decode cX1_count 55 = .ok (.ireturn, 1) := dk_172 (dk_at dksX1_count_2 15 rfl rfl)
theorem dX1_count_56 : decode cX1_count 56 = .ok (.aload_n 0, 1) := dk_42 (dk_at dksX1_count_2 16 rfl rfl)
theorem dX1_count_57 : decode cX1_count 57 = .ok (.getfield 25, 3) := dk_180 0 25 (dk_at dksX1_count_2 17 rfl rfl)
theorem dX1_count_60 : decode cX1_count 60 = .ok (.getfield 266, 3) := dk_180 1 10 (dk_at dksX1_count_2 20 rfl rfl)
theorem dX1_count_63 : decode cX1_count 63 = .ok (.ireturn, 1) := dk_172 (dk_at dksX1_count_2 23 rfl rfl)
theorem dX1_count_64 : decode cX1_count 64 = .ok (.aload_n 0, 1) := dk_42 (dk_at dksX1_count_3 0 rfl rfl)
theorem dX1_count_65 : decode cX1_count 65 = .ok (.getfield 25, 3) := dk_180 0 25 (dk_at dksX1_count_3 1 rfl rfl)
theorem dX1_count_68 : decode cX1_count 68 = .ok (.getfield 417, 3) := dk_180 1 161 (dk_at dksX1_count_3 4 rfl rfl)
theorem dX1_count_71 : decode cX1_count 71 = .ok (.ireturn, 1) := dk_172 (dk_at dksX1_count_3 7 rfl rfl)
theorem dX1_count_72 : decode cX1_count 72 = .ok (.aload_n 0, 1) := dk_42 (dk_at dksX1_count_3 8 rfl rfl)
theorem dX1_count_73 : decode cX1_count 73 = .ok (.getfield 25, 3) := dk_180 0 25 (dk_at dksX1_count_3 9 rfl rfl)
theorem dX1_count_76 : decode cX1_count 76 = .ok (.getfield 418, 3) := dk_180 1 162 (dk_at dksX1_count_3 12 rfl rfl)
theorem dX1_count_79 : decode cX1_count 79 = .ok (.ireturn, 1) := dk_172 (dk_at dksX1_count_3 15 rfl rfl)
theorem dX1_count_80 : decode cX1_count 80 = .ok (.aload_n 0, 1) := dk_42 (dk_at dksX1_count_3 16 rfl rfl)
theorem dX1_count_81 : decode cX1_count 81 = .ok (.getfield 86, 3) := dk_180 0 86 (dk_at dksX1_count_3 17 rfl rfl)
theorem dX1_count_84 : decode cX1_count 84 = .ok (.ireturn, 1) := dk_172 (dk_at dksX1_count_3 20 rfl rfl)
theorem dX1_count_85 : decode cX1_count 85 = .ok (.iconst (-1), 1) := dk_2 (dk_at dksX1_count_3 21 rfl rfl)
theorem dX1_count_86 : decode cX1_count 86 = .ok (.ireturn, 1) := dk_172 (dk_at dksX1_count_3 22 rfl rfl)
abbrev cX1_person : ByteArray := prog_1_method_17_code
def yX1_person : MethodName := ⟨RX1, "person", "(II)I"⟩
def dkwX1_person_6 : List UInt8 := [46, 172, 42, 180, 0, 36, 27, 182, 0, 181, 172]
abbrev dktX1_person_6 : List UInt8 := dkwX1_person_6 ++ []
def dkwX1_person_5 : List UInt8 := [122, 4, 126, 172, 42, 180, 0, 36, 180, 0, 175, 27, 122, 4, 126, 172, 42, 180, 0, 36, 180, 0, 178, 27]
abbrev dktX1_person_5 : List UInt8 := dkwX1_person_5 ++ dktX1_person_6
def dkwX1_person_4 : List UInt8 := [182, 0, 160, 180, 0, 164, 172, 42, 180, 0, 36, 27, 182, 0, 169, 172, 42, 180, 0, 36, 180, 0, 172, 27]
abbrev dktX1_person_4 : List UInt8 := dkwX1_person_4 ++ dktX1_person_5
def dkwX1_person_3 : List UInt8 := [42, 180, 0, 36, 180, 0, 154, 27, 46, 172, 42, 180, 0, 36, 27, 182, 0, 157, 172, 42, 180, 0, 36, 27]
abbrev dktX1_person_3 : List UInt8 := dkwX1_person_3 ++ dktX1_person_4
def dkwX1_person_2 : List UInt8 := [170, 0, 0, 0, 115, 0, 0, 0, 0, 0, 0, 0, 6, 0, 0, 0, 41, 0, 0, 0, 51, 0, 0, 0, 60, 0, 0, 0, 72, 0, 0, 0, 81, 0, 0, 0, 93, 0, 0, 0, 105]
abbrev dktX1_person_2 : List UInt8 := dkwX1_person_2 ++ dktX1_person_3
def dkwX1_person_1 : List UInt8 := [184, 0, 150, 28]
abbrev dktX1_person_1 : List UInt8 := dkwX1_person_1 ++ dktX1_person_2
def dkwX1_person_0 : List UInt8 := [42, 27, 182, 0, 145, 153, 0, 17, 28, 3, 16, 7, 184, 0, 146, 153, 0, 7, 4, 167, 0, 4, 3]
abbrev dktX1_person_0 : List UInt8 := dkwX1_person_0 ++ dktX1_person_1
theorem dksX1_person_0 : cX1_person.data.toList.drop 0 = dktX1_person_0 := by decide +kernel
theorem dksX1_person_1 : cX1_person.data.toList.drop 23 = dktX1_person_1 := dk_seg dksX1_person_0 23 rfl rfl
theorem dksX1_person_2 : cX1_person.data.toList.drop 27 = dktX1_person_2 := dk_seg dksX1_person_1 4 rfl rfl
theorem dksX1_person_3 : cX1_person.data.toList.drop 68 = dktX1_person_3 := dk_seg dksX1_person_2 41 rfl rfl
theorem dksX1_person_4 : cX1_person.data.toList.drop 92 = dktX1_person_4 := dk_seg dksX1_person_3 24 rfl rfl
theorem dksX1_person_5 : cX1_person.data.toList.drop 116 = dktX1_person_5 := dk_seg dksX1_person_4 24 rfl rfl
theorem dksX1_person_6 : cX1_person.data.toList.drop 140 = dktX1_person_6 := dk_seg dksX1_person_5 24 rfl rfl
theorem dX1_person_0 : decode cX1_person 0 = .ok (.aload_n 0, 1) := dk_42 (dk_at dksX1_person_0 0 rfl rfl)
theorem dX1_person_1 : decode cX1_person 1 = .ok (.iload_n 1, 1) := dk_27 (dk_at dksX1_person_0 1 rfl rfl)
theorem dX1_person_2 : decode cX1_person 2 = .ok (.invokevirtual 145, 3) := dk_182 0 145 (dk_at dksX1_person_0 2 rfl rfl)
theorem dX1_person_5 : decode cX1_person 5 = .ok (.ifCond .eq 17, 3) := dk_153 0 17 (dk_at dksX1_person_0 5 rfl rfl)
theorem dX1_person_8 : decode cX1_person 8 = .ok (.iload_n 2, 1) := dk_28 (dk_at dksX1_person_0 8 rfl rfl)
theorem dX1_person_9 : decode cX1_person 9 = .ok (.iconst 0, 1) := dk_3 (dk_at dksX1_person_0 9 rfl rfl)
theorem dX1_person_10 : decode cX1_person 10 = .ok (.bipush 7, 2) := dk_16 7 (dk_at dksX1_person_0 10 rfl rfl)
theorem dX1_person_12 : decode cX1_person 12 = .ok (.invokestatic 146, 3) := dk_184 0 146 (dk_at dksX1_person_0 12 rfl rfl)
theorem dX1_person_15 : decode cX1_person 15 = .ok (.ifCond .eq 7, 3) := dk_153 0 7 (dk_at dksX1_person_0 15 rfl rfl)
theorem dX1_person_18 : decode cX1_person 18 = .ok (.iconst 1, 1) := dk_4 (dk_at dksX1_person_0 18 rfl rfl)
theorem dX1_person_19 : decode cX1_person 19 = .ok (.goto 4, 3) := dk_167 0 4 (dk_at dksX1_person_0 19 rfl rfl)
theorem dX1_person_22 : decode cX1_person 22 = .ok (.iconst 0, 1) := dk_3 (dk_at dksX1_person_0 22 rfl rfl)
theorem dX1_person_23 : decode cX1_person 23 = .ok (.invokestatic 150, 3) := dk_184 0 150 (dk_at dksX1_person_1 0 rfl rfl)
theorem dX1_person_26 : decode cX1_person 26 = .ok (.iload_n 2, 1) := dk_28 (dk_at dksX1_person_1 3 rfl rfl)
theorem dX1_person_27 : decode cX1_person 27 = .ok (.tableswitch 115 0 6 #[41, 51, 60, 72, 81, 93, 105], 41) := by decide +kernel
theorem dX1_person_68 : decode cX1_person 68 = .ok (.aload_n 0, 1) := dk_42 (dk_at dksX1_person_3 0 rfl rfl)
theorem dX1_person_69 : decode cX1_person 69 = .ok (.getfield 36, 3) := dk_180 0 36 (dk_at dksX1_person_3 1 rfl rfl)
theorem dX1_person_72 : decode cX1_person 72 = .ok (.getfield 154, 3) := dk_180 0 154 (dk_at dksX1_person_3 4 rfl rfl)
theorem dX1_person_75 : decode cX1_person 75 = .ok (.iload_n 1, 1) := dk_27 (dk_at dksX1_person_3 7 rfl rfl)
theorem dX1_person_76 : decode cX1_person 76 = .ok (.iaload, 1) := dk_46 (dk_at dksX1_person_3 8 rfl rfl)
theorem dX1_person_77 : decode cX1_person 77 = .ok (.ireturn, 1) := dk_172 (dk_at dksX1_person_3 9 rfl rfl)
theorem dX1_person_78 : decode cX1_person 78 = .ok (.aload_n 0, 1) := dk_42 (dk_at dksX1_person_3 10 rfl rfl)
theorem dX1_person_79 : decode cX1_person 79 = .ok (.getfield 36, 3) := dk_180 0 36 (dk_at dksX1_person_3 11 rfl rfl)
theorem dX1_person_82 : decode cX1_person 82 = .ok (.iload_n 1, 1) := dk_27 (dk_at dksX1_person_3 14 rfl rfl)
theorem dX1_person_83 : decode cX1_person 83 = .ok (.invokevirtual 157, 3) := dk_182 0 157 (dk_at dksX1_person_3 15 rfl rfl)
theorem dX1_person_86 : decode cX1_person 86 = .ok (.ireturn, 1) := dk_172 (dk_at dksX1_person_3 18 rfl rfl)
theorem dX1_person_87 : decode cX1_person 87 = .ok (.aload_n 0, 1) := dk_42 (dk_at dksX1_person_3 19 rfl rfl)
theorem dX1_person_88 : decode cX1_person 88 = .ok (.getfield 36, 3) := dk_180 0 36 (dk_at dksX1_person_3 20 rfl rfl)
theorem dX1_person_91 : decode cX1_person 91 = .ok (.iload_n 1, 1) := dk_27 (dk_at dksX1_person_3 23 rfl rfl)
theorem dX1_person_92 : decode cX1_person 92 = .ok (.invokevirtual 160, 3) := dk_182 0 160 (dk_at dksX1_person_4 0 rfl rfl)
theorem dX1_person_95 : decode cX1_person 95 = .ok (.getfield 164, 3) := dk_180 0 164 (dk_at dksX1_person_4 3 rfl rfl)
theorem dX1_person_98 : decode cX1_person 98 = .ok (.ireturn, 1) := dk_172 (dk_at dksX1_person_4 6 rfl rfl)
theorem dX1_person_99 : decode cX1_person 99 = .ok (.aload_n 0, 1) := dk_42 (dk_at dksX1_person_4 7 rfl rfl)
theorem dX1_person_100 : decode cX1_person 100 = .ok (.getfield 36, 3) := dk_180 0 36 (dk_at dksX1_person_4 8 rfl rfl)
theorem dX1_person_103 : decode cX1_person 103 = .ok (.iload_n 1, 1) := dk_27 (dk_at dksX1_person_4 11 rfl rfl)
theorem dX1_person_104 : decode cX1_person 104 = .ok (.invokevirtual 169, 3) := dk_182 0 169 (dk_at dksX1_person_4 12 rfl rfl)
theorem dX1_person_107 : decode cX1_person 107 = .ok (.ireturn, 1) := dk_172 (dk_at dksX1_person_4 15 rfl rfl)
theorem dX1_person_108 : decode cX1_person 108 = .ok (.aload_n 0, 1) := dk_42 (dk_at dksX1_person_4 16 rfl rfl)
theorem dX1_person_109 : decode cX1_person 109 = .ok (.getfield 36, 3) := dk_180 0 36 (dk_at dksX1_person_4 17 rfl rfl)
theorem dX1_person_112 : decode cX1_person 112 = .ok (.getfield 172, 3) := dk_180 0 172 (dk_at dksX1_person_4 20 rfl rfl)
theorem dX1_person_115 : decode cX1_person 115 = .ok (.iload_n 1, 1) := dk_27 (dk_at dksX1_person_4 23 rfl rfl)
theorem dX1_person_116 : decode cX1_person 116 = .ok (.ishr, 1) := dk_122 (dk_at dksX1_person_5 0 rfl rfl)
theorem dX1_person_117 : decode cX1_person 117 = .ok (.iconst 1, 1) := dk_4 (dk_at dksX1_person_5 1 rfl rfl)
theorem dX1_person_118 : decode cX1_person 118 = .ok (.iand, 1) := dk_126 (dk_at dksX1_person_5 2 rfl rfl)
theorem dX1_person_119 : decode cX1_person 119 = .ok (.ireturn, 1) := dk_172 (dk_at dksX1_person_5 3 rfl rfl)
theorem dX1_person_120 : decode cX1_person 120 = .ok (.aload_n 0, 1) := dk_42 (dk_at dksX1_person_5 4 rfl rfl)
theorem dX1_person_121 : decode cX1_person 121 = .ok (.getfield 36, 3) := dk_180 0 36 (dk_at dksX1_person_5 5 rfl rfl)
theorem dX1_person_124 : decode cX1_person 124 = .ok (.getfield 175, 3) := dk_180 0 175 (dk_at dksX1_person_5 8 rfl rfl)
theorem dX1_person_127 : decode cX1_person 127 = .ok (.iload_n 1, 1) := dk_27 (dk_at dksX1_person_5 11 rfl rfl)
theorem dX1_person_128 : decode cX1_person 128 = .ok (.ishr, 1) := dk_122 (dk_at dksX1_person_5 12 rfl rfl)
theorem dX1_person_129 : decode cX1_person 129 = .ok (.iconst 1, 1) := dk_4 (dk_at dksX1_person_5 13 rfl rfl)
theorem dX1_person_130 : decode cX1_person 130 = .ok (.iand, 1) := dk_126 (dk_at dksX1_person_5 14 rfl rfl)
theorem dX1_person_131 : decode cX1_person 131 = .ok (.ireturn, 1) := dk_172 (dk_at dksX1_person_5 15 rfl rfl)
theorem dX1_person_132 : decode cX1_person 132 = .ok (.aload_n 0, 1) := dk_42 (dk_at dksX1_person_5 16 rfl rfl)
theorem dX1_person_133 : decode cX1_person 133 = .ok (.getfield 36, 3) := dk_180 0 36 (dk_at dksX1_person_5 17 rfl rfl)
theorem dX1_person_136 : decode cX1_person 136 = .ok (.getfield 178, 3) := dk_180 0 178 (dk_at dksX1_person_5 20 rfl rfl)
theorem dX1_person_139 : decode cX1_person 139 = .ok (.iload_n 1, 1) := dk_27 (dk_at dksX1_person_5 23 rfl rfl)
theorem dX1_person_140 : decode cX1_person 140 = .ok (.iaload, 1) := dk_46 (dk_at dksX1_person_6 0 rfl rfl)
theorem dX1_person_141 : decode cX1_person 141 = .ok (.ireturn, 1) := dk_172 (dk_at dksX1_person_6 1 rfl rfl)
theorem dX1_person_142 : decode cX1_person 142 = .ok (.aload_n 0, 1) := dk_42 (dk_at dksX1_person_6 2 rfl rfl)
theorem dX1_person_143 : decode cX1_person 143 = .ok (.getfield 36, 3) := dk_180 0 36 (dk_at dksX1_person_6 3 rfl rfl)
theorem dX1_person_146 : decode cX1_person 146 = .ok (.iload_n 1, 1) := dk_27 (dk_at dksX1_person_6 6 rfl rfl)
theorem dX1_person_147 : decode cX1_person 147 = .ok (.invokevirtual 181, 3) := dk_182 0 181 (dk_at dksX1_person_6 7 rfl rfl)
theorem dX1_person_150 : decode cX1_person 150 = .ok (.ireturn, 1) := dk_172 (dk_at dksX1_person_6 10 rfl rfl)
abbrev cX1_need : ByteArray := prog_1_method_4_code
def yX1_need : MethodName := ⟨RX1, "need", "(Z)V"⟩
def dkwX1_need_0 : List UInt8 := [26, 154, 0, 11, 187, 0, 7, 89, 183, 0, 9, 191, 177]
abbrev dktX1_need_0 : List UInt8 := dkwX1_need_0 ++ []
theorem dksX1_need_0 : cX1_need.data.toList.drop 0 = dktX1_need_0 := by decide +kernel
theorem dX1_need_0 : decode cX1_need 0 = .ok (.iload_n 0, 1) := dk_26 (dk_at dksX1_need_0 0 rfl rfl)
theorem dX1_need_1 : decode cX1_need 1 = .ok (.ifCond .ne 11, 3) := dk_154 0 11 (dk_at dksX1_need_0 1 rfl rfl)
theorem dX1_need_4 : decode cX1_need 4 = .ok (.new 7, 3) := dk_187 0 7 (dk_at dksX1_need_0 4 rfl rfl)
theorem dX1_need_7 : decode cX1_need 7 = .ok (.dup, 1) := dk_89 (dk_at dksX1_need_0 7 rfl rfl)
theorem dX1_need_8 : decode cX1_need 8 = .ok (.invokespecial 9, 3) := dk_183 0 9 (dk_at dksX1_need_0 8 rfl rfl)
theorem dX1_need_11 : decode cX1_need 11 = .ok (.athrow, 1) := dk_191 (dk_at dksX1_need_0 11 rfl rfl)
theorem dX1_need_12 : decode cX1_need 12 = .ok (.return_, 1) := dk_177 (dk_at dksX1_need_0 12 rfl rfl)
abbrev cX10_init : ByteArray := prog_17_method_1_code
def yX10_init : MethodName := ⟨RX10, "<init>", "(Ljava/lang/String;I)V"⟩
def dkwX10_init_1 : List UInt8 := [181, 0, 18, 42, 28, 181, 0, 21, 42, 180, 0, 15, 2, 184, 0, 25, 177]
abbrev dktX10_init_1 : List UInt8 := dkwX10_init_1 ++ []
def dkwX10_init_0 : List UInt8 := [42, 43, 183, 0, 3, 42, 8, 188, 10, 181, 0, 9, 42, 8, 188, 10, 181, 0, 15, 42, 8, 188, 10]
abbrev dktX10_init_0 : List UInt8 := dkwX10_init_0 ++ dktX10_init_1
theorem dksX10_init_0 : cX10_init.data.toList.drop 0 = dktX10_init_0 := by decide +kernel
theorem dksX10_init_1 : cX10_init.data.toList.drop 23 = dktX10_init_1 := dk_seg dksX10_init_0 23 rfl rfl
theorem dX10_init_0 : decode cX10_init 0 = .ok (.aload_n 0, 1) := dk_42 (dk_at dksX10_init_0 0 rfl rfl)
theorem dX10_init_1 : decode cX10_init 1 = .ok (.aload_n 1, 1) := dk_43 (dk_at dksX10_init_0 1 rfl rfl)
theorem dX10_init_2 : decode cX10_init 2 = .ok (.invokespecial 3, 3) := dk_183 0 3 (dk_at dksX10_init_0 2 rfl rfl)
theorem dX10_init_5 : decode cX10_init 5 = .ok (.aload_n 0, 1) := dk_42 (dk_at dksX10_init_0 5 rfl rfl)
theorem dX10_init_6 : decode cX10_init 6 = .ok (.iconst 5, 1) := dk_8 (dk_at dksX10_init_0 6 rfl rfl)
theorem dX10_init_7 : decode cX10_init 7 = .ok (.newarray .int, 2) := dk_188_10 (dk_at dksX10_init_0 7 rfl rfl)
theorem dX10_init_9 : decode cX10_init 9 = .ok (.putfield 9, 3) := dk_181 0 9 (dk_at dksX10_init_0 9 rfl rfl)
theorem dX10_init_12 : decode cX10_init 12 = .ok (.aload_n 0, 1) := dk_42 (dk_at dksX10_init_0 12 rfl rfl)
theorem dX10_init_13 : decode cX10_init 13 = .ok (.iconst 5, 1) := dk_8 (dk_at dksX10_init_0 13 rfl rfl)
theorem dX10_init_14 : decode cX10_init 14 = .ok (.newarray .int, 2) := dk_188_10 (dk_at dksX10_init_0 14 rfl rfl)
theorem dX10_init_16 : decode cX10_init 16 = .ok (.putfield 15, 3) := dk_181 0 15 (dk_at dksX10_init_0 16 rfl rfl)
theorem dX10_init_19 : decode cX10_init 19 = .ok (.aload_n 0, 1) := dk_42 (dk_at dksX10_init_0 19 rfl rfl)
theorem dX10_init_20 : decode cX10_init 20 = .ok (.iconst 5, 1) := dk_8 (dk_at dksX10_init_0 20 rfl rfl)
theorem dX10_init_21 : decode cX10_init 21 = .ok (.newarray .int, 2) := dk_188_10 (dk_at dksX10_init_0 21 rfl rfl)
theorem dX10_init_23 : decode cX10_init 23 = .ok (.putfield 18, 3) := dk_181 0 18 (dk_at dksX10_init_1 0 rfl rfl)
theorem dX10_init_26 : decode cX10_init 26 = .ok (.aload_n 0, 1) := dk_42 (dk_at dksX10_init_1 3 rfl rfl)
theorem dX10_init_27 : decode cX10_init 27 = .ok (.iload_n 2, 1) := dk_28 (dk_at dksX10_init_1 4 rfl rfl)
theorem dX10_init_28 : decode cX10_init 28 = .ok (.putfield 21, 3) := dk_181 0 21 (dk_at dksX10_init_1 5 rfl rfl)
theorem dX10_init_31 : decode cX10_init 31 = .ok (.aload_n 0, 1) := dk_42 (dk_at dksX10_init_1 8 rfl rfl)
theorem dX10_init_32 : decode cX10_init 32 = .ok (.getfield 15, 3) := dk_180 0 15 (dk_at dksX10_init_1 9 rfl rfl)
theorem dX10_init_35 : decode cX10_init 35 = .ok (.iconst (-1), 1) := dk_2 (dk_at dksX10_init_1 12 rfl rfl)
theorem dX10_init_36 : decode cX10_init 36 = .ok (.invokestatic 25, 3) := dk_184 0 25 (dk_at dksX10_init_1 13 rfl rfl)
theorem dX10_init_39 : decode cX10_init 39 = .ok (.return_, 1) := dk_177 (dk_at dksX10_init_1 16 rfl rfl)
abbrev cX10_sells : ByteArray := prog_17_method_2_code
def yX10_sells : MethodName := ⟨RX10, "sells", "(I)Z"⟩
def dkwX10_sells_0 : List UInt8 := [42, 180, 0, 15, 27, 46, 2, 159, 0, 7, 4, 167, 0, 4, 3, 172]
abbrev dktX10_sells_0 : List UInt8 := dkwX10_sells_0 ++ []
theorem dksX10_sells_0 : cX10_sells.data.toList.drop 0 = dktX10_sells_0 := by decide +kernel
theorem dX10_sells_0 : decode cX10_sells 0 = .ok (.aload_n 0, 1) := dk_42 (dk_at dksX10_sells_0 0 rfl rfl)
theorem dX10_sells_1 : decode cX10_sells 1 = .ok (.getfield 15, 3) := dk_180 0 15 (dk_at dksX10_sells_0 1 rfl rfl)
theorem dX10_sells_4 : decode cX10_sells 4 = .ok (.iload_n 1, 1) := dk_27 (dk_at dksX10_sells_0 4 rfl rfl)
theorem dX10_sells_5 : decode cX10_sells 5 = .ok (.iaload, 1) := dk_46 (dk_at dksX10_sells_0 5 rfl rfl)
theorem dX10_sells_6 : decode cX10_sells 6 = .ok (.iconst (-1), 1) := dk_2 (dk_at dksX10_sells_0 6 rfl rfl)
theorem dX10_sells_7 : decode cX10_sells 7 = .ok (.if_icmp .eq 7, 3) := dk_159 0 7 (dk_at dksX10_sells_0 7 rfl rfl)
theorem dX10_sells_10 : decode cX10_sells 10 = .ok (.iconst 1, 1) := dk_4 (dk_at dksX10_sells_0 10 rfl rfl)
theorem dX10_sells_11 : decode cX10_sells 11 = .ok (.goto 4, 3) := dk_167 0 4 (dk_at dksX10_sells_0 11 rfl rfl)
theorem dX10_sells_14 : decode cX10_sells 14 = .ok (.iconst 0, 1) := dk_3 (dk_at dksX10_sells_0 14 rfl rfl)
theorem dX10_sells_15 : decode cX10_sells 15 = .ok (.ireturn, 1) := dk_172 (dk_at dksX10_sells_0 15 rfl rfl)
abbrev cX11_init : ByteArray := prog_2_method_1_code
def yX11_init : MethodName := ⟨RX11, "<init>", "(I)V"⟩
def dkwX11_init_0 : List UInt8 := [42, 183, 0, 1, 42, 27, 181, 0, 7, 177]
abbrev dktX11_init_0 : List UInt8 := dkwX11_init_0 ++ []
theorem dksX11_init_0 : cX11_init.data.toList.drop 0 = dktX11_init_0 := by decide +kernel
theorem dX11_init_0 : decode cX11_init 0 = .ok (.aload_n 0, 1) := dk_42 (dk_at dksX11_init_0 0 rfl rfl)
theorem dX11_init_1 : decode cX11_init 1 = .ok (.invokespecial 1, 3) := dk_183 0 1 (dk_at dksX11_init_0 1 rfl rfl)
theorem dX11_init_4 : decode cX11_init 4 = .ok (.aload_n 0, 1) := dk_42 (dk_at dksX11_init_0 4 rfl rfl)
theorem dX11_init_5 : decode cX11_init 5 = .ok (.iload_n 1, 1) := dk_27 (dk_at dksX11_init_0 5 rfl rfl)
theorem dX11_init_6 : decode cX11_init 6 = .ok (.putfield 7, 3) := dk_181 0 7 (dk_at dksX11_init_0 6 rfl rfl)
theorem dX11_init_9 : decode cX11_init 9 = .ok (.return_, 1) := dk_177 (dk_at dksX11_init_0 9 rfl rfl)
abbrev cX11_told : ByteArray := prog_2_method_3_code
def yX11_told : MethodName := ⟨RX11, "told", "(II)I"⟩
def dkwX11_told_0 : List UInt8 := [26, 154, 0, 7, 3, 167, 0, 6, 27, 26, 96, 172]
abbrev dktX11_told_0 : List UInt8 := dkwX11_told_0 ++ []
theorem dksX11_told_0 : cX11_told.data.toList.drop 0 = dktX11_told_0 := by decide +kernel
theorem dX11_told_0 : decode cX11_told 0 = .ok (.iload_n 0, 1) := dk_26 (dk_at dksX11_told_0 0 rfl rfl)
theorem dX11_told_1 : decode cX11_told 1 = .ok (.ifCond .ne 7, 3) := dk_154 0 7 (dk_at dksX11_told_0 1 rfl rfl)
theorem dX11_told_4 : decode cX11_told 4 = .ok (.iconst 0, 1) := dk_3 (dk_at dksX11_told_0 4 rfl rfl)
theorem dX11_told_5 : decode cX11_told 5 = .ok (.goto 6, 3) := dk_167 0 6 (dk_at dksX11_told_0 5 rfl rfl)
theorem dX11_told_8 : decode cX11_told 8 = .ok (.iload_n 1, 1) := dk_27 (dk_at dksX11_told_0 8 rfl rfl)
theorem dX11_told_9 : decode cX11_told 9 = .ok (.iload_n 0, 1) := dk_26 (dk_at dksX11_told_0 9 rfl rfl)
theorem dX11_told_10 : decode cX11_told 10 = .ok (.iadd, 1) := dk_96 (dk_at dksX11_told_0 10 rfl rfl)
theorem dX11_told_11 : decode cX11_told 11 = .ok (.ireturn, 1) := dk_172 (dk_at dksX11_told_0 11 rfl rfl)
abbrev cX12_init : ByteArray := prog_24_method_1_code
def yX12_init : MethodName := ⟨RX12, "<init>", "(II)V"⟩
def dkwX12_init_0 : List UInt8 := [42, 27, 183, 0, 1, 42, 28, 181, 0, 7, 177]
abbrev dktX12_init_0 : List UInt8 := dkwX12_init_0 ++ []
theorem dksX12_init_0 : cX12_init.data.toList.drop 0 = dktX12_init_0 := by decide +kernel
theorem dX12_init_0 : decode cX12_init 0 = .ok (.aload_n 0, 1) := dk_42 (dk_at dksX12_init_0 0 rfl rfl)
theorem dX12_init_1 : decode cX12_init 1 = .ok (.iload_n 1, 1) := dk_27 (dk_at dksX12_init_0 1 rfl rfl)
theorem dX12_init_2 : decode cX12_init 2 = .ok (.invokespecial 1, 3) := dk_183 0 1 (dk_at dksX12_init_0 2 rfl rfl)
theorem dX12_init_5 : decode cX12_init 5 = .ok (.aload_n 0, 1) := dk_42 (dk_at dksX12_init_0 5 rfl rfl)
theorem dX12_init_6 : decode cX12_init 6 = .ok (.iload_n 2, 1) := dk_28 (dk_at dksX12_init_0 6 rfl rfl)
theorem dX12_init_7 : decode cX12_init 7 = .ok (.putfield 7, 3) := dk_181 0 7 (dk_at dksX12_init_0 7 rfl rfl)
theorem dX12_init_10 : decode cX12_init 10 = .ok (.return_, 1) := dk_177 (dk_at dksX12_init_0 10 rfl rfl)
abbrev cX13_init : ByteArray := prog_4_method_1_code
def yX13_init : MethodName := ⟨RX13, "<init>", "(III)V"⟩
def dkwX13_init_0 : List UInt8 := [42, 27, 29, 183, 0, 1, 42, 28, 181, 0, 7, 177]
abbrev dktX13_init_0 : List UInt8 := dkwX13_init_0 ++ []
theorem dksX13_init_0 : cX13_init.data.toList.drop 0 = dktX13_init_0 := by decide +kernel
theorem dX13_init_0 : decode cX13_init 0 = .ok (.aload_n 0, 1) := dk_42 (dk_at dksX13_init_0 0 rfl rfl)
theorem dX13_init_1 : decode cX13_init 1 = .ok (.iload_n 1, 1) := dk_27 (dk_at dksX13_init_0 1 rfl rfl)
theorem dX13_init_2 : decode cX13_init 2 = .ok (.iload_n 3, 1) := dk_29 (dk_at dksX13_init_0 2 rfl rfl)
theorem dX13_init_3 : decode cX13_init 3 = .ok (.invokespecial 1, 3) := dk_183 0 1 (dk_at dksX13_init_0 3 rfl rfl)
theorem dX13_init_6 : decode cX13_init 6 = .ok (.aload_n 0, 1) := dk_42 (dk_at dksX13_init_0 6 rfl rfl)
theorem dX13_init_7 : decode cX13_init 7 = .ok (.iload_n 2, 1) := dk_28 (dk_at dksX13_init_0 7 rfl rfl)
theorem dX13_init_8 : decode cX13_init 8 = .ok (.putfield 7, 3) := dk_181 0 7 (dk_at dksX13_init_0 8 rfl rfl)
theorem dX13_init_11 : decode cX13_init 11 = .ok (.return_, 1) := dk_177 (dk_at dksX13_init_0 11 rfl rfl)
abbrev cX13_does : ByteArray := prog_4_method_2_code
def yX13_does : MethodName := ⟨RX13, "does", "(LStrangerMarket$Market;)I"⟩
def dkwX13_does_1 : List UInt8 := [180, 0, 13, 42, 180, 0, 7, 42, 180, 0, 16, 182, 0, 25, 28, 172]
abbrev dktX13_does_1 : List UInt8 := dkwX13_does_1 ++ []
def dkwX13_does_0 : List UInt8 := [43, 42, 180, 0, 13, 42, 180, 0, 7, 42, 180, 0, 16, 182, 0, 19, 61, 28, 154, 0, 19, 43, 42]
abbrev dktX13_does_0 : List UInt8 := dkwX13_does_0 ++ dktX13_does_1
theorem dksX13_does_0 : cX13_does.data.toList.drop 0 = dktX13_does_0 := by decide +kernel
theorem dksX13_does_1 : cX13_does.data.toList.drop 23 = dktX13_does_1 := dk_seg dksX13_does_0 23 rfl rfl
theorem dX13_does_0 : decode cX13_does 0 = .ok (.aload_n 1, 1) := dk_43 (dk_at dksX13_does_0 0 rfl rfl)
theorem dX13_does_1 : decode cX13_does 1 = .ok (.aload_n 0, 1) := dk_42 (dk_at dksX13_does_0 1 rfl rfl)
theorem dX13_does_2 : decode cX13_does 2 = .ok (.getfield 13, 3) := dk_180 0 13 (dk_at dksX13_does_0 2 rfl rfl)
theorem dX13_does_5 : decode cX13_does 5 = .ok (.aload_n 0, 1) := dk_42 (dk_at dksX13_does_0 5 rfl rfl)
theorem dX13_does_6 : decode cX13_does 6 = .ok (.getfield 7, 3) := dk_180 0 7 (dk_at dksX13_does_0 6 rfl rfl)
theorem dX13_does_9 : decode cX13_does 9 = .ok (.aload_n 0, 1) := dk_42 (dk_at dksX13_does_0 9 rfl rfl)
theorem dX13_does_10 : decode cX13_does 10 = .ok (.getfield 16, 3) := dk_180 0 16 (dk_at dksX13_does_0 10 rfl rfl)
theorem dX13_does_13 : decode cX13_does 13 = .ok (.invokevirtual 19, 3) := dk_182 0 19 (dk_at dksX13_does_0 13 rfl rfl)
theorem dX13_does_16 : decode cX13_does 16 = .ok (.istore_n 2, 1) := dk_61 (dk_at dksX13_does_0 16 rfl rfl)
theorem dX13_does_17 : decode cX13_does 17 = .ok (.iload_n 2, 1) := dk_28 (dk_at dksX13_does_0 17 rfl rfl)
theorem dX13_does_18 : decode cX13_does 18 = .ok (.ifCond .ne 19, 3) := dk_154 0 19 (dk_at dksX13_does_0 18 rfl rfl)
theorem dX13_does_21 : decode cX13_does 21 = .ok (.aload_n 1, 1) := dk_43 (dk_at dksX13_does_0 21 rfl rfl)
theorem dX13_does_22 : decode cX13_does 22 = .ok (.aload_n 0, 1) := dk_42 (dk_at dksX13_does_0 22 rfl rfl)
theorem dX13_does_23 : decode cX13_does 23 = .ok (.getfield 13, 3) := dk_180 0 13 (dk_at dksX13_does_1 0 rfl rfl)
theorem dX13_does_26 : decode cX13_does 26 = .ok (.aload_n 0, 1) := dk_42 (dk_at dksX13_does_1 3 rfl rfl)
theorem dX13_does_27 : decode cX13_does 27 = .ok (.getfield 7, 3) := dk_180 0 7 (dk_at dksX13_does_1 4 rfl rfl)
theorem dX13_does_30 : decode cX13_does 30 = .ok (.aload_n 0, 1) := dk_42 (dk_at dksX13_does_1 7 rfl rfl)
theorem dX13_does_31 : decode cX13_does 31 = .ok (.getfield 16, 3) := dk_180 0 16 (dk_at dksX13_does_1 8 rfl rfl)
theorem dX13_does_34 : decode cX13_does 34 = .ok (.invokevirtual 25, 3) := dk_182 0 25 (dk_at dksX13_does_1 11 rfl rfl)
theorem dX13_does_37 : decode cX13_does 37 = .ok (.iload_n 2, 1) := dk_28 (dk_at dksX13_does_1 14 rfl rfl)
theorem dX13_does_38 : decode cX13_does 38 = .ok (.ireturn, 1) := dk_172 (dk_at dksX13_does_1 15 rfl rfl)
abbrev cX14_does : ByteArray := prog_13_method_2_code
def yX14_does : MethodName := ⟨RX14, "does", "(LStrangerMarket$Market;)I"⟩
def dkwX14_does_1 : List UInt8 := [180, 0, 13, 182, 0, 22, 28, 16, 10, 184, 0, 25, 172]
abbrev dktX14_does_1 : List UInt8 := dkwX14_does_1 ++ []
def dkwX14_does_0 : List UInt8 := [43, 42, 180, 0, 7, 42, 180, 0, 13, 182, 0, 16, 61, 28, 154, 0, 15, 43, 42, 180, 0, 7, 42]
abbrev dktX14_does_0 : List UInt8 := dkwX14_does_0 ++ dktX14_does_1
theorem dksX14_does_0 : cX14_does.data.toList.drop 0 = dktX14_does_0 := by decide +kernel
theorem dksX14_does_1 : cX14_does.data.toList.drop 23 = dktX14_does_1 := dk_seg dksX14_does_0 23 rfl rfl
theorem dX14_does_0 : decode cX14_does 0 = .ok (.aload_n 1, 1) := dk_43 (dk_at dksX14_does_0 0 rfl rfl)
theorem dX14_does_1 : decode cX14_does 1 = .ok (.aload_n 0, 1) := dk_42 (dk_at dksX14_does_0 1 rfl rfl)
theorem dX14_does_2 : decode cX14_does 2 = .ok (.getfield 7, 3) := dk_180 0 7 (dk_at dksX14_does_0 2 rfl rfl)
theorem dX14_does_5 : decode cX14_does 5 = .ok (.aload_n 0, 1) := dk_42 (dk_at dksX14_does_0 5 rfl rfl)
theorem dX14_does_6 : decode cX14_does 6 = .ok (.getfield 13, 3) := dk_180 0 13 (dk_at dksX14_does_0 6 rfl rfl)
theorem dX14_does_9 : decode cX14_does 9 = .ok (.invokevirtual 16, 3) := dk_182 0 16 (dk_at dksX14_does_0 9 rfl rfl)
theorem dX14_does_12 : decode cX14_does 12 = .ok (.istore_n 2, 1) := dk_61 (dk_at dksX14_does_0 12 rfl rfl)
theorem dX14_does_13 : decode cX14_does 13 = .ok (.iload_n 2, 1) := dk_28 (dk_at dksX14_does_0 13 rfl rfl)
theorem dX14_does_14 : decode cX14_does 14 = .ok (.ifCond .ne 15, 3) := dk_154 0 15 (dk_at dksX14_does_0 14 rfl rfl)
theorem dX14_does_17 : decode cX14_does 17 = .ok (.aload_n 1, 1) := dk_43 (dk_at dksX14_does_0 17 rfl rfl)
theorem dX14_does_18 : decode cX14_does 18 = .ok (.aload_n 0, 1) := dk_42 (dk_at dksX14_does_0 18 rfl rfl)
theorem dX14_does_19 : decode cX14_does 19 = .ok (.getfield 7, 3) := dk_180 0 7 (dk_at dksX14_does_0 19 rfl rfl)
theorem dX14_does_22 : decode cX14_does 22 = .ok (.aload_n 0, 1) := dk_42 (dk_at dksX14_does_0 22 rfl rfl)
theorem dX14_does_23 : decode cX14_does 23 = .ok (.getfield 13, 3) := dk_180 0 13 (dk_at dksX14_does_1 0 rfl rfl)
theorem dX14_does_26 : decode cX14_does 26 = .ok (.invokevirtual 22, 3) := dk_182 0 22 (dk_at dksX14_does_1 3 rfl rfl)
theorem dX14_does_29 : decode cX14_does 29 = .ok (.iload_n 2, 1) := dk_28 (dk_at dksX14_does_1 6 rfl rfl)
theorem dX14_does_30 : decode cX14_does 30 = .ok (.bipush 10, 2) := dk_16 10 (dk_at dksX14_does_1 7 rfl rfl)
theorem dX14_does_32 : decode cX14_does 32 = .ok (.invokestatic 25, 3) := dk_184 0 25 (dk_at dksX14_does_1 9 rfl rfl)
theorem dX14_does_35 : decode cX14_does 35 = .ok (.ireturn, 1) := dk_172 (dk_at dksX14_does_1 12 rfl rfl)
abbrev cX14_init : ByteArray := prog_13_method_1_code
def yX14_init : MethodName := ⟨RX14, "<init>", "(II)V"⟩
def dkwX14_init_0 : List UInt8 := [42, 27, 28, 183, 0, 1, 177]
abbrev dktX14_init_0 : List UInt8 := dkwX14_init_0 ++ []
theorem dksX14_init_0 : cX14_init.data.toList.drop 0 = dktX14_init_0 := by decide +kernel
theorem dX14_init_0 : decode cX14_init 0 = .ok (.aload_n 0, 1) := dk_42 (dk_at dksX14_init_0 0 rfl rfl)
theorem dX14_init_1 : decode cX14_init 1 = .ok (.iload_n 1, 1) := dk_27 (dk_at dksX14_init_0 1 rfl rfl)
theorem dX14_init_2 : decode cX14_init 2 = .ok (.iload_n 2, 1) := dk_28 (dk_at dksX14_init_0 2 rfl rfl)
theorem dX14_init_3 : decode cX14_init 3 = .ok (.invokespecial 1, 3) := dk_183 0 1 (dk_at dksX14_init_0 3 rfl rfl)
theorem dX14_init_6 : decode cX14_init 6 = .ok (.return_, 1) := dk_177 (dk_at dksX14_init_0 6 rfl rfl)
abbrev cX15_does : ByteArray := prog_20_method_2_code
def yX15_does : MethodName := ⟨RX15, "does", "(LStrangerMarket$Market;)I"⟩
def dkwX15_does_1 : List UInt8 := [180, 0, 16, 42, 180, 0, 7, 182, 0, 25, 28, 16, 30, 184, 0, 28, 172]
abbrev dktX15_does_1 : List UInt8 := dkwX15_does_1 ++ []
def dkwX15_does_0 : List UInt8 := [43, 42, 180, 0, 13, 42, 180, 0, 16, 42, 180, 0, 7, 182, 0, 19, 61, 28, 154, 0, 15, 43, 42]
abbrev dktX15_does_0 : List UInt8 := dkwX15_does_0 ++ dktX15_does_1
theorem dksX15_does_0 : cX15_does.data.toList.drop 0 = dktX15_does_0 := by decide +kernel
theorem dksX15_does_1 : cX15_does.data.toList.drop 23 = dktX15_does_1 := dk_seg dksX15_does_0 23 rfl rfl
theorem dX15_does_0 : decode cX15_does 0 = .ok (.aload_n 1, 1) := dk_43 (dk_at dksX15_does_0 0 rfl rfl)
theorem dX15_does_1 : decode cX15_does 1 = .ok (.aload_n 0, 1) := dk_42 (dk_at dksX15_does_0 1 rfl rfl)
theorem dX15_does_2 : decode cX15_does 2 = .ok (.getfield 13, 3) := dk_180 0 13 (dk_at dksX15_does_0 2 rfl rfl)
theorem dX15_does_5 : decode cX15_does 5 = .ok (.aload_n 0, 1) := dk_42 (dk_at dksX15_does_0 5 rfl rfl)
theorem dX15_does_6 : decode cX15_does 6 = .ok (.getfield 16, 3) := dk_180 0 16 (dk_at dksX15_does_0 6 rfl rfl)
theorem dX15_does_9 : decode cX15_does 9 = .ok (.aload_n 0, 1) := dk_42 (dk_at dksX15_does_0 9 rfl rfl)
theorem dX15_does_10 : decode cX15_does 10 = .ok (.getfield 7, 3) := dk_180 0 7 (dk_at dksX15_does_0 10 rfl rfl)
theorem dX15_does_13 : decode cX15_does 13 = .ok (.invokevirtual 19, 3) := dk_182 0 19 (dk_at dksX15_does_0 13 rfl rfl)
theorem dX15_does_16 : decode cX15_does 16 = .ok (.istore_n 2, 1) := dk_61 (dk_at dksX15_does_0 16 rfl rfl)
theorem dX15_does_17 : decode cX15_does 17 = .ok (.iload_n 2, 1) := dk_28 (dk_at dksX15_does_0 17 rfl rfl)
theorem dX15_does_18 : decode cX15_does 18 = .ok (.ifCond .ne 15, 3) := dk_154 0 15 (dk_at dksX15_does_0 18 rfl rfl)
theorem dX15_does_21 : decode cX15_does 21 = .ok (.aload_n 1, 1) := dk_43 (dk_at dksX15_does_0 21 rfl rfl)
theorem dX15_does_22 : decode cX15_does 22 = .ok (.aload_n 0, 1) := dk_42 (dk_at dksX15_does_0 22 rfl rfl)
theorem dX15_does_23 : decode cX15_does 23 = .ok (.getfield 16, 3) := dk_180 0 16 (dk_at dksX15_does_1 0 rfl rfl)
theorem dX15_does_26 : decode cX15_does 26 = .ok (.aload_n 0, 1) := dk_42 (dk_at dksX15_does_1 3 rfl rfl)
theorem dX15_does_27 : decode cX15_does 27 = .ok (.getfield 7, 3) := dk_180 0 7 (dk_at dksX15_does_1 4 rfl rfl)
theorem dX15_does_30 : decode cX15_does 30 = .ok (.invokevirtual 25, 3) := dk_182 0 25 (dk_at dksX15_does_1 7 rfl rfl)
theorem dX15_does_33 : decode cX15_does 33 = .ok (.iload_n 2, 1) := dk_28 (dk_at dksX15_does_1 10 rfl rfl)
theorem dX15_does_34 : decode cX15_does 34 = .ok (.bipush 30, 2) := dk_16 30 (dk_at dksX15_does_1 11 rfl rfl)
theorem dX15_does_36 : decode cX15_does 36 = .ok (.invokestatic 28, 3) := dk_184 0 28 (dk_at dksX15_does_1 13 rfl rfl)
theorem dX15_does_39 : decode cX15_does 39 = .ok (.ireturn, 1) := dk_172 (dk_at dksX15_does_1 16 rfl rfl)
abbrev cX15_init : ByteArray := prog_20_method_1_code
def yX15_init : MethodName := ⟨RX15, "<init>", "(III)V"⟩
def dkwX15_init_0 : List UInt8 := [42, 27, 28, 183, 0, 1, 42, 29, 181, 0, 7, 177]
abbrev dktX15_init_0 : List UInt8 := dkwX15_init_0 ++ []
theorem dksX15_init_0 : cX15_init.data.toList.drop 0 = dktX15_init_0 := by decide +kernel
theorem dX15_init_0 : decode cX15_init 0 = .ok (.aload_n 0, 1) := dk_42 (dk_at dksX15_init_0 0 rfl rfl)
theorem dX15_init_1 : decode cX15_init 1 = .ok (.iload_n 1, 1) := dk_27 (dk_at dksX15_init_0 1 rfl rfl)
theorem dX15_init_2 : decode cX15_init 2 = .ok (.iload_n 2, 1) := dk_28 (dk_at dksX15_init_0 2 rfl rfl)
theorem dX15_init_3 : decode cX15_init 3 = .ok (.invokespecial 1, 3) := dk_183 0 1 (dk_at dksX15_init_0 3 rfl rfl)
theorem dX15_init_6 : decode cX15_init 6 = .ok (.aload_n 0, 1) := dk_42 (dk_at dksX15_init_0 6 rfl rfl)
theorem dX15_init_7 : decode cX15_init 7 = .ok (.iload_n 3, 1) := dk_29 (dk_at dksX15_init_0 7 rfl rfl)
theorem dX15_init_8 : decode cX15_init 8 = .ok (.putfield 7, 3) := dk_181 0 7 (dk_at dksX15_init_0 8 rfl rfl)
theorem dX15_init_11 : decode cX15_init 11 = .ok (.return_, 1) := dk_177 (dk_at dksX15_init_0 11 rfl rfl)
abbrev cX16_does : ByteArray := prog_23_method_2_code
def yX16_does : MethodName := ⟨RX16, "does", "(LStrangerMarket$Market;)I"⟩
def dkwX16_does_1 : List UInt8 := [184, 0, 22, 172]
abbrev dktX16_does_1 : List UInt8 := dkwX16_does_1 ++ []
def dkwX16_does_0 : List UInt8 := [43, 42, 180, 0, 7, 182, 0, 13, 61, 28, 154, 0, 11, 43, 42, 180, 0, 7, 182, 0, 19, 28, 16, 20]
abbrev dktX16_does_0 : List UInt8 := dkwX16_does_0 ++ dktX16_does_1
theorem dksX16_does_0 : cX16_does.data.toList.drop 0 = dktX16_does_0 := by decide +kernel
theorem dksX16_does_1 : cX16_does.data.toList.drop 24 = dktX16_does_1 := dk_seg dksX16_does_0 24 rfl rfl
theorem dX16_does_0 : decode cX16_does 0 = .ok (.aload_n 1, 1) := dk_43 (dk_at dksX16_does_0 0 rfl rfl)
theorem dX16_does_1 : decode cX16_does 1 = .ok (.aload_n 0, 1) := dk_42 (dk_at dksX16_does_0 1 rfl rfl)
theorem dX16_does_2 : decode cX16_does 2 = .ok (.getfield 7, 3) := dk_180 0 7 (dk_at dksX16_does_0 2 rfl rfl)
theorem dX16_does_5 : decode cX16_does 5 = .ok (.invokevirtual 13, 3) := dk_182 0 13 (dk_at dksX16_does_0 5 rfl rfl)
theorem dX16_does_8 : decode cX16_does 8 = .ok (.istore_n 2, 1) := dk_61 (dk_at dksX16_does_0 8 rfl rfl)
theorem dX16_does_9 : decode cX16_does 9 = .ok (.iload_n 2, 1) := dk_28 (dk_at dksX16_does_0 9 rfl rfl)
theorem dX16_does_10 : decode cX16_does 10 = .ok (.ifCond .ne 11, 3) := dk_154 0 11 (dk_at dksX16_does_0 10 rfl rfl)
theorem dX16_does_13 : decode cX16_does 13 = .ok (.aload_n 1, 1) := dk_43 (dk_at dksX16_does_0 13 rfl rfl)
theorem dX16_does_14 : decode cX16_does 14 = .ok (.aload_n 0, 1) := dk_42 (dk_at dksX16_does_0 14 rfl rfl)
theorem dX16_does_15 : decode cX16_does 15 = .ok (.getfield 7, 3) := dk_180 0 7 (dk_at dksX16_does_0 15 rfl rfl)
theorem dX16_does_18 : decode cX16_does 18 = .ok (.invokevirtual 19, 3) := dk_182 0 19 (dk_at dksX16_does_0 18 rfl rfl)
theorem dX16_does_21 : decode cX16_does 21 = .ok (.iload_n 2, 1) := dk_28 (dk_at dksX16_does_0 21 rfl rfl)
theorem dX16_does_22 : decode cX16_does 22 = .ok (.bipush 20, 2) := dk_16 20 (dk_at dksX16_does_0 22 rfl rfl)
theorem dX16_does_24 : decode cX16_does 24 = .ok (.invokestatic 22, 3) := dk_184 0 22 (dk_at dksX16_does_1 0 rfl rfl)
theorem dX16_does_27 : decode cX16_does 27 = .ok (.ireturn, 1) := dk_172 (dk_at dksX16_does_1 3 rfl rfl)
abbrev cX16_init : ByteArray := prog_23_method_1_code
def yX16_init : MethodName := ⟨RX16, "<init>", "(I)V"⟩
def dkwX16_init_0 : List UInt8 := [42, 27, 183, 0, 1, 177]
abbrev dktX16_init_0 : List UInt8 := dkwX16_init_0 ++ []
theorem dksX16_init_0 : cX16_init.data.toList.drop 0 = dktX16_init_0 := by decide +kernel
theorem dX16_init_0 : decode cX16_init 0 = .ok (.aload_n 0, 1) := dk_42 (dk_at dksX16_init_0 0 rfl rfl)
theorem dX16_init_1 : decode cX16_init 1 = .ok (.iload_n 1, 1) := dk_27 (dk_at dksX16_init_0 1 rfl rfl)
theorem dX16_init_2 : decode cX16_init 2 = .ok (.invokespecial 1, 3) := dk_183 0 1 (dk_at dksX16_init_0 2 rfl rfl)
theorem dX16_init_5 : decode cX16_init 5 = .ok (.return_, 1) := dk_177 (dk_at dksX16_init_0 5 rfl rfl)
abbrev cX17_init : ByteArray := prog_3_method_1_code
def yX17_init : MethodName := ⟨RX17, "<init>", "([BILStrangerMarket$County;)V"⟩
def dkwX17_init_1 : List UInt8 := [181, 0, 20, 177]
abbrev dktX17_init_1 : List UInt8 := dkwX17_init_1 ++ []
def dkwX17_init_0 : List UInt8 := [42, 43, 28, 17, 1, 144, 183, 0, 3, 42, 187, 0, 9, 89, 183, 0, 11, 181, 0, 14, 42, 45]
abbrev dktX17_init_0 : List UInt8 := dkwX17_init_0 ++ dktX17_init_1
theorem dksX17_init_0 : cX17_init.data.toList.drop 0 = dktX17_init_0 := by decide +kernel
theorem dksX17_init_1 : cX17_init.data.toList.drop 22 = dktX17_init_1 := dk_seg dksX17_init_0 22 rfl rfl
theorem dX17_init_0 : decode cX17_init 0 = .ok (.aload_n 0, 1) := dk_42 (dk_at dksX17_init_0 0 rfl rfl)
theorem dX17_init_1 : decode cX17_init 1 = .ok (.aload_n 1, 1) := dk_43 (dk_at dksX17_init_0 1 rfl rfl)
theorem dX17_init_2 : decode cX17_init 2 = .ok (.iload_n 2, 1) := dk_28 (dk_at dksX17_init_0 2 rfl rfl)
theorem dX17_init_3 : decode cX17_init 3 = .ok (.sipush 400, 3) := dk_17 1 144 (dk_at dksX17_init_0 3 rfl rfl)
theorem dX17_init_6 : decode cX17_init 6 = .ok (.invokespecial 3, 3) := dk_183 0 3 (dk_at dksX17_init_0 6 rfl rfl)
theorem dX17_init_9 : decode cX17_init 9 = .ok (.aload_n 0, 1) := dk_42 (dk_at dksX17_init_0 9 rfl rfl)
theorem dX17_init_10 : decode cX17_init 10 = .ok (.new 9, 3) := dk_187 0 9 (dk_at dksX17_init_0 10 rfl rfl)
theorem dX17_init_13 : decode cX17_init 13 = .ok (.dup, 1) := dk_89 (dk_at dksX17_init_0 13 rfl rfl)
theorem dX17_init_14 : decode cX17_init 14 = .ok (.invokespecial 11, 3) := dk_183 0 11 (dk_at dksX17_init_0 14 rfl rfl)
theorem dX17_init_17 : decode cX17_init 17 = .ok (.putfield 14, 3) := dk_181 0 14 (dk_at dksX17_init_0 17 rfl rfl)
theorem dX17_init_20 : decode cX17_init 20 = .ok (.aload_n 0, 1) := dk_42 (dk_at dksX17_init_0 20 rfl rfl)
theorem dX17_init_21 : decode cX17_init 21 = .ok (.aload_n 3, 1) := dk_45 (dk_at dksX17_init_0 21 rfl rfl)
theorem dX17_init_22 : decode cX17_init 22 = .ok (.putfield 20, 3) := dk_181 0 20 (dk_at dksX17_init_1 0 rfl rfl)
theorem dX17_init_25 : decode cX17_init 25 = .ok (.return_, 1) := dk_177 (dk_at dksX17_init_1 3 rfl rfl)
abbrev cX17_read : ByteArray := prog_3_method_2_code
def yX17_read : MethodName := ⟨RX17, "read", "()Ljava/util/ArrayList;"⟩
def dkwX17_read_1 : List UInt8 := [182, 0, 39, 167, 255, 233, 42, 180, 0, 14, 176]
abbrev dktX17_read_1 : List UInt8 := dkwX17_read_1 ++ []
def dkwX17_read_0 : List UInt8 := [42, 182, 0, 24, 42, 180, 0, 27, 153, 0, 22, 42, 180, 0, 14, 42, 182, 0, 31, 182, 0, 35, 87, 42]
abbrev dktX17_read_0 : List UInt8 := dkwX17_read_0 ++ dktX17_read_1
theorem dksX17_read_0 : cX17_read.data.toList.drop 0 = dktX17_read_0 := by decide +kernel
theorem dksX17_read_1 : cX17_read.data.toList.drop 24 = dktX17_read_1 := dk_seg dksX17_read_0 24 rfl rfl
theorem dX17_read_0 : decode cX17_read 0 = .ok (.aload_n 0, 1) := dk_42 (dk_at dksX17_read_0 0 rfl rfl)
theorem dX17_read_1 : decode cX17_read 1 = .ok (.invokevirtual 24, 3) := dk_182 0 24 (dk_at dksX17_read_0 1 rfl rfl)
theorem dX17_read_4 : decode cX17_read 4 = .ok (.aload_n 0, 1) := dk_42 (dk_at dksX17_read_0 4 rfl rfl)
theorem dX17_read_5 : decode cX17_read 5 = .ok (.getfield 27, 3) := dk_180 0 27 (dk_at dksX17_read_0 5 rfl rfl)
theorem dX17_read_8 : decode cX17_read 8 = .ok (.ifCond .eq 22, 3) := dk_153 0 22 (dk_at dksX17_read_0 8 rfl rfl)
theorem dX17_read_11 : decode cX17_read 11 = .ok (.aload_n 0, 1) := dk_42 (dk_at dksX17_read_0 11 rfl rfl)
theorem dX17_read_12 : decode cX17_read 12 = .ok (.getfield 14, 3) := dk_180 0 14 (dk_at dksX17_read_0 12 rfl rfl)
theorem dX17_read_15 : decode cX17_read 15 = .ok (.aload_n 0, 1) := dk_42 (dk_at dksX17_read_0 15 rfl rfl)
theorem dX17_read_16 : decode cX17_read 16 = .ok (.invokevirtual 31, 3) := dk_182 0 31 (dk_at dksX17_read_0 16 rfl rfl)
theorem dX17_read_19 : decode cX17_read 19 = .ok (.invokevirtual 35, 3) := dk_182 0 35 (dk_at dksX17_read_0 19 rfl rfl)
theorem dX17_read_22 : decode cX17_read 22 = .ok (.pop, 1) := dk_87 (dk_at dksX17_read_0 22 rfl rfl)
theorem dX17_read_23 : decode cX17_read 23 = .ok (.aload_n 0, 1) := dk_42 (dk_at dksX17_read_0 23 rfl rfl)
theorem dX17_read_24 : decode cX17_read 24 = .ok (.invokevirtual 39, 3) := dk_182 0 39 (dk_at dksX17_read_1 0 rfl rfl)
theorem dX17_read_27 : decode cX17_read 27 = .ok (.goto (-23), 3) := dk_167 255 233 (dk_at dksX17_read_1 3 rfl rfl)
theorem dX17_read_30 : decode cX17_read 30 = .ok (.aload_n 0, 1) := dk_42 (dk_at dksX17_read_1 6 rfl rfl)
theorem dX17_read_31 : decode cX17_read 31 = .ok (.getfield 14, 3) := dk_180 0 14 (dk_at dksX17_read_1 7 rfl rfl)
theorem dX17_read_34 : decode cX17_read 34 = .ok (.areturn, 1) := dk_176 (dk_at dksX17_read_1 10 rfl rfl)
abbrev cX17_act : ByteArray := prog_3_method_3_code
def yX17_act : MethodName := ⟨RX17, "act", "()LStrangerMarket$Act;"⟩
def dkwX17_act_3 : List UInt8 := [187, 0, 72, 89, 42, 4, 16, 60, 182, 0, 74, 183, 0, 78, 176]
abbrev dktX17_act_3 : List UInt8 := dkwX17_act_3 ++ []
def dkwX17_act_2 : List UInt8 := [154, 0, 19, 42, 42, 42, 180, 0, 20, 180, 0, 48, 182, 0, 65, 182, 0, 68, 176, 42, 182, 0, 24]
abbrev dktX17_act_2 : List UInt8 := dkwX17_act_2 ++ dktX17_act_3
def dkwX17_act_1 : List UInt8 := [42, 180, 0, 14, 182, 0, 57, 16, 40, 162, 0, 7, 4, 167, 0, 4, 3, 7, 182, 0, 61, 27]
abbrev dktX17_act_1 : List UInt8 := dkwX17_act_1 ++ dktX17_act_2
def dkwX17_act_0 : List UInt8 := [42, 18, 42, 182, 0, 44, 60, 27, 154, 0, 15, 42, 42, 180, 0, 20, 180, 0, 48, 182, 0, 53, 87, 42]
abbrev dktX17_act_0 : List UInt8 := dkwX17_act_0 ++ dktX17_act_1
theorem dksX17_act_0 : cX17_act.data.toList.drop 0 = dktX17_act_0 := by decide +kernel
theorem dksX17_act_1 : cX17_act.data.toList.drop 24 = dktX17_act_1 := dk_seg dksX17_act_0 24 rfl rfl
theorem dksX17_act_2 : cX17_act.data.toList.drop 46 = dktX17_act_2 := dk_seg dksX17_act_1 22 rfl rfl
theorem dksX17_act_3 : cX17_act.data.toList.drop 69 = dktX17_act_3 := dk_seg dksX17_act_2 23 rfl rfl
theorem dX17_act_0 : decode cX17_act 0 = .ok (.aload_n 0, 1) := dk_42 (dk_at dksX17_act_0 0 rfl rfl)
theorem dX17_act_1 : decode cX17_act 1 = .ok (.ldc 42, 2) := dk_18 42 (dk_at dksX17_act_0 1 rfl rfl)
theorem dX17_act_3 : decode cX17_act 3 = .ok (.invokevirtual 44, 3) := dk_182 0 44 (dk_at dksX17_act_0 3 rfl rfl)
theorem dX17_act_6 : decode cX17_act 6 = .ok (.istore_n 1, 1) := dk_60 (dk_at dksX17_act_0 6 rfl rfl)
theorem dX17_act_7 : decode cX17_act 7 = .ok (.iload_n 1, 1) := dk_27 (dk_at dksX17_act_0 7 rfl rfl)
theorem dX17_act_8 : decode cX17_act 8 = .ok (.ifCond .ne 15, 3) := dk_154 0 15 (dk_at dksX17_act_0 8 rfl rfl)
theorem dX17_act_11 : decode cX17_act 11 = .ok (.aload_n 0, 1) := dk_42 (dk_at dksX17_act_0 11 rfl rfl)
theorem dX17_act_12 : decode cX17_act 12 = .ok (.aload_n 0, 1) := dk_42 (dk_at dksX17_act_0 12 rfl rfl)
theorem dX17_act_13 : decode cX17_act 13 = .ok (.getfield 20, 3) := dk_180 0 20 (dk_at dksX17_act_0 13 rfl rfl)
theorem dX17_act_16 : decode cX17_act 16 = .ok (.getfield 48, 3) := dk_180 0 48 (dk_at dksX17_act_0 16 rfl rfl)
theorem dX17_act_19 : decode cX17_act 19 = .ok (.invokevirtual 53, 3) := dk_182 0 53 (dk_at dksX17_act_0 19 rfl rfl)
theorem dX17_act_22 : decode cX17_act 22 = .ok (.pop, 1) := dk_87 (dk_at dksX17_act_0 22 rfl rfl)
theorem dX17_act_23 : decode cX17_act 23 = .ok (.aload_n 0, 1) := dk_42 (dk_at dksX17_act_0 23 rfl rfl)
theorem dX17_act_24 : decode cX17_act 24 = .ok (.aload_n 0, 1) := dk_42 (dk_at dksX17_act_1 0 rfl rfl)
theorem dX17_act_25 : decode cX17_act 25 = .ok (.getfield 14, 3) := dk_180 0 14 (dk_at dksX17_act_1 1 rfl rfl)
theorem dX17_act_28 : decode cX17_act 28 = .ok (.invokevirtual 57, 3) := dk_182 0 57 (dk_at dksX17_act_1 4 rfl rfl)
theorem dX17_act_31 : decode cX17_act 31 = .ok (.bipush 40, 2) := dk_16 40 (dk_at dksX17_act_1 7 rfl rfl)
theorem dX17_act_33 : decode cX17_act 33 = .ok (.if_icmp .ge 7, 3) := dk_162 0 7 (dk_at dksX17_act_1 9 rfl rfl)
theorem dX17_act_36 : decode cX17_act 36 = .ok (.iconst 1, 1) := dk_4 (dk_at dksX17_act_1 12 rfl rfl)
theorem dX17_act_37 : decode cX17_act 37 = .ok (.goto 4, 3) := dk_167 0 4 (dk_at dksX17_act_1 13 rfl rfl)
theorem dX17_act_40 : decode cX17_act 40 = .ok (.iconst 0, 1) := dk_3 (dk_at dksX17_act_1 16 rfl rfl)
theorem dX17_act_41 : decode cX17_act 41 = .ok (.iconst 4, 1) := dk_7 (dk_at dksX17_act_1 17 rfl rfl)
theorem dX17_act_42 : decode cX17_act 42 = .ok (.invokevirtual 61, 3) := dk_182 0 61 (dk_at dksX17_act_1 18 rfl rfl)
theorem dX17_act_45 : decode cX17_act 45 = .ok (.iload_n 1, 1) := dk_27 (dk_at dksX17_act_1 21 rfl rfl)
theorem dX17_act_46 : decode cX17_act 46 = .ok (.ifCond .ne 19, 3) := dk_154 0 19 (dk_at dksX17_act_2 0 rfl rfl)
theorem dX17_act_49 : decode cX17_act 49 = .ok (.aload_n 0, 1) := dk_42 (dk_at dksX17_act_2 3 rfl rfl)
theorem dX17_act_50 : decode cX17_act 50 = .ok (.aload_n 0, 1) := dk_42 (dk_at dksX17_act_2 4 rfl rfl)
theorem dX17_act_51 : decode cX17_act 51 = .ok (.aload_n 0, 1) := dk_42 (dk_at dksX17_act_2 5 rfl rfl)
theorem dX17_act_52 : decode cX17_act 52 = .ok (.getfield 20, 3) := dk_180 0 20 (dk_at dksX17_act_2 6 rfl rfl)
theorem dX17_act_55 : decode cX17_act 55 = .ok (.getfield 48, 3) := dk_180 0 48 (dk_at dksX17_act_2 9 rfl rfl)
theorem dX17_act_58 : decode cX17_act 58 = .ok (.invokevirtual 65, 3) := dk_182 0 65 (dk_at dksX17_act_2 12 rfl rfl)
theorem dX17_act_61 : decode cX17_act 61 = .ok (.invokevirtual 68, 3) := dk_182 0 68 (dk_at dksX17_act_2 15 rfl rfl)
theorem dX17_act_64 : decode cX17_act 64 = .ok (.areturn, 1) := dk_176 (dk_at dksX17_act_2 18 rfl rfl)
theorem dX17_act_65 : decode cX17_act 65 = .ok (.aload_n 0, 1) := dk_42 (dk_at dksX17_act_2 19 rfl rfl)
theorem dX17_act_66 : decode cX17_act 66 = .ok (.invokevirtual 24, 3) := dk_182 0 24 (dk_at dksX17_act_2 20 rfl rfl)
theorem dX17_act_69 : decode cX17_act 69 = .ok (.new 72, 3) := dk_187 0 72 (dk_at dksX17_act_3 0 rfl rfl)
theorem dX17_act_72 : decode cX17_act 72 = .ok (.dup, 1) := dk_89 (dk_at dksX17_act_3 3 rfl rfl)
theorem dX17_act_73 : decode cX17_act 73 = .ok (.aload_n 0, 1) := dk_42 (dk_at dksX17_act_3 4 rfl rfl)
theorem dX17_act_74 : decode cX17_act 74 = .ok (.iconst 1, 1) := dk_4 (dk_at dksX17_act_3 5 rfl rfl)
theorem dX17_act_75 : decode cX17_act 75 = .ok (.bipush 60, 2) := dk_16 60 (dk_at dksX17_act_3 6 rfl rfl)
theorem dX17_act_77 : decode cX17_act 77 = .ok (.invokevirtual 74, 3) := dk_182 0 74 (dk_at dksX17_act_3 8 rfl rfl)
theorem dX17_act_80 : decode cX17_act 80 = .ok (.invokespecial 78, 3) := dk_183 0 78 (dk_at dksX17_act_3 11 rfl rfl)
theorem dX17_act_83 : decode cX17_act 83 = .ok (.areturn, 1) := dk_176 (dk_at dksX17_act_3 14 rfl rfl)
abbrev cX17_does : ByteArray := prog_3_method_4_code
def yX17_does : MethodName := ⟨RX17, "does", "(I)LStrangerMarket$Act;"⟩
def dkwX17_does_5 : List UInt8 := [21, 5, 42, 42, 180, 0, 20, 180, 0, 48, 182, 0, 65, 183, 0, 101, 176]
abbrev dktX17_does_5 : List UInt8 := dkwX17_does_5 ++ []
def dkwX17_does_4 : List UInt8 := [54, 5, 29, 153, 0, 16, 187, 0, 94, 89, 27, 21, 5, 183, 0, 96, 167, 0, 24, 187, 0, 99, 89, 27]
abbrev dktX17_does_4 : List UInt8 := dkwX17_does_4 ++ dktX17_does_5
def dkwX17_does_3 : List UInt8 := [153, 0, 12, 187, 0, 91, 89, 27, 183, 0, 93, 176, 42, 42, 180, 0, 20, 180, 0, 48, 182, 0, 65]
abbrev dktX17_does_3 : List UInt8 := dkwX17_does_3 ++ dktX17_does_4
def dkwX17_does_2 : List UInt8 := [167, 0, 4, 3, 4, 182, 0, 61, 42, 182, 0, 24, 28, 153, 0, 9, 42, 27, 182, 0, 89, 176, 21, 4]
abbrev dktX17_does_2 : List UInt8 := dkwX17_does_2 ++ dktX17_does_3
def dkwX17_does_1 : List UInt8 := [154, 0, 21, 29, 154, 0, 17, 21, 4, 154, 0, 12, 42, 18, 87, 182, 0, 44, 153, 0, 7, 4]
abbrev dktX17_does_1 : List UInt8 := dkwX17_does_1 ++ dktX17_does_2
def dkwX17_does_0 : List UInt8 := [42, 18, 81, 182, 0, 44, 61, 42, 18, 83, 182, 0, 44, 62, 42, 18, 85, 182, 0, 44, 54, 4, 42, 28]
abbrev dktX17_does_0 : List UInt8 := dkwX17_does_0 ++ dktX17_does_1
theorem dksX17_does_0 : cX17_does.data.toList.drop 0 = dktX17_does_0 := by decide +kernel
theorem dksX17_does_1 : cX17_does.data.toList.drop 24 = dktX17_does_1 := dk_seg dksX17_does_0 24 rfl rfl
theorem dksX17_does_2 : cX17_does.data.toList.drop 46 = dktX17_does_2 := dk_seg dksX17_does_1 22 rfl rfl
theorem dksX17_does_3 : cX17_does.data.toList.drop 70 = dktX17_does_3 := dk_seg dksX17_does_2 24 rfl rfl
theorem dksX17_does_4 : cX17_does.data.toList.drop 93 = dktX17_does_4 := dk_seg dksX17_does_3 23 rfl rfl
theorem dksX17_does_5 : cX17_does.data.toList.drop 117 = dktX17_does_5 := dk_seg dksX17_does_4 24 rfl rfl
theorem dX17_does_0 : decode cX17_does 0 = .ok (.aload_n 0, 1) := dk_42 (dk_at dksX17_does_0 0 rfl rfl)
theorem dX17_does_1 : decode cX17_does 1 = .ok (.ldc 81, 2) := dk_18 81 (dk_at dksX17_does_0 1 rfl rfl)
theorem dX17_does_3 : decode cX17_does 3 = .ok (.invokevirtual 44, 3) := dk_182 0 44 (dk_at dksX17_does_0 3 rfl rfl)
theorem dX17_does_6 : decode cX17_does 6 = .ok (.istore_n 2, 1) := dk_61 (dk_at dksX17_does_0 6 rfl rfl)
theorem dX17_does_7 : decode cX17_does 7 = .ok (.aload_n 0, 1) := dk_42 (dk_at dksX17_does_0 7 rfl rfl)
theorem dX17_does_8 : decode cX17_does 8 = .ok (.ldc 83, 2) := dk_18 83 (dk_at dksX17_does_0 8 rfl rfl)
theorem dX17_does_10 : decode cX17_does 10 = .ok (.invokevirtual 44, 3) := dk_182 0 44 (dk_at dksX17_does_0 10 rfl rfl)
theorem dX17_does_13 : decode cX17_does 13 = .ok (.istore_n 3, 1) := dk_62 (dk_at dksX17_does_0 13 rfl rfl)
theorem dX17_does_14 : decode cX17_does 14 = .ok (.aload_n 0, 1) := dk_42 (dk_at dksX17_does_0 14 rfl rfl)
theorem dX17_does_15 : decode cX17_does 15 = .ok (.ldc 85, 2) := dk_18 85 (dk_at dksX17_does_0 15 rfl rfl)
theorem dX17_does_17 : decode cX17_does 17 = .ok (.invokevirtual 44, 3) := dk_182 0 44 (dk_at dksX17_does_0 17 rfl rfl)
theorem dX17_does_20 : decode cX17_does 20 = .ok (.istore 4, 2) := dk_54 4 (dk_at dksX17_does_0 20 rfl rfl)
theorem dX17_does_22 : decode cX17_does 22 = .ok (.aload_n 0, 1) := dk_42 (dk_at dksX17_does_0 22 rfl rfl)
theorem dX17_does_23 : decode cX17_does 23 = .ok (.iload_n 2, 1) := dk_28 (dk_at dksX17_does_0 23 rfl rfl)
theorem dX17_does_24 : decode cX17_does 24 = .ok (.ifCond .ne 21, 3) := dk_154 0 21 (dk_at dksX17_does_1 0 rfl rfl)
theorem dX17_does_27 : decode cX17_does 27 = .ok (.iload_n 3, 1) := dk_29 (dk_at dksX17_does_1 3 rfl rfl)
theorem dX17_does_28 : decode cX17_does 28 = .ok (.ifCond .ne 17, 3) := dk_154 0 17 (dk_at dksX17_does_1 4 rfl rfl)
theorem dX17_does_31 : decode cX17_does 31 = .ok (.iload 4, 2) := dk_21 4 (dk_at dksX17_does_1 7 rfl rfl)
theorem dX17_does_33 : decode cX17_does 33 = .ok (.ifCond .ne 12, 3) := dk_154 0 12 (dk_at dksX17_does_1 9 rfl rfl)
theorem dX17_does_36 : decode cX17_does 36 = .ok (.aload_n 0, 1) := dk_42 (dk_at dksX17_does_1 12 rfl rfl)
theorem dX17_does_37 : decode cX17_does 37 = .ok (.ldc 87, 2) := dk_18 87 (dk_at dksX17_does_1 13 rfl rfl)
theorem dX17_does_39 : decode cX17_does 39 = .ok (.invokevirtual 44, 3) := dk_182 0 44 (dk_at dksX17_does_1 15 rfl rfl)
theorem dX17_does_42 : decode cX17_does 42 = .ok (.ifCond .eq 7, 3) := dk_153 0 7 (dk_at dksX17_does_1 18 rfl rfl)
theorem dX17_does_45 : decode cX17_does 45 = .ok (.iconst 1, 1) := dk_4 (dk_at dksX17_does_1 21 rfl rfl)
theorem dX17_does_46 : decode cX17_does 46 = .ok (.goto 4, 3) := dk_167 0 4 (dk_at dksX17_does_2 0 rfl rfl)
theorem dX17_does_49 : decode cX17_does 49 = .ok (.iconst 0, 1) := dk_3 (dk_at dksX17_does_2 3 rfl rfl)
theorem dX17_does_50 : decode cX17_does 50 = .ok (.iconst 1, 1) := dk_4 (dk_at dksX17_does_2 4 rfl rfl)
theorem dX17_does_51 : decode cX17_does 51 = .ok (.invokevirtual 61, 3) := dk_182 0 61 (dk_at dksX17_does_2 5 rfl rfl)
theorem dX17_does_54 : decode cX17_does 54 = .ok (.aload_n 0, 1) := dk_42 (dk_at dksX17_does_2 8 rfl rfl)
theorem dX17_does_55 : decode cX17_does 55 = .ok (.invokevirtual 24, 3) := dk_182 0 24 (dk_at dksX17_does_2 9 rfl rfl)
theorem dX17_does_58 : decode cX17_does 58 = .ok (.iload_n 2, 1) := dk_28 (dk_at dksX17_does_2 12 rfl rfl)
theorem dX17_does_59 : decode cX17_does 59 = .ok (.ifCond .eq 9, 3) := dk_153 0 9 (dk_at dksX17_does_2 13 rfl rfl)
theorem dX17_does_62 : decode cX17_does 62 = .ok (.aload_n 0, 1) := dk_42 (dk_at dksX17_does_2 16 rfl rfl)
theorem dX17_does_63 : decode cX17_does 63 = .ok (.iload_n 1, 1) := dk_27 (dk_at dksX17_does_2 17 rfl rfl)
theorem dX17_does_64 : decode cX17_does 64 = .ok (.invokevirtual 89, 3) := dk_182 0 89 (dk_at dksX17_does_2 18 rfl rfl)
theorem dX17_does_67 : decode cX17_does 67 = .ok (.areturn, 1) := dk_176 (dk_at dksX17_does_2 21 rfl rfl)
theorem dX17_does_68 : decode cX17_does 68 = .ok (.iload 4, 2) := dk_21 4 (dk_at dksX17_does_2 22 rfl rfl)
theorem dX17_does_70 : decode cX17_does 70 = .ok (.ifCond .eq 12, 3) := dk_153 0 12 (dk_at dksX17_does_3 0 rfl rfl)
theorem dX17_does_73 : decode cX17_does 73 = .ok (.new 91, 3) := dk_187 0 91 (dk_at dksX17_does_3 3 rfl rfl)
theorem dX17_does_76 : decode cX17_does 76 = .ok (.dup, 1) := dk_89 (dk_at dksX17_does_3 6 rfl rfl)
theorem dX17_does_77 : decode cX17_does 77 = .ok (.iload_n 1, 1) := dk_27 (dk_at dksX17_does_3 7 rfl rfl)
theorem dX17_does_78 : decode cX17_does 78 = .ok (.invokespecial 93, 3) := dk_183 0 93 (dk_at dksX17_does_3 8 rfl rfl)
theorem dX17_does_81 : decode cX17_does 81 = .ok (.areturn, 1) := dk_176 (dk_at dksX17_does_3 11 rfl rfl)
theorem dX17_does_82 : decode cX17_does 82 = .ok (.aload_n 0, 1) := dk_42 (dk_at dksX17_does_3 12 rfl rfl)
theorem dX17_does_83 : decode cX17_does 83 = .ok (.aload_n 0, 1) := dk_42 (dk_at dksX17_does_3 13 rfl rfl)
theorem dX17_does_84 : decode cX17_does 84 = .ok (.getfield 20, 3) := dk_180 0 20 (dk_at dksX17_does_3 14 rfl rfl)
theorem dX17_does_87 : decode cX17_does 87 = .ok (.getfield 48, 3) := dk_180 0 48 (dk_at dksX17_does_3 17 rfl rfl)
theorem dX17_does_90 : decode cX17_does 90 = .ok (.invokevirtual 65, 3) := dk_182 0 65 (dk_at dksX17_does_3 20 rfl rfl)
theorem dX17_does_93 : decode cX17_does 93 = .ok (.istore 5, 2) := dk_54 5 (dk_at dksX17_does_4 0 rfl rfl)
theorem dX17_does_95 : decode cX17_does 95 = .ok (.iload_n 3, 1) := dk_29 (dk_at dksX17_does_4 2 rfl rfl)
theorem dX17_does_96 : decode cX17_does 96 = .ok (.ifCond .eq 16, 3) := dk_153 0 16 (dk_at dksX17_does_4 3 rfl rfl)
theorem dX17_does_99 : decode cX17_does 99 = .ok (.new 94, 3) := dk_187 0 94 (dk_at dksX17_does_4 6 rfl rfl)
theorem dX17_does_102 : decode cX17_does 102 = .ok (.dup, 1) := dk_89 (dk_at dksX17_does_4 9 rfl rfl)
theorem dX17_does_103 : decode cX17_does 103 = .ok (.iload_n 1, 1) := dk_27 (dk_at dksX17_does_4 10 rfl rfl)
theorem dX17_does_104 : decode cX17_does 104 = .ok (.iload 5, 2) := dk_21 5 (dk_at dksX17_does_4 11 rfl rfl)
theorem dX17_does_106 : decode cX17_does 106 = .ok (.invokespecial 96, 3) := dk_183 0 96 (dk_at dksX17_does_4 13 rfl rfl)
theorem dX17_does_109 : decode cX17_does 109 = .ok (.goto 24, 3) := dk_167 0 24 (dk_at dksX17_does_4 16 rfl rfl)
theorem dX17_does_112 : decode cX17_does 112 = .ok (.new 99, 3) := dk_187 0 99 (dk_at dksX17_does_4 19 rfl rfl)
theorem dX17_does_115 : decode cX17_does 115 = .ok (.dup, 1) := dk_89 (dk_at dksX17_does_4 22 rfl rfl)
theorem dX17_does_116 : decode cX17_does 116 = .ok (.iload_n 1, 1) := dk_27 (dk_at dksX17_does_4 23 rfl rfl)
theorem dX17_does_117 : decode cX17_does 117 = .ok (.iload 5, 2) := dk_21 5 (dk_at dksX17_does_5 0 rfl rfl)
theorem dX17_does_119 : decode cX17_does 119 = .ok (.aload_n 0, 1) := dk_42 (dk_at dksX17_does_5 2 rfl rfl)
theorem dX17_does_120 : decode cX17_does 120 = .ok (.aload_n 0, 1) := dk_42 (dk_at dksX17_does_5 3 rfl rfl)
theorem dX17_does_121 : decode cX17_does 121 = .ok (.getfield 20, 3) := dk_180 0 20 (dk_at dksX17_does_5 4 rfl rfl)
theorem dX17_does_124 : decode cX17_does 124 = .ok (.getfield 48, 3) := dk_180 0 48 (dk_at dksX17_does_5 7 rfl rfl)
theorem dX17_does_127 : decode cX17_does 127 = .ok (.invokevirtual 65, 3) := dk_182 0 65 (dk_at dksX17_does_5 10 rfl rfl)
theorem dX17_does_130 : decode cX17_does 130 = .ok (.invokespecial 101, 3) := dk_183 0 101 (dk_at dksX17_does_5 13 rfl rfl)
theorem dX17_does_133 : decode cX17_does 133 = .ok (.areturn, 1) := dk_176 (dk_at dksX17_does_5 16 rfl rfl)
abbrev cX17_buys : ByteArray := prog_3_method_5_code
def yX17_buys : MethodName := ⟨RX17, "buys", "(I)LStrangerMarket$Act;"⟩
def dkwX17_buys_1 : List UInt8 := [180, 0, 48, 182, 0, 65, 183, 0, 109, 176]
abbrev dktX17_buys_1 : List UInt8 := dkwX17_buys_1 ++ []
def dkwX17_buys_0 : List UInt8 := [42, 42, 180, 0, 20, 180, 0, 104, 182, 0, 65, 61, 187, 0, 107, 89, 27, 28, 42, 42, 180, 0, 20]
abbrev dktX17_buys_0 : List UInt8 := dkwX17_buys_0 ++ dktX17_buys_1
theorem dksX17_buys_0 : cX17_buys.data.toList.drop 0 = dktX17_buys_0 := by decide +kernel
theorem dksX17_buys_1 : cX17_buys.data.toList.drop 23 = dktX17_buys_1 := dk_seg dksX17_buys_0 23 rfl rfl
theorem dX17_buys_0 : decode cX17_buys 0 = .ok (.aload_n 0, 1) := dk_42 (dk_at dksX17_buys_0 0 rfl rfl)
theorem dX17_buys_1 : decode cX17_buys 1 = .ok (.aload_n 0, 1) := dk_42 (dk_at dksX17_buys_0 1 rfl rfl)
theorem dX17_buys_2 : decode cX17_buys 2 = .ok (.getfield 20, 3) := dk_180 0 20 (dk_at dksX17_buys_0 2 rfl rfl)
theorem dX17_buys_5 : decode cX17_buys 5 = .ok (.getfield 104, 3) := dk_180 0 104 (dk_at dksX17_buys_0 5 rfl rfl)
theorem dX17_buys_8 : decode cX17_buys 8 = .ok (.invokevirtual 65, 3) := dk_182 0 65 (dk_at dksX17_buys_0 8 rfl rfl)
theorem dX17_buys_11 : decode cX17_buys 11 = .ok (.istore_n 2, 1) := dk_61 (dk_at dksX17_buys_0 11 rfl rfl)
theorem dX17_buys_12 : decode cX17_buys 12 = .ok (.new 107, 3) := dk_187 0 107 (dk_at dksX17_buys_0 12 rfl rfl)
theorem dX17_buys_15 : decode cX17_buys 15 = .ok (.dup, 1) := dk_89 (dk_at dksX17_buys_0 15 rfl rfl)
theorem dX17_buys_16 : decode cX17_buys 16 = .ok (.iload_n 1, 1) := dk_27 (dk_at dksX17_buys_0 16 rfl rfl)
theorem dX17_buys_17 : decode cX17_buys 17 = .ok (.iload_n 2, 1) := dk_28 (dk_at dksX17_buys_0 17 rfl rfl)
theorem dX17_buys_18 : decode cX17_buys 18 = .ok (.aload_n 0, 1) := dk_42 (dk_at dksX17_buys_0 18 rfl rfl)
theorem dX17_buys_19 : decode cX17_buys 19 = .ok (.aload_n 0, 1) := dk_42 (dk_at dksX17_buys_0 19 rfl rfl)
theorem dX17_buys_20 : decode cX17_buys 20 = .ok (.getfield 20, 3) := dk_180 0 20 (dk_at dksX17_buys_0 20 rfl rfl)
theorem dX17_buys_23 : decode cX17_buys 23 = .ok (.getfield 48, 3) := dk_180 0 48 (dk_at dksX17_buys_1 0 rfl rfl)
theorem dX17_buys_26 : decode cX17_buys 26 = .ok (.invokevirtual 65, 3) := dk_182 0 65 (dk_at dksX17_buys_1 3 rfl rfl)
theorem dX17_buys_29 : decode cX17_buys 29 = .ok (.invokespecial 109, 3) := dk_183 0 109 (dk_at dksX17_buys_1 6 rfl rfl)
theorem dX17_buys_32 : decode cX17_buys 32 = .ok (.areturn, 1) := dk_176 (dk_at dksX17_buys_1 9 rfl rfl)
abbrev cX18_does : ByteArray := prog_16_method_2_code
def yX18_does : MethodName := ⟨RX18, "does", "(LStrangerMarket$Market;)I"⟩
def dkwX18_does_1 : List UInt8 := [182, 0, 20, 87, 3, 172]
abbrev dktX18_does_1 : List UInt8 := dkwX18_does_1 ++ []
def dkwX18_does_0 : List UInt8 := [43, 180, 0, 15, 42, 180, 0, 9, 96, 17, 1, 144, 164, 0, 6, 16, 41, 172, 43, 42, 180, 0, 9]
abbrev dktX18_does_0 : List UInt8 := dkwX18_does_0 ++ dktX18_does_1
theorem dksX18_does_0 : cX18_does.data.toList.drop 0 = dktX18_does_0 := by decide +kernel
theorem dksX18_does_1 : cX18_does.data.toList.drop 23 = dktX18_does_1 := dk_seg dksX18_does_0 23 rfl rfl
theorem dX18_does_0 : decode cX18_does 0 = .ok (.aload_n 1, 1) := dk_43 (dk_at dksX18_does_0 0 rfl rfl)
theorem dX18_does_1 : decode cX18_does 1 = .ok (.getfield 15, 3) := dk_180 0 15 (dk_at dksX18_does_0 1 rfl rfl)
theorem dX18_does_4 : decode cX18_does 4 = .ok (.aload_n 0, 1) := dk_42 (dk_at dksX18_does_0 4 rfl rfl)
theorem dX18_does_5 : decode cX18_does 5 = .ok (.getfield 9, 3) := dk_180 0 9 (dk_at dksX18_does_0 5 rfl rfl)
theorem dX18_does_8 : decode cX18_does 8 = .ok (.iadd, 1) := dk_96 (dk_at dksX18_does_0 8 rfl rfl)
theorem dX18_does_9 : decode cX18_does 9 = .ok (.sipush 400, 3) := dk_17 1 144 (dk_at dksX18_does_0 9 rfl rfl)
theorem dX18_does_12 : decode cX18_does 12 = .ok (.if_icmp .le 6, 3) := dk_164 0 6 (dk_at dksX18_does_0 12 rfl rfl)
theorem dX18_does_15 : decode cX18_does 15 = .ok (.bipush 41, 2) := dk_16 41 (dk_at dksX18_does_0 15 rfl rfl)
theorem dX18_does_17 : decode cX18_does 17 = .ok (.ireturn, 1) := dk_172 (dk_at dksX18_does_0 17 rfl rfl)
theorem dX18_does_18 : decode cX18_does 18 = .ok (.aload_n 1, 1) := dk_43 (dk_at dksX18_does_0 18 rfl rfl)
theorem dX18_does_19 : decode cX18_does 19 = .ok (.aload_n 0, 1) := dk_42 (dk_at dksX18_does_0 19 rfl rfl)
theorem dX18_does_20 : decode cX18_does 20 = .ok (.getfield 9, 3) := dk_180 0 9 (dk_at dksX18_does_0 20 rfl rfl)
theorem dX18_does_23 : decode cX18_does 23 = .ok (.invokevirtual 20, 3) := dk_182 0 20 (dk_at dksX18_does_1 0 rfl rfl)
theorem dX18_does_26 : decode cX18_does 26 = .ok (.pop, 1) := dk_87 (dk_at dksX18_does_1 3 rfl rfl)
theorem dX18_does_27 : decode cX18_does 27 = .ok (.iconst 0, 1) := dk_3 (dk_at dksX18_does_1 4 rfl rfl)
theorem dX18_does_28 : decode cX18_does 28 = .ok (.ireturn, 1) := dk_172 (dk_at dksX18_does_1 5 rfl rfl)
abbrev cX18_init : ByteArray := prog_16_method_1_code
def yX18_init : MethodName := ⟨RX18, "<init>", "(I)V"⟩
def dkwX18_init_0 : List UInt8 := [42, 2, 183, 0, 3, 42, 27, 181, 0, 9, 177]
abbrev dktX18_init_0 : List UInt8 := dkwX18_init_0 ++ []
theorem dksX18_init_0 : cX18_init.data.toList.drop 0 = dktX18_init_0 := by decide +kernel
theorem dX18_init_0 : decode cX18_init 0 = .ok (.aload_n 0, 1) := dk_42 (dk_at dksX18_init_0 0 rfl rfl)
theorem dX18_init_1 : decode cX18_init 1 = .ok (.iconst (-1), 1) := dk_2 (dk_at dksX18_init_0 1 rfl rfl)
theorem dX18_init_2 : decode cX18_init 2 = .ok (.invokespecial 3, 3) := dk_183 0 3 (dk_at dksX18_init_0 2 rfl rfl)
theorem dX18_init_5 : decode cX18_init 5 = .ok (.aload_n 0, 1) := dk_42 (dk_at dksX18_init_0 5 rfl rfl)
theorem dX18_init_6 : decode cX18_init 6 = .ok (.iload_n 1, 1) := dk_27 (dk_at dksX18_init_0 6 rfl rfl)
theorem dX18_init_7 : decode cX18_init 7 = .ok (.putfield 9, 3) := dk_181 0 9 (dk_at dksX18_init_0 7 rfl rfl)
theorem dX18_init_10 : decode cX18_init 10 = .ok (.return_, 1) := dk_177 (dk_at dksX18_init_0 10 rfl rfl)
abbrev cX19_init : ByteArray := prog_19_method_1_code
def yX19_init : MethodName := ⟨RX19, "<init>", "([BILStrangerMarket$County;)V"⟩
def dkwX19_init_0 : List UInt8 := [42, 43, 28, 17, 0, 200, 183, 0, 3, 42, 45, 181, 0, 9, 177]
abbrev dktX19_init_0 : List UInt8 := dkwX19_init_0 ++ []
theorem dksX19_init_0 : cX19_init.data.toList.drop 0 = dktX19_init_0 := by decide +kernel
theorem dX19_init_0 : decode cX19_init 0 = .ok (.aload_n 0, 1) := dk_42 (dk_at dksX19_init_0 0 rfl rfl)
theorem dX19_init_1 : decode cX19_init 1 = .ok (.aload_n 1, 1) := dk_43 (dk_at dksX19_init_0 1 rfl rfl)
theorem dX19_init_2 : decode cX19_init 2 = .ok (.iload_n 2, 1) := dk_28 (dk_at dksX19_init_0 2 rfl rfl)
theorem dX19_init_3 : decode cX19_init 3 = .ok (.sipush 200, 3) := dk_17 0 200 (dk_at dksX19_init_0 3 rfl rfl)
theorem dX19_init_6 : decode cX19_init 6 = .ok (.invokespecial 3, 3) := dk_183 0 3 (dk_at dksX19_init_0 6 rfl rfl)
theorem dX19_init_9 : decode cX19_init 9 = .ok (.aload_n 0, 1) := dk_42 (dk_at dksX19_init_0 9 rfl rfl)
theorem dX19_init_10 : decode cX19_init 10 = .ok (.aload_n 3, 1) := dk_45 (dk_at dksX19_init_0 10 rfl rfl)
theorem dX19_init_11 : decode cX19_init 11 = .ok (.putfield 9, 3) := dk_181 0 9 (dk_at dksX19_init_0 11 rfl rfl)
theorem dX19_init_14 : decode cX19_init 14 = .ok (.return_, 1) := dk_177 (dk_at dksX19_init_0 14 rfl rfl)
abbrev cX19_read : ByteArray := prog_19_method_2_code
def yX19_read : MethodName := ⟨RX19, "read", "()LStrangerMarket$Cond;"⟩
def dkwX19_read_1 : List UInt8 := [182, 0, 27, 43, 176]
abbrev dktX19_read_1 : List UInt8 := dkwX19_read_1 ++ []
def dkwX19_read_0 : List UInt8 := [42, 182, 0, 15, 42, 182, 0, 19, 76, 42, 42, 180, 0, 23, 154, 0, 7, 4, 167, 0, 4, 3, 4]
abbrev dktX19_read_0 : List UInt8 := dkwX19_read_0 ++ dktX19_read_1
theorem dksX19_read_0 : cX19_read.data.toList.drop 0 = dktX19_read_0 := by decide +kernel
theorem dksX19_read_1 : cX19_read.data.toList.drop 23 = dktX19_read_1 := dk_seg dksX19_read_0 23 rfl rfl
theorem dX19_read_0 : decode cX19_read 0 = .ok (.aload_n 0, 1) := dk_42 (dk_at dksX19_read_0 0 rfl rfl)
theorem dX19_read_1 : decode cX19_read 1 = .ok (.invokevirtual 15, 3) := dk_182 0 15 (dk_at dksX19_read_0 1 rfl rfl)
theorem dX19_read_4 : decode cX19_read 4 = .ok (.aload_n 0, 1) := dk_42 (dk_at dksX19_read_0 4 rfl rfl)
theorem dX19_read_5 : decode cX19_read 5 = .ok (.invokevirtual 19, 3) := dk_182 0 19 (dk_at dksX19_read_0 5 rfl rfl)
theorem dX19_read_8 : decode cX19_read 8 = .ok (.astore_n 1, 1) := dk_76 (dk_at dksX19_read_0 8 rfl rfl)
theorem dX19_read_9 : decode cX19_read 9 = .ok (.aload_n 0, 1) := dk_42 (dk_at dksX19_read_0 9 rfl rfl)
theorem dX19_read_10 : decode cX19_read 10 = .ok (.aload_n 0, 1) := dk_42 (dk_at dksX19_read_0 10 rfl rfl)
theorem dX19_read_11 : decode cX19_read 11 = .ok (.getfield 23, 3) := dk_180 0 23 (dk_at dksX19_read_0 11 rfl rfl)
theorem dX19_read_14 : decode cX19_read 14 = .ok (.ifCond .ne 7, 3) := dk_154 0 7 (dk_at dksX19_read_0 14 rfl rfl)
theorem dX19_read_17 : decode cX19_read 17 = .ok (.iconst 1, 1) := dk_4 (dk_at dksX19_read_0 17 rfl rfl)
theorem dX19_read_18 : decode cX19_read 18 = .ok (.goto 4, 3) := dk_167 0 4 (dk_at dksX19_read_0 18 rfl rfl)
theorem dX19_read_21 : decode cX19_read 21 = .ok (.iconst 0, 1) := dk_3 (dk_at dksX19_read_0 21 rfl rfl)
theorem dX19_read_22 : decode cX19_read 22 = .ok (.iconst 1, 1) := dk_4 (dk_at dksX19_read_0 22 rfl rfl)
theorem dX19_read_23 : decode cX19_read 23 = .ok (.invokevirtual 27, 3) := dk_182 0 27 (dk_at dksX19_read_1 0 rfl rfl)
theorem dX19_read_26 : decode cX19_read 26 = .ok (.aload_n 1, 1) := dk_43 (dk_at dksX19_read_1 3 rfl rfl)
theorem dX19_read_27 : decode cX19_read 27 = .ok (.areturn, 1) := dk_176 (dk_at dksX19_read_1 4 rfl rfl)
abbrev cX19_or : ByteArray := prog_19_method_3_code
def yX19_or : MethodName := ⟨RX19, "or", "()LStrangerMarket$Cond;"⟩
def dkwX19_or_1 : List UInt8 := [182, 0, 31, 3, 183, 0, 41, 76, 167, 255, 229, 43, 176]
abbrev dktX19_or_1 : List UInt8 := dkwX19_or_1 ++ []
def dkwX19_or_0 : List UInt8 := [42, 182, 0, 31, 76, 42, 18, 34, 182, 0, 35, 153, 0, 24, 42, 182, 0, 15, 187, 0, 39, 89, 43, 42]
abbrev dktX19_or_0 : List UInt8 := dkwX19_or_0 ++ dktX19_or_1
theorem dksX19_or_0 : cX19_or.data.toList.drop 0 = dktX19_or_0 := by decide +kernel
theorem dksX19_or_1 : cX19_or.data.toList.drop 24 = dktX19_or_1 := dk_seg dksX19_or_0 24 rfl rfl
theorem dX19_or_0 : decode cX19_or 0 = .ok (.aload_n 0, 1) := dk_42 (dk_at dksX19_or_0 0 rfl rfl)
theorem dX19_or_1 : decode cX19_or 1 = .ok (.invokevirtual 31, 3) := dk_182 0 31 (dk_at dksX19_or_0 1 rfl rfl)
theorem dX19_or_4 : decode cX19_or 4 = .ok (.astore_n 1, 1) := dk_76 (dk_at dksX19_or_0 4 rfl rfl)
theorem dX19_or_5 : decode cX19_or 5 = .ok (.aload_n 0, 1) := dk_42 (dk_at dksX19_or_0 5 rfl rfl)
theorem dX19_or_6 : decode cX19_or 6 = .ok (.ldc 34, 2) := dk_18 34 (dk_at dksX19_or_0 6 rfl rfl)
theorem dX19_or_8 : decode cX19_or 8 = .ok (.invokevirtual 35, 3) := dk_182 0 35 (dk_at dksX19_or_0 8 rfl rfl)
theorem dX19_or_11 : decode cX19_or 11 = .ok (.ifCond .eq 24, 3) := dk_153 0 24 (dk_at dksX19_or_0 11 rfl rfl)
theorem dX19_or_14 : decode cX19_or 14 = .ok (.aload_n 0, 1) := dk_42 (dk_at dksX19_or_0 14 rfl rfl)
theorem dX19_or_15 : decode cX19_or 15 = .ok (.invokevirtual 15, 3) := dk_182 0 15 (dk_at dksX19_or_0 15 rfl rfl)
theorem dX19_or_18 : decode cX19_or 18 = .ok (.new 39, 3) := dk_187 0 39 (dk_at dksX19_or_0 18 rfl rfl)
theorem dX19_or_21 : decode cX19_or 21 = .ok (.dup, 1) := dk_89 (dk_at dksX19_or_0 21 rfl rfl)
theorem dX19_or_22 : decode cX19_or 22 = .ok (.aload_n 1, 1) := dk_43 (dk_at dksX19_or_0 22 rfl rfl)
theorem dX19_or_23 : decode cX19_or 23 = .ok (.aload_n 0, 1) := dk_42 (dk_at dksX19_or_0 23 rfl rfl)
theorem dX19_or_24 : decode cX19_or 24 = .ok (.invokevirtual 31, 3) := dk_182 0 31 (dk_at dksX19_or_1 0 rfl rfl)
theorem dX19_or_27 : decode cX19_or 27 = .ok (.iconst 0, 1) := dk_3 (dk_at dksX19_or_1 3 rfl rfl)
theorem dX19_or_28 : decode cX19_or 28 = .ok (.invokespecial 41, 3) := dk_183 0 41 (dk_at dksX19_or_1 4 rfl rfl)
theorem dX19_or_31 : decode cX19_or 31 = .ok (.astore_n 1, 1) := dk_76 (dk_at dksX19_or_1 7 rfl rfl)
theorem dX19_or_32 : decode cX19_or 32 = .ok (.goto (-27), 3) := dk_167 255 229 (dk_at dksX19_or_1 8 rfl rfl)
theorem dX19_or_35 : decode cX19_or 35 = .ok (.aload_n 1, 1) := dk_43 (dk_at dksX19_or_1 11 rfl rfl)
theorem dX19_or_36 : decode cX19_or 36 = .ok (.areturn, 1) := dk_176 (dk_at dksX19_or_1 12 rfl rfl)
abbrev cX19_and : ByteArray := prog_19_method_4_code
def yX19_and : MethodName := ⟨RX19, "and", "()LStrangerMarket$Cond;"⟩
def dkwX19_and_1 : List UInt8 := [182, 0, 44, 4, 183, 0, 41, 76, 167, 255, 229, 43, 176]
abbrev dktX19_and_1 : List UInt8 := dkwX19_and_1 ++ []
def dkwX19_and_0 : List UInt8 := [42, 182, 0, 44, 76, 42, 18, 47, 182, 0, 35, 153, 0, 24, 42, 182, 0, 15, 187, 0, 39, 89, 43, 42]
abbrev dktX19_and_0 : List UInt8 := dkwX19_and_0 ++ dktX19_and_1
theorem dksX19_and_0 : cX19_and.data.toList.drop 0 = dktX19_and_0 := by decide +kernel
theorem dksX19_and_1 : cX19_and.data.toList.drop 24 = dktX19_and_1 := dk_seg dksX19_and_0 24 rfl rfl
theorem dX19_and_0 : decode cX19_and 0 = .ok (.aload_n 0, 1) := dk_42 (dk_at dksX19_and_0 0 rfl rfl)
theorem dX19_and_1 : decode cX19_and 1 = .ok (.invokevirtual 44, 3) := dk_182 0 44 (dk_at dksX19_and_0 1 rfl rfl)
theorem dX19_and_4 : decode cX19_and 4 = .ok (.astore_n 1, 1) := dk_76 (dk_at dksX19_and_0 4 rfl rfl)
theorem dX19_and_5 : decode cX19_and 5 = .ok (.aload_n 0, 1) := dk_42 (dk_at dksX19_and_0 5 rfl rfl)
theorem dX19_and_6 : decode cX19_and 6 = .ok (.ldc 47, 2) := dk_18 47 (dk_at dksX19_and_0 6 rfl rfl)
theorem dX19_and_8 : decode cX19_and 8 = .ok (.invokevirtual 35, 3) := dk_182 0 35 (dk_at dksX19_and_0 8 rfl rfl)
theorem dX19_and_11 : decode cX19_and 11 = .ok (.ifCond .eq 24, 3) := dk_153 0 24 (dk_at dksX19_and_0 11 rfl rfl)
theorem dX19_and_14 : decode cX19_and 14 = .ok (.aload_n 0, 1) := dk_42 (dk_at dksX19_and_0 14 rfl rfl)
theorem dX19_and_15 : decode cX19_and 15 = .ok (.invokevirtual 15, 3) := dk_182 0 15 (dk_at dksX19_and_0 15 rfl rfl)
theorem dX19_and_18 : decode cX19_and 18 = .ok (.new 39, 3) := dk_187 0 39 (dk_at dksX19_and_0 18 rfl rfl)
theorem dX19_and_21 : decode cX19_and 21 = .ok (.dup, 1) := dk_89 (dk_at dksX19_and_0 21 rfl rfl)
theorem dX19_and_22 : decode cX19_and 22 = .ok (.aload_n 1, 1) := dk_43 (dk_at dksX19_and_0 22 rfl rfl)
theorem dX19_and_23 : decode cX19_and 23 = .ok (.aload_n 0, 1) := dk_42 (dk_at dksX19_and_0 23 rfl rfl)
theorem dX19_and_24 : decode cX19_and 24 = .ok (.invokevirtual 44, 3) := dk_182 0 44 (dk_at dksX19_and_1 0 rfl rfl)
theorem dX19_and_27 : decode cX19_and 27 = .ok (.iconst 1, 1) := dk_4 (dk_at dksX19_and_1 3 rfl rfl)
theorem dX19_and_28 : decode cX19_and 28 = .ok (.invokespecial 41, 3) := dk_183 0 41 (dk_at dksX19_and_1 4 rfl rfl)
theorem dX19_and_31 : decode cX19_and 31 = .ok (.astore_n 1, 1) := dk_76 (dk_at dksX19_and_1 7 rfl rfl)
theorem dX19_and_32 : decode cX19_and 32 = .ok (.goto (-27), 3) := dk_167 255 229 (dk_at dksX19_and_1 8 rfl rfl)
theorem dX19_and_35 : decode cX19_and 35 = .ok (.aload_n 1, 1) := dk_43 (dk_at dksX19_and_1 11 rfl rfl)
theorem dX19_and_36 : decode cX19_and 36 = .ok (.areturn, 1) := dk_176 (dk_at dksX19_and_1 12 rfl rfl)
abbrev cX19_says : ByteArray := prog_19_method_7_code
def yX19_says : MethodName := ⟨RX19, "says", "()LStrangerMarket$Cond;"⟩
def dkwX19_says_11 : List UInt8 := [89, 180, 0, 83, 4, 100, 181, 0, 83, 25, 7, 176]
abbrev dktX19_says_11 : List UInt8 := dkwX19_says_11 ++ []
def dkwX19_says_10 : List UInt8 := [159, 0, 15, 187, 0, 111, 89, 21, 5, 183, 0, 113, 167, 0, 9, 42, 21, 6, 182, 0, 116, 58, 7, 42]
abbrev dktX19_says_10 : List UInt8 := dkwX19_says_10 ++ dktX19_says_11
def dkwX19_says_9 : List UInt8 := [167, 0, 14, 42, 42, 180, 0, 9, 180, 0, 106, 182, 0, 102, 183, 0, 109, 167, 0, 27, 21, 5, 2]
abbrev dktX19_says_9 : List UInt8 := dkwX19_says_9 ++ dktX19_says_10
def dkwX19_says_8 : List UInt8 := [153, 0, 43, 187, 0, 94, 89, 29, 29, 153, 0, 17, 42, 42, 180, 0, 9, 180, 0, 96, 182, 0, 102]
abbrev dktX19_says_8 : List UInt8 := dkwX19_says_8 ++ dktX19_says_9
def dkwX19_says_7 : List UInt8 := [167, 0, 90, 28, 153, 0, 17, 187, 0, 89, 89, 42, 182, 0, 44, 183, 0, 91, 167, 0, 72, 21, 4]
abbrev dktX19_says_7 : List UInt8 := dkwX19_says_7 ++ dktX19_says_8
def dkwX19_says_6 : List UInt8 := [42, 89, 180, 0, 83, 4, 96, 181, 0, 83, 42, 182, 0, 15, 27, 153, 0, 10, 42, 182, 0, 86]
abbrev dktX19_says_6 : List UInt8 := dkwX19_says_6 ++ dktX19_says_7
def dkwX19_says_5 : List UInt8 := [16, 8, 162, 0, 7, 4, 167, 0, 4, 3, 7, 182, 0, 27, 42, 89, 180, 0, 80, 4, 96, 181, 0, 80]
abbrev dktX19_says_5 : List UInt8 := dkwX19_says_5 ++ dktX19_says_6
def dkwX19_says_4 : List UInt8 := [4, 167, 0, 4, 3, 4, 182, 0, 27, 42, 42, 180, 0, 80, 16, 20, 162, 0, 16, 42, 180, 0, 83]
abbrev dktX19_says_4 : List UInt8 := dkwX19_says_4 ++ dktX19_says_5
def dkwX19_says_3 : List UInt8 := [154, 0, 24, 28, 154, 0, 20, 21, 4, 154, 0, 15, 21, 5, 2, 160, 0, 9, 21, 6, 2, 159, 0, 7]
abbrev dktX19_says_3 : List UInt8 := dkwX19_says_3 ++ dktX19_says_4
def dkwX19_says_2 : List UInt8 := [153, 0, 7, 4, 167, 0, 4, 3, 54, 4, 42, 182, 0, 73, 54, 5, 42, 182, 0, 77, 54, 6, 42, 27]
abbrev dktX19_says_2 : List UInt8 := dkwX19_says_2 ++ dktX19_says_3
def dkwX19_says_1 : List UInt8 := [42, 18, 67, 182, 0, 35, 61, 42, 18, 69, 182, 0, 35, 62, 29, 154, 0, 12, 42, 18, 71, 182, 0, 35]
abbrev dktX19_says_1 : List UInt8 := dkwX19_says_1 ++ dktX19_says_2
def dkwX19_says_0 : List UInt8 := [42, 180, 0, 23, 16, 6, 160, 0, 16, 42, 180, 0, 64, 16, 40, 160, 0, 7, 4, 167, 0, 4, 3, 60]
abbrev dktX19_says_0 : List UInt8 := dkwX19_says_0 ++ dktX19_says_1
theorem dksX19_says_0 : cX19_says.data.toList.drop 0 = dktX19_says_0 := by decide +kernel
theorem dksX19_says_1 : cX19_says.data.toList.drop 24 = dktX19_says_1 := dk_seg dksX19_says_0 24 rfl rfl
theorem dksX19_says_2 : cX19_says.data.toList.drop 48 = dktX19_says_2 := dk_seg dksX19_says_1 24 rfl rfl
theorem dksX19_says_3 : cX19_says.data.toList.drop 72 = dktX19_says_3 := dk_seg dksX19_says_2 24 rfl rfl
theorem dksX19_says_4 : cX19_says.data.toList.drop 96 = dktX19_says_4 := dk_seg dksX19_says_3 24 rfl rfl
theorem dksX19_says_5 : cX19_says.data.toList.drop 119 = dktX19_says_5 := dk_seg dksX19_says_4 23 rfl rfl
theorem dksX19_says_6 : cX19_says.data.toList.drop 143 = dktX19_says_6 := dk_seg dksX19_says_5 24 rfl rfl
theorem dksX19_says_7 : cX19_says.data.toList.drop 165 = dktX19_says_7 := dk_seg dksX19_says_6 22 rfl rfl
theorem dksX19_says_8 : cX19_says.data.toList.drop 188 = dktX19_says_8 := dk_seg dksX19_says_7 23 rfl rfl
theorem dksX19_says_9 : cX19_says.data.toList.drop 211 = dktX19_says_9 := dk_seg dksX19_says_8 23 rfl rfl
theorem dksX19_says_10 : cX19_says.data.toList.drop 234 = dktX19_says_10 := dk_seg dksX19_says_9 23 rfl rfl
theorem dksX19_says_11 : cX19_says.data.toList.drop 258 = dktX19_says_11 := dk_seg dksX19_says_10 24 rfl rfl
theorem dX19_says_0 : decode cX19_says 0 = .ok (.aload_n 0, 1) := dk_42 (dk_at dksX19_says_0 0 rfl rfl)
theorem dX19_says_1 : decode cX19_says 1 = .ok (.getfield 23, 3) := dk_180 0 23 (dk_at dksX19_says_0 1 rfl rfl)
theorem dX19_says_4 : decode cX19_says 4 = .ok (.bipush 6, 2) := dk_16 6 (dk_at dksX19_says_0 4 rfl rfl)
theorem dX19_says_6 : decode cX19_says 6 = .ok (.if_icmp .ne 16, 3) := dk_160 0 16 (dk_at dksX19_says_0 6 rfl rfl)
theorem dX19_says_9 : decode cX19_says 9 = .ok (.aload_n 0, 1) := dk_42 (dk_at dksX19_says_0 9 rfl rfl)
theorem dX19_says_10 : decode cX19_says 10 = .ok (.getfield 64, 3) := dk_180 0 64 (dk_at dksX19_says_0 10 rfl rfl)
theorem dX19_says_13 : decode cX19_says 13 = .ok (.bipush 40, 2) := dk_16 40 (dk_at dksX19_says_0 13 rfl rfl)
theorem dX19_says_15 : decode cX19_says 15 = .ok (.if_icmp .ne 7, 3) := dk_160 0 7 (dk_at dksX19_says_0 15 rfl rfl)
theorem dX19_says_18 : decode cX19_says 18 = .ok (.iconst 1, 1) := dk_4 (dk_at dksX19_says_0 18 rfl rfl)
theorem dX19_says_19 : decode cX19_says 19 = .ok (.goto 4, 3) := dk_167 0 4 (dk_at dksX19_says_0 19 rfl rfl)
theorem dX19_says_22 : decode cX19_says 22 = .ok (.iconst 0, 1) := dk_3 (dk_at dksX19_says_0 22 rfl rfl)
theorem dX19_says_23 : decode cX19_says 23 = .ok (.istore_n 1, 1) := dk_60 (dk_at dksX19_says_0 23 rfl rfl)
theorem dX19_says_24 : decode cX19_says 24 = .ok (.aload_n 0, 1) := dk_42 (dk_at dksX19_says_1 0 rfl rfl)
theorem dX19_says_25 : decode cX19_says 25 = .ok (.ldc 67, 2) := dk_18 67 (dk_at dksX19_says_1 1 rfl rfl)
theorem dX19_says_27 : decode cX19_says 27 = .ok (.invokevirtual 35, 3) := dk_182 0 35 (dk_at dksX19_says_1 3 rfl rfl)
theorem dX19_says_30 : decode cX19_says 30 = .ok (.istore_n 2, 1) := dk_61 (dk_at dksX19_says_1 6 rfl rfl)
theorem dX19_says_31 : decode cX19_says 31 = .ok (.aload_n 0, 1) := dk_42 (dk_at dksX19_says_1 7 rfl rfl)
theorem dX19_says_32 : decode cX19_says 32 = .ok (.ldc 69, 2) := dk_18 69 (dk_at dksX19_says_1 8 rfl rfl)
theorem dX19_says_34 : decode cX19_says 34 = .ok (.invokevirtual 35, 3) := dk_182 0 35 (dk_at dksX19_says_1 10 rfl rfl)
theorem dX19_says_37 : decode cX19_says 37 = .ok (.istore_n 3, 1) := dk_62 (dk_at dksX19_says_1 13 rfl rfl)
theorem dX19_says_38 : decode cX19_says 38 = .ok (.iload_n 3, 1) := dk_29 (dk_at dksX19_says_1 14 rfl rfl)
theorem dX19_says_39 : decode cX19_says 39 = .ok (.ifCond .ne 12, 3) := dk_154 0 12 (dk_at dksX19_says_1 15 rfl rfl)
theorem dX19_says_42 : decode cX19_says 42 = .ok (.aload_n 0, 1) := dk_42 (dk_at dksX19_says_1 18 rfl rfl)
theorem dX19_says_43 : decode cX19_says 43 = .ok (.ldc 71, 2) := dk_18 71 (dk_at dksX19_says_1 19 rfl rfl)
theorem dX19_says_45 : decode cX19_says 45 = .ok (.invokevirtual 35, 3) := dk_182 0 35 (dk_at dksX19_says_1 21 rfl rfl)
theorem dX19_says_48 : decode cX19_says 48 = .ok (.ifCond .eq 7, 3) := dk_153 0 7 (dk_at dksX19_says_2 0 rfl rfl)
theorem dX19_says_51 : decode cX19_says 51 = .ok (.iconst 1, 1) := dk_4 (dk_at dksX19_says_2 3 rfl rfl)
theorem dX19_says_52 : decode cX19_says 52 = .ok (.goto 4, 3) := dk_167 0 4 (dk_at dksX19_says_2 4 rfl rfl)
theorem dX19_says_55 : decode cX19_says 55 = .ok (.iconst 0, 1) := dk_3 (dk_at dksX19_says_2 7 rfl rfl)
theorem dX19_says_56 : decode cX19_says 56 = .ok (.istore 4, 2) := dk_54 4 (dk_at dksX19_says_2 8 rfl rfl)
theorem dX19_says_58 : decode cX19_says 58 = .ok (.aload_n 0, 1) := dk_42 (dk_at dksX19_says_2 10 rfl rfl)
theorem dX19_says_59 : decode cX19_says 59 = .ok (.invokevirtual 73, 3) := dk_182 0 73 (dk_at dksX19_says_2 11 rfl rfl)
theorem dX19_says_62 : decode cX19_says 62 = .ok (.istore 5, 2) := dk_54 5 (dk_at dksX19_says_2 14 rfl rfl)
theorem dX19_says_64 : decode cX19_says 64 = .ok (.aload_n 0, 1) := dk_42 (dk_at dksX19_says_2 16 rfl rfl)
theorem dX19_says_65 : decode cX19_says 65 = .ok (.invokevirtual 77, 3) := dk_182 0 77 (dk_at dksX19_says_2 17 rfl rfl)
theorem dX19_says_68 : decode cX19_says 68 = .ok (.istore 6, 2) := dk_54 6 (dk_at dksX19_says_2 20 rfl rfl)
theorem dX19_says_70 : decode cX19_says 70 = .ok (.aload_n 0, 1) := dk_42 (dk_at dksX19_says_2 22 rfl rfl)
theorem dX19_says_71 : decode cX19_says 71 = .ok (.iload_n 1, 1) := dk_27 (dk_at dksX19_says_2 23 rfl rfl)
theorem dX19_says_72 : decode cX19_says 72 = .ok (.ifCond .ne 24, 3) := dk_154 0 24 (dk_at dksX19_says_3 0 rfl rfl)
theorem dX19_says_75 : decode cX19_says 75 = .ok (.iload_n 2, 1) := dk_28 (dk_at dksX19_says_3 3 rfl rfl)
theorem dX19_says_76 : decode cX19_says 76 = .ok (.ifCond .ne 20, 3) := dk_154 0 20 (dk_at dksX19_says_3 4 rfl rfl)
theorem dX19_says_79 : decode cX19_says 79 = .ok (.iload 4, 2) := dk_21 4 (dk_at dksX19_says_3 7 rfl rfl)
theorem dX19_says_81 : decode cX19_says 81 = .ok (.ifCond .ne 15, 3) := dk_154 0 15 (dk_at dksX19_says_3 9 rfl rfl)
theorem dX19_says_84 : decode cX19_says 84 = .ok (.iload 5, 2) := dk_21 5 (dk_at dksX19_says_3 12 rfl rfl)
theorem dX19_says_86 : decode cX19_says 86 = .ok (.iconst (-1), 1) := dk_2 (dk_at dksX19_says_3 14 rfl rfl)
theorem dX19_says_87 : decode cX19_says 87 = .ok (.if_icmp .ne 9, 3) := dk_160 0 9 (dk_at dksX19_says_3 15 rfl rfl)
theorem dX19_says_90 : decode cX19_says 90 = .ok (.iload 6, 2) := dk_21 6 (dk_at dksX19_says_3 18 rfl rfl)
theorem dX19_says_92 : decode cX19_says 92 = .ok (.iconst (-1), 1) := dk_2 (dk_at dksX19_says_3 20 rfl rfl)
theorem dX19_says_93 : decode cX19_says 93 = .ok (.if_icmp .eq 7, 3) := dk_159 0 7 (dk_at dksX19_says_3 21 rfl rfl)
theorem dX19_says_96 : decode cX19_says 96 = .ok (.iconst 1, 1) := dk_4 (dk_at dksX19_says_4 0 rfl rfl)
theorem dX19_says_97 : decode cX19_says 97 = .ok (.goto 4, 3) := dk_167 0 4 (dk_at dksX19_says_4 1 rfl rfl)
theorem dX19_says_100 : decode cX19_says 100 = .ok (.iconst 0, 1) := dk_3 (dk_at dksX19_says_4 4 rfl rfl)
theorem dX19_says_101 : decode cX19_says 101 = .ok (.iconst 1, 1) := dk_4 (dk_at dksX19_says_4 5 rfl rfl)
theorem dX19_says_102 : decode cX19_says 102 = .ok (.invokevirtual 27, 3) := dk_182 0 27 (dk_at dksX19_says_4 6 rfl rfl)
theorem dX19_says_105 : decode cX19_says 105 = .ok (.aload_n 0, 1) := dk_42 (dk_at dksX19_says_4 9 rfl rfl)
theorem dX19_says_106 : decode cX19_says 106 = .ok (.aload_n 0, 1) := dk_42 (dk_at dksX19_says_4 10 rfl rfl)
theorem dX19_says_107 : decode cX19_says 107 = .ok (.getfield 80, 3) := dk_180 0 80 (dk_at dksX19_says_4 11 rfl rfl)
theorem dX19_says_110 : decode cX19_says 110 = .ok (.bipush 20, 2) := dk_16 20 (dk_at dksX19_says_4 14 rfl rfl)
theorem dX19_says_112 : decode cX19_says 112 = .ok (.if_icmp .ge 16, 3) := dk_162 0 16 (dk_at dksX19_says_4 16 rfl rfl)
theorem dX19_says_115 : decode cX19_says 115 = .ok (.aload_n 0, 1) := dk_42 (dk_at dksX19_says_4 19 rfl rfl)
theorem dX19_says_116 : decode cX19_says 116 = .ok (.getfield 83, 3) := dk_180 0 83 (dk_at dksX19_says_4 20 rfl rfl)
theorem dX19_says_119 : decode cX19_says 119 = .ok (.bipush 8, 2) := dk_16 8 (dk_at dksX19_says_5 0 rfl rfl)
theorem dX19_says_121 : decode cX19_says 121 = .ok (.if_icmp .ge 7, 3) := dk_162 0 7 (dk_at dksX19_says_5 2 rfl rfl)
theorem dX19_says_124 : decode cX19_says 124 = .ok (.iconst 1, 1) := dk_4 (dk_at dksX19_says_5 5 rfl rfl)
theorem dX19_says_125 : decode cX19_says 125 = .ok (.goto 4, 3) := dk_167 0 4 (dk_at dksX19_says_5 6 rfl rfl)
theorem dX19_says_128 : decode cX19_says 128 = .ok (.iconst 0, 1) := dk_3 (dk_at dksX19_says_5 9 rfl rfl)
theorem dX19_says_129 : decode cX19_says 129 = .ok (.iconst 4, 1) := dk_7 (dk_at dksX19_says_5 10 rfl rfl)
theorem dX19_says_130 : decode cX19_says 130 = .ok (.invokevirtual 27, 3) := dk_182 0 27 (dk_at dksX19_says_5 11 rfl rfl)
theorem dX19_says_133 : decode cX19_says 133 = .ok (.aload_n 0, 1) := dk_42 (dk_at dksX19_says_5 14 rfl rfl)
theorem dX19_says_134 : decode cX19_says 134 = .ok (.dup, 1) := dk_89 (dk_at dksX19_says_5 15 rfl rfl)
theorem dX19_says_135 : decode cX19_says 135 = .ok (.getfield 80, 3) := dk_180 0 80 (dk_at dksX19_says_5 16 rfl rfl)
theorem dX19_says_138 : decode cX19_says 138 = .ok (.iconst 1, 1) := dk_4 (dk_at dksX19_says_5 19 rfl rfl)
theorem dX19_says_139 : decode cX19_says 139 = .ok (.iadd, 1) := dk_96 (dk_at dksX19_says_5 20 rfl rfl)
theorem dX19_says_140 : decode cX19_says 140 = .ok (.putfield 80, 3) := dk_181 0 80 (dk_at dksX19_says_5 21 rfl rfl)
theorem dX19_says_143 : decode cX19_says 143 = .ok (.aload_n 0, 1) := dk_42 (dk_at dksX19_says_6 0 rfl rfl)
theorem dX19_says_144 : decode cX19_says 144 = .ok (.dup, 1) := dk_89 (dk_at dksX19_says_6 1 rfl rfl)
theorem dX19_says_145 : decode cX19_says 145 = .ok (.getfield 83, 3) := dk_180 0 83 (dk_at dksX19_says_6 2 rfl rfl)
theorem dX19_says_148 : decode cX19_says 148 = .ok (.iconst 1, 1) := dk_4 (dk_at dksX19_says_6 5 rfl rfl)
theorem dX19_says_149 : decode cX19_says 149 = .ok (.iadd, 1) := dk_96 (dk_at dksX19_says_6 6 rfl rfl)
theorem dX19_says_150 : decode cX19_says 150 = .ok (.putfield 83, 3) := dk_181 0 83 (dk_at dksX19_says_6 7 rfl rfl)
theorem dX19_says_153 : decode cX19_says 153 = .ok (.aload_n 0, 1) := dk_42 (dk_at dksX19_says_6 10 rfl rfl)
theorem dX19_says_154 : decode cX19_says 154 = .ok (.invokevirtual 15, 3) := dk_182 0 15 (dk_at dksX19_says_6 11 rfl rfl)
theorem dX19_says_157 : decode cX19_says 157 = .ok (.iload_n 1, 1) := dk_27 (dk_at dksX19_says_6 14 rfl rfl)
theorem dX19_says_158 : decode cX19_says 158 = .ok (.ifCond .eq 10, 3) := dk_153 0 10 (dk_at dksX19_says_6 15 rfl rfl)
theorem dX19_says_161 : decode cX19_says 161 = .ok (.aload_n 0, 1) := dk_42 (dk_at dksX19_says_6 18 rfl rfl)
theorem dX19_says_162 : decode cX19_says 162 = .ok (.invokevirtual 86, 3) := dk_182 0 86 (dk_at dksX19_says_6 19 rfl rfl)
theorem dX19_says_165 : decode cX19_says 165 = .ok (.goto 90, 3) := dk_167 0 90 (dk_at dksX19_says_7 0 rfl rfl)
theorem dX19_says_168 : decode cX19_says 168 = .ok (.iload_n 2, 1) := dk_28 (dk_at dksX19_says_7 3 rfl rfl)
theorem dX19_says_169 : decode cX19_says 169 = .ok (.ifCond .eq 17, 3) := dk_153 0 17 (dk_at dksX19_says_7 4 rfl rfl)
theorem dX19_says_172 : decode cX19_says 172 = .ok (.new 89, 3) := dk_187 0 89 (dk_at dksX19_says_7 7 rfl rfl)
theorem dX19_says_175 : decode cX19_says 175 = .ok (.dup, 1) := dk_89 (dk_at dksX19_says_7 10 rfl rfl)
theorem dX19_says_176 : decode cX19_says 176 = .ok (.aload_n 0, 1) := dk_42 (dk_at dksX19_says_7 11 rfl rfl)
theorem dX19_says_177 : decode cX19_says 177 = .ok (.invokevirtual 44, 3) := dk_182 0 44 (dk_at dksX19_says_7 12 rfl rfl)
theorem dX19_says_180 : decode cX19_says 180 = .ok (.invokespecial 91, 3) := dk_183 0 91 (dk_at dksX19_says_7 15 rfl rfl)
theorem dX19_says_183 : decode cX19_says 183 = .ok (.goto 72, 3) := dk_167 0 72 (dk_at dksX19_says_7 18 rfl rfl)
theorem dX19_says_186 : decode cX19_says 186 = .ok (.iload 4, 2) := dk_21 4 (dk_at dksX19_says_7 21 rfl rfl)
theorem dX19_says_188 : decode cX19_says 188 = .ok (.ifCond .eq 43, 3) := dk_153 0 43 (dk_at dksX19_says_8 0 rfl rfl)
theorem dX19_says_191 : decode cX19_says 191 = .ok (.new 94, 3) := dk_187 0 94 (dk_at dksX19_says_8 3 rfl rfl)
theorem dX19_says_194 : decode cX19_says 194 = .ok (.dup, 1) := dk_89 (dk_at dksX19_says_8 6 rfl rfl)
theorem dX19_says_195 : decode cX19_says 195 = .ok (.iload_n 3, 1) := dk_29 (dk_at dksX19_says_8 7 rfl rfl)
theorem dX19_says_196 : decode cX19_says 196 = .ok (.iload_n 3, 1) := dk_29 (dk_at dksX19_says_8 8 rfl rfl)
theorem dX19_says_197 : decode cX19_says 197 = .ok (.ifCond .eq 17, 3) := dk_153 0 17 (dk_at dksX19_says_8 9 rfl rfl)
theorem dX19_says_200 : decode cX19_says 200 = .ok (.aload_n 0, 1) := dk_42 (dk_at dksX19_says_8 12 rfl rfl)
theorem dX19_says_201 : decode cX19_says 201 = .ok (.aload_n 0, 1) := dk_42 (dk_at dksX19_says_8 13 rfl rfl)
theorem dX19_says_202 : decode cX19_says 202 = .ok (.getfield 9, 3) := dk_180 0 9 (dk_at dksX19_says_8 14 rfl rfl)
theorem dX19_says_205 : decode cX19_says 205 = .ok (.getfield 96, 3) := dk_180 0 96 (dk_at dksX19_says_8 17 rfl rfl)
theorem dX19_says_208 : decode cX19_says 208 = .ok (.invokevirtual 102, 3) := dk_182 0 102 (dk_at dksX19_says_8 20 rfl rfl)
theorem dX19_says_211 : decode cX19_says 211 = .ok (.goto 14, 3) := dk_167 0 14 (dk_at dksX19_says_9 0 rfl rfl)
theorem dX19_says_214 : decode cX19_says 214 = .ok (.aload_n 0, 1) := dk_42 (dk_at dksX19_says_9 3 rfl rfl)
theorem dX19_says_215 : decode cX19_says 215 = .ok (.aload_n 0, 1) := dk_42 (dk_at dksX19_says_9 4 rfl rfl)
theorem dX19_says_216 : decode cX19_says 216 = .ok (.getfield 9, 3) := dk_180 0 9 (dk_at dksX19_says_9 5 rfl rfl)
theorem dX19_says_219 : decode cX19_says 219 = .ok (.getfield 106, 3) := dk_180 0 106 (dk_at dksX19_says_9 8 rfl rfl)
theorem dX19_says_222 : decode cX19_says 222 = .ok (.invokevirtual 102, 3) := dk_182 0 102 (dk_at dksX19_says_9 11 rfl rfl)
theorem dX19_says_225 : decode cX19_says 225 = .ok (.invokespecial 109, 3) := dk_183 0 109 (dk_at dksX19_says_9 14 rfl rfl)
theorem dX19_says_228 : decode cX19_says 228 = .ok (.goto 27, 3) := dk_167 0 27 (dk_at dksX19_says_9 17 rfl rfl)
theorem dX19_says_231 : decode cX19_says 231 = .ok (.iload 5, 2) := dk_21 5 (dk_at dksX19_says_9 20 rfl rfl)
theorem dX19_says_233 : decode cX19_says 233 = .ok (.iconst (-1), 1) := dk_2 (dk_at dksX19_says_9 22 rfl rfl)
theorem dX19_says_234 : decode cX19_says 234 = .ok (.if_icmp .eq 15, 3) := dk_159 0 15 (dk_at dksX19_says_10 0 rfl rfl)
theorem dX19_says_237 : decode cX19_says 237 = .ok (.new 111, 3) := dk_187 0 111 (dk_at dksX19_says_10 3 rfl rfl)
theorem dX19_says_240 : decode cX19_says 240 = .ok (.dup, 1) := dk_89 (dk_at dksX19_says_10 6 rfl rfl)
theorem dX19_says_241 : decode cX19_says 241 = .ok (.iload 5, 2) := dk_21 5 (dk_at dksX19_says_10 7 rfl rfl)
theorem dX19_says_243 : decode cX19_says 243 = .ok (.invokespecial 113, 3) := dk_183 0 113 (dk_at dksX19_says_10 9 rfl rfl)
theorem dX19_says_246 : decode cX19_says 246 = .ok (.goto 9, 3) := dk_167 0 9 (dk_at dksX19_says_10 12 rfl rfl)
theorem dX19_says_249 : decode cX19_says 249 = .ok (.aload_n 0, 1) := dk_42 (dk_at dksX19_says_10 15 rfl rfl)
theorem dX19_says_250 : decode cX19_says 250 = .ok (.iload 6, 2) := dk_21 6 (dk_at dksX19_says_10 16 rfl rfl)
theorem dX19_says_252 : decode cX19_says 252 = .ok (.invokevirtual 116, 3) := dk_182 0 116 (dk_at dksX19_says_10 18 rfl rfl)
theorem dX19_says_255 : decode cX19_says 255 = .ok (.astore 7, 2) := dk_58 7 (dk_at dksX19_says_10 21 rfl rfl)
theorem dX19_says_257 : decode cX19_says 257 = .ok (.aload_n 0, 1) := dk_42 (dk_at dksX19_says_10 23 rfl rfl)
theorem dX19_says_258 : decode cX19_says 258 = .ok (.dup, 1) := dk_89 (dk_at dksX19_says_11 0 rfl rfl)
theorem dX19_says_259 : decode cX19_says 259 = .ok (.getfield 83, 3) := dk_180 0 83 (dk_at dksX19_says_11 1 rfl rfl)
theorem dX19_says_262 : decode cX19_says 262 = .ok (.iconst 1, 1) := dk_4 (dk_at dksX19_says_11 4 rfl rfl)
theorem dX19_says_263 : decode cX19_says 263 = .ok (.isub, 1) := dk_100 (dk_at dksX19_says_11 5 rfl rfl)
theorem dX19_says_264 : decode cX19_says 264 = .ok (.putfield 83, 3) := dk_181 0 83 (dk_at dksX19_says_11 6 rfl rfl)
theorem dX19_says_267 : decode cX19_says 267 = .ok (.aload 7, 2) := dk_25 7 (dk_at dksX19_says_11 9 rfl rfl)
theorem dX19_says_269 : decode cX19_says 269 = .ok (.areturn, 1) := dk_176 (dk_at dksX19_says_11 11 rfl rfl)
abbrev cX19_plain : ByteArray := prog_19_method_5_code
def yX19_plain : MethodName := ⟨RX19, "plain", "()I"⟩
def dkwX19_plain_2 : List UInt8 := [153, 0, 7, 6, 167, 0, 4, 2, 172]
abbrev dktX19_plain_2 : List UInt8 := dkwX19_plain_2 ++ []
def dkwX19_plain_1 : List UInt8 := [167, 0, 30, 42, 18, 52, 182, 0, 35, 153, 0, 7, 5, 167, 0, 17, 42, 18, 54, 182, 0, 35]
abbrev dktX19_plain_1 : List UInt8 := dkwX19_plain_1 ++ dktX19_plain_2
def dkwX19_plain_0 : List UInt8 := [42, 18, 48, 182, 0, 35, 153, 0, 7, 3, 167, 0, 43, 42, 18, 50, 182, 0, 35, 153, 0, 7, 4]
abbrev dktX19_plain_0 : List UInt8 := dkwX19_plain_0 ++ dktX19_plain_1
theorem dksX19_plain_0 : cX19_plain.data.toList.drop 0 = dktX19_plain_0 := by decide +kernel
theorem dksX19_plain_1 : cX19_plain.data.toList.drop 23 = dktX19_plain_1 := dk_seg dksX19_plain_0 23 rfl rfl
theorem dksX19_plain_2 : cX19_plain.data.toList.drop 45 = dktX19_plain_2 := dk_seg dksX19_plain_1 22 rfl rfl
theorem dX19_plain_0 : decode cX19_plain 0 = .ok (.aload_n 0, 1) := dk_42 (dk_at dksX19_plain_0 0 rfl rfl)
theorem dX19_plain_1 : decode cX19_plain 1 = .ok (.ldc 48, 2) := dk_18 48 (dk_at dksX19_plain_0 1 rfl rfl)
theorem dX19_plain_3 : decode cX19_plain 3 = .ok (.invokevirtual 35, 3) := dk_182 0 35 (dk_at dksX19_plain_0 3 rfl rfl)
theorem dX19_plain_6 : decode cX19_plain 6 = .ok (.ifCond .eq 7, 3) := dk_153 0 7 (dk_at dksX19_plain_0 6 rfl rfl)
theorem dX19_plain_9 : decode cX19_plain 9 = .ok (.iconst 0, 1) := dk_3 (dk_at dksX19_plain_0 9 rfl rfl)
theorem dX19_plain_10 : decode cX19_plain 10 = .ok (.goto 43, 3) := dk_167 0 43 (dk_at dksX19_plain_0 10 rfl rfl)
theorem dX19_plain_13 : decode cX19_plain 13 = .ok (.aload_n 0, 1) := dk_42 (dk_at dksX19_plain_0 13 rfl rfl)
theorem dX19_plain_14 : decode cX19_plain 14 = .ok (.ldc 50, 2) := dk_18 50 (dk_at dksX19_plain_0 14 rfl rfl)
theorem dX19_plain_16 : decode cX19_plain 16 = .ok (.invokevirtual 35, 3) := dk_182 0 35 (dk_at dksX19_plain_0 16 rfl rfl)
theorem dX19_plain_19 : decode cX19_plain 19 = .ok (.ifCond .eq 7, 3) := dk_153 0 7 (dk_at dksX19_plain_0 19 rfl rfl)
theorem dX19_plain_22 : decode cX19_plain 22 = .ok (.iconst 1, 1) := dk_4 (dk_at dksX19_plain_0 22 rfl rfl)
theorem dX19_plain_23 : decode cX19_plain 23 = .ok (.goto 30, 3) := dk_167 0 30 (dk_at dksX19_plain_1 0 rfl rfl)
theorem dX19_plain_26 : decode cX19_plain 26 = .ok (.aload_n 0, 1) := dk_42 (dk_at dksX19_plain_1 3 rfl rfl)
theorem dX19_plain_27 : decode cX19_plain 27 = .ok (.ldc 52, 2) := dk_18 52 (dk_at dksX19_plain_1 4 rfl rfl)
theorem dX19_plain_29 : decode cX19_plain 29 = .ok (.invokevirtual 35, 3) := dk_182 0 35 (dk_at dksX19_plain_1 6 rfl rfl)
theorem dX19_plain_32 : decode cX19_plain 32 = .ok (.ifCond .eq 7, 3) := dk_153 0 7 (dk_at dksX19_plain_1 9 rfl rfl)
theorem dX19_plain_35 : decode cX19_plain 35 = .ok (.iconst 2, 1) := dk_5 (dk_at dksX19_plain_1 12 rfl rfl)
theorem dX19_plain_36 : decode cX19_plain 36 = .ok (.goto 17, 3) := dk_167 0 17 (dk_at dksX19_plain_1 13 rfl rfl)
theorem dX19_plain_39 : decode cX19_plain 39 = .ok (.aload_n 0, 1) := dk_42 (dk_at dksX19_plain_1 16 rfl rfl)
theorem dX19_plain_40 : decode cX19_plain 40 = .ok (.ldc 54, 2) := dk_18 54 (dk_at dksX19_plain_1 17 rfl rfl)
theorem dX19_plain_42 : decode cX19_plain 42 = .ok (.invokevirtual 35, 3) := dk_182 0 35 (dk_at dksX19_plain_1 19 rfl rfl)
theorem dX19_plain_45 : decode cX19_plain 45 = .ok (.ifCond .eq 7, 3) := dk_153 0 7 (dk_at dksX19_plain_2 0 rfl rfl)
theorem dX19_plain_48 : decode cX19_plain 48 = .ok (.iconst 3, 1) := dk_6 (dk_at dksX19_plain_2 3 rfl rfl)
theorem dX19_plain_49 : decode cX19_plain 49 = .ok (.goto 4, 3) := dk_167 0 4 (dk_at dksX19_plain_2 4 rfl rfl)
theorem dX19_plain_52 : decode cX19_plain 52 = .ok (.iconst (-1), 1) := dk_2 (dk_at dksX19_plain_2 7 rfl rfl)
theorem dX19_plain_53 : decode cX19_plain 53 = .ok (.ireturn, 1) := dk_172 (dk_at dksX19_plain_2 8 rfl rfl)
abbrev cX19_numbered : ByteArray := prog_19_method_6_code
def yX19_numbered : MethodName := ⟨RX19, "numbered", "()I"⟩
def dkwX19_numbered_2 : List UInt8 := [153, 0, 7, 6, 167, 0, 4, 2, 172]
abbrev dktX19_numbered_2 : List UInt8 := dkwX19_numbered_2 ++ []
def dkwX19_numbered_1 : List UInt8 := [167, 0, 30, 42, 18, 60, 182, 0, 35, 153, 0, 7, 5, 167, 0, 17, 42, 18, 62, 182, 0, 35]
abbrev dktX19_numbered_1 : List UInt8 := dkwX19_numbered_1 ++ dktX19_numbered_2
def dkwX19_numbered_0 : List UInt8 := [42, 18, 56, 182, 0, 35, 153, 0, 7, 3, 167, 0, 43, 42, 18, 58, 182, 0, 35, 153, 0, 7, 4]
abbrev dktX19_numbered_0 : List UInt8 := dkwX19_numbered_0 ++ dktX19_numbered_1
theorem dksX19_numbered_0 : cX19_numbered.data.toList.drop 0 = dktX19_numbered_0 := by decide +kernel
theorem dksX19_numbered_1 : cX19_numbered.data.toList.drop 23 = dktX19_numbered_1 := dk_seg dksX19_numbered_0 23 rfl rfl
theorem dksX19_numbered_2 : cX19_numbered.data.toList.drop 45 = dktX19_numbered_2 := dk_seg dksX19_numbered_1 22 rfl rfl
theorem dX19_numbered_0 : decode cX19_numbered 0 = .ok (.aload_n 0, 1) := dk_42 (dk_at dksX19_numbered_0 0 rfl rfl)
theorem dX19_numbered_1 : decode cX19_numbered 1 = .ok (.ldc 56, 2) := dk_18 56 (dk_at dksX19_numbered_0 1 rfl rfl)
theorem dX19_numbered_3 : decode cX19_numbered 3 = .ok (.invokevirtual 35, 3) := dk_182 0 35 (dk_at dksX19_numbered_0 3 rfl rfl)
theorem dX19_numbered_6 : decode cX19_numbered 6 = .ok (.ifCond .eq 7, 3) := dk_153 0 7 (dk_at dksX19_numbered_0 6 rfl rfl)
theorem dX19_numbered_9 : decode cX19_numbered 9 = .ok (.iconst 0, 1) := dk_3 (dk_at dksX19_numbered_0 9 rfl rfl)
theorem dX19_numbered_10 : decode cX19_numbered 10 = .ok (.goto 43, 3) := dk_167 0 43 (dk_at dksX19_numbered_0 10 rfl rfl)
theorem dX19_numbered_13 : decode cX19_numbered 13 = .ok (.aload_n 0, 1) := dk_42 (dk_at dksX19_numbered_0 13 rfl rfl)
theorem dX19_numbered_14 : decode cX19_numbered 14 = .ok (.ldc 58, 2) := dk_18 58 (dk_at dksX19_numbered_0 14 rfl rfl)
theorem dX19_numbered_16 : decode cX19_numbered 16 = .ok (.invokevirtual 35, 3) := dk_182 0 35 (dk_at dksX19_numbered_0 16 rfl rfl)
theorem dX19_numbered_19 : decode cX19_numbered 19 = .ok (.ifCond .eq 7, 3) := dk_153 0 7 (dk_at dksX19_numbered_0 19 rfl rfl)
theorem dX19_numbered_22 : decode cX19_numbered 22 = .ok (.iconst 1, 1) := dk_4 (dk_at dksX19_numbered_0 22 rfl rfl)
theorem dX19_numbered_23 : decode cX19_numbered 23 = .ok (.goto 30, 3) := dk_167 0 30 (dk_at dksX19_numbered_1 0 rfl rfl)
theorem dX19_numbered_26 : decode cX19_numbered 26 = .ok (.aload_n 0, 1) := dk_42 (dk_at dksX19_numbered_1 3 rfl rfl)
theorem dX19_numbered_27 : decode cX19_numbered 27 = .ok (.ldc 60, 2) := dk_18 60 (dk_at dksX19_numbered_1 4 rfl rfl)
theorem dX19_numbered_29 : decode cX19_numbered 29 = .ok (.invokevirtual 35, 3) := dk_182 0 35 (dk_at dksX19_numbered_1 6 rfl rfl)
theorem dX19_numbered_32 : decode cX19_numbered 32 = .ok (.ifCond .eq 7, 3) := dk_153 0 7 (dk_at dksX19_numbered_1 9 rfl rfl)
theorem dX19_numbered_35 : decode cX19_numbered 35 = .ok (.iconst 2, 1) := dk_5 (dk_at dksX19_numbered_1 12 rfl rfl)
theorem dX19_numbered_36 : decode cX19_numbered 36 = .ok (.goto 17, 3) := dk_167 0 17 (dk_at dksX19_numbered_1 13 rfl rfl)
theorem dX19_numbered_39 : decode cX19_numbered 39 = .ok (.aload_n 0, 1) := dk_42 (dk_at dksX19_numbered_1 16 rfl rfl)
theorem dX19_numbered_40 : decode cX19_numbered 40 = .ok (.ldc 62, 2) := dk_18 62 (dk_at dksX19_numbered_1 17 rfl rfl)
theorem dX19_numbered_42 : decode cX19_numbered 42 = .ok (.invokevirtual 35, 3) := dk_182 0 35 (dk_at dksX19_numbered_1 19 rfl rfl)
theorem dX19_numbered_45 : decode cX19_numbered 45 = .ok (.ifCond .eq 7, 3) := dk_153 0 7 (dk_at dksX19_numbered_2 0 rfl rfl)
theorem dX19_numbered_48 : decode cX19_numbered 48 = .ok (.iconst 3, 1) := dk_6 (dk_at dksX19_numbered_2 3 rfl rfl)
theorem dX19_numbered_49 : decode cX19_numbered 49 = .ok (.goto 4, 3) := dk_167 0 4 (dk_at dksX19_numbered_2 4 rfl rfl)
theorem dX19_numbered_52 : decode cX19_numbered 52 = .ok (.iconst (-1), 1) := dk_2 (dk_at dksX19_numbered_2 7 rfl rfl)
theorem dX19_numbered_53 : decode cX19_numbered 53 = .ok (.ireturn, 1) := dk_172 (dk_at dksX19_numbered_2 8 rfl rfl)
abbrev cX19_bracket : ByteArray := prog_19_method_8_code
def yX19_bracket : MethodName := ⟨RX19, "bracket", "()LStrangerMarket$Cond;"⟩
def dkwX19_bracket_1 : List UInt8 := [4, 167, 0, 4, 3, 4, 182, 0, 27, 42, 182, 0, 15, 43, 176]
abbrev dktX19_bracket_1 : List UInt8 := dkwX19_bracket_1 ++ []
def dkwX19_bracket_0 : List UInt8 := [42, 182, 0, 19, 76, 42, 42, 180, 0, 23, 16, 6, 160, 0, 16, 42, 180, 0, 64, 16, 41, 160, 0, 7]
abbrev dktX19_bracket_0 : List UInt8 := dkwX19_bracket_0 ++ dktX19_bracket_1
theorem dksX19_bracket_0 : cX19_bracket.data.toList.drop 0 = dktX19_bracket_0 := by decide +kernel
theorem dksX19_bracket_1 : cX19_bracket.data.toList.drop 24 = dktX19_bracket_1 := dk_seg dksX19_bracket_0 24 rfl rfl
theorem dX19_bracket_0 : decode cX19_bracket 0 = .ok (.aload_n 0, 1) := dk_42 (dk_at dksX19_bracket_0 0 rfl rfl)
theorem dX19_bracket_1 : decode cX19_bracket 1 = .ok (.invokevirtual 19, 3) := dk_182 0 19 (dk_at dksX19_bracket_0 1 rfl rfl)
theorem dX19_bracket_4 : decode cX19_bracket 4 = .ok (.astore_n 1, 1) := dk_76 (dk_at dksX19_bracket_0 4 rfl rfl)
theorem dX19_bracket_5 : decode cX19_bracket 5 = .ok (.aload_n 0, 1) := dk_42 (dk_at dksX19_bracket_0 5 rfl rfl)
theorem dX19_bracket_6 : decode cX19_bracket 6 = .ok (.aload_n 0, 1) := dk_42 (dk_at dksX19_bracket_0 6 rfl rfl)
theorem dX19_bracket_7 : decode cX19_bracket 7 = .ok (.getfield 23, 3) := dk_180 0 23 (dk_at dksX19_bracket_0 7 rfl rfl)
theorem dX19_bracket_10 : decode cX19_bracket 10 = .ok (.bipush 6, 2) := dk_16 6 (dk_at dksX19_bracket_0 10 rfl rfl)
theorem dX19_bracket_12 : decode cX19_bracket 12 = .ok (.if_icmp .ne 16, 3) := dk_160 0 16 (dk_at dksX19_bracket_0 12 rfl rfl)
theorem dX19_bracket_15 : decode cX19_bracket 15 = .ok (.aload_n 0, 1) := dk_42 (dk_at dksX19_bracket_0 15 rfl rfl)
theorem dX19_bracket_16 : decode cX19_bracket 16 = .ok (.getfield 64, 3) := dk_180 0 64 (dk_at dksX19_bracket_0 16 rfl rfl)
theorem dX19_bracket_19 : decode cX19_bracket 19 = .ok (.bipush 41, 2) := dk_16 41 (dk_at dksX19_bracket_0 19 rfl rfl)
theorem dX19_bracket_21 : decode cX19_bracket 21 = .ok (.if_icmp .ne 7, 3) := dk_160 0 7 (dk_at dksX19_bracket_0 21 rfl rfl)
theorem dX19_bracket_24 : decode cX19_bracket 24 = .ok (.iconst 1, 1) := dk_4 (dk_at dksX19_bracket_1 0 rfl rfl)
theorem dX19_bracket_25 : decode cX19_bracket 25 = .ok (.goto 4, 3) := dk_167 0 4 (dk_at dksX19_bracket_1 1 rfl rfl)
theorem dX19_bracket_28 : decode cX19_bracket 28 = .ok (.iconst 0, 1) := dk_3 (dk_at dksX19_bracket_1 4 rfl rfl)
theorem dX19_bracket_29 : decode cX19_bracket 29 = .ok (.iconst 1, 1) := dk_4 (dk_at dksX19_bracket_1 5 rfl rfl)
theorem dX19_bracket_30 : decode cX19_bracket 30 = .ok (.invokevirtual 27, 3) := dk_182 0 27 (dk_at dksX19_bracket_1 6 rfl rfl)
theorem dX19_bracket_33 : decode cX19_bracket 33 = .ok (.aload_n 0, 1) := dk_42 (dk_at dksX19_bracket_1 9 rfl rfl)
theorem dX19_bracket_34 : decode cX19_bracket 34 = .ok (.invokevirtual 15, 3) := dk_182 0 15 (dk_at dksX19_bracket_1 10 rfl rfl)
theorem dX19_bracket_37 : decode cX19_bracket 37 = .ok (.aload_n 1, 1) := dk_43 (dk_at dksX19_bracket_1 13 rfl rfl)
theorem dX19_bracket_38 : decode cX19_bracket 38 = .ok (.areturn, 1) := dk_176 (dk_at dksX19_bracket_1 14 rfl rfl)
abbrev cX19_than : ByteArray := prog_19_method_9_code
def yX19_than : MethodName := ⟨RX19, "than", "(I)LStrangerMarket$Cond;"⟩
def dkwX19_than_2 : List UInt8 := [187, 0, 120, 89, 27, 28, 42, 3, 17, 3, 231, 182, 0, 122, 183, 0, 125, 176]
abbrev dktX19_than_2 : List UInt8 := dkwX19_than_2 ++ []
def dkwX19_than_1 : List UInt8 := [16, 41, 159, 0, 7, 4, 167, 0, 4, 3, 4, 182, 0, 27, 42, 180, 0, 64, 61, 42, 182, 0, 15]
abbrev dktX19_than_1 : List UInt8 := dkwX19_than_1 ++ dktX19_than_2
def dkwX19_than_0 : List UInt8 := [42, 42, 180, 0, 23, 16, 6, 160, 0, 25, 42, 180, 0, 64, 16, 40, 159, 0, 16, 42, 180, 0, 64]
abbrev dktX19_than_0 : List UInt8 := dkwX19_than_0 ++ dktX19_than_1
theorem dksX19_than_0 : cX19_than.data.toList.drop 0 = dktX19_than_0 := by decide +kernel
theorem dksX19_than_1 : cX19_than.data.toList.drop 23 = dktX19_than_1 := dk_seg dksX19_than_0 23 rfl rfl
theorem dksX19_than_2 : cX19_than.data.toList.drop 46 = dktX19_than_2 := dk_seg dksX19_than_1 23 rfl rfl
theorem dX19_than_0 : decode cX19_than 0 = .ok (.aload_n 0, 1) := dk_42 (dk_at dksX19_than_0 0 rfl rfl)
theorem dX19_than_1 : decode cX19_than 1 = .ok (.aload_n 0, 1) := dk_42 (dk_at dksX19_than_0 1 rfl rfl)
theorem dX19_than_2 : decode cX19_than 2 = .ok (.getfield 23, 3) := dk_180 0 23 (dk_at dksX19_than_0 2 rfl rfl)
theorem dX19_than_5 : decode cX19_than 5 = .ok (.bipush 6, 2) := dk_16 6 (dk_at dksX19_than_0 5 rfl rfl)
theorem dX19_than_7 : decode cX19_than 7 = .ok (.if_icmp .ne 25, 3) := dk_160 0 25 (dk_at dksX19_than_0 7 rfl rfl)
theorem dX19_than_10 : decode cX19_than 10 = .ok (.aload_n 0, 1) := dk_42 (dk_at dksX19_than_0 10 rfl rfl)
theorem dX19_than_11 : decode cX19_than 11 = .ok (.getfield 64, 3) := dk_180 0 64 (dk_at dksX19_than_0 11 rfl rfl)
theorem dX19_than_14 : decode cX19_than 14 = .ok (.bipush 40, 2) := dk_16 40 (dk_at dksX19_than_0 14 rfl rfl)
theorem dX19_than_16 : decode cX19_than 16 = .ok (.if_icmp .eq 16, 3) := dk_159 0 16 (dk_at dksX19_than_0 16 rfl rfl)
theorem dX19_than_19 : decode cX19_than 19 = .ok (.aload_n 0, 1) := dk_42 (dk_at dksX19_than_0 19 rfl rfl)
theorem dX19_than_20 : decode cX19_than 20 = .ok (.getfield 64, 3) := dk_180 0 64 (dk_at dksX19_than_0 20 rfl rfl)
theorem dX19_than_23 : decode cX19_than 23 = .ok (.bipush 41, 2) := dk_16 41 (dk_at dksX19_than_1 0 rfl rfl)
theorem dX19_than_25 : decode cX19_than 25 = .ok (.if_icmp .eq 7, 3) := dk_159 0 7 (dk_at dksX19_than_1 2 rfl rfl)
theorem dX19_than_28 : decode cX19_than 28 = .ok (.iconst 1, 1) := dk_4 (dk_at dksX19_than_1 5 rfl rfl)
theorem dX19_than_29 : decode cX19_than 29 = .ok (.goto 4, 3) := dk_167 0 4 (dk_at dksX19_than_1 6 rfl rfl)
theorem dX19_than_32 : decode cX19_than 32 = .ok (.iconst 0, 1) := dk_3 (dk_at dksX19_than_1 9 rfl rfl)
theorem dX19_than_33 : decode cX19_than 33 = .ok (.iconst 1, 1) := dk_4 (dk_at dksX19_than_1 10 rfl rfl)
theorem dX19_than_34 : decode cX19_than 34 = .ok (.invokevirtual 27, 3) := dk_182 0 27 (dk_at dksX19_than_1 11 rfl rfl)
theorem dX19_than_37 : decode cX19_than 37 = .ok (.aload_n 0, 1) := dk_42 (dk_at dksX19_than_1 14 rfl rfl)
theorem dX19_than_38 : decode cX19_than 38 = .ok (.getfield 64, 3) := dk_180 0 64 (dk_at dksX19_than_1 15 rfl rfl)
theorem dX19_than_41 : decode cX19_than 41 = .ok (.istore_n 2, 1) := dk_61 (dk_at dksX19_than_1 18 rfl rfl)
theorem dX19_than_42 : decode cX19_than 42 = .ok (.aload_n 0, 1) := dk_42 (dk_at dksX19_than_1 19 rfl rfl)
theorem dX19_than_43 : decode cX19_than 43 = .ok (.invokevirtual 15, 3) := dk_182 0 15 (dk_at dksX19_than_1 20 rfl rfl)
theorem dX19_than_46 : decode cX19_than 46 = .ok (.new 120, 3) := dk_187 0 120 (dk_at dksX19_than_2 0 rfl rfl)
theorem dX19_than_49 : decode cX19_than 49 = .ok (.dup, 1) := dk_89 (dk_at dksX19_than_2 3 rfl rfl)
theorem dX19_than_50 : decode cX19_than 50 = .ok (.iload_n 1, 1) := dk_27 (dk_at dksX19_than_2 4 rfl rfl)
theorem dX19_than_51 : decode cX19_than 51 = .ok (.iload_n 2, 1) := dk_28 (dk_at dksX19_than_2 5 rfl rfl)
theorem dX19_than_52 : decode cX19_than 52 = .ok (.aload_n 0, 1) := dk_42 (dk_at dksX19_than_2 6 rfl rfl)
theorem dX19_than_53 : decode cX19_than 53 = .ok (.iconst 0, 1) := dk_3 (dk_at dksX19_than_2 7 rfl rfl)
theorem dX19_than_54 : decode cX19_than 54 = .ok (.sipush 999, 3) := dk_17 3 231 (dk_at dksX19_than_2 8 rfl rfl)
theorem dX19_than_57 : decode cX19_than 57 = .ok (.invokevirtual 122, 3) := dk_182 0 122 (dk_at dksX19_than_2 11 rfl rfl)
theorem dX19_than_60 : decode cX19_than 60 = .ok (.invokespecial 125, 3) := dk_183 0 125 (dk_at dksX19_than_2 14 rfl rfl)
theorem dX19_than_63 : decode cX19_than 63 = .ok (.areturn, 1) := dk_176 (dk_at dksX19_than_2 17 rfl rfl)
abbrev cX2_init : ByteArray := prog_6_method_1_code
def yX2_init : MethodName := ⟨RX2, "<init>", "()V"⟩
def dkwX2_init_1 : List UInt8 := [181, 0, 19, 42, 187, 0, 16, 89, 183, 0, 18, 181, 0, 23, 177]
abbrev dktX2_init_1 : List UInt8 := dkwX2_init_1 ++ []
def dkwX2_init_0 : List UInt8 := [42, 183, 0, 1, 42, 5, 181, 0, 7, 42, 4, 181, 0, 13, 42, 187, 0, 16, 89, 183, 0, 18]
abbrev dktX2_init_0 : List UInt8 := dkwX2_init_0 ++ dktX2_init_1
theorem dksX2_init_0 : cX2_init.data.toList.drop 0 = dktX2_init_0 := by decide +kernel
theorem dksX2_init_1 : cX2_init.data.toList.drop 22 = dktX2_init_1 := dk_seg dksX2_init_0 22 rfl rfl
theorem dX2_init_0 : decode cX2_init 0 = .ok (.aload_n 0, 1) := dk_42 (dk_at dksX2_init_0 0 rfl rfl)
theorem dX2_init_1 : decode cX2_init 1 = .ok (.invokespecial 1, 3) := dk_183 0 1 (dk_at dksX2_init_0 1 rfl rfl)
theorem dX2_init_4 : decode cX2_init 4 = .ok (.aload_n 0, 1) := dk_42 (dk_at dksX2_init_0 4 rfl rfl)
theorem dX2_init_5 : decode cX2_init 5 = .ok (.iconst 2, 1) := dk_5 (dk_at dksX2_init_0 5 rfl rfl)
theorem dX2_init_6 : decode cX2_init 6 = .ok (.putfield 7, 3) := dk_181 0 7 (dk_at dksX2_init_0 6 rfl rfl)
theorem dX2_init_9 : decode cX2_init 9 = .ok (.aload_n 0, 1) := dk_42 (dk_at dksX2_init_0 9 rfl rfl)
theorem dX2_init_10 : decode cX2_init 10 = .ok (.iconst 1, 1) := dk_4 (dk_at dksX2_init_0 10 rfl rfl)
theorem dX2_init_11 : decode cX2_init 11 = .ok (.putfield 13, 3) := dk_181 0 13 (dk_at dksX2_init_0 11 rfl rfl)
theorem dX2_init_14 : decode cX2_init 14 = .ok (.aload_n 0, 1) := dk_42 (dk_at dksX2_init_0 14 rfl rfl)
theorem dX2_init_15 : decode cX2_init 15 = .ok (.new 16, 3) := dk_187 0 16 (dk_at dksX2_init_0 15 rfl rfl)
theorem dX2_init_18 : decode cX2_init 18 = .ok (.dup, 1) := dk_89 (dk_at dksX2_init_0 18 rfl rfl)
theorem dX2_init_19 : decode cX2_init 19 = .ok (.invokespecial 18, 3) := dk_183 0 18 (dk_at dksX2_init_0 19 rfl rfl)
theorem dX2_init_22 : decode cX2_init 22 = .ok (.putfield 19, 3) := dk_181 0 19 (dk_at dksX2_init_1 0 rfl rfl)
theorem dX2_init_25 : decode cX2_init 25 = .ok (.aload_n 0, 1) := dk_42 (dk_at dksX2_init_1 3 rfl rfl)
theorem dX2_init_26 : decode cX2_init 26 = .ok (.new 16, 3) := dk_187 0 16 (dk_at dksX2_init_1 4 rfl rfl)
theorem dX2_init_29 : decode cX2_init 29 = .ok (.dup, 1) := dk_89 (dk_at dksX2_init_1 7 rfl rfl)
theorem dX2_init_30 : decode cX2_init 30 = .ok (.invokespecial 18, 3) := dk_183 0 18 (dk_at dksX2_init_1 8 rfl rfl)
theorem dX2_init_33 : decode cX2_init 33 = .ok (.putfield 23, 3) := dk_181 0 23 (dk_at dksX2_init_1 11 rfl rfl)
theorem dX2_init_36 : decode cX2_init 36 = .ok (.return_, 1) := dk_177 (dk_at dksX2_init_1 14 rfl rfl)
abbrev cX2_isPerson : ByteArray := prog_6_method_2_code
def yX2_isPerson : MethodName := ⟨RX2, "isPerson", "(I)Z"⟩
def dkwX2_isPerson_0 : List UInt8 := [27, 3, 42, 180, 0, 19, 182, 0, 26, 4, 100, 184, 0, 30, 172]
abbrev dktX2_isPerson_0 : List UInt8 := dkwX2_isPerson_0 ++ []
theorem dksX2_isPerson_0 : cX2_isPerson.data.toList.drop 0 = dktX2_isPerson_0 := by decide +kernel
theorem dX2_isPerson_0 : decode cX2_isPerson 0 = .ok (.iload_n 1, 1) := dk_27 (dk_at dksX2_isPerson_0 0 rfl rfl)
theorem dX2_isPerson_1 : decode cX2_isPerson 1 = .ok (.iconst 0, 1) := dk_3 (dk_at dksX2_isPerson_0 1 rfl rfl)
theorem dX2_isPerson_2 : decode cX2_isPerson 2 = .ok (.aload_n 0, 1) := dk_42 (dk_at dksX2_isPerson_0 2 rfl rfl)
theorem dX2_isPerson_3 : decode cX2_isPerson 3 = .ok (.getfield 19, 3) := dk_180 0 19 (dk_at dksX2_isPerson_0 3 rfl rfl)
theorem dX2_isPerson_6 : decode cX2_isPerson 6 = .ok (.invokevirtual 26, 3) := dk_182 0 26 (dk_at dksX2_isPerson_0 6 rfl rfl)
theorem dX2_isPerson_9 : decode cX2_isPerson 9 = .ok (.iconst 1, 1) := dk_4 (dk_at dksX2_isPerson_0 9 rfl rfl)
theorem dX2_isPerson_10 : decode cX2_isPerson 10 = .ok (.isub, 1) := dk_100 (dk_at dksX2_isPerson_0 10 rfl rfl)
theorem dX2_isPerson_11 : decode cX2_isPerson 11 = .ok (.invokestatic 30, 3) := dk_184 0 30 (dk_at dksX2_isPerson_0 11 rfl rfl)
theorem dX2_isPerson_14 : decode cX2_isPerson 14 = .ok (.ireturn, 1) := dk_172 (dk_at dksX2_isPerson_0 14 rfl rfl)
abbrev cX2_isGood : ByteArray := prog_6_method_3_code
def yX2_isGood : MethodName := ⟨RX2, "isGood", "(I)Z"⟩
def dkwX2_isGood_0 : List UInt8 := [27, 3, 42, 180, 0, 23, 182, 0, 26, 4, 100, 184, 0, 30, 172]
abbrev dktX2_isGood_0 : List UInt8 := dkwX2_isGood_0 ++ []
theorem dksX2_isGood_0 : cX2_isGood.data.toList.drop 0 = dktX2_isGood_0 := by decide +kernel
theorem dX2_isGood_0 : decode cX2_isGood 0 = .ok (.iload_n 1, 1) := dk_27 (dk_at dksX2_isGood_0 0 rfl rfl)
theorem dX2_isGood_1 : decode cX2_isGood 1 = .ok (.iconst 0, 1) := dk_3 (dk_at dksX2_isGood_0 1 rfl rfl)
theorem dX2_isGood_2 : decode cX2_isGood 2 = .ok (.aload_n 0, 1) := dk_42 (dk_at dksX2_isGood_0 2 rfl rfl)
theorem dX2_isGood_3 : decode cX2_isGood 3 = .ok (.getfield 23, 3) := dk_180 0 23 (dk_at dksX2_isGood_0 3 rfl rfl)
theorem dX2_isGood_6 : decode cX2_isGood 6 = .ok (.invokevirtual 26, 3) := dk_182 0 26 (dk_at dksX2_isGood_0 6 rfl rfl)
theorem dX2_isGood_9 : decode cX2_isGood 9 = .ok (.iconst 1, 1) := dk_4 (dk_at dksX2_isGood_0 9 rfl rfl)
theorem dX2_isGood_10 : decode cX2_isGood 10 = .ok (.isub, 1) := dk_100 (dk_at dksX2_isGood_0 10 rfl rfl)
theorem dX2_isGood_11 : decode cX2_isGood 11 = .ok (.invokestatic 30, 3) := dk_184 0 30 (dk_at dksX2_isGood_0 11 rfl rfl)
theorem dX2_isGood_14 : decode cX2_isGood 14 = .ok (.ireturn, 1) := dk_172 (dk_at dksX2_isGood_0 14 rfl rfl)
abbrev cX20_init : ByteArray := prog_5_method_1_code
def yX20_init : MethodName := ⟨RX20, "<init>", "()V"⟩
theorem dX20_init_0 : decode cX20_init 0 = .ok (.aload_n 0, 1) := by decide +kernel
theorem dX20_init_1 : decode cX20_init 1 = .ok (.invokespecial 1, 3) := by decide +kernel
theorem dX20_init_4 : decode cX20_init 4 = .ok (.return_, 1) := by decide +kernel
abbrev cX21_init : ByteArray := prog_14_method_1_code
def yX21_init : MethodName := ⟨RX21, "<init>", "(LStrangerMarket$Cond;)V"⟩
def dkwX21_init_0 : List UInt8 := [42, 183, 0, 1, 42, 43, 181, 0, 7, 177]
abbrev dktX21_init_0 : List UInt8 := dkwX21_init_0 ++ []
theorem dksX21_init_0 : cX21_init.data.toList.drop 0 = dktX21_init_0 := by decide +kernel
theorem dX21_init_0 : decode cX21_init 0 = .ok (.aload_n 0, 1) := dk_42 (dk_at dksX21_init_0 0 rfl rfl)
theorem dX21_init_1 : decode cX21_init 1 = .ok (.invokespecial 1, 3) := dk_183 0 1 (dk_at dksX21_init_0 1 rfl rfl)
theorem dX21_init_4 : decode cX21_init 4 = .ok (.aload_n 0, 1) := dk_42 (dk_at dksX21_init_0 4 rfl rfl)
theorem dX21_init_5 : decode cX21_init 5 = .ok (.aload_n 1, 1) := dk_43 (dk_at dksX21_init_0 5 rfl rfl)
theorem dX21_init_6 : decode cX21_init 6 = .ok (.putfield 7, 3) := dk_181 0 7 (dk_at dksX21_init_0 6 rfl rfl)
theorem dX21_init_9 : decode cX21_init 9 = .ok (.return_, 1) := dk_177 (dk_at dksX21_init_0 9 rfl rfl)
abbrev cX21_holds : ByteArray := prog_14_method_2_code
def yX21_holds : MethodName := ⟨RX21, "holds", "(LStrangerMarket$Market;I)Z"⟩
def dkwX21_holds_0 : List UInt8 := [42, 180, 0, 7, 43, 28, 182, 0, 13, 154, 0, 7, 4, 167, 0, 4, 3, 172]
abbrev dktX21_holds_0 : List UInt8 := dkwX21_holds_0 ++ []
theorem dksX21_holds_0 : cX21_holds.data.toList.drop 0 = dktX21_holds_0 := by decide +kernel
theorem dX21_holds_0 : decode cX21_holds 0 = .ok (.aload_n 0, 1) := dk_42 (dk_at dksX21_holds_0 0 rfl rfl)
theorem dX21_holds_1 : decode cX21_holds 1 = .ok (.getfield 7, 3) := dk_180 0 7 (dk_at dksX21_holds_0 1 rfl rfl)
theorem dX21_holds_4 : decode cX21_holds 4 = .ok (.aload_n 1, 1) := dk_43 (dk_at dksX21_holds_0 4 rfl rfl)
theorem dX21_holds_5 : decode cX21_holds 5 = .ok (.iload_n 2, 1) := dk_28 (dk_at dksX21_holds_0 5 rfl rfl)
theorem dX21_holds_6 : decode cX21_holds 6 = .ok (.invokevirtual 13, 3) := dk_182 0 13 (dk_at dksX21_holds_0 6 rfl rfl)
theorem dX21_holds_9 : decode cX21_holds 9 = .ok (.ifCond .ne 7, 3) := dk_154 0 7 (dk_at dksX21_holds_0 9 rfl rfl)
theorem dX21_holds_12 : decode cX21_holds 12 = .ok (.iconst 1, 1) := dk_4 (dk_at dksX21_holds_0 12 rfl rfl)
theorem dX21_holds_13 : decode cX21_holds 13 = .ok (.goto 4, 3) := dk_167 0 4 (dk_at dksX21_holds_0 13 rfl rfl)
theorem dX21_holds_16 : decode cX21_holds 16 = .ok (.iconst 0, 1) := dk_3 (dk_at dksX21_holds_0 16 rfl rfl)
theorem dX21_holds_17 : decode cX21_holds 17 = .ok (.ireturn, 1) := dk_172 (dk_at dksX21_holds_0 17 rfl rfl)
abbrev cX22_init : ByteArray := prog_15_method_1_code
def yX22_init : MethodName := ⟨RX22, "<init>", "(ZI)V"⟩
def dkwX22_init_0 : List UInt8 := [42, 183, 0, 3, 42, 27, 181, 0, 9, 42, 28, 181, 0, 15, 177]
abbrev dktX22_init_0 : List UInt8 := dkwX22_init_0 ++ []
theorem dksX22_init_0 : cX22_init.data.toList.drop 0 = dktX22_init_0 := by decide +kernel
theorem dX22_init_0 : decode cX22_init 0 = .ok (.aload_n 0, 1) := dk_42 (dk_at dksX22_init_0 0 rfl rfl)
theorem dX22_init_1 : decode cX22_init 1 = .ok (.invokespecial 3, 3) := dk_183 0 3 (dk_at dksX22_init_0 1 rfl rfl)
theorem dX22_init_4 : decode cX22_init 4 = .ok (.aload_n 0, 1) := dk_42 (dk_at dksX22_init_0 4 rfl rfl)
theorem dX22_init_5 : decode cX22_init 5 = .ok (.iload_n 1, 1) := dk_27 (dk_at dksX22_init_0 5 rfl rfl)
theorem dX22_init_6 : decode cX22_init 6 = .ok (.putfield 9, 3) := dk_181 0 9 (dk_at dksX22_init_0 6 rfl rfl)
theorem dX22_init_9 : decode cX22_init 9 = .ok (.aload_n 0, 1) := dk_42 (dk_at dksX22_init_0 9 rfl rfl)
theorem dX22_init_10 : decode cX22_init 10 = .ok (.iload_n 2, 1) := dk_28 (dk_at dksX22_init_0 10 rfl rfl)
theorem dX22_init_11 : decode cX22_init 11 = .ok (.putfield 15, 3) := dk_181 0 15 (dk_at dksX22_init_0 11 rfl rfl)
theorem dX22_init_14 : decode cX22_init 14 = .ok (.return_, 1) := dk_177 (dk_at dksX22_init_0 14 rfl rfl)
abbrev cX22_holds : ByteArray := prog_15_method_2_code
def yX22_holds : MethodName := ⟨RX22, "holds", "(LStrangerMarket$Market;I)Z"⟩
def dkwX22_holds_1 : List UInt8 := [28, 104, 42, 180, 0, 15, 96, 46, 158, 0, 7, 4, 167, 0, 4, 3, 172]
abbrev dktX22_holds_1 : List UInt8 := dkwX22_holds_1 ++ []
def dkwX22_holds_0 : List UInt8 := [42, 180, 0, 9, 153, 0, 15, 43, 28, 42, 180, 0, 15, 182, 0, 19, 167, 0, 24, 43, 180, 0, 25, 8]
abbrev dktX22_holds_0 : List UInt8 := dkwX22_holds_0 ++ dktX22_holds_1
theorem dksX22_holds_0 : cX22_holds.data.toList.drop 0 = dktX22_holds_0 := by decide +kernel
theorem dksX22_holds_1 : cX22_holds.data.toList.drop 24 = dktX22_holds_1 := dk_seg dksX22_holds_0 24 rfl rfl
theorem dX22_holds_0 : decode cX22_holds 0 = .ok (.aload_n 0, 1) := dk_42 (dk_at dksX22_holds_0 0 rfl rfl)
theorem dX22_holds_1 : decode cX22_holds 1 = .ok (.getfield 9, 3) := dk_180 0 9 (dk_at dksX22_holds_0 1 rfl rfl)
theorem dX22_holds_4 : decode cX22_holds 4 = .ok (.ifCond .eq 15, 3) := dk_153 0 15 (dk_at dksX22_holds_0 4 rfl rfl)
theorem dX22_holds_7 : decode cX22_holds 7 = .ok (.aload_n 1, 1) := dk_43 (dk_at dksX22_holds_0 7 rfl rfl)
theorem dX22_holds_8 : decode cX22_holds 8 = .ok (.iload_n 2, 1) := dk_28 (dk_at dksX22_holds_0 8 rfl rfl)
theorem dX22_holds_9 : decode cX22_holds 9 = .ok (.aload_n 0, 1) := dk_42 (dk_at dksX22_holds_0 9 rfl rfl)
theorem dX22_holds_10 : decode cX22_holds 10 = .ok (.getfield 15, 3) := dk_180 0 15 (dk_at dksX22_holds_0 10 rfl rfl)
theorem dX22_holds_13 : decode cX22_holds 13 = .ok (.invokevirtual 19, 3) := dk_182 0 19 (dk_at dksX22_holds_0 13 rfl rfl)
theorem dX22_holds_16 : decode cX22_holds 16 = .ok (.goto 24, 3) := dk_167 0 24 (dk_at dksX22_holds_0 16 rfl rfl)
theorem dX22_holds_19 : decode cX22_holds 19 = .ok (.aload_n 1, 1) := dk_43 (dk_at dksX22_holds_0 19 rfl rfl)
theorem dX22_holds_20 : decode cX22_holds 20 = .ok (.getfield 25, 3) := dk_180 0 25 (dk_at dksX22_holds_0 20 rfl rfl)
theorem dX22_holds_23 : decode cX22_holds 23 = .ok (.iconst 5, 1) := dk_8 (dk_at dksX22_holds_0 23 rfl rfl)
theorem dX22_holds_24 : decode cX22_holds 24 = .ok (.iload_n 2, 1) := dk_28 (dk_at dksX22_holds_1 0 rfl rfl)
theorem dX22_holds_25 : decode cX22_holds 25 = .ok (.imul, 1) := dk_104 (dk_at dksX22_holds_1 1 rfl rfl)
theorem dX22_holds_26 : decode cX22_holds 26 = .ok (.aload_n 0, 1) := dk_42 (dk_at dksX22_holds_1 2 rfl rfl)
theorem dX22_holds_27 : decode cX22_holds 27 = .ok (.getfield 15, 3) := dk_180 0 15 (dk_at dksX22_holds_1 3 rfl rfl)
theorem dX22_holds_30 : decode cX22_holds 30 = .ok (.iadd, 1) := dk_96 (dk_at dksX22_holds_1 6 rfl rfl)
theorem dX22_holds_31 : decode cX22_holds 31 = .ok (.iaload, 1) := dk_46 (dk_at dksX22_holds_1 7 rfl rfl)
theorem dX22_holds_32 : decode cX22_holds 32 = .ok (.ifCond .le 7, 3) := dk_158 0 7 (dk_at dksX22_holds_1 8 rfl rfl)
theorem dX22_holds_35 : decode cX22_holds 35 = .ok (.iconst 1, 1) := dk_4 (dk_at dksX22_holds_1 11 rfl rfl)
theorem dX22_holds_36 : decode cX22_holds 36 = .ok (.goto 4, 3) := dk_167 0 4 (dk_at dksX22_holds_1 12 rfl rfl)
theorem dX22_holds_39 : decode cX22_holds 39 = .ok (.iconst 0, 1) := dk_3 (dk_at dksX22_holds_1 15 rfl rfl)
theorem dX22_holds_40 : decode cX22_holds 40 = .ok (.ireturn, 1) := dk_172 (dk_at dksX22_holds_1 16 rfl rfl)
abbrev cX23_init : ByteArray := prog_9_method_1_code
def yX23_init : MethodName := ⟨RX23, "<init>", "(I)V"⟩
def dkwX23_init_0 : List UInt8 := [42, 183, 0, 1, 42, 27, 181, 0, 7, 177]
abbrev dktX23_init_0 : List UInt8 := dkwX23_init_0 ++ []
theorem dksX23_init_0 : cX23_init.data.toList.drop 0 = dktX23_init_0 := by decide +kernel
theorem dX23_init_0 : decode cX23_init 0 = .ok (.aload_n 0, 1) := dk_42 (dk_at dksX23_init_0 0 rfl rfl)
theorem dX23_init_1 : decode cX23_init 1 = .ok (.invokespecial 1, 3) := dk_183 0 1 (dk_at dksX23_init_0 1 rfl rfl)
theorem dX23_init_4 : decode cX23_init 4 = .ok (.aload_n 0, 1) := dk_42 (dk_at dksX23_init_0 4 rfl rfl)
theorem dX23_init_5 : decode cX23_init 5 = .ok (.iload_n 1, 1) := dk_27 (dk_at dksX23_init_0 5 rfl rfl)
theorem dX23_init_6 : decode cX23_init 6 = .ok (.putfield 7, 3) := dk_181 0 7 (dk_at dksX23_init_0 6 rfl rfl)
theorem dX23_init_9 : decode cX23_init 9 = .ok (.return_, 1) := dk_177 (dk_at dksX23_init_0 9 rfl rfl)
abbrev cX23_holds : ByteArray := prog_9_method_3_code
def yX23_holds : MethodName := ⟨RX23, "holds", "(LStrangerMarket$Market;I)Z"⟩
def dkwX23_holds_2 : List UInt8 := [167, 0, 12, 3, 167, 0, 8, 43, 28, 184, 0, 42, 172]
abbrev dktX23_holds_2 : List UInt8 := dkwX23_holds_2 ++ []
def dkwX23_holds_1 : List UInt8 := [28, 182, 0, 36, 167, 0, 32, 42, 180, 0, 7, 5, 160, 0, 19, 43, 28, 182, 0, 39, 154, 0, 7, 4]
abbrev dktX23_holds_1 : List UInt8 := dkwX23_holds_1 ++ dktX23_holds_2
def dkwX23_holds_0 : List UInt8 := [42, 180, 0, 7, 154, 0, 11, 43, 28, 182, 0, 33, 167, 0, 48, 42, 180, 0, 7, 4, 160, 0, 11, 43]
abbrev dktX23_holds_0 : List UInt8 := dkwX23_holds_0 ++ dktX23_holds_1
theorem dksX23_holds_0 : cX23_holds.data.toList.drop 0 = dktX23_holds_0 := by decide +kernel
theorem dksX23_holds_1 : cX23_holds.data.toList.drop 24 = dktX23_holds_1 := dk_seg dksX23_holds_0 24 rfl rfl
theorem dksX23_holds_2 : cX23_holds.data.toList.drop 48 = dktX23_holds_2 := dk_seg dksX23_holds_1 24 rfl rfl
theorem dX23_holds_0 : decode cX23_holds 0 = .ok (.aload_n 0, 1) := dk_42 (dk_at dksX23_holds_0 0 rfl rfl)
theorem dX23_holds_1 : decode cX23_holds 1 = .ok (.getfield 7, 3) := dk_180 0 7 (dk_at dksX23_holds_0 1 rfl rfl)
theorem dX23_holds_4 : decode cX23_holds 4 = .ok (.ifCond .ne 11, 3) := dk_154 0 11 (dk_at dksX23_holds_0 4 rfl rfl)
theorem dX23_holds_7 : decode cX23_holds 7 = .ok (.aload_n 1, 1) := dk_43 (dk_at dksX23_holds_0 7 rfl rfl)
theorem dX23_holds_8 : decode cX23_holds 8 = .ok (.iload_n 2, 1) := dk_28 (dk_at dksX23_holds_0 8 rfl rfl)
theorem dX23_holds_9 : decode cX23_holds 9 = .ok (.invokevirtual 33, 3) := dk_182 0 33 (dk_at dksX23_holds_0 9 rfl rfl)
theorem dX23_holds_12 : decode cX23_holds 12 = .ok (.goto 48, 3) := dk_167 0 48 (dk_at dksX23_holds_0 12 rfl rfl)
theorem dX23_holds_15 : decode cX23_holds 15 = .ok (.aload_n 0, 1) := dk_42 (dk_at dksX23_holds_0 15 rfl rfl)
theorem dX23_holds_16 : decode cX23_holds 16 = .ok (.getfield 7, 3) := dk_180 0 7 (dk_at dksX23_holds_0 16 rfl rfl)
theorem dX23_holds_19 : decode cX23_holds 19 = .ok (.iconst 1, 1) := dk_4 (dk_at dksX23_holds_0 19 rfl rfl)
theorem dX23_holds_20 : decode cX23_holds 20 = .ok (.if_icmp .ne 11, 3) := dk_160 0 11 (dk_at dksX23_holds_0 20 rfl rfl)
theorem dX23_holds_23 : decode cX23_holds 23 = .ok (.aload_n 1, 1) := dk_43 (dk_at dksX23_holds_0 23 rfl rfl)
theorem dX23_holds_24 : decode cX23_holds 24 = .ok (.iload_n 2, 1) := dk_28 (dk_at dksX23_holds_1 0 rfl rfl)
theorem dX23_holds_25 : decode cX23_holds 25 = .ok (.invokevirtual 36, 3) := dk_182 0 36 (dk_at dksX23_holds_1 1 rfl rfl)
theorem dX23_holds_28 : decode cX23_holds 28 = .ok (.goto 32, 3) := dk_167 0 32 (dk_at dksX23_holds_1 4 rfl rfl)
theorem dX23_holds_31 : decode cX23_holds 31 = .ok (.aload_n 0, 1) := dk_42 (dk_at dksX23_holds_1 7 rfl rfl)
theorem dX23_holds_32 : decode cX23_holds 32 = .ok (.getfield 7, 3) := dk_180 0 7 (dk_at dksX23_holds_1 8 rfl rfl)
theorem dX23_holds_35 : decode cX23_holds 35 = .ok (.iconst 2, 1) := dk_5 (dk_at dksX23_holds_1 11 rfl rfl)
theorem dX23_holds_36 : decode cX23_holds 36 = .ok (.if_icmp .ne 19, 3) := dk_160 0 19 (dk_at dksX23_holds_1 12 rfl rfl)
theorem dX23_holds_39 : decode cX23_holds 39 = .ok (.aload_n 1, 1) := dk_43 (dk_at dksX23_holds_1 15 rfl rfl)
theorem dX23_holds_40 : decode cX23_holds 40 = .ok (.iload_n 2, 1) := dk_28 (dk_at dksX23_holds_1 16 rfl rfl)
theorem dX23_holds_41 : decode cX23_holds 41 = .ok (.invokevirtual 39, 3) := dk_182 0 39 (dk_at dksX23_holds_1 17 rfl rfl)
theorem dX23_holds_44 : decode cX23_holds 44 = .ok (.ifCond .ne 7, 3) := dk_154 0 7 (dk_at dksX23_holds_1 20 rfl rfl)
theorem dX23_holds_47 : decode cX23_holds 47 = .ok (.iconst 1, 1) := dk_4 (dk_at dksX23_holds_1 23 rfl rfl)
theorem dX23_holds_48 : decode cX23_holds 48 = .ok (.goto 12, 3) := dk_167 0 12 (dk_at dksX23_holds_2 0 rfl rfl)
theorem dX23_holds_51 : decode cX23_holds 51 = .ok (.iconst 0, 1) := dk_3 (dk_at dksX23_holds_2 3 rfl rfl)
theorem dX23_holds_52 : decode cX23_holds 52 = .ok (.goto 8, 3) := dk_167 0 8 (dk_at dksX23_holds_2 4 rfl rfl)
theorem dX23_holds_55 : decode cX23_holds 55 = .ok (.aload_n 1, 1) := dk_43 (dk_at dksX23_holds_2 7 rfl rfl)
theorem dX23_holds_56 : decode cX23_holds 56 = .ok (.iload_n 2, 1) := dk_28 (dk_at dksX23_holds_2 8 rfl rfl)
theorem dX23_holds_57 : decode cX23_holds 57 = .ok (.invokestatic 42, 3) := dk_184 0 42 (dk_at dksX23_holds_2 9 rfl rfl)
theorem dX23_holds_60 : decode cX23_holds 60 = .ok (.ireturn, 1) := dk_172 (dk_at dksX23_holds_2 12 rfl rfl)
abbrev cX23_isSold : ByteArray := prog_9_method_2_code
def yX23_isSold : MethodName := ⟨RX23, "isSold", "(LStrangerMarket$Market;I)Z"⟩
def dkwX23_isSold_2 : List UInt8 := [182, 0, 29, 154, 0, 7, 4, 167, 0, 4, 3, 172]
abbrev dktX23_isSold_2 : List UInt8 := dkwX23_isSold_2 ++ []
def dkwX23_isSold_1 : List UInt8 := [182, 0, 23, 153, 0, 7, 4, 167, 0, 4, 3, 61, 132, 3, 1, 167, 255, 223, 28, 153, 0, 15, 42, 27]
abbrev dktX23_isSold_1 : List UInt8 := dkwX23_isSold_1 ++ dktX23_isSold_2
def dkwX23_isSold_0 : List UInt8 := [3, 61, 3, 62, 29, 42, 182, 0, 13, 162, 0, 31, 28, 154, 0, 15, 42, 27, 182, 0, 19, 29]
abbrev dktX23_isSold_0 : List UInt8 := dkwX23_isSold_0 ++ dktX23_isSold_1
theorem dksX23_isSold_0 : cX23_isSold.data.toList.drop 0 = dktX23_isSold_0 := by decide +kernel
theorem dksX23_isSold_1 : cX23_isSold.data.toList.drop 22 = dktX23_isSold_1 := dk_seg dksX23_isSold_0 22 rfl rfl
theorem dksX23_isSold_2 : cX23_isSold.data.toList.drop 46 = dktX23_isSold_2 := dk_seg dksX23_isSold_1 24 rfl rfl
theorem dX23_isSold_0 : decode cX23_isSold 0 = .ok (.iconst 0, 1) := dk_3 (dk_at dksX23_isSold_0 0 rfl rfl)
theorem dX23_isSold_1 : decode cX23_isSold 1 = .ok (.istore_n 2, 1) := dk_61 (dk_at dksX23_isSold_0 1 rfl rfl)
theorem dX23_isSold_2 : decode cX23_isSold 2 = .ok (.iconst 0, 1) := dk_3 (dk_at dksX23_isSold_0 2 rfl rfl)
theorem dX23_isSold_3 : decode cX23_isSold 3 = .ok (.istore_n 3, 1) := dk_62 (dk_at dksX23_isSold_0 3 rfl rfl)
theorem dX23_isSold_4 : decode cX23_isSold 4 = .ok (.iload_n 3, 1) := dk_29 (dk_at dksX23_isSold_0 4 rfl rfl)
theorem dX23_isSold_5 : decode cX23_isSold 5 = .ok (.aload_n 0, 1) := dk_42 (dk_at dksX23_isSold_0 5 rfl rfl)
theorem dX23_isSold_6 : decode cX23_isSold 6 = .ok (.invokevirtual 13, 3) := dk_182 0 13 (dk_at dksX23_isSold_0 6 rfl rfl)
theorem dX23_isSold_9 : decode cX23_isSold 9 = .ok (.if_icmp .ge 31, 3) := dk_162 0 31 (dk_at dksX23_isSold_0 9 rfl rfl)
theorem dX23_isSold_12 : decode cX23_isSold 12 = .ok (.iload_n 2, 1) := dk_28 (dk_at dksX23_isSold_0 12 rfl rfl)
theorem dX23_isSold_13 : decode cX23_isSold 13 = .ok (.ifCond .ne 15, 3) := dk_154 0 15 (dk_at dksX23_isSold_0 13 rfl rfl)
theorem dX23_isSold_16 : decode cX23_isSold 16 = .ok (.aload_n 0, 1) := dk_42 (dk_at dksX23_isSold_0 16 rfl rfl)
theorem dX23_isSold_17 : decode cX23_isSold 17 = .ok (.iload_n 1, 1) := dk_27 (dk_at dksX23_isSold_0 17 rfl rfl)
theorem dX23_isSold_18 : decode cX23_isSold 18 = .ok (.invokevirtual 19, 3) := dk_182 0 19 (dk_at dksX23_isSold_0 18 rfl rfl)
theorem dX23_isSold_21 : decode cX23_isSold 21 = .ok (.iload_n 3, 1) := dk_29 (dk_at dksX23_isSold_0 21 rfl rfl)
theorem dX23_isSold_22 : decode cX23_isSold 22 = .ok (.invokevirtual 23, 3) := dk_182 0 23 (dk_at dksX23_isSold_1 0 rfl rfl)
theorem dX23_isSold_25 : decode cX23_isSold 25 = .ok (.ifCond .eq 7, 3) := dk_153 0 7 (dk_at dksX23_isSold_1 3 rfl rfl)
theorem dX23_isSold_28 : decode cX23_isSold 28 = .ok (.iconst 1, 1) := dk_4 (dk_at dksX23_isSold_1 6 rfl rfl)
theorem dX23_isSold_29 : decode cX23_isSold 29 = .ok (.goto 4, 3) := dk_167 0 4 (dk_at dksX23_isSold_1 7 rfl rfl)
theorem dX23_isSold_32 : decode cX23_isSold 32 = .ok (.iconst 0, 1) := dk_3 (dk_at dksX23_isSold_1 10 rfl rfl)
theorem dX23_isSold_33 : decode cX23_isSold 33 = .ok (.istore_n 2, 1) := dk_61 (dk_at dksX23_isSold_1 11 rfl rfl)
theorem dX23_isSold_34 : decode cX23_isSold 34 = .ok (.iinc 3 1, 3) := dk_132 3 1 (dk_at dksX23_isSold_1 12 rfl rfl)
theorem dX23_isSold_37 : decode cX23_isSold 37 = .ok (.goto (-33), 3) := dk_167 255 223 (dk_at dksX23_isSold_1 15 rfl rfl)
theorem dX23_isSold_40 : decode cX23_isSold 40 = .ok (.iload_n 2, 1) := dk_28 (dk_at dksX23_isSold_1 18 rfl rfl)
theorem dX23_isSold_41 : decode cX23_isSold 41 = .ok (.ifCond .eq 15, 3) := dk_153 0 15 (dk_at dksX23_isSold_1 19 rfl rfl)
theorem dX23_isSold_44 : decode cX23_isSold 44 = .ok (.aload_n 0, 1) := dk_42 (dk_at dksX23_isSold_1 22 rfl rfl)
theorem dX23_isSold_45 : decode cX23_isSold 45 = .ok (.iload_n 1, 1) := dk_27 (dk_at dksX23_isSold_1 23 rfl rfl)
theorem dX23_isSold_46 : decode cX23_isSold 46 = .ok (.invokevirtual 29, 3) := dk_182 0 29 (dk_at dksX23_isSold_2 0 rfl rfl)
theorem dX23_isSold_49 : decode cX23_isSold 49 = .ok (.ifCond .ne 7, 3) := dk_154 0 7 (dk_at dksX23_isSold_2 3 rfl rfl)
theorem dX23_isSold_52 : decode cX23_isSold 52 = .ok (.iconst 1, 1) := dk_4 (dk_at dksX23_isSold_2 6 rfl rfl)
theorem dX23_isSold_53 : decode cX23_isSold 53 = .ok (.goto 4, 3) := dk_167 0 4 (dk_at dksX23_isSold_2 7 rfl rfl)
theorem dX23_isSold_56 : decode cX23_isSold 56 = .ok (.iconst 0, 1) := dk_3 (dk_at dksX23_isSold_2 10 rfl rfl)
theorem dX23_isSold_57 : decode cX23_isSold 57 = .ok (.ireturn, 1) := dk_172 (dk_at dksX23_isSold_2 11 rfl rfl)
abbrev cX24_init : ByteArray := prog_21_method_1_code
def yX24_init : MethodName := ⟨RX24, "<init>", "(III)V"⟩
def dkwX24_init_0 : List UInt8 := [42, 183, 0, 1, 42, 27, 181, 0, 7, 42, 28, 181, 0, 13, 42, 29, 181, 0, 16, 177]
abbrev dktX24_init_0 : List UInt8 := dkwX24_init_0 ++ []
theorem dksX24_init_0 : cX24_init.data.toList.drop 0 = dktX24_init_0 := by decide +kernel
theorem dX24_init_0 : decode cX24_init 0 = .ok (.aload_n 0, 1) := dk_42 (dk_at dksX24_init_0 0 rfl rfl)
theorem dX24_init_1 : decode cX24_init 1 = .ok (.invokespecial 1, 3) := dk_183 0 1 (dk_at dksX24_init_0 1 rfl rfl)
theorem dX24_init_4 : decode cX24_init 4 = .ok (.aload_n 0, 1) := dk_42 (dk_at dksX24_init_0 4 rfl rfl)
theorem dX24_init_5 : decode cX24_init 5 = .ok (.iload_n 1, 1) := dk_27 (dk_at dksX24_init_0 5 rfl rfl)
theorem dX24_init_6 : decode cX24_init 6 = .ok (.putfield 7, 3) := dk_181 0 7 (dk_at dksX24_init_0 6 rfl rfl)
theorem dX24_init_9 : decode cX24_init 9 = .ok (.aload_n 0, 1) := dk_42 (dk_at dksX24_init_0 9 rfl rfl)
theorem dX24_init_10 : decode cX24_init 10 = .ok (.iload_n 2, 1) := dk_28 (dk_at dksX24_init_0 10 rfl rfl)
theorem dX24_init_11 : decode cX24_init 11 = .ok (.putfield 13, 3) := dk_181 0 13 (dk_at dksX24_init_0 11 rfl rfl)
theorem dX24_init_14 : decode cX24_init 14 = .ok (.aload_n 0, 1) := dk_42 (dk_at dksX24_init_0 14 rfl rfl)
theorem dX24_init_15 : decode cX24_init 15 = .ok (.iload_n 3, 1) := dk_29 (dk_at dksX24_init_0 15 rfl rfl)
theorem dX24_init_16 : decode cX24_init 16 = .ok (.putfield 16, 3) := dk_181 0 16 (dk_at dksX24_init_0 16 rfl rfl)
theorem dX24_init_19 : decode cX24_init 19 = .ok (.return_, 1) := dk_177 (dk_at dksX24_init_0 19 rfl rfl)
abbrev cX24_holds : ByteArray := prog_21_method_2_code
def yX24_holds : MethodName := ⟨RX24, "holds", "(LStrangerMarket$Market;I)Z"⟩
def dkwX24_holds_4 : List UInt8 := [4, 167, 0, 20, 3, 167, 0, 16, 29, 42, 180, 0, 16, 164, 0, 7, 4, 167, 0, 4, 3, 172]
abbrev dktX24_holds_4 : List UInt8 := dkwX24_holds_4 ++ []
def dkwX24_holds_3 : List UInt8 := [167, 0, 45, 3, 167, 0, 41, 42, 180, 0, 13, 16, 61, 160, 0, 19, 29, 42, 180, 0, 16, 160, 0, 7]
abbrev dktX24_holds_3 : List UInt8 := dkwX24_holds_3 ++ dktX24_holds_4
def dkwX24_holds_2 : List UInt8 := [46, 167, 0, 4, 28, 62, 42, 180, 0, 13, 16, 60, 160, 0, 19, 29, 42, 180, 0, 16, 162, 0, 7, 4]
abbrev dktX24_holds_2 : List UInt8 := dkwX24_holds_2 ++ dktX24_holds_3
def dkwX24_holds_1 : List UInt8 := [43, 28, 182, 0, 25, 184, 0, 29, 167, 0, 21, 42, 180, 0, 7, 5, 160, 0, 12, 43, 180, 0, 34, 28]
abbrev dktX24_holds_1 : List UInt8 := dkwX24_holds_1 ++ dktX24_holds_2
def dkwX24_holds_0 : List UInt8 := [42, 180, 0, 7, 154, 0, 12, 43, 180, 0, 19, 28, 46, 167, 0, 40, 42, 180, 0, 7, 4, 160, 0, 14]
abbrev dktX24_holds_0 : List UInt8 := dkwX24_holds_0 ++ dktX24_holds_1
theorem dksX24_holds_0 : cX24_holds.data.toList.drop 0 = dktX24_holds_0 := by decide +kernel
theorem dksX24_holds_1 : cX24_holds.data.toList.drop 24 = dktX24_holds_1 := dk_seg dksX24_holds_0 24 rfl rfl
theorem dksX24_holds_2 : cX24_holds.data.toList.drop 48 = dktX24_holds_2 := dk_seg dksX24_holds_1 24 rfl rfl
theorem dksX24_holds_3 : cX24_holds.data.toList.drop 72 = dktX24_holds_3 := dk_seg dksX24_holds_2 24 rfl rfl
theorem dksX24_holds_4 : cX24_holds.data.toList.drop 96 = dktX24_holds_4 := dk_seg dksX24_holds_3 24 rfl rfl
theorem dX24_holds_0 : decode cX24_holds 0 = .ok (.aload_n 0, 1) := dk_42 (dk_at dksX24_holds_0 0 rfl rfl)
theorem dX24_holds_1 : decode cX24_holds 1 = .ok (.getfield 7, 3) := dk_180 0 7 (dk_at dksX24_holds_0 1 rfl rfl)
theorem dX24_holds_4 : decode cX24_holds 4 = .ok (.ifCond .ne 12, 3) := dk_154 0 12 (dk_at dksX24_holds_0 4 rfl rfl)
theorem dX24_holds_7 : decode cX24_holds 7 = .ok (.aload_n 1, 1) := dk_43 (dk_at dksX24_holds_0 7 rfl rfl)
theorem dX24_holds_8 : decode cX24_holds 8 = .ok (.getfield 19, 3) := dk_180 0 19 (dk_at dksX24_holds_0 8 rfl rfl)
theorem dX24_holds_11 : decode cX24_holds 11 = .ok (.iload_n 2, 1) := dk_28 (dk_at dksX24_holds_0 11 rfl rfl)
theorem dX24_holds_12 : decode cX24_holds 12 = .ok (.iaload, 1) := dk_46 (dk_at dksX24_holds_0 12 rfl rfl)
theorem dX24_holds_13 : decode cX24_holds 13 = .ok (.goto 40, 3) := dk_167 0 40 (dk_at dksX24_holds_0 13 rfl rfl)
theorem dX24_holds_16 : decode cX24_holds 16 = .ok (.aload_n 0, 1) := dk_42 (dk_at dksX24_holds_0 16 rfl rfl)
theorem dX24_holds_17 : decode cX24_holds 17 = .ok (.getfield 7, 3) := dk_180 0 7 (dk_at dksX24_holds_0 17 rfl rfl)
theorem dX24_holds_20 : decode cX24_holds 20 = .ok (.iconst 1, 1) := dk_4 (dk_at dksX24_holds_0 20 rfl rfl)
theorem dX24_holds_21 : decode cX24_holds 21 = .ok (.if_icmp .ne 14, 3) := dk_160 0 14 (dk_at dksX24_holds_0 21 rfl rfl)
theorem dX24_holds_24 : decode cX24_holds 24 = .ok (.aload_n 1, 1) := dk_43 (dk_at dksX24_holds_1 0 rfl rfl)
theorem dX24_holds_25 : decode cX24_holds 25 = .ok (.iload_n 2, 1) := dk_28 (dk_at dksX24_holds_1 1 rfl rfl)
theorem dX24_holds_26 : decode cX24_holds 26 = .ok (.invokevirtual 25, 3) := dk_182 0 25 (dk_at dksX24_holds_1 2 rfl rfl)
theorem dX24_holds_29 : decode cX24_holds 29 = .ok (.invokestatic 29, 3) := dk_184 0 29 (dk_at dksX24_holds_1 5 rfl rfl)
theorem dX24_holds_32 : decode cX24_holds 32 = .ok (.goto 21, 3) := dk_167 0 21 (dk_at dksX24_holds_1 8 rfl rfl)
theorem dX24_holds_35 : decode cX24_holds 35 = .ok (.aload_n 0, 1) := dk_42 (dk_at dksX24_holds_1 11 rfl rfl)
theorem dX24_holds_36 : decode cX24_holds 36 = .ok (.getfield 7, 3) := dk_180 0 7 (dk_at dksX24_holds_1 12 rfl rfl)
theorem dX24_holds_39 : decode cX24_holds 39 = .ok (.iconst 2, 1) := dk_5 (dk_at dksX24_holds_1 15 rfl rfl)
theorem dX24_holds_40 : decode cX24_holds 40 = .ok (.if_icmp .ne 12, 3) := dk_160 0 12 (dk_at dksX24_holds_1 16 rfl rfl)
theorem dX24_holds_43 : decode cX24_holds 43 = .ok (.aload_n 1, 1) := dk_43 (dk_at dksX24_holds_1 19 rfl rfl)
theorem dX24_holds_44 : decode cX24_holds 44 = .ok (.getfield 34, 3) := dk_180 0 34 (dk_at dksX24_holds_1 20 rfl rfl)
theorem dX24_holds_47 : decode cX24_holds 47 = .ok (.iload_n 2, 1) := dk_28 (dk_at dksX24_holds_1 23 rfl rfl)
theorem dX24_holds_48 : decode cX24_holds 48 = .ok (.iaload, 1) := dk_46 (dk_at dksX24_holds_2 0 rfl rfl)
theorem dX24_holds_49 : decode cX24_holds 49 = .ok (.goto 4, 3) := dk_167 0 4 (dk_at dksX24_holds_2 1 rfl rfl)
theorem dX24_holds_52 : decode cX24_holds 52 = .ok (.iload_n 2, 1) := dk_28 (dk_at dksX24_holds_2 4 rfl rfl)
theorem dX24_holds_53 : decode cX24_holds 53 = .ok (.istore_n 3, 1) := dk_62 (dk_at dksX24_holds_2 5 rfl rfl)
theorem dX24_holds_54 : decode cX24_holds 54 = .ok (.aload_n 0, 1) := dk_42 (dk_at dksX24_holds_2 6 rfl rfl)
theorem dX24_holds_55 : decode cX24_holds 55 = .ok (.getfield 13, 3) := dk_180 0 13 (dk_at dksX24_holds_2 7 rfl rfl)
theorem dX24_holds_58 : decode cX24_holds 58 = .ok (.bipush 60, 2) := dk_16 60 (dk_at dksX24_holds_2 10 rfl rfl)
theorem dX24_holds_60 : decode cX24_holds 60 = .ok (.if_icmp .ne 19, 3) := dk_160 0 19 (dk_at dksX24_holds_2 12 rfl rfl)
theorem dX24_holds_63 : decode cX24_holds 63 = .ok (.iload_n 3, 1) := dk_29 (dk_at dksX24_holds_2 15 rfl rfl)
theorem dX24_holds_64 : decode cX24_holds 64 = .ok (.aload_n 0, 1) := dk_42 (dk_at dksX24_holds_2 16 rfl rfl)
theorem dX24_holds_65 : decode cX24_holds 65 = .ok (.getfield 16, 3) := dk_180 0 16 (dk_at dksX24_holds_2 17 rfl rfl)
theorem dX24_holds_68 : decode cX24_holds 68 = .ok (.if_icmp .ge 7, 3) := dk_162 0 7 (dk_at dksX24_holds_2 20 rfl rfl)
theorem dX24_holds_71 : decode cX24_holds 71 = .ok (.iconst 1, 1) := dk_4 (dk_at dksX24_holds_2 23 rfl rfl)
theorem dX24_holds_72 : decode cX24_holds 72 = .ok (.goto 45, 3) := dk_167 0 45 (dk_at dksX24_holds_3 0 rfl rfl)
theorem dX24_holds_75 : decode cX24_holds 75 = .ok (.iconst 0, 1) := dk_3 (dk_at dksX24_holds_3 3 rfl rfl)
theorem dX24_holds_76 : decode cX24_holds 76 = .ok (.goto 41, 3) := dk_167 0 41 (dk_at dksX24_holds_3 4 rfl rfl)
theorem dX24_holds_79 : decode cX24_holds 79 = .ok (.aload_n 0, 1) := dk_42 (dk_at dksX24_holds_3 7 rfl rfl)
theorem dX24_holds_80 : decode cX24_holds 80 = .ok (.getfield 13, 3) := dk_180 0 13 (dk_at dksX24_holds_3 8 rfl rfl)
theorem dX24_holds_83 : decode cX24_holds 83 = .ok (.bipush 61, 2) := dk_16 61 (dk_at dksX24_holds_3 11 rfl rfl)
theorem dX24_holds_85 : decode cX24_holds 85 = .ok (.if_icmp .ne 19, 3) := dk_160 0 19 (dk_at dksX24_holds_3 13 rfl rfl)
theorem dX24_holds_88 : decode cX24_holds 88 = .ok (.iload_n 3, 1) := dk_29 (dk_at dksX24_holds_3 16 rfl rfl)
theorem dX24_holds_89 : decode cX24_holds 89 = .ok (.aload_n 0, 1) := dk_42 (dk_at dksX24_holds_3 17 rfl rfl)
theorem dX24_holds_90 : decode cX24_holds 90 = .ok (.getfield 16, 3) := dk_180 0 16 (dk_at dksX24_holds_3 18 rfl rfl)
theorem dX24_holds_93 : decode cX24_holds 93 = .ok (.if_icmp .ne 7, 3) := dk_160 0 7 (dk_at dksX24_holds_3 21 rfl rfl)
theorem dX24_holds_96 : decode cX24_holds 96 = .ok (.iconst 1, 1) := dk_4 (dk_at dksX24_holds_4 0 rfl rfl)
theorem dX24_holds_97 : decode cX24_holds 97 = .ok (.goto 20, 3) := dk_167 0 20 (dk_at dksX24_holds_4 1 rfl rfl)
theorem dX24_holds_100 : decode cX24_holds 100 = .ok (.iconst 0, 1) := dk_3 (dk_at dksX24_holds_4 4 rfl rfl)
theorem dX24_holds_101 : decode cX24_holds 101 = .ok (.goto 16, 3) := dk_167 0 16 (dk_at dksX24_holds_4 5 rfl rfl)
theorem dX24_holds_104 : decode cX24_holds 104 = .ok (.iload_n 3, 1) := dk_29 (dk_at dksX24_holds_4 8 rfl rfl)
theorem dX24_holds_105 : decode cX24_holds 105 = .ok (.aload_n 0, 1) := dk_42 (dk_at dksX24_holds_4 9 rfl rfl)
theorem dX24_holds_106 : decode cX24_holds 106 = .ok (.getfield 16, 3) := dk_180 0 16 (dk_at dksX24_holds_4 10 rfl rfl)
theorem dX24_holds_109 : decode cX24_holds 109 = .ok (.if_icmp .le 7, 3) := dk_164 0 7 (dk_at dksX24_holds_4 13 rfl rfl)
theorem dX24_holds_112 : decode cX24_holds 112 = .ok (.iconst 1, 1) := dk_4 (dk_at dksX24_holds_4 16 rfl rfl)
theorem dX24_holds_113 : decode cX24_holds 113 = .ok (.goto 4, 3) := dk_167 0 4 (dk_at dksX24_holds_4 17 rfl rfl)
theorem dX24_holds_116 : decode cX24_holds 116 = .ok (.iconst 0, 1) := dk_3 (dk_at dksX24_holds_4 20 rfl rfl)
theorem dX24_holds_117 : decode cX24_holds 117 = .ok (.ireturn, 1) := dk_172 (dk_at dksX24_holds_4 21 rfl rfl)
abbrev cX25_init : ByteArray := prog_22_method_1_code
def yX25_init : MethodName := ⟨RX25, "<init>", "(LStrangerMarket$Cond;LStrangerMarket$Cond;Z)V"⟩
def dkwX25_init_0 : List UInt8 := [42, 183, 0, 1, 42, 43, 181, 0, 7, 42, 44, 181, 0, 13, 42, 29, 181, 0, 16, 177]
abbrev dktX25_init_0 : List UInt8 := dkwX25_init_0 ++ []
theorem dksX25_init_0 : cX25_init.data.toList.drop 0 = dktX25_init_0 := by decide +kernel
theorem dX25_init_0 : decode cX25_init 0 = .ok (.aload_n 0, 1) := dk_42 (dk_at dksX25_init_0 0 rfl rfl)
theorem dX25_init_1 : decode cX25_init 1 = .ok (.invokespecial 1, 3) := dk_183 0 1 (dk_at dksX25_init_0 1 rfl rfl)
theorem dX25_init_4 : decode cX25_init 4 = .ok (.aload_n 0, 1) := dk_42 (dk_at dksX25_init_0 4 rfl rfl)
theorem dX25_init_5 : decode cX25_init 5 = .ok (.aload_n 1, 1) := dk_43 (dk_at dksX25_init_0 5 rfl rfl)
theorem dX25_init_6 : decode cX25_init 6 = .ok (.putfield 7, 3) := dk_181 0 7 (dk_at dksX25_init_0 6 rfl rfl)
theorem dX25_init_9 : decode cX25_init 9 = .ok (.aload_n 0, 1) := dk_42 (dk_at dksX25_init_0 9 rfl rfl)
theorem dX25_init_10 : decode cX25_init 10 = .ok (.aload_n 2, 1) := dk_44 (dk_at dksX25_init_0 10 rfl rfl)
theorem dX25_init_11 : decode cX25_init 11 = .ok (.putfield 13, 3) := dk_181 0 13 (dk_at dksX25_init_0 11 rfl rfl)
theorem dX25_init_14 : decode cX25_init 14 = .ok (.aload_n 0, 1) := dk_42 (dk_at dksX25_init_0 14 rfl rfl)
theorem dX25_init_15 : decode cX25_init 15 = .ok (.iload_n 3, 1) := dk_29 (dk_at dksX25_init_0 15 rfl rfl)
theorem dX25_init_16 : decode cX25_init 16 = .ok (.putfield 16, 3) := dk_181 0 16 (dk_at dksX25_init_0 16 rfl rfl)
theorem dX25_init_19 : decode cX25_init 19 = .ok (.return_, 1) := dk_177 (dk_at dksX25_init_0 19 rfl rfl)
abbrev cX25_holds : ByteArray := prog_22_method_2_code
def yX25_holds : MethodName := ⟨RX25, "holds", "(LStrangerMarket$Market;I)Z"⟩
def dkwX25_holds_2 : List UInt8 := [154, 0, 15, 42, 180, 0, 13, 43, 28, 182, 0, 20, 153, 0, 7, 4, 167, 0, 4, 3, 172]
abbrev dktX25_holds_2 : List UInt8 := dkwX25_holds_2 ++ []
def dkwX25_holds_1 : List UInt8 := [28, 182, 0, 20, 153, 0, 7, 4, 167, 0, 36, 3, 167, 0, 32, 42, 180, 0, 7, 43, 28, 182, 0, 20]
abbrev dktX25_holds_1 : List UInt8 := dkwX25_holds_1 ++ dktX25_holds_2
def dkwX25_holds_0 : List UInt8 := [42, 180, 0, 16, 153, 0, 35, 42, 180, 0, 7, 43, 28, 182, 0, 20, 153, 0, 19, 42, 180, 0, 13, 43]
abbrev dktX25_holds_0 : List UInt8 := dkwX25_holds_0 ++ dktX25_holds_1
theorem dksX25_holds_0 : cX25_holds.data.toList.drop 0 = dktX25_holds_0 := by decide +kernel
theorem dksX25_holds_1 : cX25_holds.data.toList.drop 24 = dktX25_holds_1 := dk_seg dksX25_holds_0 24 rfl rfl
theorem dksX25_holds_2 : cX25_holds.data.toList.drop 48 = dktX25_holds_2 := dk_seg dksX25_holds_1 24 rfl rfl
theorem dX25_holds_0 : decode cX25_holds 0 = .ok (.aload_n 0, 1) := dk_42 (dk_at dksX25_holds_0 0 rfl rfl)
theorem dX25_holds_1 : decode cX25_holds 1 = .ok (.getfield 16, 3) := dk_180 0 16 (dk_at dksX25_holds_0 1 rfl rfl)
theorem dX25_holds_4 : decode cX25_holds 4 = .ok (.ifCond .eq 35, 3) := dk_153 0 35 (dk_at dksX25_holds_0 4 rfl rfl)
theorem dX25_holds_7 : decode cX25_holds 7 = .ok (.aload_n 0, 1) := dk_42 (dk_at dksX25_holds_0 7 rfl rfl)
theorem dX25_holds_8 : decode cX25_holds 8 = .ok (.getfield 7, 3) := dk_180 0 7 (dk_at dksX25_holds_0 8 rfl rfl)
theorem dX25_holds_11 : decode cX25_holds 11 = .ok (.aload_n 1, 1) := dk_43 (dk_at dksX25_holds_0 11 rfl rfl)
theorem dX25_holds_12 : decode cX25_holds 12 = .ok (.iload_n 2, 1) := dk_28 (dk_at dksX25_holds_0 12 rfl rfl)
theorem dX25_holds_13 : decode cX25_holds 13 = .ok (.invokevirtual 20, 3) := dk_182 0 20 (dk_at dksX25_holds_0 13 rfl rfl)
theorem dX25_holds_16 : decode cX25_holds 16 = .ok (.ifCond .eq 19, 3) := dk_153 0 19 (dk_at dksX25_holds_0 16 rfl rfl)
theorem dX25_holds_19 : decode cX25_holds 19 = .ok (.aload_n 0, 1) := dk_42 (dk_at dksX25_holds_0 19 rfl rfl)
theorem dX25_holds_20 : decode cX25_holds 20 = .ok (.getfield 13, 3) := dk_180 0 13 (dk_at dksX25_holds_0 20 rfl rfl)
theorem dX25_holds_23 : decode cX25_holds 23 = .ok (.aload_n 1, 1) := dk_43 (dk_at dksX25_holds_0 23 rfl rfl)
theorem dX25_holds_24 : decode cX25_holds 24 = .ok (.iload_n 2, 1) := dk_28 (dk_at dksX25_holds_1 0 rfl rfl)
theorem dX25_holds_25 : decode cX25_holds 25 = .ok (.invokevirtual 20, 3) := dk_182 0 20 (dk_at dksX25_holds_1 1 rfl rfl)
theorem dX25_holds_28 : decode cX25_holds 28 = .ok (.ifCond .eq 7, 3) := dk_153 0 7 (dk_at dksX25_holds_1 4 rfl rfl)
theorem dX25_holds_31 : decode cX25_holds 31 = .ok (.iconst 1, 1) := dk_4 (dk_at dksX25_holds_1 7 rfl rfl)
theorem dX25_holds_32 : decode cX25_holds 32 = .ok (.goto 36, 3) := dk_167 0 36 (dk_at dksX25_holds_1 8 rfl rfl)
theorem dX25_holds_35 : decode cX25_holds 35 = .ok (.iconst 0, 1) := dk_3 (dk_at dksX25_holds_1 11 rfl rfl)
theorem dX25_holds_36 : decode cX25_holds 36 = .ok (.goto 32, 3) := dk_167 0 32 (dk_at dksX25_holds_1 12 rfl rfl)
theorem dX25_holds_39 : decode cX25_holds 39 = .ok (.aload_n 0, 1) := dk_42 (dk_at dksX25_holds_1 15 rfl rfl)
theorem dX25_holds_40 : decode cX25_holds 40 = .ok (.getfield 7, 3) := dk_180 0 7 (dk_at dksX25_holds_1 16 rfl rfl)
theorem dX25_holds_43 : decode cX25_holds 43 = .ok (.aload_n 1, 1) := dk_43 (dk_at dksX25_holds_1 19 rfl rfl)
theorem dX25_holds_44 : decode cX25_holds 44 = .ok (.iload_n 2, 1) := dk_28 (dk_at dksX25_holds_1 20 rfl rfl)
theorem dX25_holds_45 : decode cX25_holds 45 = .ok (.invokevirtual 20, 3) := dk_182 0 20 (dk_at dksX25_holds_1 21 rfl rfl)
theorem dX25_holds_48 : decode cX25_holds 48 = .ok (.ifCond .ne 15, 3) := dk_154 0 15 (dk_at dksX25_holds_2 0 rfl rfl)
theorem dX25_holds_51 : decode cX25_holds 51 = .ok (.aload_n 0, 1) := dk_42 (dk_at dksX25_holds_2 3 rfl rfl)
theorem dX25_holds_52 : decode cX25_holds 52 = .ok (.getfield 13, 3) := dk_180 0 13 (dk_at dksX25_holds_2 4 rfl rfl)
theorem dX25_holds_55 : decode cX25_holds 55 = .ok (.aload_n 1, 1) := dk_43 (dk_at dksX25_holds_2 7 rfl rfl)
theorem dX25_holds_56 : decode cX25_holds 56 = .ok (.iload_n 2, 1) := dk_28 (dk_at dksX25_holds_2 8 rfl rfl)
theorem dX25_holds_57 : decode cX25_holds 57 = .ok (.invokevirtual 20, 3) := dk_182 0 20 (dk_at dksX25_holds_2 9 rfl rfl)
theorem dX25_holds_60 : decode cX25_holds 60 = .ok (.ifCond .eq 7, 3) := dk_153 0 7 (dk_at dksX25_holds_2 12 rfl rfl)
theorem dX25_holds_63 : decode cX25_holds 63 = .ok (.iconst 1, 1) := dk_4 (dk_at dksX25_holds_2 15 rfl rfl)
theorem dX25_holds_64 : decode cX25_holds 64 = .ok (.goto 4, 3) := dk_167 0 4 (dk_at dksX25_holds_2 16 rfl rfl)
theorem dX25_holds_67 : decode cX25_holds 67 = .ok (.iconst 0, 1) := dk_3 (dk_at dksX25_holds_2 19 rfl rfl)
theorem dX25_holds_68 : decode cX25_holds 68 = .ok (.ireturn, 1) := dk_172 (dk_at dksX25_holds_2 20 rfl rfl)
abbrev cX3_init : ByteArray := prog_11_method_1_code
def yX3_init : MethodName := ⟨RX3, "<init>", "()V"⟩
def dkwX3_init_2 : List UInt8 := [188, 10, 181, 0, 27, 177]
abbrev dktX3_init_2 : List UInt8 := dkwX3_init_2 ++ []
def dkwX3_init_1 : List UInt8 := [188, 10, 181, 0, 18, 42, 16, 49, 188, 10, 181, 0, 21, 42, 16, 35, 188, 10, 181, 0, 24, 42, 16, 35]
abbrev dktX3_init_1 : List UInt8 := dkwX3_init_1 ++ dktX3_init_2
def dkwX3_init_0 : List UInt8 := [42, 183, 0, 3, 42, 16, 7, 188, 10, 181, 0, 9, 42, 16, 7, 188, 10, 181, 0, 15, 42, 16, 7]
abbrev dktX3_init_0 : List UInt8 := dkwX3_init_0 ++ dktX3_init_1
theorem dksX3_init_0 : cX3_init.data.toList.drop 0 = dktX3_init_0 := by decide +kernel
theorem dksX3_init_1 : cX3_init.data.toList.drop 23 = dktX3_init_1 := dk_seg dksX3_init_0 23 rfl rfl
theorem dksX3_init_2 : cX3_init.data.toList.drop 47 = dktX3_init_2 := dk_seg dksX3_init_1 24 rfl rfl
theorem dX3_init_0 : decode cX3_init 0 = .ok (.aload_n 0, 1) := dk_42 (dk_at dksX3_init_0 0 rfl rfl)
theorem dX3_init_1 : decode cX3_init 1 = .ok (.invokespecial 3, 3) := dk_183 0 3 (dk_at dksX3_init_0 1 rfl rfl)
theorem dX3_init_4 : decode cX3_init 4 = .ok (.aload_n 0, 1) := dk_42 (dk_at dksX3_init_0 4 rfl rfl)
theorem dX3_init_5 : decode cX3_init 5 = .ok (.bipush 7, 2) := dk_16 7 (dk_at dksX3_init_0 5 rfl rfl)
theorem dX3_init_7 : decode cX3_init 7 = .ok (.newarray .int, 2) := dk_188_10 (dk_at dksX3_init_0 7 rfl rfl)
theorem dX3_init_9 : decode cX3_init 9 = .ok (.putfield 9, 3) := dk_181 0 9 (dk_at dksX3_init_0 9 rfl rfl)
theorem dX3_init_12 : decode cX3_init 12 = .ok (.aload_n 0, 1) := dk_42 (dk_at dksX3_init_0 12 rfl rfl)
theorem dX3_init_13 : decode cX3_init 13 = .ok (.bipush 7, 2) := dk_16 7 (dk_at dksX3_init_0 13 rfl rfl)
theorem dX3_init_15 : decode cX3_init 15 = .ok (.newarray .int, 2) := dk_188_10 (dk_at dksX3_init_0 15 rfl rfl)
theorem dX3_init_17 : decode cX3_init 17 = .ok (.putfield 15, 3) := dk_181 0 15 (dk_at dksX3_init_0 17 rfl rfl)
theorem dX3_init_20 : decode cX3_init 20 = .ok (.aload_n 0, 1) := dk_42 (dk_at dksX3_init_0 20 rfl rfl)
theorem dX3_init_21 : decode cX3_init 21 = .ok (.bipush 7, 2) := dk_16 7 (dk_at dksX3_init_0 21 rfl rfl)
theorem dX3_init_23 : decode cX3_init 23 = .ok (.newarray .int, 2) := dk_188_10 (dk_at dksX3_init_1 0 rfl rfl)
theorem dX3_init_25 : decode cX3_init 25 = .ok (.putfield 18, 3) := dk_181 0 18 (dk_at dksX3_init_1 2 rfl rfl)
theorem dX3_init_28 : decode cX3_init 28 = .ok (.aload_n 0, 1) := dk_42 (dk_at dksX3_init_1 5 rfl rfl)
theorem dX3_init_29 : decode cX3_init 29 = .ok (.bipush 49, 2) := dk_16 49 (dk_at dksX3_init_1 6 rfl rfl)
theorem dX3_init_31 : decode cX3_init 31 = .ok (.newarray .int, 2) := dk_188_10 (dk_at dksX3_init_1 8 rfl rfl)
theorem dX3_init_33 : decode cX3_init 33 = .ok (.putfield 21, 3) := dk_181 0 21 (dk_at dksX3_init_1 10 rfl rfl)
theorem dX3_init_36 : decode cX3_init 36 = .ok (.aload_n 0, 1) := dk_42 (dk_at dksX3_init_1 13 rfl rfl)
theorem dX3_init_37 : decode cX3_init 37 = .ok (.bipush 35, 2) := dk_16 35 (dk_at dksX3_init_1 14 rfl rfl)
theorem dX3_init_39 : decode cX3_init 39 = .ok (.newarray .int, 2) := dk_188_10 (dk_at dksX3_init_1 16 rfl rfl)
theorem dX3_init_41 : decode cX3_init 41 = .ok (.putfield 24, 3) := dk_181 0 24 (dk_at dksX3_init_1 18 rfl rfl)
theorem dX3_init_44 : decode cX3_init 44 = .ok (.aload_n 0, 1) := dk_42 (dk_at dksX3_init_1 21 rfl rfl)
theorem dX3_init_45 : decode cX3_init 45 = .ok (.bipush 35, 2) := dk_16 35 (dk_at dksX3_init_1 22 rfl rfl)
theorem dX3_init_47 : decode cX3_init 47 = .ok (.newarray .int, 2) := dk_188_10 (dk_at dksX3_init_2 0 rfl rfl)
theorem dX3_init_49 : decode cX3_init 49 = .ok (.putfield 27, 3) := dk_181 0 27 (dk_at dksX3_init_2 2 rfl rfl)
theorem dX3_init_52 : decode cX3_init 52 = .ok (.return_, 1) := dk_177 (dk_at dksX3_init_2 5 rfl rfl)
abbrev cX3_begin : ByteArray := prog_11_method_2_code
def yX3_begin : MethodName := ⟨RX3, "begin", "(LStrangerMarket$County;)LStrangerMarket$Market;"⟩
def dkwX3_begin_3 : List UInt8 := [132, 2, 1, 167, 255, 231, 42, 182, 0, 59, 42, 182, 0, 62, 42, 176]
abbrev dktX3_begin_3 : List UInt8 := dkwX3_begin_3 ++ []
def dkwX3_begin_2 : List UInt8 := [61, 28, 42, 182, 0, 47, 162, 0, 23, 42, 180, 0, 9, 28, 42, 28, 182, 0, 51, 180, 0, 55, 79]
abbrev dktX3_begin_2 : List UInt8 := dkwX3_begin_2 ++ dktX3_begin_3
def dkwX3_begin_1 : List UInt8 := [180, 0, 15, 3, 184, 0, 41, 42, 180, 0, 24, 3, 184, 0, 41, 42, 180, 0, 27, 3, 184, 0, 41, 3]
abbrev dktX3_begin_1 : List UInt8 := dkwX3_begin_1 ++ dktX3_begin_2
def dkwX3_begin_0 : List UInt8 := [42, 43, 181, 0, 30, 42, 3, 181, 0, 34, 42, 3, 181, 0, 38, 42, 180, 0, 9, 3, 184, 0, 41, 42]
abbrev dktX3_begin_0 : List UInt8 := dkwX3_begin_0 ++ dktX3_begin_1
theorem dksX3_begin_0 : cX3_begin.data.toList.drop 0 = dktX3_begin_0 := by decide +kernel
theorem dksX3_begin_1 : cX3_begin.data.toList.drop 24 = dktX3_begin_1 := dk_seg dksX3_begin_0 24 rfl rfl
theorem dksX3_begin_2 : cX3_begin.data.toList.drop 48 = dktX3_begin_2 := dk_seg dksX3_begin_1 24 rfl rfl
theorem dksX3_begin_3 : cX3_begin.data.toList.drop 71 = dktX3_begin_3 := dk_seg dksX3_begin_2 23 rfl rfl
theorem dX3_begin_0 : decode cX3_begin 0 = .ok (.aload_n 0, 1) := dk_42 (dk_at dksX3_begin_0 0 rfl rfl)
theorem dX3_begin_1 : decode cX3_begin 1 = .ok (.aload_n 1, 1) := dk_43 (dk_at dksX3_begin_0 1 rfl rfl)
theorem dX3_begin_2 : decode cX3_begin 2 = .ok (.putfield 30, 3) := dk_181 0 30 (dk_at dksX3_begin_0 2 rfl rfl)
theorem dX3_begin_5 : decode cX3_begin 5 = .ok (.aload_n 0, 1) := dk_42 (dk_at dksX3_begin_0 5 rfl rfl)
theorem dX3_begin_6 : decode cX3_begin 6 = .ok (.iconst 0, 1) := dk_3 (dk_at dksX3_begin_0 6 rfl rfl)
theorem dX3_begin_7 : decode cX3_begin 7 = .ok (.putfield 34, 3) := dk_181 0 34 (dk_at dksX3_begin_0 7 rfl rfl)
theorem dX3_begin_10 : decode cX3_begin 10 = .ok (.aload_n 0, 1) := dk_42 (dk_at dksX3_begin_0 10 rfl rfl)
theorem dX3_begin_11 : decode cX3_begin 11 = .ok (.iconst 0, 1) := dk_3 (dk_at dksX3_begin_0 11 rfl rfl)
theorem dX3_begin_12 : decode cX3_begin 12 = .ok (.putfield 38, 3) := dk_181 0 38 (dk_at dksX3_begin_0 12 rfl rfl)
theorem dX3_begin_15 : decode cX3_begin 15 = .ok (.aload_n 0, 1) := dk_42 (dk_at dksX3_begin_0 15 rfl rfl)
theorem dX3_begin_16 : decode cX3_begin 16 = .ok (.getfield 9, 3) := dk_180 0 9 (dk_at dksX3_begin_0 16 rfl rfl)
theorem dX3_begin_19 : decode cX3_begin 19 = .ok (.iconst 0, 1) := dk_3 (dk_at dksX3_begin_0 19 rfl rfl)
theorem dX3_begin_20 : decode cX3_begin 20 = .ok (.invokestatic 41, 3) := dk_184 0 41 (dk_at dksX3_begin_0 20 rfl rfl)
theorem dX3_begin_23 : decode cX3_begin 23 = .ok (.aload_n 0, 1) := dk_42 (dk_at dksX3_begin_0 23 rfl rfl)
theorem dX3_begin_24 : decode cX3_begin 24 = .ok (.getfield 15, 3) := dk_180 0 15 (dk_at dksX3_begin_1 0 rfl rfl)
theorem dX3_begin_27 : decode cX3_begin 27 = .ok (.iconst 0, 1) := dk_3 (dk_at dksX3_begin_1 3 rfl rfl)
theorem dX3_begin_28 : decode cX3_begin 28 = .ok (.invokestatic 41, 3) := dk_184 0 41 (dk_at dksX3_begin_1 4 rfl rfl)
theorem dX3_begin_31 : decode cX3_begin 31 = .ok (.aload_n 0, 1) := dk_42 (dk_at dksX3_begin_1 7 rfl rfl)
theorem dX3_begin_32 : decode cX3_begin 32 = .ok (.getfield 24, 3) := dk_180 0 24 (dk_at dksX3_begin_1 8 rfl rfl)
theorem dX3_begin_35 : decode cX3_begin 35 = .ok (.iconst 0, 1) := dk_3 (dk_at dksX3_begin_1 11 rfl rfl)
theorem dX3_begin_36 : decode cX3_begin 36 = .ok (.invokestatic 41, 3) := dk_184 0 41 (dk_at dksX3_begin_1 12 rfl rfl)
theorem dX3_begin_39 : decode cX3_begin 39 = .ok (.aload_n 0, 1) := dk_42 (dk_at dksX3_begin_1 15 rfl rfl)
theorem dX3_begin_40 : decode cX3_begin 40 = .ok (.getfield 27, 3) := dk_180 0 27 (dk_at dksX3_begin_1 16 rfl rfl)
theorem dX3_begin_43 : decode cX3_begin 43 = .ok (.iconst 0, 1) := dk_3 (dk_at dksX3_begin_1 19 rfl rfl)
theorem dX3_begin_44 : decode cX3_begin 44 = .ok (.invokestatic 41, 3) := dk_184 0 41 (dk_at dksX3_begin_1 20 rfl rfl)
theorem dX3_begin_47 : decode cX3_begin 47 = .ok (.iconst 0, 1) := dk_3 (dk_at dksX3_begin_1 23 rfl rfl)
theorem dX3_begin_48 : decode cX3_begin 48 = .ok (.istore_n 2, 1) := dk_61 (dk_at dksX3_begin_2 0 rfl rfl)
theorem dX3_begin_49 : decode cX3_begin 49 = .ok (.iload_n 2, 1) := dk_28 (dk_at dksX3_begin_2 1 rfl rfl)
theorem dX3_begin_50 : decode cX3_begin 50 = .ok (.aload_n 0, 1) := dk_42 (dk_at dksX3_begin_2 2 rfl rfl)
theorem dX3_begin_51 : decode cX3_begin 51 = .ok (.invokevirtual 47, 3) := dk_182 0 47 (dk_at dksX3_begin_2 3 rfl rfl)
theorem dX3_begin_54 : decode cX3_begin 54 = .ok (.if_icmp .ge 23, 3) := dk_162 0 23 (dk_at dksX3_begin_2 6 rfl rfl)
theorem dX3_begin_57 : decode cX3_begin 57 = .ok (.aload_n 0, 1) := dk_42 (dk_at dksX3_begin_2 9 rfl rfl)
theorem dX3_begin_58 : decode cX3_begin 58 = .ok (.getfield 9, 3) := dk_180 0 9 (dk_at dksX3_begin_2 10 rfl rfl)
theorem dX3_begin_61 : decode cX3_begin 61 = .ok (.iload_n 2, 1) := dk_28 (dk_at dksX3_begin_2 13 rfl rfl)
theorem dX3_begin_62 : decode cX3_begin 62 = .ok (.aload_n 0, 1) := dk_42 (dk_at dksX3_begin_2 14 rfl rfl)
theorem dX3_begin_63 : decode cX3_begin 63 = .ok (.iload_n 2, 1) := dk_28 (dk_at dksX3_begin_2 15 rfl rfl)
theorem dX3_begin_64 : decode cX3_begin 64 = .ok (.invokevirtual 51, 3) := dk_182 0 51 (dk_at dksX3_begin_2 16 rfl rfl)
theorem dX3_begin_67 : decode cX3_begin 67 = .ok (.getfield 55, 3) := dk_180 0 55 (dk_at dksX3_begin_2 19 rfl rfl)
theorem dX3_begin_70 : decode cX3_begin 70 = .ok (.iastore, 1) := dk_79 (dk_at dksX3_begin_2 22 rfl rfl)
theorem dX3_begin_71 : decode cX3_begin 71 = .ok (.iinc 2 1, 3) := dk_132 2 1 (dk_at dksX3_begin_3 0 rfl rfl)
theorem dX3_begin_74 : decode cX3_begin 74 = .ok (.goto (-25), 3) := dk_167 255 231 (dk_at dksX3_begin_3 3 rfl rfl)
theorem dX3_begin_77 : decode cX3_begin 77 = .ok (.aload_n 0, 1) := dk_42 (dk_at dksX3_begin_3 6 rfl rfl)
theorem dX3_begin_78 : decode cX3_begin 78 = .ok (.invokevirtual 59, 3) := dk_182 0 59 (dk_at dksX3_begin_3 7 rfl rfl)
theorem dX3_begin_81 : decode cX3_begin 81 = .ok (.aload_n 0, 1) := dk_42 (dk_at dksX3_begin_3 10 rfl rfl)
theorem dX3_begin_82 : decode cX3_begin 82 = .ok (.invokevirtual 62, 3) := dk_182 0 62 (dk_at dksX3_begin_3 11 rfl rfl)
theorem dX3_begin_85 : decode cX3_begin 85 = .ok (.aload_n 0, 1) := dk_42 (dk_at dksX3_begin_3 14 rfl rfl)
theorem dX3_begin_86 : decode cX3_begin 86 = .ok (.areturn, 1) := dk_176 (dk_at dksX3_begin_3 15 rfl rfl)
abbrev cX3_persons : ByteArray := prog_11_method_6_code
def yX3_persons : MethodName := ⟨RX3, "persons", "()I"⟩
def dkwX3_persons_0 : List UInt8 := [42, 180, 0, 30, 180, 0, 84, 182, 0, 89, 172]
abbrev dktX3_persons_0 : List UInt8 := dkwX3_persons_0 ++ []
theorem dksX3_persons_0 : cX3_persons.data.toList.drop 0 = dktX3_persons_0 := by decide +kernel
theorem dX3_persons_0 : decode cX3_persons 0 = .ok (.aload_n 0, 1) := dk_42 (dk_at dksX3_persons_0 0 rfl rfl)
theorem dX3_persons_1 : decode cX3_persons 1 = .ok (.getfield 30, 3) := dk_180 0 30 (dk_at dksX3_persons_0 1 rfl rfl)
theorem dX3_persons_4 : decode cX3_persons 4 = .ok (.getfield 84, 3) := dk_180 0 84 (dk_at dksX3_persons_0 4 rfl rfl)
theorem dX3_persons_7 : decode cX3_persons 7 = .ok (.invokevirtual 89, 3) := dk_182 0 89 (dk_at dksX3_persons_0 7 rfl rfl)
theorem dX3_persons_10 : decode cX3_persons 10 = .ok (.ireturn, 1) := dk_172 (dk_at dksX3_persons_0 10 rfl rfl)
abbrev cX3_person : ByteArray := prog_11_method_8_code
def yX3_person : MethodName := ⟨RX3, "person", "(I)LStrangerMarket$Person;"⟩
def dkwX3_person_0 : List UInt8 := [42, 180, 0, 30, 180, 0, 84, 27, 182, 0, 97, 192, 0, 56, 176]
abbrev dktX3_person_0 : List UInt8 := dkwX3_person_0 ++ []
theorem dksX3_person_0 : cX3_person.data.toList.drop 0 = dktX3_person_0 := by decide +kernel
theorem dX3_person_0 : decode cX3_person 0 = .ok (.aload_n 0, 1) := dk_42 (dk_at dksX3_person_0 0 rfl rfl)
theorem dX3_person_1 : decode cX3_person 1 = .ok (.getfield 30, 3) := dk_180 0 30 (dk_at dksX3_person_0 1 rfl rfl)
theorem dX3_person_4 : decode cX3_person 4 = .ok (.getfield 84, 3) := dk_180 0 84 (dk_at dksX3_person_0 4 rfl rfl)
theorem dX3_person_7 : decode cX3_person 7 = .ok (.iload_n 1, 1) := dk_27 (dk_at dksX3_person_0 7 rfl rfl)
theorem dX3_person_8 : decode cX3_person 8 = .ok (.invokevirtual 97, 3) := dk_182 0 97 (dk_at dksX3_person_0 8 rfl rfl)
theorem dX3_person_11 : decode cX3_person 11 = .ok (.checkcast 56, 3) := dk_192 0 56 (dk_at dksX3_person_0 11 rfl rfl)
theorem dX3_person_14 : decode cX3_person 14 = .ok (.areturn, 1) := dk_176 (dk_at dksX3_person_0 14 rfl rfl)
abbrev cX3_forget : ByteArray := prog_11_method_9_code
def yX3_forget : MethodName := ⟨RX3, "forget", "()V"⟩
def dkwX3_forget_0 : List UInt8 := [42, 180, 0, 18, 3, 184, 0, 41, 42, 180, 0, 21, 3, 184, 0, 41, 177]
abbrev dktX3_forget_0 : List UInt8 := dkwX3_forget_0 ++ []
theorem dksX3_forget_0 : cX3_forget.data.toList.drop 0 = dktX3_forget_0 := by decide +kernel
theorem dX3_forget_0 : decode cX3_forget 0 = .ok (.aload_n 0, 1) := dk_42 (dk_at dksX3_forget_0 0 rfl rfl)
theorem dX3_forget_1 : decode cX3_forget 1 = .ok (.getfield 18, 3) := dk_180 0 18 (dk_at dksX3_forget_0 1 rfl rfl)
theorem dX3_forget_4 : decode cX3_forget 4 = .ok (.iconst 0, 1) := dk_3 (dk_at dksX3_forget_0 4 rfl rfl)
theorem dX3_forget_5 : decode cX3_forget 5 = .ok (.invokestatic 41, 3) := dk_184 0 41 (dk_at dksX3_forget_0 5 rfl rfl)
theorem dX3_forget_8 : decode cX3_forget 8 = .ok (.aload_n 0, 1) := dk_42 (dk_at dksX3_forget_0 8 rfl rfl)
theorem dX3_forget_9 : decode cX3_forget 9 = .ok (.getfield 21, 3) := dk_180 0 21 (dk_at dksX3_forget_0 9 rfl rfl)
theorem dX3_forget_12 : decode cX3_forget 12 = .ok (.iconst 0, 1) := dk_3 (dk_at dksX3_forget_0 12 rfl rfl)
theorem dX3_forget_13 : decode cX3_forget 13 = .ok (.invokestatic 41, 3) := dk_184 0 41 (dk_at dksX3_forget_0 13 rfl rfl)
theorem dX3_forget_16 : decode cX3_forget 16 = .ok (.return_, 1) := dk_177 (dk_at dksX3_forget_0 16 rfl rfl)
abbrev cX3_open : ByteArray := prog_11_method_10_code
def yX3_open : MethodName := ⟨RX3, "open", "()V"⟩
def dkwX3_open_3 : List UInt8 := [132, 1, 1, 167, 255, 205, 177]
abbrev dktX3_open_3 : List UInt8 := dkwX3_open_3 ++ []
def dkwX3_open_2 : List UInt8 := [184, 0, 78, 42, 27, 182, 0, 51, 180, 0, 103, 3, 42, 180, 0, 27, 8, 27, 104, 8, 184, 0, 78]
abbrev dktX3_open_2 : List UInt8 := dkwX3_open_2 ++ dktX3_open_3
def dkwX3_open_1 : List UInt8 := [42, 182, 0, 47, 162, 0, 49, 42, 27, 182, 0, 51, 180, 0, 102, 3, 42, 180, 0, 24, 8, 27, 104, 8]
abbrev dktX3_open_1 : List UInt8 := dkwX3_open_1 ++ dktX3_open_2
def dkwX3_open_0 : List UInt8 := [42, 3, 181, 0, 68, 42, 3, 181, 0, 71, 42, 42, 180, 0, 30, 180, 0, 101, 181, 0, 65, 3, 60, 27]
abbrev dktX3_open_0 : List UInt8 := dkwX3_open_0 ++ dktX3_open_1
theorem dksX3_open_0 : cX3_open.data.toList.drop 0 = dktX3_open_0 := by decide +kernel
theorem dksX3_open_1 : cX3_open.data.toList.drop 24 = dktX3_open_1 := dk_seg dksX3_open_0 24 rfl rfl
theorem dksX3_open_2 : cX3_open.data.toList.drop 48 = dktX3_open_2 := dk_seg dksX3_open_1 24 rfl rfl
theorem dksX3_open_3 : cX3_open.data.toList.drop 71 = dktX3_open_3 := dk_seg dksX3_open_2 23 rfl rfl
theorem dX3_open_0 : decode cX3_open 0 = .ok (.aload_n 0, 1) := dk_42 (dk_at dksX3_open_0 0 rfl rfl)
theorem dX3_open_1 : decode cX3_open 1 = .ok (.iconst 0, 1) := dk_3 (dk_at dksX3_open_0 1 rfl rfl)
theorem dX3_open_2 : decode cX3_open 2 = .ok (.putfield 68, 3) := dk_181 0 68 (dk_at dksX3_open_0 2 rfl rfl)
theorem dX3_open_5 : decode cX3_open 5 = .ok (.aload_n 0, 1) := dk_42 (dk_at dksX3_open_0 5 rfl rfl)
theorem dX3_open_6 : decode cX3_open 6 = .ok (.iconst 0, 1) := dk_3 (dk_at dksX3_open_0 6 rfl rfl)
theorem dX3_open_7 : decode cX3_open 7 = .ok (.putfield 71, 3) := dk_181 0 71 (dk_at dksX3_open_0 7 rfl rfl)
theorem dX3_open_10 : decode cX3_open 10 = .ok (.aload_n 0, 1) := dk_42 (dk_at dksX3_open_0 10 rfl rfl)
theorem dX3_open_11 : decode cX3_open 11 = .ok (.aload_n 0, 1) := dk_42 (dk_at dksX3_open_0 11 rfl rfl)
theorem dX3_open_12 : decode cX3_open 12 = .ok (.getfield 30, 3) := dk_180 0 30 (dk_at dksX3_open_0 12 rfl rfl)
theorem dX3_open_15 : decode cX3_open 15 = .ok (.getfield 101, 3) := dk_180 0 101 (dk_at dksX3_open_0 15 rfl rfl)
theorem dX3_open_18 : decode cX3_open 18 = .ok (.putfield 65, 3) := dk_181 0 65 (dk_at dksX3_open_0 18 rfl rfl)
theorem dX3_open_21 : decode cX3_open 21 = .ok (.iconst 0, 1) := dk_3 (dk_at dksX3_open_0 21 rfl rfl)
theorem dX3_open_22 : decode cX3_open 22 = .ok (.istore_n 1, 1) := dk_60 (dk_at dksX3_open_0 22 rfl rfl)
theorem dX3_open_23 : decode cX3_open 23 = .ok (.iload_n 1, 1) := dk_27 (dk_at dksX3_open_0 23 rfl rfl)
theorem dX3_open_24 : decode cX3_open 24 = .ok (.aload_n 0, 1) := dk_42 (dk_at dksX3_open_1 0 rfl rfl)
theorem dX3_open_25 : decode cX3_open 25 = .ok (.invokevirtual 47, 3) := dk_182 0 47 (dk_at dksX3_open_1 1 rfl rfl)
theorem dX3_open_28 : decode cX3_open 28 = .ok (.if_icmp .ge 49, 3) := dk_162 0 49 (dk_at dksX3_open_1 4 rfl rfl)
theorem dX3_open_31 : decode cX3_open 31 = .ok (.aload_n 0, 1) := dk_42 (dk_at dksX3_open_1 7 rfl rfl)
theorem dX3_open_32 : decode cX3_open 32 = .ok (.iload_n 1, 1) := dk_27 (dk_at dksX3_open_1 8 rfl rfl)
theorem dX3_open_33 : decode cX3_open 33 = .ok (.invokevirtual 51, 3) := dk_182 0 51 (dk_at dksX3_open_1 9 rfl rfl)
theorem dX3_open_36 : decode cX3_open 36 = .ok (.getfield 102, 3) := dk_180 0 102 (dk_at dksX3_open_1 12 rfl rfl)
theorem dX3_open_39 : decode cX3_open 39 = .ok (.iconst 0, 1) := dk_3 (dk_at dksX3_open_1 15 rfl rfl)
theorem dX3_open_40 : decode cX3_open 40 = .ok (.aload_n 0, 1) := dk_42 (dk_at dksX3_open_1 16 rfl rfl)
theorem dX3_open_41 : decode cX3_open 41 = .ok (.getfield 24, 3) := dk_180 0 24 (dk_at dksX3_open_1 17 rfl rfl)
theorem dX3_open_44 : decode cX3_open 44 = .ok (.iconst 5, 1) := dk_8 (dk_at dksX3_open_1 20 rfl rfl)
theorem dX3_open_45 : decode cX3_open 45 = .ok (.iload_n 1, 1) := dk_27 (dk_at dksX3_open_1 21 rfl rfl)
theorem dX3_open_46 : decode cX3_open 46 = .ok (.imul, 1) := dk_104 (dk_at dksX3_open_1 22 rfl rfl)
theorem dX3_open_47 : decode cX3_open 47 = .ok (.iconst 5, 1) := dk_8 (dk_at dksX3_open_1 23 rfl rfl)
theorem dX3_open_48 : decode cX3_open 48 = .ok (.invokestatic 78, 3) := dk_184 0 78 (dk_at dksX3_open_2 0 rfl rfl)
theorem dX3_open_51 : decode cX3_open 51 = .ok (.aload_n 0, 1) := dk_42 (dk_at dksX3_open_2 3 rfl rfl)
theorem dX3_open_52 : decode cX3_open 52 = .ok (.iload_n 1, 1) := dk_27 (dk_at dksX3_open_2 4 rfl rfl)
theorem dX3_open_53 : decode cX3_open 53 = .ok (.invokevirtual 51, 3) := dk_182 0 51 (dk_at dksX3_open_2 5 rfl rfl)
theorem dX3_open_56 : decode cX3_open 56 = .ok (.getfield 103, 3) := dk_180 0 103 (dk_at dksX3_open_2 8 rfl rfl)
theorem dX3_open_59 : decode cX3_open 59 = .ok (.iconst 0, 1) := dk_3 (dk_at dksX3_open_2 11 rfl rfl)
theorem dX3_open_60 : decode cX3_open 60 = .ok (.aload_n 0, 1) := dk_42 (dk_at dksX3_open_2 12 rfl rfl)
theorem dX3_open_61 : decode cX3_open 61 = .ok (.getfield 27, 3) := dk_180 0 27 (dk_at dksX3_open_2 13 rfl rfl)
theorem dX3_open_64 : decode cX3_open 64 = .ok (.iconst 5, 1) := dk_8 (dk_at dksX3_open_2 16 rfl rfl)
theorem dX3_open_65 : decode cX3_open 65 = .ok (.iload_n 1, 1) := dk_27 (dk_at dksX3_open_2 17 rfl rfl)
theorem dX3_open_66 : decode cX3_open 66 = .ok (.imul, 1) := dk_104 (dk_at dksX3_open_2 18 rfl rfl)
theorem dX3_open_67 : decode cX3_open 67 = .ok (.iconst 5, 1) := dk_8 (dk_at dksX3_open_2 19 rfl rfl)
theorem dX3_open_68 : decode cX3_open 68 = .ok (.invokestatic 78, 3) := dk_184 0 78 (dk_at dksX3_open_2 20 rfl rfl)
theorem dX3_open_71 : decode cX3_open 71 = .ok (.iinc 1 1, 3) := dk_132 1 1 (dk_at dksX3_open_3 0 rfl rfl)
theorem dX3_open_74 : decode cX3_open 74 = .ok (.goto (-51), 3) := dk_167 255 205 (dk_at dksX3_open_3 3 rfl rfl)
theorem dX3_open_77 : decode cX3_open 77 = .ok (.return_, 1) := dk_177 (dk_at dksX3_open_3 6 rfl rfl)
abbrev cX3_wanted : ByteArray := prog_11_method_19_code
def yX3_wanted : MethodName := ⟨RX3, "wanted", "(I)I"⟩
def dkwX3_wanted_0 : List UInt8 := [42, 42, 180, 0, 27, 27, 182, 0, 127, 172]
abbrev dktX3_wanted_0 : List UInt8 := dkwX3_wanted_0 ++ []
theorem dksX3_wanted_0 : cX3_wanted.data.toList.drop 0 = dktX3_wanted_0 := by decide +kernel
theorem dX3_wanted_0 : decode cX3_wanted 0 = .ok (.aload_n 0, 1) := dk_42 (dk_at dksX3_wanted_0 0 rfl rfl)
theorem dX3_wanted_1 : decode cX3_wanted 1 = .ok (.aload_n 0, 1) := dk_42 (dk_at dksX3_wanted_0 1 rfl rfl)
theorem dX3_wanted_2 : decode cX3_wanted 2 = .ok (.getfield 27, 3) := dk_180 0 27 (dk_at dksX3_wanted_0 2 rfl rfl)
theorem dX3_wanted_5 : decode cX3_wanted 5 = .ok (.iload_n 1, 1) := dk_27 (dk_at dksX3_wanted_0 5 rfl rfl)
theorem dX3_wanted_6 : decode cX3_wanted 6 = .ok (.invokevirtual 127, 3) := dk_182 0 127 (dk_at dksX3_wanted_0 6 rfl rfl)
theorem dX3_wanted_9 : decode cX3_wanted 9 = .ok (.ireturn, 1) := dk_172 (dk_at dksX3_wanted_0 9 rfl rfl)
abbrev cX3_sum : ByteArray := prog_11_method_18_code
def yX3_sum : MethodName := ⟨RX3, "sum", "([II)I"⟩
def dkwX3_sum_1 : List UInt8 := [132, 4, 1, 167, 255, 236, 29, 172]
abbrev dktX3_sum_1 : List UInt8 := dkwX3_sum_1 ++ []
def dkwX3_sum_0 : List UInt8 := [3, 62, 3, 54, 4, 21, 4, 8, 162, 0, 20, 29, 43, 8, 28, 104, 21, 4, 96, 46, 96, 62]
abbrev dktX3_sum_0 : List UInt8 := dkwX3_sum_0 ++ dktX3_sum_1
theorem dksX3_sum_0 : cX3_sum.data.toList.drop 0 = dktX3_sum_0 := by decide +kernel
theorem dksX3_sum_1 : cX3_sum.data.toList.drop 22 = dktX3_sum_1 := dk_seg dksX3_sum_0 22 rfl rfl
theorem dX3_sum_0 : decode cX3_sum 0 = .ok (.iconst 0, 1) := dk_3 (dk_at dksX3_sum_0 0 rfl rfl)
theorem dX3_sum_1 : decode cX3_sum 1 = .ok (.istore_n 3, 1) := dk_62 (dk_at dksX3_sum_0 1 rfl rfl)
theorem dX3_sum_2 : decode cX3_sum 2 = .ok (.iconst 0, 1) := dk_3 (dk_at dksX3_sum_0 2 rfl rfl)
theorem dX3_sum_3 : decode cX3_sum 3 = .ok (.istore 4, 2) := dk_54 4 (dk_at dksX3_sum_0 3 rfl rfl)
theorem dX3_sum_5 : decode cX3_sum 5 = .ok (.iload 4, 2) := dk_21 4 (dk_at dksX3_sum_0 5 rfl rfl)
theorem dX3_sum_7 : decode cX3_sum 7 = .ok (.iconst 5, 1) := dk_8 (dk_at dksX3_sum_0 7 rfl rfl)
theorem dX3_sum_8 : decode cX3_sum 8 = .ok (.if_icmp .ge 20, 3) := dk_162 0 20 (dk_at dksX3_sum_0 8 rfl rfl)
theorem dX3_sum_11 : decode cX3_sum 11 = .ok (.iload_n 3, 1) := dk_29 (dk_at dksX3_sum_0 11 rfl rfl)
theorem dX3_sum_12 : decode cX3_sum 12 = .ok (.aload_n 1, 1) := dk_43 (dk_at dksX3_sum_0 12 rfl rfl)
theorem dX3_sum_13 : decode cX3_sum 13 = .ok (.iconst 5, 1) := dk_8 (dk_at dksX3_sum_0 13 rfl rfl)
theorem dX3_sum_14 : decode cX3_sum 14 = .ok (.iload_n 2, 1) := dk_28 (dk_at dksX3_sum_0 14 rfl rfl)
theorem dX3_sum_15 : decode cX3_sum 15 = .ok (.imul, 1) := dk_104 (dk_at dksX3_sum_0 15 rfl rfl)
theorem dX3_sum_16 : decode cX3_sum 16 = .ok (.iload 4, 2) := dk_21 4 (dk_at dksX3_sum_0 16 rfl rfl)
theorem dX3_sum_18 : decode cX3_sum 18 = .ok (.iadd, 1) := dk_96 (dk_at dksX3_sum_0 18 rfl rfl)
theorem dX3_sum_19 : decode cX3_sum 19 = .ok (.iaload, 1) := dk_46 (dk_at dksX3_sum_0 19 rfl rfl)
theorem dX3_sum_20 : decode cX3_sum 20 = .ok (.iadd, 1) := dk_96 (dk_at dksX3_sum_0 20 rfl rfl)
theorem dX3_sum_21 : decode cX3_sum 21 = .ok (.istore_n 3, 1) := dk_62 (dk_at dksX3_sum_0 21 rfl rfl)
theorem dX3_sum_22 : decode cX3_sum 22 = .ok (.iinc 4 1, 3) := dk_132 4 1 (dk_at dksX3_sum_1 0 rfl rfl)
theorem dX3_sum_25 : decode cX3_sum 25 = .ok (.goto (-20), 3) := dk_167 255 236 (dk_at dksX3_sum_1 3 rfl rfl)
theorem dX3_sum_28 : decode cX3_sum 28 = .ok (.iload_n 3, 1) := dk_29 (dk_at dksX3_sum_1 6 rfl rfl)
theorem dX3_sum_29 : decode cX3_sum 29 = .ok (.ireturn, 1) := dk_172 (dk_at dksX3_sum_1 7 rfl rfl)
abbrev cX3_as : ByteArray := prog_11_method_3_code
def yX3_as : MethodName := ⟨RX3, "as", "(LStrangerMarket$Market;)LStrangerMarket$Market;"⟩
def dkwX3_as_4 : List UInt8 := [180, 0, 24, 42, 180, 0, 24, 184, 0, 74, 43, 180, 0, 27, 42, 180, 0, 27, 184, 0, 74, 42, 176]
abbrev dktX3_as_4 : List UInt8 := dkwX3_as_4 ++ []
def dkwX3_as_3 : List UInt8 := [180, 0, 18, 42, 180, 0, 18, 184, 0, 74, 43, 180, 0, 21, 42, 180, 0, 21, 184, 0, 74, 43]
abbrev dktX3_as_3 : List UInt8 := dkwX3_as_3 ++ dktX3_as_4
def dkwX3_as_2 : List UInt8 := [43, 180, 0, 9, 42, 180, 0, 9, 184, 0, 74, 43, 180, 0, 15, 42, 180, 0, 15, 184, 0, 74, 43]
abbrev dktX3_as_2 : List UInt8 := dkwX3_as_2 ++ dktX3_as_3
def dkwX3_as_1 : List UInt8 := [42, 43, 180, 0, 65, 181, 0, 65, 42, 43, 180, 0, 68, 181, 0, 68, 42, 43, 180, 0, 71, 181, 0, 71]
abbrev dktX3_as_1 : List UInt8 := dkwX3_as_1 ++ dktX3_as_2
def dkwX3_as_0 : List UInt8 := [42, 43, 180, 0, 30, 181, 0, 30, 42, 43, 180, 0, 34, 181, 0, 34, 42, 43, 180, 0, 38, 181, 0, 38]
abbrev dktX3_as_0 : List UInt8 := dkwX3_as_0 ++ dktX3_as_1
theorem dksX3_as_0 : cX3_as.data.toList.drop 0 = dktX3_as_0 := by decide +kernel
theorem dksX3_as_1 : cX3_as.data.toList.drop 24 = dktX3_as_1 := dk_seg dksX3_as_0 24 rfl rfl
theorem dksX3_as_2 : cX3_as.data.toList.drop 48 = dktX3_as_2 := dk_seg dksX3_as_1 24 rfl rfl
theorem dksX3_as_3 : cX3_as.data.toList.drop 71 = dktX3_as_3 := dk_seg dksX3_as_2 23 rfl rfl
theorem dksX3_as_4 : cX3_as.data.toList.drop 93 = dktX3_as_4 := dk_seg dksX3_as_3 22 rfl rfl
theorem dX3_as_0 : decode cX3_as 0 = .ok (.aload_n 0, 1) := dk_42 (dk_at dksX3_as_0 0 rfl rfl)
theorem dX3_as_1 : decode cX3_as 1 = .ok (.aload_n 1, 1) := dk_43 (dk_at dksX3_as_0 1 rfl rfl)
theorem dX3_as_2 : decode cX3_as 2 = .ok (.getfield 30, 3) := dk_180 0 30 (dk_at dksX3_as_0 2 rfl rfl)
theorem dX3_as_5 : decode cX3_as 5 = .ok (.putfield 30, 3) := dk_181 0 30 (dk_at dksX3_as_0 5 rfl rfl)
theorem dX3_as_8 : decode cX3_as 8 = .ok (.aload_n 0, 1) := dk_42 (dk_at dksX3_as_0 8 rfl rfl)
theorem dX3_as_9 : decode cX3_as 9 = .ok (.aload_n 1, 1) := dk_43 (dk_at dksX3_as_0 9 rfl rfl)
theorem dX3_as_10 : decode cX3_as 10 = .ok (.getfield 34, 3) := dk_180 0 34 (dk_at dksX3_as_0 10 rfl rfl)
theorem dX3_as_13 : decode cX3_as 13 = .ok (.putfield 34, 3) := dk_181 0 34 (dk_at dksX3_as_0 13 rfl rfl)
theorem dX3_as_16 : decode cX3_as 16 = .ok (.aload_n 0, 1) := dk_42 (dk_at dksX3_as_0 16 rfl rfl)
theorem dX3_as_17 : decode cX3_as 17 = .ok (.aload_n 1, 1) := dk_43 (dk_at dksX3_as_0 17 rfl rfl)
theorem dX3_as_18 : decode cX3_as 18 = .ok (.getfield 38, 3) := dk_180 0 38 (dk_at dksX3_as_0 18 rfl rfl)
theorem dX3_as_21 : decode cX3_as 21 = .ok (.putfield 38, 3) := dk_181 0 38 (dk_at dksX3_as_0 21 rfl rfl)
theorem dX3_as_24 : decode cX3_as 24 = .ok (.aload_n 0, 1) := dk_42 (dk_at dksX3_as_1 0 rfl rfl)
theorem dX3_as_25 : decode cX3_as 25 = .ok (.aload_n 1, 1) := dk_43 (dk_at dksX3_as_1 1 rfl rfl)
theorem dX3_as_26 : decode cX3_as 26 = .ok (.getfield 65, 3) := dk_180 0 65 (dk_at dksX3_as_1 2 rfl rfl)
theorem dX3_as_29 : decode cX3_as 29 = .ok (.putfield 65, 3) := dk_181 0 65 (dk_at dksX3_as_1 5 rfl rfl)
theorem dX3_as_32 : decode cX3_as 32 = .ok (.aload_n 0, 1) := dk_42 (dk_at dksX3_as_1 8 rfl rfl)
theorem dX3_as_33 : decode cX3_as 33 = .ok (.aload_n 1, 1) := dk_43 (dk_at dksX3_as_1 9 rfl rfl)
theorem dX3_as_34 : decode cX3_as 34 = .ok (.getfield 68, 3) := dk_180 0 68 (dk_at dksX3_as_1 10 rfl rfl)
theorem dX3_as_37 : decode cX3_as 37 = .ok (.putfield 68, 3) := dk_181 0 68 (dk_at dksX3_as_1 13 rfl rfl)
theorem dX3_as_40 : decode cX3_as 40 = .ok (.aload_n 0, 1) := dk_42 (dk_at dksX3_as_1 16 rfl rfl)
theorem dX3_as_41 : decode cX3_as 41 = .ok (.aload_n 1, 1) := dk_43 (dk_at dksX3_as_1 17 rfl rfl)
theorem dX3_as_42 : decode cX3_as 42 = .ok (.getfield 71, 3) := dk_180 0 71 (dk_at dksX3_as_1 18 rfl rfl)
theorem dX3_as_45 : decode cX3_as 45 = .ok (.putfield 71, 3) := dk_181 0 71 (dk_at dksX3_as_1 21 rfl rfl)
theorem dX3_as_48 : decode cX3_as 48 = .ok (.aload_n 1, 1) := dk_43 (dk_at dksX3_as_2 0 rfl rfl)
theorem dX3_as_49 : decode cX3_as 49 = .ok (.getfield 9, 3) := dk_180 0 9 (dk_at dksX3_as_2 1 rfl rfl)
theorem dX3_as_52 : decode cX3_as 52 = .ok (.aload_n 0, 1) := dk_42 (dk_at dksX3_as_2 4 rfl rfl)
theorem dX3_as_53 : decode cX3_as 53 = .ok (.getfield 9, 3) := dk_180 0 9 (dk_at dksX3_as_2 5 rfl rfl)
theorem dX3_as_56 : decode cX3_as 56 = .ok (.invokestatic 74, 3) := dk_184 0 74 (dk_at dksX3_as_2 8 rfl rfl)
theorem dX3_as_59 : decode cX3_as 59 = .ok (.aload_n 1, 1) := dk_43 (dk_at dksX3_as_2 11 rfl rfl)
theorem dX3_as_60 : decode cX3_as 60 = .ok (.getfield 15, 3) := dk_180 0 15 (dk_at dksX3_as_2 12 rfl rfl)
theorem dX3_as_63 : decode cX3_as 63 = .ok (.aload_n 0, 1) := dk_42 (dk_at dksX3_as_2 15 rfl rfl)
theorem dX3_as_64 : decode cX3_as 64 = .ok (.getfield 15, 3) := dk_180 0 15 (dk_at dksX3_as_2 16 rfl rfl)
theorem dX3_as_67 : decode cX3_as 67 = .ok (.invokestatic 74, 3) := dk_184 0 74 (dk_at dksX3_as_2 19 rfl rfl)
theorem dX3_as_70 : decode cX3_as 70 = .ok (.aload_n 1, 1) := dk_43 (dk_at dksX3_as_2 22 rfl rfl)
theorem dX3_as_71 : decode cX3_as 71 = .ok (.getfield 18, 3) := dk_180 0 18 (dk_at dksX3_as_3 0 rfl rfl)
theorem dX3_as_74 : decode cX3_as 74 = .ok (.aload_n 0, 1) := dk_42 (dk_at dksX3_as_3 3 rfl rfl)
theorem dX3_as_75 : decode cX3_as 75 = .ok (.getfield 18, 3) := dk_180 0 18 (dk_at dksX3_as_3 4 rfl rfl)
theorem dX3_as_78 : decode cX3_as 78 = .ok (.invokestatic 74, 3) := dk_184 0 74 (dk_at dksX3_as_3 7 rfl rfl)
theorem dX3_as_81 : decode cX3_as 81 = .ok (.aload_n 1, 1) := dk_43 (dk_at dksX3_as_3 10 rfl rfl)
theorem dX3_as_82 : decode cX3_as 82 = .ok (.getfield 21, 3) := dk_180 0 21 (dk_at dksX3_as_3 11 rfl rfl)
theorem dX3_as_85 : decode cX3_as 85 = .ok (.aload_n 0, 1) := dk_42 (dk_at dksX3_as_3 14 rfl rfl)
theorem dX3_as_86 : decode cX3_as 86 = .ok (.getfield 21, 3) := dk_180 0 21 (dk_at dksX3_as_3 15 rfl rfl)
theorem dX3_as_89 : decode cX3_as 89 = .ok (.invokestatic 74, 3) := dk_184 0 74 (dk_at dksX3_as_3 18 rfl rfl)
theorem dX3_as_92 : decode cX3_as 92 = .ok (.aload_n 1, 1) := dk_43 (dk_at dksX3_as_3 21 rfl rfl)
theorem dX3_as_93 : decode cX3_as 93 = .ok (.getfield 24, 3) := dk_180 0 24 (dk_at dksX3_as_4 0 rfl rfl)
theorem dX3_as_96 : decode cX3_as 96 = .ok (.aload_n 0, 1) := dk_42 (dk_at dksX3_as_4 3 rfl rfl)
theorem dX3_as_97 : decode cX3_as 97 = .ok (.getfield 24, 3) := dk_180 0 24 (dk_at dksX3_as_4 4 rfl rfl)
theorem dX3_as_100 : decode cX3_as 100 = .ok (.invokestatic 74, 3) := dk_184 0 74 (dk_at dksX3_as_4 7 rfl rfl)
theorem dX3_as_103 : decode cX3_as 103 = .ok (.aload_n 1, 1) := dk_43 (dk_at dksX3_as_4 10 rfl rfl)
theorem dX3_as_104 : decode cX3_as 104 = .ok (.getfield 27, 3) := dk_180 0 27 (dk_at dksX3_as_4 11 rfl rfl)
theorem dX3_as_107 : decode cX3_as 107 = .ok (.aload_n 0, 1) := dk_42 (dk_at dksX3_as_4 14 rfl rfl)
theorem dX3_as_108 : decode cX3_as 108 = .ok (.getfield 27, 3) := dk_180 0 27 (dk_at dksX3_as_4 15 rfl rfl)
theorem dX3_as_111 : decode cX3_as 111 = .ok (.invokestatic 74, 3) := dk_184 0 74 (dk_at dksX3_as_4 18 rfl rfl)
theorem dX3_as_114 : decode cX3_as 114 = .ok (.aload_n 0, 1) := dk_42 (dk_at dksX3_as_4 21 rfl rfl)
theorem dX3_as_115 : decode cX3_as 115 = .ok (.areturn, 1) := dk_176 (dk_at dksX3_as_4 22 rfl rfl)
abbrev cX3_copy : ByteArray := prog_11_method_4_code
def yX3_copy : MethodName := ⟨RX3, "copy", "([I[I)V"⟩
def dkwX3_copy_0 : List UInt8 := [42, 3, 43, 3, 43, 190, 184, 0, 78, 177]
abbrev dktX3_copy_0 : List UInt8 := dkwX3_copy_0 ++ []
theorem dksX3_copy_0 : cX3_copy.data.toList.drop 0 = dktX3_copy_0 := by decide +kernel
theorem dX3_copy_0 : decode cX3_copy 0 = .ok (.aload_n 0, 1) := dk_42 (dk_at dksX3_copy_0 0 rfl rfl)
theorem dX3_copy_1 : decode cX3_copy 1 = .ok (.iconst 0, 1) := dk_3 (dk_at dksX3_copy_0 1 rfl rfl)
theorem dX3_copy_2 : decode cX3_copy 2 = .ok (.aload_n 1, 1) := dk_43 (dk_at dksX3_copy_0 2 rfl rfl)
theorem dX3_copy_3 : decode cX3_copy 3 = .ok (.iconst 0, 1) := dk_3 (dk_at dksX3_copy_0 3 rfl rfl)
theorem dX3_copy_4 : decode cX3_copy 4 = .ok (.aload_n 1, 1) := dk_43 (dk_at dksX3_copy_0 4 rfl rfl)
theorem dX3_copy_5 : decode cX3_copy 5 = .ok (.arraylength, 1) := dk_190 (dk_at dksX3_copy_0 5 rfl rfl)
theorem dX3_copy_6 : decode cX3_copy 6 = .ok (.invokestatic 78, 3) := dk_184 0 78 (dk_at dksX3_copy_0 6 rfl rfl)
theorem dX3_copy_9 : decode cX3_copy 9 = .ok (.return_, 1) := dk_177 (dk_at dksX3_copy_0 9 rfl rfl)
abbrev cX3_whyBuy : ByteArray := prog_11_method_21_code
def yX3_whyBuy : MethodName := ⟨RX3, "whyBuy", "(III)I"⟩
def dkwX3_whyBuy_4 : List UInt8 := [180, 0, 27, 8, 27, 104, 28, 96, 46, 154, 0, 8, 16, 6, 167, 0, 4, 3, 172]
abbrev dktX3_whyBuy_4 : List UInt8 := dkwX3_whyBuy_4 ++ []
def dkwX3_whyBuy_3 : List UInt8 := [182, 0, 51, 180, 0, 138, 28, 46, 42, 180, 0, 9, 27, 46, 164, 0, 7, 8, 167, 0, 22, 42]
abbrev dktX3_whyBuy_3 : List UInt8 := dkwX3_whyBuy_3 ++ dktX3_whyBuy_4
def dkwX3_whyBuy_2 : List UInt8 := [154, 0, 5, 6, 172, 42, 180, 0, 24, 8, 29, 104, 28, 96, 46, 154, 0, 5, 7, 172, 42, 29]
abbrev dktX3_whyBuy_2 : List UInt8 := dkwX3_whyBuy_2 ++ dktX3_whyBuy_3
def dkwX3_whyBuy_1 : List UInt8 := [172, 42, 27, 29, 182, 0, 124, 154, 0, 21, 42, 27, 182, 0, 135, 154, 0, 13, 42, 29, 182, 0, 135]
abbrev dktX3_whyBuy_1 : List UInt8 := dkwX3_whyBuy_1 ++ dktX3_whyBuy_2
def dkwX3_whyBuy_0 : List UInt8 := [27, 29, 160, 0, 5, 4, 172, 42, 27, 182, 0, 131, 154, 0, 11, 42, 29, 182, 0, 131, 153, 0, 5, 5]
abbrev dktX3_whyBuy_0 : List UInt8 := dkwX3_whyBuy_0 ++ dktX3_whyBuy_1
theorem dksX3_whyBuy_0 : cX3_whyBuy.data.toList.drop 0 = dktX3_whyBuy_0 := by decide +kernel
theorem dksX3_whyBuy_1 : cX3_whyBuy.data.toList.drop 24 = dktX3_whyBuy_1 := dk_seg dksX3_whyBuy_0 24 rfl rfl
theorem dksX3_whyBuy_2 : cX3_whyBuy.data.toList.drop 47 = dktX3_whyBuy_2 := dk_seg dksX3_whyBuy_1 23 rfl rfl
theorem dksX3_whyBuy_3 : cX3_whyBuy.data.toList.drop 69 = dktX3_whyBuy_3 := dk_seg dksX3_whyBuy_2 22 rfl rfl
theorem dksX3_whyBuy_4 : cX3_whyBuy.data.toList.drop 91 = dktX3_whyBuy_4 := dk_seg dksX3_whyBuy_3 22 rfl rfl
theorem dX3_whyBuy_0 : decode cX3_whyBuy 0 = .ok (.iload_n 1, 1) := dk_27 (dk_at dksX3_whyBuy_0 0 rfl rfl)
theorem dX3_whyBuy_1 : decode cX3_whyBuy 1 = .ok (.iload_n 3, 1) := dk_29 (dk_at dksX3_whyBuy_0 1 rfl rfl)
theorem dX3_whyBuy_2 : decode cX3_whyBuy 2 = .ok (.if_icmp .ne 5, 3) := dk_160 0 5 (dk_at dksX3_whyBuy_0 2 rfl rfl)
theorem dX3_whyBuy_5 : decode cX3_whyBuy 5 = .ok (.iconst 1, 1) := dk_4 (dk_at dksX3_whyBuy_0 5 rfl rfl)
theorem dX3_whyBuy_6 : decode cX3_whyBuy 6 = .ok (.ireturn, 1) := dk_172 (dk_at dksX3_whyBuy_0 6 rfl rfl)
theorem dX3_whyBuy_7 : decode cX3_whyBuy 7 = .ok (.aload_n 0, 1) := dk_42 (dk_at dksX3_whyBuy_0 7 rfl rfl)
theorem dX3_whyBuy_8 : decode cX3_whyBuy 8 = .ok (.iload_n 1, 1) := dk_27 (dk_at dksX3_whyBuy_0 8 rfl rfl)
theorem dX3_whyBuy_9 : decode cX3_whyBuy 9 = .ok (.invokevirtual 131, 3) := dk_182 0 131 (dk_at dksX3_whyBuy_0 9 rfl rfl)
theorem dX3_whyBuy_12 : decode cX3_whyBuy 12 = .ok (.ifCond .ne 11, 3) := dk_154 0 11 (dk_at dksX3_whyBuy_0 12 rfl rfl)
theorem dX3_whyBuy_15 : decode cX3_whyBuy 15 = .ok (.aload_n 0, 1) := dk_42 (dk_at dksX3_whyBuy_0 15 rfl rfl)
theorem dX3_whyBuy_16 : decode cX3_whyBuy 16 = .ok (.iload_n 3, 1) := dk_29 (dk_at dksX3_whyBuy_0 16 rfl rfl)
theorem dX3_whyBuy_17 : decode cX3_whyBuy 17 = .ok (.invokevirtual 131, 3) := dk_182 0 131 (dk_at dksX3_whyBuy_0 17 rfl rfl)
theorem dX3_whyBuy_20 : decode cX3_whyBuy 20 = .ok (.ifCond .eq 5, 3) := dk_153 0 5 (dk_at dksX3_whyBuy_0 20 rfl rfl)
theorem dX3_whyBuy_23 : decode cX3_whyBuy 23 = .ok (.iconst 2, 1) := dk_5 (dk_at dksX3_whyBuy_0 23 rfl rfl)
theorem dX3_whyBuy_24 : decode cX3_whyBuy 24 = .ok (.ireturn, 1) := dk_172 (dk_at dksX3_whyBuy_1 0 rfl rfl)
theorem dX3_whyBuy_25 : decode cX3_whyBuy 25 = .ok (.aload_n 0, 1) := dk_42 (dk_at dksX3_whyBuy_1 1 rfl rfl)
theorem dX3_whyBuy_26 : decode cX3_whyBuy 26 = .ok (.iload_n 1, 1) := dk_27 (dk_at dksX3_whyBuy_1 2 rfl rfl)
theorem dX3_whyBuy_27 : decode cX3_whyBuy 27 = .ok (.iload_n 3, 1) := dk_29 (dk_at dksX3_whyBuy_1 3 rfl rfl)
theorem dX3_whyBuy_28 : decode cX3_whyBuy 28 = .ok (.invokevirtual 124, 3) := dk_182 0 124 (dk_at dksX3_whyBuy_1 4 rfl rfl)
theorem dX3_whyBuy_31 : decode cX3_whyBuy 31 = .ok (.ifCond .ne 21, 3) := dk_154 0 21 (dk_at dksX3_whyBuy_1 7 rfl rfl)
theorem dX3_whyBuy_34 : decode cX3_whyBuy 34 = .ok (.aload_n 0, 1) := dk_42 (dk_at dksX3_whyBuy_1 10 rfl rfl)
theorem dX3_whyBuy_35 : decode cX3_whyBuy 35 = .ok (.iload_n 1, 1) := dk_27 (dk_at dksX3_whyBuy_1 11 rfl rfl)
theorem dX3_whyBuy_36 : decode cX3_whyBuy 36 = .ok (.invokevirtual 135, 3) := dk_182 0 135 (dk_at dksX3_whyBuy_1 12 rfl rfl)
theorem dX3_whyBuy_39 : decode cX3_whyBuy 39 = .ok (.ifCond .ne 13, 3) := dk_154 0 13 (dk_at dksX3_whyBuy_1 15 rfl rfl)
theorem dX3_whyBuy_42 : decode cX3_whyBuy 42 = .ok (.aload_n 0, 1) := dk_42 (dk_at dksX3_whyBuy_1 18 rfl rfl)
theorem dX3_whyBuy_43 : decode cX3_whyBuy 43 = .ok (.iload_n 3, 1) := dk_29 (dk_at dksX3_whyBuy_1 19 rfl rfl)
theorem dX3_whyBuy_44 : decode cX3_whyBuy 44 = .ok (.invokevirtual 135, 3) := dk_182 0 135 (dk_at dksX3_whyBuy_1 20 rfl rfl)
theorem dX3_whyBuy_47 : decode cX3_whyBuy 47 = .ok (.ifCond .ne 5, 3) := dk_154 0 5 (dk_at dksX3_whyBuy_2 0 rfl rfl)
theorem dX3_whyBuy_50 : decode cX3_whyBuy 50 = .ok (.iconst 3, 1) := dk_6 (dk_at dksX3_whyBuy_2 3 rfl rfl)
theorem dX3_whyBuy_51 : decode cX3_whyBuy 51 = .ok (.ireturn, 1) := dk_172 (dk_at dksX3_whyBuy_2 4 rfl rfl)
theorem dX3_whyBuy_52 : decode cX3_whyBuy 52 = .ok (.aload_n 0, 1) := dk_42 (dk_at dksX3_whyBuy_2 5 rfl rfl)
theorem dX3_whyBuy_53 : decode cX3_whyBuy 53 = .ok (.getfield 24, 3) := dk_180 0 24 (dk_at dksX3_whyBuy_2 6 rfl rfl)
theorem dX3_whyBuy_56 : decode cX3_whyBuy 56 = .ok (.iconst 5, 1) := dk_8 (dk_at dksX3_whyBuy_2 9 rfl rfl)
theorem dX3_whyBuy_57 : decode cX3_whyBuy 57 = .ok (.iload_n 3, 1) := dk_29 (dk_at dksX3_whyBuy_2 10 rfl rfl)
theorem dX3_whyBuy_58 : decode cX3_whyBuy 58 = .ok (.imul, 1) := dk_104 (dk_at dksX3_whyBuy_2 11 rfl rfl)
theorem dX3_whyBuy_59 : decode cX3_whyBuy 59 = .ok (.iload_n 2, 1) := dk_28 (dk_at dksX3_whyBuy_2 12 rfl rfl)
theorem dX3_whyBuy_60 : decode cX3_whyBuy 60 = .ok (.iadd, 1) := dk_96 (dk_at dksX3_whyBuy_2 13 rfl rfl)
theorem dX3_whyBuy_61 : decode cX3_whyBuy 61 = .ok (.iaload, 1) := dk_46 (dk_at dksX3_whyBuy_2 14 rfl rfl)
theorem dX3_whyBuy_62 : decode cX3_whyBuy 62 = .ok (.ifCond .ne 5, 3) := dk_154 0 5 (dk_at dksX3_whyBuy_2 15 rfl rfl)
theorem dX3_whyBuy_65 : decode cX3_whyBuy 65 = .ok (.iconst 4, 1) := dk_7 (dk_at dksX3_whyBuy_2 18 rfl rfl)
theorem dX3_whyBuy_66 : decode cX3_whyBuy 66 = .ok (.ireturn, 1) := dk_172 (dk_at dksX3_whyBuy_2 19 rfl rfl)
theorem dX3_whyBuy_67 : decode cX3_whyBuy 67 = .ok (.aload_n 0, 1) := dk_42 (dk_at dksX3_whyBuy_2 20 rfl rfl)
theorem dX3_whyBuy_68 : decode cX3_whyBuy 68 = .ok (.iload_n 3, 1) := dk_29 (dk_at dksX3_whyBuy_2 21 rfl rfl)
theorem dX3_whyBuy_69 : decode cX3_whyBuy 69 = .ok (.invokevirtual 51, 3) := dk_182 0 51 (dk_at dksX3_whyBuy_3 0 rfl rfl)
theorem dX3_whyBuy_72 : decode cX3_whyBuy 72 = .ok (.getfield 138, 3) := dk_180 0 138 (dk_at dksX3_whyBuy_3 3 rfl rfl)
theorem dX3_whyBuy_75 : decode cX3_whyBuy 75 = .ok (.iload_n 2, 1) := dk_28 (dk_at dksX3_whyBuy_3 6 rfl rfl)
theorem dX3_whyBuy_76 : decode cX3_whyBuy 76 = .ok (.iaload, 1) := dk_46 (dk_at dksX3_whyBuy_3 7 rfl rfl)
theorem dX3_whyBuy_77 : decode cX3_whyBuy 77 = .ok (.aload_n 0, 1) := dk_42 (dk_at dksX3_whyBuy_3 8 rfl rfl)
theorem dX3_whyBuy_78 : decode cX3_whyBuy 78 = .ok (.getfield 9, 3) := dk_180 0 9 (dk_at dksX3_whyBuy_3 9 rfl rfl)
theorem dX3_whyBuy_81 : decode cX3_whyBuy 81 = .ok (.iload_n 1, 1) := dk_27 (dk_at dksX3_whyBuy_3 12 rfl rfl)
theorem dX3_whyBuy_82 : decode cX3_whyBuy 82 = .ok (.iaload, 1) := dk_46 (dk_at dksX3_whyBuy_3 13 rfl rfl)
theorem dX3_whyBuy_83 : decode cX3_whyBuy 83 = .ok (.if_icmp .le 7, 3) := dk_164 0 7 (dk_at dksX3_whyBuy_3 14 rfl rfl)
theorem dX3_whyBuy_86 : decode cX3_whyBuy 86 = .ok (.iconst 5, 1) := dk_8 (dk_at dksX3_whyBuy_3 17 rfl rfl)
theorem dX3_whyBuy_87 : decode cX3_whyBuy 87 = .ok (.goto 22, 3) := dk_167 0 22 (dk_at dksX3_whyBuy_3 18 rfl rfl)
theorem dX3_whyBuy_90 : decode cX3_whyBuy 90 = .ok (.aload_n 0, 1) := dk_42 (dk_at dksX3_whyBuy_3 21 rfl rfl)
theorem dX3_whyBuy_91 : decode cX3_whyBuy 91 = .ok (.getfield 27, 3) := dk_180 0 27 (dk_at dksX3_whyBuy_4 0 rfl rfl)
theorem dX3_whyBuy_94 : decode cX3_whyBuy 94 = .ok (.iconst 5, 1) := dk_8 (dk_at dksX3_whyBuy_4 3 rfl rfl)
theorem dX3_whyBuy_95 : decode cX3_whyBuy 95 = .ok (.iload_n 1, 1) := dk_27 (dk_at dksX3_whyBuy_4 4 rfl rfl)
theorem dX3_whyBuy_96 : decode cX3_whyBuy 96 = .ok (.imul, 1) := dk_104 (dk_at dksX3_whyBuy_4 5 rfl rfl)
theorem dX3_whyBuy_97 : decode cX3_whyBuy 97 = .ok (.iload_n 2, 1) := dk_28 (dk_at dksX3_whyBuy_4 6 rfl rfl)
theorem dX3_whyBuy_98 : decode cX3_whyBuy 98 = .ok (.iadd, 1) := dk_96 (dk_at dksX3_whyBuy_4 7 rfl rfl)
theorem dX3_whyBuy_99 : decode cX3_whyBuy 99 = .ok (.iaload, 1) := dk_46 (dk_at dksX3_whyBuy_4 8 rfl rfl)
theorem dX3_whyBuy_100 : decode cX3_whyBuy 100 = .ok (.ifCond .ne 8, 3) := dk_154 0 8 (dk_at dksX3_whyBuy_4 9 rfl rfl)
theorem dX3_whyBuy_103 : decode cX3_whyBuy 103 = .ok (.bipush 6, 2) := dk_16 6 (dk_at dksX3_whyBuy_4 12 rfl rfl)
theorem dX3_whyBuy_105 : decode cX3_whyBuy 105 = .ok (.goto 4, 3) := dk_167 0 4 (dk_at dksX3_whyBuy_4 14 rfl rfl)
theorem dX3_whyBuy_108 : decode cX3_whyBuy 108 = .ok (.iconst 0, 1) := dk_3 (dk_at dksX3_whyBuy_4 17 rfl rfl)
theorem dX3_whyBuy_109 : decode cX3_whyBuy 109 = .ok (.ireturn, 1) := dk_172 (dk_at dksX3_whyBuy_4 18 rfl rfl)
abbrev cX3_isHome : ByteArray := prog_11_method_16_code
def yX3_isHome : MethodName := ⟨RX3, "isHome", "(I)Z"⟩
def dkwX3_isHome_0 : List UInt8 := [42, 180, 0, 68, 27, 184, 0, 111, 172]
abbrev dktX3_isHome_0 : List UInt8 := dkwX3_isHome_0 ++ []
theorem dksX3_isHome_0 : cX3_isHome.data.toList.drop 0 = dktX3_isHome_0 := by decide +kernel
theorem dX3_isHome_0 : decode cX3_isHome 0 = .ok (.aload_n 0, 1) := dk_42 (dk_at dksX3_isHome_0 0 rfl rfl)
theorem dX3_isHome_1 : decode cX3_isHome 1 = .ok (.getfield 68, 3) := dk_180 0 68 (dk_at dksX3_isHome_0 1 rfl rfl)
theorem dX3_isHome_4 : decode cX3_isHome 4 = .ok (.iload_n 1, 1) := dk_27 (dk_at dksX3_isHome_0 4 rfl rfl)
theorem dX3_isHome_5 : decode cX3_isHome 5 = .ok (.invokestatic 111, 3) := dk_184 0 111 (dk_at dksX3_isHome_0 5 rfl rfl)
theorem dX3_isHome_8 : decode cX3_isHome 8 = .ok (.ireturn, 1) := dk_172 (dk_at dksX3_isHome_0 8 rfl rfl)
abbrev cX3_may : ByteArray := prog_11_method_14_code
def yX3_may : MethodName := ⟨RX3, "may", "(II)Z"⟩
def dkwX3_may_1 : List UInt8 := [167, 0, 4, 3, 172]
abbrev dktX3_may_1 : List UInt8 := dkwX3_may_1 ++ []
def dkwX3_may_0 : List UInt8 := [27, 28, 159, 0, 25, 42, 27, 28, 182, 0, 118, 153, 0, 12, 42, 27, 28, 182, 0, 121, 153, 0, 7, 4]
abbrev dktX3_may_0 : List UInt8 := dkwX3_may_0 ++ dktX3_may_1
theorem dksX3_may_0 : cX3_may.data.toList.drop 0 = dktX3_may_0 := by decide +kernel
theorem dksX3_may_1 : cX3_may.data.toList.drop 24 = dktX3_may_1 := dk_seg dksX3_may_0 24 rfl rfl
theorem dX3_may_0 : decode cX3_may 0 = .ok (.iload_n 1, 1) := dk_27 (dk_at dksX3_may_0 0 rfl rfl)
theorem dX3_may_1 : decode cX3_may 1 = .ok (.iload_n 2, 1) := dk_28 (dk_at dksX3_may_0 1 rfl rfl)
theorem dX3_may_2 : decode cX3_may 2 = .ok (.if_icmp .eq 25, 3) := dk_159 0 25 (dk_at dksX3_may_0 2 rfl rfl)
theorem dX3_may_5 : decode cX3_may 5 = .ok (.aload_n 0, 1) := dk_42 (dk_at dksX3_may_0 5 rfl rfl)
theorem dX3_may_6 : decode cX3_may 6 = .ok (.iload_n 1, 1) := dk_27 (dk_at dksX3_may_0 6 rfl rfl)
theorem dX3_may_7 : decode cX3_may 7 = .ok (.iload_n 2, 1) := dk_28 (dk_at dksX3_may_0 7 rfl rfl)
theorem dX3_may_8 : decode cX3_may 8 = .ok (.invokevirtual 118, 3) := dk_182 0 118 (dk_at dksX3_may_0 8 rfl rfl)
theorem dX3_may_11 : decode cX3_may 11 = .ok (.ifCond .eq 12, 3) := dk_153 0 12 (dk_at dksX3_may_0 11 rfl rfl)
theorem dX3_may_14 : decode cX3_may 14 = .ok (.aload_n 0, 1) := dk_42 (dk_at dksX3_may_0 14 rfl rfl)
theorem dX3_may_15 : decode cX3_may 15 = .ok (.iload_n 1, 1) := dk_27 (dk_at dksX3_may_0 15 rfl rfl)
theorem dX3_may_16 : decode cX3_may 16 = .ok (.iload_n 2, 1) := dk_28 (dk_at dksX3_may_0 16 rfl rfl)
theorem dX3_may_17 : decode cX3_may 17 = .ok (.invokevirtual 121, 3) := dk_182 0 121 (dk_at dksX3_may_0 17 rfl rfl)
theorem dX3_may_20 : decode cX3_may 20 = .ok (.ifCond .eq 7, 3) := dk_153 0 7 (dk_at dksX3_may_0 20 rfl rfl)
theorem dX3_may_23 : decode cX3_may 23 = .ok (.iconst 1, 1) := dk_4 (dk_at dksX3_may_0 23 rfl rfl)
theorem dX3_may_24 : decode cX3_may 24 = .ok (.goto 4, 3) := dk_167 0 4 (dk_at dksX3_may_1 0 rfl rfl)
theorem dX3_may_27 : decode cX3_may 27 = .ok (.iconst 0, 1) := dk_3 (dk_at dksX3_may_1 3 rfl rfl)
theorem dX3_may_28 : decode cX3_may 28 = .ok (.ireturn, 1) := dk_172 (dk_at dksX3_may_1 4 rfl rfl)
abbrev cX3_know : ByteArray := prog_11_method_12_code
def yX3_know : MethodName := ⟨RX3, "know", "(II)Z"⟩
def dkwX3_know_0 : List UInt8 := [42, 27, 182, 0, 107, 28, 184, 0, 111, 172]
abbrev dktX3_know_0 : List UInt8 := dkwX3_know_0 ++ []
theorem dksX3_know_0 : cX3_know.data.toList.drop 0 = dktX3_know_0 := by decide +kernel
theorem dX3_know_0 : decode cX3_know 0 = .ok (.aload_n 0, 1) := dk_42 (dk_at dksX3_know_0 0 rfl rfl)
theorem dX3_know_1 : decode cX3_know 1 = .ok (.iload_n 1, 1) := dk_27 (dk_at dksX3_know_0 1 rfl rfl)
theorem dX3_know_2 : decode cX3_know 2 = .ok (.invokevirtual 107, 3) := dk_182 0 107 (dk_at dksX3_know_0 2 rfl rfl)
theorem dX3_know_5 : decode cX3_know 5 = .ok (.iload_n 2, 1) := dk_28 (dk_at dksX3_know_0 5 rfl rfl)
theorem dX3_know_6 : decode cX3_know 6 = .ok (.invokestatic 111, 3) := dk_184 0 111 (dk_at dksX3_know_0 6 rfl rfl)
theorem dX3_know_9 : decode cX3_know 9 = .ok (.ireturn, 1) := dk_172 (dk_at dksX3_know_0 9 rfl rfl)
abbrev cX3_known : ByteArray := prog_11_method_11_code
def yX3_known : MethodName := ⟨RX3, "known", "(I)I"⟩
def dkwX3_known_0 : List UInt8 := [42, 27, 182, 0, 51, 180, 0, 104, 42, 180, 0, 18, 27, 46, 128, 172]
abbrev dktX3_known_0 : List UInt8 := dkwX3_known_0 ++ []
theorem dksX3_known_0 : cX3_known.data.toList.drop 0 = dktX3_known_0 := by decide +kernel
theorem dX3_known_0 : decode cX3_known 0 = .ok (.aload_n 0, 1) := dk_42 (dk_at dksX3_known_0 0 rfl rfl)
theorem dX3_known_1 : decode cX3_known 1 = .ok (.iload_n 1, 1) := dk_27 (dk_at dksX3_known_0 1 rfl rfl)
theorem dX3_known_2 : decode cX3_known 2 = .ok (.invokevirtual 51, 3) := dk_182 0 51 (dk_at dksX3_known_0 2 rfl rfl)
theorem dX3_known_5 : decode cX3_known 5 = .ok (.getfield 104, 3) := dk_180 0 104 (dk_at dksX3_known_0 5 rfl rfl)
theorem dX3_known_8 : decode cX3_known 8 = .ok (.aload_n 0, 1) := dk_42 (dk_at dksX3_known_0 8 rfl rfl)
theorem dX3_known_9 : decode cX3_known 9 = .ok (.getfield 18, 3) := dk_180 0 18 (dk_at dksX3_known_0 9 rfl rfl)
theorem dX3_known_12 : decode cX3_known 12 = .ok (.iload_n 1, 1) := dk_27 (dk_at dksX3_known_0 12 rfl rfl)
theorem dX3_known_13 : decode cX3_known 13 = .ok (.iaload, 1) := dk_46 (dk_at dksX3_known_0 13 rfl rfl)
theorem dX3_known_14 : decode cX3_known 14 = .ok (.ior, 1) := dk_128 (dk_at dksX3_known_0 14 rfl rfl)
theorem dX3_known_15 : decode cX3_known 15 = .ok (.ireturn, 1) := dk_172 (dk_at dksX3_known_0 15 rfl rfl)
abbrev cX3_areFoes : ByteArray := prog_11_method_13_code
def yX3_areFoes : MethodName := ⟨RX3, "areFoes", "(II)Z"⟩
def dkwX3_areFoes_0 : List UInt8 := [42, 27, 182, 0, 51, 180, 0, 115, 28, 184, 0, 111, 172]
abbrev dktX3_areFoes_0 : List UInt8 := dkwX3_areFoes_0 ++ []
theorem dksX3_areFoes_0 : cX3_areFoes.data.toList.drop 0 = dktX3_areFoes_0 := by decide +kernel
theorem dX3_areFoes_0 : decode cX3_areFoes 0 = .ok (.aload_n 0, 1) := dk_42 (dk_at dksX3_areFoes_0 0 rfl rfl)
theorem dX3_areFoes_1 : decode cX3_areFoes 1 = .ok (.iload_n 1, 1) := dk_27 (dk_at dksX3_areFoes_0 1 rfl rfl)
theorem dX3_areFoes_2 : decode cX3_areFoes 2 = .ok (.invokevirtual 51, 3) := dk_182 0 51 (dk_at dksX3_areFoes_0 2 rfl rfl)
theorem dX3_areFoes_5 : decode cX3_areFoes 5 = .ok (.getfield 115, 3) := dk_180 0 115 (dk_at dksX3_areFoes_0 5 rfl rfl)
theorem dX3_areFoes_8 : decode cX3_areFoes 8 = .ok (.iload_n 2, 1) := dk_28 (dk_at dksX3_areFoes_0 8 rfl rfl)
theorem dX3_areFoes_9 : decode cX3_areFoes 9 = .ok (.invokestatic 111, 3) := dk_184 0 111 (dk_at dksX3_areFoes_0 9 rfl rfl)
theorem dX3_areFoes_12 : decode cX3_areFoes 12 = .ok (.ireturn, 1) := dk_172 (dk_at dksX3_areFoes_0 12 rfl rfl)
abbrev cX3_isVeiled : ByteArray := prog_11_method_17_code
def yX3_isVeiled : MethodName := ⟨RX3, "isVeiled", "(I)Z"⟩
def dkwX3_isVeiled_0 : List UInt8 := [42, 180, 0, 71, 27, 184, 0, 111, 172]
abbrev dktX3_isVeiled_0 : List UInt8 := dkwX3_isVeiled_0 ++ []
theorem dksX3_isVeiled_0 : cX3_isVeiled.data.toList.drop 0 = dktX3_isVeiled_0 := by decide +kernel
theorem dX3_isVeiled_0 : decode cX3_isVeiled 0 = .ok (.aload_n 0, 1) := dk_42 (dk_at dksX3_isVeiled_0 0 rfl rfl)
theorem dX3_isVeiled_1 : decode cX3_isVeiled 1 = .ok (.getfield 71, 3) := dk_180 0 71 (dk_at dksX3_isVeiled_0 1 rfl rfl)
theorem dX3_isVeiled_4 : decode cX3_isVeiled 4 = .ok (.iload_n 1, 1) := dk_27 (dk_at dksX3_isVeiled_0 4 rfl rfl)
theorem dX3_isVeiled_5 : decode cX3_isVeiled 5 = .ok (.invokestatic 111, 3) := dk_184 0 111 (dk_at dksX3_isVeiled_0 5 rfl rfl)
theorem dX3_isVeiled_8 : decode cX3_isVeiled 8 = .ok (.ireturn, 1) := dk_172 (dk_at dksX3_isVeiled_0 8 rfl rfl)
abbrev cX3_buy : ByteArray := prog_11_method_22_code
def yX3_buy : MethodName := ⟨RX3, "buy", "(III)V"⟩
def dkwX3_buy_6 : List UInt8 := [161, 0, 9, 42, 27, 29, 182, 0, 143, 177]
abbrev dktX3_buy_6 : List UInt8 := dkwX3_buy_6 ++ []
def dkwX3_buy_5 : List UInt8 := [92, 46, 4, 96, 79, 42, 180, 0, 21, 16, 7, 27, 104, 29, 96, 46, 42, 180, 0, 30, 180, 0, 141]
abbrev dktX3_buy_5 : List UInt8 := dkwX3_buy_5 ++ dktX3_buy_6
def dkwX3_buy_4 : List UInt8 := [180, 0, 21, 16, 7, 27, 104, 29, 96, 92, 46, 4, 96, 79, 42, 180, 0, 21, 16, 7, 29, 104, 27, 96]
abbrev dktX3_buy_4 : List UInt8 := dkwX3_buy_4 ++ dktX3_buy_5
def dkwX3_buy_3 : List UInt8 := [96, 181, 0, 38, 42, 27, 182, 0, 135, 154, 0, 11, 42, 29, 182, 0, 135, 153, 0, 4, 177, 42]
abbrev dktX3_buy_3 : List UInt8 := dkwX3_buy_3 ++ dktX3_buy_4
def dkwX3_buy_2 : List UInt8 := [180, 0, 9, 29, 92, 46, 42, 29, 182, 0, 51, 180, 0, 138, 28, 46, 96, 79, 42, 89, 180, 0, 38, 4]
abbrev dktX3_buy_2 : List UInt8 := dkwX3_buy_2 ++ dktX3_buy_3
def dkwX3_buy_1 : List UInt8 := [46, 4, 100, 79, 42, 180, 0, 9, 27, 92, 46, 42, 29, 182, 0, 51, 180, 0, 138, 28, 46, 100, 79, 42]
abbrev dktX3_buy_1 : List UInt8 := dkwX3_buy_1 ++ dktX3_buy_2
def dkwX3_buy_0 : List UInt8 := [42, 180, 0, 24, 8, 29, 104, 28, 96, 92, 46, 4, 100, 79, 42, 180, 0, 27, 8, 27, 104, 28, 96, 92]
abbrev dktX3_buy_0 : List UInt8 := dkwX3_buy_0 ++ dktX3_buy_1
theorem dksX3_buy_0 : cX3_buy.data.toList.drop 0 = dktX3_buy_0 := by decide +kernel
theorem dksX3_buy_1 : cX3_buy.data.toList.drop 24 = dktX3_buy_1 := dk_seg dksX3_buy_0 24 rfl rfl
theorem dksX3_buy_2 : cX3_buy.data.toList.drop 48 = dktX3_buy_2 := dk_seg dksX3_buy_1 24 rfl rfl
theorem dksX3_buy_3 : cX3_buy.data.toList.drop 72 = dktX3_buy_3 := dk_seg dksX3_buy_2 24 rfl rfl
theorem dksX3_buy_4 : cX3_buy.data.toList.drop 94 = dktX3_buy_4 := dk_seg dksX3_buy_3 22 rfl rfl
theorem dksX3_buy_5 : cX3_buy.data.toList.drop 118 = dktX3_buy_5 := dk_seg dksX3_buy_4 24 rfl rfl
theorem dksX3_buy_6 : cX3_buy.data.toList.drop 141 = dktX3_buy_6 := dk_seg dksX3_buy_5 23 rfl rfl
theorem dX3_buy_0 : decode cX3_buy 0 = .ok (.aload_n 0, 1) := dk_42 (dk_at dksX3_buy_0 0 rfl rfl)
theorem dX3_buy_1 : decode cX3_buy 1 = .ok (.getfield 24, 3) := dk_180 0 24 (dk_at dksX3_buy_0 1 rfl rfl)
theorem dX3_buy_4 : decode cX3_buy 4 = .ok (.iconst 5, 1) := dk_8 (dk_at dksX3_buy_0 4 rfl rfl)
theorem dX3_buy_5 : decode cX3_buy 5 = .ok (.iload_n 3, 1) := dk_29 (dk_at dksX3_buy_0 5 rfl rfl)
theorem dX3_buy_6 : decode cX3_buy 6 = .ok (.imul, 1) := dk_104 (dk_at dksX3_buy_0 6 rfl rfl)
theorem dX3_buy_7 : decode cX3_buy 7 = .ok (.iload_n 2, 1) := dk_28 (dk_at dksX3_buy_0 7 rfl rfl)
theorem dX3_buy_8 : decode cX3_buy 8 = .ok (.iadd, 1) := dk_96 (dk_at dksX3_buy_0 8 rfl rfl)
theorem dX3_buy_9 : decode cX3_buy 9 = .ok (.dup2, 1) := dk_92 (dk_at dksX3_buy_0 9 rfl rfl)
theorem dX3_buy_10 : decode cX3_buy 10 = .ok (.iaload, 1) := dk_46 (dk_at dksX3_buy_0 10 rfl rfl)
theorem dX3_buy_11 : decode cX3_buy 11 = .ok (.iconst 1, 1) := dk_4 (dk_at dksX3_buy_0 11 rfl rfl)
theorem dX3_buy_12 : decode cX3_buy 12 = .ok (.isub, 1) := dk_100 (dk_at dksX3_buy_0 12 rfl rfl)
theorem dX3_buy_13 : decode cX3_buy 13 = .ok (.iastore, 1) := dk_79 (dk_at dksX3_buy_0 13 rfl rfl)
theorem dX3_buy_14 : decode cX3_buy 14 = .ok (.aload_n 0, 1) := dk_42 (dk_at dksX3_buy_0 14 rfl rfl)
theorem dX3_buy_15 : decode cX3_buy 15 = .ok (.getfield 27, 3) := dk_180 0 27 (dk_at dksX3_buy_0 15 rfl rfl)
theorem dX3_buy_18 : decode cX3_buy 18 = .ok (.iconst 5, 1) := dk_8 (dk_at dksX3_buy_0 18 rfl rfl)
theorem dX3_buy_19 : decode cX3_buy 19 = .ok (.iload_n 1, 1) := dk_27 (dk_at dksX3_buy_0 19 rfl rfl)
theorem dX3_buy_20 : decode cX3_buy 20 = .ok (.imul, 1) := dk_104 (dk_at dksX3_buy_0 20 rfl rfl)
theorem dX3_buy_21 : decode cX3_buy 21 = .ok (.iload_n 2, 1) := dk_28 (dk_at dksX3_buy_0 21 rfl rfl)
theorem dX3_buy_22 : decode cX3_buy 22 = .ok (.iadd, 1) := dk_96 (dk_at dksX3_buy_0 22 rfl rfl)
theorem dX3_buy_23 : decode cX3_buy 23 = .ok (.dup2, 1) := dk_92 (dk_at dksX3_buy_0 23 rfl rfl)
theorem dX3_buy_24 : decode cX3_buy 24 = .ok (.iaload, 1) := dk_46 (dk_at dksX3_buy_1 0 rfl rfl)
theorem dX3_buy_25 : decode cX3_buy 25 = .ok (.iconst 1, 1) := dk_4 (dk_at dksX3_buy_1 1 rfl rfl)
theorem dX3_buy_26 : decode cX3_buy 26 = .ok (.isub, 1) := dk_100 (dk_at dksX3_buy_1 2 rfl rfl)
theorem dX3_buy_27 : decode cX3_buy 27 = .ok (.iastore, 1) := dk_79 (dk_at dksX3_buy_1 3 rfl rfl)
theorem dX3_buy_28 : decode cX3_buy 28 = .ok (.aload_n 0, 1) := dk_42 (dk_at dksX3_buy_1 4 rfl rfl)
theorem dX3_buy_29 : decode cX3_buy 29 = .ok (.getfield 9, 3) := dk_180 0 9 (dk_at dksX3_buy_1 5 rfl rfl)
theorem dX3_buy_32 : decode cX3_buy 32 = .ok (.iload_n 1, 1) := dk_27 (dk_at dksX3_buy_1 8 rfl rfl)
theorem dX3_buy_33 : decode cX3_buy 33 = .ok (.dup2, 1) := dk_92 (dk_at dksX3_buy_1 9 rfl rfl)
theorem dX3_buy_34 : decode cX3_buy 34 = .ok (.iaload, 1) := dk_46 (dk_at dksX3_buy_1 10 rfl rfl)
theorem dX3_buy_35 : decode cX3_buy 35 = .ok (.aload_n 0, 1) := dk_42 (dk_at dksX3_buy_1 11 rfl rfl)
theorem dX3_buy_36 : decode cX3_buy 36 = .ok (.iload_n 3, 1) := dk_29 (dk_at dksX3_buy_1 12 rfl rfl)
theorem dX3_buy_37 : decode cX3_buy 37 = .ok (.invokevirtual 51, 3) := dk_182 0 51 (dk_at dksX3_buy_1 13 rfl rfl)
theorem dX3_buy_40 : decode cX3_buy 40 = .ok (.getfield 138, 3) := dk_180 0 138 (dk_at dksX3_buy_1 16 rfl rfl)
theorem dX3_buy_43 : decode cX3_buy 43 = .ok (.iload_n 2, 1) := dk_28 (dk_at dksX3_buy_1 19 rfl rfl)
theorem dX3_buy_44 : decode cX3_buy 44 = .ok (.iaload, 1) := dk_46 (dk_at dksX3_buy_1 20 rfl rfl)
theorem dX3_buy_45 : decode cX3_buy 45 = .ok (.isub, 1) := dk_100 (dk_at dksX3_buy_1 21 rfl rfl)
theorem dX3_buy_46 : decode cX3_buy 46 = .ok (.iastore, 1) := dk_79 (dk_at dksX3_buy_1 22 rfl rfl)
theorem dX3_buy_47 : decode cX3_buy 47 = .ok (.aload_n 0, 1) := dk_42 (dk_at dksX3_buy_1 23 rfl rfl)
theorem dX3_buy_48 : decode cX3_buy 48 = .ok (.getfield 9, 3) := dk_180 0 9 (dk_at dksX3_buy_2 0 rfl rfl)
theorem dX3_buy_51 : decode cX3_buy 51 = .ok (.iload_n 3, 1) := dk_29 (dk_at dksX3_buy_2 3 rfl rfl)
theorem dX3_buy_52 : decode cX3_buy 52 = .ok (.dup2, 1) := dk_92 (dk_at dksX3_buy_2 4 rfl rfl)
theorem dX3_buy_53 : decode cX3_buy 53 = .ok (.iaload, 1) := dk_46 (dk_at dksX3_buy_2 5 rfl rfl)
theorem dX3_buy_54 : decode cX3_buy 54 = .ok (.aload_n 0, 1) := dk_42 (dk_at dksX3_buy_2 6 rfl rfl)
theorem dX3_buy_55 : decode cX3_buy 55 = .ok (.iload_n 3, 1) := dk_29 (dk_at dksX3_buy_2 7 rfl rfl)
theorem dX3_buy_56 : decode cX3_buy 56 = .ok (.invokevirtual 51, 3) := dk_182 0 51 (dk_at dksX3_buy_2 8 rfl rfl)
theorem dX3_buy_59 : decode cX3_buy 59 = .ok (.getfield 138, 3) := dk_180 0 138 (dk_at dksX3_buy_2 11 rfl rfl)
theorem dX3_buy_62 : decode cX3_buy 62 = .ok (.iload_n 2, 1) := dk_28 (dk_at dksX3_buy_2 14 rfl rfl)
theorem dX3_buy_63 : decode cX3_buy 63 = .ok (.iaload, 1) := dk_46 (dk_at dksX3_buy_2 15 rfl rfl)
theorem dX3_buy_64 : decode cX3_buy 64 = .ok (.iadd, 1) := dk_96 (dk_at dksX3_buy_2 16 rfl rfl)
theorem dX3_buy_65 : decode cX3_buy 65 = .ok (.iastore, 1) := dk_79 (dk_at dksX3_buy_2 17 rfl rfl)
theorem dX3_buy_66 : decode cX3_buy 66 = .ok (.aload_n 0, 1) := dk_42 (dk_at dksX3_buy_2 18 rfl rfl)
theorem dX3_buy_67 : decode cX3_buy 67 = .ok (.dup, 1) := dk_89 (dk_at dksX3_buy_2 19 rfl rfl)
theorem dX3_buy_68 : decode cX3_buy 68 = .ok (.getfield 38, 3) := dk_180 0 38 (dk_at dksX3_buy_2 20 rfl rfl)
theorem dX3_buy_71 : decode cX3_buy 71 = .ok (.iconst 1, 1) := dk_4 (dk_at dksX3_buy_2 23 rfl rfl)
theorem dX3_buy_72 : decode cX3_buy 72 = .ok (.iadd, 1) := dk_96 (dk_at dksX3_buy_3 0 rfl rfl)
theorem dX3_buy_73 : decode cX3_buy 73 = .ok (.putfield 38, 3) := dk_181 0 38 (dk_at dksX3_buy_3 1 rfl rfl)
theorem dX3_buy_76 : decode cX3_buy 76 = .ok (.aload_n 0, 1) := dk_42 (dk_at dksX3_buy_3 4 rfl rfl)
theorem dX3_buy_77 : decode cX3_buy 77 = .ok (.iload_n 1, 1) := dk_27 (dk_at dksX3_buy_3 5 rfl rfl)
theorem dX3_buy_78 : decode cX3_buy 78 = .ok (.invokevirtual 135, 3) := dk_182 0 135 (dk_at dksX3_buy_3 6 rfl rfl)
theorem dX3_buy_81 : decode cX3_buy 81 = .ok (.ifCond .ne 11, 3) := dk_154 0 11 (dk_at dksX3_buy_3 9 rfl rfl)
theorem dX3_buy_84 : decode cX3_buy 84 = .ok (.aload_n 0, 1) := dk_42 (dk_at dksX3_buy_3 12 rfl rfl)
theorem dX3_buy_85 : decode cX3_buy 85 = .ok (.iload_n 3, 1) := dk_29 (dk_at dksX3_buy_3 13 rfl rfl)
theorem dX3_buy_86 : decode cX3_buy 86 = .ok (.invokevirtual 135, 3) := dk_182 0 135 (dk_at dksX3_buy_3 14 rfl rfl)
theorem dX3_buy_89 : decode cX3_buy 89 = .ok (.ifCond .eq 4, 3) := dk_153 0 4 (dk_at dksX3_buy_3 17 rfl rfl)
theorem dX3_buy_92 : decode cX3_buy 92 = .ok (.return_, 1) := dk_177 (dk_at dksX3_buy_3 20 rfl rfl)
theorem dX3_buy_93 : decode cX3_buy 93 = .ok (.aload_n 0, 1) := dk_42 (dk_at dksX3_buy_3 21 rfl rfl)
theorem dX3_buy_94 : decode cX3_buy 94 = .ok (.getfield 21, 3) := dk_180 0 21 (dk_at dksX3_buy_4 0 rfl rfl)
theorem dX3_buy_97 : decode cX3_buy 97 = .ok (.bipush 7, 2) := dk_16 7 (dk_at dksX3_buy_4 3 rfl rfl)
theorem dX3_buy_99 : decode cX3_buy 99 = .ok (.iload_n 1, 1) := dk_27 (dk_at dksX3_buy_4 5 rfl rfl)
theorem dX3_buy_100 : decode cX3_buy 100 = .ok (.imul, 1) := dk_104 (dk_at dksX3_buy_4 6 rfl rfl)
theorem dX3_buy_101 : decode cX3_buy 101 = .ok (.iload_n 3, 1) := dk_29 (dk_at dksX3_buy_4 7 rfl rfl)
theorem dX3_buy_102 : decode cX3_buy 102 = .ok (.iadd, 1) := dk_96 (dk_at dksX3_buy_4 8 rfl rfl)
theorem dX3_buy_103 : decode cX3_buy 103 = .ok (.dup2, 1) := dk_92 (dk_at dksX3_buy_4 9 rfl rfl)
theorem dX3_buy_104 : decode cX3_buy 104 = .ok (.iaload, 1) := dk_46 (dk_at dksX3_buy_4 10 rfl rfl)
theorem dX3_buy_105 : decode cX3_buy 105 = .ok (.iconst 1, 1) := dk_4 (dk_at dksX3_buy_4 11 rfl rfl)
theorem dX3_buy_106 : decode cX3_buy 106 = .ok (.iadd, 1) := dk_96 (dk_at dksX3_buy_4 12 rfl rfl)
theorem dX3_buy_107 : decode cX3_buy 107 = .ok (.iastore, 1) := dk_79 (dk_at dksX3_buy_4 13 rfl rfl)
theorem dX3_buy_108 : decode cX3_buy 108 = .ok (.aload_n 0, 1) := dk_42 (dk_at dksX3_buy_4 14 rfl rfl)
theorem dX3_buy_109 : decode cX3_buy 109 = .ok (.getfield 21, 3) := dk_180 0 21 (dk_at dksX3_buy_4 15 rfl rfl)
theorem dX3_buy_112 : decode cX3_buy 112 = .ok (.bipush 7, 2) := dk_16 7 (dk_at dksX3_buy_4 18 rfl rfl)
theorem dX3_buy_114 : decode cX3_buy 114 = .ok (.iload_n 3, 1) := dk_29 (dk_at dksX3_buy_4 20 rfl rfl)
theorem dX3_buy_115 : decode cX3_buy 115 = .ok (.imul, 1) := dk_104 (dk_at dksX3_buy_4 21 rfl rfl)
theorem dX3_buy_116 : decode cX3_buy 116 = .ok (.iload_n 1, 1) := dk_27 (dk_at dksX3_buy_4 22 rfl rfl)
theorem dX3_buy_117 : decode cX3_buy 117 = .ok (.iadd, 1) := dk_96 (dk_at dksX3_buy_4 23 rfl rfl)
theorem dX3_buy_118 : decode cX3_buy 118 = .ok (.dup2, 1) := dk_92 (dk_at dksX3_buy_5 0 rfl rfl)
theorem dX3_buy_119 : decode cX3_buy 119 = .ok (.iaload, 1) := dk_46 (dk_at dksX3_buy_5 1 rfl rfl)
theorem dX3_buy_120 : decode cX3_buy 120 = .ok (.iconst 1, 1) := dk_4 (dk_at dksX3_buy_5 2 rfl rfl)
theorem dX3_buy_121 : decode cX3_buy 121 = .ok (.iadd, 1) := dk_96 (dk_at dksX3_buy_5 3 rfl rfl)
theorem dX3_buy_122 : decode cX3_buy 122 = .ok (.iastore, 1) := dk_79 (dk_at dksX3_buy_5 4 rfl rfl)
theorem dX3_buy_123 : decode cX3_buy 123 = .ok (.aload_n 0, 1) := dk_42 (dk_at dksX3_buy_5 5 rfl rfl)
theorem dX3_buy_124 : decode cX3_buy 124 = .ok (.getfield 21, 3) := dk_180 0 21 (dk_at dksX3_buy_5 6 rfl rfl)
theorem dX3_buy_127 : decode cX3_buy 127 = .ok (.bipush 7, 2) := dk_16 7 (dk_at dksX3_buy_5 9 rfl rfl)
theorem dX3_buy_129 : decode cX3_buy 129 = .ok (.iload_n 1, 1) := dk_27 (dk_at dksX3_buy_5 11 rfl rfl)
theorem dX3_buy_130 : decode cX3_buy 130 = .ok (.imul, 1) := dk_104 (dk_at dksX3_buy_5 12 rfl rfl)
theorem dX3_buy_131 : decode cX3_buy 131 = .ok (.iload_n 3, 1) := dk_29 (dk_at dksX3_buy_5 13 rfl rfl)
theorem dX3_buy_132 : decode cX3_buy 132 = .ok (.iadd, 1) := dk_96 (dk_at dksX3_buy_5 14 rfl rfl)
theorem dX3_buy_133 : decode cX3_buy 133 = .ok (.iaload, 1) := dk_46 (dk_at dksX3_buy_5 15 rfl rfl)
theorem dX3_buy_134 : decode cX3_buy 134 = .ok (.aload_n 0, 1) := dk_42 (dk_at dksX3_buy_5 16 rfl rfl)
theorem dX3_buy_135 : decode cX3_buy 135 = .ok (.getfield 30, 3) := dk_180 0 30 (dk_at dksX3_buy_5 17 rfl rfl)
theorem dX3_buy_138 : decode cX3_buy 138 = .ok (.getfield 141, 3) := dk_180 0 141 (dk_at dksX3_buy_5 20 rfl rfl)
theorem dX3_buy_141 : decode cX3_buy 141 = .ok (.if_icmp .lt 9, 3) := dk_161 0 9 (dk_at dksX3_buy_6 0 rfl rfl)
theorem dX3_buy_144 : decode cX3_buy 144 = .ok (.aload_n 0, 1) := dk_42 (dk_at dksX3_buy_6 3 rfl rfl)
theorem dX3_buy_145 : decode cX3_buy 145 = .ok (.iload_n 1, 1) := dk_27 (dk_at dksX3_buy_6 4 rfl rfl)
theorem dX3_buy_146 : decode cX3_buy 146 = .ok (.iload_n 3, 1) := dk_29 (dk_at dksX3_buy_6 5 rfl rfl)
theorem dX3_buy_147 : decode cX3_buy 147 = .ok (.invokevirtual 143, 3) := dk_182 0 143 (dk_at dksX3_buy_6 6 rfl rfl)
theorem dX3_buy_150 : decode cX3_buy 150 = .ok (.return_, 1) := dk_177 (dk_at dksX3_buy_6 9 rfl rfl)
abbrev cX3_meet : ByteArray := prog_11_method_23_code
def yX3_meet : MethodName := ⟨RX3, "meet", "(II)V"⟩
def dkwX3_meet_1 : List UInt8 := [177]
abbrev dktX3_meet_1 : List UInt8 := dkwX3_meet_1 ++ []
def dkwX3_meet_0 : List UInt8 := [42, 180, 0, 18, 27, 92, 46, 4, 28, 120, 128, 79, 42, 180, 0, 18, 28, 92, 46, 4, 27, 120, 128, 79]
abbrev dktX3_meet_0 : List UInt8 := dkwX3_meet_0 ++ dktX3_meet_1
theorem dksX3_meet_0 : cX3_meet.data.toList.drop 0 = dktX3_meet_0 := by decide +kernel
theorem dksX3_meet_1 : cX3_meet.data.toList.drop 24 = dktX3_meet_1 := dk_seg dksX3_meet_0 24 rfl rfl
theorem dX3_meet_0 : decode cX3_meet 0 = .ok (.aload_n 0, 1) := dk_42 (dk_at dksX3_meet_0 0 rfl rfl)
theorem dX3_meet_1 : decode cX3_meet 1 = .ok (.getfield 18, 3) := dk_180 0 18 (dk_at dksX3_meet_0 1 rfl rfl)
theorem dX3_meet_4 : decode cX3_meet 4 = .ok (.iload_n 1, 1) := dk_27 (dk_at dksX3_meet_0 4 rfl rfl)
theorem dX3_meet_5 : decode cX3_meet 5 = .ok (.dup2, 1) := dk_92 (dk_at dksX3_meet_0 5 rfl rfl)
theorem dX3_meet_6 : decode cX3_meet 6 = .ok (.iaload, 1) := dk_46 (dk_at dksX3_meet_0 6 rfl rfl)
theorem dX3_meet_7 : decode cX3_meet 7 = .ok (.iconst 1, 1) := dk_4 (dk_at dksX3_meet_0 7 rfl rfl)
theorem dX3_meet_8 : decode cX3_meet 8 = .ok (.iload_n 2, 1) := dk_28 (dk_at dksX3_meet_0 8 rfl rfl)
theorem dX3_meet_9 : decode cX3_meet 9 = .ok (.ishl, 1) := dk_120 (dk_at dksX3_meet_0 9 rfl rfl)
theorem dX3_meet_10 : decode cX3_meet 10 = .ok (.ior, 1) := dk_128 (dk_at dksX3_meet_0 10 rfl rfl)
theorem dX3_meet_11 : decode cX3_meet 11 = .ok (.iastore, 1) := dk_79 (dk_at dksX3_meet_0 11 rfl rfl)
theorem dX3_meet_12 : decode cX3_meet 12 = .ok (.aload_n 0, 1) := dk_42 (dk_at dksX3_meet_0 12 rfl rfl)
theorem dX3_meet_13 : decode cX3_meet 13 = .ok (.getfield 18, 3) := dk_180 0 18 (dk_at dksX3_meet_0 13 rfl rfl)
theorem dX3_meet_16 : decode cX3_meet 16 = .ok (.iload_n 2, 1) := dk_28 (dk_at dksX3_meet_0 16 rfl rfl)
theorem dX3_meet_17 : decode cX3_meet 17 = .ok (.dup2, 1) := dk_92 (dk_at dksX3_meet_0 17 rfl rfl)
theorem dX3_meet_18 : decode cX3_meet 18 = .ok (.iaload, 1) := dk_46 (dk_at dksX3_meet_0 18 rfl rfl)
theorem dX3_meet_19 : decode cX3_meet 19 = .ok (.iconst 1, 1) := dk_4 (dk_at dksX3_meet_0 19 rfl rfl)
theorem dX3_meet_20 : decode cX3_meet 20 = .ok (.iload_n 1, 1) := dk_27 (dk_at dksX3_meet_0 20 rfl rfl)
theorem dX3_meet_21 : decode cX3_meet 21 = .ok (.ishl, 1) := dk_120 (dk_at dksX3_meet_0 21 rfl rfl)
theorem dX3_meet_22 : decode cX3_meet 22 = .ok (.ior, 1) := dk_128 (dk_at dksX3_meet_0 22 rfl rfl)
theorem dX3_meet_23 : decode cX3_meet 23 = .ok (.iastore, 1) := dk_79 (dk_at dksX3_meet_0 23 rfl rfl)
theorem dX3_meet_24 : decode cX3_meet 24 = .ok (.return_, 1) := dk_177 (dk_at dksX3_meet_1 0 rfl rfl)
abbrev cX3_whyNod : ByteArray := prog_11_method_24_code
def yX3_whyNod : MethodName := ⟨RX3, "whyNod", "(II)I"⟩
def dkwX3_whyNod_1 : List UInt8 := [153, 0, 7, 5, 167, 0, 17, 42, 27, 28, 182, 0, 118, 153, 0, 7, 6, 167, 0, 4, 3, 172]
abbrev dktX3_whyNod_1 : List UInt8 := dkwX3_whyNod_1 ++ []
def dkwX3_whyNod_0 : List UInt8 := [27, 28, 160, 0, 7, 4, 167, 0, 37, 42, 27, 182, 0, 131, 154, 0, 11, 42, 28, 182, 0, 131]
abbrev dktX3_whyNod_0 : List UInt8 := dkwX3_whyNod_0 ++ dktX3_whyNod_1
theorem dksX3_whyNod_0 : cX3_whyNod.data.toList.drop 0 = dktX3_whyNod_0 := by decide +kernel
theorem dksX3_whyNod_1 : cX3_whyNod.data.toList.drop 22 = dktX3_whyNod_1 := dk_seg dksX3_whyNod_0 22 rfl rfl
theorem dX3_whyNod_0 : decode cX3_whyNod 0 = .ok (.iload_n 1, 1) := dk_27 (dk_at dksX3_whyNod_0 0 rfl rfl)
theorem dX3_whyNod_1 : decode cX3_whyNod 1 = .ok (.iload_n 2, 1) := dk_28 (dk_at dksX3_whyNod_0 1 rfl rfl)
theorem dX3_whyNod_2 : decode cX3_whyNod 2 = .ok (.if_icmp .ne 7, 3) := dk_160 0 7 (dk_at dksX3_whyNod_0 2 rfl rfl)
theorem dX3_whyNod_5 : decode cX3_whyNod 5 = .ok (.iconst 1, 1) := dk_4 (dk_at dksX3_whyNod_0 5 rfl rfl)
theorem dX3_whyNod_6 : decode cX3_whyNod 6 = .ok (.goto 37, 3) := dk_167 0 37 (dk_at dksX3_whyNod_0 6 rfl rfl)
theorem dX3_whyNod_9 : decode cX3_whyNod 9 = .ok (.aload_n 0, 1) := dk_42 (dk_at dksX3_whyNod_0 9 rfl rfl)
theorem dX3_whyNod_10 : decode cX3_whyNod 10 = .ok (.iload_n 1, 1) := dk_27 (dk_at dksX3_whyNod_0 10 rfl rfl)
theorem dX3_whyNod_11 : decode cX3_whyNod 11 = .ok (.invokevirtual 131, 3) := dk_182 0 131 (dk_at dksX3_whyNod_0 11 rfl rfl)
theorem dX3_whyNod_14 : decode cX3_whyNod 14 = .ok (.ifCond .ne 11, 3) := dk_154 0 11 (dk_at dksX3_whyNod_0 14 rfl rfl)
theorem dX3_whyNod_17 : decode cX3_whyNod 17 = .ok (.aload_n 0, 1) := dk_42 (dk_at dksX3_whyNod_0 17 rfl rfl)
theorem dX3_whyNod_18 : decode cX3_whyNod 18 = .ok (.iload_n 2, 1) := dk_28 (dk_at dksX3_whyNod_0 18 rfl rfl)
theorem dX3_whyNod_19 : decode cX3_whyNod 19 = .ok (.invokevirtual 131, 3) := dk_182 0 131 (dk_at dksX3_whyNod_0 19 rfl rfl)
theorem dX3_whyNod_22 : decode cX3_whyNod 22 = .ok (.ifCond .eq 7, 3) := dk_153 0 7 (dk_at dksX3_whyNod_1 0 rfl rfl)
theorem dX3_whyNod_25 : decode cX3_whyNod 25 = .ok (.iconst 2, 1) := dk_5 (dk_at dksX3_whyNod_1 3 rfl rfl)
theorem dX3_whyNod_26 : decode cX3_whyNod 26 = .ok (.goto 17, 3) := dk_167 0 17 (dk_at dksX3_whyNod_1 4 rfl rfl)
theorem dX3_whyNod_29 : decode cX3_whyNod 29 = .ok (.aload_n 0, 1) := dk_42 (dk_at dksX3_whyNod_1 7 rfl rfl)
theorem dX3_whyNod_30 : decode cX3_whyNod 30 = .ok (.iload_n 1, 1) := dk_27 (dk_at dksX3_whyNod_1 8 rfl rfl)
theorem dX3_whyNod_31 : decode cX3_whyNod 31 = .ok (.iload_n 2, 1) := dk_28 (dk_at dksX3_whyNod_1 9 rfl rfl)
theorem dX3_whyNod_32 : decode cX3_whyNod 32 = .ok (.invokevirtual 118, 3) := dk_182 0 118 (dk_at dksX3_whyNod_1 10 rfl rfl)
theorem dX3_whyNod_35 : decode cX3_whyNod 35 = .ok (.ifCond .eq 7, 3) := dk_153 0 7 (dk_at dksX3_whyNod_1 13 rfl rfl)
theorem dX3_whyNod_38 : decode cX3_whyNod 38 = .ok (.iconst 3, 1) := dk_6 (dk_at dksX3_whyNod_1 16 rfl rfl)
theorem dX3_whyNod_39 : decode cX3_whyNod 39 = .ok (.goto 4, 3) := dk_167 0 4 (dk_at dksX3_whyNod_1 17 rfl rfl)
theorem dX3_whyNod_42 : decode cX3_whyNod 42 = .ok (.iconst 0, 1) := dk_3 (dk_at dksX3_whyNod_1 20 rfl rfl)
theorem dX3_whyNod_43 : decode cX3_whyNod 43 = .ok (.ireturn, 1) := dk_172 (dk_at dksX3_whyNod_1 21 rfl rfl)
abbrev cX3_nod : ByteArray := prog_11_method_25_code
def yX3_nod : MethodName := ⟨RX3, "nod", "(II)V"⟩
def dkwX3_nod_0 : List UInt8 := [42, 27, 28, 182, 0, 143, 42, 89, 180, 0, 68, 4, 27, 120, 128, 181, 0, 68, 177]
abbrev dktX3_nod_0 : List UInt8 := dkwX3_nod_0 ++ []
theorem dksX3_nod_0 : cX3_nod.data.toList.drop 0 = dktX3_nod_0 := by decide +kernel
theorem dX3_nod_0 : decode cX3_nod 0 = .ok (.aload_n 0, 1) := dk_42 (dk_at dksX3_nod_0 0 rfl rfl)
theorem dX3_nod_1 : decode cX3_nod 1 = .ok (.iload_n 1, 1) := dk_27 (dk_at dksX3_nod_0 1 rfl rfl)
theorem dX3_nod_2 : decode cX3_nod 2 = .ok (.iload_n 2, 1) := dk_28 (dk_at dksX3_nod_0 2 rfl rfl)
theorem dX3_nod_3 : decode cX3_nod 3 = .ok (.invokevirtual 143, 3) := dk_182 0 143 (dk_at dksX3_nod_0 3 rfl rfl)
theorem dX3_nod_6 : decode cX3_nod 6 = .ok (.aload_n 0, 1) := dk_42 (dk_at dksX3_nod_0 6 rfl rfl)
theorem dX3_nod_7 : decode cX3_nod 7 = .ok (.dup, 1) := dk_89 (dk_at dksX3_nod_0 7 rfl rfl)
theorem dX3_nod_8 : decode cX3_nod 8 = .ok (.getfield 68, 3) := dk_180 0 68 (dk_at dksX3_nod_0 8 rfl rfl)
theorem dX3_nod_11 : decode cX3_nod 11 = .ok (.iconst 1, 1) := dk_4 (dk_at dksX3_nod_0 11 rfl rfl)
theorem dX3_nod_12 : decode cX3_nod 12 = .ok (.iload_n 1, 1) := dk_27 (dk_at dksX3_nod_0 12 rfl rfl)
theorem dX3_nod_13 : decode cX3_nod 13 = .ok (.ishl, 1) := dk_120 (dk_at dksX3_nod_0 13 rfl rfl)
theorem dX3_nod_14 : decode cX3_nod 14 = .ok (.ior, 1) := dk_128 (dk_at dksX3_nod_0 14 rfl rfl)
theorem dX3_nod_15 : decode cX3_nod 15 = .ok (.putfield 68, 3) := dk_181 0 68 (dk_at dksX3_nod_0 15 rfl rfl)
theorem dX3_nod_18 : decode cX3_nod 18 = .ok (.return_, 1) := dk_177 (dk_at dksX3_nod_0 18 rfl rfl)
abbrev cX3_passAll : ByteArray := prog_11_method_30_code
def yX3_passAll : MethodName := ⟨RX3, "passAll", "(I)I"⟩
def dkwX3_passAll_1 : List UInt8 := [28, 172]
abbrev dktX3_passAll_1 : List UInt8 := dkwX3_passAll_1 ++ []
def dkwX3_passAll_0 : List UInt8 := [3, 61, 28, 27, 162, 0, 20, 42, 182, 0, 159, 154, 0, 13, 42, 182, 0, 163, 132, 2, 1, 167, 255, 237]
abbrev dktX3_passAll_0 : List UInt8 := dkwX3_passAll_0 ++ dktX3_passAll_1
theorem dksX3_passAll_0 : cX3_passAll.data.toList.drop 0 = dktX3_passAll_0 := by decide +kernel
theorem dksX3_passAll_1 : cX3_passAll.data.toList.drop 24 = dktX3_passAll_1 := dk_seg dksX3_passAll_0 24 rfl rfl
theorem dX3_passAll_0 : decode cX3_passAll 0 = .ok (.iconst 0, 1) := dk_3 (dk_at dksX3_passAll_0 0 rfl rfl)
theorem dX3_passAll_1 : decode cX3_passAll 1 = .ok (.istore_n 2, 1) := dk_61 (dk_at dksX3_passAll_0 1 rfl rfl)
theorem dX3_passAll_2 : decode cX3_passAll 2 = .ok (.iload_n 2, 1) := dk_28 (dk_at dksX3_passAll_0 2 rfl rfl)
theorem dX3_passAll_3 : decode cX3_passAll 3 = .ok (.iload_n 1, 1) := dk_27 (dk_at dksX3_passAll_0 3 rfl rfl)
theorem dX3_passAll_4 : decode cX3_passAll 4 = .ok (.if_icmp .ge 20, 3) := dk_162 0 20 (dk_at dksX3_passAll_0 4 rfl rfl)
theorem dX3_passAll_7 : decode cX3_passAll 7 = .ok (.aload_n 0, 1) := dk_42 (dk_at dksX3_passAll_0 7 rfl rfl)
theorem dX3_passAll_8 : decode cX3_passAll 8 = .ok (.invokevirtual 159, 3) := dk_182 0 159 (dk_at dksX3_passAll_0 8 rfl rfl)
theorem dX3_passAll_11 : decode cX3_passAll 11 = .ok (.ifCond .ne 13, 3) := dk_154 0 13 (dk_at dksX3_passAll_0 11 rfl rfl)
theorem dX3_passAll_14 : decode cX3_passAll 14 = .ok (.aload_n 0, 1) := dk_42 (dk_at dksX3_passAll_0 14 rfl rfl)
theorem dX3_passAll_15 : decode cX3_passAll 15 = .ok (.invokevirtual 163, 3) := dk_182 0 163 (dk_at dksX3_passAll_0 15 rfl rfl)
theorem dX3_passAll_18 : decode cX3_passAll 18 = .ok (.iinc 2 1, 3) := dk_132 2 1 (dk_at dksX3_passAll_0 18 rfl rfl)
theorem dX3_passAll_21 : decode cX3_passAll 21 = .ok (.goto (-19), 3) := dk_167 255 237 (dk_at dksX3_passAll_0 21 rfl rfl)
theorem dX3_passAll_24 : decode cX3_passAll 24 = .ok (.iload_n 2, 1) := dk_28 (dk_at dksX3_passAll_1 0 rfl rfl)
theorem dX3_passAll_25 : decode cX3_passAll 25 = .ok (.ireturn, 1) := dk_172 (dk_at dksX3_passAll_1 1 rfl rfl)
abbrev cX3_isOver : ByteArray := prog_11_method_5_code
def yX3_isOver : MethodName := ⟨RX3, "isOver", "()Z"⟩
def dkwX3_isOver_0 : List UInt8 := [42, 180, 0, 34, 17, 1, 144, 160, 0, 7, 4, 167, 0, 4, 3, 172]
abbrev dktX3_isOver_0 : List UInt8 := dkwX3_isOver_0 ++ []
theorem dksX3_isOver_0 : cX3_isOver.data.toList.drop 0 = dktX3_isOver_0 := by decide +kernel
theorem dX3_isOver_0 : decode cX3_isOver 0 = .ok (.aload_n 0, 1) := dk_42 (dk_at dksX3_isOver_0 0 rfl rfl)
theorem dX3_isOver_1 : decode cX3_isOver 1 = .ok (.getfield 34, 3) := dk_180 0 34 (dk_at dksX3_isOver_0 1 rfl rfl)
theorem dX3_isOver_4 : decode cX3_isOver 4 = .ok (.sipush 400, 3) := dk_17 1 144 (dk_at dksX3_isOver_0 4 rfl rfl)
theorem dX3_isOver_7 : decode cX3_isOver 7 = .ok (.if_icmp .ne 7, 3) := dk_160 0 7 (dk_at dksX3_isOver_0 7 rfl rfl)
theorem dX3_isOver_10 : decode cX3_isOver 10 = .ok (.iconst 1, 1) := dk_4 (dk_at dksX3_isOver_0 10 rfl rfl)
theorem dX3_isOver_11 : decode cX3_isOver 11 = .ok (.goto 4, 3) := dk_167 0 4 (dk_at dksX3_isOver_0 11 rfl rfl)
theorem dX3_isOver_14 : decode cX3_isOver 14 = .ok (.iconst 0, 1) := dk_3 (dk_at dksX3_isOver_0 14 rfl rfl)
theorem dX3_isOver_15 : decode cX3_isOver 15 = .ok (.ireturn, 1) := dk_172 (dk_at dksX3_isOver_0 15 rfl rfl)
abbrev cX3_pass : ByteArray := prog_11_method_29_code
def yX3_pass : MethodName := ⟨RX3, "pass", "()V"⟩
def dkwX3_pass_3 : List UInt8 := [180, 0, 30, 180, 0, 156, 112, 154, 0, 7, 42, 182, 0, 59, 177]
abbrev dktX3_pass_3 : List UInt8 := dkwX3_pass_3 ++ []
def dkwX3_pass_2 : List UInt8 := [180, 0, 34, 4, 96, 181, 0, 34, 42, 180, 0, 30, 180, 0, 156, 158, 0, 22, 42, 180, 0, 34, 42]
abbrev dktX3_pass_2 : List UInt8 := dkwX3_pass_2 ++ dktX3_pass_3
def dkwX3_pass_1 : List UInt8 := [42, 27, 182, 0, 147, 96, 184, 0, 150, 79, 132, 1, 1, 167, 255, 221, 42, 182, 0, 62, 42, 89]
abbrev dktX3_pass_1 : List UInt8 := dkwX3_pass_1 ++ dktX3_pass_2
def dkwX3_pass_0 : List UInt8 := [3, 60, 27, 42, 182, 0, 47, 162, 0, 33, 42, 180, 0, 15, 27, 17, 39, 15, 42, 180, 0, 15, 27, 46]
abbrev dktX3_pass_0 : List UInt8 := dkwX3_pass_0 ++ dktX3_pass_1
theorem dksX3_pass_0 : cX3_pass.data.toList.drop 0 = dktX3_pass_0 := by decide +kernel
theorem dksX3_pass_1 : cX3_pass.data.toList.drop 24 = dktX3_pass_1 := dk_seg dksX3_pass_0 24 rfl rfl
theorem dksX3_pass_2 : cX3_pass.data.toList.drop 46 = dktX3_pass_2 := dk_seg dksX3_pass_1 22 rfl rfl
theorem dksX3_pass_3 : cX3_pass.data.toList.drop 69 = dktX3_pass_3 := dk_seg dksX3_pass_2 23 rfl rfl
theorem dX3_pass_0 : decode cX3_pass 0 = .ok (.iconst 0, 1) := dk_3 (dk_at dksX3_pass_0 0 rfl rfl)
theorem dX3_pass_1 : decode cX3_pass 1 = .ok (.istore_n 1, 1) := dk_60 (dk_at dksX3_pass_0 1 rfl rfl)
theorem dX3_pass_2 : decode cX3_pass 2 = .ok (.iload_n 1, 1) := dk_27 (dk_at dksX3_pass_0 2 rfl rfl)
theorem dX3_pass_3 : decode cX3_pass 3 = .ok (.aload_n 0, 1) := dk_42 (dk_at dksX3_pass_0 3 rfl rfl)
theorem dX3_pass_4 : decode cX3_pass 4 = .ok (.invokevirtual 47, 3) := dk_182 0 47 (dk_at dksX3_pass_0 4 rfl rfl)
theorem dX3_pass_7 : decode cX3_pass 7 = .ok (.if_icmp .ge 33, 3) := dk_162 0 33 (dk_at dksX3_pass_0 7 rfl rfl)
theorem dX3_pass_10 : decode cX3_pass 10 = .ok (.aload_n 0, 1) := dk_42 (dk_at dksX3_pass_0 10 rfl rfl)
theorem dX3_pass_11 : decode cX3_pass 11 = .ok (.getfield 15, 3) := dk_180 0 15 (dk_at dksX3_pass_0 11 rfl rfl)
theorem dX3_pass_14 : decode cX3_pass 14 = .ok (.iload_n 1, 1) := dk_27 (dk_at dksX3_pass_0 14 rfl rfl)
theorem dX3_pass_15 : decode cX3_pass 15 = .ok (.sipush 9999, 3) := dk_17 39 15 (dk_at dksX3_pass_0 15 rfl rfl)
theorem dX3_pass_18 : decode cX3_pass 18 = .ok (.aload_n 0, 1) := dk_42 (dk_at dksX3_pass_0 18 rfl rfl)
theorem dX3_pass_19 : decode cX3_pass 19 = .ok (.getfield 15, 3) := dk_180 0 15 (dk_at dksX3_pass_0 19 rfl rfl)
theorem dX3_pass_22 : decode cX3_pass 22 = .ok (.iload_n 1, 1) := dk_27 (dk_at dksX3_pass_0 22 rfl rfl)
theorem dX3_pass_23 : decode cX3_pass 23 = .ok (.iaload, 1) := dk_46 (dk_at dksX3_pass_0 23 rfl rfl)
theorem dX3_pass_24 : decode cX3_pass 24 = .ok (.aload_n 0, 1) := dk_42 (dk_at dksX3_pass_1 0 rfl rfl)
theorem dX3_pass_25 : decode cX3_pass 25 = .ok (.iload_n 1, 1) := dk_27 (dk_at dksX3_pass_1 1 rfl rfl)
theorem dX3_pass_26 : decode cX3_pass 26 = .ok (.invokevirtual 147, 3) := dk_182 0 147 (dk_at dksX3_pass_1 2 rfl rfl)
theorem dX3_pass_29 : decode cX3_pass 29 = .ok (.iadd, 1) := dk_96 (dk_at dksX3_pass_1 5 rfl rfl)
theorem dX3_pass_30 : decode cX3_pass 30 = .ok (.invokestatic 150, 3) := dk_184 0 150 (dk_at dksX3_pass_1 6 rfl rfl)
theorem dX3_pass_33 : decode cX3_pass 33 = .ok (.iastore, 1) := dk_79 (dk_at dksX3_pass_1 9 rfl rfl)
theorem dX3_pass_34 : decode cX3_pass 34 = .ok (.iinc 1 1, 3) := dk_132 1 1 (dk_at dksX3_pass_1 10 rfl rfl)
theorem dX3_pass_37 : decode cX3_pass 37 = .ok (.goto (-35), 3) := dk_167 255 221 (dk_at dksX3_pass_1 13 rfl rfl)
theorem dX3_pass_40 : decode cX3_pass 40 = .ok (.aload_n 0, 1) := dk_42 (dk_at dksX3_pass_1 16 rfl rfl)
theorem dX3_pass_41 : decode cX3_pass 41 = .ok (.invokevirtual 62, 3) := dk_182 0 62 (dk_at dksX3_pass_1 17 rfl rfl)
theorem dX3_pass_44 : decode cX3_pass 44 = .ok (.aload_n 0, 1) := dk_42 (dk_at dksX3_pass_1 20 rfl rfl)
theorem dX3_pass_45 : decode cX3_pass 45 = .ok (.dup, 1) := dk_89 (dk_at dksX3_pass_1 21 rfl rfl)
theorem dX3_pass_46 : decode cX3_pass 46 = .ok (.getfield 34, 3) := dk_180 0 34 (dk_at dksX3_pass_2 0 rfl rfl)
theorem dX3_pass_49 : decode cX3_pass 49 = .ok (.iconst 1, 1) := dk_4 (dk_at dksX3_pass_2 3 rfl rfl)
theorem dX3_pass_50 : decode cX3_pass 50 = .ok (.iadd, 1) := dk_96 (dk_at dksX3_pass_2 4 rfl rfl)
theorem dX3_pass_51 : decode cX3_pass 51 = .ok (.putfield 34, 3) := dk_181 0 34 (dk_at dksX3_pass_2 5 rfl rfl)
theorem dX3_pass_54 : decode cX3_pass 54 = .ok (.aload_n 0, 1) := dk_42 (dk_at dksX3_pass_2 8 rfl rfl)
theorem dX3_pass_55 : decode cX3_pass 55 = .ok (.getfield 30, 3) := dk_180 0 30 (dk_at dksX3_pass_2 9 rfl rfl)
theorem dX3_pass_58 : decode cX3_pass 58 = .ok (.getfield 156, 3) := dk_180 0 156 (dk_at dksX3_pass_2 12 rfl rfl)
theorem dX3_pass_61 : decode cX3_pass 61 = .ok (.ifCond .le 22, 3) := dk_158 0 22 (dk_at dksX3_pass_2 15 rfl rfl)
theorem dX3_pass_64 : decode cX3_pass 64 = .ok (.aload_n 0, 1) := dk_42 (dk_at dksX3_pass_2 18 rfl rfl)
theorem dX3_pass_65 : decode cX3_pass 65 = .ok (.getfield 34, 3) := dk_180 0 34 (dk_at dksX3_pass_2 19 rfl rfl)
theorem dX3_pass_68 : decode cX3_pass 68 = .ok (.aload_n 0, 1) := dk_42 (dk_at dksX3_pass_2 22 rfl rfl)
theorem dX3_pass_69 : decode cX3_pass 69 = .ok (.getfield 30, 3) := dk_180 0 30 (dk_at dksX3_pass_3 0 rfl rfl)
theorem dX3_pass_72 : decode cX3_pass 72 = .ok (.getfield 156, 3) := dk_180 0 156 (dk_at dksX3_pass_3 3 rfl rfl)
theorem dX3_pass_75 : decode cX3_pass 75 = .ok (.irem, 1) := dk_112 (dk_at dksX3_pass_3 6 rfl rfl)
theorem dX3_pass_76 : decode cX3_pass 76 = .ok (.ifCond .ne 7, 3) := dk_154 0 7 (dk_at dksX3_pass_3 7 rfl rfl)
theorem dX3_pass_79 : decode cX3_pass 79 = .ok (.aload_n 0, 1) := dk_42 (dk_at dksX3_pass_3 10 rfl rfl)
theorem dX3_pass_80 : decode cX3_pass 80 = .ok (.invokevirtual 59, 3) := dk_182 0 59 (dk_at dksX3_pass_3 11 rfl rfl)
theorem dX3_pass_83 : decode cX3_pass 83 = .ok (.return_, 1) := dk_177 (dk_at dksX3_pass_3 14 rfl rfl)
abbrev cX3_whyTell : ByteArray := prog_11_method_28_code
def yX3_whyTell : MethodName := ⟨RX3, "whyTell", "(III)I"⟩
def dkwX3_whyTell_2 : List UInt8 := [182, 0, 118, 153, 0, 7, 6, 167, 0, 4, 3, 172]
abbrev dktX3_whyTell_2 : List UInt8 := dkwX3_whyTell_2 ++ []
def dkwX3_whyTell_1 : List UInt8 := [182, 0, 118, 153, 0, 12, 42, 27, 29, 182, 0, 118, 154, 0, 7, 5, 167, 0, 17, 42, 28, 29]
abbrev dktX3_whyTell_1 : List UInt8 := dkwX3_whyTell_1 ++ dktX3_whyTell_2
def dkwX3_whyTell_0 : List UInt8 := [27, 28, 159, 0, 13, 27, 29, 159, 0, 8, 28, 29, 160, 0, 7, 4, 167, 0, 39, 42, 27, 28]
abbrev dktX3_whyTell_0 : List UInt8 := dkwX3_whyTell_0 ++ dktX3_whyTell_1
theorem dksX3_whyTell_0 : cX3_whyTell.data.toList.drop 0 = dktX3_whyTell_0 := by decide +kernel
theorem dksX3_whyTell_1 : cX3_whyTell.data.toList.drop 22 = dktX3_whyTell_1 := dk_seg dksX3_whyTell_0 22 rfl rfl
theorem dksX3_whyTell_2 : cX3_whyTell.data.toList.drop 44 = dktX3_whyTell_2 := dk_seg dksX3_whyTell_1 22 rfl rfl
theorem dX3_whyTell_0 : decode cX3_whyTell 0 = .ok (.iload_n 1, 1) := dk_27 (dk_at dksX3_whyTell_0 0 rfl rfl)
theorem dX3_whyTell_1 : decode cX3_whyTell 1 = .ok (.iload_n 2, 1) := dk_28 (dk_at dksX3_whyTell_0 1 rfl rfl)
theorem dX3_whyTell_2 : decode cX3_whyTell 2 = .ok (.if_icmp .eq 13, 3) := dk_159 0 13 (dk_at dksX3_whyTell_0 2 rfl rfl)
theorem dX3_whyTell_5 : decode cX3_whyTell 5 = .ok (.iload_n 1, 1) := dk_27 (dk_at dksX3_whyTell_0 5 rfl rfl)
theorem dX3_whyTell_6 : decode cX3_whyTell 6 = .ok (.iload_n 3, 1) := dk_29 (dk_at dksX3_whyTell_0 6 rfl rfl)
theorem dX3_whyTell_7 : decode cX3_whyTell 7 = .ok (.if_icmp .eq 8, 3) := dk_159 0 8 (dk_at dksX3_whyTell_0 7 rfl rfl)
theorem dX3_whyTell_10 : decode cX3_whyTell 10 = .ok (.iload_n 2, 1) := dk_28 (dk_at dksX3_whyTell_0 10 rfl rfl)
theorem dX3_whyTell_11 : decode cX3_whyTell 11 = .ok (.iload_n 3, 1) := dk_29 (dk_at dksX3_whyTell_0 11 rfl rfl)
theorem dX3_whyTell_12 : decode cX3_whyTell 12 = .ok (.if_icmp .ne 7, 3) := dk_160 0 7 (dk_at dksX3_whyTell_0 12 rfl rfl)
theorem dX3_whyTell_15 : decode cX3_whyTell 15 = .ok (.iconst 1, 1) := dk_4 (dk_at dksX3_whyTell_0 15 rfl rfl)
theorem dX3_whyTell_16 : decode cX3_whyTell 16 = .ok (.goto 39, 3) := dk_167 0 39 (dk_at dksX3_whyTell_0 16 rfl rfl)
theorem dX3_whyTell_19 : decode cX3_whyTell 19 = .ok (.aload_n 0, 1) := dk_42 (dk_at dksX3_whyTell_0 19 rfl rfl)
theorem dX3_whyTell_20 : decode cX3_whyTell 20 = .ok (.iload_n 1, 1) := dk_27 (dk_at dksX3_whyTell_0 20 rfl rfl)
theorem dX3_whyTell_21 : decode cX3_whyTell 21 = .ok (.iload_n 2, 1) := dk_28 (dk_at dksX3_whyTell_0 21 rfl rfl)
theorem dX3_whyTell_22 : decode cX3_whyTell 22 = .ok (.invokevirtual 118, 3) := dk_182 0 118 (dk_at dksX3_whyTell_1 0 rfl rfl)
theorem dX3_whyTell_25 : decode cX3_whyTell 25 = .ok (.ifCond .eq 12, 3) := dk_153 0 12 (dk_at dksX3_whyTell_1 3 rfl rfl)
theorem dX3_whyTell_28 : decode cX3_whyTell 28 = .ok (.aload_n 0, 1) := dk_42 (dk_at dksX3_whyTell_1 6 rfl rfl)
theorem dX3_whyTell_29 : decode cX3_whyTell 29 = .ok (.iload_n 1, 1) := dk_27 (dk_at dksX3_whyTell_1 7 rfl rfl)
theorem dX3_whyTell_30 : decode cX3_whyTell 30 = .ok (.iload_n 3, 1) := dk_29 (dk_at dksX3_whyTell_1 8 rfl rfl)
theorem dX3_whyTell_31 : decode cX3_whyTell 31 = .ok (.invokevirtual 118, 3) := dk_182 0 118 (dk_at dksX3_whyTell_1 9 rfl rfl)
theorem dX3_whyTell_34 : decode cX3_whyTell 34 = .ok (.ifCond .ne 7, 3) := dk_154 0 7 (dk_at dksX3_whyTell_1 12 rfl rfl)
theorem dX3_whyTell_37 : decode cX3_whyTell 37 = .ok (.iconst 2, 1) := dk_5 (dk_at dksX3_whyTell_1 15 rfl rfl)
theorem dX3_whyTell_38 : decode cX3_whyTell 38 = .ok (.goto 17, 3) := dk_167 0 17 (dk_at dksX3_whyTell_1 16 rfl rfl)
theorem dX3_whyTell_41 : decode cX3_whyTell 41 = .ok (.aload_n 0, 1) := dk_42 (dk_at dksX3_whyTell_1 19 rfl rfl)
theorem dX3_whyTell_42 : decode cX3_whyTell 42 = .ok (.iload_n 2, 1) := dk_28 (dk_at dksX3_whyTell_1 20 rfl rfl)
theorem dX3_whyTell_43 : decode cX3_whyTell 43 = .ok (.iload_n 3, 1) := dk_29 (dk_at dksX3_whyTell_1 21 rfl rfl)
theorem dX3_whyTell_44 : decode cX3_whyTell 44 = .ok (.invokevirtual 118, 3) := dk_182 0 118 (dk_at dksX3_whyTell_2 0 rfl rfl)
theorem dX3_whyTell_47 : decode cX3_whyTell 47 = .ok (.ifCond .eq 7, 3) := dk_153 0 7 (dk_at dksX3_whyTell_2 3 rfl rfl)
theorem dX3_whyTell_50 : decode cX3_whyTell 50 = .ok (.iconst 3, 1) := dk_6 (dk_at dksX3_whyTell_2 6 rfl rfl)
theorem dX3_whyTell_51 : decode cX3_whyTell 51 = .ok (.goto 4, 3) := dk_167 0 4 (dk_at dksX3_whyTell_2 7 rfl rfl)
theorem dX3_whyTell_54 : decode cX3_whyTell 54 = .ok (.iconst 0, 1) := dk_3 (dk_at dksX3_whyTell_2 10 rfl rfl)
theorem dX3_whyTell_55 : decode cX3_whyTell 55 = .ok (.ireturn, 1) := dk_172 (dk_at dksX3_whyTell_2 11 rfl rfl)
abbrev cX3_whyVeil : ByteArray := prog_11_method_26_code
def yX3_whyVeil : MethodName := ⟨RX3, "whyVeil", "(I)I"⟩
def dkwX3_whyVeil_1 : List UInt8 := [172]
abbrev dktX3_whyVeil_1 : List UInt8 := dkwX3_whyVeil_1 ++ []
def dkwX3_whyVeil_0 : List UInt8 := [42, 27, 182, 0, 135, 153, 0, 7, 4, 167, 0, 15, 42, 180, 0, 65, 154, 0, 7, 5, 167, 0, 4, 3]
abbrev dktX3_whyVeil_0 : List UInt8 := dkwX3_whyVeil_0 ++ dktX3_whyVeil_1
theorem dksX3_whyVeil_0 : cX3_whyVeil.data.toList.drop 0 = dktX3_whyVeil_0 := by decide +kernel
theorem dksX3_whyVeil_1 : cX3_whyVeil.data.toList.drop 24 = dktX3_whyVeil_1 := dk_seg dksX3_whyVeil_0 24 rfl rfl
theorem dX3_whyVeil_0 : decode cX3_whyVeil 0 = .ok (.aload_n 0, 1) := dk_42 (dk_at dksX3_whyVeil_0 0 rfl rfl)
theorem dX3_whyVeil_1 : decode cX3_whyVeil 1 = .ok (.iload_n 1, 1) := dk_27 (dk_at dksX3_whyVeil_0 1 rfl rfl)
theorem dX3_whyVeil_2 : decode cX3_whyVeil 2 = .ok (.invokevirtual 135, 3) := dk_182 0 135 (dk_at dksX3_whyVeil_0 2 rfl rfl)
theorem dX3_whyVeil_5 : decode cX3_whyVeil 5 = .ok (.ifCond .eq 7, 3) := dk_153 0 7 (dk_at dksX3_whyVeil_0 5 rfl rfl)
theorem dX3_whyVeil_8 : decode cX3_whyVeil 8 = .ok (.iconst 1, 1) := dk_4 (dk_at dksX3_whyVeil_0 8 rfl rfl)
theorem dX3_whyVeil_9 : decode cX3_whyVeil 9 = .ok (.goto 15, 3) := dk_167 0 15 (dk_at dksX3_whyVeil_0 9 rfl rfl)
theorem dX3_whyVeil_12 : decode cX3_whyVeil 12 = .ok (.aload_n 0, 1) := dk_42 (dk_at dksX3_whyVeil_0 12 rfl rfl)
theorem dX3_whyVeil_13 : decode cX3_whyVeil 13 = .ok (.getfield 65, 3) := dk_180 0 65 (dk_at dksX3_whyVeil_0 13 rfl rfl)
theorem dX3_whyVeil_16 : decode cX3_whyVeil 16 = .ok (.ifCond .ne 7, 3) := dk_154 0 7 (dk_at dksX3_whyVeil_0 16 rfl rfl)
theorem dX3_whyVeil_19 : decode cX3_whyVeil 19 = .ok (.iconst 2, 1) := dk_5 (dk_at dksX3_whyVeil_0 19 rfl rfl)
theorem dX3_whyVeil_20 : decode cX3_whyVeil 20 = .ok (.goto 4, 3) := dk_167 0 4 (dk_at dksX3_whyVeil_0 20 rfl rfl)
theorem dX3_whyVeil_23 : decode cX3_whyVeil 23 = .ok (.iconst 0, 1) := dk_3 (dk_at dksX3_whyVeil_0 23 rfl rfl)
theorem dX3_whyVeil_24 : decode cX3_whyVeil 24 = .ok (.ireturn, 1) := dk_172 (dk_at dksX3_whyVeil_1 0 rfl rfl)
abbrev cX3_veil : ByteArray := prog_11_method_27_code
def yX3_veil : MethodName := ⟨RX3, "veil", "(I)V"⟩
def dkwX3_veil_0 : List UInt8 := [42, 89, 180, 0, 71, 4, 27, 120, 128, 181, 0, 71, 42, 89, 180, 0, 65, 4, 100, 181, 0, 65, 177]
abbrev dktX3_veil_0 : List UInt8 := dkwX3_veil_0 ++ []
theorem dksX3_veil_0 : cX3_veil.data.toList.drop 0 = dktX3_veil_0 := by decide +kernel
theorem dX3_veil_0 : decode cX3_veil 0 = .ok (.aload_n 0, 1) := dk_42 (dk_at dksX3_veil_0 0 rfl rfl)
theorem dX3_veil_1 : decode cX3_veil 1 = .ok (.dup, 1) := dk_89 (dk_at dksX3_veil_0 1 rfl rfl)
theorem dX3_veil_2 : decode cX3_veil 2 = .ok (.getfield 71, 3) := dk_180 0 71 (dk_at dksX3_veil_0 2 rfl rfl)
theorem dX3_veil_5 : decode cX3_veil 5 = .ok (.iconst 1, 1) := dk_4 (dk_at dksX3_veil_0 5 rfl rfl)
theorem dX3_veil_6 : decode cX3_veil 6 = .ok (.iload_n 1, 1) := dk_27 (dk_at dksX3_veil_0 6 rfl rfl)
theorem dX3_veil_7 : decode cX3_veil 7 = .ok (.ishl, 1) := dk_120 (dk_at dksX3_veil_0 7 rfl rfl)
theorem dX3_veil_8 : decode cX3_veil 8 = .ok (.ior, 1) := dk_128 (dk_at dksX3_veil_0 8 rfl rfl)
theorem dX3_veil_9 : decode cX3_veil 9 = .ok (.putfield 71, 3) := dk_181 0 71 (dk_at dksX3_veil_0 9 rfl rfl)
theorem dX3_veil_12 : decode cX3_veil 12 = .ok (.aload_n 0, 1) := dk_42 (dk_at dksX3_veil_0 12 rfl rfl)
theorem dX3_veil_13 : decode cX3_veil 13 = .ok (.dup, 1) := dk_89 (dk_at dksX3_veil_0 13 rfl rfl)
theorem dX3_veil_14 : decode cX3_veil 14 = .ok (.getfield 65, 3) := dk_180 0 65 (dk_at dksX3_veil_0 14 rfl rfl)
theorem dX3_veil_17 : decode cX3_veil 17 = .ok (.iconst 1, 1) := dk_4 (dk_at dksX3_veil_0 17 rfl rfl)
theorem dX3_veil_18 : decode cX3_veil 18 = .ok (.isub, 1) := dk_100 (dk_at dksX3_veil_0 18 rfl rfl)
theorem dX3_veil_19 : decode cX3_veil 19 = .ok (.putfield 65, 3) := dk_181 0 65 (dk_at dksX3_veil_0 19 rfl rfl)
theorem dX3_veil_22 : decode cX3_veil 22 = .ok (.return_, 1) := dk_177 (dk_at dksX3_veil_0 22 rfl rfl)
abbrev cX3_mays : ByteArray := prog_11_method_15_code
def yX3_mays : MethodName := ⟨RX3, "mays", "(I)I"⟩
def dkwX3_mays_1 : List UInt8 := [120, 128, 61, 132, 3, 1, 167, 255, 230, 28, 172]
abbrev dktX3_mays_1 : List UInt8 := dkwX3_mays_1 ++ []
def dkwX3_mays_0 : List UInt8 := [3, 61, 3, 62, 29, 42, 182, 0, 47, 162, 0, 24, 42, 27, 29, 182, 0, 124, 153, 0, 9, 28, 4, 29]
abbrev dktX3_mays_0 : List UInt8 := dkwX3_mays_0 ++ dktX3_mays_1
theorem dksX3_mays_0 : cX3_mays.data.toList.drop 0 = dktX3_mays_0 := by decide +kernel
theorem dksX3_mays_1 : cX3_mays.data.toList.drop 24 = dktX3_mays_1 := dk_seg dksX3_mays_0 24 rfl rfl
theorem dX3_mays_0 : decode cX3_mays 0 = .ok (.iconst 0, 1) := dk_3 (dk_at dksX3_mays_0 0 rfl rfl)
theorem dX3_mays_1 : decode cX3_mays 1 = .ok (.istore_n 2, 1) := dk_61 (dk_at dksX3_mays_0 1 rfl rfl)
theorem dX3_mays_2 : decode cX3_mays 2 = .ok (.iconst 0, 1) := dk_3 (dk_at dksX3_mays_0 2 rfl rfl)
theorem dX3_mays_3 : decode cX3_mays 3 = .ok (.istore_n 3, 1) := dk_62 (dk_at dksX3_mays_0 3 rfl rfl)
theorem dX3_mays_4 : decode cX3_mays 4 = .ok (.iload_n 3, 1) := dk_29 (dk_at dksX3_mays_0 4 rfl rfl)
theorem dX3_mays_5 : decode cX3_mays 5 = .ok (.aload_n 0, 1) := dk_42 (dk_at dksX3_mays_0 5 rfl rfl)
theorem dX3_mays_6 : decode cX3_mays 6 = .ok (.invokevirtual 47, 3) := dk_182 0 47 (dk_at dksX3_mays_0 6 rfl rfl)
theorem dX3_mays_9 : decode cX3_mays 9 = .ok (.if_icmp .ge 24, 3) := dk_162 0 24 (dk_at dksX3_mays_0 9 rfl rfl)
theorem dX3_mays_12 : decode cX3_mays 12 = .ok (.aload_n 0, 1) := dk_42 (dk_at dksX3_mays_0 12 rfl rfl)
theorem dX3_mays_13 : decode cX3_mays 13 = .ok (.iload_n 1, 1) := dk_27 (dk_at dksX3_mays_0 13 rfl rfl)
theorem dX3_mays_14 : decode cX3_mays 14 = .ok (.iload_n 3, 1) := dk_29 (dk_at dksX3_mays_0 14 rfl rfl)
theorem dX3_mays_15 : decode cX3_mays 15 = .ok (.invokevirtual 124, 3) := dk_182 0 124 (dk_at dksX3_mays_0 15 rfl rfl)
theorem dX3_mays_18 : decode cX3_mays 18 = .ok (.ifCond .eq 9, 3) := dk_153 0 9 (dk_at dksX3_mays_0 18 rfl rfl)
theorem dX3_mays_21 : decode cX3_mays 21 = .ok (.iload_n 2, 1) := dk_28 (dk_at dksX3_mays_0 21 rfl rfl)
theorem dX3_mays_22 : decode cX3_mays 22 = .ok (.iconst 1, 1) := dk_4 (dk_at dksX3_mays_0 22 rfl rfl)
theorem dX3_mays_23 : decode cX3_mays 23 = .ok (.iload_n 3, 1) := dk_29 (dk_at dksX3_mays_0 23 rfl rfl)
theorem dX3_mays_24 : decode cX3_mays 24 = .ok (.ishl, 1) := dk_120 (dk_at dksX3_mays_1 0 rfl rfl)
theorem dX3_mays_25 : decode cX3_mays 25 = .ok (.ior, 1) := dk_128 (dk_at dksX3_mays_1 1 rfl rfl)
theorem dX3_mays_26 : decode cX3_mays 26 = .ok (.istore_n 2, 1) := dk_61 (dk_at dksX3_mays_1 2 rfl rfl)
theorem dX3_mays_27 : decode cX3_mays 27 = .ok (.iinc 3 1, 3) := dk_132 3 1 (dk_at dksX3_mays_1 3 rfl rfl)
theorem dX3_mays_30 : decode cX3_mays 30 = .ok (.goto (-26), 3) := dk_167 255 230 (dk_at dksX3_mays_1 6 rfl rfl)
theorem dX3_mays_33 : decode cX3_mays 33 = .ok (.iload_n 2, 1) := dk_28 (dk_at dksX3_mays_1 9 rfl rfl)
theorem dX3_mays_34 : decode cX3_mays 34 = .ok (.ireturn, 1) := dk_172 (dk_at dksX3_mays_1 10 rfl rfl)
abbrev cX3_drawn : ByteArray := prog_11_method_33_code
def yX3_drawn : MethodName := ⟨RX3, "drawn", "(II)I"⟩
def dkwX3_drawn_2 : List UInt8 := [132, 3, 1, 167, 255, 213, 29, 172]
abbrev dktX3_drawn_2 : List UInt8 := dkwX3_drawn_2 ++ []
def dkwX3_drawn_1 : List UInt8 := [42, 182, 0, 47, 162, 0, 15, 42, 21, 4, 182, 0, 196, 132, 4, 1, 167, 255, 238, 42, 182, 0, 163]
abbrev dktX3_drawn_1 : List UInt8 := dkwX3_drawn_1 ++ dktX3_drawn_2
def dkwX3_drawn_0 : List UInt8 := [42, 28, 181, 0, 166, 3, 62, 29, 27, 162, 0, 44, 42, 182, 0, 159, 154, 0, 37, 3, 54, 4, 21, 4]
abbrev dktX3_drawn_0 : List UInt8 := dkwX3_drawn_0 ++ dktX3_drawn_1
theorem dksX3_drawn_0 : cX3_drawn.data.toList.drop 0 = dktX3_drawn_0 := by decide +kernel
theorem dksX3_drawn_1 : cX3_drawn.data.toList.drop 24 = dktX3_drawn_1 := dk_seg dksX3_drawn_0 24 rfl rfl
theorem dksX3_drawn_2 : cX3_drawn.data.toList.drop 47 = dktX3_drawn_2 := dk_seg dksX3_drawn_1 23 rfl rfl
theorem dX3_drawn_0 : decode cX3_drawn 0 = .ok (.aload_n 0, 1) := dk_42 (dk_at dksX3_drawn_0 0 rfl rfl)
theorem dX3_drawn_1 : decode cX3_drawn 1 = .ok (.iload_n 2, 1) := dk_28 (dk_at dksX3_drawn_0 1 rfl rfl)
theorem dX3_drawn_2 : decode cX3_drawn 2 = .ok (.putfield 166, 3) := dk_181 0 166 (dk_at dksX3_drawn_0 2 rfl rfl)
theorem dX3_drawn_5 : decode cX3_drawn 5 = .ok (.iconst 0, 1) := dk_3 (dk_at dksX3_drawn_0 5 rfl rfl)
theorem dX3_drawn_6 : decode cX3_drawn 6 = .ok (.istore_n 3, 1) := dk_62 (dk_at dksX3_drawn_0 6 rfl rfl)
theorem dX3_drawn_7 : decode cX3_drawn 7 = .ok (.iload_n 3, 1) := dk_29 (dk_at dksX3_drawn_0 7 rfl rfl)
theorem dX3_drawn_8 : decode cX3_drawn 8 = .ok (.iload_n 1, 1) := dk_27 (dk_at dksX3_drawn_0 8 rfl rfl)
theorem dX3_drawn_9 : decode cX3_drawn 9 = .ok (.if_icmp .ge 44, 3) := dk_162 0 44 (dk_at dksX3_drawn_0 9 rfl rfl)
theorem dX3_drawn_12 : decode cX3_drawn 12 = .ok (.aload_n 0, 1) := dk_42 (dk_at dksX3_drawn_0 12 rfl rfl)
theorem dX3_drawn_13 : decode cX3_drawn 13 = .ok (.invokevirtual 159, 3) := dk_182 0 159 (dk_at dksX3_drawn_0 13 rfl rfl)
theorem dX3_drawn_16 : decode cX3_drawn 16 = .ok (.ifCond .ne 37, 3) := dk_154 0 37 (dk_at dksX3_drawn_0 16 rfl rfl)
theorem dX3_drawn_19 : decode cX3_drawn 19 = .ok (.iconst 0, 1) := dk_3 (dk_at dksX3_drawn_0 19 rfl rfl)
theorem dX3_drawn_20 : decode cX3_drawn 20 = .ok (.istore 4, 2) := dk_54 4 (dk_at dksX3_drawn_0 20 rfl rfl)
theorem dX3_drawn_22 : decode cX3_drawn 22 = .ok (.iload 4, 2) := dk_21 4 (dk_at dksX3_drawn_0 22 rfl rfl)
theorem dX3_drawn_24 : decode cX3_drawn 24 = .ok (.aload_n 0, 1) := dk_42 (dk_at dksX3_drawn_1 0 rfl rfl)
theorem dX3_drawn_25 : decode cX3_drawn 25 = .ok (.invokevirtual 47, 3) := dk_182 0 47 (dk_at dksX3_drawn_1 1 rfl rfl)
theorem dX3_drawn_28 : decode cX3_drawn 28 = .ok (.if_icmp .ge 15, 3) := dk_162 0 15 (dk_at dksX3_drawn_1 4 rfl rfl)
theorem dX3_drawn_31 : decode cX3_drawn 31 = .ok (.aload_n 0, 1) := dk_42 (dk_at dksX3_drawn_1 7 rfl rfl)
theorem dX3_drawn_32 : decode cX3_drawn 32 = .ok (.iload 4, 2) := dk_21 4 (dk_at dksX3_drawn_1 8 rfl rfl)
theorem dX3_drawn_34 : decode cX3_drawn 34 = .ok (.invokevirtual 196, 3) := dk_182 0 196 (dk_at dksX3_drawn_1 10 rfl rfl)
theorem dX3_drawn_37 : decode cX3_drawn 37 = .ok (.iinc 4 1, 3) := dk_132 4 1 (dk_at dksX3_drawn_1 13 rfl rfl)
theorem dX3_drawn_40 : decode cX3_drawn 40 = .ok (.goto (-18), 3) := dk_167 255 238 (dk_at dksX3_drawn_1 16 rfl rfl)
theorem dX3_drawn_43 : decode cX3_drawn 43 = .ok (.aload_n 0, 1) := dk_42 (dk_at dksX3_drawn_1 19 rfl rfl)
theorem dX3_drawn_44 : decode cX3_drawn 44 = .ok (.invokevirtual 163, 3) := dk_182 0 163 (dk_at dksX3_drawn_1 20 rfl rfl)
theorem dX3_drawn_47 : decode cX3_drawn 47 = .ok (.iinc 3 1, 3) := dk_132 3 1 (dk_at dksX3_drawn_2 0 rfl rfl)
theorem dX3_drawn_50 : decode cX3_drawn 50 = .ok (.goto (-43), 3) := dk_167 255 213 (dk_at dksX3_drawn_2 3 rfl rfl)
theorem dX3_drawn_53 : decode cX3_drawn 53 = .ok (.iload_n 3, 1) := dk_29 (dk_at dksX3_drawn_2 6 rfl rfl)
theorem dX3_drawn_54 : decode cX3_drawn 54 = .ok (.ireturn, 1) := dk_172 (dk_at dksX3_drawn_2 7 rfl rfl)
abbrev cX3_drawsFor : ByteArray := prog_11_method_32_code
def yX3_drawsFor : MethodName := ⟨RX3, "drawsFor", "(I)V"⟩
def dkwX3_drawsFor_4 : List UInt8 := [182, 0, 189, 154, 0, 8, 42, 27, 182, 0, 192, 177]
abbrev dktX3_drawsFor_4 : List UInt8 := dkwX3_drawsFor_4 ++ []
def dkwX3_drawsFor_3 : List UInt8 := [62, 42, 27, 29, 182, 0, 183, 154, 0, 9, 42, 27, 29, 182, 0, 186, 28, 7, 160, 0, 16, 42, 27]
abbrev dktX3_drawsFor_3 : List UInt8 := dkwX3_drawsFor_3 ++ dktX3_drawsFor_4
def dkwX3_drawsFor_2 : List UInt8 := [154, 0, 11, 42, 27, 29, 21, 4, 182, 0, 179, 28, 6, 160, 0, 27, 42, 42, 182, 0, 47, 182, 0, 170]
abbrev dktX3_drawsFor_2 : List UInt8 := dkwX3_drawsFor_2 ++ dktX3_drawsFor_3
def dkwX3_drawsFor_1 : List UInt8 := [182, 0, 170, 62, 42, 42, 182, 0, 47, 182, 0, 170, 54, 4, 42, 27, 29, 21, 4, 182, 0, 175]
abbrev dktX3_drawsFor_1 : List UInt8 := dkwX3_drawsFor_1 ++ dktX3_drawsFor_2
def dkwX3_drawsFor_0 : List UInt8 := [42, 16, 6, 182, 0, 170, 61, 28, 6, 162, 0, 48, 42, 182, 0, 173, 158, 0, 41, 42, 42, 182, 0, 173]
abbrev dktX3_drawsFor_0 : List UInt8 := dkwX3_drawsFor_0 ++ dktX3_drawsFor_1
theorem dksX3_drawsFor_0 : cX3_drawsFor.data.toList.drop 0 = dktX3_drawsFor_0 := by decide +kernel
theorem dksX3_drawsFor_1 : cX3_drawsFor.data.toList.drop 24 = dktX3_drawsFor_1 := dk_seg dksX3_drawsFor_0 24 rfl rfl
theorem dksX3_drawsFor_2 : cX3_drawsFor.data.toList.drop 46 = dktX3_drawsFor_2 := dk_seg dksX3_drawsFor_1 22 rfl rfl
theorem dksX3_drawsFor_3 : cX3_drawsFor.data.toList.drop 70 = dktX3_drawsFor_3 := dk_seg dksX3_drawsFor_2 24 rfl rfl
theorem dksX3_drawsFor_4 : cX3_drawsFor.data.toList.drop 93 = dktX3_drawsFor_4 := dk_seg dksX3_drawsFor_3 23 rfl rfl
theorem dX3_drawsFor_0 : decode cX3_drawsFor 0 = .ok (.aload_n 0, 1) := dk_42 (dk_at dksX3_drawsFor_0 0 rfl rfl)
theorem dX3_drawsFor_1 : decode cX3_drawsFor 1 = .ok (.bipush 6, 2) := dk_16 6 (dk_at dksX3_drawsFor_0 1 rfl rfl)
theorem dX3_drawsFor_3 : decode cX3_drawsFor 3 = .ok (.invokevirtual 170, 3) := dk_182 0 170 (dk_at dksX3_drawsFor_0 3 rfl rfl)
theorem dX3_drawsFor_6 : decode cX3_drawsFor 6 = .ok (.istore_n 2, 1) := dk_61 (dk_at dksX3_drawsFor_0 6 rfl rfl)
theorem dX3_drawsFor_7 : decode cX3_drawsFor 7 = .ok (.iload_n 2, 1) := dk_28 (dk_at dksX3_drawsFor_0 7 rfl rfl)
theorem dX3_drawsFor_8 : decode cX3_drawsFor 8 = .ok (.iconst 3, 1) := dk_6 (dk_at dksX3_drawsFor_0 8 rfl rfl)
theorem dX3_drawsFor_9 : decode cX3_drawsFor 9 = .ok (.if_icmp .ge 48, 3) := dk_162 0 48 (dk_at dksX3_drawsFor_0 9 rfl rfl)
theorem dX3_drawsFor_12 : decode cX3_drawsFor 12 = .ok (.aload_n 0, 1) := dk_42 (dk_at dksX3_drawsFor_0 12 rfl rfl)
theorem dX3_drawsFor_13 : decode cX3_drawsFor 13 = .ok (.invokevirtual 173, 3) := dk_182 0 173 (dk_at dksX3_drawsFor_0 13 rfl rfl)
theorem dX3_drawsFor_16 : decode cX3_drawsFor 16 = .ok (.ifCond .le 41, 3) := dk_158 0 41 (dk_at dksX3_drawsFor_0 16 rfl rfl)
theorem dX3_drawsFor_19 : decode cX3_drawsFor 19 = .ok (.aload_n 0, 1) := dk_42 (dk_at dksX3_drawsFor_0 19 rfl rfl)
theorem dX3_drawsFor_20 : decode cX3_drawsFor 20 = .ok (.aload_n 0, 1) := dk_42 (dk_at dksX3_drawsFor_0 20 rfl rfl)
theorem dX3_drawsFor_21 : decode cX3_drawsFor 21 = .ok (.invokevirtual 173, 3) := dk_182 0 173 (dk_at dksX3_drawsFor_0 21 rfl rfl)
theorem dX3_drawsFor_24 : decode cX3_drawsFor 24 = .ok (.invokevirtual 170, 3) := dk_182 0 170 (dk_at dksX3_drawsFor_1 0 rfl rfl)
theorem dX3_drawsFor_27 : decode cX3_drawsFor 27 = .ok (.istore_n 3, 1) := dk_62 (dk_at dksX3_drawsFor_1 3 rfl rfl)
theorem dX3_drawsFor_28 : decode cX3_drawsFor 28 = .ok (.aload_n 0, 1) := dk_42 (dk_at dksX3_drawsFor_1 4 rfl rfl)
theorem dX3_drawsFor_29 : decode cX3_drawsFor 29 = .ok (.aload_n 0, 1) := dk_42 (dk_at dksX3_drawsFor_1 5 rfl rfl)
theorem dX3_drawsFor_30 : decode cX3_drawsFor 30 = .ok (.invokevirtual 47, 3) := dk_182 0 47 (dk_at dksX3_drawsFor_1 6 rfl rfl)
theorem dX3_drawsFor_33 : decode cX3_drawsFor 33 = .ok (.invokevirtual 170, 3) := dk_182 0 170 (dk_at dksX3_drawsFor_1 9 rfl rfl)
theorem dX3_drawsFor_36 : decode cX3_drawsFor 36 = .ok (.istore 4, 2) := dk_54 4 (dk_at dksX3_drawsFor_1 12 rfl rfl)
theorem dX3_drawsFor_38 : decode cX3_drawsFor 38 = .ok (.aload_n 0, 1) := dk_42 (dk_at dksX3_drawsFor_1 14 rfl rfl)
theorem dX3_drawsFor_39 : decode cX3_drawsFor 39 = .ok (.iload_n 1, 1) := dk_27 (dk_at dksX3_drawsFor_1 15 rfl rfl)
theorem dX3_drawsFor_40 : decode cX3_drawsFor 40 = .ok (.iload_n 3, 1) := dk_29 (dk_at dksX3_drawsFor_1 16 rfl rfl)
theorem dX3_drawsFor_41 : decode cX3_drawsFor 41 = .ok (.iload 4, 2) := dk_21 4 (dk_at dksX3_drawsFor_1 17 rfl rfl)
theorem dX3_drawsFor_43 : decode cX3_drawsFor 43 = .ok (.invokevirtual 175, 3) := dk_182 0 175 (dk_at dksX3_drawsFor_1 19 rfl rfl)
theorem dX3_drawsFor_46 : decode cX3_drawsFor 46 = .ok (.ifCond .ne 11, 3) := dk_154 0 11 (dk_at dksX3_drawsFor_2 0 rfl rfl)
theorem dX3_drawsFor_49 : decode cX3_drawsFor 49 = .ok (.aload_n 0, 1) := dk_42 (dk_at dksX3_drawsFor_2 3 rfl rfl)
theorem dX3_drawsFor_50 : decode cX3_drawsFor 50 = .ok (.iload_n 1, 1) := dk_27 (dk_at dksX3_drawsFor_2 4 rfl rfl)
theorem dX3_drawsFor_51 : decode cX3_drawsFor 51 = .ok (.iload_n 3, 1) := dk_29 (dk_at dksX3_drawsFor_2 5 rfl rfl)
theorem dX3_drawsFor_52 : decode cX3_drawsFor 52 = .ok (.iload 4, 2) := dk_21 4 (dk_at dksX3_drawsFor_2 6 rfl rfl)
theorem dX3_drawsFor_54 : decode cX3_drawsFor 54 = .ok (.invokevirtual 179, 3) := dk_182 0 179 (dk_at dksX3_drawsFor_2 8 rfl rfl)
theorem dX3_drawsFor_57 : decode cX3_drawsFor 57 = .ok (.iload_n 2, 1) := dk_28 (dk_at dksX3_drawsFor_2 11 rfl rfl)
theorem dX3_drawsFor_58 : decode cX3_drawsFor 58 = .ok (.iconst 3, 1) := dk_6 (dk_at dksX3_drawsFor_2 12 rfl rfl)
theorem dX3_drawsFor_59 : decode cX3_drawsFor 59 = .ok (.if_icmp .ne 27, 3) := dk_160 0 27 (dk_at dksX3_drawsFor_2 13 rfl rfl)
theorem dX3_drawsFor_62 : decode cX3_drawsFor 62 = .ok (.aload_n 0, 1) := dk_42 (dk_at dksX3_drawsFor_2 16 rfl rfl)
theorem dX3_drawsFor_63 : decode cX3_drawsFor 63 = .ok (.aload_n 0, 1) := dk_42 (dk_at dksX3_drawsFor_2 17 rfl rfl)
theorem dX3_drawsFor_64 : decode cX3_drawsFor 64 = .ok (.invokevirtual 47, 3) := dk_182 0 47 (dk_at dksX3_drawsFor_2 18 rfl rfl)
theorem dX3_drawsFor_67 : decode cX3_drawsFor 67 = .ok (.invokevirtual 170, 3) := dk_182 0 170 (dk_at dksX3_drawsFor_2 21 rfl rfl)
theorem dX3_drawsFor_70 : decode cX3_drawsFor 70 = .ok (.istore_n 3, 1) := dk_62 (dk_at dksX3_drawsFor_3 0 rfl rfl)
theorem dX3_drawsFor_71 : decode cX3_drawsFor 71 = .ok (.aload_n 0, 1) := dk_42 (dk_at dksX3_drawsFor_3 1 rfl rfl)
theorem dX3_drawsFor_72 : decode cX3_drawsFor 72 = .ok (.iload_n 1, 1) := dk_27 (dk_at dksX3_drawsFor_3 2 rfl rfl)
theorem dX3_drawsFor_73 : decode cX3_drawsFor 73 = .ok (.iload_n 3, 1) := dk_29 (dk_at dksX3_drawsFor_3 3 rfl rfl)
theorem dX3_drawsFor_74 : decode cX3_drawsFor 74 = .ok (.invokevirtual 183, 3) := dk_182 0 183 (dk_at dksX3_drawsFor_3 4 rfl rfl)
theorem dX3_drawsFor_77 : decode cX3_drawsFor 77 = .ok (.ifCond .ne 9, 3) := dk_154 0 9 (dk_at dksX3_drawsFor_3 7 rfl rfl)
theorem dX3_drawsFor_80 : decode cX3_drawsFor 80 = .ok (.aload_n 0, 1) := dk_42 (dk_at dksX3_drawsFor_3 10 rfl rfl)
theorem dX3_drawsFor_81 : decode cX3_drawsFor 81 = .ok (.iload_n 1, 1) := dk_27 (dk_at dksX3_drawsFor_3 11 rfl rfl)
theorem dX3_drawsFor_82 : decode cX3_drawsFor 82 = .ok (.iload_n 3, 1) := dk_29 (dk_at dksX3_drawsFor_3 12 rfl rfl)
theorem dX3_drawsFor_83 : decode cX3_drawsFor 83 = .ok (.invokevirtual 186, 3) := dk_182 0 186 (dk_at dksX3_drawsFor_3 13 rfl rfl)
theorem dX3_drawsFor_86 : decode cX3_drawsFor 86 = .ok (.iload_n 2, 1) := dk_28 (dk_at dksX3_drawsFor_3 16 rfl rfl)
theorem dX3_drawsFor_87 : decode cX3_drawsFor 87 = .ok (.iconst 4, 1) := dk_7 (dk_at dksX3_drawsFor_3 17 rfl rfl)
theorem dX3_drawsFor_88 : decode cX3_drawsFor 88 = .ok (.if_icmp .ne 16, 3) := dk_160 0 16 (dk_at dksX3_drawsFor_3 18 rfl rfl)
theorem dX3_drawsFor_91 : decode cX3_drawsFor 91 = .ok (.aload_n 0, 1) := dk_42 (dk_at dksX3_drawsFor_3 21 rfl rfl)
theorem dX3_drawsFor_92 : decode cX3_drawsFor 92 = .ok (.iload_n 1, 1) := dk_27 (dk_at dksX3_drawsFor_3 22 rfl rfl)
theorem dX3_drawsFor_93 : decode cX3_drawsFor 93 = .ok (.invokevirtual 189, 3) := dk_182 0 189 (dk_at dksX3_drawsFor_4 0 rfl rfl)
theorem dX3_drawsFor_96 : decode cX3_drawsFor 96 = .ok (.ifCond .ne 8, 3) := dk_154 0 8 (dk_at dksX3_drawsFor_4 3 rfl rfl)
theorem dX3_drawsFor_99 : decode cX3_drawsFor 99 = .ok (.aload_n 0, 1) := dk_42 (dk_at dksX3_drawsFor_4 6 rfl rfl)
theorem dX3_drawsFor_100 : decode cX3_drawsFor 100 = .ok (.iload_n 1, 1) := dk_27 (dk_at dksX3_drawsFor_4 7 rfl rfl)
theorem dX3_drawsFor_101 : decode cX3_drawsFor 101 = .ok (.invokevirtual 192, 3) := dk_182 0 192 (dk_at dksX3_drawsFor_4 8 rfl rfl)
theorem dX3_drawsFor_104 : decode cX3_drawsFor 104 = .ok (.return_, 1) := dk_177 (dk_at dksX3_drawsFor_4 11 rfl rfl)
abbrev cX3_draw : ByteArray := prog_11_method_31_code
def yX3_draw : MethodName := ⟨RX3, "draw", "(I)I"⟩
def dkwX3_draw_1 : List UInt8 := [172]
abbrev dktX3_draw_1 : List UInt8 := dkwX3_draw_1 ++ []
def dkwX3_draw_0 : List UInt8 := [42, 42, 180, 0, 166, 18, 169, 104, 17, 48, 57, 96, 181, 0, 166, 42, 180, 0, 166, 16, 8, 124, 27, 112]
abbrev dktX3_draw_0 : List UInt8 := dkwX3_draw_0 ++ dktX3_draw_1
theorem dksX3_draw_0 : cX3_draw.data.toList.drop 0 = dktX3_draw_0 := by decide +kernel
theorem dksX3_draw_1 : cX3_draw.data.toList.drop 24 = dktX3_draw_1 := dk_seg dksX3_draw_0 24 rfl rfl
theorem dX3_draw_0 : decode cX3_draw 0 = .ok (.aload_n 0, 1) := dk_42 (dk_at dksX3_draw_0 0 rfl rfl)
theorem dX3_draw_1 : decode cX3_draw 1 = .ok (.aload_n 0, 1) := dk_42 (dk_at dksX3_draw_0 1 rfl rfl)
theorem dX3_draw_2 : decode cX3_draw 2 = .ok (.getfield 166, 3) := dk_180 0 166 (dk_at dksX3_draw_0 2 rfl rfl)
theorem dX3_draw_5 : decode cX3_draw 5 = .ok (.ldc 169, 2) := dk_18 169 (dk_at dksX3_draw_0 5 rfl rfl)
theorem dX3_draw_7 : decode cX3_draw 7 = .ok (.imul, 1) := dk_104 (dk_at dksX3_draw_0 7 rfl rfl)
theorem dX3_draw_8 : decode cX3_draw 8 = .ok (.sipush 12345, 3) := dk_17 48 57 (dk_at dksX3_draw_0 8 rfl rfl)
theorem dX3_draw_11 : decode cX3_draw 11 = .ok (.iadd, 1) := dk_96 (dk_at dksX3_draw_0 11 rfl rfl)
theorem dX3_draw_12 : decode cX3_draw 12 = .ok (.putfield 166, 3) := dk_181 0 166 (dk_at dksX3_draw_0 12 rfl rfl)
theorem dX3_draw_15 : decode cX3_draw 15 = .ok (.aload_n 0, 1) := dk_42 (dk_at dksX3_draw_0 15 rfl rfl)
theorem dX3_draw_16 : decode cX3_draw 16 = .ok (.getfield 166, 3) := dk_180 0 166 (dk_at dksX3_draw_0 16 rfl rfl)
theorem dX3_draw_19 : decode cX3_draw 19 = .ok (.bipush 8, 2) := dk_16 8 (dk_at dksX3_draw_0 19 rfl rfl)
theorem dX3_draw_21 : decode cX3_draw 21 = .ok (.iushr, 1) := dk_124 (dk_at dksX3_draw_0 21 rfl rfl)
theorem dX3_draw_22 : decode cX3_draw 22 = .ok (.iload_n 1, 1) := dk_27 (dk_at dksX3_draw_0 22 rfl rfl)
theorem dX3_draw_23 : decode cX3_draw 23 = .ok (.irem, 1) := dk_112 (dk_at dksX3_draw_0 23 rfl rfl)
theorem dX3_draw_24 : decode cX3_draw 24 = .ok (.ireturn, 1) := dk_172 (dk_at dksX3_draw_1 0 rfl rfl)
abbrev cX3_goods : ByteArray := prog_11_method_7_code
def yX3_goods : MethodName := ⟨RX3, "goods", "()I"⟩
def dkwX3_goods_0 : List UInt8 := [42, 180, 0, 30, 180, 0, 94, 182, 0, 89, 172]
abbrev dktX3_goods_0 : List UInt8 := dkwX3_goods_0 ++ []
theorem dksX3_goods_0 : cX3_goods.data.toList.drop 0 = dktX3_goods_0 := by decide +kernel
theorem dX3_goods_0 : decode cX3_goods 0 = .ok (.aload_n 0, 1) := dk_42 (dk_at dksX3_goods_0 0 rfl rfl)
theorem dX3_goods_1 : decode cX3_goods 1 = .ok (.getfield 30, 3) := dk_180 0 30 (dk_at dksX3_goods_0 1 rfl rfl)
theorem dX3_goods_4 : decode cX3_goods 4 = .ok (.getfield 94, 3) := dk_180 0 94 (dk_at dksX3_goods_0 4 rfl rfl)
theorem dX3_goods_7 : decode cX3_goods 7 = .ok (.invokevirtual 89, 3) := dk_182 0 89 (dk_at dksX3_goods_0 7 rfl rfl)
theorem dX3_goods_10 : decode cX3_goods 10 = .ok (.ireturn, 1) := dk_172 (dk_at dksX3_goods_0 10 rfl rfl)
abbrev cX3_left : ByteArray := prog_11_method_20_code
def yX3_left : MethodName := ⟨RX3, "left", "(I)I"⟩
def dkwX3_left_0 : List UInt8 := [42, 42, 180, 0, 24, 27, 182, 0, 127, 172]
abbrev dktX3_left_0 : List UInt8 := dkwX3_left_0 ++ []
theorem dksX3_left_0 : cX3_left.data.toList.drop 0 = dktX3_left_0 := by decide +kernel
theorem dX3_left_0 : decode cX3_left 0 = .ok (.aload_n 0, 1) := dk_42 (dk_at dksX3_left_0 0 rfl rfl)
theorem dX3_left_1 : decode cX3_left 1 = .ok (.aload_n 0, 1) := dk_42 (dk_at dksX3_left_0 1 rfl rfl)
theorem dX3_left_2 : decode cX3_left 2 = .ok (.getfield 24, 3) := dk_180 0 24 (dk_at dksX3_left_0 2 rfl rfl)
theorem dX3_left_5 : decode cX3_left 5 = .ok (.iload_n 1, 1) := dk_27 (dk_at dksX3_left_0 5 rfl rfl)
theorem dX3_left_6 : decode cX3_left 6 = .ok (.invokevirtual 127, 3) := dk_182 0 127 (dk_at dksX3_left_0 6 rfl rfl)
theorem dX3_left_9 : decode cX3_left 9 = .ok (.ireturn, 1) := dk_172 (dk_at dksX3_left_0 9 rfl rfl)
abbrev cX4_init : ByteArray := prog_10_method_1_code
def yX4_init : MethodName := ⟨RX4, "<init>", "()V"⟩
def dkwX4_init_0 : List UInt8 := [42, 183, 0, 1, 42, 187, 0, 7, 89, 183, 0, 9, 181, 0, 10, 177]
abbrev dktX4_init_0 : List UInt8 := dkwX4_init_0 ++ []
theorem dksX4_init_0 : cX4_init.data.toList.drop 0 = dktX4_init_0 := by decide +kernel
theorem dX4_init_0 : decode cX4_init 0 = .ok (.aload_n 0, 1) := dk_42 (dk_at dksX4_init_0 0 rfl rfl)
theorem dX4_init_1 : decode cX4_init 1 = .ok (.invokespecial 1, 3) := dk_183 0 1 (dk_at dksX4_init_0 1 rfl rfl)
theorem dX4_init_4 : decode cX4_init 4 = .ok (.aload_n 0, 1) := dk_42 (dk_at dksX4_init_0 4 rfl rfl)
theorem dX4_init_5 : decode cX4_init 5 = .ok (.new 7, 3) := dk_187 0 7 (dk_at dksX4_init_0 5 rfl rfl)
theorem dX4_init_8 : decode cX4_init 8 = .ok (.dup, 1) := dk_89 (dk_at dksX4_init_0 8 rfl rfl)
theorem dX4_init_9 : decode cX4_init 9 = .ok (.invokespecial 9, 3) := dk_183 0 9 (dk_at dksX4_init_0 9 rfl rfl)
theorem dX4_init_12 : decode cX4_init 12 = .ok (.putfield 10, 3) := dk_181 0 10 (dk_at dksX4_init_0 12 rfl rfl)
theorem dX4_init_15 : decode cX4_init 15 = .ok (.return_, 1) := dk_177 (dk_at dksX4_init_0 15 rfl rfl)
abbrev cX6_init : ByteArray := prog_18_method_1_code
def yX6_init : MethodName := ⟨RX6, "<init>", "([BII)V"⟩
def dkwX6_init_1 : List UInt8 := [181, 0, 25, 177]
abbrev dktX6_init_1 : List UInt8 := dkwX6_init_1 ++ []
def dkwX6_init_0 : List UInt8 := [42, 183, 0, 3, 42, 18, 9, 181, 0, 11, 42, 43, 181, 0, 17, 42, 28, 181, 0, 21, 42, 29]
abbrev dktX6_init_0 : List UInt8 := dkwX6_init_0 ++ dktX6_init_1
theorem dksX6_init_0 : cX6_init.data.toList.drop 0 = dktX6_init_0 := by decide +kernel
theorem dksX6_init_1 : cX6_init.data.toList.drop 22 = dktX6_init_1 := dk_seg dksX6_init_0 22 rfl rfl
theorem dX6_init_0 : decode cX6_init 0 = .ok (.aload_n 0, 1) := dk_42 (dk_at dksX6_init_0 0 rfl rfl)
theorem dX6_init_1 : decode cX6_init 1 = .ok (.invokespecial 3, 3) := dk_183 0 3 (dk_at dksX6_init_0 1 rfl rfl)
theorem dX6_init_4 : decode cX6_init 4 = .ok (.aload_n 0, 1) := dk_42 (dk_at dksX6_init_0 4 rfl rfl)
theorem dX6_init_5 : decode cX6_init 5 = .ok (.ldc 9, 2) := dk_18 9 (dk_at dksX6_init_0 5 rfl rfl)
theorem dX6_init_7 : decode cX6_init 7 = .ok (.putfield 11, 3) := dk_181 0 11 (dk_at dksX6_init_0 7 rfl rfl)
theorem dX6_init_10 : decode cX6_init 10 = .ok (.aload_n 0, 1) := dk_42 (dk_at dksX6_init_0 10 rfl rfl)
theorem dX6_init_11 : decode cX6_init 11 = .ok (.aload_n 1, 1) := dk_43 (dk_at dksX6_init_0 11 rfl rfl)
theorem dX6_init_12 : decode cX6_init 12 = .ok (.putfield 17, 3) := dk_181 0 17 (dk_at dksX6_init_0 12 rfl rfl)
theorem dX6_init_15 : decode cX6_init 15 = .ok (.aload_n 0, 1) := dk_42 (dk_at dksX6_init_0 15 rfl rfl)
theorem dX6_init_16 : decode cX6_init 16 = .ok (.iload_n 2, 1) := dk_28 (dk_at dksX6_init_0 16 rfl rfl)
theorem dX6_init_17 : decode cX6_init 17 = .ok (.putfield 21, 3) := dk_181 0 21 (dk_at dksX6_init_0 17 rfl rfl)
theorem dX6_init_20 : decode cX6_init 20 = .ok (.aload_n 0, 1) := dk_42 (dk_at dksX6_init_0 20 rfl rfl)
theorem dX6_init_21 : decode cX6_init 21 = .ok (.iload_n 3, 1) := dk_29 (dk_at dksX6_init_0 21 rfl rfl)
theorem dX6_init_22 : decode cX6_init 22 = .ok (.putfield 25, 3) := dk_181 0 25 (dk_at dksX6_init_1 0 rfl rfl)
theorem dX6_init_25 : decode cX6_init 25 = .ok (.return_, 1) := dk_177 (dk_at dksX6_init_1 3 rfl rfl)
abbrev cX6_go : ByteArray := prog_18_method_5_code
def yX6_go : MethodName := ⟨RX6, "go", "()V"⟩
def dkwX6_go_17 : List UInt8 := [153, 0, 7, 5, 167, 0, 4, 6, 181, 0, 38, 177]
abbrev dktX6_go_17 : List UInt8 := dkwX6_go_17 ++ []
def dkwX6_go_16 : List UInt8 := [180, 0, 35, 100, 28, 153, 0, 8, 16, 7, 167, 0, 4, 6, 164, 0, 7, 4, 167, 0, 12, 28]
abbrev dktX6_go_16 : List UInt8 := dkwX6_go_16 ++ dktX6_go_17
def dkwX6_go_15 : List UInt8 := [167, 255, 128, 42, 25, 4, 182, 0, 61, 181, 0, 11, 42, 29, 153, 0, 25, 42, 180, 0, 28, 42]
abbrev dktX6_go_15 : List UInt8 := dkwX6_go_15 ++ dktX6_go_16
def dkwX6_go_14 : List UInt8 := [180, 0, 28, 182, 0, 31, 96, 16, 48, 100, 181, 0, 51, 42, 89, 180, 0, 28, 4, 96, 181, 0, 28]
abbrev dktX6_go_14 : List UInt8 := dkwX6_go_14 ++ dktX6_go_15
def dkwX6_go_13 : List UInt8 := [42, 180, 0, 28, 42, 180, 0, 35, 100, 6, 162, 0, 26, 42, 16, 10, 42, 180, 0, 51, 104, 42, 42]
abbrev dktX6_go_13 : List UInt8 := dkwX6_go_13 ++ dktX6_go_14
def dkwX6_go_12 : List UInt8 := [180, 0, 35, 100, 16, 7, 162, 0, 18, 25, 4, 42, 42, 180, 0, 28, 182, 0, 31, 146, 182, 0, 57, 87]
abbrev dktX6_go_12 : List UInt8 := dkwX6_go_12 ++ dktX6_go_13
def dkwX6_go_11 : List UInt8 := [180, 0, 28, 182, 0, 31, 184, 0, 41, 28, 160, 0, 7, 4, 167, 0, 4, 3, 62, 42, 180, 0, 28, 42]
abbrev dktX6_go_11 : List UInt8 := dkwX6_go_11 ++ dktX6_go_12
def dkwX6_go_10 : List UInt8 := [154, 0, 17, 42, 42, 180, 0, 28, 182, 0, 31, 184, 0, 45, 153, 0, 106, 29, 153, 0, 22, 42, 42]
abbrev dktX6_go_10 : List UInt8 := dkwX6_go_10 ++ dktX6_go_11
def dkwX6_go_9 : List UInt8 := [3, 181, 0, 51, 187, 0, 54, 89, 183, 0, 56, 58, 4, 42, 42, 180, 0, 28, 182, 0, 31, 184, 0, 41]
abbrev dktX6_go_9 : List UInt8 := dkwX6_go_9 ++ dktX6_go_10
def dkwX6_go_8 : List UInt8 := [42, 27, 181, 0, 48, 42, 89, 180, 0, 28, 4, 96, 181, 0, 28, 177, 27, 184, 0, 41, 61, 4, 62, 42]
abbrev dktX6_go_8 : List UInt8 := dkwX6_go_8 ++ dktX6_go_9
def dkwX6_go_7 : List UInt8 := [159, 0, 15, 27, 16, 40, 159, 0, 9, 27, 16, 41, 160, 0, 8, 16, 6, 167, 0, 4, 4, 181, 0, 38]
abbrev dktX6_go_7 : List UInt8 := dkwX6_go_7 ++ dktX6_go_8
def dkwX6_go_6 : List UInt8 := [160, 0, 7, 7, 167, 0, 39, 27, 16, 60, 159, 0, 27, 27, 16, 61, 159, 0, 21, 27, 16, 62]
abbrev dktX6_go_6 : List UInt8 := dkwX6_go_6 ++ dktX6_go_7
def dkwX6_go_5 : List UInt8 := [182, 0, 31, 60, 27, 184, 0, 41, 154, 0, 76, 27, 184, 0, 45, 154, 0, 69, 42, 27, 16, 59]
abbrev dktX6_go_5 : List UInt8 := dkwX6_go_5 ++ dktX6_go_6
def dkwX6_go_4 : List UInt8 := [42, 180, 0, 28, 42, 180, 0, 21, 161, 0, 9, 42, 3, 181, 0, 38, 177, 42, 42, 180, 0, 28]
abbrev dktX6_go_4 : List UInt8 := dkwX6_go_4 ++ dktX6_go_5
def dkwX6_go_3 : List UInt8 := [180, 0, 35, 42, 180, 0, 25, 161, 0, 17, 42, 42, 180, 0, 25, 181, 0, 35, 42, 8, 181, 0, 38, 177]
abbrev dktX6_go_3 : List UInt8 := dkwX6_go_3 ++ dktX6_go_4
def dkwX6_go_2 : List UInt8 := [167, 255, 209, 42, 42, 180, 0, 28, 181, 0, 35, 42, 180, 0, 21, 42, 180, 0, 25, 164, 0, 28, 42]
abbrev dktX6_go_2 : List UInt8 := dkwX6_go_2 ++ dktX6_go_3
def dkwX6_go_1 : List UInt8 := [42, 42, 180, 0, 28, 182, 0, 31, 16, 10, 160, 0, 16, 42, 89, 180, 0, 28, 4, 96, 181, 0, 28]
abbrev dktX6_go_1 : List UInt8 := dkwX6_go_1 ++ dktX6_go_2
def dkwX6_go_0 : List UInt8 := [42, 180, 0, 28, 42, 180, 0, 21, 162, 0, 42, 42, 42, 180, 0, 28, 182, 0, 31, 16, 32, 159, 0, 16]
abbrev dktX6_go_0 : List UInt8 := dkwX6_go_0 ++ dktX6_go_1
theorem dksX6_go_0 : cX6_go.data.toList.drop 0 = dktX6_go_0 := by decide +kernel
theorem dksX6_go_1 : cX6_go.data.toList.drop 24 = dktX6_go_1 := dk_seg dksX6_go_0 24 rfl rfl
theorem dksX6_go_2 : cX6_go.data.toList.drop 47 = dktX6_go_2 := dk_seg dksX6_go_1 23 rfl rfl
theorem dksX6_go_3 : cX6_go.data.toList.drop 70 = dktX6_go_3 := dk_seg dksX6_go_2 23 rfl rfl
theorem dksX6_go_4 : cX6_go.data.toList.drop 94 = dktX6_go_4 := dk_seg dksX6_go_3 24 rfl rfl
theorem dksX6_go_5 : cX6_go.data.toList.drop 116 = dktX6_go_5 := dk_seg dksX6_go_4 22 rfl rfl
theorem dksX6_go_6 : cX6_go.data.toList.drop 138 = dktX6_go_6 := dk_seg dksX6_go_5 22 rfl rfl
theorem dksX6_go_7 : cX6_go.data.toList.drop 160 = dktX6_go_7 := dk_seg dksX6_go_6 22 rfl rfl
theorem dksX6_go_8 : cX6_go.data.toList.drop 184 = dktX6_go_8 := dk_seg dksX6_go_7 24 rfl rfl
theorem dksX6_go_9 : cX6_go.data.toList.drop 208 = dktX6_go_9 := dk_seg dksX6_go_8 24 rfl rfl
theorem dksX6_go_10 : cX6_go.data.toList.drop 232 = dktX6_go_10 := dk_seg dksX6_go_9 24 rfl rfl
theorem dksX6_go_11 : cX6_go.data.toList.drop 255 = dktX6_go_11 := dk_seg dksX6_go_10 23 rfl rfl
theorem dksX6_go_12 : cX6_go.data.toList.drop 279 = dktX6_go_12 := dk_seg dksX6_go_11 24 rfl rfl
theorem dksX6_go_13 : cX6_go.data.toList.drop 303 = dktX6_go_13 := dk_seg dksX6_go_12 24 rfl rfl
theorem dksX6_go_14 : cX6_go.data.toList.drop 326 = dktX6_go_14 := dk_seg dksX6_go_13 23 rfl rfl
theorem dksX6_go_15 : cX6_go.data.toList.drop 349 = dktX6_go_15 := dk_seg dksX6_go_14 23 rfl rfl
theorem dksX6_go_16 : cX6_go.data.toList.drop 371 = dktX6_go_16 := dk_seg dksX6_go_15 22 rfl rfl
theorem dksX6_go_17 : cX6_go.data.toList.drop 393 = dktX6_go_17 := dk_seg dksX6_go_16 22 rfl rfl
theorem dX6_go_0 : decode cX6_go 0 = .ok (.aload_n 0, 1) := dk_42 (dk_at dksX6_go_0 0 rfl rfl)
theorem dX6_go_1 : decode cX6_go 1 = .ok (.getfield 28, 3) := dk_180 0 28 (dk_at dksX6_go_0 1 rfl rfl)
theorem dX6_go_4 : decode cX6_go 4 = .ok (.aload_n 0, 1) := dk_42 (dk_at dksX6_go_0 4 rfl rfl)
theorem dX6_go_5 : decode cX6_go 5 = .ok (.getfield 21, 3) := dk_180 0 21 (dk_at dksX6_go_0 5 rfl rfl)
theorem dX6_go_8 : decode cX6_go 8 = .ok (.if_icmp .ge 42, 3) := dk_162 0 42 (dk_at dksX6_go_0 8 rfl rfl)
theorem dX6_go_11 : decode cX6_go 11 = .ok (.aload_n 0, 1) := dk_42 (dk_at dksX6_go_0 11 rfl rfl)
theorem dX6_go_12 : decode cX6_go 12 = .ok (.aload_n 0, 1) := dk_42 (dk_at dksX6_go_0 12 rfl rfl)
theorem dX6_go_13 : decode cX6_go 13 = .ok (.getfield 28, 3) := dk_180 0 28 (dk_at dksX6_go_0 13 rfl rfl)
theorem dX6_go_16 : decode cX6_go 16 = .ok (.invokevirtual 31, 3) := dk_182 0 31 (dk_at dksX6_go_0 16 rfl rfl)
theorem dX6_go_19 : decode cX6_go 19 = .ok (.bipush 32, 2) := dk_16 32 (dk_at dksX6_go_0 19 rfl rfl)
theorem dX6_go_21 : decode cX6_go 21 = .ok (.if_icmp .eq 16, 3) := dk_159 0 16 (dk_at dksX6_go_0 21 rfl rfl)
theorem dX6_go_24 : decode cX6_go 24 = .ok (.aload_n 0, 1) := dk_42 (dk_at dksX6_go_1 0 rfl rfl)
theorem dX6_go_25 : decode cX6_go 25 = .ok (.aload_n 0, 1) := dk_42 (dk_at dksX6_go_1 1 rfl rfl)
theorem dX6_go_26 : decode cX6_go 26 = .ok (.getfield 28, 3) := dk_180 0 28 (dk_at dksX6_go_1 2 rfl rfl)
theorem dX6_go_29 : decode cX6_go 29 = .ok (.invokevirtual 31, 3) := dk_182 0 31 (dk_at dksX6_go_1 5 rfl rfl)
theorem dX6_go_32 : decode cX6_go 32 = .ok (.bipush 10, 2) := dk_16 10 (dk_at dksX6_go_1 8 rfl rfl)
theorem dX6_go_34 : decode cX6_go 34 = .ok (.if_icmp .ne 16, 3) := dk_160 0 16 (dk_at dksX6_go_1 10 rfl rfl)
theorem dX6_go_37 : decode cX6_go 37 = .ok (.aload_n 0, 1) := dk_42 (dk_at dksX6_go_1 13 rfl rfl)
theorem dX6_go_38 : decode cX6_go 38 = .ok (.dup, 1) := dk_89 (dk_at dksX6_go_1 14 rfl rfl)
theorem dX6_go_39 : decode cX6_go 39 = .ok (.getfield 28, 3) := dk_180 0 28 (dk_at dksX6_go_1 15 rfl rfl)
theorem dX6_go_42 : decode cX6_go 42 = .ok (.iconst 1, 1) := dk_4 (dk_at dksX6_go_1 18 rfl rfl)
theorem dX6_go_43 : decode cX6_go 43 = .ok (.iadd, 1) := dk_96 (dk_at dksX6_go_1 19 rfl rfl)
theorem dX6_go_44 : decode cX6_go 44 = .ok (.putfield 28, 3) := dk_181 0 28 (dk_at dksX6_go_1 20 rfl rfl)
theorem dX6_go_47 : decode cX6_go 47 = .ok (.goto (-47), 3) := dk_167 255 209 (dk_at dksX6_go_2 0 rfl rfl)
theorem dX6_go_50 : decode cX6_go 50 = .ok (.aload_n 0, 1) := dk_42 (dk_at dksX6_go_2 3 rfl rfl)
theorem dX6_go_51 : decode cX6_go 51 = .ok (.aload_n 0, 1) := dk_42 (dk_at dksX6_go_2 4 rfl rfl)
theorem dX6_go_52 : decode cX6_go 52 = .ok (.getfield 28, 3) := dk_180 0 28 (dk_at dksX6_go_2 5 rfl rfl)
theorem dX6_go_55 : decode cX6_go 55 = .ok (.putfield 35, 3) := dk_181 0 35 (dk_at dksX6_go_2 8 rfl rfl)
theorem dX6_go_58 : decode cX6_go 58 = .ok (.aload_n 0, 1) := dk_42 (dk_at dksX6_go_2 11 rfl rfl)
theorem dX6_go_59 : decode cX6_go 59 = .ok (.getfield 21, 3) := dk_180 0 21 (dk_at dksX6_go_2 12 rfl rfl)
theorem dX6_go_62 : decode cX6_go 62 = .ok (.aload_n 0, 1) := dk_42 (dk_at dksX6_go_2 15 rfl rfl)
theorem dX6_go_63 : decode cX6_go 63 = .ok (.getfield 25, 3) := dk_180 0 25 (dk_at dksX6_go_2 16 rfl rfl)
theorem dX6_go_66 : decode cX6_go 66 = .ok (.if_icmp .le 28, 3) := dk_164 0 28 (dk_at dksX6_go_2 19 rfl rfl)
theorem dX6_go_69 : decode cX6_go 69 = .ok (.aload_n 0, 1) := dk_42 (dk_at dksX6_go_2 22 rfl rfl)
theorem dX6_go_70 : decode cX6_go 70 = .ok (.getfield 35, 3) := dk_180 0 35 (dk_at dksX6_go_3 0 rfl rfl)
theorem dX6_go_73 : decode cX6_go 73 = .ok (.aload_n 0, 1) := dk_42 (dk_at dksX6_go_3 3 rfl rfl)
theorem dX6_go_74 : decode cX6_go 74 = .ok (.getfield 25, 3) := dk_180 0 25 (dk_at dksX6_go_3 4 rfl rfl)
theorem dX6_go_77 : decode cX6_go 77 = .ok (.if_icmp .lt 17, 3) := dk_161 0 17 (dk_at dksX6_go_3 7 rfl rfl)
theorem dX6_go_80 : decode cX6_go 80 = .ok (.aload_n 0, 1) := dk_42 (dk_at dksX6_go_3 10 rfl rfl)
theorem dX6_go_81 : decode cX6_go 81 = .ok (.aload_n 0, 1) := dk_42 (dk_at dksX6_go_3 11 rfl rfl)
theorem dX6_go_82 : decode cX6_go 82 = .ok (.getfield 25, 3) := dk_180 0 25 (dk_at dksX6_go_3 12 rfl rfl)
theorem dX6_go_85 : decode cX6_go 85 = .ok (.putfield 35, 3) := dk_181 0 35 (dk_at dksX6_go_3 15 rfl rfl)
theorem dX6_go_88 : decode cX6_go 88 = .ok (.aload_n 0, 1) := dk_42 (dk_at dksX6_go_3 18 rfl rfl)
theorem dX6_go_89 : decode cX6_go 89 = .ok (.iconst 5, 1) := dk_8 (dk_at dksX6_go_3 19 rfl rfl)
theorem dX6_go_90 : decode cX6_go 90 = .ok (.putfield 38, 3) := dk_181 0 38 (dk_at dksX6_go_3 20 rfl rfl)
theorem dX6_go_93 : decode cX6_go 93 = .ok (.return_, 1) := dk_177 (dk_at dksX6_go_3 23 rfl rfl)
theorem dX6_go_94 : decode cX6_go 94 = .ok (.aload_n 0, 1) := dk_42 (dk_at dksX6_go_4 0 rfl rfl)
theorem dX6_go_95 : decode cX6_go 95 = .ok (.getfield 28, 3) := dk_180 0 28 (dk_at dksX6_go_4 1 rfl rfl)
theorem dX6_go_98 : decode cX6_go 98 = .ok (.aload_n 0, 1) := dk_42 (dk_at dksX6_go_4 4 rfl rfl)
theorem dX6_go_99 : decode cX6_go 99 = .ok (.getfield 21, 3) := dk_180 0 21 (dk_at dksX6_go_4 5 rfl rfl)
theorem dX6_go_102 : decode cX6_go 102 = .ok (.if_icmp .lt 9, 3) := dk_161 0 9 (dk_at dksX6_go_4 8 rfl rfl)
theorem dX6_go_105 : decode cX6_go 105 = .ok (.aload_n 0, 1) := dk_42 (dk_at dksX6_go_4 11 rfl rfl)
theorem dX6_go_106 : decode cX6_go 106 = .ok (.iconst 0, 1) := dk_3 (dk_at dksX6_go_4 12 rfl rfl)
theorem dX6_go_107 : decode cX6_go 107 = .ok (.putfield 38, 3) := dk_181 0 38 (dk_at dksX6_go_4 13 rfl rfl)
theorem dX6_go_110 : decode cX6_go 110 = .ok (.return_, 1) := dk_177 (dk_at dksX6_go_4 16 rfl rfl)
theorem dX6_go_111 : decode cX6_go 111 = .ok (.aload_n 0, 1) := dk_42 (dk_at dksX6_go_4 17 rfl rfl)
theorem dX6_go_112 : decode cX6_go 112 = .ok (.aload_n 0, 1) := dk_42 (dk_at dksX6_go_4 18 rfl rfl)
theorem dX6_go_113 : decode cX6_go 113 = .ok (.getfield 28, 3) := dk_180 0 28 (dk_at dksX6_go_4 19 rfl rfl)
theorem dX6_go_116 : decode cX6_go 116 = .ok (.invokevirtual 31, 3) := dk_182 0 31 (dk_at dksX6_go_5 0 rfl rfl)
theorem dX6_go_119 : decode cX6_go 119 = .ok (.istore_n 1, 1) := dk_60 (dk_at dksX6_go_5 3 rfl rfl)
theorem dX6_go_120 : decode cX6_go 120 = .ok (.iload_n 1, 1) := dk_27 (dk_at dksX6_go_5 4 rfl rfl)
theorem dX6_go_121 : decode cX6_go 121 = .ok (.invokestatic 41, 3) := dk_184 0 41 (dk_at dksX6_go_5 5 rfl rfl)
theorem dX6_go_124 : decode cX6_go 124 = .ok (.ifCond .ne 76, 3) := dk_154 0 76 (dk_at dksX6_go_5 8 rfl rfl)
theorem dX6_go_127 : decode cX6_go 127 = .ok (.iload_n 1, 1) := dk_27 (dk_at dksX6_go_5 11 rfl rfl)
theorem dX6_go_128 : decode cX6_go 128 = .ok (.invokestatic 45, 3) := dk_184 0 45 (dk_at dksX6_go_5 12 rfl rfl)
theorem dX6_go_131 : decode cX6_go 131 = .ok (.ifCond .ne 69, 3) := dk_154 0 69 (dk_at dksX6_go_5 15 rfl rfl)
theorem dX6_go_134 : decode cX6_go 134 = .ok (.aload_n 0, 1) := dk_42 (dk_at dksX6_go_5 18 rfl rfl)
theorem dX6_go_135 : decode cX6_go 135 = .ok (.iload_n 1, 1) := dk_27 (dk_at dksX6_go_5 19 rfl rfl)
theorem dX6_go_136 : decode cX6_go 136 = .ok (.bipush 59, 2) := dk_16 59 (dk_at dksX6_go_5 20 rfl rfl)
theorem dX6_go_138 : decode cX6_go 138 = .ok (.if_icmp .ne 7, 3) := dk_160 0 7 (dk_at dksX6_go_6 0 rfl rfl)
theorem dX6_go_141 : decode cX6_go 141 = .ok (.iconst 4, 1) := dk_7 (dk_at dksX6_go_6 3 rfl rfl)
theorem dX6_go_142 : decode cX6_go 142 = .ok (.goto 39, 3) := dk_167 0 39 (dk_at dksX6_go_6 4 rfl rfl)
theorem dX6_go_145 : decode cX6_go 145 = .ok (.iload_n 1, 1) := dk_27 (dk_at dksX6_go_6 7 rfl rfl)
theorem dX6_go_146 : decode cX6_go 146 = .ok (.bipush 60, 2) := dk_16 60 (dk_at dksX6_go_6 8 rfl rfl)
theorem dX6_go_148 : decode cX6_go 148 = .ok (.if_icmp .eq 27, 3) := dk_159 0 27 (dk_at dksX6_go_6 10 rfl rfl)
theorem dX6_go_151 : decode cX6_go 151 = .ok (.iload_n 1, 1) := dk_27 (dk_at dksX6_go_6 13 rfl rfl)
theorem dX6_go_152 : decode cX6_go 152 = .ok (.bipush 61, 2) := dk_16 61 (dk_at dksX6_go_6 14 rfl rfl)
theorem dX6_go_154 : decode cX6_go 154 = .ok (.if_icmp .eq 21, 3) := dk_159 0 21 (dk_at dksX6_go_6 16 rfl rfl)
theorem dX6_go_157 : decode cX6_go 157 = .ok (.iload_n 1, 1) := dk_27 (dk_at dksX6_go_6 19 rfl rfl)
theorem dX6_go_158 : decode cX6_go 158 = .ok (.bipush 62, 2) := dk_16 62 (dk_at dksX6_go_6 20 rfl rfl)
theorem dX6_go_160 : decode cX6_go 160 = .ok (.if_icmp .eq 15, 3) := dk_159 0 15 (dk_at dksX6_go_7 0 rfl rfl)
theorem dX6_go_163 : decode cX6_go 163 = .ok (.iload_n 1, 1) := dk_27 (dk_at dksX6_go_7 3 rfl rfl)
theorem dX6_go_164 : decode cX6_go 164 = .ok (.bipush 40, 2) := dk_16 40 (dk_at dksX6_go_7 4 rfl rfl)
theorem dX6_go_166 : decode cX6_go 166 = .ok (.if_icmp .eq 9, 3) := dk_159 0 9 (dk_at dksX6_go_7 6 rfl rfl)
theorem dX6_go_169 : decode cX6_go 169 = .ok (.iload_n 1, 1) := dk_27 (dk_at dksX6_go_7 9 rfl rfl)
theorem dX6_go_170 : decode cX6_go 170 = .ok (.bipush 41, 2) := dk_16 41 (dk_at dksX6_go_7 10 rfl rfl)
theorem dX6_go_172 : decode cX6_go 172 = .ok (.if_icmp .ne 8, 3) := dk_160 0 8 (dk_at dksX6_go_7 12 rfl rfl)
theorem dX6_go_175 : decode cX6_go 175 = .ok (.bipush 6, 2) := dk_16 6 (dk_at dksX6_go_7 15 rfl rfl)
theorem dX6_go_177 : decode cX6_go 177 = .ok (.goto 4, 3) := dk_167 0 4 (dk_at dksX6_go_7 17 rfl rfl)
theorem dX6_go_180 : decode cX6_go 180 = .ok (.iconst 1, 1) := dk_4 (dk_at dksX6_go_7 20 rfl rfl)
theorem dX6_go_181 : decode cX6_go 181 = .ok (.putfield 38, 3) := dk_181 0 38 (dk_at dksX6_go_7 21 rfl rfl)
theorem dX6_go_184 : decode cX6_go 184 = .ok (.aload_n 0, 1) := dk_42 (dk_at dksX6_go_8 0 rfl rfl)
theorem dX6_go_185 : decode cX6_go 185 = .ok (.iload_n 1, 1) := dk_27 (dk_at dksX6_go_8 1 rfl rfl)
theorem dX6_go_186 : decode cX6_go 186 = .ok (.putfield 48, 3) := dk_181 0 48 (dk_at dksX6_go_8 2 rfl rfl)
theorem dX6_go_189 : decode cX6_go 189 = .ok (.aload_n 0, 1) := dk_42 (dk_at dksX6_go_8 5 rfl rfl)
theorem dX6_go_190 : decode cX6_go 190 = .ok (.dup, 1) := dk_89 (dk_at dksX6_go_8 6 rfl rfl)
theorem dX6_go_191 : decode cX6_go 191 = .ok (.getfield 28, 3) := dk_180 0 28 (dk_at dksX6_go_8 7 rfl rfl)
theorem dX6_go_194 : decode cX6_go 194 = .ok (.iconst 1, 1) := dk_4 (dk_at dksX6_go_8 10 rfl rfl)
theorem dX6_go_195 : decode cX6_go 195 = .ok (.iadd, 1) := dk_96 (dk_at dksX6_go_8 11 rfl rfl)
theorem dX6_go_196 : decode cX6_go 196 = .ok (.putfield 28, 3) := dk_181 0 28 (dk_at dksX6_go_8 12 rfl rfl)
theorem dX6_go_199 : decode cX6_go 199 = .ok (.return_, 1) := dk_177 (dk_at dksX6_go_8 15 rfl rfl)
theorem dX6_go_200 : decode cX6_go 200 = .ok (.iload_n 1, 1) := dk_27 (dk_at dksX6_go_8 16 rfl rfl)
theorem dX6_go_201 : decode cX6_go 201 = .ok (.invokestatic 41, 3) := dk_184 0 41 (dk_at dksX6_go_8 17 rfl rfl)
theorem dX6_go_204 : decode cX6_go 204 = .ok (.istore_n 2, 1) := dk_61 (dk_at dksX6_go_8 20 rfl rfl)
theorem dX6_go_205 : decode cX6_go 205 = .ok (.iconst 1, 1) := dk_4 (dk_at dksX6_go_8 21 rfl rfl)
theorem dX6_go_206 : decode cX6_go 206 = .ok (.istore_n 3, 1) := dk_62 (dk_at dksX6_go_8 22 rfl rfl)
theorem dX6_go_207 : decode cX6_go 207 = .ok (.aload_n 0, 1) := dk_42 (dk_at dksX6_go_8 23 rfl rfl)
theorem dX6_go_208 : decode cX6_go 208 = .ok (.iconst 0, 1) := dk_3 (dk_at dksX6_go_9 0 rfl rfl)
theorem dX6_go_209 : decode cX6_go 209 = .ok (.putfield 51, 3) := dk_181 0 51 (dk_at dksX6_go_9 1 rfl rfl)
theorem dX6_go_212 : decode cX6_go 212 = .ok (.new 54, 3) := dk_187 0 54 (dk_at dksX6_go_9 4 rfl rfl)
theorem dX6_go_215 : decode cX6_go 215 = .ok (.dup, 1) := dk_89 (dk_at dksX6_go_9 7 rfl rfl)
theorem dX6_go_216 : decode cX6_go 216 = .ok (.invokespecial 56, 3) := dk_183 0 56 (dk_at dksX6_go_9 8 rfl rfl)
theorem dX6_go_219 : decode cX6_go 219 = .ok (.astore 4, 2) := dk_58 4 (dk_at dksX6_go_9 11 rfl rfl)
theorem dX6_go_221 : decode cX6_go 221 = .ok (.aload_n 0, 1) := dk_42 (dk_at dksX6_go_9 13 rfl rfl)
theorem dX6_go_222 : decode cX6_go 222 = .ok (.aload_n 0, 1) := dk_42 (dk_at dksX6_go_9 14 rfl rfl)
theorem dX6_go_223 : decode cX6_go 223 = .ok (.getfield 28, 3) := dk_180 0 28 (dk_at dksX6_go_9 15 rfl rfl)
theorem dX6_go_226 : decode cX6_go 226 = .ok (.invokevirtual 31, 3) := dk_182 0 31 (dk_at dksX6_go_9 18 rfl rfl)
theorem dX6_go_229 : decode cX6_go 229 = .ok (.invokestatic 41, 3) := dk_184 0 41 (dk_at dksX6_go_9 21 rfl rfl)
theorem dX6_go_232 : decode cX6_go 232 = .ok (.ifCond .ne 17, 3) := dk_154 0 17 (dk_at dksX6_go_10 0 rfl rfl)
theorem dX6_go_235 : decode cX6_go 235 = .ok (.aload_n 0, 1) := dk_42 (dk_at dksX6_go_10 3 rfl rfl)
theorem dX6_go_236 : decode cX6_go 236 = .ok (.aload_n 0, 1) := dk_42 (dk_at dksX6_go_10 4 rfl rfl)
theorem dX6_go_237 : decode cX6_go 237 = .ok (.getfield 28, 3) := dk_180 0 28 (dk_at dksX6_go_10 5 rfl rfl)
theorem dX6_go_240 : decode cX6_go 240 = .ok (.invokevirtual 31, 3) := dk_182 0 31 (dk_at dksX6_go_10 8 rfl rfl)
theorem dX6_go_243 : decode cX6_go 243 = .ok (.invokestatic 45, 3) := dk_184 0 45 (dk_at dksX6_go_10 11 rfl rfl)
theorem dX6_go_246 : decode cX6_go 246 = .ok (.ifCond .eq 106, 3) := dk_153 0 106 (dk_at dksX6_go_10 14 rfl rfl)
theorem dX6_go_249 : decode cX6_go 249 = .ok (.iload_n 3, 1) := dk_29 (dk_at dksX6_go_10 17 rfl rfl)
theorem dX6_go_250 : decode cX6_go 250 = .ok (.ifCond .eq 22, 3) := dk_153 0 22 (dk_at dksX6_go_10 18 rfl rfl)
theorem dX6_go_253 : decode cX6_go 253 = .ok (.aload_n 0, 1) := dk_42 (dk_at dksX6_go_10 21 rfl rfl)
theorem dX6_go_254 : decode cX6_go 254 = .ok (.aload_n 0, 1) := dk_42 (dk_at dksX6_go_10 22 rfl rfl)
theorem dX6_go_255 : decode cX6_go 255 = .ok (.getfield 28, 3) := dk_180 0 28 (dk_at dksX6_go_11 0 rfl rfl)
theorem dX6_go_258 : decode cX6_go 258 = .ok (.invokevirtual 31, 3) := dk_182 0 31 (dk_at dksX6_go_11 3 rfl rfl)
theorem dX6_go_261 : decode cX6_go 261 = .ok (.invokestatic 41, 3) := dk_184 0 41 (dk_at dksX6_go_11 6 rfl rfl)
theorem dX6_go_264 : decode cX6_go 264 = .ok (.iload_n 2, 1) := dk_28 (dk_at dksX6_go_11 9 rfl rfl)
theorem dX6_go_265 : decode cX6_go 265 = .ok (.if_icmp .ne 7, 3) := dk_160 0 7 (dk_at dksX6_go_11 10 rfl rfl)
theorem dX6_go_268 : decode cX6_go 268 = .ok (.iconst 1, 1) := dk_4 (dk_at dksX6_go_11 13 rfl rfl)
theorem dX6_go_269 : decode cX6_go 269 = .ok (.goto 4, 3) := dk_167 0 4 (dk_at dksX6_go_11 14 rfl rfl)
theorem dX6_go_272 : decode cX6_go 272 = .ok (.iconst 0, 1) := dk_3 (dk_at dksX6_go_11 17 rfl rfl)
theorem dX6_go_273 : decode cX6_go 273 = .ok (.istore_n 3, 1) := dk_62 (dk_at dksX6_go_11 18 rfl rfl)
theorem dX6_go_274 : decode cX6_go 274 = .ok (.aload_n 0, 1) := dk_42 (dk_at dksX6_go_11 19 rfl rfl)
theorem dX6_go_275 : decode cX6_go 275 = .ok (.getfield 28, 3) := dk_180 0 28 (dk_at dksX6_go_11 20 rfl rfl)
theorem dX6_go_278 : decode cX6_go 278 = .ok (.aload_n 0, 1) := dk_42 (dk_at dksX6_go_11 23 rfl rfl)
theorem dX6_go_279 : decode cX6_go 279 = .ok (.getfield 35, 3) := dk_180 0 35 (dk_at dksX6_go_12 0 rfl rfl)
theorem dX6_go_282 : decode cX6_go 282 = .ok (.isub, 1) := dk_100 (dk_at dksX6_go_12 3 rfl rfl)
theorem dX6_go_283 : decode cX6_go 283 = .ok (.bipush 7, 2) := dk_16 7 (dk_at dksX6_go_12 4 rfl rfl)
theorem dX6_go_285 : decode cX6_go 285 = .ok (.if_icmp .ge 18, 3) := dk_162 0 18 (dk_at dksX6_go_12 6 rfl rfl)
theorem dX6_go_288 : decode cX6_go 288 = .ok (.aload 4, 2) := dk_25 4 (dk_at dksX6_go_12 9 rfl rfl)
theorem dX6_go_290 : decode cX6_go 290 = .ok (.aload_n 0, 1) := dk_42 (dk_at dksX6_go_12 11 rfl rfl)
theorem dX6_go_291 : decode cX6_go 291 = .ok (.aload_n 0, 1) := dk_42 (dk_at dksX6_go_12 12 rfl rfl)
theorem dX6_go_292 : decode cX6_go 292 = .ok (.getfield 28, 3) := dk_180 0 28 (dk_at dksX6_go_12 13 rfl rfl)
theorem dX6_go_295 : decode cX6_go 295 = .ok (.invokevirtual 31, 3) := dk_182 0 31 (dk_at dksX6_go_12 16 rfl rfl)
theorem dX6_go_298 : decode cX6_go 298 = .ok (.i2c, 1) := dk_146 (dk_at dksX6_go_12 19 rfl rfl)
theorem dX6_go_299 : decode cX6_go 299 = .ok (.invokevirtual 57, 3) := dk_182 0 57 (dk_at dksX6_go_12 20 rfl rfl)
theorem dX6_go_302 : decode cX6_go 302 = .ok (.pop, 1) := dk_87 (dk_at dksX6_go_12 23 rfl rfl)
theorem dX6_go_303 : decode cX6_go 303 = .ok (.aload_n 0, 1) := dk_42 (dk_at dksX6_go_13 0 rfl rfl)
theorem dX6_go_304 : decode cX6_go 304 = .ok (.getfield 28, 3) := dk_180 0 28 (dk_at dksX6_go_13 1 rfl rfl)
theorem dX6_go_307 : decode cX6_go 307 = .ok (.aload_n 0, 1) := dk_42 (dk_at dksX6_go_13 4 rfl rfl)
theorem dX6_go_308 : decode cX6_go 308 = .ok (.getfield 35, 3) := dk_180 0 35 (dk_at dksX6_go_13 5 rfl rfl)
theorem dX6_go_311 : decode cX6_go 311 = .ok (.isub, 1) := dk_100 (dk_at dksX6_go_13 8 rfl rfl)
theorem dX6_go_312 : decode cX6_go 312 = .ok (.iconst 3, 1) := dk_6 (dk_at dksX6_go_13 9 rfl rfl)
theorem dX6_go_313 : decode cX6_go 313 = .ok (.if_icmp .ge 26, 3) := dk_162 0 26 (dk_at dksX6_go_13 10 rfl rfl)
theorem dX6_go_316 : decode cX6_go 316 = .ok (.aload_n 0, 1) := dk_42 (dk_at dksX6_go_13 13 rfl rfl)
theorem dX6_go_317 : decode cX6_go 317 = .ok (.bipush 10, 2) := dk_16 10 (dk_at dksX6_go_13 14 rfl rfl)
theorem dX6_go_319 : decode cX6_go 319 = .ok (.aload_n 0, 1) := dk_42 (dk_at dksX6_go_13 16 rfl rfl)
theorem dX6_go_320 : decode cX6_go 320 = .ok (.getfield 51, 3) := dk_180 0 51 (dk_at dksX6_go_13 17 rfl rfl)
theorem dX6_go_323 : decode cX6_go 323 = .ok (.imul, 1) := dk_104 (dk_at dksX6_go_13 20 rfl rfl)
theorem dX6_go_324 : decode cX6_go 324 = .ok (.aload_n 0, 1) := dk_42 (dk_at dksX6_go_13 21 rfl rfl)
theorem dX6_go_325 : decode cX6_go 325 = .ok (.aload_n 0, 1) := dk_42 (dk_at dksX6_go_13 22 rfl rfl)
theorem dX6_go_326 : decode cX6_go 326 = .ok (.getfield 28, 3) := dk_180 0 28 (dk_at dksX6_go_14 0 rfl rfl)
theorem dX6_go_329 : decode cX6_go 329 = .ok (.invokevirtual 31, 3) := dk_182 0 31 (dk_at dksX6_go_14 3 rfl rfl)
theorem dX6_go_332 : decode cX6_go 332 = .ok (.iadd, 1) := dk_96 (dk_at dksX6_go_14 6 rfl rfl)
theorem dX6_go_333 : decode cX6_go 333 = .ok (.bipush 48, 2) := dk_16 48 (dk_at dksX6_go_14 7 rfl rfl)
theorem dX6_go_335 : decode cX6_go 335 = .ok (.isub, 1) := dk_100 (dk_at dksX6_go_14 9 rfl rfl)
theorem dX6_go_336 : decode cX6_go 336 = .ok (.putfield 51, 3) := dk_181 0 51 (dk_at dksX6_go_14 10 rfl rfl)
theorem dX6_go_339 : decode cX6_go 339 = .ok (.aload_n 0, 1) := dk_42 (dk_at dksX6_go_14 13 rfl rfl)
theorem dX6_go_340 : decode cX6_go 340 = .ok (.dup, 1) := dk_89 (dk_at dksX6_go_14 14 rfl rfl)
theorem dX6_go_341 : decode cX6_go 341 = .ok (.getfield 28, 3) := dk_180 0 28 (dk_at dksX6_go_14 15 rfl rfl)
theorem dX6_go_344 : decode cX6_go 344 = .ok (.iconst 1, 1) := dk_4 (dk_at dksX6_go_14 18 rfl rfl)
theorem dX6_go_345 : decode cX6_go 345 = .ok (.iadd, 1) := dk_96 (dk_at dksX6_go_14 19 rfl rfl)
theorem dX6_go_346 : decode cX6_go 346 = .ok (.putfield 28, 3) := dk_181 0 28 (dk_at dksX6_go_14 20 rfl rfl)
theorem dX6_go_349 : decode cX6_go 349 = .ok (.goto (-128), 3) := dk_167 255 128 (dk_at dksX6_go_15 0 rfl rfl)
theorem dX6_go_352 : decode cX6_go 352 = .ok (.aload_n 0, 1) := dk_42 (dk_at dksX6_go_15 3 rfl rfl)
theorem dX6_go_353 : decode cX6_go 353 = .ok (.aload 4, 2) := dk_25 4 (dk_at dksX6_go_15 4 rfl rfl)
theorem dX6_go_355 : decode cX6_go 355 = .ok (.invokevirtual 61, 3) := dk_182 0 61 (dk_at dksX6_go_15 6 rfl rfl)
theorem dX6_go_358 : decode cX6_go 358 = .ok (.putfield 11, 3) := dk_181 0 11 (dk_at dksX6_go_15 9 rfl rfl)
theorem dX6_go_361 : decode cX6_go 361 = .ok (.aload_n 0, 1) := dk_42 (dk_at dksX6_go_15 12 rfl rfl)
theorem dX6_go_362 : decode cX6_go 362 = .ok (.iload_n 3, 1) := dk_29 (dk_at dksX6_go_15 13 rfl rfl)
theorem dX6_go_363 : decode cX6_go 363 = .ok (.ifCond .eq 25, 3) := dk_153 0 25 (dk_at dksX6_go_15 14 rfl rfl)
theorem dX6_go_366 : decode cX6_go 366 = .ok (.aload_n 0, 1) := dk_42 (dk_at dksX6_go_15 17 rfl rfl)
theorem dX6_go_367 : decode cX6_go 367 = .ok (.getfield 28, 3) := dk_180 0 28 (dk_at dksX6_go_15 18 rfl rfl)
theorem dX6_go_370 : decode cX6_go 370 = .ok (.aload_n 0, 1) := dk_42 (dk_at dksX6_go_15 21 rfl rfl)
theorem dX6_go_371 : decode cX6_go 371 = .ok (.getfield 35, 3) := dk_180 0 35 (dk_at dksX6_go_16 0 rfl rfl)
theorem dX6_go_374 : decode cX6_go 374 = .ok (.isub, 1) := dk_100 (dk_at dksX6_go_16 3 rfl rfl)
theorem dX6_go_375 : decode cX6_go 375 = .ok (.iload_n 2, 1) := dk_28 (dk_at dksX6_go_16 4 rfl rfl)
theorem dX6_go_376 : decode cX6_go 376 = .ok (.ifCond .eq 8, 3) := dk_153 0 8 (dk_at dksX6_go_16 5 rfl rfl)
theorem dX6_go_379 : decode cX6_go 379 = .ok (.bipush 7, 2) := dk_16 7 (dk_at dksX6_go_16 8 rfl rfl)
theorem dX6_go_381 : decode cX6_go 381 = .ok (.goto 4, 3) := dk_167 0 4 (dk_at dksX6_go_16 10 rfl rfl)
theorem dX6_go_384 : decode cX6_go 384 = .ok (.iconst 3, 1) := dk_6 (dk_at dksX6_go_16 13 rfl rfl)
theorem dX6_go_385 : decode cX6_go 385 = .ok (.if_icmp .le 7, 3) := dk_164 0 7 (dk_at dksX6_go_16 14 rfl rfl)
theorem dX6_go_388 : decode cX6_go 388 = .ok (.iconst 1, 1) := dk_4 (dk_at dksX6_go_16 17 rfl rfl)
theorem dX6_go_389 : decode cX6_go 389 = .ok (.goto 12, 3) := dk_167 0 12 (dk_at dksX6_go_16 18 rfl rfl)
theorem dX6_go_392 : decode cX6_go 392 = .ok (.iload_n 2, 1) := dk_28 (dk_at dksX6_go_16 21 rfl rfl)
theorem dX6_go_393 : decode cX6_go 393 = .ok (.ifCond .eq 7, 3) := dk_153 0 7 (dk_at dksX6_go_17 0 rfl rfl)
theorem dX6_go_396 : decode cX6_go 396 = .ok (.iconst 2, 1) := dk_5 (dk_at dksX6_go_17 3 rfl rfl)
theorem dX6_go_397 : decode cX6_go 397 = .ok (.goto 4, 3) := dk_167 0 4 (dk_at dksX6_go_17 4 rfl rfl)
theorem dX6_go_400 : decode cX6_go 400 = .ok (.iconst 3, 1) := dk_6 (dk_at dksX6_go_17 7 rfl rfl)
theorem dX6_go_401 : decode cX6_go 401 = .ok (.putfield 38, 3) := dk_181 0 38 (dk_at dksX6_go_17 8 rfl rfl)
theorem dX6_go_404 : decode cX6_go 404 = .ok (.return_, 1) := dk_177 (dk_at dksX6_go_17 11 rfl rfl)
abbrev cX6_byteAt : ByteArray := prog_18_method_2_code
def yX6_byteAt : MethodName := ⟨RX6, "byteAt", "(I)I"⟩
def dkwX6_byteAt_0 : List UInt8 := [27, 42, 180, 0, 21, 162, 0, 16, 42, 180, 0, 17, 27, 51, 17, 0, 255, 126, 167, 0, 4, 3, 172]
abbrev dktX6_byteAt_0 : List UInt8 := dkwX6_byteAt_0 ++ []
theorem dksX6_byteAt_0 : cX6_byteAt.data.toList.drop 0 = dktX6_byteAt_0 := by decide +kernel
theorem dX6_byteAt_0 : decode cX6_byteAt 0 = .ok (.iload_n 1, 1) := dk_27 (dk_at dksX6_byteAt_0 0 rfl rfl)
theorem dX6_byteAt_1 : decode cX6_byteAt 1 = .ok (.aload_n 0, 1) := dk_42 (dk_at dksX6_byteAt_0 1 rfl rfl)
theorem dX6_byteAt_2 : decode cX6_byteAt 2 = .ok (.getfield 21, 3) := dk_180 0 21 (dk_at dksX6_byteAt_0 2 rfl rfl)
theorem dX6_byteAt_5 : decode cX6_byteAt 5 = .ok (.if_icmp .ge 16, 3) := dk_162 0 16 (dk_at dksX6_byteAt_0 5 rfl rfl)
theorem dX6_byteAt_8 : decode cX6_byteAt 8 = .ok (.aload_n 0, 1) := dk_42 (dk_at dksX6_byteAt_0 8 rfl rfl)
theorem dX6_byteAt_9 : decode cX6_byteAt 9 = .ok (.getfield 17, 3) := dk_180 0 17 (dk_at dksX6_byteAt_0 9 rfl rfl)
theorem dX6_byteAt_12 : decode cX6_byteAt 12 = .ok (.iload_n 1, 1) := dk_27 (dk_at dksX6_byteAt_0 12 rfl rfl)
theorem dX6_byteAt_13 : decode cX6_byteAt 13 = .ok (.baload, 1) := dk_51 (dk_at dksX6_byteAt_0 13 rfl rfl)
theorem dX6_byteAt_14 : decode cX6_byteAt 14 = .ok (.sipush 255, 3) := dk_17 0 255 (dk_at dksX6_byteAt_0 14 rfl rfl)
theorem dX6_byteAt_17 : decode cX6_byteAt 17 = .ok (.iand, 1) := dk_126 (dk_at dksX6_byteAt_0 17 rfl rfl)
theorem dX6_byteAt_18 : decode cX6_byteAt 18 = .ok (.goto 4, 3) := dk_167 0 4 (dk_at dksX6_byteAt_0 18 rfl rfl)
theorem dX6_byteAt_21 : decode cX6_byteAt 21 = .ok (.iconst 0, 1) := dk_3 (dk_at dksX6_byteAt_0 21 rfl rfl)
theorem dX6_byteAt_22 : decode cX6_byteAt 22 = .ok (.ireturn, 1) := dk_172 (dk_at dksX6_byteAt_0 22 rfl rfl)
abbrev cX6_isLetter : ByteArray := prog_18_method_4_code
def yX6_isLetter : MethodName := ⟨RX6, "isLetter", "(I)Z"⟩
def dkwX6_isLetter_0 : List UInt8 := [26, 16, 97, 161, 0, 13, 26, 16, 122, 163, 0, 7, 4, 167, 0, 4, 3, 172]
abbrev dktX6_isLetter_0 : List UInt8 := dkwX6_isLetter_0 ++ []
theorem dksX6_isLetter_0 : cX6_isLetter.data.toList.drop 0 = dktX6_isLetter_0 := by decide +kernel
theorem dX6_isLetter_0 : decode cX6_isLetter 0 = .ok (.iload_n 0, 1) := dk_26 (dk_at dksX6_isLetter_0 0 rfl rfl)
theorem dX6_isLetter_1 : decode cX6_isLetter 1 = .ok (.bipush 97, 2) := dk_16 97 (dk_at dksX6_isLetter_0 1 rfl rfl)
theorem dX6_isLetter_3 : decode cX6_isLetter 3 = .ok (.if_icmp .lt 13, 3) := dk_161 0 13 (dk_at dksX6_isLetter_0 3 rfl rfl)
theorem dX6_isLetter_6 : decode cX6_isLetter 6 = .ok (.iload_n 0, 1) := dk_26 (dk_at dksX6_isLetter_0 6 rfl rfl)
theorem dX6_isLetter_7 : decode cX6_isLetter 7 = .ok (.bipush 122, 2) := dk_16 122 (dk_at dksX6_isLetter_0 7 rfl rfl)
theorem dX6_isLetter_9 : decode cX6_isLetter 9 = .ok (.if_icmp .gt 7, 3) := dk_163 0 7 (dk_at dksX6_isLetter_0 9 rfl rfl)
theorem dX6_isLetter_12 : decode cX6_isLetter 12 = .ok (.iconst 1, 1) := dk_4 (dk_at dksX6_isLetter_0 12 rfl rfl)
theorem dX6_isLetter_13 : decode cX6_isLetter 13 = .ok (.goto 4, 3) := dk_167 0 4 (dk_at dksX6_isLetter_0 13 rfl rfl)
theorem dX6_isLetter_16 : decode cX6_isLetter 16 = .ok (.iconst 0, 1) := dk_3 (dk_at dksX6_isLetter_0 16 rfl rfl)
theorem dX6_isLetter_17 : decode cX6_isLetter 17 = .ok (.ireturn, 1) := dk_172 (dk_at dksX6_isLetter_0 17 rfl rfl)
abbrev cX6_isDigit : ByteArray := prog_18_method_3_code
def yX6_isDigit : MethodName := ⟨RX6, "isDigit", "(I)Z"⟩
def dkwX6_isDigit_0 : List UInt8 := [26, 16, 48, 161, 0, 13, 26, 16, 57, 163, 0, 7, 4, 167, 0, 4, 3, 172]
abbrev dktX6_isDigit_0 : List UInt8 := dkwX6_isDigit_0 ++ []
theorem dksX6_isDigit_0 : cX6_isDigit.data.toList.drop 0 = dktX6_isDigit_0 := by decide +kernel
theorem dX6_isDigit_0 : decode cX6_isDigit 0 = .ok (.iload_n 0, 1) := dk_26 (dk_at dksX6_isDigit_0 0 rfl rfl)
theorem dX6_isDigit_1 : decode cX6_isDigit 1 = .ok (.bipush 48, 2) := dk_16 48 (dk_at dksX6_isDigit_0 1 rfl rfl)
theorem dX6_isDigit_3 : decode cX6_isDigit 3 = .ok (.if_icmp .lt 13, 3) := dk_161 0 13 (dk_at dksX6_isDigit_0 3 rfl rfl)
theorem dX6_isDigit_6 : decode cX6_isDigit 6 = .ok (.iload_n 0, 1) := dk_26 (dk_at dksX6_isDigit_0 6 rfl rfl)
theorem dX6_isDigit_7 : decode cX6_isDigit 7 = .ok (.bipush 57, 2) := dk_16 57 (dk_at dksX6_isDigit_0 7 rfl rfl)
theorem dX6_isDigit_9 : decode cX6_isDigit 9 = .ok (.if_icmp .gt 7, 3) := dk_163 0 7 (dk_at dksX6_isDigit_0 9 rfl rfl)
theorem dX6_isDigit_12 : decode cX6_isDigit 12 = .ok (.iconst 1, 1) := dk_4 (dk_at dksX6_isDigit_0 12 rfl rfl)
theorem dX6_isDigit_13 : decode cX6_isDigit 13 = .ok (.goto 4, 3) := dk_167 0 4 (dk_at dksX6_isDigit_0 13 rfl rfl)
theorem dX6_isDigit_16 : decode cX6_isDigit 16 = .ok (.iconst 0, 1) := dk_3 (dk_at dksX6_isDigit_0 16 rfl rfl)
theorem dX6_isDigit_17 : decode cX6_isDigit 17 = .ok (.ireturn, 1) := dk_172 (dk_at dksX6_isDigit_0 17 rfl rfl)
abbrev cX6_is : ByteArray := prog_18_method_7_code
def yX6_is : MethodName := ⟨RX6, "is", "(Ljava/lang/String;)Z"⟩
def dkwX6_is_1 : List UInt8 := [172]
abbrev dktX6_is_1 : List UInt8 := dkwX6_is_1 ++ []
def dkwX6_is_0 : List UInt8 := [42, 180, 0, 38, 5, 160, 0, 18, 42, 180, 0, 11, 43, 182, 0, 70, 153, 0, 7, 4, 167, 0, 4, 3]
abbrev dktX6_is_0 : List UInt8 := dkwX6_is_0 ++ dktX6_is_1
theorem dksX6_is_0 : cX6_is.data.toList.drop 0 = dktX6_is_0 := by decide +kernel
theorem dksX6_is_1 : cX6_is.data.toList.drop 24 = dktX6_is_1 := dk_seg dksX6_is_0 24 rfl rfl
theorem dX6_is_0 : decode cX6_is 0 = .ok (.aload_n 0, 1) := dk_42 (dk_at dksX6_is_0 0 rfl rfl)
theorem dX6_is_1 : decode cX6_is 1 = .ok (.getfield 38, 3) := dk_180 0 38 (dk_at dksX6_is_0 1 rfl rfl)
theorem dX6_is_4 : decode cX6_is 4 = .ok (.iconst 2, 1) := dk_5 (dk_at dksX6_is_0 4 rfl rfl)
theorem dX6_is_5 : decode cX6_is 5 = .ok (.if_icmp .ne 18, 3) := dk_160 0 18 (dk_at dksX6_is_0 5 rfl rfl)
theorem dX6_is_8 : decode cX6_is 8 = .ok (.aload_n 0, 1) := dk_42 (dk_at dksX6_is_0 8 rfl rfl)
theorem dX6_is_9 : decode cX6_is 9 = .ok (.getfield 11, 3) := dk_180 0 11 (dk_at dksX6_is_0 9 rfl rfl)
theorem dX6_is_12 : decode cX6_is 12 = .ok (.aload_n 1, 1) := dk_43 (dk_at dksX6_is_0 12 rfl rfl)
theorem dX6_is_13 : decode cX6_is 13 = .ok (.invokevirtual 70, 3) := dk_182 0 70 (dk_at dksX6_is_0 13 rfl rfl)
theorem dX6_is_16 : decode cX6_is 16 = .ok (.ifCond .eq 7, 3) := dk_153 0 7 (dk_at dksX6_is_0 16 rfl rfl)
theorem dX6_is_19 : decode cX6_is 19 = .ok (.iconst 1, 1) := dk_4 (dk_at dksX6_is_0 19 rfl rfl)
theorem dX6_is_20 : decode cX6_is 20 = .ok (.goto 4, 3) := dk_167 0 4 (dk_at dksX6_is_0 20 rfl rfl)
theorem dX6_is_23 : decode cX6_is 23 = .ok (.iconst 0, 1) := dk_3 (dk_at dksX6_is_0 23 rfl rfl)
theorem dX6_is_24 : decode cX6_is 24 = .ok (.ireturn, 1) := dk_172 (dk_at dksX6_is_1 0 rfl rfl)
abbrev cX6_need : ByteArray := prog_18_method_6_code
def yX6_need : MethodName := ⟨RX6, "need", "(ZI)V"⟩
def dkwX6_need_1 : List UInt8 := [4, 167, 0, 4, 28, 42, 180, 0, 35, 183, 0, 67, 191, 177]
abbrev dktX6_need_1 : List UInt8 := dkwX6_need_1 ++ []
def dkwX6_need_0 : List UInt8 := [27, 154, 0, 36, 187, 0, 65, 89, 42, 180, 0, 38, 4, 159, 0, 11, 42, 180, 0, 38, 8, 160, 0, 7]
abbrev dktX6_need_0 : List UInt8 := dkwX6_need_0 ++ dktX6_need_1
theorem dksX6_need_0 : cX6_need.data.toList.drop 0 = dktX6_need_0 := by decide +kernel
theorem dksX6_need_1 : cX6_need.data.toList.drop 24 = dktX6_need_1 := dk_seg dksX6_need_0 24 rfl rfl
theorem dX6_need_0 : decode cX6_need 0 = .ok (.iload_n 1, 1) := dk_27 (dk_at dksX6_need_0 0 rfl rfl)
theorem dX6_need_1 : decode cX6_need 1 = .ok (.ifCond .ne 36, 3) := dk_154 0 36 (dk_at dksX6_need_0 1 rfl rfl)
theorem dX6_need_4 : decode cX6_need 4 = .ok (.new 65, 3) := dk_187 0 65 (dk_at dksX6_need_0 4 rfl rfl)
theorem dX6_need_7 : decode cX6_need 7 = .ok (.dup, 1) := dk_89 (dk_at dksX6_need_0 7 rfl rfl)
theorem dX6_need_8 : decode cX6_need 8 = .ok (.aload_n 0, 1) := dk_42 (dk_at dksX6_need_0 8 rfl rfl)
theorem dX6_need_9 : decode cX6_need 9 = .ok (.getfield 38, 3) := dk_180 0 38 (dk_at dksX6_need_0 9 rfl rfl)
theorem dX6_need_12 : decode cX6_need 12 = .ok (.iconst 1, 1) := dk_4 (dk_at dksX6_need_0 12 rfl rfl)
theorem dX6_need_13 : decode cX6_need 13 = .ok (.if_icmp .eq 11, 3) := dk_159 0 11 (dk_at dksX6_need_0 13 rfl rfl)
theorem dX6_need_16 : decode cX6_need 16 = .ok (.aload_n 0, 1) := dk_42 (dk_at dksX6_need_0 16 rfl rfl)
theorem dX6_need_17 : decode cX6_need 17 = .ok (.getfield 38, 3) := dk_180 0 38 (dk_at dksX6_need_0 17 rfl rfl)
theorem dX6_need_20 : decode cX6_need 20 = .ok (.iconst 5, 1) := dk_8 (dk_at dksX6_need_0 20 rfl rfl)
theorem dX6_need_21 : decode cX6_need 21 = .ok (.if_icmp .ne 7, 3) := dk_160 0 7 (dk_at dksX6_need_0 21 rfl rfl)
theorem dX6_need_24 : decode cX6_need 24 = .ok (.iconst 1, 1) := dk_4 (dk_at dksX6_need_1 0 rfl rfl)
theorem dX6_need_25 : decode cX6_need 25 = .ok (.goto 4, 3) := dk_167 0 4 (dk_at dksX6_need_1 1 rfl rfl)
theorem dX6_need_28 : decode cX6_need 28 = .ok (.iload_n 2, 1) := dk_28 (dk_at dksX6_need_1 4 rfl rfl)
theorem dX6_need_29 : decode cX6_need 29 = .ok (.aload_n 0, 1) := dk_42 (dk_at dksX6_need_1 5 rfl rfl)
theorem dX6_need_30 : decode cX6_need 30 = .ok (.getfield 35, 3) := dk_180 0 35 (dk_at dksX6_need_1 6 rfl rfl)
theorem dX6_need_33 : decode cX6_need 33 = .ok (.invokespecial 67, 3) := dk_183 0 67 (dk_at dksX6_need_1 9 rfl rfl)
theorem dX6_need_36 : decode cX6_need 36 = .ok (.athrow, 1) := dk_191 (dk_at dksX6_need_1 12 rfl rfl)
theorem dX6_need_37 : decode cX6_need 37 = .ok (.return_, 1) := dk_177 (dk_at dksX6_need_1 13 rfl rfl)
abbrev cX6_isName : ByteArray := prog_18_method_8_code
def yX6_isName : MethodName := ⟨RX6, "isName", "()Z"⟩
def dkwX6_isName_2 : List UInt8 := [3, 172]
abbrev dktX6_isName_2 : List UInt8 := dkwX6_isName_2 ++ []
def dkwX6_isName_1 : List UInt8 := [180, 0, 11, 182, 0, 80, 18, 78, 182, 0, 80, 182, 0, 61, 182, 0, 83, 156, 0, 7, 4, 167, 0, 4]
abbrev dktX6_isName_1 : List UInt8 := dkwX6_isName_1 ++ dktX6_isName_2
def dkwX6_isName_0 : List UInt8 := [42, 180, 0, 38, 5, 160, 0, 42, 18, 76, 187, 0, 54, 89, 183, 0, 56, 18, 78, 182, 0, 80, 42]
abbrev dktX6_isName_0 : List UInt8 := dkwX6_isName_0 ++ dktX6_isName_1
theorem dksX6_isName_0 : cX6_isName.data.toList.drop 0 = dktX6_isName_0 := by decide +kernel
theorem dksX6_isName_1 : cX6_isName.data.toList.drop 23 = dktX6_isName_1 := dk_seg dksX6_isName_0 23 rfl rfl
theorem dksX6_isName_2 : cX6_isName.data.toList.drop 47 = dktX6_isName_2 := dk_seg dksX6_isName_1 24 rfl rfl
theorem dX6_isName_0 : decode cX6_isName 0 = .ok (.aload_n 0, 1) := dk_42 (dk_at dksX6_isName_0 0 rfl rfl)
theorem dX6_isName_1 : decode cX6_isName 1 = .ok (.getfield 38, 3) := dk_180 0 38 (dk_at dksX6_isName_0 1 rfl rfl)
theorem dX6_isName_4 : decode cX6_isName 4 = .ok (.iconst 2, 1) := dk_5 (dk_at dksX6_isName_0 4 rfl rfl)
theorem dX6_isName_5 : decode cX6_isName 5 = .ok (.if_icmp .ne 42, 3) := dk_160 0 42 (dk_at dksX6_isName_0 5 rfl rfl)
theorem dX6_isName_8 : decode cX6_isName 8 = .ok (.ldc 76, 2) := dk_18 76 (dk_at dksX6_isName_0 8 rfl rfl)
theorem dX6_isName_10 : decode cX6_isName 10 = .ok (.new 54, 3) := dk_187 0 54 (dk_at dksX6_isName_0 10 rfl rfl)
theorem dX6_isName_13 : decode cX6_isName 13 = .ok (.dup, 1) := dk_89 (dk_at dksX6_isName_0 13 rfl rfl)
theorem dX6_isName_14 : decode cX6_isName 14 = .ok (.invokespecial 56, 3) := dk_183 0 56 (dk_at dksX6_isName_0 14 rfl rfl)
theorem dX6_isName_17 : decode cX6_isName 17 = .ok (.ldc 78, 2) := dk_18 78 (dk_at dksX6_isName_0 17 rfl rfl)
theorem dX6_isName_19 : decode cX6_isName 19 = .ok (.invokevirtual 80, 3) := dk_182 0 80 (dk_at dksX6_isName_0 19 rfl rfl)
theorem dX6_isName_22 : decode cX6_isName 22 = .ok (.aload_n 0, 1) := dk_42 (dk_at dksX6_isName_0 22 rfl rfl)
theorem dX6_isName_23 : decode cX6_isName 23 = .ok (.getfield 11, 3) := dk_180 0 11 (dk_at dksX6_isName_1 0 rfl rfl)
theorem dX6_isName_26 : decode cX6_isName 26 = .ok (.invokevirtual 80, 3) := dk_182 0 80 (dk_at dksX6_isName_1 3 rfl rfl)
theorem dX6_isName_29 : decode cX6_isName 29 = .ok (.ldc 78, 2) := dk_18 78 (dk_at dksX6_isName_1 6 rfl rfl)
theorem dX6_isName_31 : decode cX6_isName 31 = .ok (.invokevirtual 80, 3) := dk_182 0 80 (dk_at dksX6_isName_1 8 rfl rfl)
theorem dX6_isName_34 : decode cX6_isName 34 = .ok (.invokevirtual 61, 3) := dk_182 0 61 (dk_at dksX6_isName_1 11 rfl rfl)
theorem dX6_isName_37 : decode cX6_isName 37 = .ok (.invokevirtual 83, 3) := dk_182 0 83 (dk_at dksX6_isName_1 14 rfl rfl)
theorem dX6_isName_40 : decode cX6_isName 40 = .ok (.ifCond .ge 7, 3) := dk_156 0 7 (dk_at dksX6_isName_1 17 rfl rfl)
theorem dX6_isName_43 : decode cX6_isName 43 = .ok (.iconst 1, 1) := dk_4 (dk_at dksX6_isName_1 20 rfl rfl)
theorem dX6_isName_44 : decode cX6_isName 44 = .ok (.goto 4, 3) := dk_167 0 4 (dk_at dksX6_isName_1 21 rfl rfl)
theorem dX6_isName_47 : decode cX6_isName 47 = .ok (.iconst 0, 1) := dk_3 (dk_at dksX6_isName_2 0 rfl rfl)
theorem dX6_isName_48 : decode cX6_isName 48 = .ok (.ireturn, 1) := dk_172 (dk_at dksX6_isName_2 1 rfl rfl)
abbrev cX6_find : ByteArray := prog_18_method_11_code
def yX6_find : MethodName := ⟨RX6, "find", "(Ljava/util/ArrayList;)I"⟩
def dkwX6_find_1 : List UInt8 := [180, 0, 11, 182, 0, 70, 153, 0, 5, 28, 172, 132, 2, 1, 167, 255, 222, 2, 172]
abbrev dktX6_find_1 : List UInt8 := dkwX6_find_1 ++ []
def dkwX6_find_0 : List UInt8 := [3, 61, 28, 43, 182, 0, 98, 162, 0, 32, 43, 28, 182, 0, 103, 192, 0, 107, 180, 0, 109, 42]
abbrev dktX6_find_0 : List UInt8 := dkwX6_find_0 ++ dktX6_find_1
theorem dksX6_find_0 : cX6_find.data.toList.drop 0 = dktX6_find_0 := by decide +kernel
theorem dksX6_find_1 : cX6_find.data.toList.drop 22 = dktX6_find_1 := dk_seg dksX6_find_0 22 rfl rfl
theorem dX6_find_0 : decode cX6_find 0 = .ok (.iconst 0, 1) := dk_3 (dk_at dksX6_find_0 0 rfl rfl)
theorem dX6_find_1 : decode cX6_find 1 = .ok (.istore_n 2, 1) := dk_61 (dk_at dksX6_find_0 1 rfl rfl)
theorem dX6_find_2 : decode cX6_find 2 = .ok (.iload_n 2, 1) := dk_28 (dk_at dksX6_find_0 2 rfl rfl)
theorem dX6_find_3 : decode cX6_find 3 = .ok (.aload_n 1, 1) := dk_43 (dk_at dksX6_find_0 3 rfl rfl)
theorem dX6_find_4 : decode cX6_find 4 = .ok (.invokevirtual 98, 3) := dk_182 0 98 (dk_at dksX6_find_0 4 rfl rfl)
theorem dX6_find_7 : decode cX6_find 7 = .ok (.if_icmp .ge 32, 3) := dk_162 0 32 (dk_at dksX6_find_0 7 rfl rfl)
theorem dX6_find_10 : decode cX6_find 10 = .ok (.aload_n 1, 1) := dk_43 (dk_at dksX6_find_0 10 rfl rfl)
theorem dX6_find_11 : decode cX6_find 11 = .ok (.iload_n 2, 1) := dk_28 (dk_at dksX6_find_0 11 rfl rfl)
theorem dX6_find_12 : decode cX6_find 12 = .ok (.invokevirtual 103, 3) := dk_182 0 103 (dk_at dksX6_find_0 12 rfl rfl)
theorem dX6_find_15 : decode cX6_find 15 = .ok (.checkcast 107, 3) := dk_192 0 107 (dk_at dksX6_find_0 15 rfl rfl)
theorem dX6_find_18 : decode cX6_find 18 = .ok (.getfield 109, 3) := dk_180 0 109 (dk_at dksX6_find_0 18 rfl rfl)
theorem dX6_find_21 : decode cX6_find 21 = .ok (.aload_n 0, 1) := dk_42 (dk_at dksX6_find_0 21 rfl rfl)
theorem dX6_find_22 : decode cX6_find 22 = .ok (.getfield 11, 3) := dk_180 0 11 (dk_at dksX6_find_1 0 rfl rfl)
theorem dX6_find_25 : decode cX6_find 25 = .ok (.invokevirtual 70, 3) := dk_182 0 70 (dk_at dksX6_find_1 3 rfl rfl)
theorem dX6_find_28 : decode cX6_find 28 = .ok (.ifCond .eq 5, 3) := dk_153 0 5 (dk_at dksX6_find_1 6 rfl rfl)
theorem dX6_find_31 : decode cX6_find 31 = .ok (.iload_n 2, 1) := dk_28 (dk_at dksX6_find_1 9 rfl rfl)
theorem dX6_find_32 : decode cX6_find 32 = .ok (.ireturn, 1) := dk_172 (dk_at dksX6_find_1 10 rfl rfl)
theorem dX6_find_33 : decode cX6_find 33 = .ok (.iinc 2 1, 3) := dk_132 2 1 (dk_at dksX6_find_1 11 rfl rfl)
theorem dX6_find_36 : decode cX6_find 36 = .ok (.goto (-34), 3) := dk_167 255 222 (dk_at dksX6_find_1 14 rfl rfl)
theorem dX6_find_39 : decode cX6_find 39 = .ok (.iconst (-1), 1) := dk_2 (dk_at dksX6_find_1 17 rfl rfl)
theorem dX6_find_40 : decode cX6_find 40 = .ok (.ireturn, 1) := dk_172 (dk_at dksX6_find_1 18 rfl rfl)
abbrev cX6_number : ByteArray := prog_18_method_9_code
def yX6_number : MethodName := ⟨RX6, "number", "(II)I"⟩
def dkwX6_number_1 : List UInt8 := [28, 184, 0, 91, 5, 182, 0, 87, 42, 180, 0, 51, 62, 42, 182, 0, 95, 29, 172]
abbrev dktX6_number_1 : List UInt8 := dkwX6_number_1 ++ []
def dkwX6_number_0 : List UInt8 := [42, 42, 180, 0, 38, 6, 160, 0, 7, 4, 167, 0, 4, 3, 4, 182, 0, 87, 42, 42, 180, 0, 51, 27]
abbrev dktX6_number_0 : List UInt8 := dkwX6_number_0 ++ dktX6_number_1
theorem dksX6_number_0 : cX6_number.data.toList.drop 0 = dktX6_number_0 := by decide +kernel
theorem dksX6_number_1 : cX6_number.data.toList.drop 24 = dktX6_number_1 := dk_seg dksX6_number_0 24 rfl rfl
theorem dX6_number_0 : decode cX6_number 0 = .ok (.aload_n 0, 1) := dk_42 (dk_at dksX6_number_0 0 rfl rfl)
theorem dX6_number_1 : decode cX6_number 1 = .ok (.aload_n 0, 1) := dk_42 (dk_at dksX6_number_0 1 rfl rfl)
theorem dX6_number_2 : decode cX6_number 2 = .ok (.getfield 38, 3) := dk_180 0 38 (dk_at dksX6_number_0 2 rfl rfl)
theorem dX6_number_5 : decode cX6_number 5 = .ok (.iconst 3, 1) := dk_6 (dk_at dksX6_number_0 5 rfl rfl)
theorem dX6_number_6 : decode cX6_number 6 = .ok (.if_icmp .ne 7, 3) := dk_160 0 7 (dk_at dksX6_number_0 6 rfl rfl)
theorem dX6_number_9 : decode cX6_number 9 = .ok (.iconst 1, 1) := dk_4 (dk_at dksX6_number_0 9 rfl rfl)
theorem dX6_number_10 : decode cX6_number 10 = .ok (.goto 4, 3) := dk_167 0 4 (dk_at dksX6_number_0 10 rfl rfl)
theorem dX6_number_13 : decode cX6_number 13 = .ok (.iconst 0, 1) := dk_3 (dk_at dksX6_number_0 13 rfl rfl)
theorem dX6_number_14 : decode cX6_number 14 = .ok (.iconst 1, 1) := dk_4 (dk_at dksX6_number_0 14 rfl rfl)
theorem dX6_number_15 : decode cX6_number 15 = .ok (.invokevirtual 87, 3) := dk_182 0 87 (dk_at dksX6_number_0 15 rfl rfl)
theorem dX6_number_18 : decode cX6_number 18 = .ok (.aload_n 0, 1) := dk_42 (dk_at dksX6_number_0 18 rfl rfl)
theorem dX6_number_19 : decode cX6_number 19 = .ok (.aload_n 0, 1) := dk_42 (dk_at dksX6_number_0 19 rfl rfl)
theorem dX6_number_20 : decode cX6_number 20 = .ok (.getfield 51, 3) := dk_180 0 51 (dk_at dksX6_number_0 20 rfl rfl)
theorem dX6_number_23 : decode cX6_number 23 = .ok (.iload_n 1, 1) := dk_27 (dk_at dksX6_number_0 23 rfl rfl)
theorem dX6_number_24 : decode cX6_number 24 = .ok (.iload_n 2, 1) := dk_28 (dk_at dksX6_number_1 0 rfl rfl)
theorem dX6_number_25 : decode cX6_number 25 = .ok (.invokestatic 91, 3) := dk_184 0 91 (dk_at dksX6_number_1 1 rfl rfl)
theorem dX6_number_28 : decode cX6_number 28 = .ok (.iconst 2, 1) := dk_5 (dk_at dksX6_number_1 4 rfl rfl)
theorem dX6_number_29 : decode cX6_number 29 = .ok (.invokevirtual 87, 3) := dk_182 0 87 (dk_at dksX6_number_1 5 rfl rfl)
theorem dX6_number_32 : decode cX6_number 32 = .ok (.aload_n 0, 1) := dk_42 (dk_at dksX6_number_1 8 rfl rfl)
theorem dX6_number_33 : decode cX6_number 33 = .ok (.getfield 51, 3) := dk_180 0 51 (dk_at dksX6_number_1 9 rfl rfl)
theorem dX6_number_36 : decode cX6_number 36 = .ok (.istore_n 3, 1) := dk_62 (dk_at dksX6_number_1 12 rfl rfl)
theorem dX6_number_37 : decode cX6_number 37 = .ok (.aload_n 0, 1) := dk_42 (dk_at dksX6_number_1 13 rfl rfl)
theorem dX6_number_38 : decode cX6_number 38 = .ok (.invokevirtual 95, 3) := dk_182 0 95 (dk_at dksX6_number_1 14 rfl rfl)
theorem dX6_number_41 : decode cX6_number 41 = .ok (.iload_n 3, 1) := dk_29 (dk_at dksX6_number_1 17 rfl rfl)
theorem dX6_number_42 : decode cX6_number 42 = .ok (.ireturn, 1) := dk_172 (dk_at dksX6_number_1 18 rfl rfl)
abbrev cX6_one : ByteArray := prog_18_method_13_code
def yX6_one : MethodName := ⟨RX6, "one", "(Ljava/util/ArrayList;)I"⟩
def dkwX6_one_0 : List UInt8 := [42, 43, 182, 0, 120, 61, 42, 182, 0, 95, 28, 172]
abbrev dktX6_one_0 : List UInt8 := dkwX6_one_0 ++ []
theorem dksX6_one_0 : cX6_one.data.toList.drop 0 = dktX6_one_0 := by decide +kernel
theorem dX6_one_0 : decode cX6_one 0 = .ok (.aload_n 0, 1) := dk_42 (dk_at dksX6_one_0 0 rfl rfl)
theorem dX6_one_1 : decode cX6_one 1 = .ok (.aload_n 1, 1) := dk_43 (dk_at dksX6_one_0 1 rfl rfl)
theorem dX6_one_2 : decode cX6_one 2 = .ok (.invokevirtual 120, 3) := dk_182 0 120 (dk_at dksX6_one_0 2 rfl rfl)
theorem dX6_one_5 : decode cX6_one 5 = .ok (.istore_n 2, 1) := dk_61 (dk_at dksX6_one_0 5 rfl rfl)
theorem dX6_one_6 : decode cX6_one 6 = .ok (.aload_n 0, 1) := dk_42 (dk_at dksX6_one_0 6 rfl rfl)
theorem dX6_one_7 : decode cX6_one 7 = .ok (.invokevirtual 95, 3) := dk_182 0 95 (dk_at dksX6_one_0 7 rfl rfl)
theorem dX6_one_10 : decode cX6_one 10 = .ok (.iload_n 2, 1) := dk_28 (dk_at dksX6_one_0 10 rfl rfl)
theorem dX6_one_11 : decode cX6_one 11 = .ok (.ireturn, 1) := dk_172 (dk_at dksX6_one_0 11 rfl rfl)
abbrev cX6_hold : ByteArray := prog_18_method_12_code
def yX6_hold : MethodName := ⟨RX6, "hold", "(Ljava/util/ArrayList;)I"⟩
def dkwX6_hold_1 : List UInt8 := [167, 0, 4, 3, 6, 182, 0, 87, 28, 172]
abbrev dktX6_hold_1 : List UInt8 := dkwX6_hold_1 ++ []
def dkwX6_hold_0 : List UInt8 := [42, 42, 182, 0, 112, 4, 182, 0, 87, 42, 43, 182, 0, 116, 61, 42, 28, 2, 159, 0, 7, 4]
abbrev dktX6_hold_0 : List UInt8 := dkwX6_hold_0 ++ dktX6_hold_1
theorem dksX6_hold_0 : cX6_hold.data.toList.drop 0 = dktX6_hold_0 := by decide +kernel
theorem dksX6_hold_1 : cX6_hold.data.toList.drop 22 = dktX6_hold_1 := dk_seg dksX6_hold_0 22 rfl rfl
theorem dX6_hold_0 : decode cX6_hold 0 = .ok (.aload_n 0, 1) := dk_42 (dk_at dksX6_hold_0 0 rfl rfl)
theorem dX6_hold_1 : decode cX6_hold 1 = .ok (.aload_n 0, 1) := dk_42 (dk_at dksX6_hold_0 1 rfl rfl)
theorem dX6_hold_2 : decode cX6_hold 2 = .ok (.invokevirtual 112, 3) := dk_182 0 112 (dk_at dksX6_hold_0 2 rfl rfl)
theorem dX6_hold_5 : decode cX6_hold 5 = .ok (.iconst 1, 1) := dk_4 (dk_at dksX6_hold_0 5 rfl rfl)
theorem dX6_hold_6 : decode cX6_hold 6 = .ok (.invokevirtual 87, 3) := dk_182 0 87 (dk_at dksX6_hold_0 6 rfl rfl)
theorem dX6_hold_9 : decode cX6_hold 9 = .ok (.aload_n 0, 1) := dk_42 (dk_at dksX6_hold_0 9 rfl rfl)
theorem dX6_hold_10 : decode cX6_hold 10 = .ok (.aload_n 1, 1) := dk_43 (dk_at dksX6_hold_0 10 rfl rfl)
theorem dX6_hold_11 : decode cX6_hold 11 = .ok (.invokevirtual 116, 3) := dk_182 0 116 (dk_at dksX6_hold_0 11 rfl rfl)
theorem dX6_hold_14 : decode cX6_hold 14 = .ok (.istore_n 2, 1) := dk_61 (dk_at dksX6_hold_0 14 rfl rfl)
theorem dX6_hold_15 : decode cX6_hold 15 = .ok (.aload_n 0, 1) := dk_42 (dk_at dksX6_hold_0 15 rfl rfl)
theorem dX6_hold_16 : decode cX6_hold 16 = .ok (.iload_n 2, 1) := dk_28 (dk_at dksX6_hold_0 16 rfl rfl)
theorem dX6_hold_17 : decode cX6_hold 17 = .ok (.iconst (-1), 1) := dk_2 (dk_at dksX6_hold_0 17 rfl rfl)
theorem dX6_hold_18 : decode cX6_hold 18 = .ok (.if_icmp .eq 7, 3) := dk_159 0 7 (dk_at dksX6_hold_0 18 rfl rfl)
theorem dX6_hold_21 : decode cX6_hold 21 = .ok (.iconst 1, 1) := dk_4 (dk_at dksX6_hold_0 21 rfl rfl)
theorem dX6_hold_22 : decode cX6_hold 22 = .ok (.goto 4, 3) := dk_167 0 4 (dk_at dksX6_hold_1 0 rfl rfl)
theorem dX6_hold_25 : decode cX6_hold 25 = .ok (.iconst 0, 1) := dk_3 (dk_at dksX6_hold_1 3 rfl rfl)
theorem dX6_hold_26 : decode cX6_hold 26 = .ok (.iconst 3, 1) := dk_6 (dk_at dksX6_hold_1 4 rfl rfl)
theorem dX6_hold_27 : decode cX6_hold 27 = .ok (.invokevirtual 87, 3) := dk_182 0 87 (dk_at dksX6_hold_1 5 rfl rfl)
theorem dX6_hold_30 : decode cX6_hold 30 = .ok (.iload_n 2, 1) := dk_28 (dk_at dksX6_hold_1 8 rfl rfl)
theorem dX6_hold_31 : decode cX6_hold 31 = .ok (.ireturn, 1) := dk_172 (dk_at dksX6_hold_1 9 rfl rfl)
abbrev cX6_end : ByteArray := prog_18_method_10_code
def yX6_end : MethodName := ⟨RX6, "end", "()V"⟩
def dkwX6_end_0 : List UInt8 := [42, 42, 180, 0, 38, 7, 160, 0, 7, 4, 167, 0, 4, 3, 4, 182, 0, 87, 42, 182, 0, 95, 177]
abbrev dktX6_end_0 : List UInt8 := dkwX6_end_0 ++ []
theorem dksX6_end_0 : cX6_end.data.toList.drop 0 = dktX6_end_0 := by decide +kernel
theorem dX6_end_0 : decode cX6_end 0 = .ok (.aload_n 0, 1) := dk_42 (dk_at dksX6_end_0 0 rfl rfl)
theorem dX6_end_1 : decode cX6_end 1 = .ok (.aload_n 0, 1) := dk_42 (dk_at dksX6_end_0 1 rfl rfl)
theorem dX6_end_2 : decode cX6_end 2 = .ok (.getfield 38, 3) := dk_180 0 38 (dk_at dksX6_end_0 2 rfl rfl)
theorem dX6_end_5 : decode cX6_end 5 = .ok (.iconst 4, 1) := dk_7 (dk_at dksX6_end_0 5 rfl rfl)
theorem dX6_end_6 : decode cX6_end 6 = .ok (.if_icmp .ne 7, 3) := dk_160 0 7 (dk_at dksX6_end_0 6 rfl rfl)
theorem dX6_end_9 : decode cX6_end 9 = .ok (.iconst 1, 1) := dk_4 (dk_at dksX6_end_0 9 rfl rfl)
theorem dX6_end_10 : decode cX6_end 10 = .ok (.goto 4, 3) := dk_167 0 4 (dk_at dksX6_end_0 10 rfl rfl)
theorem dX6_end_13 : decode cX6_end 13 = .ok (.iconst 0, 1) := dk_3 (dk_at dksX6_end_0 13 rfl rfl)
theorem dX6_end_14 : decode cX6_end 14 = .ok (.iconst 1, 1) := dk_4 (dk_at dksX6_end_0 14 rfl rfl)
theorem dX6_end_15 : decode cX6_end 15 = .ok (.invokevirtual 87, 3) := dk_182 0 87 (dk_at dksX6_end_0 15 rfl rfl)
theorem dX6_end_18 : decode cX6_end 18 = .ok (.aload_n 0, 1) := dk_42 (dk_at dksX6_end_0 18 rfl rfl)
theorem dX6_end_19 : decode cX6_end 19 = .ok (.invokevirtual 95, 3) := dk_182 0 95 (dk_at dksX6_end_0 19 rfl rfl)
theorem dX6_end_22 : decode cX6_end 22 = .ok (.return_, 1) := dk_177 (dk_at dksX6_end_0 22 rfl rfl)
abbrev cX7_init : ByteArray := prog_7_method_1_code
def yX7_init : MethodName := ⟨RX7, "<init>", "([BI)V"⟩
def dkwX7_init_0 : List UInt8 := [42, 43, 28, 17, 3, 132, 183, 0, 3, 42, 187, 0, 9, 89, 183, 0, 11, 181, 0, 14, 177]
abbrev dktX7_init_0 : List UInt8 := dkwX7_init_0 ++ []
theorem dksX7_init_0 : cX7_init.data.toList.drop 0 = dktX7_init_0 := by decide +kernel
theorem dX7_init_0 : decode cX7_init 0 = .ok (.aload_n 0, 1) := dk_42 (dk_at dksX7_init_0 0 rfl rfl)
theorem dX7_init_1 : decode cX7_init 1 = .ok (.aload_n 1, 1) := dk_43 (dk_at dksX7_init_0 1 rfl rfl)
theorem dX7_init_2 : decode cX7_init 2 = .ok (.iload_n 2, 1) := dk_28 (dk_at dksX7_init_0 2 rfl rfl)
theorem dX7_init_3 : decode cX7_init 3 = .ok (.sipush 900, 3) := dk_17 3 132 (dk_at dksX7_init_0 3 rfl rfl)
theorem dX7_init_6 : decode cX7_init 6 = .ok (.invokespecial 3, 3) := dk_183 0 3 (dk_at dksX7_init_0 6 rfl rfl)
theorem dX7_init_9 : decode cX7_init 9 = .ok (.aload_n 0, 1) := dk_42 (dk_at dksX7_init_0 9 rfl rfl)
theorem dX7_init_10 : decode cX7_init 10 = .ok (.new 9, 3) := dk_187 0 9 (dk_at dksX7_init_0 10 rfl rfl)
theorem dX7_init_13 : decode cX7_init 13 = .ok (.dup, 1) := dk_89 (dk_at dksX7_init_0 13 rfl rfl)
theorem dX7_init_14 : decode cX7_init 14 = .ok (.invokespecial 11, 3) := dk_183 0 11 (dk_at dksX7_init_0 14 rfl rfl)
theorem dX7_init_17 : decode cX7_init 17 = .ok (.putfield 14, 3) := dk_181 0 14 (dk_at dksX7_init_0 17 rfl rfl)
theorem dX7_init_20 : decode cX7_init 20 = .ok (.return_, 1) := dk_177 (dk_at dksX7_init_0 20 rfl rfl)
abbrev cX7_read : ByteArray := prog_7_method_2_code
def yX7_read : MethodName := ⟨RX7, "read", "()LStrangerMarket$County;"⟩
def dkwX7_read_1 : List UInt8 := [180, 0, 33, 4, 96, 181, 0, 33, 167, 255, 228, 42, 180, 0, 14, 176]
abbrev dktX7_read_1 : List UInt8 := dkwX7_read_1 ++ []
def dkwX7_read_0 : List UInt8 := [42, 182, 0, 20, 42, 180, 0, 23, 153, 0, 27, 42, 182, 0, 27, 42, 182, 0, 30, 42, 180, 0, 14, 89]
abbrev dktX7_read_0 : List UInt8 := dkwX7_read_0 ++ dktX7_read_1
theorem dksX7_read_0 : cX7_read.data.toList.drop 0 = dktX7_read_0 := by decide +kernel
theorem dksX7_read_1 : cX7_read.data.toList.drop 24 = dktX7_read_1 := dk_seg dksX7_read_0 24 rfl rfl
theorem dX7_read_0 : decode cX7_read 0 = .ok (.aload_n 0, 1) := dk_42 (dk_at dksX7_read_0 0 rfl rfl)
theorem dX7_read_1 : decode cX7_read 1 = .ok (.invokevirtual 20, 3) := dk_182 0 20 (dk_at dksX7_read_0 1 rfl rfl)
theorem dX7_read_4 : decode cX7_read 4 = .ok (.aload_n 0, 1) := dk_42 (dk_at dksX7_read_0 4 rfl rfl)
theorem dX7_read_5 : decode cX7_read 5 = .ok (.getfield 23, 3) := dk_180 0 23 (dk_at dksX7_read_0 5 rfl rfl)
theorem dX7_read_8 : decode cX7_read 8 = .ok (.ifCond .eq 27, 3) := dk_153 0 27 (dk_at dksX7_read_0 8 rfl rfl)
theorem dX7_read_11 : decode cX7_read 11 = .ok (.aload_n 0, 1) := dk_42 (dk_at dksX7_read_0 11 rfl rfl)
theorem dX7_read_12 : decode cX7_read 12 = .ok (.invokevirtual 27, 3) := dk_182 0 27 (dk_at dksX7_read_0 12 rfl rfl)
theorem dX7_read_15 : decode cX7_read 15 = .ok (.aload_n 0, 1) := dk_42 (dk_at dksX7_read_0 15 rfl rfl)
theorem dX7_read_16 : decode cX7_read 16 = .ok (.invokevirtual 30, 3) := dk_182 0 30 (dk_at dksX7_read_0 16 rfl rfl)
theorem dX7_read_19 : decode cX7_read 19 = .ok (.aload_n 0, 1) := dk_42 (dk_at dksX7_read_0 19 rfl rfl)
theorem dX7_read_20 : decode cX7_read 20 = .ok (.getfield 14, 3) := dk_180 0 14 (dk_at dksX7_read_0 20 rfl rfl)
theorem dX7_read_23 : decode cX7_read 23 = .ok (.dup, 1) := dk_89 (dk_at dksX7_read_0 23 rfl rfl)
theorem dX7_read_24 : decode cX7_read 24 = .ok (.getfield 33, 3) := dk_180 0 33 (dk_at dksX7_read_1 0 rfl rfl)
theorem dX7_read_27 : decode cX7_read 27 = .ok (.iconst 1, 1) := dk_4 (dk_at dksX7_read_1 3 rfl rfl)
theorem dX7_read_28 : decode cX7_read 28 = .ok (.iadd, 1) := dk_96 (dk_at dksX7_read_1 4 rfl rfl)
theorem dX7_read_29 : decode cX7_read 29 = .ok (.putfield 33, 3) := dk_181 0 33 (dk_at dksX7_read_1 5 rfl rfl)
theorem dX7_read_32 : decode cX7_read 32 = .ok (.goto (-28), 3) := dk_167 255 228 (dk_at dksX7_read_1 8 rfl rfl)
theorem dX7_read_35 : decode cX7_read 35 = .ok (.aload_n 0, 1) := dk_42 (dk_at dksX7_read_1 11 rfl rfl)
theorem dX7_read_36 : decode cX7_read 36 = .ok (.getfield 14, 3) := dk_180 0 14 (dk_at dksX7_read_1 12 rfl rfl)
theorem dX7_read_39 : decode cX7_read 39 = .ok (.areturn, 1) := dk_176 (dk_at dksX7_read_1 15 rfl rfl)
abbrev cX7_line : ByteArray := prog_7_method_3_code
def yX7_line : MethodName := ⟨RX7, "line", "()V"⟩
def dkwX7_line_6 : List UInt8 := [42, 4, 3, 16, 9, 182, 0, 66, 181, 0, 74, 167, 0, 7, 42, 182, 0, 76, 177]
abbrev dktX7_line_6 : List UInt8 := dkwX7_line_6 ++ []
def dkwX7_line_5 : List UInt8 := [16, 9, 182, 0, 66, 181, 0, 70, 167, 0, 34, 42, 18, 72, 182, 0, 38, 153, 0, 21, 42, 180, 0, 14]
abbrev dktX7_line_5 : List UInt8 := dkwX7_line_5 ++ dktX7_line_6
def dkwX7_line_4 : List UInt8 := [3, 182, 0, 58, 167, 0, 61, 42, 18, 64, 182, 0, 38, 153, 0, 21, 42, 180, 0, 14, 42, 3, 4]
abbrev dktX7_line_4 : List UInt8 := dkwX7_line_4 ++ dktX7_line_5
def dkwX7_line_3 : List UInt8 := [182, 0, 38, 153, 0, 11, 42, 4, 182, 0, 58, 167, 0, 78, 42, 18, 62, 182, 0, 38, 153, 0, 11, 42]
abbrev dktX7_line_3 : List UInt8 := dkwX7_line_3 ++ dktX7_line_4
def dkwX7_line_2 : List UInt8 := [167, 0, 111, 42, 18, 52, 182, 0, 38, 153, 0, 10, 42, 182, 0, 54, 167, 0, 95, 42, 18, 56]
abbrev dktX7_line_2 : List UInt8 := dkwX7_line_2 ++ dktX7_line_3
def dkwX7_line_1 : List UInt8 := [153, 0, 10, 42, 182, 0, 46, 167, 0, 127, 42, 18, 48, 182, 0, 38, 153, 0, 10, 42, 182, 0, 50]
abbrev dktX7_line_1 : List UInt8 := dkwX7_line_1 ++ dktX7_line_2
def dkwX7_line_0 : List UInt8 := [42, 18, 36, 182, 0, 38, 153, 0, 10, 42, 182, 0, 42, 167, 0, 143, 42, 18, 44, 182, 0, 38]
abbrev dktX7_line_0 : List UInt8 := dkwX7_line_0 ++ dktX7_line_1
theorem dksX7_line_0 : cX7_line.data.toList.drop 0 = dktX7_line_0 := by decide +kernel
theorem dksX7_line_1 : cX7_line.data.toList.drop 22 = dktX7_line_1 := dk_seg dksX7_line_0 22 rfl rfl
theorem dksX7_line_2 : cX7_line.data.toList.drop 45 = dktX7_line_2 := dk_seg dksX7_line_1 23 rfl rfl
theorem dksX7_line_3 : cX7_line.data.toList.drop 67 = dktX7_line_3 := dk_seg dksX7_line_2 22 rfl rfl
theorem dksX7_line_4 : cX7_line.data.toList.drop 91 = dktX7_line_4 := dk_seg dksX7_line_3 24 rfl rfl
theorem dksX7_line_5 : cX7_line.data.toList.drop 114 = dktX7_line_5 := dk_seg dksX7_line_4 23 rfl rfl
theorem dksX7_line_6 : cX7_line.data.toList.drop 138 = dktX7_line_6 := dk_seg dksX7_line_5 24 rfl rfl
theorem dX7_line_0 : decode cX7_line 0 = .ok (.aload_n 0, 1) := dk_42 (dk_at dksX7_line_0 0 rfl rfl)
theorem dX7_line_1 : decode cX7_line 1 = .ok (.ldc 36, 2) := dk_18 36 (dk_at dksX7_line_0 1 rfl rfl)
theorem dX7_line_3 : decode cX7_line 3 = .ok (.invokevirtual 38, 3) := dk_182 0 38 (dk_at dksX7_line_0 3 rfl rfl)
theorem dX7_line_6 : decode cX7_line 6 = .ok (.ifCond .eq 10, 3) := dk_153 0 10 (dk_at dksX7_line_0 6 rfl rfl)
theorem dX7_line_9 : decode cX7_line 9 = .ok (.aload_n 0, 1) := dk_42 (dk_at dksX7_line_0 9 rfl rfl)
theorem dX7_line_10 : decode cX7_line 10 = .ok (.invokevirtual 42, 3) := dk_182 0 42 (dk_at dksX7_line_0 10 rfl rfl)
theorem dX7_line_13 : decode cX7_line 13 = .ok (.goto 143, 3) := dk_167 0 143 (dk_at dksX7_line_0 13 rfl rfl)
theorem dX7_line_16 : decode cX7_line 16 = .ok (.aload_n 0, 1) := dk_42 (dk_at dksX7_line_0 16 rfl rfl)
theorem dX7_line_17 : decode cX7_line 17 = .ok (.ldc 44, 2) := dk_18 44 (dk_at dksX7_line_0 17 rfl rfl)
theorem dX7_line_19 : decode cX7_line 19 = .ok (.invokevirtual 38, 3) := dk_182 0 38 (dk_at dksX7_line_0 19 rfl rfl)
theorem dX7_line_22 : decode cX7_line 22 = .ok (.ifCond .eq 10, 3) := dk_153 0 10 (dk_at dksX7_line_1 0 rfl rfl)
theorem dX7_line_25 : decode cX7_line 25 = .ok (.aload_n 0, 1) := dk_42 (dk_at dksX7_line_1 3 rfl rfl)
theorem dX7_line_26 : decode cX7_line 26 = .ok (.invokevirtual 46, 3) := dk_182 0 46 (dk_at dksX7_line_1 4 rfl rfl)
theorem dX7_line_29 : decode cX7_line 29 = .ok (.goto 127, 3) := dk_167 0 127 (dk_at dksX7_line_1 7 rfl rfl)
theorem dX7_line_32 : decode cX7_line 32 = .ok (.aload_n 0, 1) := dk_42 (dk_at dksX7_line_1 10 rfl rfl)
theorem dX7_line_33 : decode cX7_line 33 = .ok (.ldc 48, 2) := dk_18 48 (dk_at dksX7_line_1 11 rfl rfl)
theorem dX7_line_35 : decode cX7_line 35 = .ok (.invokevirtual 38, 3) := dk_182 0 38 (dk_at dksX7_line_1 13 rfl rfl)
theorem dX7_line_38 : decode cX7_line 38 = .ok (.ifCond .eq 10, 3) := dk_153 0 10 (dk_at dksX7_line_1 16 rfl rfl)
theorem dX7_line_41 : decode cX7_line 41 = .ok (.aload_n 0, 1) := dk_42 (dk_at dksX7_line_1 19 rfl rfl)
theorem dX7_line_42 : decode cX7_line 42 = .ok (.invokevirtual 50, 3) := dk_182 0 50 (dk_at dksX7_line_1 20 rfl rfl)
theorem dX7_line_45 : decode cX7_line 45 = .ok (.goto 111, 3) := dk_167 0 111 (dk_at dksX7_line_2 0 rfl rfl)
theorem dX7_line_48 : decode cX7_line 48 = .ok (.aload_n 0, 1) := dk_42 (dk_at dksX7_line_2 3 rfl rfl)
theorem dX7_line_49 : decode cX7_line 49 = .ok (.ldc 52, 2) := dk_18 52 (dk_at dksX7_line_2 4 rfl rfl)
theorem dX7_line_51 : decode cX7_line 51 = .ok (.invokevirtual 38, 3) := dk_182 0 38 (dk_at dksX7_line_2 6 rfl rfl)
theorem dX7_line_54 : decode cX7_line 54 = .ok (.ifCond .eq 10, 3) := dk_153 0 10 (dk_at dksX7_line_2 9 rfl rfl)
theorem dX7_line_57 : decode cX7_line 57 = .ok (.aload_n 0, 1) := dk_42 (dk_at dksX7_line_2 12 rfl rfl)
theorem dX7_line_58 : decode cX7_line 58 = .ok (.invokevirtual 54, 3) := dk_182 0 54 (dk_at dksX7_line_2 13 rfl rfl)
theorem dX7_line_61 : decode cX7_line 61 = .ok (.goto 95, 3) := dk_167 0 95 (dk_at dksX7_line_2 16 rfl rfl)
theorem dX7_line_64 : decode cX7_line 64 = .ok (.aload_n 0, 1) := dk_42 (dk_at dksX7_line_2 19 rfl rfl)
theorem dX7_line_65 : decode cX7_line 65 = .ok (.ldc 56, 2) := dk_18 56 (dk_at dksX7_line_2 20 rfl rfl)
theorem dX7_line_67 : decode cX7_line 67 = .ok (.invokevirtual 38, 3) := dk_182 0 38 (dk_at dksX7_line_3 0 rfl rfl)
theorem dX7_line_70 : decode cX7_line 70 = .ok (.ifCond .eq 11, 3) := dk_153 0 11 (dk_at dksX7_line_3 3 rfl rfl)
theorem dX7_line_73 : decode cX7_line 73 = .ok (.aload_n 0, 1) := dk_42 (dk_at dksX7_line_3 6 rfl rfl)
theorem dX7_line_74 : decode cX7_line 74 = .ok (.iconst 1, 1) := dk_4 (dk_at dksX7_line_3 7 rfl rfl)
theorem dX7_line_75 : decode cX7_line 75 = .ok (.invokevirtual 58, 3) := dk_182 0 58 (dk_at dksX7_line_3 8 rfl rfl)
theorem dX7_line_78 : decode cX7_line 78 = .ok (.goto 78, 3) := dk_167 0 78 (dk_at dksX7_line_3 11 rfl rfl)
theorem dX7_line_81 : decode cX7_line 81 = .ok (.aload_n 0, 1) := dk_42 (dk_at dksX7_line_3 14 rfl rfl)
theorem dX7_line_82 : decode cX7_line 82 = .ok (.ldc 62, 2) := dk_18 62 (dk_at dksX7_line_3 15 rfl rfl)
theorem dX7_line_84 : decode cX7_line 84 = .ok (.invokevirtual 38, 3) := dk_182 0 38 (dk_at dksX7_line_3 17 rfl rfl)
theorem dX7_line_87 : decode cX7_line 87 = .ok (.ifCond .eq 11, 3) := dk_153 0 11 (dk_at dksX7_line_3 20 rfl rfl)
theorem dX7_line_90 : decode cX7_line 90 = .ok (.aload_n 0, 1) := dk_42 (dk_at dksX7_line_3 23 rfl rfl)
theorem dX7_line_91 : decode cX7_line 91 = .ok (.iconst 0, 1) := dk_3 (dk_at dksX7_line_4 0 rfl rfl)
theorem dX7_line_92 : decode cX7_line 92 = .ok (.invokevirtual 58, 3) := dk_182 0 58 (dk_at dksX7_line_4 1 rfl rfl)
theorem dX7_line_95 : decode cX7_line 95 = .ok (.goto 61, 3) := dk_167 0 61 (dk_at dksX7_line_4 4 rfl rfl)
theorem dX7_line_98 : decode cX7_line 98 = .ok (.aload_n 0, 1) := dk_42 (dk_at dksX7_line_4 7 rfl rfl)
theorem dX7_line_99 : decode cX7_line 99 = .ok (.ldc 64, 2) := dk_18 64 (dk_at dksX7_line_4 8 rfl rfl)
theorem dX7_line_101 : decode cX7_line 101 = .ok (.invokevirtual 38, 3) := dk_182 0 38 (dk_at dksX7_line_4 10 rfl rfl)
theorem dX7_line_104 : decode cX7_line 104 = .ok (.ifCond .eq 21, 3) := dk_153 0 21 (dk_at dksX7_line_4 13 rfl rfl)
theorem dX7_line_107 : decode cX7_line 107 = .ok (.aload_n 0, 1) := dk_42 (dk_at dksX7_line_4 16 rfl rfl)
theorem dX7_line_108 : decode cX7_line 108 = .ok (.getfield 14, 3) := dk_180 0 14 (dk_at dksX7_line_4 17 rfl rfl)
theorem dX7_line_111 : decode cX7_line 111 = .ok (.aload_n 0, 1) := dk_42 (dk_at dksX7_line_4 20 rfl rfl)
theorem dX7_line_112 : decode cX7_line 112 = .ok (.iconst 0, 1) := dk_3 (dk_at dksX7_line_4 21 rfl rfl)
theorem dX7_line_113 : decode cX7_line 113 = .ok (.iconst 1, 1) := dk_4 (dk_at dksX7_line_4 22 rfl rfl)
theorem dX7_line_114 : decode cX7_line 114 = .ok (.bipush 9, 2) := dk_16 9 (dk_at dksX7_line_5 0 rfl rfl)
theorem dX7_line_116 : decode cX7_line 116 = .ok (.invokevirtual 66, 3) := dk_182 0 66 (dk_at dksX7_line_5 2 rfl rfl)
theorem dX7_line_119 : decode cX7_line 119 = .ok (.putfield 70, 3) := dk_181 0 70 (dk_at dksX7_line_5 5 rfl rfl)
theorem dX7_line_122 : decode cX7_line 122 = .ok (.goto 34, 3) := dk_167 0 34 (dk_at dksX7_line_5 8 rfl rfl)
theorem dX7_line_125 : decode cX7_line 125 = .ok (.aload_n 0, 1) := dk_42 (dk_at dksX7_line_5 11 rfl rfl)
theorem dX7_line_126 : decode cX7_line 126 = .ok (.ldc 72, 2) := dk_18 72 (dk_at dksX7_line_5 12 rfl rfl)
theorem dX7_line_128 : decode cX7_line 128 = .ok (.invokevirtual 38, 3) := dk_182 0 38 (dk_at dksX7_line_5 14 rfl rfl)
theorem dX7_line_131 : decode cX7_line 131 = .ok (.ifCond .eq 21, 3) := dk_153 0 21 (dk_at dksX7_line_5 17 rfl rfl)
theorem dX7_line_134 : decode cX7_line 134 = .ok (.aload_n 0, 1) := dk_42 (dk_at dksX7_line_5 20 rfl rfl)
theorem dX7_line_135 : decode cX7_line 135 = .ok (.getfield 14, 3) := dk_180 0 14 (dk_at dksX7_line_5 21 rfl rfl)
theorem dX7_line_138 : decode cX7_line 138 = .ok (.aload_n 0, 1) := dk_42 (dk_at dksX7_line_6 0 rfl rfl)
theorem dX7_line_139 : decode cX7_line 139 = .ok (.iconst 1, 1) := dk_4 (dk_at dksX7_line_6 1 rfl rfl)
theorem dX7_line_140 : decode cX7_line 140 = .ok (.iconst 0, 1) := dk_3 (dk_at dksX7_line_6 2 rfl rfl)
theorem dX7_line_141 : decode cX7_line 141 = .ok (.bipush 9, 2) := dk_16 9 (dk_at dksX7_line_6 3 rfl rfl)
theorem dX7_line_143 : decode cX7_line 143 = .ok (.invokevirtual 66, 3) := dk_182 0 66 (dk_at dksX7_line_6 5 rfl rfl)
theorem dX7_line_146 : decode cX7_line 146 = .ok (.putfield 74, 3) := dk_181 0 74 (dk_at dksX7_line_6 8 rfl rfl)
theorem dX7_line_149 : decode cX7_line 149 = .ok (.goto 7, 3) := dk_167 0 7 (dk_at dksX7_line_6 11 rfl rfl)
theorem dX7_line_152 : decode cX7_line 152 = .ok (.aload_n 0, 1) := dk_42 (dk_at dksX7_line_6 14 rfl rfl)
theorem dX7_line_153 : decode cX7_line 153 = .ok (.invokevirtual 76, 3) := dk_182 0 76 (dk_at dksX7_line_6 15 rfl rfl)
theorem dX7_line_156 : decode cX7_line 156 = .ok (.return_, 1) := dk_177 (dk_at dksX7_line_6 18 rfl rfl)
abbrev cX7_person : ByteArray := prog_7_method_8_code
def yX7_person : MethodName := ⟨RX7, "person", "()V"⟩
def dkwX7_person_2 : List UInt8 := [87, 177]
abbrev dktX7_person_2 : List UInt8 := dkwX7_person_2 ++ []
def dkwX7_person_1 : List UInt8 := [180, 0, 14, 180, 0, 101, 187, 0, 130, 89, 43, 42, 3, 16, 99, 182, 0, 90, 183, 0, 132, 182, 0, 135]
abbrev dktX7_person_1 : List UInt8 := dkwX7_person_1 ++ dktX7_person_2
def dkwX7_person_0 : List UInt8 := [42, 42, 180, 0, 14, 180, 0, 101, 182, 0, 116, 16, 7, 182, 0, 122, 42, 182, 0, 126, 76, 42]
abbrev dktX7_person_0 : List UInt8 := dkwX7_person_0 ++ dktX7_person_1
theorem dksX7_person_0 : cX7_person.data.toList.drop 0 = dktX7_person_0 := by decide +kernel
theorem dksX7_person_1 : cX7_person.data.toList.drop 22 = dktX7_person_1 := dk_seg dksX7_person_0 22 rfl rfl
theorem dksX7_person_2 : cX7_person.data.toList.drop 46 = dktX7_person_2 := dk_seg dksX7_person_1 24 rfl rfl
theorem dX7_person_0 : decode cX7_person 0 = .ok (.aload_n 0, 1) := dk_42 (dk_at dksX7_person_0 0 rfl rfl)
theorem dX7_person_1 : decode cX7_person 1 = .ok (.aload_n 0, 1) := dk_42 (dk_at dksX7_person_0 1 rfl rfl)
theorem dX7_person_2 : decode cX7_person 2 = .ok (.getfield 14, 3) := dk_180 0 14 (dk_at dksX7_person_0 2 rfl rfl)
theorem dX7_person_5 : decode cX7_person 5 = .ok (.getfield 101, 3) := dk_180 0 101 (dk_at dksX7_person_0 5 rfl rfl)
theorem dX7_person_8 : decode cX7_person 8 = .ok (.invokevirtual 116, 3) := dk_182 0 116 (dk_at dksX7_person_0 8 rfl rfl)
theorem dX7_person_11 : decode cX7_person 11 = .ok (.bipush 7, 2) := dk_16 7 (dk_at dksX7_person_0 11 rfl rfl)
theorem dX7_person_13 : decode cX7_person 13 = .ok (.invokevirtual 122, 3) := dk_182 0 122 (dk_at dksX7_person_0 13 rfl rfl)
theorem dX7_person_16 : decode cX7_person 16 = .ok (.aload_n 0, 1) := dk_42 (dk_at dksX7_person_0 16 rfl rfl)
theorem dX7_person_17 : decode cX7_person 17 = .ok (.invokevirtual 126, 3) := dk_182 0 126 (dk_at dksX7_person_0 17 rfl rfl)
theorem dX7_person_20 : decode cX7_person 20 = .ok (.astore_n 1, 1) := dk_76 (dk_at dksX7_person_0 20 rfl rfl)
theorem dX7_person_21 : decode cX7_person 21 = .ok (.aload_n 0, 1) := dk_42 (dk_at dksX7_person_0 21 rfl rfl)
theorem dX7_person_22 : decode cX7_person 22 = .ok (.getfield 14, 3) := dk_180 0 14 (dk_at dksX7_person_1 0 rfl rfl)
theorem dX7_person_25 : decode cX7_person 25 = .ok (.getfield 101, 3) := dk_180 0 101 (dk_at dksX7_person_1 3 rfl rfl)
theorem dX7_person_28 : decode cX7_person 28 = .ok (.new 130, 3) := dk_187 0 130 (dk_at dksX7_person_1 6 rfl rfl)
theorem dX7_person_31 : decode cX7_person 31 = .ok (.dup, 1) := dk_89 (dk_at dksX7_person_1 9 rfl rfl)
theorem dX7_person_32 : decode cX7_person 32 = .ok (.aload_n 1, 1) := dk_43 (dk_at dksX7_person_1 10 rfl rfl)
theorem dX7_person_33 : decode cX7_person 33 = .ok (.aload_n 0, 1) := dk_42 (dk_at dksX7_person_1 11 rfl rfl)
theorem dX7_person_34 : decode cX7_person 34 = .ok (.iconst 0, 1) := dk_3 (dk_at dksX7_person_1 12 rfl rfl)
theorem dX7_person_35 : decode cX7_person 35 = .ok (.bipush 99, 2) := dk_16 99 (dk_at dksX7_person_1 13 rfl rfl)
theorem dX7_person_37 : decode cX7_person 37 = .ok (.invokevirtual 90, 3) := dk_182 0 90 (dk_at dksX7_person_1 15 rfl rfl)
theorem dX7_person_40 : decode cX7_person 40 = .ok (.invokespecial 132, 3) := dk_183 0 132 (dk_at dksX7_person_1 18 rfl rfl)
theorem dX7_person_43 : decode cX7_person 43 = .ok (.invokevirtual 135, 3) := dk_182 0 135 (dk_at dksX7_person_1 21 rfl rfl)
theorem dX7_person_46 : decode cX7_person 46 = .ok (.pop, 1) := dk_87 (dk_at dksX7_person_2 0 rfl rfl)
theorem dX7_person_47 : decode cX7_person 47 = .ok (.return_, 1) := dk_177 (dk_at dksX7_person_2 1 rfl rfl)
abbrev cX7_first : ByteArray := prog_7_method_6_code
def yX7_first : MethodName := ⟨RX7, "first", "(II)V"⟩
def dkwX7_first_0 : List UInt8 := [42, 27, 28, 162, 0, 7, 4, 167, 0, 4, 3, 7, 182, 0, 86, 42, 182, 0, 20, 177]
abbrev dktX7_first_0 : List UInt8 := dkwX7_first_0 ++ []
theorem dksX7_first_0 : cX7_first.data.toList.drop 0 = dktX7_first_0 := by decide +kernel
theorem dX7_first_0 : decode cX7_first 0 = .ok (.aload_n 0, 1) := dk_42 (dk_at dksX7_first_0 0 rfl rfl)
theorem dX7_first_1 : decode cX7_first 1 = .ok (.iload_n 1, 1) := dk_27 (dk_at dksX7_first_0 1 rfl rfl)
theorem dX7_first_2 : decode cX7_first 2 = .ok (.iload_n 2, 1) := dk_28 (dk_at dksX7_first_0 2 rfl rfl)
theorem dX7_first_3 : decode cX7_first 3 = .ok (.if_icmp .ge 7, 3) := dk_162 0 7 (dk_at dksX7_first_0 3 rfl rfl)
theorem dX7_first_6 : decode cX7_first 6 = .ok (.iconst 1, 1) := dk_4 (dk_at dksX7_first_0 6 rfl rfl)
theorem dX7_first_7 : decode cX7_first 7 = .ok (.goto 4, 3) := dk_167 0 4 (dk_at dksX7_first_0 7 rfl rfl)
theorem dX7_first_10 : decode cX7_first 10 = .ok (.iconst 0, 1) := dk_3 (dk_at dksX7_first_0 10 rfl rfl)
theorem dX7_first_11 : decode cX7_first 11 = .ok (.iconst 4, 1) := dk_7 (dk_at dksX7_first_0 11 rfl rfl)
theorem dX7_first_12 : decode cX7_first 12 = .ok (.invokevirtual 86, 3) := dk_182 0 86 (dk_at dksX7_first_0 12 rfl rfl)
theorem dX7_first_15 : decode cX7_first 15 = .ok (.aload_n 0, 1) := dk_42 (dk_at dksX7_first_0 15 rfl rfl)
theorem dX7_first_16 : decode cX7_first 16 = .ok (.invokevirtual 20, 3) := dk_182 0 20 (dk_at dksX7_first_0 16 rfl rfl)
theorem dX7_first_19 : decode cX7_first 19 = .ok (.return_, 1) := dk_177 (dk_at dksX7_first_0 19 rfl rfl)
abbrev cX7_fresh : ByteArray := prog_7_method_7_code
def yX7_fresh : MethodName := ⟨RX7, "fresh", "()Ljava/lang/String;"⟩
def dkwX7_fresh_2 : List UInt8 := [182, 0, 86, 42, 180, 0, 112, 76, 42, 182, 0, 20, 43, 176]
abbrev dktX7_fresh_2 : List UInt8 := dkwX7_fresh_2 ++ []
def dkwX7_fresh_1 : List UInt8 := [160, 0, 22, 42, 42, 180, 0, 14, 180, 0, 109, 182, 0, 105, 2, 160, 0, 7, 4, 167, 0, 4, 3, 6]
abbrev dktX7_fresh_1 : List UInt8 := dkwX7_fresh_1 ++ dktX7_fresh_2
def dkwX7_fresh_0 : List UInt8 := [42, 42, 182, 0, 97, 4, 182, 0, 86, 42, 42, 42, 180, 0, 14, 180, 0, 101, 182, 0, 105, 2]
abbrev dktX7_fresh_0 : List UInt8 := dkwX7_fresh_0 ++ dktX7_fresh_1
theorem dksX7_fresh_0 : cX7_fresh.data.toList.drop 0 = dktX7_fresh_0 := by decide +kernel
theorem dksX7_fresh_1 : cX7_fresh.data.toList.drop 22 = dktX7_fresh_1 := dk_seg dksX7_fresh_0 22 rfl rfl
theorem dksX7_fresh_2 : cX7_fresh.data.toList.drop 46 = dktX7_fresh_2 := dk_seg dksX7_fresh_1 24 rfl rfl
theorem dX7_fresh_0 : decode cX7_fresh 0 = .ok (.aload_n 0, 1) := dk_42 (dk_at dksX7_fresh_0 0 rfl rfl)
theorem dX7_fresh_1 : decode cX7_fresh 1 = .ok (.aload_n 0, 1) := dk_42 (dk_at dksX7_fresh_0 1 rfl rfl)
theorem dX7_fresh_2 : decode cX7_fresh 2 = .ok (.invokevirtual 97, 3) := dk_182 0 97 (dk_at dksX7_fresh_0 2 rfl rfl)
theorem dX7_fresh_5 : decode cX7_fresh 5 = .ok (.iconst 1, 1) := dk_4 (dk_at dksX7_fresh_0 5 rfl rfl)
theorem dX7_fresh_6 : decode cX7_fresh 6 = .ok (.invokevirtual 86, 3) := dk_182 0 86 (dk_at dksX7_fresh_0 6 rfl rfl)
theorem dX7_fresh_9 : decode cX7_fresh 9 = .ok (.aload_n 0, 1) := dk_42 (dk_at dksX7_fresh_0 9 rfl rfl)
theorem dX7_fresh_10 : decode cX7_fresh 10 = .ok (.aload_n 0, 1) := dk_42 (dk_at dksX7_fresh_0 10 rfl rfl)
theorem dX7_fresh_11 : decode cX7_fresh 11 = .ok (.aload_n 0, 1) := dk_42 (dk_at dksX7_fresh_0 11 rfl rfl)
theorem dX7_fresh_12 : decode cX7_fresh 12 = .ok (.getfield 14, 3) := dk_180 0 14 (dk_at dksX7_fresh_0 12 rfl rfl)
theorem dX7_fresh_15 : decode cX7_fresh 15 = .ok (.getfield 101, 3) := dk_180 0 101 (dk_at dksX7_fresh_0 15 rfl rfl)
theorem dX7_fresh_18 : decode cX7_fresh 18 = .ok (.invokevirtual 105, 3) := dk_182 0 105 (dk_at dksX7_fresh_0 18 rfl rfl)
theorem dX7_fresh_21 : decode cX7_fresh 21 = .ok (.iconst (-1), 1) := dk_2 (dk_at dksX7_fresh_0 21 rfl rfl)
theorem dX7_fresh_22 : decode cX7_fresh 22 = .ok (.if_icmp .ne 22, 3) := dk_160 0 22 (dk_at dksX7_fresh_1 0 rfl rfl)
theorem dX7_fresh_25 : decode cX7_fresh 25 = .ok (.aload_n 0, 1) := dk_42 (dk_at dksX7_fresh_1 3 rfl rfl)
theorem dX7_fresh_26 : decode cX7_fresh 26 = .ok (.aload_n 0, 1) := dk_42 (dk_at dksX7_fresh_1 4 rfl rfl)
theorem dX7_fresh_27 : decode cX7_fresh 27 = .ok (.getfield 14, 3) := dk_180 0 14 (dk_at dksX7_fresh_1 5 rfl rfl)
theorem dX7_fresh_30 : decode cX7_fresh 30 = .ok (.getfield 109, 3) := dk_180 0 109 (dk_at dksX7_fresh_1 8 rfl rfl)
theorem dX7_fresh_33 : decode cX7_fresh 33 = .ok (.invokevirtual 105, 3) := dk_182 0 105 (dk_at dksX7_fresh_1 11 rfl rfl)
theorem dX7_fresh_36 : decode cX7_fresh 36 = .ok (.iconst (-1), 1) := dk_2 (dk_at dksX7_fresh_1 14 rfl rfl)
theorem dX7_fresh_37 : decode cX7_fresh 37 = .ok (.if_icmp .ne 7, 3) := dk_160 0 7 (dk_at dksX7_fresh_1 15 rfl rfl)
theorem dX7_fresh_40 : decode cX7_fresh 40 = .ok (.iconst 1, 1) := dk_4 (dk_at dksX7_fresh_1 18 rfl rfl)
theorem dX7_fresh_41 : decode cX7_fresh 41 = .ok (.goto 4, 3) := dk_167 0 4 (dk_at dksX7_fresh_1 19 rfl rfl)
theorem dX7_fresh_44 : decode cX7_fresh 44 = .ok (.iconst 0, 1) := dk_3 (dk_at dksX7_fresh_1 22 rfl rfl)
theorem dX7_fresh_45 : decode cX7_fresh 45 = .ok (.iconst 3, 1) := dk_6 (dk_at dksX7_fresh_1 23 rfl rfl)
theorem dX7_fresh_46 : decode cX7_fresh 46 = .ok (.invokevirtual 86, 3) := dk_182 0 86 (dk_at dksX7_fresh_2 0 rfl rfl)
theorem dX7_fresh_49 : decode cX7_fresh 49 = .ok (.aload_n 0, 1) := dk_42 (dk_at dksX7_fresh_2 3 rfl rfl)
theorem dX7_fresh_50 : decode cX7_fresh 50 = .ok (.getfield 112, 3) := dk_180 0 112 (dk_at dksX7_fresh_2 4 rfl rfl)
theorem dX7_fresh_53 : decode cX7_fresh 53 = .ok (.astore_n 1, 1) := dk_76 (dk_at dksX7_fresh_2 7 rfl rfl)
theorem dX7_fresh_54 : decode cX7_fresh 54 = .ok (.aload_n 0, 1) := dk_42 (dk_at dksX7_fresh_2 8 rfl rfl)
theorem dX7_fresh_55 : decode cX7_fresh 55 = .ok (.invokevirtual 20, 3) := dk_182 0 20 (dk_at dksX7_fresh_2 9 rfl rfl)
theorem dX7_fresh_58 : decode cX7_fresh 58 = .ok (.aload_n 1, 1) := dk_43 (dk_at dksX7_fresh_2 12 rfl rfl)
theorem dX7_fresh_59 : decode cX7_fresh 59 = .ok (.areturn, 1) := dk_176 (dk_at dksX7_fresh_2 13 rfl rfl)
abbrev cX7_good : ByteArray := prog_7_method_9_code
def yX7_good : MethodName := ⟨RX7, "good", "()V"⟩
def dkwX7_good_1 : List UInt8 := [187, 0, 139, 89, 42, 182, 0, 126, 183, 0, 141, 182, 0, 135, 87, 177]
abbrev dktX7_good_1 : List UInt8 := dkwX7_good_1 ++ []
def dkwX7_good_0 : List UInt8 := [42, 42, 180, 0, 14, 180, 0, 109, 182, 0, 116, 8, 182, 0, 122, 42, 180, 0, 14, 180, 0, 109]
abbrev dktX7_good_0 : List UInt8 := dkwX7_good_0 ++ dktX7_good_1
theorem dksX7_good_0 : cX7_good.data.toList.drop 0 = dktX7_good_0 := by decide +kernel
theorem dksX7_good_1 : cX7_good.data.toList.drop 22 = dktX7_good_1 := dk_seg dksX7_good_0 22 rfl rfl
theorem dX7_good_0 : decode cX7_good 0 = .ok (.aload_n 0, 1) := dk_42 (dk_at dksX7_good_0 0 rfl rfl)
theorem dX7_good_1 : decode cX7_good 1 = .ok (.aload_n 0, 1) := dk_42 (dk_at dksX7_good_0 1 rfl rfl)
theorem dX7_good_2 : decode cX7_good 2 = .ok (.getfield 14, 3) := dk_180 0 14 (dk_at dksX7_good_0 2 rfl rfl)
theorem dX7_good_5 : decode cX7_good 5 = .ok (.getfield 109, 3) := dk_180 0 109 (dk_at dksX7_good_0 5 rfl rfl)
theorem dX7_good_8 : decode cX7_good 8 = .ok (.invokevirtual 116, 3) := dk_182 0 116 (dk_at dksX7_good_0 8 rfl rfl)
theorem dX7_good_11 : decode cX7_good 11 = .ok (.iconst 5, 1) := dk_8 (dk_at dksX7_good_0 11 rfl rfl)
theorem dX7_good_12 : decode cX7_good 12 = .ok (.invokevirtual 122, 3) := dk_182 0 122 (dk_at dksX7_good_0 12 rfl rfl)
theorem dX7_good_15 : decode cX7_good 15 = .ok (.aload_n 0, 1) := dk_42 (dk_at dksX7_good_0 15 rfl rfl)
theorem dX7_good_16 : decode cX7_good 16 = .ok (.getfield 14, 3) := dk_180 0 14 (dk_at dksX7_good_0 16 rfl rfl)
theorem dX7_good_19 : decode cX7_good 19 = .ok (.getfield 109, 3) := dk_180 0 109 (dk_at dksX7_good_0 19 rfl rfl)
theorem dX7_good_22 : decode cX7_good 22 = .ok (.new 139, 3) := dk_187 0 139 (dk_at dksX7_good_1 0 rfl rfl)
theorem dX7_good_25 : decode cX7_good 25 = .ok (.dup, 1) := dk_89 (dk_at dksX7_good_1 3 rfl rfl)
theorem dX7_good_26 : decode cX7_good 26 = .ok (.aload_n 0, 1) := dk_42 (dk_at dksX7_good_1 4 rfl rfl)
theorem dX7_good_27 : decode cX7_good 27 = .ok (.invokevirtual 126, 3) := dk_182 0 126 (dk_at dksX7_good_1 5 rfl rfl)
theorem dX7_good_30 : decode cX7_good 30 = .ok (.invokespecial 141, 3) := dk_183 0 141 (dk_at dksX7_good_1 8 rfl rfl)
theorem dX7_good_33 : decode cX7_good 33 = .ok (.invokevirtual 135, 3) := dk_182 0 135 (dk_at dksX7_good_1 11 rfl rfl)
theorem dX7_good_36 : decode cX7_good 36 = .ok (.pop, 1) := dk_87 (dk_at dksX7_good_1 14 rfl rfl)
theorem dX7_good_37 : decode cX7_good 37 = .ok (.return_, 1) := dk_177 (dk_at dksX7_good_1 15 rfl rfl)
abbrev cX7_sells : ByteArray := prog_7_method_11_code
def yX7_sells : MethodName := ⟨RX7, "sells", "()V"⟩
def dkwX7_sells_2 : List UInt8 := [182, 0, 90, 79, 43, 180, 0, 168, 28, 42, 3, 16, 20, 182, 0, 90, 79, 177]
abbrev dktX7_sells_2 : List UInt8 := dkwX7_sells_2 ++ []
def dkwX7_sells_1 : List UInt8 := [182, 0, 157, 192, 0, 130, 76, 42, 43, 182, 0, 161, 61, 43, 180, 0, 165, 28, 42, 4, 16, 9]
abbrev dktX7_sells_1 : List UInt8 := dkwX7_sells_1 ++ dktX7_sells_2
def dkwX7_sells_0 : List UInt8 := [42, 182, 0, 20, 42, 180, 0, 14, 180, 0, 101, 42, 42, 180, 0, 14, 180, 0, 101, 182, 0, 154]
abbrev dktX7_sells_0 : List UInt8 := dkwX7_sells_0 ++ dktX7_sells_1
theorem dksX7_sells_0 : cX7_sells.data.toList.drop 0 = dktX7_sells_0 := by decide +kernel
theorem dksX7_sells_1 : cX7_sells.data.toList.drop 22 = dktX7_sells_1 := dk_seg dksX7_sells_0 22 rfl rfl
theorem dksX7_sells_2 : cX7_sells.data.toList.drop 44 = dktX7_sells_2 := dk_seg dksX7_sells_1 22 rfl rfl
theorem dX7_sells_0 : decode cX7_sells 0 = .ok (.aload_n 0, 1) := dk_42 (dk_at dksX7_sells_0 0 rfl rfl)
theorem dX7_sells_1 : decode cX7_sells 1 = .ok (.invokevirtual 20, 3) := dk_182 0 20 (dk_at dksX7_sells_0 1 rfl rfl)
theorem dX7_sells_4 : decode cX7_sells 4 = .ok (.aload_n 0, 1) := dk_42 (dk_at dksX7_sells_0 4 rfl rfl)
theorem dX7_sells_5 : decode cX7_sells 5 = .ok (.getfield 14, 3) := dk_180 0 14 (dk_at dksX7_sells_0 5 rfl rfl)
theorem dX7_sells_8 : decode cX7_sells 8 = .ok (.getfield 101, 3) := dk_180 0 101 (dk_at dksX7_sells_0 8 rfl rfl)
theorem dX7_sells_11 : decode cX7_sells 11 = .ok (.aload_n 0, 1) := dk_42 (dk_at dksX7_sells_0 11 rfl rfl)
theorem dX7_sells_12 : decode cX7_sells 12 = .ok (.aload_n 0, 1) := dk_42 (dk_at dksX7_sells_0 12 rfl rfl)
theorem dX7_sells_13 : decode cX7_sells 13 = .ok (.getfield 14, 3) := dk_180 0 14 (dk_at dksX7_sells_0 13 rfl rfl)
theorem dX7_sells_16 : decode cX7_sells 16 = .ok (.getfield 101, 3) := dk_180 0 101 (dk_at dksX7_sells_0 16 rfl rfl)
theorem dX7_sells_19 : decode cX7_sells 19 = .ok (.invokevirtual 154, 3) := dk_182 0 154 (dk_at dksX7_sells_0 19 rfl rfl)
theorem dX7_sells_22 : decode cX7_sells 22 = .ok (.invokevirtual 157, 3) := dk_182 0 157 (dk_at dksX7_sells_1 0 rfl rfl)
theorem dX7_sells_25 : decode cX7_sells 25 = .ok (.checkcast 130, 3) := dk_192 0 130 (dk_at dksX7_sells_1 3 rfl rfl)
theorem dX7_sells_28 : decode cX7_sells 28 = .ok (.astore_n 1, 1) := dk_76 (dk_at dksX7_sells_1 6 rfl rfl)
theorem dX7_sells_29 : decode cX7_sells 29 = .ok (.aload_n 0, 1) := dk_42 (dk_at dksX7_sells_1 7 rfl rfl)
theorem dX7_sells_30 : decode cX7_sells 30 = .ok (.aload_n 1, 1) := dk_43 (dk_at dksX7_sells_1 8 rfl rfl)
theorem dX7_sells_31 : decode cX7_sells 31 = .ok (.invokevirtual 161, 3) := dk_182 0 161 (dk_at dksX7_sells_1 9 rfl rfl)
theorem dX7_sells_34 : decode cX7_sells 34 = .ok (.istore_n 2, 1) := dk_61 (dk_at dksX7_sells_1 12 rfl rfl)
theorem dX7_sells_35 : decode cX7_sells 35 = .ok (.aload_n 1, 1) := dk_43 (dk_at dksX7_sells_1 13 rfl rfl)
theorem dX7_sells_36 : decode cX7_sells 36 = .ok (.getfield 165, 3) := dk_180 0 165 (dk_at dksX7_sells_1 14 rfl rfl)
theorem dX7_sells_39 : decode cX7_sells 39 = .ok (.iload_n 2, 1) := dk_28 (dk_at dksX7_sells_1 17 rfl rfl)
theorem dX7_sells_40 : decode cX7_sells 40 = .ok (.aload_n 0, 1) := dk_42 (dk_at dksX7_sells_1 18 rfl rfl)
theorem dX7_sells_41 : decode cX7_sells 41 = .ok (.iconst 1, 1) := dk_4 (dk_at dksX7_sells_1 19 rfl rfl)
theorem dX7_sells_42 : decode cX7_sells 42 = .ok (.bipush 9, 2) := dk_16 9 (dk_at dksX7_sells_1 20 rfl rfl)
theorem dX7_sells_44 : decode cX7_sells 44 = .ok (.invokevirtual 90, 3) := dk_182 0 90 (dk_at dksX7_sells_2 0 rfl rfl)
theorem dX7_sells_47 : decode cX7_sells 47 = .ok (.iastore, 1) := dk_79 (dk_at dksX7_sells_2 3 rfl rfl)
theorem dX7_sells_48 : decode cX7_sells 48 = .ok (.aload_n 1, 1) := dk_43 (dk_at dksX7_sells_2 4 rfl rfl)
theorem dX7_sells_49 : decode cX7_sells 49 = .ok (.getfield 168, 3) := dk_180 0 168 (dk_at dksX7_sells_2 5 rfl rfl)
theorem dX7_sells_52 : decode cX7_sells 52 = .ok (.iload_n 2, 1) := dk_28 (dk_at dksX7_sells_2 8 rfl rfl)
theorem dX7_sells_53 : decode cX7_sells 53 = .ok (.aload_n 0, 1) := dk_42 (dk_at dksX7_sells_2 9 rfl rfl)
theorem dX7_sells_54 : decode cX7_sells 54 = .ok (.iconst 0, 1) := dk_3 (dk_at dksX7_sells_2 10 rfl rfl)
theorem dX7_sells_55 : decode cX7_sells 55 = .ok (.bipush 20, 2) := dk_16 20 (dk_at dksX7_sells_2 11 rfl rfl)
theorem dX7_sells_57 : decode cX7_sells 57 = .ok (.invokevirtual 90, 3) := dk_182 0 90 (dk_at dksX7_sells_2 13 rfl rfl)
theorem dX7_sells_60 : decode cX7_sells 60 = .ok (.iastore, 1) := dk_79 (dk_at dksX7_sells_2 16 rfl rfl)
theorem dX7_sells_61 : decode cX7_sells 61 = .ok (.return_, 1) := dk_177 (dk_at dksX7_sells_2 17 rfl rfl)
abbrev cX7_freshGood : ByteArray := prog_7_method_10_code
def yX7_freshGood : MethodName := ⟨RX7, "freshGood", "(LStrangerMarket$Person;)I"⟩
def dkwX7_freshGood_1 : List UInt8 := [180, 0, 150, 28, 46, 154, 0, 7, 4, 167, 0, 4, 3, 6, 182, 0, 86, 42, 182, 0, 20, 28, 172]
abbrev dktX7_freshGood_1 : List UInt8 := dkwX7_freshGood_1 ++ []
def dkwX7_freshGood_0 : List UInt8 := [42, 42, 180, 0, 14, 180, 0, 109, 182, 0, 144, 61, 42, 43, 28, 182, 0, 147, 154, 0, 16, 43]
abbrev dktX7_freshGood_0 : List UInt8 := dkwX7_freshGood_0 ++ dktX7_freshGood_1
theorem dksX7_freshGood_0 : cX7_freshGood.data.toList.drop 0 = dktX7_freshGood_0 := by decide +kernel
theorem dksX7_freshGood_1 : cX7_freshGood.data.toList.drop 22 = dktX7_freshGood_1 := dk_seg dksX7_freshGood_0 22 rfl rfl
theorem dX7_freshGood_0 : decode cX7_freshGood 0 = .ok (.aload_n 0, 1) := dk_42 (dk_at dksX7_freshGood_0 0 rfl rfl)
theorem dX7_freshGood_1 : decode cX7_freshGood 1 = .ok (.aload_n 0, 1) := dk_42 (dk_at dksX7_freshGood_0 1 rfl rfl)
theorem dX7_freshGood_2 : decode cX7_freshGood 2 = .ok (.getfield 14, 3) := dk_180 0 14 (dk_at dksX7_freshGood_0 2 rfl rfl)
theorem dX7_freshGood_5 : decode cX7_freshGood 5 = .ok (.getfield 109, 3) := dk_180 0 109 (dk_at dksX7_freshGood_0 5 rfl rfl)
theorem dX7_freshGood_8 : decode cX7_freshGood 8 = .ok (.invokevirtual 144, 3) := dk_182 0 144 (dk_at dksX7_freshGood_0 8 rfl rfl)
theorem dX7_freshGood_11 : decode cX7_freshGood 11 = .ok (.istore_n 2, 1) := dk_61 (dk_at dksX7_freshGood_0 11 rfl rfl)
theorem dX7_freshGood_12 : decode cX7_freshGood 12 = .ok (.aload_n 0, 1) := dk_42 (dk_at dksX7_freshGood_0 12 rfl rfl)
theorem dX7_freshGood_13 : decode cX7_freshGood 13 = .ok (.aload_n 1, 1) := dk_43 (dk_at dksX7_freshGood_0 13 rfl rfl)
theorem dX7_freshGood_14 : decode cX7_freshGood 14 = .ok (.iload_n 2, 1) := dk_28 (dk_at dksX7_freshGood_0 14 rfl rfl)
theorem dX7_freshGood_15 : decode cX7_freshGood 15 = .ok (.invokevirtual 147, 3) := dk_182 0 147 (dk_at dksX7_freshGood_0 15 rfl rfl)
theorem dX7_freshGood_18 : decode cX7_freshGood 18 = .ok (.ifCond .ne 16, 3) := dk_154 0 16 (dk_at dksX7_freshGood_0 18 rfl rfl)
theorem dX7_freshGood_21 : decode cX7_freshGood 21 = .ok (.aload_n 1, 1) := dk_43 (dk_at dksX7_freshGood_0 21 rfl rfl)
theorem dX7_freshGood_22 : decode cX7_freshGood 22 = .ok (.getfield 150, 3) := dk_180 0 150 (dk_at dksX7_freshGood_1 0 rfl rfl)
theorem dX7_freshGood_25 : decode cX7_freshGood 25 = .ok (.iload_n 2, 1) := dk_28 (dk_at dksX7_freshGood_1 3 rfl rfl)
theorem dX7_freshGood_26 : decode cX7_freshGood 26 = .ok (.iaload, 1) := dk_46 (dk_at dksX7_freshGood_1 4 rfl rfl)
theorem dX7_freshGood_27 : decode cX7_freshGood 27 = .ok (.ifCond .ne 7, 3) := dk_154 0 7 (dk_at dksX7_freshGood_1 5 rfl rfl)
theorem dX7_freshGood_30 : decode cX7_freshGood 30 = .ok (.iconst 1, 1) := dk_4 (dk_at dksX7_freshGood_1 8 rfl rfl)
theorem dX7_freshGood_31 : decode cX7_freshGood 31 = .ok (.goto 4, 3) := dk_167 0 4 (dk_at dksX7_freshGood_1 9 rfl rfl)
theorem dX7_freshGood_34 : decode cX7_freshGood 34 = .ok (.iconst 0, 1) := dk_3 (dk_at dksX7_freshGood_1 12 rfl rfl)
theorem dX7_freshGood_35 : decode cX7_freshGood 35 = .ok (.iconst 3, 1) := dk_6 (dk_at dksX7_freshGood_1 13 rfl rfl)
theorem dX7_freshGood_36 : decode cX7_freshGood 36 = .ok (.invokevirtual 86, 3) := dk_182 0 86 (dk_at dksX7_freshGood_1 14 rfl rfl)
theorem dX7_freshGood_39 : decode cX7_freshGood 39 = .ok (.aload_n 0, 1) := dk_42 (dk_at dksX7_freshGood_1 17 rfl rfl)
theorem dX7_freshGood_40 : decode cX7_freshGood 40 = .ok (.invokevirtual 20, 3) := dk_182 0 20 (dk_at dksX7_freshGood_1 18 rfl rfl)
theorem dX7_freshGood_43 : decode cX7_freshGood 43 = .ok (.iload_n 2, 1) := dk_28 (dk_at dksX7_freshGood_1 21 rfl rfl)
theorem dX7_freshGood_44 : decode cX7_freshGood 44 = .ok (.ireturn, 1) := dk_172 (dk_at dksX7_freshGood_1 22 rfl rfl)
abbrev cX7_wants : ByteArray := prog_7_method_12_code
def yX7_wants : MethodName := ⟨RX7, "wants", "()V"⟩
def dkwX7_wants_2 : List UInt8 := [182, 0, 90, 79, 177]
abbrev dktX7_wants_2 : List UInt8 := dkwX7_wants_2 ++ []
def dkwX7_wants_1 : List UInt8 := [182, 0, 157, 192, 0, 130, 76, 42, 43, 182, 0, 161, 61, 43, 180, 0, 150, 28, 42, 4, 16, 9]
abbrev dktX7_wants_1 : List UInt8 := dkwX7_wants_1 ++ dktX7_wants_2
def dkwX7_wants_0 : List UInt8 := [42, 182, 0, 20, 42, 180, 0, 14, 180, 0, 101, 42, 42, 180, 0, 14, 180, 0, 101, 182, 0, 154]
abbrev dktX7_wants_0 : List UInt8 := dkwX7_wants_0 ++ dktX7_wants_1
theorem dksX7_wants_0 : cX7_wants.data.toList.drop 0 = dktX7_wants_0 := by decide +kernel
theorem dksX7_wants_1 : cX7_wants.data.toList.drop 22 = dktX7_wants_1 := dk_seg dksX7_wants_0 22 rfl rfl
theorem dksX7_wants_2 : cX7_wants.data.toList.drop 44 = dktX7_wants_2 := dk_seg dksX7_wants_1 22 rfl rfl
theorem dX7_wants_0 : decode cX7_wants 0 = .ok (.aload_n 0, 1) := dk_42 (dk_at dksX7_wants_0 0 rfl rfl)
theorem dX7_wants_1 : decode cX7_wants 1 = .ok (.invokevirtual 20, 3) := dk_182 0 20 (dk_at dksX7_wants_0 1 rfl rfl)
theorem dX7_wants_4 : decode cX7_wants 4 = .ok (.aload_n 0, 1) := dk_42 (dk_at dksX7_wants_0 4 rfl rfl)
theorem dX7_wants_5 : decode cX7_wants 5 = .ok (.getfield 14, 3) := dk_180 0 14 (dk_at dksX7_wants_0 5 rfl rfl)
theorem dX7_wants_8 : decode cX7_wants 8 = .ok (.getfield 101, 3) := dk_180 0 101 (dk_at dksX7_wants_0 8 rfl rfl)
theorem dX7_wants_11 : decode cX7_wants 11 = .ok (.aload_n 0, 1) := dk_42 (dk_at dksX7_wants_0 11 rfl rfl)
theorem dX7_wants_12 : decode cX7_wants 12 = .ok (.aload_n 0, 1) := dk_42 (dk_at dksX7_wants_0 12 rfl rfl)
theorem dX7_wants_13 : decode cX7_wants 13 = .ok (.getfield 14, 3) := dk_180 0 14 (dk_at dksX7_wants_0 13 rfl rfl)
theorem dX7_wants_16 : decode cX7_wants 16 = .ok (.getfield 101, 3) := dk_180 0 101 (dk_at dksX7_wants_0 16 rfl rfl)
theorem dX7_wants_19 : decode cX7_wants 19 = .ok (.invokevirtual 154, 3) := dk_182 0 154 (dk_at dksX7_wants_0 19 rfl rfl)
theorem dX7_wants_22 : decode cX7_wants 22 = .ok (.invokevirtual 157, 3) := dk_182 0 157 (dk_at dksX7_wants_1 0 rfl rfl)
theorem dX7_wants_25 : decode cX7_wants 25 = .ok (.checkcast 130, 3) := dk_192 0 130 (dk_at dksX7_wants_1 3 rfl rfl)
theorem dX7_wants_28 : decode cX7_wants 28 = .ok (.astore_n 1, 1) := dk_76 (dk_at dksX7_wants_1 6 rfl rfl)
theorem dX7_wants_29 : decode cX7_wants 29 = .ok (.aload_n 0, 1) := dk_42 (dk_at dksX7_wants_1 7 rfl rfl)
theorem dX7_wants_30 : decode cX7_wants 30 = .ok (.aload_n 1, 1) := dk_43 (dk_at dksX7_wants_1 8 rfl rfl)
theorem dX7_wants_31 : decode cX7_wants 31 = .ok (.invokevirtual 161, 3) := dk_182 0 161 (dk_at dksX7_wants_1 9 rfl rfl)
theorem dX7_wants_34 : decode cX7_wants 34 = .ok (.istore_n 2, 1) := dk_61 (dk_at dksX7_wants_1 12 rfl rfl)
theorem dX7_wants_35 : decode cX7_wants 35 = .ok (.aload_n 1, 1) := dk_43 (dk_at dksX7_wants_1 13 rfl rfl)
theorem dX7_wants_36 : decode cX7_wants 36 = .ok (.getfield 150, 3) := dk_180 0 150 (dk_at dksX7_wants_1 14 rfl rfl)
theorem dX7_wants_39 : decode cX7_wants 39 = .ok (.iload_n 2, 1) := dk_28 (dk_at dksX7_wants_1 17 rfl rfl)
theorem dX7_wants_40 : decode cX7_wants 40 = .ok (.aload_n 0, 1) := dk_42 (dk_at dksX7_wants_1 18 rfl rfl)
theorem dX7_wants_41 : decode cX7_wants 41 = .ok (.iconst 1, 1) := dk_4 (dk_at dksX7_wants_1 19 rfl rfl)
theorem dX7_wants_42 : decode cX7_wants 42 = .ok (.bipush 9, 2) := dk_16 9 (dk_at dksX7_wants_1 20 rfl rfl)
theorem dX7_wants_44 : decode cX7_wants 44 = .ok (.invokevirtual 90, 3) := dk_182 0 90 (dk_at dksX7_wants_2 0 rfl rfl)
theorem dX7_wants_47 : decode cX7_wants 47 = .ok (.iastore, 1) := dk_79 (dk_at dksX7_wants_2 3 rfl rfl)
theorem dX7_wants_48 : decode cX7_wants 48 = .ok (.return_, 1) := dk_177 (dk_at dksX7_wants_2 4 rfl rfl)
abbrev cX7_pair : ByteArray := prog_7_method_13_code
def yX7_pair : MethodName := ⟨RX7, "pair", "(Z)V"⟩
def dkwX7_pair_6 : List UInt8 := [181, 0, 173, 25, 5, 89, 180, 0, 173, 4, 28, 120, 128, 181, 0, 173, 42, 182, 0, 20, 177]
abbrev dktX7_pair_6 : List UInt8 := dkwX7_pair_6 ++ []
def dkwX7_pair_5 : List UInt8 := [180, 0, 171, 4, 28, 120, 128, 181, 0, 171, 167, 0, 29, 25, 4, 89, 180, 0, 173, 4, 29, 120, 128]
abbrev dktX7_pair_5 : List UInt8 := dkwX7_pair_5 ++ dktX7_pair_6
def dkwX7_pair_4 : List UInt8 := [182, 0, 86, 27, 153, 0, 32, 25, 4, 89, 180, 0, 171, 4, 29, 120, 128, 181, 0, 171, 25, 5, 89]
abbrev dktX7_pair_4 : List UInt8 := dkwX7_pair_4 ++ dktX7_pair_5
def dkwX7_pair_3 : List UInt8 := [180, 0, 171, 167, 0, 8, 25, 4, 180, 0, 173, 29, 184, 0, 82, 154, 0, 7, 4, 167, 0, 4, 3, 6]
abbrev dktX7_pair_3 : List UInt8 := dkwX7_pair_3 ++ dktX7_pair_4
def dkwX7_pair_2 : List UInt8 := [180, 0, 101, 29, 182, 0, 157, 192, 0, 130, 58, 5, 42, 28, 29, 159, 0, 31, 27, 153, 0, 11, 25, 4]
abbrev dktX7_pair_2 : List UInt8 := dkwX7_pair_2 ++ dktX7_pair_3
def dkwX7_pair_1 : List UInt8 := [182, 0, 144, 62, 42, 180, 0, 14, 180, 0, 101, 28, 182, 0, 157, 192, 0, 130, 58, 4, 42, 180, 0, 14]
abbrev dktX7_pair_1 : List UInt8 := dkwX7_pair_1 ++ dktX7_pair_2
def dkwX7_pair_0 : List UInt8 := [42, 182, 0, 20, 42, 42, 180, 0, 14, 180, 0, 101, 182, 0, 154, 61, 42, 42, 180, 0, 14, 180, 0, 101]
abbrev dktX7_pair_0 : List UInt8 := dkwX7_pair_0 ++ dktX7_pair_1
theorem dksX7_pair_0 : cX7_pair.data.toList.drop 0 = dktX7_pair_0 := by decide +kernel
theorem dksX7_pair_1 : cX7_pair.data.toList.drop 24 = dktX7_pair_1 := dk_seg dksX7_pair_0 24 rfl rfl
theorem dksX7_pair_2 : cX7_pair.data.toList.drop 48 = dktX7_pair_2 := dk_seg dksX7_pair_1 24 rfl rfl
theorem dksX7_pair_3 : cX7_pair.data.toList.drop 72 = dktX7_pair_3 := dk_seg dksX7_pair_2 24 rfl rfl
theorem dksX7_pair_4 : cX7_pair.data.toList.drop 96 = dktX7_pair_4 := dk_seg dksX7_pair_3 24 rfl rfl
theorem dksX7_pair_5 : cX7_pair.data.toList.drop 119 = dktX7_pair_5 := dk_seg dksX7_pair_4 23 rfl rfl
theorem dksX7_pair_6 : cX7_pair.data.toList.drop 142 = dktX7_pair_6 := dk_seg dksX7_pair_5 23 rfl rfl
theorem dX7_pair_0 : decode cX7_pair 0 = .ok (.aload_n 0, 1) := dk_42 (dk_at dksX7_pair_0 0 rfl rfl)
theorem dX7_pair_1 : decode cX7_pair 1 = .ok (.invokevirtual 20, 3) := dk_182 0 20 (dk_at dksX7_pair_0 1 rfl rfl)
theorem dX7_pair_4 : decode cX7_pair 4 = .ok (.aload_n 0, 1) := dk_42 (dk_at dksX7_pair_0 4 rfl rfl)
theorem dX7_pair_5 : decode cX7_pair 5 = .ok (.aload_n 0, 1) := dk_42 (dk_at dksX7_pair_0 5 rfl rfl)
theorem dX7_pair_6 : decode cX7_pair 6 = .ok (.getfield 14, 3) := dk_180 0 14 (dk_at dksX7_pair_0 6 rfl rfl)
theorem dX7_pair_9 : decode cX7_pair 9 = .ok (.getfield 101, 3) := dk_180 0 101 (dk_at dksX7_pair_0 9 rfl rfl)
theorem dX7_pair_12 : decode cX7_pair 12 = .ok (.invokevirtual 154, 3) := dk_182 0 154 (dk_at dksX7_pair_0 12 rfl rfl)
theorem dX7_pair_15 : decode cX7_pair 15 = .ok (.istore_n 2, 1) := dk_61 (dk_at dksX7_pair_0 15 rfl rfl)
theorem dX7_pair_16 : decode cX7_pair 16 = .ok (.aload_n 0, 1) := dk_42 (dk_at dksX7_pair_0 16 rfl rfl)
theorem dX7_pair_17 : decode cX7_pair 17 = .ok (.aload_n 0, 1) := dk_42 (dk_at dksX7_pair_0 17 rfl rfl)
theorem dX7_pair_18 : decode cX7_pair 18 = .ok (.getfield 14, 3) := dk_180 0 14 (dk_at dksX7_pair_0 18 rfl rfl)
theorem dX7_pair_21 : decode cX7_pair 21 = .ok (.getfield 101, 3) := dk_180 0 101 (dk_at dksX7_pair_0 21 rfl rfl)
theorem dX7_pair_24 : decode cX7_pair 24 = .ok (.invokevirtual 144, 3) := dk_182 0 144 (dk_at dksX7_pair_1 0 rfl rfl)
theorem dX7_pair_27 : decode cX7_pair 27 = .ok (.istore_n 3, 1) := dk_62 (dk_at dksX7_pair_1 3 rfl rfl)
theorem dX7_pair_28 : decode cX7_pair 28 = .ok (.aload_n 0, 1) := dk_42 (dk_at dksX7_pair_1 4 rfl rfl)
theorem dX7_pair_29 : decode cX7_pair 29 = .ok (.getfield 14, 3) := dk_180 0 14 (dk_at dksX7_pair_1 5 rfl rfl)
theorem dX7_pair_32 : decode cX7_pair 32 = .ok (.getfield 101, 3) := dk_180 0 101 (dk_at dksX7_pair_1 8 rfl rfl)
theorem dX7_pair_35 : decode cX7_pair 35 = .ok (.iload_n 2, 1) := dk_28 (dk_at dksX7_pair_1 11 rfl rfl)
theorem dX7_pair_36 : decode cX7_pair 36 = .ok (.invokevirtual 157, 3) := dk_182 0 157 (dk_at dksX7_pair_1 12 rfl rfl)
theorem dX7_pair_39 : decode cX7_pair 39 = .ok (.checkcast 130, 3) := dk_192 0 130 (dk_at dksX7_pair_1 15 rfl rfl)
theorem dX7_pair_42 : decode cX7_pair 42 = .ok (.astore 4, 2) := dk_58 4 (dk_at dksX7_pair_1 18 rfl rfl)
theorem dX7_pair_44 : decode cX7_pair 44 = .ok (.aload_n 0, 1) := dk_42 (dk_at dksX7_pair_1 20 rfl rfl)
theorem dX7_pair_45 : decode cX7_pair 45 = .ok (.getfield 14, 3) := dk_180 0 14 (dk_at dksX7_pair_1 21 rfl rfl)
theorem dX7_pair_48 : decode cX7_pair 48 = .ok (.getfield 101, 3) := dk_180 0 101 (dk_at dksX7_pair_2 0 rfl rfl)
theorem dX7_pair_51 : decode cX7_pair 51 = .ok (.iload_n 3, 1) := dk_29 (dk_at dksX7_pair_2 3 rfl rfl)
theorem dX7_pair_52 : decode cX7_pair 52 = .ok (.invokevirtual 157, 3) := dk_182 0 157 (dk_at dksX7_pair_2 4 rfl rfl)
theorem dX7_pair_55 : decode cX7_pair 55 = .ok (.checkcast 130, 3) := dk_192 0 130 (dk_at dksX7_pair_2 7 rfl rfl)
theorem dX7_pair_58 : decode cX7_pair 58 = .ok (.astore 5, 2) := dk_58 5 (dk_at dksX7_pair_2 10 rfl rfl)
theorem dX7_pair_60 : decode cX7_pair 60 = .ok (.aload_n 0, 1) := dk_42 (dk_at dksX7_pair_2 12 rfl rfl)
theorem dX7_pair_61 : decode cX7_pair 61 = .ok (.iload_n 2, 1) := dk_28 (dk_at dksX7_pair_2 13 rfl rfl)
theorem dX7_pair_62 : decode cX7_pair 62 = .ok (.iload_n 3, 1) := dk_29 (dk_at dksX7_pair_2 14 rfl rfl)
theorem dX7_pair_63 : decode cX7_pair 63 = .ok (.if_icmp .eq 31, 3) := dk_159 0 31 (dk_at dksX7_pair_2 15 rfl rfl)
theorem dX7_pair_66 : decode cX7_pair 66 = .ok (.iload_n 1, 1) := dk_27 (dk_at dksX7_pair_2 18 rfl rfl)
theorem dX7_pair_67 : decode cX7_pair 67 = .ok (.ifCond .eq 11, 3) := dk_153 0 11 (dk_at dksX7_pair_2 19 rfl rfl)
theorem dX7_pair_70 : decode cX7_pair 70 = .ok (.aload 4, 2) := dk_25 4 (dk_at dksX7_pair_2 22 rfl rfl)
theorem dX7_pair_72 : decode cX7_pair 72 = .ok (.getfield 171, 3) := dk_180 0 171 (dk_at dksX7_pair_3 0 rfl rfl)
theorem dX7_pair_75 : decode cX7_pair 75 = .ok (.goto 8, 3) := dk_167 0 8 (dk_at dksX7_pair_3 3 rfl rfl)
theorem dX7_pair_78 : decode cX7_pair 78 = .ok (.aload 4, 2) := dk_25 4 (dk_at dksX7_pair_3 6 rfl rfl)
theorem dX7_pair_80 : decode cX7_pair 80 = .ok (.getfield 173, 3) := dk_180 0 173 (dk_at dksX7_pair_3 8 rfl rfl)
theorem dX7_pair_83 : decode cX7_pair 83 = .ok (.iload_n 3, 1) := dk_29 (dk_at dksX7_pair_3 11 rfl rfl)
theorem dX7_pair_84 : decode cX7_pair 84 = .ok (.invokestatic 82, 3) := dk_184 0 82 (dk_at dksX7_pair_3 12 rfl rfl)
theorem dX7_pair_87 : decode cX7_pair 87 = .ok (.ifCond .ne 7, 3) := dk_154 0 7 (dk_at dksX7_pair_3 15 rfl rfl)
theorem dX7_pair_90 : decode cX7_pair 90 = .ok (.iconst 1, 1) := dk_4 (dk_at dksX7_pair_3 18 rfl rfl)
theorem dX7_pair_91 : decode cX7_pair 91 = .ok (.goto 4, 3) := dk_167 0 4 (dk_at dksX7_pair_3 19 rfl rfl)
theorem dX7_pair_94 : decode cX7_pair 94 = .ok (.iconst 0, 1) := dk_3 (dk_at dksX7_pair_3 22 rfl rfl)
theorem dX7_pair_95 : decode cX7_pair 95 = .ok (.iconst 3, 1) := dk_6 (dk_at dksX7_pair_3 23 rfl rfl)
theorem dX7_pair_96 : decode cX7_pair 96 = .ok (.invokevirtual 86, 3) := dk_182 0 86 (dk_at dksX7_pair_4 0 rfl rfl)
theorem dX7_pair_99 : decode cX7_pair 99 = .ok (.iload_n 1, 1) := dk_27 (dk_at dksX7_pair_4 3 rfl rfl)
theorem dX7_pair_100 : decode cX7_pair 100 = .ok (.ifCond .eq 32, 3) := dk_153 0 32 (dk_at dksX7_pair_4 4 rfl rfl)
theorem dX7_pair_103 : decode cX7_pair 103 = .ok (.aload 4, 2) := dk_25 4 (dk_at dksX7_pair_4 7 rfl rfl)
theorem dX7_pair_105 : decode cX7_pair 105 = .ok (.dup, 1) := dk_89 (dk_at dksX7_pair_4 9 rfl rfl)
theorem dX7_pair_106 : decode cX7_pair 106 = .ok (.getfield 171, 3) := dk_180 0 171 (dk_at dksX7_pair_4 10 rfl rfl)
theorem dX7_pair_109 : decode cX7_pair 109 = .ok (.iconst 1, 1) := dk_4 (dk_at dksX7_pair_4 13 rfl rfl)
theorem dX7_pair_110 : decode cX7_pair 110 = .ok (.iload_n 3, 1) := dk_29 (dk_at dksX7_pair_4 14 rfl rfl)
theorem dX7_pair_111 : decode cX7_pair 111 = .ok (.ishl, 1) := dk_120 (dk_at dksX7_pair_4 15 rfl rfl)
theorem dX7_pair_112 : decode cX7_pair 112 = .ok (.ior, 1) := dk_128 (dk_at dksX7_pair_4 16 rfl rfl)
theorem dX7_pair_113 : decode cX7_pair 113 = .ok (.putfield 171, 3) := dk_181 0 171 (dk_at dksX7_pair_4 17 rfl rfl)
theorem dX7_pair_116 : decode cX7_pair 116 = .ok (.aload 5, 2) := dk_25 5 (dk_at dksX7_pair_4 20 rfl rfl)
theorem dX7_pair_118 : decode cX7_pair 118 = .ok (.dup, 1) := dk_89 (dk_at dksX7_pair_4 22 rfl rfl)
theorem dX7_pair_119 : decode cX7_pair 119 = .ok (.getfield 171, 3) := dk_180 0 171 (dk_at dksX7_pair_5 0 rfl rfl)
theorem dX7_pair_122 : decode cX7_pair 122 = .ok (.iconst 1, 1) := dk_4 (dk_at dksX7_pair_5 3 rfl rfl)
theorem dX7_pair_123 : decode cX7_pair 123 = .ok (.iload_n 2, 1) := dk_28 (dk_at dksX7_pair_5 4 rfl rfl)
theorem dX7_pair_124 : decode cX7_pair 124 = .ok (.ishl, 1) := dk_120 (dk_at dksX7_pair_5 5 rfl rfl)
theorem dX7_pair_125 : decode cX7_pair 125 = .ok (.ior, 1) := dk_128 (dk_at dksX7_pair_5 6 rfl rfl)
theorem dX7_pair_126 : decode cX7_pair 126 = .ok (.putfield 171, 3) := dk_181 0 171 (dk_at dksX7_pair_5 7 rfl rfl)
theorem dX7_pair_129 : decode cX7_pair 129 = .ok (.goto 29, 3) := dk_167 0 29 (dk_at dksX7_pair_5 10 rfl rfl)
theorem dX7_pair_132 : decode cX7_pair 132 = .ok (.aload 4, 2) := dk_25 4 (dk_at dksX7_pair_5 13 rfl rfl)
theorem dX7_pair_134 : decode cX7_pair 134 = .ok (.dup, 1) := dk_89 (dk_at dksX7_pair_5 15 rfl rfl)
theorem dX7_pair_135 : decode cX7_pair 135 = .ok (.getfield 173, 3) := dk_180 0 173 (dk_at dksX7_pair_5 16 rfl rfl)
theorem dX7_pair_138 : decode cX7_pair 138 = .ok (.iconst 1, 1) := dk_4 (dk_at dksX7_pair_5 19 rfl rfl)
theorem dX7_pair_139 : decode cX7_pair 139 = .ok (.iload_n 3, 1) := dk_29 (dk_at dksX7_pair_5 20 rfl rfl)
theorem dX7_pair_140 : decode cX7_pair 140 = .ok (.ishl, 1) := dk_120 (dk_at dksX7_pair_5 21 rfl rfl)
theorem dX7_pair_141 : decode cX7_pair 141 = .ok (.ior, 1) := dk_128 (dk_at dksX7_pair_5 22 rfl rfl)
theorem dX7_pair_142 : decode cX7_pair 142 = .ok (.putfield 173, 3) := dk_181 0 173 (dk_at dksX7_pair_6 0 rfl rfl)
theorem dX7_pair_145 : decode cX7_pair 145 = .ok (.aload 5, 2) := dk_25 5 (dk_at dksX7_pair_6 3 rfl rfl)
theorem dX7_pair_147 : decode cX7_pair 147 = .ok (.dup, 1) := dk_89 (dk_at dksX7_pair_6 5 rfl rfl)
theorem dX7_pair_148 : decode cX7_pair 148 = .ok (.getfield 173, 3) := dk_180 0 173 (dk_at dksX7_pair_6 6 rfl rfl)
theorem dX7_pair_151 : decode cX7_pair 151 = .ok (.iconst 1, 1) := dk_4 (dk_at dksX7_pair_6 9 rfl rfl)
theorem dX7_pair_152 : decode cX7_pair 152 = .ok (.iload_n 2, 1) := dk_28 (dk_at dksX7_pair_6 10 rfl rfl)
theorem dX7_pair_153 : decode cX7_pair 153 = .ok (.ishl, 1) := dk_120 (dk_at dksX7_pair_6 11 rfl rfl)
theorem dX7_pair_154 : decode cX7_pair 154 = .ok (.ior, 1) := dk_128 (dk_at dksX7_pair_6 12 rfl rfl)
theorem dX7_pair_155 : decode cX7_pair 155 = .ok (.putfield 173, 3) := dk_181 0 173 (dk_at dksX7_pair_6 13 rfl rfl)
theorem dX7_pair_158 : decode cX7_pair 158 = .ok (.aload_n 0, 1) := dk_42 (dk_at dksX7_pair_6 16 rfl rfl)
theorem dX7_pair_159 : decode cX7_pair 159 = .ok (.invokevirtual 20, 3) := dk_182 0 20 (dk_at dksX7_pair_6 17 rfl rfl)
theorem dX7_pair_162 : decode cX7_pair 162 = .ok (.return_, 1) := dk_177 (dk_at dksX7_pair_6 20 rfl rfl)
abbrev cX7_once : ByteArray := prog_7_method_4_code
def yX7_once : MethodName := ⟨RX7, "once", "(III)I"⟩
def dkwX7_once_1 : List UInt8 := [180, 0, 79, 4, 27, 120, 128, 181, 0, 79, 42, 182, 0, 20, 42, 28, 29, 182, 0, 90, 172]
abbrev dktX7_once_1 : List UInt8 := dkwX7_once_1 ++ []
def dkwX7_once_0 : List UInt8 := [42, 42, 180, 0, 79, 27, 184, 0, 82, 154, 0, 7, 4, 167, 0, 4, 3, 6, 182, 0, 86, 42, 89]
abbrev dktX7_once_0 : List UInt8 := dkwX7_once_0 ++ dktX7_once_1
theorem dksX7_once_0 : cX7_once.data.toList.drop 0 = dktX7_once_0 := by decide +kernel
theorem dksX7_once_1 : cX7_once.data.toList.drop 23 = dktX7_once_1 := dk_seg dksX7_once_0 23 rfl rfl
theorem dX7_once_0 : decode cX7_once 0 = .ok (.aload_n 0, 1) := dk_42 (dk_at dksX7_once_0 0 rfl rfl)
theorem dX7_once_1 : decode cX7_once 1 = .ok (.aload_n 0, 1) := dk_42 (dk_at dksX7_once_0 1 rfl rfl)
theorem dX7_once_2 : decode cX7_once 2 = .ok (.getfield 79, 3) := dk_180 0 79 (dk_at dksX7_once_0 2 rfl rfl)
theorem dX7_once_5 : decode cX7_once 5 = .ok (.iload_n 1, 1) := dk_27 (dk_at dksX7_once_0 5 rfl rfl)
theorem dX7_once_6 : decode cX7_once 6 = .ok (.invokestatic 82, 3) := dk_184 0 82 (dk_at dksX7_once_0 6 rfl rfl)
theorem dX7_once_9 : decode cX7_once 9 = .ok (.ifCond .ne 7, 3) := dk_154 0 7 (dk_at dksX7_once_0 9 rfl rfl)
theorem dX7_once_12 : decode cX7_once 12 = .ok (.iconst 1, 1) := dk_4 (dk_at dksX7_once_0 12 rfl rfl)
theorem dX7_once_13 : decode cX7_once 13 = .ok (.goto 4, 3) := dk_167 0 4 (dk_at dksX7_once_0 13 rfl rfl)
theorem dX7_once_16 : decode cX7_once 16 = .ok (.iconst 0, 1) := dk_3 (dk_at dksX7_once_0 16 rfl rfl)
theorem dX7_once_17 : decode cX7_once 17 = .ok (.iconst 3, 1) := dk_6 (dk_at dksX7_once_0 17 rfl rfl)
theorem dX7_once_18 : decode cX7_once 18 = .ok (.invokevirtual 86, 3) := dk_182 0 86 (dk_at dksX7_once_0 18 rfl rfl)
theorem dX7_once_21 : decode cX7_once 21 = .ok (.aload_n 0, 1) := dk_42 (dk_at dksX7_once_0 21 rfl rfl)
theorem dX7_once_22 : decode cX7_once 22 = .ok (.dup, 1) := dk_89 (dk_at dksX7_once_0 22 rfl rfl)
theorem dX7_once_23 : decode cX7_once 23 = .ok (.getfield 79, 3) := dk_180 0 79 (dk_at dksX7_once_1 0 rfl rfl)
theorem dX7_once_26 : decode cX7_once 26 = .ok (.iconst 1, 1) := dk_4 (dk_at dksX7_once_1 3 rfl rfl)
theorem dX7_once_27 : decode cX7_once 27 = .ok (.iload_n 1, 1) := dk_27 (dk_at dksX7_once_1 4 rfl rfl)
theorem dX7_once_28 : decode cX7_once 28 = .ok (.ishl, 1) := dk_120 (dk_at dksX7_once_1 5 rfl rfl)
theorem dX7_once_29 : decode cX7_once 29 = .ok (.ior, 1) := dk_128 (dk_at dksX7_once_1 6 rfl rfl)
theorem dX7_once_30 : decode cX7_once 30 = .ok (.putfield 79, 3) := dk_181 0 79 (dk_at dksX7_once_1 7 rfl rfl)
theorem dX7_once_33 : decode cX7_once 33 = .ok (.aload_n 0, 1) := dk_42 (dk_at dksX7_once_1 10 rfl rfl)
theorem dX7_once_34 : decode cX7_once 34 = .ok (.invokevirtual 20, 3) := dk_182 0 20 (dk_at dksX7_once_1 11 rfl rfl)
theorem dX7_once_37 : decode cX7_once 37 = .ok (.aload_n 0, 1) := dk_42 (dk_at dksX7_once_1 14 rfl rfl)
theorem dX7_once_38 : decode cX7_once 38 = .ok (.iload_n 2, 1) := dk_28 (dk_at dksX7_once_1 15 rfl rfl)
theorem dX7_once_39 : decode cX7_once 39 = .ok (.iload_n 3, 1) := dk_29 (dk_at dksX7_once_1 16 rfl rfl)
theorem dX7_once_40 : decode cX7_once 40 = .ok (.invokevirtual 90, 3) := dk_182 0 90 (dk_at dksX7_once_1 17 rfl rfl)
theorem dX7_once_43 : decode cX7_once 43 = .ok (.ireturn, 1) := dk_172 (dk_at dksX7_once_1 20 rfl rfl)
abbrev cX7_bell : ByteArray := prog_7_method_5_code
def yX7_bell : MethodName := ⟨RX7, "bell", "()V"⟩
def dkwX7_bell_1 : List UInt8 := [181, 0, 95, 177]
abbrev dktX7_bell_1 : List UInt8 := dkwX7_bell_1 ++ []
def dkwX7_bell_0 : List UInt8 := [42, 42, 18, 94, 182, 0, 38, 4, 182, 0, 86, 42, 180, 0, 14, 42, 5, 5, 16, 30, 182, 0, 66]
abbrev dktX7_bell_0 : List UInt8 := dkwX7_bell_0 ++ dktX7_bell_1
theorem dksX7_bell_0 : cX7_bell.data.toList.drop 0 = dktX7_bell_0 := by decide +kernel
theorem dksX7_bell_1 : cX7_bell.data.toList.drop 23 = dktX7_bell_1 := dk_seg dksX7_bell_0 23 rfl rfl
theorem dX7_bell_0 : decode cX7_bell 0 = .ok (.aload_n 0, 1) := dk_42 (dk_at dksX7_bell_0 0 rfl rfl)
theorem dX7_bell_1 : decode cX7_bell 1 = .ok (.aload_n 0, 1) := dk_42 (dk_at dksX7_bell_0 1 rfl rfl)
theorem dX7_bell_2 : decode cX7_bell 2 = .ok (.ldc 94, 2) := dk_18 94 (dk_at dksX7_bell_0 2 rfl rfl)
theorem dX7_bell_4 : decode cX7_bell 4 = .ok (.invokevirtual 38, 3) := dk_182 0 38 (dk_at dksX7_bell_0 4 rfl rfl)
theorem dX7_bell_7 : decode cX7_bell 7 = .ok (.iconst 1, 1) := dk_4 (dk_at dksX7_bell_0 7 rfl rfl)
theorem dX7_bell_8 : decode cX7_bell 8 = .ok (.invokevirtual 86, 3) := dk_182 0 86 (dk_at dksX7_bell_0 8 rfl rfl)
theorem dX7_bell_11 : decode cX7_bell 11 = .ok (.aload_n 0, 1) := dk_42 (dk_at dksX7_bell_0 11 rfl rfl)
theorem dX7_bell_12 : decode cX7_bell 12 = .ok (.getfield 14, 3) := dk_180 0 14 (dk_at dksX7_bell_0 12 rfl rfl)
theorem dX7_bell_15 : decode cX7_bell 15 = .ok (.aload_n 0, 1) := dk_42 (dk_at dksX7_bell_0 15 rfl rfl)
theorem dX7_bell_16 : decode cX7_bell 16 = .ok (.iconst 2, 1) := dk_5 (dk_at dksX7_bell_0 16 rfl rfl)
theorem dX7_bell_17 : decode cX7_bell 17 = .ok (.iconst 2, 1) := dk_5 (dk_at dksX7_bell_0 17 rfl rfl)
theorem dX7_bell_18 : decode cX7_bell 18 = .ok (.bipush 30, 2) := dk_16 30 (dk_at dksX7_bell_0 18 rfl rfl)
theorem dX7_bell_20 : decode cX7_bell 20 = .ok (.invokevirtual 66, 3) := dk_182 0 66 (dk_at dksX7_bell_0 20 rfl rfl)
theorem dX7_bell_23 : decode cX7_bell 23 = .ok (.putfield 95, 3) := dk_181 0 95 (dk_at dksX7_bell_1 0 rfl rfl)
theorem dX7_bell_26 : decode cX7_bell 26 = .ok (.return_, 1) := dk_177 (dk_at dksX7_bell_1 3 rfl rfl)
abbrev cX8_init : ByteArray := prog_8_method_1_code
def yX8_init : MethodName := ⟨RX8, "<init>", "(II)V"⟩
def dkwX8_init_0 : List UInt8 := [42, 1, 1, 3, 3, 183, 0, 1, 42, 27, 181, 0, 7, 42, 28, 181, 0, 13, 177]
abbrev dktX8_init_0 : List UInt8 := dkwX8_init_0 ++ []
theorem dksX8_init_0 : cX8_init.data.toList.drop 0 = dktX8_init_0 := by decide +kernel
theorem dX8_init_0 : decode cX8_init 0 = .ok (.aload_n 0, 1) := dk_42 (dk_at dksX8_init_0 0 rfl rfl)
theorem dX8_init_1 : decode cX8_init 1 = .ok (.aconst_null, 1) := dk_1 (dk_at dksX8_init_0 1 rfl rfl)
theorem dX8_init_2 : decode cX8_init 2 = .ok (.aconst_null, 1) := dk_1 (dk_at dksX8_init_0 2 rfl rfl)
theorem dX8_init_3 : decode cX8_init 3 = .ok (.iconst 0, 1) := dk_3 (dk_at dksX8_init_0 3 rfl rfl)
theorem dX8_init_4 : decode cX8_init 4 = .ok (.iconst 0, 1) := dk_3 (dk_at dksX8_init_0 4 rfl rfl)
theorem dX8_init_5 : decode cX8_init 5 = .ok (.invokespecial 1, 3) := dk_183 0 1 (dk_at dksX8_init_0 5 rfl rfl)
theorem dX8_init_8 : decode cX8_init 8 = .ok (.aload_n 0, 1) := dk_42 (dk_at dksX8_init_0 8 rfl rfl)
theorem dX8_init_9 : decode cX8_init 9 = .ok (.iload_n 1, 1) := dk_27 (dk_at dksX8_init_0 9 rfl rfl)
theorem dX8_init_10 : decode cX8_init 10 = .ok (.putfield 7, 3) := dk_181 0 7 (dk_at dksX8_init_0 10 rfl rfl)
theorem dX8_init_13 : decode cX8_init 13 = .ok (.aload_n 0, 1) := dk_42 (dk_at dksX8_init_0 13 rfl rfl)
theorem dX8_init_14 : decode cX8_init 14 = .ok (.iload_n 2, 1) := dk_28 (dk_at dksX8_init_0 14 rfl rfl)
theorem dX8_init_15 : decode cX8_init 15 = .ok (.putfield 13, 3) := dk_181 0 13 (dk_at dksX8_init_0 15 rfl rfl)
theorem dX8_init_18 : decode cX8_init 18 = .ok (.return_, 1) := dk_177 (dk_at dksX8_init_0 18 rfl rfl)
abbrev cX9_init : ByteArray := prog_12_method_1_code
def yX9_init : MethodName := ⟨RX9, "<init>", "(Ljava/lang/String;)V"⟩
def dkwX9_init_0 : List UInt8 := [42, 183, 0, 1, 42, 43, 181, 0, 7, 177]
abbrev dktX9_init_0 : List UInt8 := dkwX9_init_0 ++ []
theorem dksX9_init_0 : cX9_init.data.toList.drop 0 = dktX9_init_0 := by decide +kernel
theorem dX9_init_0 : decode cX9_init 0 = .ok (.aload_n 0, 1) := dk_42 (dk_at dksX9_init_0 0 rfl rfl)
theorem dX9_init_1 : decode cX9_init 1 = .ok (.invokespecial 1, 3) := dk_183 0 1 (dk_at dksX9_init_0 1 rfl rfl)
theorem dX9_init_4 : decode cX9_init 4 = .ok (.aload_n 0, 1) := dk_42 (dk_at dksX9_init_0 4 rfl rfl)
theorem dX9_init_5 : decode cX9_init 5 = .ok (.aload_n 1, 1) := dk_43 (dk_at dksX9_init_0 5 rfl rfl)
theorem dX9_init_6 : decode cX9_init 6 = .ok (.putfield 7, 3) := dk_181 0 7 (dk_at dksX9_init_0 6 rfl rfl)
theorem dX9_init_9 : decode cX9_init 9 = .ok (.return_, 1) := dk_177 (dk_at dksX9_init_0 9 rfl rfl)
abbrev cL_law : ByteArray := code
def dkwL_law_47 : List UInt8 := [159, 0, 5, 3, 172, 132, 4, 6, 167, 251, 61, 4, 172]
abbrev dktL_law_47 : List UInt8 := dkwL_law_47 ++ []
def dkwL_law_46 : List UInt8 := [3, 172, 43, 42, 21, 4, 4, 96, 46, 182, 0, 169, 44, 42, 21, 4, 4, 96, 46, 182, 0, 172]
abbrev dktL_law_46 : List UInt8 := dkwL_law_46 ++ dktL_law_47
def dkwL_law_45 : List UInt8 := [172, 43, 42, 21, 4, 4, 96, 46, 182, 0, 165, 44, 42, 21, 4, 4, 96, 46, 182, 0, 168, 159, 0, 30]
abbrev dktL_law_45 : List UInt8 := dkwL_law_45 ++ dktL_law_46
def dkwL_law_44 : List UInt8 := [43, 42, 21, 4, 4, 96, 46, 182, 0, 161, 44, 42, 21, 4, 4, 96, 46, 182, 0, 164, 159, 0, 55, 3]
abbrev dktL_law_44 : List UInt8 := dkwL_law_44 ++ dktL_law_45
def dkwL_law_43 : List UInt8 := [42, 21, 4, 4, 96, 46, 182, 0, 157, 44, 42, 21, 4, 4, 96, 46, 182, 0, 160, 159, 0, 80, 3, 172]
abbrev dktL_law_43 : List UInt8 := dkwL_law_43 ++ dktL_law_44
def dkwL_law_42 : List UInt8 := [96, 46, 182, 0, 152, 159, 0, 118, 3, 172, 43, 182, 0, 153, 44, 182, 0, 156, 159, 0, 105, 3, 172, 43]
abbrev dktL_law_42 : List UInt8 := dkwL_law_42 ++ dktL_law_43
def dkwL_law_41 : List UInt8 := [46, 182, 0, 148, 159, 0, 143, 3, 172, 43, 42, 21, 4, 4, 96, 46, 182, 0, 149, 44, 42, 21, 4, 4]
abbrev dktL_law_41 : List UInt8 := dkwL_law_41 ++ dktL_law_42
def dkwL_law_40 : List UInt8 := [182, 0, 144, 159, 0, 168, 3, 172, 43, 42, 21, 4, 4, 96, 46, 182, 0, 145, 44, 42, 21, 4, 4, 96]
abbrev dktL_law_40 : List UInt8 := dkwL_law_40 ++ dktL_law_41
def dkwL_law_39 : List UInt8 := [182, 0, 141, 44, 42, 21, 4, 4, 96, 46, 42, 21, 4, 5, 96, 46, 42, 21, 4, 6, 96, 46]
abbrev dktL_law_39 : List UInt8 := dkwL_law_39 ++ dktL_law_40
def dkwL_law_38 : List UInt8 := [159, 0, 217, 3, 172, 43, 42, 21, 4, 4, 96, 46, 42, 21, 4, 5, 96, 46, 42, 21, 4, 6, 96, 46]
abbrev dktL_law_38 : List UInt8 := dkwL_law_38 ++ dktL_law_39
def dkwL_law_37 : List UInt8 := [5, 96, 46, 182, 0, 137, 44, 42, 21, 4, 4, 96, 46, 42, 21, 4, 5, 96, 46, 182, 0, 140]
abbrev dktL_law_37 : List UInt8 := dkwL_law_37 ++ dktL_law_38
def dkwL_law_36 : List UInt8 := [42, 21, 4, 4, 96, 46, 182, 0, 136, 159, 0, 254, 3, 172, 43, 42, 21, 4, 4, 96, 46, 42, 21, 4]
abbrev dktL_law_36 : List UInt8 := dkwL_law_36 ++ dktL_law_37
def dkwL_law_35 : List UInt8 := [21, 4, 4, 96, 46, 182, 0, 132, 159, 1, 23, 3, 172, 43, 42, 21, 4, 4, 96, 46, 182, 0, 133, 44]
abbrev dktL_law_35 : List UInt8 := dkwL_law_35 ++ dktL_law_36
def dkwL_law_34 : List UInt8 := [182, 0, 125, 44, 182, 0, 128, 159, 1, 48, 3, 172, 43, 42, 21, 4, 4, 96, 46, 182, 0, 129, 44, 42]
abbrev dktL_law_34 : List UInt8 := dkwL_law_34 ++ dktL_law_35
def dkwL_law_33 : List UInt8 := [182, 0, 120, 159, 1, 74, 3, 172, 43, 182, 0, 121, 44, 182, 0, 124, 159, 1, 61, 3, 172, 43]
abbrev dktL_law_33 : List UInt8 := dkwL_law_33 ++ dktL_law_34
def dkwL_law_32 : List UInt8 := [96, 46, 42, 21, 4, 5, 96, 46, 182, 0, 117, 44, 42, 21, 4, 4, 96, 46, 42, 21, 4, 5, 96, 46]
abbrev dktL_law_32 : List UInt8 := dkwL_law_32 ++ dktL_law_33
def dkwL_law_31 : List UInt8 := [46, 182, 0, 113, 44, 42, 21, 4, 4, 96, 46, 182, 0, 116, 159, 1, 111, 3, 172, 43, 42, 21, 4, 4]
abbrev dktL_law_31 : List UInt8 := dkwL_law_31 ++ dktL_law_32
def dkwL_law_30 : List UInt8 := [182, 0, 109, 44, 42, 21, 4, 4, 96, 46, 182, 0, 112, 159, 1, 136, 3, 172, 43, 42, 21, 4, 4, 96]
abbrev dktL_law_30 : List UInt8 := dkwL_law_30 ++ dktL_law_31
def dkwL_law_29 : List UInt8 := [46, 42, 21, 4, 5, 96, 46, 182, 0, 108, 159, 1, 161, 3, 172, 43, 42, 21, 4, 4, 96, 46]
abbrev dktL_law_29 : List UInt8 := dkwL_law_29 ++ dktL_law_30
def dkwL_law_28 : List UInt8 := [3, 172, 43, 42, 21, 4, 4, 96, 46, 42, 21, 4, 5, 96, 46, 182, 0, 105, 44, 42, 21, 4, 4, 96]
abbrev dktL_law_28 : List UInt8 := dkwL_law_28 ++ dktL_law_29
def dkwL_law_27 : List UInt8 := [21, 4, 4, 96, 46, 182, 0, 100, 159, 1, 211, 3, 172, 43, 182, 0, 101, 44, 182, 0, 104, 159, 1, 198]
abbrev dktL_law_27 : List UInt8 := dkwL_law_27 ++ dktL_law_28
def dkwL_law_26 : List UInt8 := [182, 0, 93, 44, 182, 0, 96, 159, 1, 236, 3, 172, 43, 42, 21, 4, 4, 96, 46, 182, 0, 97, 44, 42]
abbrev dktL_law_26 : List UInt8 := dkwL_law_26 ++ dktL_law_27
def dkwL_law_25 : List UInt8 := [46, 182, 0, 88, 159, 2, 6, 3, 172, 43, 182, 0, 89, 44, 182, 0, 92, 159, 1, 249, 3, 172, 43]
abbrev dktL_law_25 : List UInt8 := dkwL_law_25 ++ dktL_law_26
def dkwL_law_24 : List UInt8 := [182, 0, 84, 159, 2, 31, 3, 172, 43, 42, 21, 4, 4, 96, 46, 182, 0, 85, 44, 42, 21, 4, 4, 96]
abbrev dktL_law_24 : List UInt8 := dkwL_law_24 ++ dktL_law_25
def dkwL_law_23 : List UInt8 := [182, 0, 77, 44, 42, 21, 4, 4, 96, 46, 182, 0, 80, 159, 2, 44, 3, 172, 43, 182, 0, 81, 44]
abbrev dktL_law_23 : List UInt8 := dkwL_law_23 ++ dktL_law_24
def dkwL_law_22 : List UInt8 := [5, 96, 46, 42, 21, 4, 6, 96, 46, 182, 0, 76, 159, 2, 69, 3, 172, 43, 42, 21, 4, 4, 96, 46]
abbrev dktL_law_22 : List UInt8 := dkwL_law_22 ++ dktL_law_23
def dkwL_law_21 : List UInt8 := [21, 4, 5, 96, 46, 42, 21, 4, 6, 96, 46, 182, 0, 73, 44, 42, 21, 4, 4, 96, 46, 42, 21, 4]
abbrev dktL_law_21 : List UInt8 := dkwL_law_21 ++ dktL_law_22
def dkwL_law_20 : List UInt8 := [44, 42, 21, 4, 4, 96, 46, 182, 0, 72, 159, 2, 118, 3, 172, 43, 42, 21, 4, 4, 96, 46, 42]
abbrev dktL_law_20 : List UInt8 := dkwL_law_20 ++ dktL_law_21
def dkwL_law_19 : List UInt8 := [42, 21, 4, 5, 96, 46, 182, 0, 68, 159, 2, 143, 3, 172, 43, 42, 21, 4, 4, 96, 46, 182, 0, 69]
abbrev dktL_law_19 : List UInt8 := dkwL_law_19 ++ dktL_law_20
def dkwL_law_18 : List UInt8 := [172, 43, 42, 21, 4, 4, 96, 46, 42, 21, 4, 5, 96, 46, 182, 0, 65, 44, 42, 21, 4, 4, 96, 46]
abbrev dktL_law_18 : List UInt8 := dkwL_law_18 ++ dktL_law_19
def dkwL_law_17 : List UInt8 := [21, 4, 4, 96, 46, 42, 21, 4, 5, 96, 46, 42, 21, 4, 6, 96, 46, 182, 0, 64, 159, 2, 180, 3]
abbrev dktL_law_17 : List UInt8 := dkwL_law_17 ++ dktL_law_18
def dkwL_law_16 : List UInt8 := [42, 21, 4, 4, 96, 46, 42, 21, 4, 5, 96, 46, 42, 21, 4, 6, 96, 46, 182, 0, 61, 44, 42]
abbrev dktL_law_16 : List UInt8 := dkwL_law_16 ++ dktL_law_17
def dkwL_law_15 : List UInt8 := [21, 4, 4, 96, 46, 182, 0, 56, 44, 42, 21, 4, 4, 96, 46, 182, 0, 60, 159, 2, 229, 3, 172, 43]
abbrev dktL_law_15 : List UInt8 := dkwL_law_15 ++ dktL_law_16
def dkwL_law_14 : List UInt8 := [44, 42, 21, 4, 4, 96, 46, 42, 21, 4, 5, 96, 46, 182, 0, 55, 159, 2, 254, 3, 172, 43, 42]
abbrev dktL_law_14 : List UInt8 := dkwL_law_14 ++ dktL_law_15
def dkwL_law_13 : List UInt8 := [182, 0, 51, 159, 3, 35, 3, 172, 43, 42, 21, 4, 4, 96, 46, 42, 21, 4, 5, 96, 46, 182, 0, 52]
abbrev dktL_law_13 : List UInt8 := dkwL_law_13 ++ dktL_law_14
def dkwL_law_12 : List UInt8 := [182, 0, 47, 44, 42, 21, 4, 4, 96, 46, 42, 21, 4, 5, 96, 46, 42, 21, 4, 6, 96, 46]
abbrev dktL_law_12 : List UInt8 := dkwL_law_12 ++ dktL_law_13
def dkwL_law_11 : List UInt8 := [167, 3, 82, 43, 42, 21, 4, 4, 96, 46, 42, 21, 4, 5, 96, 46, 42, 21, 4, 6, 96, 46]
abbrev dktL_law_11 : List UInt8 := dkwL_law_11 ++ dktL_law_12
def dkwL_law_10 : List UInt8 := [159, 0, 5, 3, 172, 21, 5, 154, 0, 15, 45, 3, 47, 21, 6, 133, 148, 153, 0, 5, 3, 172]
abbrev dktL_law_10 : List UInt8 := dkwL_law_10 ++ dktL_law_11
def dkwL_law_9 : List UInt8 := [44, 42, 21, 4, 4, 96, 46, 42, 21, 4, 5, 96, 46, 182, 0, 43, 54, 6, 44, 182, 0, 44, 21, 5]
abbrev dktL_law_9 : List UInt8 := dkwL_law_9 ++ dktL_law_10
def dkwL_law_8 : List UInt8 := [159, 3, 152, 3, 172, 43, 42, 21, 4, 4, 96, 46, 42, 21, 4, 5, 96, 46, 45, 184, 0, 38, 54, 5]
abbrev dktL_law_8 : List UInt8 := dkwL_law_8 ++ dktL_law_9
def dkwL_law_7 : List UInt8 := [3, 172, 43, 182, 0, 29, 44, 182, 0, 33, 159, 3, 165, 3, 172, 43, 182, 0, 34, 44, 182, 0, 37]
abbrev dktL_law_7 : List UInt8 := dkwL_law_7 ++ dktL_law_8
def dkwL_law_6 : List UInt8 := [172, 43, 42, 21, 4, 4, 96, 46, 182, 0, 24, 44, 42, 21, 4, 4, 96, 46, 182, 0, 28, 159, 3, 178]
abbrev dktL_law_6 : List UInt8 := dkwL_law_6 ++ dktL_law_7
def dkwL_law_5 : List UInt8 := [21, 4, 6, 96, 46, 42, 21, 4, 7, 96, 46, 42, 21, 4, 8, 96, 46, 182, 0, 23, 159, 3, 203, 3]
abbrev dktL_law_5 : List UInt8 := dkwL_law_5 ++ dktL_law_6
def dkwL_law_4 : List UInt8 := [46, 42, 21, 4, 8, 96, 46, 182, 0, 19, 44, 42, 21, 4, 4, 96, 46, 42, 21, 4, 5, 96, 46, 42]
abbrev dktL_law_4 : List UInt8 := dkwL_law_4 ++ dktL_law_5
def dkwL_law_3 : List UInt8 := [43, 42, 21, 4, 4, 96, 46, 42, 21, 4, 5, 96, 46, 42, 21, 4, 6, 96, 46, 42, 21, 4, 7, 96]
abbrev dktL_law_3 : List UInt8 := dkwL_law_3 ++ dktL_law_4
def dkwL_law_2 : List UInt8 := [170, 0, 0, 0, 0, 0, 4, 175, 0, 0, 0, 0, 0, 0, 0, 35, 0, 0, 0, 160, 0, 0, 0, 233, 0, 0, 1, 2, 0, 0, 1, 15, 0, 0, 1, 28, 0, 0, 1, 96, 0, 0, 1, 145, 0, 0, 1, 182, 0, 0, 1, 207, 0, 0, 2, 0, 0, 0, 2, 37, 0, 0, 2, 62, 0, 0, 2, 111, 0, 0, 2, 136, 0, 0, 2, 149, 0, 0, 2, 174, 0, 0, 2, 187, 0, 0, 2, 200, 0, 0, 2, 225, 0, 0, 2, 238, 0, 0, 3, 19, 0, 0, 3, 44, 0, 0, 3, 69, 0, 0, 3, 106, 0, 0, 3, 119, 0, 0, 3, 132, 0, 0, 3, 157, 0, 0, 3, 182, 0, 0, 3, 219, 0, 0, 4, 12, 0, 0, 4, 37, 0, 0, 4, 62, 0, 0, 4, 75, 0, 0, 4, 100, 0, 0, 4, 125, 0, 0, 4, 150]
abbrev dktL_law_2 : List UInt8 := dkwL_law_2 ++ dktL_law_3
def dkwL_law_1 : List UInt8 := [21, 4, 42, 190, 16, 6, 100, 163, 4, 191, 42, 21, 4, 46, 16, 63, 126]
abbrev dktL_law_1 : List UInt8 := dkwL_law_1 ++ dktL_law_2
def dkwL_law_0 : List UInt8 := [187, 0, 8, 89, 183, 0, 15, 76, 187, 0, 16, 89, 183, 0, 18, 77, 4, 188, 11, 78, 3, 54, 4]
abbrev dktL_law_0 : List UInt8 := dkwL_law_0 ++ dktL_law_1
theorem dksL_law_0 : cL_law.data.toList.drop 0 = dktL_law_0 := by decide +kernel
theorem dksL_law_1 : cL_law.data.toList.drop 23 = dktL_law_1 := dk_seg dksL_law_0 23 rfl rfl
theorem dksL_law_2 : cL_law.data.toList.drop 40 = dktL_law_2 := dk_seg dksL_law_1 17 rfl rfl
theorem dksL_law_3 : cL_law.data.toList.drop 200 = dktL_law_3 := dk_seg dksL_law_2 160 rfl rfl
theorem dksL_law_4 : cL_law.data.toList.drop 224 = dktL_law_4 := dk_seg dksL_law_3 24 rfl rfl
theorem dksL_law_5 : cL_law.data.toList.drop 248 = dktL_law_5 := dk_seg dksL_law_4 24 rfl rfl
theorem dksL_law_6 : cL_law.data.toList.drop 272 = dktL_law_6 := dk_seg dksL_law_5 24 rfl rfl
theorem dksL_law_7 : cL_law.data.toList.drop 296 = dktL_law_7 := dk_seg dksL_law_6 24 rfl rfl
theorem dksL_law_8 : cL_law.data.toList.drop 319 = dktL_law_8 := dk_seg dksL_law_7 23 rfl rfl
theorem dksL_law_9 : cL_law.data.toList.drop 343 = dktL_law_9 := dk_seg dksL_law_8 24 rfl rfl
theorem dksL_law_10 : cL_law.data.toList.drop 367 = dktL_law_10 := dk_seg dksL_law_9 24 rfl rfl
theorem dksL_law_11 : cL_law.data.toList.drop 389 = dktL_law_11 := dk_seg dksL_law_10 22 rfl rfl
theorem dksL_law_12 : cL_law.data.toList.drop 411 = dktL_law_12 := dk_seg dksL_law_11 22 rfl rfl
theorem dksL_law_13 : cL_law.data.toList.drop 433 = dktL_law_13 := dk_seg dksL_law_12 22 rfl rfl
theorem dksL_law_14 : cL_law.data.toList.drop 457 = dktL_law_14 := dk_seg dksL_law_13 24 rfl rfl
theorem dksL_law_15 : cL_law.data.toList.drop 480 = dktL_law_15 := dk_seg dksL_law_14 23 rfl rfl
theorem dksL_law_16 : cL_law.data.toList.drop 504 = dktL_law_16 := dk_seg dksL_law_15 24 rfl rfl
theorem dksL_law_17 : cL_law.data.toList.drop 527 = dktL_law_17 := dk_seg dksL_law_16 23 rfl rfl
theorem dksL_law_18 : cL_law.data.toList.drop 551 = dktL_law_18 := dk_seg dksL_law_17 24 rfl rfl
theorem dksL_law_19 : cL_law.data.toList.drop 575 = dktL_law_19 := dk_seg dksL_law_18 24 rfl rfl
theorem dksL_law_20 : cL_law.data.toList.drop 599 = dktL_law_20 := dk_seg dksL_law_19 24 rfl rfl
theorem dksL_law_21 : cL_law.data.toList.drop 622 = dktL_law_21 := dk_seg dksL_law_20 23 rfl rfl
theorem dksL_law_22 : cL_law.data.toList.drop 646 = dktL_law_22 := dk_seg dksL_law_21 24 rfl rfl
theorem dksL_law_23 : cL_law.data.toList.drop 670 = dktL_law_23 := dk_seg dksL_law_22 24 rfl rfl
theorem dksL_law_24 : cL_law.data.toList.drop 693 = dktL_law_24 := dk_seg dksL_law_23 23 rfl rfl
theorem dksL_law_25 : cL_law.data.toList.drop 717 = dktL_law_25 := dk_seg dksL_law_24 24 rfl rfl
theorem dksL_law_26 : cL_law.data.toList.drop 740 = dktL_law_26 := dk_seg dksL_law_25 23 rfl rfl
theorem dksL_law_27 : cL_law.data.toList.drop 764 = dktL_law_27 := dk_seg dksL_law_26 24 rfl rfl
theorem dksL_law_28 : cL_law.data.toList.drop 788 = dktL_law_28 := dk_seg dksL_law_27 24 rfl rfl
theorem dksL_law_29 : cL_law.data.toList.drop 812 = dktL_law_29 := dk_seg dksL_law_28 24 rfl rfl
theorem dksL_law_30 : cL_law.data.toList.drop 834 = dktL_law_30 := dk_seg dksL_law_29 22 rfl rfl
theorem dksL_law_31 : cL_law.data.toList.drop 858 = dktL_law_31 := dk_seg dksL_law_30 24 rfl rfl
theorem dksL_law_32 : cL_law.data.toList.drop 882 = dktL_law_32 := dk_seg dksL_law_31 24 rfl rfl
theorem dksL_law_33 : cL_law.data.toList.drop 906 = dktL_law_33 := dk_seg dksL_law_32 24 rfl rfl
theorem dksL_law_34 : cL_law.data.toList.drop 928 = dktL_law_34 := dk_seg dksL_law_33 22 rfl rfl
theorem dksL_law_35 : cL_law.data.toList.drop 952 = dktL_law_35 := dk_seg dksL_law_34 24 rfl rfl
theorem dksL_law_36 : cL_law.data.toList.drop 976 = dktL_law_36 := dk_seg dksL_law_35 24 rfl rfl
theorem dksL_law_37 : cL_law.data.toList.drop 1000 = dktL_law_37 := dk_seg dksL_law_36 24 rfl rfl
theorem dksL_law_38 : cL_law.data.toList.drop 1022 = dktL_law_38 := dk_seg dksL_law_37 22 rfl rfl
theorem dksL_law_39 : cL_law.data.toList.drop 1046 = dktL_law_39 := dk_seg dksL_law_38 24 rfl rfl
theorem dksL_law_40 : cL_law.data.toList.drop 1068 = dktL_law_40 := dk_seg dksL_law_39 22 rfl rfl
theorem dksL_law_41 : cL_law.data.toList.drop 1092 = dktL_law_41 := dk_seg dksL_law_40 24 rfl rfl
theorem dksL_law_42 : cL_law.data.toList.drop 1116 = dktL_law_42 := dk_seg dksL_law_41 24 rfl rfl
theorem dksL_law_43 : cL_law.data.toList.drop 1140 = dktL_law_43 := dk_seg dksL_law_42 24 rfl rfl
theorem dksL_law_44 : cL_law.data.toList.drop 1164 = dktL_law_44 := dk_seg dksL_law_43 24 rfl rfl
theorem dksL_law_45 : cL_law.data.toList.drop 1188 = dktL_law_45 := dk_seg dksL_law_44 24 rfl rfl
theorem dksL_law_46 : cL_law.data.toList.drop 1212 = dktL_law_46 := dk_seg dksL_law_45 24 rfl rfl
theorem dksL_law_47 : cL_law.data.toList.drop 1234 = dktL_law_47 := dk_seg dksL_law_46 22 rfl rfl
theorem dL_law_0 : decode cL_law 0 = .ok (.new 8, 3) := dk_187 0 8 (dk_at dksL_law_0 0 rfl rfl)
theorem dL_law_3 : decode cL_law 3 = .ok (.dup, 1) := dk_89 (dk_at dksL_law_0 3 rfl rfl)
theorem dL_law_4 : decode cL_law 4 = .ok (.invokespecial 15, 3) := dk_183 0 15 (dk_at dksL_law_0 4 rfl rfl)
theorem dL_law_7 : decode cL_law 7 = .ok (.astore_n 1, 1) := dk_76 (dk_at dksL_law_0 7 rfl rfl)
theorem dL_law_8 : decode cL_law 8 = .ok (.new 16, 3) := dk_187 0 16 (dk_at dksL_law_0 8 rfl rfl)
theorem dL_law_11 : decode cL_law 11 = .ok (.dup, 1) := dk_89 (dk_at dksL_law_0 11 rfl rfl)
theorem dL_law_12 : decode cL_law 12 = .ok (.invokespecial 18, 3) := dk_183 0 18 (dk_at dksL_law_0 12 rfl rfl)
theorem dL_law_15 : decode cL_law 15 = .ok (.astore_n 2, 1) := dk_77 (dk_at dksL_law_0 15 rfl rfl)
theorem dL_law_16 : decode cL_law 16 = .ok (.iconst 1, 1) := dk_4 (dk_at dksL_law_0 16 rfl rfl)
theorem dL_law_17 : decode cL_law 17 = .ok (.newarray .long, 2) := dk_188_11 (dk_at dksL_law_0 17 rfl rfl)
theorem dL_law_19 : decode cL_law 19 = .ok (.astore_n 3, 1) := dk_78 (dk_at dksL_law_0 19 rfl rfl)
theorem dL_law_20 : decode cL_law 20 = .ok (.iconst 0, 1) := dk_3 (dk_at dksL_law_0 20 rfl rfl)
theorem dL_law_21 : decode cL_law 21 = .ok (.istore 4, 2) := dk_54 4 (dk_at dksL_law_0 21 rfl rfl)
theorem dL_law_23 : decode cL_law 23 = .ok (.iload 4, 2) := dk_21 4 (dk_at dksL_law_1 0 rfl rfl)
theorem dL_law_25 : decode cL_law 25 = .ok (.aload_n 0, 1) := dk_42 (dk_at dksL_law_1 2 rfl rfl)
theorem dL_law_26 : decode cL_law 26 = .ok (.arraylength, 1) := dk_190 (dk_at dksL_law_1 3 rfl rfl)
theorem dL_law_27 : decode cL_law 27 = .ok (.bipush 6, 2) := dk_16 6 (dk_at dksL_law_1 4 rfl rfl)
theorem dL_law_29 : decode cL_law 29 = .ok (.isub, 1) := dk_100 (dk_at dksL_law_1 6 rfl rfl)
theorem dL_law_30 : decode cL_law 30 = .ok (.if_icmp .gt 1215, 3) := dk_163 4 191 (dk_at dksL_law_1 7 rfl rfl)
theorem dL_law_33 : decode cL_law 33 = .ok (.aload_n 0, 1) := dk_42 (dk_at dksL_law_1 10 rfl rfl)
theorem dL_law_34 : decode cL_law 34 = .ok (.iload 4, 2) := dk_21 4 (dk_at dksL_law_1 11 rfl rfl)
theorem dL_law_36 : decode cL_law 36 = .ok (.iaload, 1) := dk_46 (dk_at dksL_law_1 13 rfl rfl)
theorem dL_law_37 : decode cL_law 37 = .ok (.bipush 63, 2) := dk_16 63 (dk_at dksL_law_1 14 rfl rfl)
theorem dL_law_39 : decode cL_law 39 = .ok (.iand, 1) := dk_126 (dk_at dksL_law_1 16 rfl rfl)
theorem dL_law_40 : decode cL_law 40 = .ok (.tableswitch 1199 0 35 #[160, 233, 258, 271, 284, 352, 401, 438, 463, 512, 549, 574, 623, 648, 661, 686, 699, 712, 737, 750, 787, 812, 837, 874, 887, 900, 925, 950, 987, 1036, 1061, 1086, 1099, 1124, 1149, 1174], 160) := by decide +kernel
theorem dL_law_200 : decode cL_law 200 = .ok (.aload_n 1, 1) := dk_43 (dk_at dksL_law_3 0 rfl rfl)
theorem dL_law_201 : decode cL_law 201 = .ok (.aload_n 0, 1) := dk_42 (dk_at dksL_law_3 1 rfl rfl)
theorem dL_law_202 : decode cL_law 202 = .ok (.iload 4, 2) := dk_21 4 (dk_at dksL_law_3 2 rfl rfl)
theorem dL_law_204 : decode cL_law 204 = .ok (.iconst 1, 1) := dk_4 (dk_at dksL_law_3 4 rfl rfl)
theorem dL_law_205 : decode cL_law 205 = .ok (.iadd, 1) := dk_96 (dk_at dksL_law_3 5 rfl rfl)
theorem dL_law_206 : decode cL_law 206 = .ok (.iaload, 1) := dk_46 (dk_at dksL_law_3 6 rfl rfl)
theorem dL_law_207 : decode cL_law 207 = .ok (.aload_n 0, 1) := dk_42 (dk_at dksL_law_3 7 rfl rfl)
theorem dL_law_208 : decode cL_law 208 = .ok (.iload 4, 2) := dk_21 4 (dk_at dksL_law_3 8 rfl rfl)
theorem dL_law_210 : decode cL_law 210 = .ok (.iconst 2, 1) := dk_5 (dk_at dksL_law_3 10 rfl rfl)
theorem dL_law_211 : decode cL_law 211 = .ok (.iadd, 1) := dk_96 (dk_at dksL_law_3 11 rfl rfl)
theorem dL_law_212 : decode cL_law 212 = .ok (.iaload, 1) := dk_46 (dk_at dksL_law_3 12 rfl rfl)
theorem dL_law_213 : decode cL_law 213 = .ok (.aload_n 0, 1) := dk_42 (dk_at dksL_law_3 13 rfl rfl)
theorem dL_law_214 : decode cL_law 214 = .ok (.iload 4, 2) := dk_21 4 (dk_at dksL_law_3 14 rfl rfl)
theorem dL_law_216 : decode cL_law 216 = .ok (.iconst 3, 1) := dk_6 (dk_at dksL_law_3 16 rfl rfl)
theorem dL_law_217 : decode cL_law 217 = .ok (.iadd, 1) := dk_96 (dk_at dksL_law_3 17 rfl rfl)
theorem dL_law_218 : decode cL_law 218 = .ok (.iaload, 1) := dk_46 (dk_at dksL_law_3 18 rfl rfl)
theorem dL_law_219 : decode cL_law 219 = .ok (.aload_n 0, 1) := dk_42 (dk_at dksL_law_3 19 rfl rfl)
theorem dL_law_220 : decode cL_law 220 = .ok (.iload 4, 2) := dk_21 4 (dk_at dksL_law_3 20 rfl rfl)
theorem dL_law_222 : decode cL_law 222 = .ok (.iconst 4, 1) := dk_7 (dk_at dksL_law_3 22 rfl rfl)
theorem dL_law_223 : decode cL_law 223 = .ok (.iadd, 1) := dk_96 (dk_at dksL_law_3 23 rfl rfl)
theorem dL_law_224 : decode cL_law 224 = .ok (.iaload, 1) := dk_46 (dk_at dksL_law_4 0 rfl rfl)
theorem dL_law_225 : decode cL_law 225 = .ok (.aload_n 0, 1) := dk_42 (dk_at dksL_law_4 1 rfl rfl)
theorem dL_law_226 : decode cL_law 226 = .ok (.iload 4, 2) := dk_21 4 (dk_at dksL_law_4 2 rfl rfl)
theorem dL_law_228 : decode cL_law 228 = .ok (.iconst 5, 1) := dk_8 (dk_at dksL_law_4 4 rfl rfl)
theorem dL_law_229 : decode cL_law 229 = .ok (.iadd, 1) := dk_96 (dk_at dksL_law_4 5 rfl rfl)
theorem dL_law_230 : decode cL_law 230 = .ok (.iaload, 1) := dk_46 (dk_at dksL_law_4 6 rfl rfl)
theorem dL_law_231 : decode cL_law 231 = .ok (.invokevirtual 19, 3) := dk_182 0 19 (dk_at dksL_law_4 7 rfl rfl)
theorem dL_law_234 : decode cL_law 234 = .ok (.aload_n 2, 1) := dk_44 (dk_at dksL_law_4 10 rfl rfl)
theorem dL_law_235 : decode cL_law 235 = .ok (.aload_n 0, 1) := dk_42 (dk_at dksL_law_4 11 rfl rfl)
theorem dL_law_236 : decode cL_law 236 = .ok (.iload 4, 2) := dk_21 4 (dk_at dksL_law_4 12 rfl rfl)
theorem dL_law_238 : decode cL_law 238 = .ok (.iconst 1, 1) := dk_4 (dk_at dksL_law_4 14 rfl rfl)
theorem dL_law_239 : decode cL_law 239 = .ok (.iadd, 1) := dk_96 (dk_at dksL_law_4 15 rfl rfl)
theorem dL_law_240 : decode cL_law 240 = .ok (.iaload, 1) := dk_46 (dk_at dksL_law_4 16 rfl rfl)
theorem dL_law_241 : decode cL_law 241 = .ok (.aload_n 0, 1) := dk_42 (dk_at dksL_law_4 17 rfl rfl)
theorem dL_law_242 : decode cL_law 242 = .ok (.iload 4, 2) := dk_21 4 (dk_at dksL_law_4 18 rfl rfl)
theorem dL_law_244 : decode cL_law 244 = .ok (.iconst 2, 1) := dk_5 (dk_at dksL_law_4 20 rfl rfl)
theorem dL_law_245 : decode cL_law 245 = .ok (.iadd, 1) := dk_96 (dk_at dksL_law_4 21 rfl rfl)
theorem dL_law_246 : decode cL_law 246 = .ok (.iaload, 1) := dk_46 (dk_at dksL_law_4 22 rfl rfl)
theorem dL_law_247 : decode cL_law 247 = .ok (.aload_n 0, 1) := dk_42 (dk_at dksL_law_4 23 rfl rfl)
theorem dL_law_248 : decode cL_law 248 = .ok (.iload 4, 2) := dk_21 4 (dk_at dksL_law_5 0 rfl rfl)
theorem dL_law_250 : decode cL_law 250 = .ok (.iconst 3, 1) := dk_6 (dk_at dksL_law_5 2 rfl rfl)
theorem dL_law_251 : decode cL_law 251 = .ok (.iadd, 1) := dk_96 (dk_at dksL_law_5 3 rfl rfl)
theorem dL_law_252 : decode cL_law 252 = .ok (.iaload, 1) := dk_46 (dk_at dksL_law_5 4 rfl rfl)
theorem dL_law_253 : decode cL_law 253 = .ok (.aload_n 0, 1) := dk_42 (dk_at dksL_law_5 5 rfl rfl)
theorem dL_law_254 : decode cL_law 254 = .ok (.iload 4, 2) := dk_21 4 (dk_at dksL_law_5 6 rfl rfl)
theorem dL_law_256 : decode cL_law 256 = .ok (.iconst 4, 1) := dk_7 (dk_at dksL_law_5 8 rfl rfl)
theorem dL_law_257 : decode cL_law 257 = .ok (.iadd, 1) := dk_96 (dk_at dksL_law_5 9 rfl rfl)
theorem dL_law_258 : decode cL_law 258 = .ok (.iaload, 1) := dk_46 (dk_at dksL_law_5 10 rfl rfl)
theorem dL_law_259 : decode cL_law 259 = .ok (.aload_n 0, 1) := dk_42 (dk_at dksL_law_5 11 rfl rfl)
theorem dL_law_260 : decode cL_law 260 = .ok (.iload 4, 2) := dk_21 4 (dk_at dksL_law_5 12 rfl rfl)
theorem dL_law_262 : decode cL_law 262 = .ok (.iconst 5, 1) := dk_8 (dk_at dksL_law_5 14 rfl rfl)
theorem dL_law_263 : decode cL_law 263 = .ok (.iadd, 1) := dk_96 (dk_at dksL_law_5 15 rfl rfl)
theorem dL_law_264 : decode cL_law 264 = .ok (.iaload, 1) := dk_46 (dk_at dksL_law_5 16 rfl rfl)
theorem dL_law_265 : decode cL_law 265 = .ok (.invokevirtual 23, 3) := dk_182 0 23 (dk_at dksL_law_5 17 rfl rfl)
theorem dL_law_268 : decode cL_law 268 = .ok (.if_icmp .eq 971, 3) := dk_159 3 203 (dk_at dksL_law_5 20 rfl rfl)
theorem dL_law_271 : decode cL_law 271 = .ok (.iconst 0, 1) := dk_3 (dk_at dksL_law_5 23 rfl rfl)
theorem dL_law_272 : decode cL_law 272 = .ok (.ireturn, 1) := dk_172 (dk_at dksL_law_6 0 rfl rfl)
theorem dL_law_273 : decode cL_law 273 = .ok (.aload_n 1, 1) := dk_43 (dk_at dksL_law_6 1 rfl rfl)
theorem dL_law_274 : decode cL_law 274 = .ok (.aload_n 0, 1) := dk_42 (dk_at dksL_law_6 2 rfl rfl)
theorem dL_law_275 : decode cL_law 275 = .ok (.iload 4, 2) := dk_21 4 (dk_at dksL_law_6 3 rfl rfl)
theorem dL_law_277 : decode cL_law 277 = .ok (.iconst 1, 1) := dk_4 (dk_at dksL_law_6 5 rfl rfl)
theorem dL_law_278 : decode cL_law 278 = .ok (.iadd, 1) := dk_96 (dk_at dksL_law_6 6 rfl rfl)
theorem dL_law_279 : decode cL_law 279 = .ok (.iaload, 1) := dk_46 (dk_at dksL_law_6 7 rfl rfl)
theorem dL_law_280 : decode cL_law 280 = .ok (.invokevirtual 24, 3) := dk_182 0 24 (dk_at dksL_law_6 8 rfl rfl)
theorem dL_law_283 : decode cL_law 283 = .ok (.aload_n 2, 1) := dk_44 (dk_at dksL_law_6 11 rfl rfl)
theorem dL_law_284 : decode cL_law 284 = .ok (.aload_n 0, 1) := dk_42 (dk_at dksL_law_6 12 rfl rfl)
theorem dL_law_285 : decode cL_law 285 = .ok (.iload 4, 2) := dk_21 4 (dk_at dksL_law_6 13 rfl rfl)
theorem dL_law_287 : decode cL_law 287 = .ok (.iconst 1, 1) := dk_4 (dk_at dksL_law_6 15 rfl rfl)
theorem dL_law_288 : decode cL_law 288 = .ok (.iadd, 1) := dk_96 (dk_at dksL_law_6 16 rfl rfl)
theorem dL_law_289 : decode cL_law 289 = .ok (.iaload, 1) := dk_46 (dk_at dksL_law_6 17 rfl rfl)
theorem dL_law_290 : decode cL_law 290 = .ok (.invokevirtual 28, 3) := dk_182 0 28 (dk_at dksL_law_6 18 rfl rfl)
theorem dL_law_293 : decode cL_law 293 = .ok (.if_icmp .eq 946, 3) := dk_159 3 178 (dk_at dksL_law_6 21 rfl rfl)
theorem dL_law_296 : decode cL_law 296 = .ok (.iconst 0, 1) := dk_3 (dk_at dksL_law_7 0 rfl rfl)
theorem dL_law_297 : decode cL_law 297 = .ok (.ireturn, 1) := dk_172 (dk_at dksL_law_7 1 rfl rfl)
theorem dL_law_298 : decode cL_law 298 = .ok (.aload_n 1, 1) := dk_43 (dk_at dksL_law_7 2 rfl rfl)
theorem dL_law_299 : decode cL_law 299 = .ok (.invokevirtual 29, 3) := dk_182 0 29 (dk_at dksL_law_7 3 rfl rfl)
theorem dL_law_302 : decode cL_law 302 = .ok (.aload_n 2, 1) := dk_44 (dk_at dksL_law_7 6 rfl rfl)
theorem dL_law_303 : decode cL_law 303 = .ok (.invokevirtual 33, 3) := dk_182 0 33 (dk_at dksL_law_7 7 rfl rfl)
theorem dL_law_306 : decode cL_law 306 = .ok (.if_icmp .eq 933, 3) := dk_159 3 165 (dk_at dksL_law_7 10 rfl rfl)
theorem dL_law_309 : decode cL_law 309 = .ok (.iconst 0, 1) := dk_3 (dk_at dksL_law_7 13 rfl rfl)
theorem dL_law_310 : decode cL_law 310 = .ok (.ireturn, 1) := dk_172 (dk_at dksL_law_7 14 rfl rfl)
theorem dL_law_311 : decode cL_law 311 = .ok (.aload_n 1, 1) := dk_43 (dk_at dksL_law_7 15 rfl rfl)
theorem dL_law_312 : decode cL_law 312 = .ok (.invokevirtual 34, 3) := dk_182 0 34 (dk_at dksL_law_7 16 rfl rfl)
theorem dL_law_315 : decode cL_law 315 = .ok (.aload_n 2, 1) := dk_44 (dk_at dksL_law_7 19 rfl rfl)
theorem dL_law_316 : decode cL_law 316 = .ok (.invokevirtual 37, 3) := dk_182 0 37 (dk_at dksL_law_7 20 rfl rfl)
theorem dL_law_319 : decode cL_law 319 = .ok (.if_icmp .eq 920, 3) := dk_159 3 152 (dk_at dksL_law_8 0 rfl rfl)
theorem dL_law_322 : decode cL_law 322 = .ok (.iconst 0, 1) := dk_3 (dk_at dksL_law_8 3 rfl rfl)
theorem dL_law_323 : decode cL_law 323 = .ok (.ireturn, 1) := dk_172 (dk_at dksL_law_8 4 rfl rfl)
theorem dL_law_324 : decode cL_law 324 = .ok (.aload_n 1, 1) := dk_43 (dk_at dksL_law_8 5 rfl rfl)
theorem dL_law_325 : decode cL_law 325 = .ok (.aload_n 0, 1) := dk_42 (dk_at dksL_law_8 6 rfl rfl)
theorem dL_law_326 : decode cL_law 326 = .ok (.iload 4, 2) := dk_21 4 (dk_at dksL_law_8 7 rfl rfl)
theorem dL_law_328 : decode cL_law 328 = .ok (.iconst 1, 1) := dk_4 (dk_at dksL_law_8 9 rfl rfl)
theorem dL_law_329 : decode cL_law 329 = .ok (.iadd, 1) := dk_96 (dk_at dksL_law_8 10 rfl rfl)
theorem dL_law_330 : decode cL_law 330 = .ok (.iaload, 1) := dk_46 (dk_at dksL_law_8 11 rfl rfl)
theorem dL_law_331 : decode cL_law 331 = .ok (.aload_n 0, 1) := dk_42 (dk_at dksL_law_8 12 rfl rfl)
theorem dL_law_332 : decode cL_law 332 = .ok (.iload 4, 2) := dk_21 4 (dk_at dksL_law_8 13 rfl rfl)
theorem dL_law_334 : decode cL_law 334 = .ok (.iconst 2, 1) := dk_5 (dk_at dksL_law_8 15 rfl rfl)
theorem dL_law_335 : decode cL_law 335 = .ok (.iadd, 1) := dk_96 (dk_at dksL_law_8 16 rfl rfl)
theorem dL_law_336 : decode cL_law 336 = .ok (.iaload, 1) := dk_46 (dk_at dksL_law_8 17 rfl rfl)
theorem dL_law_337 : decode cL_law 337 = .ok (.aload_n 3, 1) := dk_45 (dk_at dksL_law_8 18 rfl rfl)
theorem dL_law_338 : decode cL_law 338 = .ok (.invokestatic 38, 3) := dk_184 0 38 (dk_at dksL_law_8 19 rfl rfl)
theorem dL_law_341 : decode cL_law 341 = .ok (.istore 5, 2) := dk_54 5 (dk_at dksL_law_8 22 rfl rfl)
theorem dL_law_343 : decode cL_law 343 = .ok (.aload_n 2, 1) := dk_44 (dk_at dksL_law_9 0 rfl rfl)
theorem dL_law_344 : decode cL_law 344 = .ok (.aload_n 0, 1) := dk_42 (dk_at dksL_law_9 1 rfl rfl)
theorem dL_law_345 : decode cL_law 345 = .ok (.iload 4, 2) := dk_21 4 (dk_at dksL_law_9 2 rfl rfl)
theorem dL_law_347 : decode cL_law 347 = .ok (.iconst 1, 1) := dk_4 (dk_at dksL_law_9 4 rfl rfl)
theorem dL_law_348 : decode cL_law 348 = .ok (.iadd, 1) := dk_96 (dk_at dksL_law_9 5 rfl rfl)
theorem dL_law_349 : decode cL_law 349 = .ok (.iaload, 1) := dk_46 (dk_at dksL_law_9 6 rfl rfl)
theorem dL_law_350 : decode cL_law 350 = .ok (.aload_n 0, 1) := dk_42 (dk_at dksL_law_9 7 rfl rfl)
theorem dL_law_351 : decode cL_law 351 = .ok (.iload 4, 2) := dk_21 4 (dk_at dksL_law_9 8 rfl rfl)
theorem dL_law_353 : decode cL_law 353 = .ok (.iconst 2, 1) := dk_5 (dk_at dksL_law_9 10 rfl rfl)
theorem dL_law_354 : decode cL_law 354 = .ok (.iadd, 1) := dk_96 (dk_at dksL_law_9 11 rfl rfl)
theorem dL_law_355 : decode cL_law 355 = .ok (.iaload, 1) := dk_46 (dk_at dksL_law_9 12 rfl rfl)
theorem dL_law_356 : decode cL_law 356 = .ok (.invokevirtual 43, 3) := dk_182 0 43 (dk_at dksL_law_9 13 rfl rfl)
theorem dL_law_359 : decode cL_law 359 = .ok (.istore 6, 2) := dk_54 6 (dk_at dksL_law_9 16 rfl rfl)
theorem dL_law_361 : decode cL_law 361 = .ok (.aload_n 2, 1) := dk_44 (dk_at dksL_law_9 18 rfl rfl)
theorem dL_law_362 : decode cL_law 362 = .ok (.invokevirtual 44, 3) := dk_182 0 44 (dk_at dksL_law_9 19 rfl rfl)
theorem dL_law_365 : decode cL_law 365 = .ok (.iload 5, 2) := dk_21 5 (dk_at dksL_law_9 22 rfl rfl)
theorem dL_law_367 : decode cL_law 367 = .ok (.if_icmp .eq 5, 3) := dk_159 0 5 (dk_at dksL_law_10 0 rfl rfl)
theorem dL_law_370 : decode cL_law 370 = .ok (.iconst 0, 1) := dk_3 (dk_at dksL_law_10 3 rfl rfl)
theorem dL_law_371 : decode cL_law 371 = .ok (.ireturn, 1) := dk_172 (dk_at dksL_law_10 4 rfl rfl)
theorem dL_law_372 : decode cL_law 372 = .ok (.iload 5, 2) := dk_21 5 (dk_at dksL_law_10 5 rfl rfl)
theorem dL_law_374 : decode cL_law 374 = .ok (.ifCond .ne 15, 3) := dk_154 0 15 (dk_at dksL_law_10 7 rfl rfl)
theorem dL_law_377 : decode cL_law 377 = .ok (.aload_n 3, 1) := dk_45 (dk_at dksL_law_10 10 rfl rfl)
theorem dL_law_378 : decode cL_law 378 = .ok (.iconst 0, 1) := dk_3 (dk_at dksL_law_10 11 rfl rfl)
theorem dL_law_379 : decode cL_law 379 = .ok (.laload, 1) := dk_47 (dk_at dksL_law_10 12 rfl rfl)
theorem dL_law_380 : decode cL_law 380 = .ok (.iload 6, 2) := dk_21 6 (dk_at dksL_law_10 13 rfl rfl)
theorem dL_law_382 : decode cL_law 382 = .ok (.i2l, 1) := dk_133 (dk_at dksL_law_10 15 rfl rfl)
theorem dL_law_383 : decode cL_law 383 = .ok (.lcmp, 1) := dk_148 (dk_at dksL_law_10 16 rfl rfl)
theorem dL_law_384 : decode cL_law 384 = .ok (.ifCond .eq 5, 3) := dk_153 0 5 (dk_at dksL_law_10 17 rfl rfl)
theorem dL_law_387 : decode cL_law 387 = .ok (.iconst 0, 1) := dk_3 (dk_at dksL_law_10 20 rfl rfl)
theorem dL_law_388 : decode cL_law 388 = .ok (.ireturn, 1) := dk_172 (dk_at dksL_law_10 21 rfl rfl)
theorem dL_law_389 : decode cL_law 389 = .ok (.goto 850, 3) := dk_167 3 82 (dk_at dksL_law_11 0 rfl rfl)
theorem dL_law_392 : decode cL_law 392 = .ok (.aload_n 1, 1) := dk_43 (dk_at dksL_law_11 3 rfl rfl)
theorem dL_law_393 : decode cL_law 393 = .ok (.aload_n 0, 1) := dk_42 (dk_at dksL_law_11 4 rfl rfl)
theorem dL_law_394 : decode cL_law 394 = .ok (.iload 4, 2) := dk_21 4 (dk_at dksL_law_11 5 rfl rfl)
theorem dL_law_396 : decode cL_law 396 = .ok (.iconst 1, 1) := dk_4 (dk_at dksL_law_11 7 rfl rfl)
theorem dL_law_397 : decode cL_law 397 = .ok (.iadd, 1) := dk_96 (dk_at dksL_law_11 8 rfl rfl)
theorem dL_law_398 : decode cL_law 398 = .ok (.iaload, 1) := dk_46 (dk_at dksL_law_11 9 rfl rfl)
theorem dL_law_399 : decode cL_law 399 = .ok (.aload_n 0, 1) := dk_42 (dk_at dksL_law_11 10 rfl rfl)
theorem dL_law_400 : decode cL_law 400 = .ok (.iload 4, 2) := dk_21 4 (dk_at dksL_law_11 11 rfl rfl)
theorem dL_law_402 : decode cL_law 402 = .ok (.iconst 2, 1) := dk_5 (dk_at dksL_law_11 13 rfl rfl)
theorem dL_law_403 : decode cL_law 403 = .ok (.iadd, 1) := dk_96 (dk_at dksL_law_11 14 rfl rfl)
theorem dL_law_404 : decode cL_law 404 = .ok (.iaload, 1) := dk_46 (dk_at dksL_law_11 15 rfl rfl)
theorem dL_law_405 : decode cL_law 405 = .ok (.aload_n 0, 1) := dk_42 (dk_at dksL_law_11 16 rfl rfl)
theorem dL_law_406 : decode cL_law 406 = .ok (.iload 4, 2) := dk_21 4 (dk_at dksL_law_11 17 rfl rfl)
theorem dL_law_408 : decode cL_law 408 = .ok (.iconst 3, 1) := dk_6 (dk_at dksL_law_11 19 rfl rfl)
theorem dL_law_409 : decode cL_law 409 = .ok (.iadd, 1) := dk_96 (dk_at dksL_law_11 20 rfl rfl)
theorem dL_law_410 : decode cL_law 410 = .ok (.iaload, 1) := dk_46 (dk_at dksL_law_11 21 rfl rfl)
theorem dL_law_411 : decode cL_law 411 = .ok (.invokevirtual 47, 3) := dk_182 0 47 (dk_at dksL_law_12 0 rfl rfl)
theorem dL_law_414 : decode cL_law 414 = .ok (.aload_n 2, 1) := dk_44 (dk_at dksL_law_12 3 rfl rfl)
theorem dL_law_415 : decode cL_law 415 = .ok (.aload_n 0, 1) := dk_42 (dk_at dksL_law_12 4 rfl rfl)
theorem dL_law_416 : decode cL_law 416 = .ok (.iload 4, 2) := dk_21 4 (dk_at dksL_law_12 5 rfl rfl)
theorem dL_law_418 : decode cL_law 418 = .ok (.iconst 1, 1) := dk_4 (dk_at dksL_law_12 7 rfl rfl)
theorem dL_law_419 : decode cL_law 419 = .ok (.iadd, 1) := dk_96 (dk_at dksL_law_12 8 rfl rfl)
theorem dL_law_420 : decode cL_law 420 = .ok (.iaload, 1) := dk_46 (dk_at dksL_law_12 9 rfl rfl)
theorem dL_law_421 : decode cL_law 421 = .ok (.aload_n 0, 1) := dk_42 (dk_at dksL_law_12 10 rfl rfl)
theorem dL_law_422 : decode cL_law 422 = .ok (.iload 4, 2) := dk_21 4 (dk_at dksL_law_12 11 rfl rfl)
theorem dL_law_424 : decode cL_law 424 = .ok (.iconst 2, 1) := dk_5 (dk_at dksL_law_12 13 rfl rfl)
theorem dL_law_425 : decode cL_law 425 = .ok (.iadd, 1) := dk_96 (dk_at dksL_law_12 14 rfl rfl)
theorem dL_law_426 : decode cL_law 426 = .ok (.iaload, 1) := dk_46 (dk_at dksL_law_12 15 rfl rfl)
theorem dL_law_427 : decode cL_law 427 = .ok (.aload_n 0, 1) := dk_42 (dk_at dksL_law_12 16 rfl rfl)
theorem dL_law_428 : decode cL_law 428 = .ok (.iload 4, 2) := dk_21 4 (dk_at dksL_law_12 17 rfl rfl)
theorem dL_law_430 : decode cL_law 430 = .ok (.iconst 3, 1) := dk_6 (dk_at dksL_law_12 19 rfl rfl)
theorem dL_law_431 : decode cL_law 431 = .ok (.iadd, 1) := dk_96 (dk_at dksL_law_12 20 rfl rfl)
theorem dL_law_432 : decode cL_law 432 = .ok (.iaload, 1) := dk_46 (dk_at dksL_law_12 21 rfl rfl)
theorem dL_law_433 : decode cL_law 433 = .ok (.invokevirtual 51, 3) := dk_182 0 51 (dk_at dksL_law_13 0 rfl rfl)
theorem dL_law_436 : decode cL_law 436 = .ok (.if_icmp .eq 803, 3) := dk_159 3 35 (dk_at dksL_law_13 3 rfl rfl)
theorem dL_law_439 : decode cL_law 439 = .ok (.iconst 0, 1) := dk_3 (dk_at dksL_law_13 6 rfl rfl)
theorem dL_law_440 : decode cL_law 440 = .ok (.ireturn, 1) := dk_172 (dk_at dksL_law_13 7 rfl rfl)
theorem dL_law_441 : decode cL_law 441 = .ok (.aload_n 1, 1) := dk_43 (dk_at dksL_law_13 8 rfl rfl)
theorem dL_law_442 : decode cL_law 442 = .ok (.aload_n 0, 1) := dk_42 (dk_at dksL_law_13 9 rfl rfl)
theorem dL_law_443 : decode cL_law 443 = .ok (.iload 4, 2) := dk_21 4 (dk_at dksL_law_13 10 rfl rfl)
theorem dL_law_445 : decode cL_law 445 = .ok (.iconst 1, 1) := dk_4 (dk_at dksL_law_13 12 rfl rfl)
theorem dL_law_446 : decode cL_law 446 = .ok (.iadd, 1) := dk_96 (dk_at dksL_law_13 13 rfl rfl)
theorem dL_law_447 : decode cL_law 447 = .ok (.iaload, 1) := dk_46 (dk_at dksL_law_13 14 rfl rfl)
theorem dL_law_448 : decode cL_law 448 = .ok (.aload_n 0, 1) := dk_42 (dk_at dksL_law_13 15 rfl rfl)
theorem dL_law_449 : decode cL_law 449 = .ok (.iload 4, 2) := dk_21 4 (dk_at dksL_law_13 16 rfl rfl)
theorem dL_law_451 : decode cL_law 451 = .ok (.iconst 2, 1) := dk_5 (dk_at dksL_law_13 18 rfl rfl)
theorem dL_law_452 : decode cL_law 452 = .ok (.iadd, 1) := dk_96 (dk_at dksL_law_13 19 rfl rfl)
theorem dL_law_453 : decode cL_law 453 = .ok (.iaload, 1) := dk_46 (dk_at dksL_law_13 20 rfl rfl)
theorem dL_law_454 : decode cL_law 454 = .ok (.invokevirtual 52, 3) := dk_182 0 52 (dk_at dksL_law_13 21 rfl rfl)
theorem dL_law_457 : decode cL_law 457 = .ok (.aload_n 2, 1) := dk_44 (dk_at dksL_law_14 0 rfl rfl)
theorem dL_law_458 : decode cL_law 458 = .ok (.aload_n 0, 1) := dk_42 (dk_at dksL_law_14 1 rfl rfl)
theorem dL_law_459 : decode cL_law 459 = .ok (.iload 4, 2) := dk_21 4 (dk_at dksL_law_14 2 rfl rfl)
theorem dL_law_461 : decode cL_law 461 = .ok (.iconst 1, 1) := dk_4 (dk_at dksL_law_14 4 rfl rfl)
theorem dL_law_462 : decode cL_law 462 = .ok (.iadd, 1) := dk_96 (dk_at dksL_law_14 5 rfl rfl)
theorem dL_law_463 : decode cL_law 463 = .ok (.iaload, 1) := dk_46 (dk_at dksL_law_14 6 rfl rfl)
theorem dL_law_464 : decode cL_law 464 = .ok (.aload_n 0, 1) := dk_42 (dk_at dksL_law_14 7 rfl rfl)
theorem dL_law_465 : decode cL_law 465 = .ok (.iload 4, 2) := dk_21 4 (dk_at dksL_law_14 8 rfl rfl)
theorem dL_law_467 : decode cL_law 467 = .ok (.iconst 2, 1) := dk_5 (dk_at dksL_law_14 10 rfl rfl)
theorem dL_law_468 : decode cL_law 468 = .ok (.iadd, 1) := dk_96 (dk_at dksL_law_14 11 rfl rfl)
theorem dL_law_469 : decode cL_law 469 = .ok (.iaload, 1) := dk_46 (dk_at dksL_law_14 12 rfl rfl)
theorem dL_law_470 : decode cL_law 470 = .ok (.invokevirtual 55, 3) := dk_182 0 55 (dk_at dksL_law_14 13 rfl rfl)
theorem dL_law_473 : decode cL_law 473 = .ok (.if_icmp .eq 766, 3) := dk_159 2 254 (dk_at dksL_law_14 16 rfl rfl)
theorem dL_law_476 : decode cL_law 476 = .ok (.iconst 0, 1) := dk_3 (dk_at dksL_law_14 19 rfl rfl)
theorem dL_law_477 : decode cL_law 477 = .ok (.ireturn, 1) := dk_172 (dk_at dksL_law_14 20 rfl rfl)
theorem dL_law_478 : decode cL_law 478 = .ok (.aload_n 1, 1) := dk_43 (dk_at dksL_law_14 21 rfl rfl)
theorem dL_law_479 : decode cL_law 479 = .ok (.aload_n 0, 1) := dk_42 (dk_at dksL_law_14 22 rfl rfl)
theorem dL_law_480 : decode cL_law 480 = .ok (.iload 4, 2) := dk_21 4 (dk_at dksL_law_15 0 rfl rfl)
theorem dL_law_482 : decode cL_law 482 = .ok (.iconst 1, 1) := dk_4 (dk_at dksL_law_15 2 rfl rfl)
theorem dL_law_483 : decode cL_law 483 = .ok (.iadd, 1) := dk_96 (dk_at dksL_law_15 3 rfl rfl)
theorem dL_law_484 : decode cL_law 484 = .ok (.iaload, 1) := dk_46 (dk_at dksL_law_15 4 rfl rfl)
theorem dL_law_485 : decode cL_law 485 = .ok (.invokevirtual 56, 3) := dk_182 0 56 (dk_at dksL_law_15 5 rfl rfl)
theorem dL_law_488 : decode cL_law 488 = .ok (.aload_n 2, 1) := dk_44 (dk_at dksL_law_15 8 rfl rfl)
theorem dL_law_489 : decode cL_law 489 = .ok (.aload_n 0, 1) := dk_42 (dk_at dksL_law_15 9 rfl rfl)
theorem dL_law_490 : decode cL_law 490 = .ok (.iload 4, 2) := dk_21 4 (dk_at dksL_law_15 10 rfl rfl)
theorem dL_law_492 : decode cL_law 492 = .ok (.iconst 1, 1) := dk_4 (dk_at dksL_law_15 12 rfl rfl)
theorem dL_law_493 : decode cL_law 493 = .ok (.iadd, 1) := dk_96 (dk_at dksL_law_15 13 rfl rfl)
theorem dL_law_494 : decode cL_law 494 = .ok (.iaload, 1) := dk_46 (dk_at dksL_law_15 14 rfl rfl)
theorem dL_law_495 : decode cL_law 495 = .ok (.invokevirtual 60, 3) := dk_182 0 60 (dk_at dksL_law_15 15 rfl rfl)
theorem dL_law_498 : decode cL_law 498 = .ok (.if_icmp .eq 741, 3) := dk_159 2 229 (dk_at dksL_law_15 18 rfl rfl)
theorem dL_law_501 : decode cL_law 501 = .ok (.iconst 0, 1) := dk_3 (dk_at dksL_law_15 21 rfl rfl)
theorem dL_law_502 : decode cL_law 502 = .ok (.ireturn, 1) := dk_172 (dk_at dksL_law_15 22 rfl rfl)
theorem dL_law_503 : decode cL_law 503 = .ok (.aload_n 1, 1) := dk_43 (dk_at dksL_law_15 23 rfl rfl)
theorem dL_law_504 : decode cL_law 504 = .ok (.aload_n 0, 1) := dk_42 (dk_at dksL_law_16 0 rfl rfl)
theorem dL_law_505 : decode cL_law 505 = .ok (.iload 4, 2) := dk_21 4 (dk_at dksL_law_16 1 rfl rfl)
theorem dL_law_507 : decode cL_law 507 = .ok (.iconst 1, 1) := dk_4 (dk_at dksL_law_16 3 rfl rfl)
theorem dL_law_508 : decode cL_law 508 = .ok (.iadd, 1) := dk_96 (dk_at dksL_law_16 4 rfl rfl)
theorem dL_law_509 : decode cL_law 509 = .ok (.iaload, 1) := dk_46 (dk_at dksL_law_16 5 rfl rfl)
theorem dL_law_510 : decode cL_law 510 = .ok (.aload_n 0, 1) := dk_42 (dk_at dksL_law_16 6 rfl rfl)
theorem dL_law_511 : decode cL_law 511 = .ok (.iload 4, 2) := dk_21 4 (dk_at dksL_law_16 7 rfl rfl)
theorem dL_law_513 : decode cL_law 513 = .ok (.iconst 2, 1) := dk_5 (dk_at dksL_law_16 9 rfl rfl)
theorem dL_law_514 : decode cL_law 514 = .ok (.iadd, 1) := dk_96 (dk_at dksL_law_16 10 rfl rfl)
theorem dL_law_515 : decode cL_law 515 = .ok (.iaload, 1) := dk_46 (dk_at dksL_law_16 11 rfl rfl)
theorem dL_law_516 : decode cL_law 516 = .ok (.aload_n 0, 1) := dk_42 (dk_at dksL_law_16 12 rfl rfl)
theorem dL_law_517 : decode cL_law 517 = .ok (.iload 4, 2) := dk_21 4 (dk_at dksL_law_16 13 rfl rfl)
theorem dL_law_519 : decode cL_law 519 = .ok (.iconst 3, 1) := dk_6 (dk_at dksL_law_16 15 rfl rfl)
theorem dL_law_520 : decode cL_law 520 = .ok (.iadd, 1) := dk_96 (dk_at dksL_law_16 16 rfl rfl)
theorem dL_law_521 : decode cL_law 521 = .ok (.iaload, 1) := dk_46 (dk_at dksL_law_16 17 rfl rfl)
theorem dL_law_522 : decode cL_law 522 = .ok (.invokevirtual 61, 3) := dk_182 0 61 (dk_at dksL_law_16 18 rfl rfl)
theorem dL_law_525 : decode cL_law 525 = .ok (.aload_n 2, 1) := dk_44 (dk_at dksL_law_16 21 rfl rfl)
theorem dL_law_526 : decode cL_law 526 = .ok (.aload_n 0, 1) := dk_42 (dk_at dksL_law_16 22 rfl rfl)
theorem dL_law_527 : decode cL_law 527 = .ok (.iload 4, 2) := dk_21 4 (dk_at dksL_law_17 0 rfl rfl)
theorem dL_law_529 : decode cL_law 529 = .ok (.iconst 1, 1) := dk_4 (dk_at dksL_law_17 2 rfl rfl)
theorem dL_law_530 : decode cL_law 530 = .ok (.iadd, 1) := dk_96 (dk_at dksL_law_17 3 rfl rfl)
theorem dL_law_531 : decode cL_law 531 = .ok (.iaload, 1) := dk_46 (dk_at dksL_law_17 4 rfl rfl)
theorem dL_law_532 : decode cL_law 532 = .ok (.aload_n 0, 1) := dk_42 (dk_at dksL_law_17 5 rfl rfl)
theorem dL_law_533 : decode cL_law 533 = .ok (.iload 4, 2) := dk_21 4 (dk_at dksL_law_17 6 rfl rfl)
theorem dL_law_535 : decode cL_law 535 = .ok (.iconst 2, 1) := dk_5 (dk_at dksL_law_17 8 rfl rfl)
theorem dL_law_536 : decode cL_law 536 = .ok (.iadd, 1) := dk_96 (dk_at dksL_law_17 9 rfl rfl)
theorem dL_law_537 : decode cL_law 537 = .ok (.iaload, 1) := dk_46 (dk_at dksL_law_17 10 rfl rfl)
theorem dL_law_538 : decode cL_law 538 = .ok (.aload_n 0, 1) := dk_42 (dk_at dksL_law_17 11 rfl rfl)
theorem dL_law_539 : decode cL_law 539 = .ok (.iload 4, 2) := dk_21 4 (dk_at dksL_law_17 12 rfl rfl)
theorem dL_law_541 : decode cL_law 541 = .ok (.iconst 3, 1) := dk_6 (dk_at dksL_law_17 14 rfl rfl)
theorem dL_law_542 : decode cL_law 542 = .ok (.iadd, 1) := dk_96 (dk_at dksL_law_17 15 rfl rfl)
theorem dL_law_543 : decode cL_law 543 = .ok (.iaload, 1) := dk_46 (dk_at dksL_law_17 16 rfl rfl)
theorem dL_law_544 : decode cL_law 544 = .ok (.invokevirtual 64, 3) := dk_182 0 64 (dk_at dksL_law_17 17 rfl rfl)
theorem dL_law_547 : decode cL_law 547 = .ok (.if_icmp .eq 692, 3) := dk_159 2 180 (dk_at dksL_law_17 20 rfl rfl)
theorem dL_law_550 : decode cL_law 550 = .ok (.iconst 0, 1) := dk_3 (dk_at dksL_law_17 23 rfl rfl)
theorem dL_law_551 : decode cL_law 551 = .ok (.ireturn, 1) := dk_172 (dk_at dksL_law_18 0 rfl rfl)
theorem dL_law_552 : decode cL_law 552 = .ok (.aload_n 1, 1) := dk_43 (dk_at dksL_law_18 1 rfl rfl)
theorem dL_law_553 : decode cL_law 553 = .ok (.aload_n 0, 1) := dk_42 (dk_at dksL_law_18 2 rfl rfl)
theorem dL_law_554 : decode cL_law 554 = .ok (.iload 4, 2) := dk_21 4 (dk_at dksL_law_18 3 rfl rfl)
theorem dL_law_556 : decode cL_law 556 = .ok (.iconst 1, 1) := dk_4 (dk_at dksL_law_18 5 rfl rfl)
theorem dL_law_557 : decode cL_law 557 = .ok (.iadd, 1) := dk_96 (dk_at dksL_law_18 6 rfl rfl)
theorem dL_law_558 : decode cL_law 558 = .ok (.iaload, 1) := dk_46 (dk_at dksL_law_18 7 rfl rfl)
theorem dL_law_559 : decode cL_law 559 = .ok (.aload_n 0, 1) := dk_42 (dk_at dksL_law_18 8 rfl rfl)
theorem dL_law_560 : decode cL_law 560 = .ok (.iload 4, 2) := dk_21 4 (dk_at dksL_law_18 9 rfl rfl)
theorem dL_law_562 : decode cL_law 562 = .ok (.iconst 2, 1) := dk_5 (dk_at dksL_law_18 11 rfl rfl)
theorem dL_law_563 : decode cL_law 563 = .ok (.iadd, 1) := dk_96 (dk_at dksL_law_18 12 rfl rfl)
theorem dL_law_564 : decode cL_law 564 = .ok (.iaload, 1) := dk_46 (dk_at dksL_law_18 13 rfl rfl)
theorem dL_law_565 : decode cL_law 565 = .ok (.invokevirtual 65, 3) := dk_182 0 65 (dk_at dksL_law_18 14 rfl rfl)
theorem dL_law_568 : decode cL_law 568 = .ok (.aload_n 2, 1) := dk_44 (dk_at dksL_law_18 17 rfl rfl)
theorem dL_law_569 : decode cL_law 569 = .ok (.aload_n 0, 1) := dk_42 (dk_at dksL_law_18 18 rfl rfl)
theorem dL_law_570 : decode cL_law 570 = .ok (.iload 4, 2) := dk_21 4 (dk_at dksL_law_18 19 rfl rfl)
theorem dL_law_572 : decode cL_law 572 = .ok (.iconst 1, 1) := dk_4 (dk_at dksL_law_18 21 rfl rfl)
theorem dL_law_573 : decode cL_law 573 = .ok (.iadd, 1) := dk_96 (dk_at dksL_law_18 22 rfl rfl)
theorem dL_law_574 : decode cL_law 574 = .ok (.iaload, 1) := dk_46 (dk_at dksL_law_18 23 rfl rfl)
theorem dL_law_575 : decode cL_law 575 = .ok (.aload_n 0, 1) := dk_42 (dk_at dksL_law_19 0 rfl rfl)
theorem dL_law_576 : decode cL_law 576 = .ok (.iload 4, 2) := dk_21 4 (dk_at dksL_law_19 1 rfl rfl)
theorem dL_law_578 : decode cL_law 578 = .ok (.iconst 2, 1) := dk_5 (dk_at dksL_law_19 3 rfl rfl)
theorem dL_law_579 : decode cL_law 579 = .ok (.iadd, 1) := dk_96 (dk_at dksL_law_19 4 rfl rfl)
theorem dL_law_580 : decode cL_law 580 = .ok (.iaload, 1) := dk_46 (dk_at dksL_law_19 5 rfl rfl)
theorem dL_law_581 : decode cL_law 581 = .ok (.invokevirtual 68, 3) := dk_182 0 68 (dk_at dksL_law_19 6 rfl rfl)
theorem dL_law_584 : decode cL_law 584 = .ok (.if_icmp .eq 655, 3) := dk_159 2 143 (dk_at dksL_law_19 9 rfl rfl)
theorem dL_law_587 : decode cL_law 587 = .ok (.iconst 0, 1) := dk_3 (dk_at dksL_law_19 12 rfl rfl)
theorem dL_law_588 : decode cL_law 588 = .ok (.ireturn, 1) := dk_172 (dk_at dksL_law_19 13 rfl rfl)
theorem dL_law_589 : decode cL_law 589 = .ok (.aload_n 1, 1) := dk_43 (dk_at dksL_law_19 14 rfl rfl)
theorem dL_law_590 : decode cL_law 590 = .ok (.aload_n 0, 1) := dk_42 (dk_at dksL_law_19 15 rfl rfl)
theorem dL_law_591 : decode cL_law 591 = .ok (.iload 4, 2) := dk_21 4 (dk_at dksL_law_19 16 rfl rfl)
theorem dL_law_593 : decode cL_law 593 = .ok (.iconst 1, 1) := dk_4 (dk_at dksL_law_19 18 rfl rfl)
theorem dL_law_594 : decode cL_law 594 = .ok (.iadd, 1) := dk_96 (dk_at dksL_law_19 19 rfl rfl)
theorem dL_law_595 : decode cL_law 595 = .ok (.iaload, 1) := dk_46 (dk_at dksL_law_19 20 rfl rfl)
theorem dL_law_596 : decode cL_law 596 = .ok (.invokevirtual 69, 3) := dk_182 0 69 (dk_at dksL_law_19 21 rfl rfl)
theorem dL_law_599 : decode cL_law 599 = .ok (.aload_n 2, 1) := dk_44 (dk_at dksL_law_20 0 rfl rfl)
theorem dL_law_600 : decode cL_law 600 = .ok (.aload_n 0, 1) := dk_42 (dk_at dksL_law_20 1 rfl rfl)
theorem dL_law_601 : decode cL_law 601 = .ok (.iload 4, 2) := dk_21 4 (dk_at dksL_law_20 2 rfl rfl)
theorem dL_law_603 : decode cL_law 603 = .ok (.iconst 1, 1) := dk_4 (dk_at dksL_law_20 4 rfl rfl)
theorem dL_law_604 : decode cL_law 604 = .ok (.iadd, 1) := dk_96 (dk_at dksL_law_20 5 rfl rfl)
theorem dL_law_605 : decode cL_law 605 = .ok (.iaload, 1) := dk_46 (dk_at dksL_law_20 6 rfl rfl)
theorem dL_law_606 : decode cL_law 606 = .ok (.invokevirtual 72, 3) := dk_182 0 72 (dk_at dksL_law_20 7 rfl rfl)
theorem dL_law_609 : decode cL_law 609 = .ok (.if_icmp .eq 630, 3) := dk_159 2 118 (dk_at dksL_law_20 10 rfl rfl)
theorem dL_law_612 : decode cL_law 612 = .ok (.iconst 0, 1) := dk_3 (dk_at dksL_law_20 13 rfl rfl)
theorem dL_law_613 : decode cL_law 613 = .ok (.ireturn, 1) := dk_172 (dk_at dksL_law_20 14 rfl rfl)
theorem dL_law_614 : decode cL_law 614 = .ok (.aload_n 1, 1) := dk_43 (dk_at dksL_law_20 15 rfl rfl)
theorem dL_law_615 : decode cL_law 615 = .ok (.aload_n 0, 1) := dk_42 (dk_at dksL_law_20 16 rfl rfl)
theorem dL_law_616 : decode cL_law 616 = .ok (.iload 4, 2) := dk_21 4 (dk_at dksL_law_20 17 rfl rfl)
theorem dL_law_618 : decode cL_law 618 = .ok (.iconst 1, 1) := dk_4 (dk_at dksL_law_20 19 rfl rfl)
theorem dL_law_619 : decode cL_law 619 = .ok (.iadd, 1) := dk_96 (dk_at dksL_law_20 20 rfl rfl)
theorem dL_law_620 : decode cL_law 620 = .ok (.iaload, 1) := dk_46 (dk_at dksL_law_20 21 rfl rfl)
theorem dL_law_621 : decode cL_law 621 = .ok (.aload_n 0, 1) := dk_42 (dk_at dksL_law_20 22 rfl rfl)
theorem dL_law_622 : decode cL_law 622 = .ok (.iload 4, 2) := dk_21 4 (dk_at dksL_law_21 0 rfl rfl)
theorem dL_law_624 : decode cL_law 624 = .ok (.iconst 2, 1) := dk_5 (dk_at dksL_law_21 2 rfl rfl)
theorem dL_law_625 : decode cL_law 625 = .ok (.iadd, 1) := dk_96 (dk_at dksL_law_21 3 rfl rfl)
theorem dL_law_626 : decode cL_law 626 = .ok (.iaload, 1) := dk_46 (dk_at dksL_law_21 4 rfl rfl)
theorem dL_law_627 : decode cL_law 627 = .ok (.aload_n 0, 1) := dk_42 (dk_at dksL_law_21 5 rfl rfl)
theorem dL_law_628 : decode cL_law 628 = .ok (.iload 4, 2) := dk_21 4 (dk_at dksL_law_21 6 rfl rfl)
theorem dL_law_630 : decode cL_law 630 = .ok (.iconst 3, 1) := dk_6 (dk_at dksL_law_21 8 rfl rfl)
theorem dL_law_631 : decode cL_law 631 = .ok (.iadd, 1) := dk_96 (dk_at dksL_law_21 9 rfl rfl)
theorem dL_law_632 : decode cL_law 632 = .ok (.iaload, 1) := dk_46 (dk_at dksL_law_21 10 rfl rfl)
theorem dL_law_633 : decode cL_law 633 = .ok (.invokevirtual 73, 3) := dk_182 0 73 (dk_at dksL_law_21 11 rfl rfl)
theorem dL_law_636 : decode cL_law 636 = .ok (.aload_n 2, 1) := dk_44 (dk_at dksL_law_21 14 rfl rfl)
theorem dL_law_637 : decode cL_law 637 = .ok (.aload_n 0, 1) := dk_42 (dk_at dksL_law_21 15 rfl rfl)
theorem dL_law_638 : decode cL_law 638 = .ok (.iload 4, 2) := dk_21 4 (dk_at dksL_law_21 16 rfl rfl)
theorem dL_law_640 : decode cL_law 640 = .ok (.iconst 1, 1) := dk_4 (dk_at dksL_law_21 18 rfl rfl)
theorem dL_law_641 : decode cL_law 641 = .ok (.iadd, 1) := dk_96 (dk_at dksL_law_21 19 rfl rfl)
theorem dL_law_642 : decode cL_law 642 = .ok (.iaload, 1) := dk_46 (dk_at dksL_law_21 20 rfl rfl)
theorem dL_law_643 : decode cL_law 643 = .ok (.aload_n 0, 1) := dk_42 (dk_at dksL_law_21 21 rfl rfl)
theorem dL_law_644 : decode cL_law 644 = .ok (.iload 4, 2) := dk_21 4 (dk_at dksL_law_21 22 rfl rfl)
theorem dL_law_646 : decode cL_law 646 = .ok (.iconst 2, 1) := dk_5 (dk_at dksL_law_22 0 rfl rfl)
theorem dL_law_647 : decode cL_law 647 = .ok (.iadd, 1) := dk_96 (dk_at dksL_law_22 1 rfl rfl)
theorem dL_law_648 : decode cL_law 648 = .ok (.iaload, 1) := dk_46 (dk_at dksL_law_22 2 rfl rfl)
theorem dL_law_649 : decode cL_law 649 = .ok (.aload_n 0, 1) := dk_42 (dk_at dksL_law_22 3 rfl rfl)
theorem dL_law_650 : decode cL_law 650 = .ok (.iload 4, 2) := dk_21 4 (dk_at dksL_law_22 4 rfl rfl)
theorem dL_law_652 : decode cL_law 652 = .ok (.iconst 3, 1) := dk_6 (dk_at dksL_law_22 6 rfl rfl)
theorem dL_law_653 : decode cL_law 653 = .ok (.iadd, 1) := dk_96 (dk_at dksL_law_22 7 rfl rfl)
theorem dL_law_654 : decode cL_law 654 = .ok (.iaload, 1) := dk_46 (dk_at dksL_law_22 8 rfl rfl)
theorem dL_law_655 : decode cL_law 655 = .ok (.invokevirtual 76, 3) := dk_182 0 76 (dk_at dksL_law_22 9 rfl rfl)
theorem dL_law_658 : decode cL_law 658 = .ok (.if_icmp .eq 581, 3) := dk_159 2 69 (dk_at dksL_law_22 12 rfl rfl)
theorem dL_law_661 : decode cL_law 661 = .ok (.iconst 0, 1) := dk_3 (dk_at dksL_law_22 15 rfl rfl)
theorem dL_law_662 : decode cL_law 662 = .ok (.ireturn, 1) := dk_172 (dk_at dksL_law_22 16 rfl rfl)
theorem dL_law_663 : decode cL_law 663 = .ok (.aload_n 1, 1) := dk_43 (dk_at dksL_law_22 17 rfl rfl)
theorem dL_law_664 : decode cL_law 664 = .ok (.aload_n 0, 1) := dk_42 (dk_at dksL_law_22 18 rfl rfl)
theorem dL_law_665 : decode cL_law 665 = .ok (.iload 4, 2) := dk_21 4 (dk_at dksL_law_22 19 rfl rfl)
theorem dL_law_667 : decode cL_law 667 = .ok (.iconst 1, 1) := dk_4 (dk_at dksL_law_22 21 rfl rfl)
theorem dL_law_668 : decode cL_law 668 = .ok (.iadd, 1) := dk_96 (dk_at dksL_law_22 22 rfl rfl)
theorem dL_law_669 : decode cL_law 669 = .ok (.iaload, 1) := dk_46 (dk_at dksL_law_22 23 rfl rfl)
theorem dL_law_670 : decode cL_law 670 = .ok (.invokevirtual 77, 3) := dk_182 0 77 (dk_at dksL_law_23 0 rfl rfl)
theorem dL_law_673 : decode cL_law 673 = .ok (.aload_n 2, 1) := dk_44 (dk_at dksL_law_23 3 rfl rfl)
theorem dL_law_674 : decode cL_law 674 = .ok (.aload_n 0, 1) := dk_42 (dk_at dksL_law_23 4 rfl rfl)
theorem dL_law_675 : decode cL_law 675 = .ok (.iload 4, 2) := dk_21 4 (dk_at dksL_law_23 5 rfl rfl)
theorem dL_law_677 : decode cL_law 677 = .ok (.iconst 1, 1) := dk_4 (dk_at dksL_law_23 7 rfl rfl)
theorem dL_law_678 : decode cL_law 678 = .ok (.iadd, 1) := dk_96 (dk_at dksL_law_23 8 rfl rfl)
theorem dL_law_679 : decode cL_law 679 = .ok (.iaload, 1) := dk_46 (dk_at dksL_law_23 9 rfl rfl)
theorem dL_law_680 : decode cL_law 680 = .ok (.invokevirtual 80, 3) := dk_182 0 80 (dk_at dksL_law_23 10 rfl rfl)
theorem dL_law_683 : decode cL_law 683 = .ok (.if_icmp .eq 556, 3) := dk_159 2 44 (dk_at dksL_law_23 13 rfl rfl)
theorem dL_law_686 : decode cL_law 686 = .ok (.iconst 0, 1) := dk_3 (dk_at dksL_law_23 16 rfl rfl)
theorem dL_law_687 : decode cL_law 687 = .ok (.ireturn, 1) := dk_172 (dk_at dksL_law_23 17 rfl rfl)
theorem dL_law_688 : decode cL_law 688 = .ok (.aload_n 1, 1) := dk_43 (dk_at dksL_law_23 18 rfl rfl)
theorem dL_law_689 : decode cL_law 689 = .ok (.invokevirtual 81, 3) := dk_182 0 81 (dk_at dksL_law_23 19 rfl rfl)
theorem dL_law_692 : decode cL_law 692 = .ok (.aload_n 2, 1) := dk_44 (dk_at dksL_law_23 22 rfl rfl)
theorem dL_law_693 : decode cL_law 693 = .ok (.invokevirtual 84, 3) := dk_182 0 84 (dk_at dksL_law_24 0 rfl rfl)
theorem dL_law_696 : decode cL_law 696 = .ok (.if_icmp .eq 543, 3) := dk_159 2 31 (dk_at dksL_law_24 3 rfl rfl)
theorem dL_law_699 : decode cL_law 699 = .ok (.iconst 0, 1) := dk_3 (dk_at dksL_law_24 6 rfl rfl)
theorem dL_law_700 : decode cL_law 700 = .ok (.ireturn, 1) := dk_172 (dk_at dksL_law_24 7 rfl rfl)
theorem dL_law_701 : decode cL_law 701 = .ok (.aload_n 1, 1) := dk_43 (dk_at dksL_law_24 8 rfl rfl)
theorem dL_law_702 : decode cL_law 702 = .ok (.aload_n 0, 1) := dk_42 (dk_at dksL_law_24 9 rfl rfl)
theorem dL_law_703 : decode cL_law 703 = .ok (.iload 4, 2) := dk_21 4 (dk_at dksL_law_24 10 rfl rfl)
theorem dL_law_705 : decode cL_law 705 = .ok (.iconst 1, 1) := dk_4 (dk_at dksL_law_24 12 rfl rfl)
theorem dL_law_706 : decode cL_law 706 = .ok (.iadd, 1) := dk_96 (dk_at dksL_law_24 13 rfl rfl)
theorem dL_law_707 : decode cL_law 707 = .ok (.iaload, 1) := dk_46 (dk_at dksL_law_24 14 rfl rfl)
theorem dL_law_708 : decode cL_law 708 = .ok (.invokevirtual 85, 3) := dk_182 0 85 (dk_at dksL_law_24 15 rfl rfl)
theorem dL_law_711 : decode cL_law 711 = .ok (.aload_n 2, 1) := dk_44 (dk_at dksL_law_24 18 rfl rfl)
theorem dL_law_712 : decode cL_law 712 = .ok (.aload_n 0, 1) := dk_42 (dk_at dksL_law_24 19 rfl rfl)
theorem dL_law_713 : decode cL_law 713 = .ok (.iload 4, 2) := dk_21 4 (dk_at dksL_law_24 20 rfl rfl)
theorem dL_law_715 : decode cL_law 715 = .ok (.iconst 1, 1) := dk_4 (dk_at dksL_law_24 22 rfl rfl)
theorem dL_law_716 : decode cL_law 716 = .ok (.iadd, 1) := dk_96 (dk_at dksL_law_24 23 rfl rfl)
theorem dL_law_717 : decode cL_law 717 = .ok (.iaload, 1) := dk_46 (dk_at dksL_law_25 0 rfl rfl)
theorem dL_law_718 : decode cL_law 718 = .ok (.invokevirtual 88, 3) := dk_182 0 88 (dk_at dksL_law_25 1 rfl rfl)
theorem dL_law_721 : decode cL_law 721 = .ok (.if_icmp .eq 518, 3) := dk_159 2 6 (dk_at dksL_law_25 4 rfl rfl)
theorem dL_law_724 : decode cL_law 724 = .ok (.iconst 0, 1) := dk_3 (dk_at dksL_law_25 7 rfl rfl)
theorem dL_law_725 : decode cL_law 725 = .ok (.ireturn, 1) := dk_172 (dk_at dksL_law_25 8 rfl rfl)
theorem dL_law_726 : decode cL_law 726 = .ok (.aload_n 1, 1) := dk_43 (dk_at dksL_law_25 9 rfl rfl)
theorem dL_law_727 : decode cL_law 727 = .ok (.invokevirtual 89, 3) := dk_182 0 89 (dk_at dksL_law_25 10 rfl rfl)
theorem dL_law_730 : decode cL_law 730 = .ok (.aload_n 2, 1) := dk_44 (dk_at dksL_law_25 13 rfl rfl)
theorem dL_law_731 : decode cL_law 731 = .ok (.invokevirtual 92, 3) := dk_182 0 92 (dk_at dksL_law_25 14 rfl rfl)
theorem dL_law_734 : decode cL_law 734 = .ok (.if_icmp .eq 505, 3) := dk_159 1 249 (dk_at dksL_law_25 17 rfl rfl)
theorem dL_law_737 : decode cL_law 737 = .ok (.iconst 0, 1) := dk_3 (dk_at dksL_law_25 20 rfl rfl)
theorem dL_law_738 : decode cL_law 738 = .ok (.ireturn, 1) := dk_172 (dk_at dksL_law_25 21 rfl rfl)
theorem dL_law_739 : decode cL_law 739 = .ok (.aload_n 1, 1) := dk_43 (dk_at dksL_law_25 22 rfl rfl)
theorem dL_law_740 : decode cL_law 740 = .ok (.invokevirtual 93, 3) := dk_182 0 93 (dk_at dksL_law_26 0 rfl rfl)
theorem dL_law_743 : decode cL_law 743 = .ok (.aload_n 2, 1) := dk_44 (dk_at dksL_law_26 3 rfl rfl)
theorem dL_law_744 : decode cL_law 744 = .ok (.invokevirtual 96, 3) := dk_182 0 96 (dk_at dksL_law_26 4 rfl rfl)
theorem dL_law_747 : decode cL_law 747 = .ok (.if_icmp .eq 492, 3) := dk_159 1 236 (dk_at dksL_law_26 7 rfl rfl)
theorem dL_law_750 : decode cL_law 750 = .ok (.iconst 0, 1) := dk_3 (dk_at dksL_law_26 10 rfl rfl)
theorem dL_law_751 : decode cL_law 751 = .ok (.ireturn, 1) := dk_172 (dk_at dksL_law_26 11 rfl rfl)
theorem dL_law_752 : decode cL_law 752 = .ok (.aload_n 1, 1) := dk_43 (dk_at dksL_law_26 12 rfl rfl)
theorem dL_law_753 : decode cL_law 753 = .ok (.aload_n 0, 1) := dk_42 (dk_at dksL_law_26 13 rfl rfl)
theorem dL_law_754 : decode cL_law 754 = .ok (.iload 4, 2) := dk_21 4 (dk_at dksL_law_26 14 rfl rfl)
theorem dL_law_756 : decode cL_law 756 = .ok (.iconst 1, 1) := dk_4 (dk_at dksL_law_26 16 rfl rfl)
theorem dL_law_757 : decode cL_law 757 = .ok (.iadd, 1) := dk_96 (dk_at dksL_law_26 17 rfl rfl)
theorem dL_law_758 : decode cL_law 758 = .ok (.iaload, 1) := dk_46 (dk_at dksL_law_26 18 rfl rfl)
theorem dL_law_759 : decode cL_law 759 = .ok (.invokevirtual 97, 3) := dk_182 0 97 (dk_at dksL_law_26 19 rfl rfl)
theorem dL_law_762 : decode cL_law 762 = .ok (.aload_n 2, 1) := dk_44 (dk_at dksL_law_26 22 rfl rfl)
theorem dL_law_763 : decode cL_law 763 = .ok (.aload_n 0, 1) := dk_42 (dk_at dksL_law_26 23 rfl rfl)
theorem dL_law_764 : decode cL_law 764 = .ok (.iload 4, 2) := dk_21 4 (dk_at dksL_law_27 0 rfl rfl)
theorem dL_law_766 : decode cL_law 766 = .ok (.iconst 1, 1) := dk_4 (dk_at dksL_law_27 2 rfl rfl)
theorem dL_law_767 : decode cL_law 767 = .ok (.iadd, 1) := dk_96 (dk_at dksL_law_27 3 rfl rfl)
theorem dL_law_768 : decode cL_law 768 = .ok (.iaload, 1) := dk_46 (dk_at dksL_law_27 4 rfl rfl)
theorem dL_law_769 : decode cL_law 769 = .ok (.invokevirtual 100, 3) := dk_182 0 100 (dk_at dksL_law_27 5 rfl rfl)
theorem dL_law_772 : decode cL_law 772 = .ok (.if_icmp .eq 467, 3) := dk_159 1 211 (dk_at dksL_law_27 8 rfl rfl)
theorem dL_law_775 : decode cL_law 775 = .ok (.iconst 0, 1) := dk_3 (dk_at dksL_law_27 11 rfl rfl)
theorem dL_law_776 : decode cL_law 776 = .ok (.ireturn, 1) := dk_172 (dk_at dksL_law_27 12 rfl rfl)
theorem dL_law_777 : decode cL_law 777 = .ok (.aload_n 1, 1) := dk_43 (dk_at dksL_law_27 13 rfl rfl)
theorem dL_law_778 : decode cL_law 778 = .ok (.invokevirtual 101, 3) := dk_182 0 101 (dk_at dksL_law_27 14 rfl rfl)
theorem dL_law_781 : decode cL_law 781 = .ok (.aload_n 2, 1) := dk_44 (dk_at dksL_law_27 17 rfl rfl)
theorem dL_law_782 : decode cL_law 782 = .ok (.invokevirtual 104, 3) := dk_182 0 104 (dk_at dksL_law_27 18 rfl rfl)
theorem dL_law_785 : decode cL_law 785 = .ok (.if_icmp .eq 454, 3) := dk_159 1 198 (dk_at dksL_law_27 21 rfl rfl)
theorem dL_law_788 : decode cL_law 788 = .ok (.iconst 0, 1) := dk_3 (dk_at dksL_law_28 0 rfl rfl)
theorem dL_law_789 : decode cL_law 789 = .ok (.ireturn, 1) := dk_172 (dk_at dksL_law_28 1 rfl rfl)
theorem dL_law_790 : decode cL_law 790 = .ok (.aload_n 1, 1) := dk_43 (dk_at dksL_law_28 2 rfl rfl)
theorem dL_law_791 : decode cL_law 791 = .ok (.aload_n 0, 1) := dk_42 (dk_at dksL_law_28 3 rfl rfl)
theorem dL_law_792 : decode cL_law 792 = .ok (.iload 4, 2) := dk_21 4 (dk_at dksL_law_28 4 rfl rfl)
theorem dL_law_794 : decode cL_law 794 = .ok (.iconst 1, 1) := dk_4 (dk_at dksL_law_28 6 rfl rfl)
theorem dL_law_795 : decode cL_law 795 = .ok (.iadd, 1) := dk_96 (dk_at dksL_law_28 7 rfl rfl)
theorem dL_law_796 : decode cL_law 796 = .ok (.iaload, 1) := dk_46 (dk_at dksL_law_28 8 rfl rfl)
theorem dL_law_797 : decode cL_law 797 = .ok (.aload_n 0, 1) := dk_42 (dk_at dksL_law_28 9 rfl rfl)
theorem dL_law_798 : decode cL_law 798 = .ok (.iload 4, 2) := dk_21 4 (dk_at dksL_law_28 10 rfl rfl)
theorem dL_law_800 : decode cL_law 800 = .ok (.iconst 2, 1) := dk_5 (dk_at dksL_law_28 12 rfl rfl)
theorem dL_law_801 : decode cL_law 801 = .ok (.iadd, 1) := dk_96 (dk_at dksL_law_28 13 rfl rfl)
theorem dL_law_802 : decode cL_law 802 = .ok (.iaload, 1) := dk_46 (dk_at dksL_law_28 14 rfl rfl)
theorem dL_law_803 : decode cL_law 803 = .ok (.invokevirtual 105, 3) := dk_182 0 105 (dk_at dksL_law_28 15 rfl rfl)
theorem dL_law_806 : decode cL_law 806 = .ok (.aload_n 2, 1) := dk_44 (dk_at dksL_law_28 18 rfl rfl)
theorem dL_law_807 : decode cL_law 807 = .ok (.aload_n 0, 1) := dk_42 (dk_at dksL_law_28 19 rfl rfl)
theorem dL_law_808 : decode cL_law 808 = .ok (.iload 4, 2) := dk_21 4 (dk_at dksL_law_28 20 rfl rfl)
theorem dL_law_810 : decode cL_law 810 = .ok (.iconst 1, 1) := dk_4 (dk_at dksL_law_28 22 rfl rfl)
theorem dL_law_811 : decode cL_law 811 = .ok (.iadd, 1) := dk_96 (dk_at dksL_law_28 23 rfl rfl)
theorem dL_law_812 : decode cL_law 812 = .ok (.iaload, 1) := dk_46 (dk_at dksL_law_29 0 rfl rfl)
theorem dL_law_813 : decode cL_law 813 = .ok (.aload_n 0, 1) := dk_42 (dk_at dksL_law_29 1 rfl rfl)
theorem dL_law_814 : decode cL_law 814 = .ok (.iload 4, 2) := dk_21 4 (dk_at dksL_law_29 2 rfl rfl)
theorem dL_law_816 : decode cL_law 816 = .ok (.iconst 2, 1) := dk_5 (dk_at dksL_law_29 4 rfl rfl)
theorem dL_law_817 : decode cL_law 817 = .ok (.iadd, 1) := dk_96 (dk_at dksL_law_29 5 rfl rfl)
theorem dL_law_818 : decode cL_law 818 = .ok (.iaload, 1) := dk_46 (dk_at dksL_law_29 6 rfl rfl)
theorem dL_law_819 : decode cL_law 819 = .ok (.invokevirtual 108, 3) := dk_182 0 108 (dk_at dksL_law_29 7 rfl rfl)
theorem dL_law_822 : decode cL_law 822 = .ok (.if_icmp .eq 417, 3) := dk_159 1 161 (dk_at dksL_law_29 10 rfl rfl)
theorem dL_law_825 : decode cL_law 825 = .ok (.iconst 0, 1) := dk_3 (dk_at dksL_law_29 13 rfl rfl)
theorem dL_law_826 : decode cL_law 826 = .ok (.ireturn, 1) := dk_172 (dk_at dksL_law_29 14 rfl rfl)
theorem dL_law_827 : decode cL_law 827 = .ok (.aload_n 1, 1) := dk_43 (dk_at dksL_law_29 15 rfl rfl)
theorem dL_law_828 : decode cL_law 828 = .ok (.aload_n 0, 1) := dk_42 (dk_at dksL_law_29 16 rfl rfl)
theorem dL_law_829 : decode cL_law 829 = .ok (.iload 4, 2) := dk_21 4 (dk_at dksL_law_29 17 rfl rfl)
theorem dL_law_831 : decode cL_law 831 = .ok (.iconst 1, 1) := dk_4 (dk_at dksL_law_29 19 rfl rfl)
theorem dL_law_832 : decode cL_law 832 = .ok (.iadd, 1) := dk_96 (dk_at dksL_law_29 20 rfl rfl)
theorem dL_law_833 : decode cL_law 833 = .ok (.iaload, 1) := dk_46 (dk_at dksL_law_29 21 rfl rfl)
theorem dL_law_834 : decode cL_law 834 = .ok (.invokevirtual 109, 3) := dk_182 0 109 (dk_at dksL_law_30 0 rfl rfl)
theorem dL_law_837 : decode cL_law 837 = .ok (.aload_n 2, 1) := dk_44 (dk_at dksL_law_30 3 rfl rfl)
theorem dL_law_838 : decode cL_law 838 = .ok (.aload_n 0, 1) := dk_42 (dk_at dksL_law_30 4 rfl rfl)
theorem dL_law_839 : decode cL_law 839 = .ok (.iload 4, 2) := dk_21 4 (dk_at dksL_law_30 5 rfl rfl)
theorem dL_law_841 : decode cL_law 841 = .ok (.iconst 1, 1) := dk_4 (dk_at dksL_law_30 7 rfl rfl)
theorem dL_law_842 : decode cL_law 842 = .ok (.iadd, 1) := dk_96 (dk_at dksL_law_30 8 rfl rfl)
theorem dL_law_843 : decode cL_law 843 = .ok (.iaload, 1) := dk_46 (dk_at dksL_law_30 9 rfl rfl)
theorem dL_law_844 : decode cL_law 844 = .ok (.invokevirtual 112, 3) := dk_182 0 112 (dk_at dksL_law_30 10 rfl rfl)
theorem dL_law_847 : decode cL_law 847 = .ok (.if_icmp .eq 392, 3) := dk_159 1 136 (dk_at dksL_law_30 13 rfl rfl)
theorem dL_law_850 : decode cL_law 850 = .ok (.iconst 0, 1) := dk_3 (dk_at dksL_law_30 16 rfl rfl)
theorem dL_law_851 : decode cL_law 851 = .ok (.ireturn, 1) := dk_172 (dk_at dksL_law_30 17 rfl rfl)
theorem dL_law_852 : decode cL_law 852 = .ok (.aload_n 1, 1) := dk_43 (dk_at dksL_law_30 18 rfl rfl)
theorem dL_law_853 : decode cL_law 853 = .ok (.aload_n 0, 1) := dk_42 (dk_at dksL_law_30 19 rfl rfl)
theorem dL_law_854 : decode cL_law 854 = .ok (.iload 4, 2) := dk_21 4 (dk_at dksL_law_30 20 rfl rfl)
theorem dL_law_856 : decode cL_law 856 = .ok (.iconst 1, 1) := dk_4 (dk_at dksL_law_30 22 rfl rfl)
theorem dL_law_857 : decode cL_law 857 = .ok (.iadd, 1) := dk_96 (dk_at dksL_law_30 23 rfl rfl)
theorem dL_law_858 : decode cL_law 858 = .ok (.iaload, 1) := dk_46 (dk_at dksL_law_31 0 rfl rfl)
theorem dL_law_859 : decode cL_law 859 = .ok (.invokevirtual 113, 3) := dk_182 0 113 (dk_at dksL_law_31 1 rfl rfl)
theorem dL_law_862 : decode cL_law 862 = .ok (.aload_n 2, 1) := dk_44 (dk_at dksL_law_31 4 rfl rfl)
theorem dL_law_863 : decode cL_law 863 = .ok (.aload_n 0, 1) := dk_42 (dk_at dksL_law_31 5 rfl rfl)
theorem dL_law_864 : decode cL_law 864 = .ok (.iload 4, 2) := dk_21 4 (dk_at dksL_law_31 6 rfl rfl)
theorem dL_law_866 : decode cL_law 866 = .ok (.iconst 1, 1) := dk_4 (dk_at dksL_law_31 8 rfl rfl)
theorem dL_law_867 : decode cL_law 867 = .ok (.iadd, 1) := dk_96 (dk_at dksL_law_31 9 rfl rfl)
theorem dL_law_868 : decode cL_law 868 = .ok (.iaload, 1) := dk_46 (dk_at dksL_law_31 10 rfl rfl)
theorem dL_law_869 : decode cL_law 869 = .ok (.invokevirtual 116, 3) := dk_182 0 116 (dk_at dksL_law_31 11 rfl rfl)
theorem dL_law_872 : decode cL_law 872 = .ok (.if_icmp .eq 367, 3) := dk_159 1 111 (dk_at dksL_law_31 14 rfl rfl)
theorem dL_law_875 : decode cL_law 875 = .ok (.iconst 0, 1) := dk_3 (dk_at dksL_law_31 17 rfl rfl)
theorem dL_law_876 : decode cL_law 876 = .ok (.ireturn, 1) := dk_172 (dk_at dksL_law_31 18 rfl rfl)
theorem dL_law_877 : decode cL_law 877 = .ok (.aload_n 1, 1) := dk_43 (dk_at dksL_law_31 19 rfl rfl)
theorem dL_law_878 : decode cL_law 878 = .ok (.aload_n 0, 1) := dk_42 (dk_at dksL_law_31 20 rfl rfl)
theorem dL_law_879 : decode cL_law 879 = .ok (.iload 4, 2) := dk_21 4 (dk_at dksL_law_31 21 rfl rfl)
theorem dL_law_881 : decode cL_law 881 = .ok (.iconst 1, 1) := dk_4 (dk_at dksL_law_31 23 rfl rfl)
theorem dL_law_882 : decode cL_law 882 = .ok (.iadd, 1) := dk_96 (dk_at dksL_law_32 0 rfl rfl)
theorem dL_law_883 : decode cL_law 883 = .ok (.iaload, 1) := dk_46 (dk_at dksL_law_32 1 rfl rfl)
theorem dL_law_884 : decode cL_law 884 = .ok (.aload_n 0, 1) := dk_42 (dk_at dksL_law_32 2 rfl rfl)
theorem dL_law_885 : decode cL_law 885 = .ok (.iload 4, 2) := dk_21 4 (dk_at dksL_law_32 3 rfl rfl)
theorem dL_law_887 : decode cL_law 887 = .ok (.iconst 2, 1) := dk_5 (dk_at dksL_law_32 5 rfl rfl)
theorem dL_law_888 : decode cL_law 888 = .ok (.iadd, 1) := dk_96 (dk_at dksL_law_32 6 rfl rfl)
theorem dL_law_889 : decode cL_law 889 = .ok (.iaload, 1) := dk_46 (dk_at dksL_law_32 7 rfl rfl)
theorem dL_law_890 : decode cL_law 890 = .ok (.invokevirtual 117, 3) := dk_182 0 117 (dk_at dksL_law_32 8 rfl rfl)
theorem dL_law_893 : decode cL_law 893 = .ok (.aload_n 2, 1) := dk_44 (dk_at dksL_law_32 11 rfl rfl)
theorem dL_law_894 : decode cL_law 894 = .ok (.aload_n 0, 1) := dk_42 (dk_at dksL_law_32 12 rfl rfl)
theorem dL_law_895 : decode cL_law 895 = .ok (.iload 4, 2) := dk_21 4 (dk_at dksL_law_32 13 rfl rfl)
theorem dL_law_897 : decode cL_law 897 = .ok (.iconst 1, 1) := dk_4 (dk_at dksL_law_32 15 rfl rfl)
theorem dL_law_898 : decode cL_law 898 = .ok (.iadd, 1) := dk_96 (dk_at dksL_law_32 16 rfl rfl)
theorem dL_law_899 : decode cL_law 899 = .ok (.iaload, 1) := dk_46 (dk_at dksL_law_32 17 rfl rfl)
theorem dL_law_900 : decode cL_law 900 = .ok (.aload_n 0, 1) := dk_42 (dk_at dksL_law_32 18 rfl rfl)
theorem dL_law_901 : decode cL_law 901 = .ok (.iload 4, 2) := dk_21 4 (dk_at dksL_law_32 19 rfl rfl)
theorem dL_law_903 : decode cL_law 903 = .ok (.iconst 2, 1) := dk_5 (dk_at dksL_law_32 21 rfl rfl)
theorem dL_law_904 : decode cL_law 904 = .ok (.iadd, 1) := dk_96 (dk_at dksL_law_32 22 rfl rfl)
theorem dL_law_905 : decode cL_law 905 = .ok (.iaload, 1) := dk_46 (dk_at dksL_law_32 23 rfl rfl)
theorem dL_law_906 : decode cL_law 906 = .ok (.invokevirtual 120, 3) := dk_182 0 120 (dk_at dksL_law_33 0 rfl rfl)
theorem dL_law_909 : decode cL_law 909 = .ok (.if_icmp .eq 330, 3) := dk_159 1 74 (dk_at dksL_law_33 3 rfl rfl)
theorem dL_law_912 : decode cL_law 912 = .ok (.iconst 0, 1) := dk_3 (dk_at dksL_law_33 6 rfl rfl)
theorem dL_law_913 : decode cL_law 913 = .ok (.ireturn, 1) := dk_172 (dk_at dksL_law_33 7 rfl rfl)
theorem dL_law_914 : decode cL_law 914 = .ok (.aload_n 1, 1) := dk_43 (dk_at dksL_law_33 8 rfl rfl)
theorem dL_law_915 : decode cL_law 915 = .ok (.invokevirtual 121, 3) := dk_182 0 121 (dk_at dksL_law_33 9 rfl rfl)
theorem dL_law_918 : decode cL_law 918 = .ok (.aload_n 2, 1) := dk_44 (dk_at dksL_law_33 12 rfl rfl)
theorem dL_law_919 : decode cL_law 919 = .ok (.invokevirtual 124, 3) := dk_182 0 124 (dk_at dksL_law_33 13 rfl rfl)
theorem dL_law_922 : decode cL_law 922 = .ok (.if_icmp .eq 317, 3) := dk_159 1 61 (dk_at dksL_law_33 16 rfl rfl)
theorem dL_law_925 : decode cL_law 925 = .ok (.iconst 0, 1) := dk_3 (dk_at dksL_law_33 19 rfl rfl)
theorem dL_law_926 : decode cL_law 926 = .ok (.ireturn, 1) := dk_172 (dk_at dksL_law_33 20 rfl rfl)
theorem dL_law_927 : decode cL_law 927 = .ok (.aload_n 1, 1) := dk_43 (dk_at dksL_law_33 21 rfl rfl)
theorem dL_law_928 : decode cL_law 928 = .ok (.invokevirtual 125, 3) := dk_182 0 125 (dk_at dksL_law_34 0 rfl rfl)
theorem dL_law_931 : decode cL_law 931 = .ok (.aload_n 2, 1) := dk_44 (dk_at dksL_law_34 3 rfl rfl)
theorem dL_law_932 : decode cL_law 932 = .ok (.invokevirtual 128, 3) := dk_182 0 128 (dk_at dksL_law_34 4 rfl rfl)
theorem dL_law_935 : decode cL_law 935 = .ok (.if_icmp .eq 304, 3) := dk_159 1 48 (dk_at dksL_law_34 7 rfl rfl)
theorem dL_law_938 : decode cL_law 938 = .ok (.iconst 0, 1) := dk_3 (dk_at dksL_law_34 10 rfl rfl)
theorem dL_law_939 : decode cL_law 939 = .ok (.ireturn, 1) := dk_172 (dk_at dksL_law_34 11 rfl rfl)
theorem dL_law_940 : decode cL_law 940 = .ok (.aload_n 1, 1) := dk_43 (dk_at dksL_law_34 12 rfl rfl)
theorem dL_law_941 : decode cL_law 941 = .ok (.aload_n 0, 1) := dk_42 (dk_at dksL_law_34 13 rfl rfl)
theorem dL_law_942 : decode cL_law 942 = .ok (.iload 4, 2) := dk_21 4 (dk_at dksL_law_34 14 rfl rfl)
theorem dL_law_944 : decode cL_law 944 = .ok (.iconst 1, 1) := dk_4 (dk_at dksL_law_34 16 rfl rfl)
theorem dL_law_945 : decode cL_law 945 = .ok (.iadd, 1) := dk_96 (dk_at dksL_law_34 17 rfl rfl)
theorem dL_law_946 : decode cL_law 946 = .ok (.iaload, 1) := dk_46 (dk_at dksL_law_34 18 rfl rfl)
theorem dL_law_947 : decode cL_law 947 = .ok (.invokevirtual 129, 3) := dk_182 0 129 (dk_at dksL_law_34 19 rfl rfl)
theorem dL_law_950 : decode cL_law 950 = .ok (.aload_n 2, 1) := dk_44 (dk_at dksL_law_34 22 rfl rfl)
theorem dL_law_951 : decode cL_law 951 = .ok (.aload_n 0, 1) := dk_42 (dk_at dksL_law_34 23 rfl rfl)
theorem dL_law_952 : decode cL_law 952 = .ok (.iload 4, 2) := dk_21 4 (dk_at dksL_law_35 0 rfl rfl)
theorem dL_law_954 : decode cL_law 954 = .ok (.iconst 1, 1) := dk_4 (dk_at dksL_law_35 2 rfl rfl)
theorem dL_law_955 : decode cL_law 955 = .ok (.iadd, 1) := dk_96 (dk_at dksL_law_35 3 rfl rfl)
theorem dL_law_956 : decode cL_law 956 = .ok (.iaload, 1) := dk_46 (dk_at dksL_law_35 4 rfl rfl)
theorem dL_law_957 : decode cL_law 957 = .ok (.invokevirtual 132, 3) := dk_182 0 132 (dk_at dksL_law_35 5 rfl rfl)
theorem dL_law_960 : decode cL_law 960 = .ok (.if_icmp .eq 279, 3) := dk_159 1 23 (dk_at dksL_law_35 8 rfl rfl)
theorem dL_law_963 : decode cL_law 963 = .ok (.iconst 0, 1) := dk_3 (dk_at dksL_law_35 11 rfl rfl)
theorem dL_law_964 : decode cL_law 964 = .ok (.ireturn, 1) := dk_172 (dk_at dksL_law_35 12 rfl rfl)
theorem dL_law_965 : decode cL_law 965 = .ok (.aload_n 1, 1) := dk_43 (dk_at dksL_law_35 13 rfl rfl)
theorem dL_law_966 : decode cL_law 966 = .ok (.aload_n 0, 1) := dk_42 (dk_at dksL_law_35 14 rfl rfl)
theorem dL_law_967 : decode cL_law 967 = .ok (.iload 4, 2) := dk_21 4 (dk_at dksL_law_35 15 rfl rfl)
theorem dL_law_969 : decode cL_law 969 = .ok (.iconst 1, 1) := dk_4 (dk_at dksL_law_35 17 rfl rfl)
theorem dL_law_970 : decode cL_law 970 = .ok (.iadd, 1) := dk_96 (dk_at dksL_law_35 18 rfl rfl)
theorem dL_law_971 : decode cL_law 971 = .ok (.iaload, 1) := dk_46 (dk_at dksL_law_35 19 rfl rfl)
theorem dL_law_972 : decode cL_law 972 = .ok (.invokevirtual 133, 3) := dk_182 0 133 (dk_at dksL_law_35 20 rfl rfl)
theorem dL_law_975 : decode cL_law 975 = .ok (.aload_n 2, 1) := dk_44 (dk_at dksL_law_35 23 rfl rfl)
theorem dL_law_976 : decode cL_law 976 = .ok (.aload_n 0, 1) := dk_42 (dk_at dksL_law_36 0 rfl rfl)
theorem dL_law_977 : decode cL_law 977 = .ok (.iload 4, 2) := dk_21 4 (dk_at dksL_law_36 1 rfl rfl)
theorem dL_law_979 : decode cL_law 979 = .ok (.iconst 1, 1) := dk_4 (dk_at dksL_law_36 3 rfl rfl)
theorem dL_law_980 : decode cL_law 980 = .ok (.iadd, 1) := dk_96 (dk_at dksL_law_36 4 rfl rfl)
theorem dL_law_981 : decode cL_law 981 = .ok (.iaload, 1) := dk_46 (dk_at dksL_law_36 5 rfl rfl)
theorem dL_law_982 : decode cL_law 982 = .ok (.invokevirtual 136, 3) := dk_182 0 136 (dk_at dksL_law_36 6 rfl rfl)
theorem dL_law_985 : decode cL_law 985 = .ok (.if_icmp .eq 254, 3) := dk_159 0 254 (dk_at dksL_law_36 9 rfl rfl)
theorem dL_law_988 : decode cL_law 988 = .ok (.iconst 0, 1) := dk_3 (dk_at dksL_law_36 12 rfl rfl)
theorem dL_law_989 : decode cL_law 989 = .ok (.ireturn, 1) := dk_172 (dk_at dksL_law_36 13 rfl rfl)
theorem dL_law_990 : decode cL_law 990 = .ok (.aload_n 1, 1) := dk_43 (dk_at dksL_law_36 14 rfl rfl)
theorem dL_law_991 : decode cL_law 991 = .ok (.aload_n 0, 1) := dk_42 (dk_at dksL_law_36 15 rfl rfl)
theorem dL_law_992 : decode cL_law 992 = .ok (.iload 4, 2) := dk_21 4 (dk_at dksL_law_36 16 rfl rfl)
theorem dL_law_994 : decode cL_law 994 = .ok (.iconst 1, 1) := dk_4 (dk_at dksL_law_36 18 rfl rfl)
theorem dL_law_995 : decode cL_law 995 = .ok (.iadd, 1) := dk_96 (dk_at dksL_law_36 19 rfl rfl)
theorem dL_law_996 : decode cL_law 996 = .ok (.iaload, 1) := dk_46 (dk_at dksL_law_36 20 rfl rfl)
theorem dL_law_997 : decode cL_law 997 = .ok (.aload_n 0, 1) := dk_42 (dk_at dksL_law_36 21 rfl rfl)
theorem dL_law_998 : decode cL_law 998 = .ok (.iload 4, 2) := dk_21 4 (dk_at dksL_law_36 22 rfl rfl)
theorem dL_law_1000 : decode cL_law 1000 = .ok (.iconst 2, 1) := dk_5 (dk_at dksL_law_37 0 rfl rfl)
theorem dL_law_1001 : decode cL_law 1001 = .ok (.iadd, 1) := dk_96 (dk_at dksL_law_37 1 rfl rfl)
theorem dL_law_1002 : decode cL_law 1002 = .ok (.iaload, 1) := dk_46 (dk_at dksL_law_37 2 rfl rfl)
theorem dL_law_1003 : decode cL_law 1003 = .ok (.invokevirtual 137, 3) := dk_182 0 137 (dk_at dksL_law_37 3 rfl rfl)
theorem dL_law_1006 : decode cL_law 1006 = .ok (.aload_n 2, 1) := dk_44 (dk_at dksL_law_37 6 rfl rfl)
theorem dL_law_1007 : decode cL_law 1007 = .ok (.aload_n 0, 1) := dk_42 (dk_at dksL_law_37 7 rfl rfl)
theorem dL_law_1008 : decode cL_law 1008 = .ok (.iload 4, 2) := dk_21 4 (dk_at dksL_law_37 8 rfl rfl)
theorem dL_law_1010 : decode cL_law 1010 = .ok (.iconst 1, 1) := dk_4 (dk_at dksL_law_37 10 rfl rfl)
theorem dL_law_1011 : decode cL_law 1011 = .ok (.iadd, 1) := dk_96 (dk_at dksL_law_37 11 rfl rfl)
theorem dL_law_1012 : decode cL_law 1012 = .ok (.iaload, 1) := dk_46 (dk_at dksL_law_37 12 rfl rfl)
theorem dL_law_1013 : decode cL_law 1013 = .ok (.aload_n 0, 1) := dk_42 (dk_at dksL_law_37 13 rfl rfl)
theorem dL_law_1014 : decode cL_law 1014 = .ok (.iload 4, 2) := dk_21 4 (dk_at dksL_law_37 14 rfl rfl)
theorem dL_law_1016 : decode cL_law 1016 = .ok (.iconst 2, 1) := dk_5 (dk_at dksL_law_37 16 rfl rfl)
theorem dL_law_1017 : decode cL_law 1017 = .ok (.iadd, 1) := dk_96 (dk_at dksL_law_37 17 rfl rfl)
theorem dL_law_1018 : decode cL_law 1018 = .ok (.iaload, 1) := dk_46 (dk_at dksL_law_37 18 rfl rfl)
theorem dL_law_1019 : decode cL_law 1019 = .ok (.invokevirtual 140, 3) := dk_182 0 140 (dk_at dksL_law_37 19 rfl rfl)
theorem dL_law_1022 : decode cL_law 1022 = .ok (.if_icmp .eq 217, 3) := dk_159 0 217 (dk_at dksL_law_38 0 rfl rfl)
theorem dL_law_1025 : decode cL_law 1025 = .ok (.iconst 0, 1) := dk_3 (dk_at dksL_law_38 3 rfl rfl)
theorem dL_law_1026 : decode cL_law 1026 = .ok (.ireturn, 1) := dk_172 (dk_at dksL_law_38 4 rfl rfl)
theorem dL_law_1027 : decode cL_law 1027 = .ok (.aload_n 1, 1) := dk_43 (dk_at dksL_law_38 5 rfl rfl)
theorem dL_law_1028 : decode cL_law 1028 = .ok (.aload_n 0, 1) := dk_42 (dk_at dksL_law_38 6 rfl rfl)
theorem dL_law_1029 : decode cL_law 1029 = .ok (.iload 4, 2) := dk_21 4 (dk_at dksL_law_38 7 rfl rfl)
theorem dL_law_1031 : decode cL_law 1031 = .ok (.iconst 1, 1) := dk_4 (dk_at dksL_law_38 9 rfl rfl)
theorem dL_law_1032 : decode cL_law 1032 = .ok (.iadd, 1) := dk_96 (dk_at dksL_law_38 10 rfl rfl)
theorem dL_law_1033 : decode cL_law 1033 = .ok (.iaload, 1) := dk_46 (dk_at dksL_law_38 11 rfl rfl)
theorem dL_law_1034 : decode cL_law 1034 = .ok (.aload_n 0, 1) := dk_42 (dk_at dksL_law_38 12 rfl rfl)
theorem dL_law_1035 : decode cL_law 1035 = .ok (.iload 4, 2) := dk_21 4 (dk_at dksL_law_38 13 rfl rfl)
theorem dL_law_1037 : decode cL_law 1037 = .ok (.iconst 2, 1) := dk_5 (dk_at dksL_law_38 15 rfl rfl)
theorem dL_law_1038 : decode cL_law 1038 = .ok (.iadd, 1) := dk_96 (dk_at dksL_law_38 16 rfl rfl)
theorem dL_law_1039 : decode cL_law 1039 = .ok (.iaload, 1) := dk_46 (dk_at dksL_law_38 17 rfl rfl)
theorem dL_law_1040 : decode cL_law 1040 = .ok (.aload_n 0, 1) := dk_42 (dk_at dksL_law_38 18 rfl rfl)
theorem dL_law_1041 : decode cL_law 1041 = .ok (.iload 4, 2) := dk_21 4 (dk_at dksL_law_38 19 rfl rfl)
theorem dL_law_1043 : decode cL_law 1043 = .ok (.iconst 3, 1) := dk_6 (dk_at dksL_law_38 21 rfl rfl)
theorem dL_law_1044 : decode cL_law 1044 = .ok (.iadd, 1) := dk_96 (dk_at dksL_law_38 22 rfl rfl)
theorem dL_law_1045 : decode cL_law 1045 = .ok (.iaload, 1) := dk_46 (dk_at dksL_law_38 23 rfl rfl)
theorem dL_law_1046 : decode cL_law 1046 = .ok (.invokevirtual 141, 3) := dk_182 0 141 (dk_at dksL_law_39 0 rfl rfl)
theorem dL_law_1049 : decode cL_law 1049 = .ok (.aload_n 2, 1) := dk_44 (dk_at dksL_law_39 3 rfl rfl)
theorem dL_law_1050 : decode cL_law 1050 = .ok (.aload_n 0, 1) := dk_42 (dk_at dksL_law_39 4 rfl rfl)
theorem dL_law_1051 : decode cL_law 1051 = .ok (.iload 4, 2) := dk_21 4 (dk_at dksL_law_39 5 rfl rfl)
theorem dL_law_1053 : decode cL_law 1053 = .ok (.iconst 1, 1) := dk_4 (dk_at dksL_law_39 7 rfl rfl)
theorem dL_law_1054 : decode cL_law 1054 = .ok (.iadd, 1) := dk_96 (dk_at dksL_law_39 8 rfl rfl)
theorem dL_law_1055 : decode cL_law 1055 = .ok (.iaload, 1) := dk_46 (dk_at dksL_law_39 9 rfl rfl)
theorem dL_law_1056 : decode cL_law 1056 = .ok (.aload_n 0, 1) := dk_42 (dk_at dksL_law_39 10 rfl rfl)
theorem dL_law_1057 : decode cL_law 1057 = .ok (.iload 4, 2) := dk_21 4 (dk_at dksL_law_39 11 rfl rfl)
theorem dL_law_1059 : decode cL_law 1059 = .ok (.iconst 2, 1) := dk_5 (dk_at dksL_law_39 13 rfl rfl)
theorem dL_law_1060 : decode cL_law 1060 = .ok (.iadd, 1) := dk_96 (dk_at dksL_law_39 14 rfl rfl)
theorem dL_law_1061 : decode cL_law 1061 = .ok (.iaload, 1) := dk_46 (dk_at dksL_law_39 15 rfl rfl)
theorem dL_law_1062 : decode cL_law 1062 = .ok (.aload_n 0, 1) := dk_42 (dk_at dksL_law_39 16 rfl rfl)
theorem dL_law_1063 : decode cL_law 1063 = .ok (.iload 4, 2) := dk_21 4 (dk_at dksL_law_39 17 rfl rfl)
theorem dL_law_1065 : decode cL_law 1065 = .ok (.iconst 3, 1) := dk_6 (dk_at dksL_law_39 19 rfl rfl)
theorem dL_law_1066 : decode cL_law 1066 = .ok (.iadd, 1) := dk_96 (dk_at dksL_law_39 20 rfl rfl)
theorem dL_law_1067 : decode cL_law 1067 = .ok (.iaload, 1) := dk_46 (dk_at dksL_law_39 21 rfl rfl)
theorem dL_law_1068 : decode cL_law 1068 = .ok (.invokevirtual 144, 3) := dk_182 0 144 (dk_at dksL_law_40 0 rfl rfl)
theorem dL_law_1071 : decode cL_law 1071 = .ok (.if_icmp .eq 168, 3) := dk_159 0 168 (dk_at dksL_law_40 3 rfl rfl)
theorem dL_law_1074 : decode cL_law 1074 = .ok (.iconst 0, 1) := dk_3 (dk_at dksL_law_40 6 rfl rfl)
theorem dL_law_1075 : decode cL_law 1075 = .ok (.ireturn, 1) := dk_172 (dk_at dksL_law_40 7 rfl rfl)
theorem dL_law_1076 : decode cL_law 1076 = .ok (.aload_n 1, 1) := dk_43 (dk_at dksL_law_40 8 rfl rfl)
theorem dL_law_1077 : decode cL_law 1077 = .ok (.aload_n 0, 1) := dk_42 (dk_at dksL_law_40 9 rfl rfl)
theorem dL_law_1078 : decode cL_law 1078 = .ok (.iload 4, 2) := dk_21 4 (dk_at dksL_law_40 10 rfl rfl)
theorem dL_law_1080 : decode cL_law 1080 = .ok (.iconst 1, 1) := dk_4 (dk_at dksL_law_40 12 rfl rfl)
theorem dL_law_1081 : decode cL_law 1081 = .ok (.iadd, 1) := dk_96 (dk_at dksL_law_40 13 rfl rfl)
theorem dL_law_1082 : decode cL_law 1082 = .ok (.iaload, 1) := dk_46 (dk_at dksL_law_40 14 rfl rfl)
theorem dL_law_1083 : decode cL_law 1083 = .ok (.invokevirtual 145, 3) := dk_182 0 145 (dk_at dksL_law_40 15 rfl rfl)
theorem dL_law_1086 : decode cL_law 1086 = .ok (.aload_n 2, 1) := dk_44 (dk_at dksL_law_40 18 rfl rfl)
theorem dL_law_1087 : decode cL_law 1087 = .ok (.aload_n 0, 1) := dk_42 (dk_at dksL_law_40 19 rfl rfl)
theorem dL_law_1088 : decode cL_law 1088 = .ok (.iload 4, 2) := dk_21 4 (dk_at dksL_law_40 20 rfl rfl)
theorem dL_law_1090 : decode cL_law 1090 = .ok (.iconst 1, 1) := dk_4 (dk_at dksL_law_40 22 rfl rfl)
theorem dL_law_1091 : decode cL_law 1091 = .ok (.iadd, 1) := dk_96 (dk_at dksL_law_40 23 rfl rfl)
theorem dL_law_1092 : decode cL_law 1092 = .ok (.iaload, 1) := dk_46 (dk_at dksL_law_41 0 rfl rfl)
theorem dL_law_1093 : decode cL_law 1093 = .ok (.invokevirtual 148, 3) := dk_182 0 148 (dk_at dksL_law_41 1 rfl rfl)
theorem dL_law_1096 : decode cL_law 1096 = .ok (.if_icmp .eq 143, 3) := dk_159 0 143 (dk_at dksL_law_41 4 rfl rfl)
theorem dL_law_1099 : decode cL_law 1099 = .ok (.iconst 0, 1) := dk_3 (dk_at dksL_law_41 7 rfl rfl)
theorem dL_law_1100 : decode cL_law 1100 = .ok (.ireturn, 1) := dk_172 (dk_at dksL_law_41 8 rfl rfl)
theorem dL_law_1101 : decode cL_law 1101 = .ok (.aload_n 1, 1) := dk_43 (dk_at dksL_law_41 9 rfl rfl)
theorem dL_law_1102 : decode cL_law 1102 = .ok (.aload_n 0, 1) := dk_42 (dk_at dksL_law_41 10 rfl rfl)
theorem dL_law_1103 : decode cL_law 1103 = .ok (.iload 4, 2) := dk_21 4 (dk_at dksL_law_41 11 rfl rfl)
theorem dL_law_1105 : decode cL_law 1105 = .ok (.iconst 1, 1) := dk_4 (dk_at dksL_law_41 13 rfl rfl)
theorem dL_law_1106 : decode cL_law 1106 = .ok (.iadd, 1) := dk_96 (dk_at dksL_law_41 14 rfl rfl)
theorem dL_law_1107 : decode cL_law 1107 = .ok (.iaload, 1) := dk_46 (dk_at dksL_law_41 15 rfl rfl)
theorem dL_law_1108 : decode cL_law 1108 = .ok (.invokevirtual 149, 3) := dk_182 0 149 (dk_at dksL_law_41 16 rfl rfl)
theorem dL_law_1111 : decode cL_law 1111 = .ok (.aload_n 2, 1) := dk_44 (dk_at dksL_law_41 19 rfl rfl)
theorem dL_law_1112 : decode cL_law 1112 = .ok (.aload_n 0, 1) := dk_42 (dk_at dksL_law_41 20 rfl rfl)
theorem dL_law_1113 : decode cL_law 1113 = .ok (.iload 4, 2) := dk_21 4 (dk_at dksL_law_41 21 rfl rfl)
theorem dL_law_1115 : decode cL_law 1115 = .ok (.iconst 1, 1) := dk_4 (dk_at dksL_law_41 23 rfl rfl)
theorem dL_law_1116 : decode cL_law 1116 = .ok (.iadd, 1) := dk_96 (dk_at dksL_law_42 0 rfl rfl)
theorem dL_law_1117 : decode cL_law 1117 = .ok (.iaload, 1) := dk_46 (dk_at dksL_law_42 1 rfl rfl)
theorem dL_law_1118 : decode cL_law 1118 = .ok (.invokevirtual 152, 3) := dk_182 0 152 (dk_at dksL_law_42 2 rfl rfl)
theorem dL_law_1121 : decode cL_law 1121 = .ok (.if_icmp .eq 118, 3) := dk_159 0 118 (dk_at dksL_law_42 5 rfl rfl)
theorem dL_law_1124 : decode cL_law 1124 = .ok (.iconst 0, 1) := dk_3 (dk_at dksL_law_42 8 rfl rfl)
theorem dL_law_1125 : decode cL_law 1125 = .ok (.ireturn, 1) := dk_172 (dk_at dksL_law_42 9 rfl rfl)
theorem dL_law_1126 : decode cL_law 1126 = .ok (.aload_n 1, 1) := dk_43 (dk_at dksL_law_42 10 rfl rfl)
theorem dL_law_1127 : decode cL_law 1127 = .ok (.invokevirtual 153, 3) := dk_182 0 153 (dk_at dksL_law_42 11 rfl rfl)
theorem dL_law_1130 : decode cL_law 1130 = .ok (.aload_n 2, 1) := dk_44 (dk_at dksL_law_42 14 rfl rfl)
theorem dL_law_1131 : decode cL_law 1131 = .ok (.invokevirtual 156, 3) := dk_182 0 156 (dk_at dksL_law_42 15 rfl rfl)
theorem dL_law_1134 : decode cL_law 1134 = .ok (.if_icmp .eq 105, 3) := dk_159 0 105 (dk_at dksL_law_42 18 rfl rfl)
theorem dL_law_1137 : decode cL_law 1137 = .ok (.iconst 0, 1) := dk_3 (dk_at dksL_law_42 21 rfl rfl)
theorem dL_law_1138 : decode cL_law 1138 = .ok (.ireturn, 1) := dk_172 (dk_at dksL_law_42 22 rfl rfl)
theorem dL_law_1139 : decode cL_law 1139 = .ok (.aload_n 1, 1) := dk_43 (dk_at dksL_law_42 23 rfl rfl)
theorem dL_law_1140 : decode cL_law 1140 = .ok (.aload_n 0, 1) := dk_42 (dk_at dksL_law_43 0 rfl rfl)
theorem dL_law_1141 : decode cL_law 1141 = .ok (.iload 4, 2) := dk_21 4 (dk_at dksL_law_43 1 rfl rfl)
theorem dL_law_1143 : decode cL_law 1143 = .ok (.iconst 1, 1) := dk_4 (dk_at dksL_law_43 3 rfl rfl)
theorem dL_law_1144 : decode cL_law 1144 = .ok (.iadd, 1) := dk_96 (dk_at dksL_law_43 4 rfl rfl)
theorem dL_law_1145 : decode cL_law 1145 = .ok (.iaload, 1) := dk_46 (dk_at dksL_law_43 5 rfl rfl)
theorem dL_law_1146 : decode cL_law 1146 = .ok (.invokevirtual 157, 3) := dk_182 0 157 (dk_at dksL_law_43 6 rfl rfl)
theorem dL_law_1149 : decode cL_law 1149 = .ok (.aload_n 2, 1) := dk_44 (dk_at dksL_law_43 9 rfl rfl)
theorem dL_law_1150 : decode cL_law 1150 = .ok (.aload_n 0, 1) := dk_42 (dk_at dksL_law_43 10 rfl rfl)
theorem dL_law_1151 : decode cL_law 1151 = .ok (.iload 4, 2) := dk_21 4 (dk_at dksL_law_43 11 rfl rfl)
theorem dL_law_1153 : decode cL_law 1153 = .ok (.iconst 1, 1) := dk_4 (dk_at dksL_law_43 13 rfl rfl)
theorem dL_law_1154 : decode cL_law 1154 = .ok (.iadd, 1) := dk_96 (dk_at dksL_law_43 14 rfl rfl)
theorem dL_law_1155 : decode cL_law 1155 = .ok (.iaload, 1) := dk_46 (dk_at dksL_law_43 15 rfl rfl)
theorem dL_law_1156 : decode cL_law 1156 = .ok (.invokevirtual 160, 3) := dk_182 0 160 (dk_at dksL_law_43 16 rfl rfl)
theorem dL_law_1159 : decode cL_law 1159 = .ok (.if_icmp .eq 80, 3) := dk_159 0 80 (dk_at dksL_law_43 19 rfl rfl)
theorem dL_law_1162 : decode cL_law 1162 = .ok (.iconst 0, 1) := dk_3 (dk_at dksL_law_43 22 rfl rfl)
theorem dL_law_1163 : decode cL_law 1163 = .ok (.ireturn, 1) := dk_172 (dk_at dksL_law_43 23 rfl rfl)
theorem dL_law_1164 : decode cL_law 1164 = .ok (.aload_n 1, 1) := dk_43 (dk_at dksL_law_44 0 rfl rfl)
theorem dL_law_1165 : decode cL_law 1165 = .ok (.aload_n 0, 1) := dk_42 (dk_at dksL_law_44 1 rfl rfl)
theorem dL_law_1166 : decode cL_law 1166 = .ok (.iload 4, 2) := dk_21 4 (dk_at dksL_law_44 2 rfl rfl)
theorem dL_law_1168 : decode cL_law 1168 = .ok (.iconst 1, 1) := dk_4 (dk_at dksL_law_44 4 rfl rfl)
theorem dL_law_1169 : decode cL_law 1169 = .ok (.iadd, 1) := dk_96 (dk_at dksL_law_44 5 rfl rfl)
theorem dL_law_1170 : decode cL_law 1170 = .ok (.iaload, 1) := dk_46 (dk_at dksL_law_44 6 rfl rfl)
theorem dL_law_1171 : decode cL_law 1171 = .ok (.invokevirtual 161, 3) := dk_182 0 161 (dk_at dksL_law_44 7 rfl rfl)
theorem dL_law_1174 : decode cL_law 1174 = .ok (.aload_n 2, 1) := dk_44 (dk_at dksL_law_44 10 rfl rfl)
theorem dL_law_1175 : decode cL_law 1175 = .ok (.aload_n 0, 1) := dk_42 (dk_at dksL_law_44 11 rfl rfl)
theorem dL_law_1176 : decode cL_law 1176 = .ok (.iload 4, 2) := dk_21 4 (dk_at dksL_law_44 12 rfl rfl)
theorem dL_law_1178 : decode cL_law 1178 = .ok (.iconst 1, 1) := dk_4 (dk_at dksL_law_44 14 rfl rfl)
theorem dL_law_1179 : decode cL_law 1179 = .ok (.iadd, 1) := dk_96 (dk_at dksL_law_44 15 rfl rfl)
theorem dL_law_1180 : decode cL_law 1180 = .ok (.iaload, 1) := dk_46 (dk_at dksL_law_44 16 rfl rfl)
theorem dL_law_1181 : decode cL_law 1181 = .ok (.invokevirtual 164, 3) := dk_182 0 164 (dk_at dksL_law_44 17 rfl rfl)
theorem dL_law_1184 : decode cL_law 1184 = .ok (.if_icmp .eq 55, 3) := dk_159 0 55 (dk_at dksL_law_44 20 rfl rfl)
theorem dL_law_1187 : decode cL_law 1187 = .ok (.iconst 0, 1) := dk_3 (dk_at dksL_law_44 23 rfl rfl)
theorem dL_law_1188 : decode cL_law 1188 = .ok (.ireturn, 1) := dk_172 (dk_at dksL_law_45 0 rfl rfl)
theorem dL_law_1189 : decode cL_law 1189 = .ok (.aload_n 1, 1) := dk_43 (dk_at dksL_law_45 1 rfl rfl)
theorem dL_law_1190 : decode cL_law 1190 = .ok (.aload_n 0, 1) := dk_42 (dk_at dksL_law_45 2 rfl rfl)
theorem dL_law_1191 : decode cL_law 1191 = .ok (.iload 4, 2) := dk_21 4 (dk_at dksL_law_45 3 rfl rfl)
theorem dL_law_1193 : decode cL_law 1193 = .ok (.iconst 1, 1) := dk_4 (dk_at dksL_law_45 5 rfl rfl)
theorem dL_law_1194 : decode cL_law 1194 = .ok (.iadd, 1) := dk_96 (dk_at dksL_law_45 6 rfl rfl)
theorem dL_law_1195 : decode cL_law 1195 = .ok (.iaload, 1) := dk_46 (dk_at dksL_law_45 7 rfl rfl)
theorem dL_law_1196 : decode cL_law 1196 = .ok (.invokevirtual 165, 3) := dk_182 0 165 (dk_at dksL_law_45 8 rfl rfl)
theorem dL_law_1199 : decode cL_law 1199 = .ok (.aload_n 2, 1) := dk_44 (dk_at dksL_law_45 11 rfl rfl)
theorem dL_law_1200 : decode cL_law 1200 = .ok (.aload_n 0, 1) := dk_42 (dk_at dksL_law_45 12 rfl rfl)
theorem dL_law_1201 : decode cL_law 1201 = .ok (.iload 4, 2) := dk_21 4 (dk_at dksL_law_45 13 rfl rfl)
theorem dL_law_1203 : decode cL_law 1203 = .ok (.iconst 1, 1) := dk_4 (dk_at dksL_law_45 15 rfl rfl)
theorem dL_law_1204 : decode cL_law 1204 = .ok (.iadd, 1) := dk_96 (dk_at dksL_law_45 16 rfl rfl)
theorem dL_law_1205 : decode cL_law 1205 = .ok (.iaload, 1) := dk_46 (dk_at dksL_law_45 17 rfl rfl)
theorem dL_law_1206 : decode cL_law 1206 = .ok (.invokevirtual 168, 3) := dk_182 0 168 (dk_at dksL_law_45 18 rfl rfl)
theorem dL_law_1209 : decode cL_law 1209 = .ok (.if_icmp .eq 30, 3) := dk_159 0 30 (dk_at dksL_law_45 21 rfl rfl)
theorem dL_law_1212 : decode cL_law 1212 = .ok (.iconst 0, 1) := dk_3 (dk_at dksL_law_46 0 rfl rfl)
theorem dL_law_1213 : decode cL_law 1213 = .ok (.ireturn, 1) := dk_172 (dk_at dksL_law_46 1 rfl rfl)
theorem dL_law_1214 : decode cL_law 1214 = .ok (.aload_n 1, 1) := dk_43 (dk_at dksL_law_46 2 rfl rfl)
theorem dL_law_1215 : decode cL_law 1215 = .ok (.aload_n 0, 1) := dk_42 (dk_at dksL_law_46 3 rfl rfl)
theorem dL_law_1216 : decode cL_law 1216 = .ok (.iload 4, 2) := dk_21 4 (dk_at dksL_law_46 4 rfl rfl)
theorem dL_law_1218 : decode cL_law 1218 = .ok (.iconst 1, 1) := dk_4 (dk_at dksL_law_46 6 rfl rfl)
theorem dL_law_1219 : decode cL_law 1219 = .ok (.iadd, 1) := dk_96 (dk_at dksL_law_46 7 rfl rfl)
theorem dL_law_1220 : decode cL_law 1220 = .ok (.iaload, 1) := dk_46 (dk_at dksL_law_46 8 rfl rfl)
theorem dL_law_1221 : decode cL_law 1221 = .ok (.invokevirtual 169, 3) := dk_182 0 169 (dk_at dksL_law_46 9 rfl rfl)
theorem dL_law_1224 : decode cL_law 1224 = .ok (.aload_n 2, 1) := dk_44 (dk_at dksL_law_46 12 rfl rfl)
theorem dL_law_1225 : decode cL_law 1225 = .ok (.aload_n 0, 1) := dk_42 (dk_at dksL_law_46 13 rfl rfl)
theorem dL_law_1226 : decode cL_law 1226 = .ok (.iload 4, 2) := dk_21 4 (dk_at dksL_law_46 14 rfl rfl)
theorem dL_law_1228 : decode cL_law 1228 = .ok (.iconst 1, 1) := dk_4 (dk_at dksL_law_46 16 rfl rfl)
theorem dL_law_1229 : decode cL_law 1229 = .ok (.iadd, 1) := dk_96 (dk_at dksL_law_46 17 rfl rfl)
theorem dL_law_1230 : decode cL_law 1230 = .ok (.iaload, 1) := dk_46 (dk_at dksL_law_46 18 rfl rfl)
theorem dL_law_1231 : decode cL_law 1231 = .ok (.invokevirtual 172, 3) := dk_182 0 172 (dk_at dksL_law_46 19 rfl rfl)
theorem dL_law_1234 : decode cL_law 1234 = .ok (.if_icmp .eq 5, 3) := dk_159 0 5 (dk_at dksL_law_47 0 rfl rfl)
theorem dL_law_1237 : decode cL_law 1237 = .ok (.iconst 0, 1) := dk_3 (dk_at dksL_law_47 3 rfl rfl)
theorem dL_law_1238 : decode cL_law 1238 = .ok (.ireturn, 1) := dk_172 (dk_at dksL_law_47 4 rfl rfl)
theorem dL_law_1239 : decode cL_law 1239 = .ok (.iinc 4 6, 3) := dk_132 4 6 (dk_at dksL_law_47 5 rfl rfl)
theorem dL_law_1242 : decode cL_law 1242 = .ok (.goto (-1219), 3) := dk_167 251 61 (dk_at dksL_law_47 8 rfl rfl)
theorem dL_law_1245 : decode cL_law 1245 = .ok (.iconst 1, 1) := dk_4 (dk_at dksL_law_47 11 rfl rfl)
theorem dL_law_1246 : decode cL_law 1246 = .ok (.ireturn, 1) := dk_172 (dk_at dksL_law_47 12 rfl rfl)

