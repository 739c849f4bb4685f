set_option maxRecDepth 100000
abbrev cJ18_init : ByteArray := object_method_1_code
def yJ18_init : MethodName := ⟨RJ18, "<init>", "()V"⟩
theorem dJ18_init_0 : decode cJ18_init 0 = .ok (.return_, 1) := by decide +kernel
abbrev cX5_thrown : ByteArray := prog_26_method_1_code
def yX5_thrown : MethodName := ⟨RX5, "thrown", "()I"⟩
theorem dX5_thrown_0 : decode cX5_thrown 0 = .ok (.aload_n 0, 1) := by decide +kernel
theorem dX5_thrown_1 : decode cX5_thrown 1 = .ok (.getfield 1, 3) := by decide +kernel
theorem dX5_thrown_4 : decode cX5_thrown 4 = .ok (.ireturn, 1) := by decide +kernel
abbrev cX5_feed : ByteArray := prog_26_method_3_code
def yX5_feed : MethodName := ⟨RX5, "feed", "(IIIII)I"⟩
def dkwX5_feed_2 : List UInt8 := [182, 0, 10, 42, 180, 0, 7, 172]
abbrev dktX5_feed_2 : List UInt8 := dkwX5_feed_2 ++ []
def dkwX5_feed_1 : List UInt8 := [182, 0, 10, 42, 28, 182, 0, 10, 42, 29, 182, 0, 10, 42, 21, 4, 182, 0, 10, 42, 21, 5]
abbrev dktX5_feed_1 : List UInt8 := dkwX5_feed_1 ++ dktX5_feed_2
def dkwX5_feed_0 : List UInt8 := [42, 3, 181, 0, 1, 42, 180, 0, 7, 16, 20, 96, 17, 3, 172, 164, 0, 5, 2, 172, 42, 27]
abbrev dktX5_feed_0 : List UInt8 := dkwX5_feed_0 ++ dktX5_feed_1
theorem dksX5_feed_0 : cX5_feed.data.toList.drop 0 = dktX5_feed_0 := by decide +kernel
theorem dksX5_feed_1 : cX5_feed.data.toList.drop 22 = dktX5_feed_1 := dk_seg dksX5_feed_0 22 rfl rfl
theorem dksX5_feed_2 : cX5_feed.data.toList.drop 44 = dktX5_feed_2 := dk_seg dksX5_feed_1 22 rfl rfl
theorem dX5_feed_0 : decode cX5_feed 0 = .ok (.aload_n 0, 1) := dk_42 (dk_at dksX5_feed_0 0 rfl rfl)
theorem dX5_feed_1 : decode cX5_feed 1 = .ok (.iconst 0, 1) := dk_3 (dk_at dksX5_feed_0 1 rfl rfl)
theorem dX5_feed_2 : decode cX5_feed 2 = .ok (.putfield 1, 3) := dk_181 0 1 (dk_at dksX5_feed_0 2 rfl rfl)
theorem dX5_feed_5 : decode cX5_feed 5 = .ok (.aload_n 0, 1) := dk_42 (dk_at dksX5_feed_0 5 rfl rfl)
theorem dX5_feed_6 : decode cX5_feed 6 = .ok (.getfield 7, 3) := dk_180 0 7 (dk_at dksX5_feed_0 6 rfl rfl)
theorem dX5_feed_9 : decode cX5_feed 9 = .ok (.bipush 20, 2) := dk_16 20 (dk_at dksX5_feed_0 9 rfl rfl)
theorem dX5_feed_11 : decode cX5_feed 11 = .ok (.iadd, 1) := dk_96 (dk_at dksX5_feed_0 11 rfl rfl)
theorem dX5_feed_12 : decode cX5_feed 12 = .ok (.sipush 940, 3) := dk_17 3 172 (dk_at dksX5_feed_0 12 rfl rfl)
theorem dX5_feed_15 : decode cX5_feed 15 = .ok (.if_icmp .le 5, 3) := dk_164 0 5 (dk_at dksX5_feed_0 15 rfl rfl)
theorem dX5_feed_18 : decode cX5_feed 18 = .ok (.iconst (-1), 1) := dk_2 (dk_at dksX5_feed_0 18 rfl rfl)
theorem dX5_feed_19 : decode cX5_feed 19 = .ok (.ireturn, 1) := dk_172 (dk_at dksX5_feed_0 19 rfl rfl)
theorem dX5_feed_20 : decode cX5_feed 20 = .ok (.aload_n 0, 1) := dk_42 (dk_at dksX5_feed_0 20 rfl rfl)
theorem dX5_feed_21 : decode cX5_feed 21 = .ok (.iload_n 1, 1) := dk_27 (dk_at dksX5_feed_0 21 rfl rfl)
theorem dX5_feed_22 : decode cX5_feed 22 = .ok (.invokevirtual 10, 3) := dk_182 0 10 (dk_at dksX5_feed_1 0 rfl rfl)
theorem dX5_feed_25 : decode cX5_feed 25 = .ok (.aload_n 0, 1) := dk_42 (dk_at dksX5_feed_1 3 rfl rfl)
theorem dX5_feed_26 : decode cX5_feed 26 = .ok (.iload_n 2, 1) := dk_28 (dk_at dksX5_feed_1 4 rfl rfl)
theorem dX5_feed_27 : decode cX5_feed 27 = .ok (.invokevirtual 10, 3) := dk_182 0 10 (dk_at dksX5_feed_1 5 rfl rfl)
theorem dX5_feed_30 : decode cX5_feed 30 = .ok (.aload_n 0, 1) := dk_42 (dk_at dksX5_feed_1 8 rfl rfl)
theorem dX5_feed_31 : decode cX5_feed 31 = .ok (.iload_n 3, 1) := dk_29 (dk_at dksX5_feed_1 9 rfl rfl)
theorem dX5_feed_32 : decode cX5_feed 32 = .ok (.invokevirtual 10, 3) := dk_182 0 10 (dk_at dksX5_feed_1 10 rfl rfl)
theorem dX5_feed_35 : decode cX5_feed 35 = .ok (.aload_n 0, 1) := dk_42 (dk_at dksX5_feed_1 13 rfl rfl)
theorem dX5_feed_36 : decode cX5_feed 36 = .ok (.iload 4, 2) := dk_21 4 (dk_at dksX5_feed_1 14 rfl rfl)
theorem dX5_feed_38 : decode cX5_feed 38 = .ok (.invokevirtual 10, 3) := dk_182 0 10 (dk_at dksX5_feed_1 16 rfl rfl)
theorem dX5_feed_41 : decode cX5_feed 41 = .ok (.aload_n 0, 1) := dk_42 (dk_at dksX5_feed_1 19 rfl rfl)
theorem dX5_feed_42 : decode cX5_feed 42 = .ok (.iload 5, 2) := dk_21 5 (dk_at dksX5_feed_1 20 rfl rfl)
theorem dX5_feed_44 : decode cX5_feed 44 = .ok (.invokevirtual 10, 3) := dk_182 0 10 (dk_at dksX5_feed_2 0 rfl rfl)
theorem dX5_feed_47 : decode cX5_feed 47 = .ok (.aload_n 0, 1) := dk_42 (dk_at dksX5_feed_2 3 rfl rfl)
theorem dX5_feed_48 : decode cX5_feed 48 = .ok (.getfield 7, 3) := dk_180 0 7 (dk_at dksX5_feed_2 4 rfl rfl)
theorem dX5_feed_51 : decode cX5_feed 51 = .ok (.ireturn, 1) := dk_172 (dk_at dksX5_feed_2 7 rfl rfl)
abbrev cX5_four : ByteArray := prog_26_method_4_code
def yX5_four : MethodName := ⟨RX5, "four", "(I)V"⟩
def dkwX5_four_1 : List UInt8 := [180, 0, 7, 4, 96, 181, 0, 7, 132, 2, 248, 167, 255, 226, 177]
abbrev dktX5_four_1 : List UInt8 := dkwX5_four_1 ++ []
def dkwX5_four_0 : List UInt8 := [16, 24, 61, 28, 155, 0, 32, 42, 180, 0, 14, 42, 180, 0, 7, 27, 28, 122, 145, 84, 42, 89]
abbrev dktX5_four_0 : List UInt8 := dkwX5_four_0 ++ dktX5_four_1
theorem dksX5_four_0 : cX5_four.data.toList.drop 0 = dktX5_four_0 := by decide +kernel
theorem dksX5_four_1 : cX5_four.data.toList.drop 22 = dktX5_four_1 := dk_seg dksX5_four_0 22 rfl rfl
theorem dX5_four_0 : decode cX5_four 0 = .ok (.bipush 24, 2) := dk_16 24 (dk_at dksX5_four_0 0 rfl rfl)
theorem dX5_four_2 : decode cX5_four 2 = .ok (.istore_n 2, 1) := dk_61 (dk_at dksX5_four_0 2 rfl rfl)
theorem dX5_four_3 : decode cX5_four 3 = .ok (.iload_n 2, 1) := dk_28 (dk_at dksX5_four_0 3 rfl rfl)
theorem dX5_four_4 : decode cX5_four 4 = .ok (.ifCond .lt 32, 3) := dk_155 0 32 (dk_at dksX5_four_0 4 rfl rfl)
theorem dX5_four_7 : decode cX5_four 7 = .ok (.aload_n 0, 1) := dk_42 (dk_at dksX5_four_0 7 rfl rfl)
theorem dX5_four_8 : decode cX5_four 8 = .ok (.getfield 14, 3) := dk_180 0 14 (dk_at dksX5_four_0 8 rfl rfl)
theorem dX5_four_11 : decode cX5_four 11 = .ok (.aload_n 0, 1) := dk_42 (dk_at dksX5_four_0 11 rfl rfl)
theorem dX5_four_12 : decode cX5_four 12 = .ok (.getfield 7, 3) := dk_180 0 7 (dk_at dksX5_four_0 12 rfl rfl)
theorem dX5_four_15 : decode cX5_four 15 = .ok (.iload_n 1, 1) := dk_27 (dk_at dksX5_four_0 15 rfl rfl)
theorem dX5_four_16 : decode cX5_four 16 = .ok (.iload_n 2, 1) := dk_28 (dk_at dksX5_four_0 16 rfl rfl)
theorem dX5_four_17 : decode cX5_four 17 = .ok (.ishr, 1) := dk_122 (dk_at dksX5_four_0 17 rfl rfl)
theorem dX5_four_18 : decode cX5_four 18 = .ok (.i2b, 1) := dk_145 (dk_at dksX5_four_0 18 rfl rfl)
theorem dX5_four_19 : decode cX5_four 19 = .ok (.bastore, 1) := dk_84 (dk_at dksX5_four_0 19 rfl rfl)
theorem dX5_four_20 : decode cX5_four 20 = .ok (.aload_n 0, 1) := dk_42 (dk_at dksX5_four_0 20 rfl rfl)
theorem dX5_four_21 : decode cX5_four 21 = .ok (.dup, 1) := dk_89 (dk_at dksX5_four_0 21 rfl rfl)
theorem dX5_four_22 : decode cX5_four 22 = .ok (.getfield 7, 3) := dk_180 0 7 (dk_at dksX5_four_1 0 rfl rfl)
theorem dX5_four_25 : decode cX5_four 25 = .ok (.iconst 1, 1) := dk_4 (dk_at dksX5_four_1 3 rfl rfl)
theorem dX5_four_26 : decode cX5_four 26 = .ok (.iadd, 1) := dk_96 (dk_at dksX5_four_1 4 rfl rfl)
theorem dX5_four_27 : decode cX5_four 27 = .ok (.putfield 7, 3) := dk_181 0 7 (dk_at dksX5_four_1 5 rfl rfl)
theorem dX5_four_30 : decode cX5_four 30 = .ok (.iinc 2 (-8), 3) := dk_132 2 248 (dk_at dksX5_four_1 8 rfl rfl)
theorem dX5_four_33 : decode cX5_four 33 = .ok (.goto (-30), 3) := dk_167 255 226 (dk_at dksX5_four_1 11 rfl rfl)
theorem dX5_four_36 : decode cX5_four 36 = .ok (.return_, 1) := dk_177 (dk_at dksX5_four_1 14 rfl rfl)
abbrev cX5_end : ByteArray := prog_26_method_5_code
def yX5_end : MethodName := ⟨RX5, "end", "(I)Z"⟩
def dkwX5_end_1 : List UInt8 := [4, 172]
abbrev dktX5_end_1 : List UInt8 := dkwX5_end_1 ++ []
def dkwX5_end_0 : List UInt8 := [42, 3, 181, 0, 1, 27, 155, 0, 11, 27, 42, 180, 0, 7, 164, 0, 5, 3, 172, 42, 27, 181, 0, 7]
abbrev dktX5_end_0 : List UInt8 := dkwX5_end_0 ++ dktX5_end_1
theorem dksX5_end_0 : cX5_end.data.toList.drop 0 = dktX5_end_0 := by decide +kernel
theorem dksX5_end_1 : cX5_end.data.toList.drop 24 = dktX5_end_1 := dk_seg dksX5_end_0 24 rfl rfl
theorem dX5_end_0 : decode cX5_end 0 = .ok (.aload_n 0, 1) := dk_42 (dk_at dksX5_end_0 0 rfl rfl)
theorem dX5_end_1 : decode cX5_end 1 = .ok (.iconst 0, 1) := dk_3 (dk_at dksX5_end_0 1 rfl rfl)
theorem dX5_end_2 : decode cX5_end 2 = .ok (.putfield 1, 3) := dk_181 0 1 (dk_at dksX5_end_0 2 rfl rfl)
theorem dX5_end_5 : decode cX5_end 5 = .ok (.iload_n 1, 1) := dk_27 (dk_at dksX5_end_0 5 rfl rfl)
theorem dX5_end_6 : decode cX5_end 6 = .ok (.ifCond .lt 11, 3) := dk_155 0 11 (dk_at dksX5_end_0 6 rfl rfl)
theorem dX5_end_9 : decode cX5_end 9 = .ok (.iload_n 1, 1) := dk_27 (dk_at dksX5_end_0 9 rfl rfl)
theorem dX5_end_10 : decode cX5_end 10 = .ok (.aload_n 0, 1) := dk_42 (dk_at dksX5_end_0 10 rfl rfl)
theorem dX5_end_11 : decode cX5_end 11 = .ok (.getfield 7, 3) := dk_180 0 7 (dk_at dksX5_end_0 11 rfl rfl)
theorem dX5_end_14 : decode cX5_end 14 = .ok (.if_icmp .le 5, 3) := dk_164 0 5 (dk_at dksX5_end_0 14 rfl rfl)
theorem dX5_end_17 : decode cX5_end 17 = .ok (.iconst 0, 1) := dk_3 (dk_at dksX5_end_0 17 rfl rfl)
theorem dX5_end_18 : decode cX5_end 18 = .ok (.ireturn, 1) := dk_172 (dk_at dksX5_end_0 18 rfl rfl)
theorem dX5_end_19 : decode cX5_end 19 = .ok (.aload_n 0, 1) := dk_42 (dk_at dksX5_end_0 19 rfl rfl)
theorem dX5_end_20 : decode cX5_end 20 = .ok (.iload_n 1, 1) := dk_27 (dk_at dksX5_end_0 20 rfl rfl)
theorem dX5_end_21 : decode cX5_end 21 = .ok (.putfield 7, 3) := dk_181 0 7 (dk_at dksX5_end_0 21 rfl rfl)
theorem dX5_end_24 : decode cX5_end 24 = .ok (.iconst 1, 1) := dk_4 (dk_at dksX5_end_1 0 rfl rfl)
theorem dX5_end_25 : decode cX5_end 25 = .ok (.ireturn, 1) := dk_172 (dk_at dksX5_end_1 1 rfl rfl)
abbrev cX5_init : ByteArray := prog_26_method_13_code
def yX5_init : MethodName := ⟨RX5, "<init>", "()V"⟩
def dkwX5_init_19 : List UInt8 := [42, 180, 0, 33, 17, 0, 135, 4, 79, 177]
abbrev dktX5_init_19 : List UInt8 := dkwX5_init_19 ++ []
def dkwX5_init_18 : List UInt8 := [17, 0, 131, 162, 0, 21, 42, 180, 0, 33, 27, 42, 180, 0, 37, 27, 46, 79, 132, 1, 1, 167, 255, 234]
abbrev dktX5_init_18 : List UInt8 := dkwX5_init_18 ++ dktX5_init_19
def dkwX5_init_17 : List UInt8 := [16, 22, 20, 0, 140, 80, 42, 180, 0, 47, 16, 23, 20, 0, 142, 80, 42, 182, 0, 144, 3, 60, 27]
abbrev dktX5_init_17 : List UInt8 := dkwX5_init_17 ++ dktX5_init_18
def dkwX5_init_16 : List UInt8 := [42, 180, 0, 47, 16, 20, 20, 0, 136, 80, 42, 180, 0, 47, 16, 21, 20, 0, 138, 80, 42, 180, 0, 47]
abbrev dktX5_init_16 : List UInt8 := dkwX5_init_16 ++ dktX5_init_17
def dkwX5_init_15 : List UInt8 := [20, 0, 130, 80, 42, 180, 0, 47, 16, 18, 20, 0, 132, 80, 42, 180, 0, 47, 16, 19, 20, 0, 134, 80]
abbrev dktX5_init_15 : List UInt8 := dkwX5_init_15 ++ dktX5_init_16
def dkwX5_init_14 : List UInt8 := [16, 15, 20, 0, 126, 80, 42, 180, 0, 47, 16, 16, 20, 0, 128, 80, 42, 180, 0, 47, 16, 17]
abbrev dktX5_init_14 : List UInt8 := dkwX5_init_14 ++ dktX5_init_15
def dkwX5_init_13 : List UInt8 := [42, 180, 0, 47, 16, 13, 20, 0, 122, 80, 42, 180, 0, 47, 16, 14, 20, 0, 124, 80, 42, 180, 0, 47]
abbrev dktX5_init_13 : List UInt8 := dkwX5_init_13 ++ dktX5_init_14
def dkwX5_init_12 : List UInt8 := [20, 0, 116, 80, 42, 180, 0, 47, 16, 11, 20, 0, 118, 80, 42, 180, 0, 47, 16, 12, 20, 0, 120, 80]
abbrev dktX5_init_12 : List UInt8 := dkwX5_init_12 ++ dktX5_init_13
def dkwX5_init_11 : List UInt8 := [16, 8, 20, 0, 112, 80, 42, 180, 0, 47, 16, 9, 20, 0, 114, 80, 42, 180, 0, 47, 16, 10]
abbrev dktX5_init_11 : List UInt8 := dkwX5_init_11 ++ dktX5_init_12
def dkwX5_init_10 : List UInt8 := [180, 0, 47, 16, 6, 20, 0, 108, 80, 42, 180, 0, 47, 16, 7, 20, 0, 110, 80, 42, 180, 0, 47]
abbrev dktX5_init_10 : List UInt8 := dkwX5_init_10 ++ dktX5_init_11
def dkwX5_init_9 : List UInt8 := [20, 0, 102, 80, 42, 180, 0, 47, 7, 20, 0, 104, 80, 42, 180, 0, 47, 8, 20, 0, 106, 80, 42]
abbrev dktX5_init_9 : List UInt8 := dkwX5_init_9 ++ dktX5_init_10
def dkwX5_init_8 : List UInt8 := [180, 0, 47, 4, 20, 0, 98, 80, 42, 180, 0, 47, 5, 20, 0, 100, 80, 42, 180, 0, 47, 6]
abbrev dktX5_init_8 : List UInt8 := dkwX5_init_8 ++ dktX5_init_9
def dkwX5_init_7 : List UInt8 := [188, 11, 181, 0, 90, 42, 5, 188, 4, 181, 0, 93, 42, 180, 0, 47, 3, 20, 0, 96, 80, 42]
abbrev dktX5_init_7 : List UInt8 := dkwX5_init_7 ++ dktX5_init_8
def dkwX5_init_6 : List UInt8 := [181, 0, 80, 42, 16, 45, 188, 4, 181, 0, 83, 42, 17, 3, 146, 188, 10, 181, 0, 87, 42, 16, 24]
abbrev dktX5_init_6 : List UInt8 := dkwX5_init_6 ++ dktX5_init_7
def dkwX5_init_5 : List UInt8 := [2, 181, 0, 71, 42, 16, 80, 188, 8, 181, 0, 74, 42, 7, 188, 10, 181, 0, 77, 42, 16, 45, 188, 10]
abbrev dktX5_init_5 : List UInt8 := dkwX5_init_5 ++ dktX5_init_6
def dkwX5_init_4 : List UInt8 := [16, 16, 188, 10, 181, 0, 62, 42, 16, 7, 188, 10, 181, 0, 65, 42, 16, 7, 188, 10, 181, 0, 68, 42]
abbrev dktX5_init_4 : List UInt8 := dkwX5_init_4 ++ dktX5_init_5
def dkwX5_init_3 : List UInt8 := [188, 10, 181, 0, 53, 42, 17, 1, 0, 188, 10, 181, 0, 56, 42, 16, 16, 188, 10, 181, 0, 59, 42]
abbrev dktX5_init_3 : List UInt8 := dkwX5_init_3 ++ dktX5_init_4
def dkwX5_init_2 : List UInt8 := [181, 0, 43, 42, 16, 24, 188, 11, 181, 0, 47, 42, 17, 4, 136, 188, 10, 181, 0, 50, 42, 17, 0, 145]
abbrev dktX5_init_2 : List UInt8 := dkwX5_init_2 ++ dktX5_init_3
def dkwX5_init_1 : List UInt8 := [17, 0, 131, 188, 10, 181, 0, 37, 42, 17, 0, 160, 188, 10, 181, 0, 40, 42, 16, 24, 188, 11]
abbrev dktX5_init_1 : List UInt8 := dkwX5_init_1 ++ dktX5_init_2
def dkwX5_init_0 : List UInt8 := [42, 183, 0, 27, 42, 17, 3, 172, 188, 8, 181, 0, 14, 42, 17, 1, 201, 188, 10, 181, 0, 33, 42]
abbrev dktX5_init_0 : List UInt8 := dkwX5_init_0 ++ dktX5_init_1
theorem dksX5_init_0 : cX5_init.data.toList.drop 0 = dktX5_init_0 := by decide +kernel
theorem dksX5_init_1 : cX5_init.data.toList.drop 23 = dktX5_init_1 := dk_seg dksX5_init_0 23 rfl rfl
theorem dksX5_init_2 : cX5_init.data.toList.drop 45 = dktX5_init_2 := dk_seg dksX5_init_1 22 rfl rfl
theorem dksX5_init_3 : cX5_init.data.toList.drop 69 = dktX5_init_3 := dk_seg dksX5_init_2 24 rfl rfl
theorem dksX5_init_4 : cX5_init.data.toList.drop 92 = dktX5_init_4 := dk_seg dksX5_init_3 23 rfl rfl
theorem dksX5_init_5 : cX5_init.data.toList.drop 116 = dktX5_init_5 := dk_seg dksX5_init_4 24 rfl rfl
theorem dksX5_init_6 : cX5_init.data.toList.drop 140 = dktX5_init_6 := dk_seg dksX5_init_5 24 rfl rfl
theorem dksX5_init_7 : cX5_init.data.toList.drop 163 = dktX5_init_7 := dk_seg dksX5_init_6 23 rfl rfl
theorem dksX5_init_8 : cX5_init.data.toList.drop 185 = dktX5_init_8 := dk_seg dksX5_init_7 22 rfl rfl
theorem dksX5_init_9 : cX5_init.data.toList.drop 207 = dktX5_init_9 := dk_seg dksX5_init_8 22 rfl rfl
theorem dksX5_init_10 : cX5_init.data.toList.drop 230 = dktX5_init_10 := dk_seg dksX5_init_9 23 rfl rfl
theorem dksX5_init_11 : cX5_init.data.toList.drop 253 = dktX5_init_11 := dk_seg dksX5_init_10 23 rfl rfl
theorem dksX5_init_12 : cX5_init.data.toList.drop 275 = dktX5_init_12 := dk_seg dksX5_init_11 22 rfl rfl
theorem dksX5_init_13 : cX5_init.data.toList.drop 299 = dktX5_init_13 := dk_seg dksX5_init_12 24 rfl rfl
theorem dksX5_init_14 : cX5_init.data.toList.drop 323 = dktX5_init_14 := dk_seg dksX5_init_13 24 rfl rfl
theorem dksX5_init_15 : cX5_init.data.toList.drop 345 = dktX5_init_15 := dk_seg dksX5_init_14 22 rfl rfl
theorem dksX5_init_16 : cX5_init.data.toList.drop 369 = dktX5_init_16 := dk_seg dksX5_init_15 24 rfl rfl
theorem dksX5_init_17 : cX5_init.data.toList.drop 393 = dktX5_init_17 := dk_seg dksX5_init_16 24 rfl rfl
theorem dksX5_init_18 : cX5_init.data.toList.drop 416 = dktX5_init_18 := dk_seg dksX5_init_17 23 rfl rfl
theorem dksX5_init_19 : cX5_init.data.toList.drop 440 = dktX5_init_19 := dk_seg dksX5_init_18 24 rfl rfl
theorem dX5_init_0 : decode cX5_init 0 = .ok (.aload_n 0, 1) := dk_42 (dk_at dksX5_init_0 0 rfl rfl)
theorem dX5_init_1 : decode cX5_init 1 = .ok (.invokespecial 27, 3) := dk_183 0 27 (dk_at dksX5_init_0 1 rfl rfl)
theorem dX5_init_4 : decode cX5_init 4 = .ok (.aload_n 0, 1) := dk_42 (dk_at dksX5_init_0 4 rfl rfl)
theorem dX5_init_5 : decode cX5_init 5 = .ok (.sipush 940, 3) := dk_17 3 172 (dk_at dksX5_init_0 5 rfl rfl)
theorem dX5_init_8 : decode cX5_init 8 = .ok (.newarray .byte, 2) := dk_188_8 (dk_at dksX5_init_0 8 rfl rfl)
theorem dX5_init_10 : decode cX5_init 10 = .ok (.putfield 14, 3) := dk_181 0 14 (dk_at dksX5_init_0 10 rfl rfl)
theorem dX5_init_13 : decode cX5_init 13 = .ok (.aload_n 0, 1) := dk_42 (dk_at dksX5_init_0 13 rfl rfl)
theorem dX5_init_14 : decode cX5_init 14 = .ok (.sipush 457, 3) := dk_17 1 201 (dk_at dksX5_init_0 14 rfl rfl)
theorem dX5_init_17 : decode cX5_init 17 = .ok (.newarray .int, 2) := dk_188_10 (dk_at dksX5_init_0 17 rfl rfl)
theorem dX5_init_19 : decode cX5_init 19 = .ok (.putfield 33, 3) := dk_181 0 33 (dk_at dksX5_init_0 19 rfl rfl)
theorem dX5_init_22 : decode cX5_init 22 = .ok (.aload_n 0, 1) := dk_42 (dk_at dksX5_init_0 22 rfl rfl)
theorem dX5_init_23 : decode cX5_init 23 = .ok (.sipush 131, 3) := dk_17 0 131 (dk_at dksX5_init_1 0 rfl rfl)
theorem dX5_init_26 : decode cX5_init 26 = .ok (.newarray .int, 2) := dk_188_10 (dk_at dksX5_init_1 3 rfl rfl)
theorem dX5_init_28 : decode cX5_init 28 = .ok (.putfield 37, 3) := dk_181 0 37 (dk_at dksX5_init_1 5 rfl rfl)
theorem dX5_init_31 : decode cX5_init 31 = .ok (.aload_n 0, 1) := dk_42 (dk_at dksX5_init_1 8 rfl rfl)
theorem dX5_init_32 : decode cX5_init 32 = .ok (.sipush 160, 3) := dk_17 0 160 (dk_at dksX5_init_1 9 rfl rfl)
theorem dX5_init_35 : decode cX5_init 35 = .ok (.newarray .int, 2) := dk_188_10 (dk_at dksX5_init_1 12 rfl rfl)
theorem dX5_init_37 : decode cX5_init 37 = .ok (.putfield 40, 3) := dk_181 0 40 (dk_at dksX5_init_1 14 rfl rfl)
theorem dX5_init_40 : decode cX5_init 40 = .ok (.aload_n 0, 1) := dk_42 (dk_at dksX5_init_1 17 rfl rfl)
theorem dX5_init_41 : decode cX5_init 41 = .ok (.bipush 24, 2) := dk_16 24 (dk_at dksX5_init_1 18 rfl rfl)
theorem dX5_init_43 : decode cX5_init 43 = .ok (.newarray .long, 2) := dk_188_11 (dk_at dksX5_init_1 20 rfl rfl)
theorem dX5_init_45 : decode cX5_init 45 = .ok (.putfield 43, 3) := dk_181 0 43 (dk_at dksX5_init_2 0 rfl rfl)
theorem dX5_init_48 : decode cX5_init 48 = .ok (.aload_n 0, 1) := dk_42 (dk_at dksX5_init_2 3 rfl rfl)
theorem dX5_init_49 : decode cX5_init 49 = .ok (.bipush 24, 2) := dk_16 24 (dk_at dksX5_init_2 4 rfl rfl)
theorem dX5_init_51 : decode cX5_init 51 = .ok (.newarray .long, 2) := dk_188_11 (dk_at dksX5_init_2 6 rfl rfl)
theorem dX5_init_53 : decode cX5_init 53 = .ok (.putfield 47, 3) := dk_181 0 47 (dk_at dksX5_init_2 8 rfl rfl)
theorem dX5_init_56 : decode cX5_init 56 = .ok (.aload_n 0, 1) := dk_42 (dk_at dksX5_init_2 11 rfl rfl)
theorem dX5_init_57 : decode cX5_init 57 = .ok (.sipush 1160, 3) := dk_17 4 136 (dk_at dksX5_init_2 12 rfl rfl)
theorem dX5_init_60 : decode cX5_init 60 = .ok (.newarray .int, 2) := dk_188_10 (dk_at dksX5_init_2 15 rfl rfl)
theorem dX5_init_62 : decode cX5_init 62 = .ok (.putfield 50, 3) := dk_181 0 50 (dk_at dksX5_init_2 17 rfl rfl)
theorem dX5_init_65 : decode cX5_init 65 = .ok (.aload_n 0, 1) := dk_42 (dk_at dksX5_init_2 20 rfl rfl)
theorem dX5_init_66 : decode cX5_init 66 = .ok (.sipush 145, 3) := dk_17 0 145 (dk_at dksX5_init_2 21 rfl rfl)
theorem dX5_init_69 : decode cX5_init 69 = .ok (.newarray .int, 2) := dk_188_10 (dk_at dksX5_init_3 0 rfl rfl)
theorem dX5_init_71 : decode cX5_init 71 = .ok (.putfield 53, 3) := dk_181 0 53 (dk_at dksX5_init_3 2 rfl rfl)
theorem dX5_init_74 : decode cX5_init 74 = .ok (.aload_n 0, 1) := dk_42 (dk_at dksX5_init_3 5 rfl rfl)
theorem dX5_init_75 : decode cX5_init 75 = .ok (.sipush 256, 3) := dk_17 1 0 (dk_at dksX5_init_3 6 rfl rfl)
theorem dX5_init_78 : decode cX5_init 78 = .ok (.newarray .int, 2) := dk_188_10 (dk_at dksX5_init_3 9 rfl rfl)
theorem dX5_init_80 : decode cX5_init 80 = .ok (.putfield 56, 3) := dk_181 0 56 (dk_at dksX5_init_3 11 rfl rfl)
theorem dX5_init_83 : decode cX5_init 83 = .ok (.aload_n 0, 1) := dk_42 (dk_at dksX5_init_3 14 rfl rfl)
theorem dX5_init_84 : decode cX5_init 84 = .ok (.bipush 16, 2) := dk_16 16 (dk_at dksX5_init_3 15 rfl rfl)
theorem dX5_init_86 : decode cX5_init 86 = .ok (.newarray .int, 2) := dk_188_10 (dk_at dksX5_init_3 17 rfl rfl)
theorem dX5_init_88 : decode cX5_init 88 = .ok (.putfield 59, 3) := dk_181 0 59 (dk_at dksX5_init_3 19 rfl rfl)
theorem dX5_init_91 : decode cX5_init 91 = .ok (.aload_n 0, 1) := dk_42 (dk_at dksX5_init_3 22 rfl rfl)
theorem dX5_init_92 : decode cX5_init 92 = .ok (.bipush 16, 2) := dk_16 16 (dk_at dksX5_init_4 0 rfl rfl)
theorem dX5_init_94 : decode cX5_init 94 = .ok (.newarray .int, 2) := dk_188_10 (dk_at dksX5_init_4 2 rfl rfl)
theorem dX5_init_96 : decode cX5_init 96 = .ok (.putfield 62, 3) := dk_181 0 62 (dk_at dksX5_init_4 4 rfl rfl)
theorem dX5_init_99 : decode cX5_init 99 = .ok (.aload_n 0, 1) := dk_42 (dk_at dksX5_init_4 7 rfl rfl)
theorem dX5_init_100 : decode cX5_init 100 = .ok (.bipush 7, 2) := dk_16 7 (dk_at dksX5_init_4 8 rfl rfl)
theorem dX5_init_102 : decode cX5_init 102 = .ok (.newarray .int, 2) := dk_188_10 (dk_at dksX5_init_4 10 rfl rfl)
theorem dX5_init_104 : decode cX5_init 104 = .ok (.putfield 65, 3) := dk_181 0 65 (dk_at dksX5_init_4 12 rfl rfl)
theorem dX5_init_107 : decode cX5_init 107 = .ok (.aload_n 0, 1) := dk_42 (dk_at dksX5_init_4 15 rfl rfl)
theorem dX5_init_108 : decode cX5_init 108 = .ok (.bipush 7, 2) := dk_16 7 (dk_at dksX5_init_4 16 rfl rfl)
theorem dX5_init_110 : decode cX5_init 110 = .ok (.newarray .int, 2) := dk_188_10 (dk_at dksX5_init_4 18 rfl rfl)
theorem dX5_init_112 : decode cX5_init 112 = .ok (.putfield 68, 3) := dk_181 0 68 (dk_at dksX5_init_4 20 rfl rfl)
theorem dX5_init_115 : decode cX5_init 115 = .ok (.aload_n 0, 1) := dk_42 (dk_at dksX5_init_4 23 rfl rfl)
theorem dX5_init_116 : decode cX5_init 116 = .ok (.iconst (-1), 1) := dk_2 (dk_at dksX5_init_5 0 rfl rfl)
theorem dX5_init_117 : decode cX5_init 117 = .ok (.putfield 71, 3) := dk_181 0 71 (dk_at dksX5_init_5 1 rfl rfl)
theorem dX5_init_120 : decode cX5_init 120 = .ok (.aload_n 0, 1) := dk_42 (dk_at dksX5_init_5 4 rfl rfl)
theorem dX5_init_121 : decode cX5_init 121 = .ok (.bipush 80, 2) := dk_16 80 (dk_at dksX5_init_5 5 rfl rfl)
theorem dX5_init_123 : decode cX5_init 123 = .ok (.newarray .byte, 2) := dk_188_8 (dk_at dksX5_init_5 7 rfl rfl)
theorem dX5_init_125 : decode cX5_init 125 = .ok (.putfield 74, 3) := dk_181 0 74 (dk_at dksX5_init_5 9 rfl rfl)
theorem dX5_init_128 : decode cX5_init 128 = .ok (.aload_n 0, 1) := dk_42 (dk_at dksX5_init_5 12 rfl rfl)
theorem dX5_init_129 : decode cX5_init 129 = .ok (.iconst 4, 1) := dk_7 (dk_at dksX5_init_5 13 rfl rfl)
theorem dX5_init_130 : decode cX5_init 130 = .ok (.newarray .int, 2) := dk_188_10 (dk_at dksX5_init_5 14 rfl rfl)
theorem dX5_init_132 : decode cX5_init 132 = .ok (.putfield 77, 3) := dk_181 0 77 (dk_at dksX5_init_5 16 rfl rfl)
theorem dX5_init_135 : decode cX5_init 135 = .ok (.aload_n 0, 1) := dk_42 (dk_at dksX5_init_5 19 rfl rfl)
theorem dX5_init_136 : decode cX5_init 136 = .ok (.bipush 45, 2) := dk_16 45 (dk_at dksX5_init_5 20 rfl rfl)
theorem dX5_init_138 : decode cX5_init 138 = .ok (.newarray .int, 2) := dk_188_10 (dk_at dksX5_init_5 22 rfl rfl)
theorem dX5_init_140 : decode cX5_init 140 = .ok (.putfield 80, 3) := dk_181 0 80 (dk_at dksX5_init_6 0 rfl rfl)
theorem dX5_init_143 : decode cX5_init 143 = .ok (.aload_n 0, 1) := dk_42 (dk_at dksX5_init_6 3 rfl rfl)
theorem dX5_init_144 : decode cX5_init 144 = .ok (.bipush 45, 2) := dk_16 45 (dk_at dksX5_init_6 4 rfl rfl)
theorem dX5_init_146 : decode cX5_init 146 = .ok (.newarray .boolean, 2) := dk_188_4 (dk_at dksX5_init_6 6 rfl rfl)
theorem dX5_init_148 : decode cX5_init 148 = .ok (.putfield 83, 3) := dk_181 0 83 (dk_at dksX5_init_6 8 rfl rfl)
theorem dX5_init_151 : decode cX5_init 151 = .ok (.aload_n 0, 1) := dk_42 (dk_at dksX5_init_6 11 rfl rfl)
theorem dX5_init_152 : decode cX5_init 152 = .ok (.sipush 914, 3) := dk_17 3 146 (dk_at dksX5_init_6 12 rfl rfl)
theorem dX5_init_155 : decode cX5_init 155 = .ok (.newarray .int, 2) := dk_188_10 (dk_at dksX5_init_6 15 rfl rfl)
theorem dX5_init_157 : decode cX5_init 157 = .ok (.putfield 87, 3) := dk_181 0 87 (dk_at dksX5_init_6 17 rfl rfl)
theorem dX5_init_160 : decode cX5_init 160 = .ok (.aload_n 0, 1) := dk_42 (dk_at dksX5_init_6 20 rfl rfl)
theorem dX5_init_161 : decode cX5_init 161 = .ok (.bipush 24, 2) := dk_16 24 (dk_at dksX5_init_6 21 rfl rfl)
theorem dX5_init_163 : decode cX5_init 163 = .ok (.newarray .long, 2) := dk_188_11 (dk_at dksX5_init_7 0 rfl rfl)
theorem dX5_init_165 : decode cX5_init 165 = .ok (.putfield 90, 3) := dk_181 0 90 (dk_at dksX5_init_7 2 rfl rfl)
theorem dX5_init_168 : decode cX5_init 168 = .ok (.aload_n 0, 1) := dk_42 (dk_at dksX5_init_7 5 rfl rfl)
theorem dX5_init_169 : decode cX5_init 169 = .ok (.iconst 2, 1) := dk_5 (dk_at dksX5_init_7 6 rfl rfl)
theorem dX5_init_170 : decode cX5_init 170 = .ok (.newarray .boolean, 2) := dk_188_4 (dk_at dksX5_init_7 7 rfl rfl)
theorem dX5_init_172 : decode cX5_init 172 = .ok (.putfield 93, 3) := dk_181 0 93 (dk_at dksX5_init_7 9 rfl rfl)
theorem dX5_init_175 : decode cX5_init 175 = .ok (.aload_n 0, 1) := dk_42 (dk_at dksX5_init_7 12 rfl rfl)
theorem dX5_init_176 : decode cX5_init 176 = .ok (.getfield 47, 3) := dk_180 0 47 (dk_at dksX5_init_7 13 rfl rfl)
theorem dX5_init_179 : decode cX5_init 179 = .ok (.iconst 0, 1) := dk_3 (dk_at dksX5_init_7 16 rfl rfl)
theorem dX5_init_180 : decode cX5_init 180 = .ok (.ldc2_w 96, 3) := dk_20 0 96 (dk_at dksX5_init_7 17 rfl rfl)
theorem dX5_init_183 : decode cX5_init 183 = .ok (.lastore, 1) := dk_80 (dk_at dksX5_init_7 20 rfl rfl)
theorem dX5_init_184 : decode cX5_init 184 = .ok (.aload_n 0, 1) := dk_42 (dk_at dksX5_init_7 21 rfl rfl)
theorem dX5_init_185 : decode cX5_init 185 = .ok (.getfield 47, 3) := dk_180 0 47 (dk_at dksX5_init_8 0 rfl rfl)
theorem dX5_init_188 : decode cX5_init 188 = .ok (.iconst 1, 1) := dk_4 (dk_at dksX5_init_8 3 rfl rfl)
theorem dX5_init_189 : decode cX5_init 189 = .ok (.ldc2_w 98, 3) := dk_20 0 98 (dk_at dksX5_init_8 4 rfl rfl)
theorem dX5_init_192 : decode cX5_init 192 = .ok (.lastore, 1) := dk_80 (dk_at dksX5_init_8 7 rfl rfl)
theorem dX5_init_193 : decode cX5_init 193 = .ok (.aload_n 0, 1) := dk_42 (dk_at dksX5_init_8 8 rfl rfl)
theorem dX5_init_194 : decode cX5_init 194 = .ok (.getfield 47, 3) := dk_180 0 47 (dk_at dksX5_init_8 9 rfl rfl)
theorem dX5_init_197 : decode cX5_init 197 = .ok (.iconst 2, 1) := dk_5 (dk_at dksX5_init_8 12 rfl rfl)
theorem dX5_init_198 : decode cX5_init 198 = .ok (.ldc2_w 100, 3) := dk_20 0 100 (dk_at dksX5_init_8 13 rfl rfl)
theorem dX5_init_201 : decode cX5_init 201 = .ok (.lastore, 1) := dk_80 (dk_at dksX5_init_8 16 rfl rfl)
theorem dX5_init_202 : decode cX5_init 202 = .ok (.aload_n 0, 1) := dk_42 (dk_at dksX5_init_8 17 rfl rfl)
theorem dX5_init_203 : decode cX5_init 203 = .ok (.getfield 47, 3) := dk_180 0 47 (dk_at dksX5_init_8 18 rfl rfl)
theorem dX5_init_206 : decode cX5_init 206 = .ok (.iconst 3, 1) := dk_6 (dk_at dksX5_init_8 21 rfl rfl)
theorem dX5_init_207 : decode cX5_init 207 = .ok (.ldc2_w 102, 3) := dk_20 0 102 (dk_at dksX5_init_9 0 rfl rfl)
theorem dX5_init_210 : decode cX5_init 210 = .ok (.lastore, 1) := dk_80 (dk_at dksX5_init_9 3 rfl rfl)
theorem dX5_init_211 : decode cX5_init 211 = .ok (.aload_n 0, 1) := dk_42 (dk_at dksX5_init_9 4 rfl rfl)
theorem dX5_init_212 : decode cX5_init 212 = .ok (.getfield 47, 3) := dk_180 0 47 (dk_at dksX5_init_9 5 rfl rfl)
theorem dX5_init_215 : decode cX5_init 215 = .ok (.iconst 4, 1) := dk_7 (dk_at dksX5_init_9 8 rfl rfl)
theorem dX5_init_216 : decode cX5_init 216 = .ok (.ldc2_w 104, 3) := dk_20 0 104 (dk_at dksX5_init_9 9 rfl rfl)
theorem dX5_init_219 : decode cX5_init 219 = .ok (.lastore, 1) := dk_80 (dk_at dksX5_init_9 12 rfl rfl)
theorem dX5_init_220 : decode cX5_init 220 = .ok (.aload_n 0, 1) := dk_42 (dk_at dksX5_init_9 13 rfl rfl)
theorem dX5_init_221 : decode cX5_init 221 = .ok (.getfield 47, 3) := dk_180 0 47 (dk_at dksX5_init_9 14 rfl rfl)
theorem dX5_init_224 : decode cX5_init 224 = .ok (.iconst 5, 1) := dk_8 (dk_at dksX5_init_9 17 rfl rfl)
theorem dX5_init_225 : decode cX5_init 225 = .ok (.ldc2_w 106, 3) := dk_20 0 106 (dk_at dksX5_init_9 18 rfl rfl)
theorem dX5_init_228 : decode cX5_init 228 = .ok (.lastore, 1) := dk_80 (dk_at dksX5_init_9 21 rfl rfl)
theorem dX5_init_229 : decode cX5_init 229 = .ok (.aload_n 0, 1) := dk_42 (dk_at dksX5_init_9 22 rfl rfl)
theorem dX5_init_230 : decode cX5_init 230 = .ok (.getfield 47, 3) := dk_180 0 47 (dk_at dksX5_init_10 0 rfl rfl)
theorem dX5_init_233 : decode cX5_init 233 = .ok (.bipush 6, 2) := dk_16 6 (dk_at dksX5_init_10 3 rfl rfl)
theorem dX5_init_235 : decode cX5_init 235 = .ok (.ldc2_w 108, 3) := dk_20 0 108 (dk_at dksX5_init_10 5 rfl rfl)
theorem dX5_init_238 : decode cX5_init 238 = .ok (.lastore, 1) := dk_80 (dk_at dksX5_init_10 8 rfl rfl)
theorem dX5_init_239 : decode cX5_init 239 = .ok (.aload_n 0, 1) := dk_42 (dk_at dksX5_init_10 9 rfl rfl)
theorem dX5_init_240 : decode cX5_init 240 = .ok (.getfield 47, 3) := dk_180 0 47 (dk_at dksX5_init_10 10 rfl rfl)
theorem dX5_init_243 : decode cX5_init 243 = .ok (.bipush 7, 2) := dk_16 7 (dk_at dksX5_init_10 13 rfl rfl)
theorem dX5_init_245 : decode cX5_init 245 = .ok (.ldc2_w 110, 3) := dk_20 0 110 (dk_at dksX5_init_10 15 rfl rfl)
theorem dX5_init_248 : decode cX5_init 248 = .ok (.lastore, 1) := dk_80 (dk_at dksX5_init_10 18 rfl rfl)
theorem dX5_init_249 : decode cX5_init 249 = .ok (.aload_n 0, 1) := dk_42 (dk_at dksX5_init_10 19 rfl rfl)
theorem dX5_init_250 : decode cX5_init 250 = .ok (.getfield 47, 3) := dk_180 0 47 (dk_at dksX5_init_10 20 rfl rfl)
theorem dX5_init_253 : decode cX5_init 253 = .ok (.bipush 8, 2) := dk_16 8 (dk_at dksX5_init_11 0 rfl rfl)
theorem dX5_init_255 : decode cX5_init 255 = .ok (.ldc2_w 112, 3) := dk_20 0 112 (dk_at dksX5_init_11 2 rfl rfl)
theorem dX5_init_258 : decode cX5_init 258 = .ok (.lastore, 1) := dk_80 (dk_at dksX5_init_11 5 rfl rfl)
theorem dX5_init_259 : decode cX5_init 259 = .ok (.aload_n 0, 1) := dk_42 (dk_at dksX5_init_11 6 rfl rfl)
theorem dX5_init_260 : decode cX5_init 260 = .ok (.getfield 47, 3) := dk_180 0 47 (dk_at dksX5_init_11 7 rfl rfl)
theorem dX5_init_263 : decode cX5_init 263 = .ok (.bipush 9, 2) := dk_16 9 (dk_at dksX5_init_11 10 rfl rfl)
theorem dX5_init_265 : decode cX5_init 265 = .ok (.ldc2_w 114, 3) := dk_20 0 114 (dk_at dksX5_init_11 12 rfl rfl)
theorem dX5_init_268 : decode cX5_init 268 = .ok (.lastore, 1) := dk_80 (dk_at dksX5_init_11 15 rfl rfl)
theorem dX5_init_269 : decode cX5_init 269 = .ok (.aload_n 0, 1) := dk_42 (dk_at dksX5_init_11 16 rfl rfl)
theorem dX5_init_270 : decode cX5_init 270 = .ok (.getfield 47, 3) := dk_180 0 47 (dk_at dksX5_init_11 17 rfl rfl)
theorem dX5_init_273 : decode cX5_init 273 = .ok (.bipush 10, 2) := dk_16 10 (dk_at dksX5_init_11 20 rfl rfl)
theorem dX5_init_275 : decode cX5_init 275 = .ok (.ldc2_w 116, 3) := dk_20 0 116 (dk_at dksX5_init_12 0 rfl rfl)
theorem dX5_init_278 : decode cX5_init 278 = .ok (.lastore, 1) := dk_80 (dk_at dksX5_init_12 3 rfl rfl)
theorem dX5_init_279 : decode cX5_init 279 = .ok (.aload_n 0, 1) := dk_42 (dk_at dksX5_init_12 4 rfl rfl)
theorem dX5_init_280 : decode cX5_init 280 = .ok (.getfield 47, 3) := dk_180 0 47 (dk_at dksX5_init_12 5 rfl rfl)
theorem dX5_init_283 : decode cX5_init 283 = .ok (.bipush 11, 2) := dk_16 11 (dk_at dksX5_init_12 8 rfl rfl)
theorem dX5_init_285 : decode cX5_init 285 = .ok (.ldc2_w 118, 3) := dk_20 0 118 (dk_at dksX5_init_12 10 rfl rfl)
theorem dX5_init_288 : decode cX5_init 288 = .ok (.lastore, 1) := dk_80 (dk_at dksX5_init_12 13 rfl rfl)
theorem dX5_init_289 : decode cX5_init 289 = .ok (.aload_n 0, 1) := dk_42 (dk_at dksX5_init_12 14 rfl rfl)
theorem dX5_init_290 : decode cX5_init 290 = .ok (.getfield 47, 3) := dk_180 0 47 (dk_at dksX5_init_12 15 rfl rfl)
theorem dX5_init_293 : decode cX5_init 293 = .ok (.bipush 12, 2) := dk_16 12 (dk_at dksX5_init_12 18 rfl rfl)
theorem dX5_init_295 : decode cX5_init 295 = .ok (.ldc2_w 120, 3) := dk_20 0 120 (dk_at dksX5_init_12 20 rfl rfl)
theorem dX5_init_298 : decode cX5_init 298 = .ok (.lastore, 1) := dk_80 (dk_at dksX5_init_12 23 rfl rfl)
theorem dX5_init_299 : decode cX5_init 299 = .ok (.aload_n 0, 1) := dk_42 (dk_at dksX5_init_13 0 rfl rfl)
theorem dX5_init_300 : decode cX5_init 300 = .ok (.getfield 47, 3) := dk_180 0 47 (dk_at dksX5_init_13 1 rfl rfl)
theorem dX5_init_303 : decode cX5_init 303 = .ok (.bipush 13, 2) := dk_16 13 (dk_at dksX5_init_13 4 rfl rfl)
theorem dX5_init_305 : decode cX5_init 305 = .ok (.ldc2_w 122, 3) := dk_20 0 122 (dk_at dksX5_init_13 6 rfl rfl)
theorem dX5_init_308 : decode cX5_init 308 = .ok (.lastore, 1) := dk_80 (dk_at dksX5_init_13 9 rfl rfl)
theorem dX5_init_309 : decode cX5_init 309 = .ok (.aload_n 0, 1) := dk_42 (dk_at dksX5_init_13 10 rfl rfl)
theorem dX5_init_310 : decode cX5_init 310 = .ok (.getfield 47, 3) := dk_180 0 47 (dk_at dksX5_init_13 11 rfl rfl)
theorem dX5_init_313 : decode cX5_init 313 = .ok (.bipush 14, 2) := dk_16 14 (dk_at dksX5_init_13 14 rfl rfl)
theorem dX5_init_315 : decode cX5_init 315 = .ok (.ldc2_w 124, 3) := dk_20 0 124 (dk_at dksX5_init_13 16 rfl rfl)
theorem dX5_init_318 : decode cX5_init 318 = .ok (.lastore, 1) := dk_80 (dk_at dksX5_init_13 19 rfl rfl)
theorem dX5_init_319 : decode cX5_init 319 = .ok (.aload_n 0, 1) := dk_42 (dk_at dksX5_init_13 20 rfl rfl)
theorem dX5_init_320 : decode cX5_init 320 = .ok (.getfield 47, 3) := dk_180 0 47 (dk_at dksX5_init_13 21 rfl rfl)
theorem dX5_init_323 : decode cX5_init 323 = .ok (.bipush 15, 2) := dk_16 15 (dk_at dksX5_init_14 0 rfl rfl)
theorem dX5_init_325 : decode cX5_init 325 = .ok (.ldc2_w 126, 3) := dk_20 0 126 (dk_at dksX5_init_14 2 rfl rfl)
theorem dX5_init_328 : decode cX5_init 328 = .ok (.lastore, 1) := dk_80 (dk_at dksX5_init_14 5 rfl rfl)
theorem dX5_init_329 : decode cX5_init 329 = .ok (.aload_n 0, 1) := dk_42 (dk_at dksX5_init_14 6 rfl rfl)
theorem dX5_init_330 : decode cX5_init 330 = .ok (.getfield 47, 3) := dk_180 0 47 (dk_at dksX5_init_14 7 rfl rfl)
theorem dX5_init_333 : decode cX5_init 333 = .ok (.bipush 16, 2) := dk_16 16 (dk_at dksX5_init_14 10 rfl rfl)
theorem dX5_init_335 : decode cX5_init 335 = .ok (.ldc2_w 128, 3) := dk_20 0 128 (dk_at dksX5_init_14 12 rfl rfl)
theorem dX5_init_338 : decode cX5_init 338 = .ok (.lastore, 1) := dk_80 (dk_at dksX5_init_14 15 rfl rfl)
theorem dX5_init_339 : decode cX5_init 339 = .ok (.aload_n 0, 1) := dk_42 (dk_at dksX5_init_14 16 rfl rfl)
theorem dX5_init_340 : decode cX5_init 340 = .ok (.getfield 47, 3) := dk_180 0 47 (dk_at dksX5_init_14 17 rfl rfl)
theorem dX5_init_343 : decode cX5_init 343 = .ok (.bipush 17, 2) := dk_16 17 (dk_at dksX5_init_14 20 rfl rfl)
theorem dX5_init_345 : decode cX5_init 345 = .ok (.ldc2_w 130, 3) := dk_20 0 130 (dk_at dksX5_init_15 0 rfl rfl)
theorem dX5_init_348 : decode cX5_init 348 = .ok (.lastore, 1) := dk_80 (dk_at dksX5_init_15 3 rfl rfl)
theorem dX5_init_349 : decode cX5_init 349 = .ok (.aload_n 0, 1) := dk_42 (dk_at dksX5_init_15 4 rfl rfl)
theorem dX5_init_350 : decode cX5_init 350 = .ok (.getfield 47, 3) := dk_180 0 47 (dk_at dksX5_init_15 5 rfl rfl)
theorem dX5_init_353 : decode cX5_init 353 = .ok (.bipush 18, 2) := dk_16 18 (dk_at dksX5_init_15 8 rfl rfl)
theorem dX5_init_355 : decode cX5_init 355 = .ok (.ldc2_w 132, 3) := dk_20 0 132 (dk_at dksX5_init_15 10 rfl rfl)
theorem dX5_init_358 : decode cX5_init 358 = .ok (.lastore, 1) := dk_80 (dk_at dksX5_init_15 13 rfl rfl)
theorem dX5_init_359 : decode cX5_init 359 = .ok (.aload_n 0, 1) := dk_42 (dk_at dksX5_init_15 14 rfl rfl)
theorem dX5_init_360 : decode cX5_init 360 = .ok (.getfield 47, 3) := dk_180 0 47 (dk_at dksX5_init_15 15 rfl rfl)
theorem dX5_init_363 : decode cX5_init 363 = .ok (.bipush 19, 2) := dk_16 19 (dk_at dksX5_init_15 18 rfl rfl)
theorem dX5_init_365 : decode cX5_init 365 = .ok (.ldc2_w 134, 3) := dk_20 0 134 (dk_at dksX5_init_15 20 rfl rfl)
theorem dX5_init_368 : decode cX5_init 368 = .ok (.lastore, 1) := dk_80 (dk_at dksX5_init_15 23 rfl rfl)
theorem dX5_init_369 : decode cX5_init 369 = .ok (.aload_n 0, 1) := dk_42 (dk_at dksX5_init_16 0 rfl rfl)
theorem dX5_init_370 : decode cX5_init 370 = .ok (.getfield 47, 3) := dk_180 0 47 (dk_at dksX5_init_16 1 rfl rfl)
theorem dX5_init_373 : decode cX5_init 373 = .ok (.bipush 20, 2) := dk_16 20 (dk_at dksX5_init_16 4 rfl rfl)
theorem dX5_init_375 : decode cX5_init 375 = .ok (.ldc2_w 136, 3) := dk_20 0 136 (dk_at dksX5_init_16 6 rfl rfl)
theorem dX5_init_378 : decode cX5_init 378 = .ok (.lastore, 1) := dk_80 (dk_at dksX5_init_16 9 rfl rfl)
theorem dX5_init_379 : decode cX5_init 379 = .ok (.aload_n 0, 1) := dk_42 (dk_at dksX5_init_16 10 rfl rfl)
theorem dX5_init_380 : decode cX5_init 380 = .ok (.getfield 47, 3) := dk_180 0 47 (dk_at dksX5_init_16 11 rfl rfl)
theorem dX5_init_383 : decode cX5_init 383 = .ok (.bipush 21, 2) := dk_16 21 (dk_at dksX5_init_16 14 rfl rfl)
theorem dX5_init_385 : decode cX5_init 385 = .ok (.ldc2_w 138, 3) := dk_20 0 138 (dk_at dksX5_init_16 16 rfl rfl)
theorem dX5_init_388 : decode cX5_init 388 = .ok (.lastore, 1) := dk_80 (dk_at dksX5_init_16 19 rfl rfl)
theorem dX5_init_389 : decode cX5_init 389 = .ok (.aload_n 0, 1) := dk_42 (dk_at dksX5_init_16 20 rfl rfl)
theorem dX5_init_390 : decode cX5_init 390 = .ok (.getfield 47, 3) := dk_180 0 47 (dk_at dksX5_init_16 21 rfl rfl)
theorem dX5_init_393 : decode cX5_init 393 = .ok (.bipush 22, 2) := dk_16 22 (dk_at dksX5_init_17 0 rfl rfl)
theorem dX5_init_395 : decode cX5_init 395 = .ok (.ldc2_w 140, 3) := dk_20 0 140 (dk_at dksX5_init_17 2 rfl rfl)
theorem dX5_init_398 : decode cX5_init 398 = .ok (.lastore, 1) := dk_80 (dk_at dksX5_init_17 5 rfl rfl)
theorem dX5_init_399 : decode cX5_init 399 = .ok (.aload_n 0, 1) := dk_42 (dk_at dksX5_init_17 6 rfl rfl)
theorem dX5_init_400 : decode cX5_init 400 = .ok (.getfield 47, 3) := dk_180 0 47 (dk_at dksX5_init_17 7 rfl rfl)
theorem dX5_init_403 : decode cX5_init 403 = .ok (.bipush 23, 2) := dk_16 23 (dk_at dksX5_init_17 10 rfl rfl)
theorem dX5_init_405 : decode cX5_init 405 = .ok (.ldc2_w 142, 3) := dk_20 0 142 (dk_at dksX5_init_17 12 rfl rfl)
theorem dX5_init_408 : decode cX5_init 408 = .ok (.lastore, 1) := dk_80 (dk_at dksX5_init_17 15 rfl rfl)
theorem dX5_init_409 : decode cX5_init 409 = .ok (.aload_n 0, 1) := dk_42 (dk_at dksX5_init_17 16 rfl rfl)
theorem dX5_init_410 : decode cX5_init 410 = .ok (.invokevirtual 144, 3) := dk_182 0 144 (dk_at dksX5_init_17 17 rfl rfl)
theorem dX5_init_413 : decode cX5_init 413 = .ok (.iconst 0, 1) := dk_3 (dk_at dksX5_init_17 20 rfl rfl)
theorem dX5_init_414 : decode cX5_init 414 = .ok (.istore_n 1, 1) := dk_60 (dk_at dksX5_init_17 21 rfl rfl)
theorem dX5_init_415 : decode cX5_init 415 = .ok (.iload_n 1, 1) := dk_27 (dk_at dksX5_init_17 22 rfl rfl)
theorem dX5_init_416 : decode cX5_init 416 = .ok (.sipush 131, 3) := dk_17 0 131 (dk_at dksX5_init_18 0 rfl rfl)
theorem dX5_init_419 : decode cX5_init 419 = .ok (.if_icmp .ge 21, 3) := dk_162 0 21 (dk_at dksX5_init_18 3 rfl rfl)
theorem dX5_init_422 : decode cX5_init 422 = .ok (.aload_n 0, 1) := dk_42 (dk_at dksX5_init_18 6 rfl rfl)
theorem dX5_init_423 : decode cX5_init 423 = .ok (.getfield 33, 3) := dk_180 0 33 (dk_at dksX5_init_18 7 rfl rfl)
theorem dX5_init_426 : decode cX5_init 426 = .ok (.iload_n 1, 1) := dk_27 (dk_at dksX5_init_18 10 rfl rfl)
theorem dX5_init_427 : decode cX5_init 427 = .ok (.aload_n 0, 1) := dk_42 (dk_at dksX5_init_18 11 rfl rfl)
theorem dX5_init_428 : decode cX5_init 428 = .ok (.getfield 37, 3) := dk_180 0 37 (dk_at dksX5_init_18 12 rfl rfl)
theorem dX5_init_431 : decode cX5_init 431 = .ok (.iload_n 1, 1) := dk_27 (dk_at dksX5_init_18 15 rfl rfl)
theorem dX5_init_432 : decode cX5_init 432 = .ok (.iaload, 1) := dk_46 (dk_at dksX5_init_18 16 rfl rfl)
theorem dX5_init_433 : decode cX5_init 433 = .ok (.iastore, 1) := dk_79 (dk_at dksX5_init_18 17 rfl rfl)
theorem dX5_init_434 : decode cX5_init 434 = .ok (.iinc 1 1, 3) := dk_132 1 1 (dk_at dksX5_init_18 18 rfl rfl)
theorem dX5_init_437 : decode cX5_init 437 = .ok (.goto (-22), 3) := dk_167 255 234 (dk_at dksX5_init_18 21 rfl rfl)
theorem dX5_init_440 : decode cX5_init 440 = .ok (.aload_n 0, 1) := dk_42 (dk_at dksX5_init_19 0 rfl rfl)
theorem dX5_init_441 : decode cX5_init 441 = .ok (.getfield 33, 3) := dk_180 0 33 (dk_at dksX5_init_19 1 rfl rfl)
theorem dX5_init_444 : decode cX5_init 444 = .ok (.sipush 135, 3) := dk_17 0 135 (dk_at dksX5_init_19 4 rfl rfl)
theorem dX5_init_447 : decode cX5_init 447 = .ok (.iconst 1, 1) := dk_4 (dk_at dksX5_init_19 7 rfl rfl)
theorem dX5_init_448 : decode cX5_init 448 = .ok (.iastore, 1) := dk_79 (dk_at dksX5_init_19 8 rfl rfl)
theorem dX5_init_449 : decode cX5_init 449 = .ok (.return_, 1) := dk_177 (dk_at dksX5_init_19 9 rfl rfl)
abbrev cX5_clears : ByteArray := prog_26_method_14_code
def yX5_clears : MethodName := ⟨RX5, "clears", "()V"⟩
def dkwX5_clears_1 : List UInt8 := [180, 0, 37, 5, 5, 79, 42, 180, 0, 37, 6, 4, 79, 177]
abbrev dktX5_clears_1 : List UInt8 := dkwX5_clears_1 ++ []
def dkwX5_clears_0 : List UInt8 := [3, 60, 27, 17, 0, 131, 162, 0, 16, 42, 180, 0, 37, 27, 3, 79, 132, 1, 1, 167, 255, 239, 42]
abbrev dktX5_clears_0 : List UInt8 := dkwX5_clears_0 ++ dktX5_clears_1
theorem dksX5_clears_0 : cX5_clears.data.toList.drop 0 = dktX5_clears_0 := by decide +kernel
theorem dksX5_clears_1 : cX5_clears.data.toList.drop 23 = dktX5_clears_1 := dk_seg dksX5_clears_0 23 rfl rfl
theorem dX5_clears_0 : decode cX5_clears 0 = .ok (.iconst 0, 1) := dk_3 (dk_at dksX5_clears_0 0 rfl rfl)
theorem dX5_clears_1 : decode cX5_clears 1 = .ok (.istore_n 1, 1) := dk_60 (dk_at dksX5_clears_0 1 rfl rfl)
theorem dX5_clears_2 : decode cX5_clears 2 = .ok (.iload_n 1, 1) := dk_27 (dk_at dksX5_clears_0 2 rfl rfl)
theorem dX5_clears_3 : decode cX5_clears 3 = .ok (.sipush 131, 3) := dk_17 0 131 (dk_at dksX5_clears_0 3 rfl rfl)
theorem dX5_clears_6 : decode cX5_clears 6 = .ok (.if_icmp .ge 16, 3) := dk_162 0 16 (dk_at dksX5_clears_0 6 rfl rfl)
theorem dX5_clears_9 : decode cX5_clears 9 = .ok (.aload_n 0, 1) := dk_42 (dk_at dksX5_clears_0 9 rfl rfl)
theorem dX5_clears_10 : decode cX5_clears 10 = .ok (.getfield 37, 3) := dk_180 0 37 (dk_at dksX5_clears_0 10 rfl rfl)
theorem dX5_clears_13 : decode cX5_clears 13 = .ok (.iload_n 1, 1) := dk_27 (dk_at dksX5_clears_0 13 rfl rfl)
theorem dX5_clears_14 : decode cX5_clears 14 = .ok (.iconst 0, 1) := dk_3 (dk_at dksX5_clears_0 14 rfl rfl)
theorem dX5_clears_15 : decode cX5_clears 15 = .ok (.iastore, 1) := dk_79 (dk_at dksX5_clears_0 15 rfl rfl)
theorem dX5_clears_16 : decode cX5_clears 16 = .ok (.iinc 1 1, 3) := dk_132 1 1 (dk_at dksX5_clears_0 16 rfl rfl)
theorem dX5_clears_19 : decode cX5_clears 19 = .ok (.goto (-17), 3) := dk_167 255 239 (dk_at dksX5_clears_0 19 rfl rfl)
theorem dX5_clears_22 : decode cX5_clears 22 = .ok (.aload_n 0, 1) := dk_42 (dk_at dksX5_clears_0 22 rfl rfl)
theorem dX5_clears_23 : decode cX5_clears 23 = .ok (.getfield 37, 3) := dk_180 0 37 (dk_at dksX5_clears_1 0 rfl rfl)
theorem dX5_clears_26 : decode cX5_clears 26 = .ok (.iconst 2, 1) := dk_5 (dk_at dksX5_clears_1 3 rfl rfl)
theorem dX5_clears_27 : decode cX5_clears 27 = .ok (.iconst 2, 1) := dk_5 (dk_at dksX5_clears_1 4 rfl rfl)
theorem dX5_clears_28 : decode cX5_clears 28 = .ok (.iastore, 1) := dk_79 (dk_at dksX5_clears_1 5 rfl rfl)
theorem dX5_clears_29 : decode cX5_clears 29 = .ok (.aload_n 0, 1) := dk_42 (dk_at dksX5_clears_1 6 rfl rfl)
theorem dX5_clears_30 : decode cX5_clears 30 = .ok (.getfield 37, 3) := dk_180 0 37 (dk_at dksX5_clears_1 7 rfl rfl)
theorem dX5_clears_33 : decode cX5_clears 33 = .ok (.iconst 3, 1) := dk_6 (dk_at dksX5_clears_1 10 rfl rfl)
theorem dX5_clears_34 : decode cX5_clears 34 = .ok (.iconst 1, 1) := dk_4 (dk_at dksX5_clears_1 11 rfl rfl)
theorem dX5_clears_35 : decode cX5_clears 35 = .ok (.iastore, 1) := dk_79 (dk_at dksX5_clears_1 12 rfl rfl)
theorem dX5_clears_36 : decode cX5_clears 36 = .ok (.return_, 1) := dk_177 (dk_at dksX5_clears_1 13 rfl rfl)
abbrev cX5_county : ByteArray := prog_26_method_36_code
def yX5_county : MethodName := ⟨RX5, "county", "()I"⟩
def dkwX5_county_8 : List UInt8 := [180, 0, 250, 172]
abbrev dktX5_county_8 : List UInt8 := dkwX5_county_8 ++ []
def dkwX5_county_7 : List UInt8 := [180, 0, 33, 8, 27, 96, 46, 79, 132, 1, 1, 167, 255, 229, 42, 182, 1, 3, 42, 3, 181, 1, 6, 42]
abbrev dktX5_county_7 : List UInt8 := dkwX5_county_7 ++ dktX5_county_8
def dkwX5_county_6 : List UInt8 := [132, 1, 1, 167, 255, 232, 3, 60, 27, 16, 7, 162, 0, 27, 42, 180, 0, 33, 17, 0, 136, 27, 96, 42]
abbrev dktX5_county_6 : List UInt8 := dkwX5_county_6 ++ dktX5_county_7
def dkwX5_county_5 : List UInt8 := [60, 27, 16, 12, 162, 0, 24, 42, 180, 0, 43, 27, 42, 180, 0, 43, 16, 12, 27, 96, 47, 80]
abbrev dktX5_county_5 : List UInt8 := dkwX5_county_5 ++ dktX5_county_6
def dkwX5_county_4 : List UInt8 := [17, 0, 131, 162, 0, 12, 42, 180, 0, 37, 27, 46, 167, 0, 4, 3, 79, 132, 1, 1, 167, 255, 223, 3]
abbrev dktX5_county_4 : List UInt8 := dkwX5_county_4 ++ dktX5_county_5
def dkwX5_county_3 : List UInt8 := [4, 96, 181, 0, 250, 167, 255, 216, 3, 60, 27, 17, 1, 201, 162, 0, 32, 42, 180, 0, 33, 27, 27]
abbrev dktX5_county_3 : List UInt8 := dkwX5_county_3 ++ dktX5_county_4
def dkwX5_county_2 : List UInt8 := [153, 0, 12, 42, 16, 59, 182, 1, 0, 154, 0, 10, 2, 42, 180, 0, 177, 100, 172, 42, 89, 180, 0, 250]
abbrev dktX5_county_2 : List UInt8 := dkwX5_county_2 ++ dktX5_county_3
def dkwX5_county_1 : List UInt8 := [181, 0, 211, 42, 182, 0, 144, 42, 182, 0, 186, 42, 180, 0, 157, 153, 0, 39, 42, 182, 0, 253]
abbrev dktX5_county_1 : List UInt8 := dkwX5_county_1 ++ dktX5_county_2
def dkwX5_county_0 : List UInt8 := [42, 3, 181, 0, 1, 42, 17, 3, 132, 182, 0, 247, 42, 3, 181, 0, 174, 42, 3, 181, 0, 250, 42, 3]
abbrev dktX5_county_0 : List UInt8 := dkwX5_county_0 ++ dktX5_county_1
theorem dksX5_county_0 : cX5_county.data.toList.drop 0 = dktX5_county_0 := by decide +kernel
theorem dksX5_county_1 : cX5_county.data.toList.drop 24 = dktX5_county_1 := dk_seg dksX5_county_0 24 rfl rfl
theorem dksX5_county_2 : cX5_county.data.toList.drop 46 = dktX5_county_2 := dk_seg dksX5_county_1 22 rfl rfl
theorem dksX5_county_3 : cX5_county.data.toList.drop 70 = dktX5_county_3 := dk_seg dksX5_county_2 24 rfl rfl
theorem dksX5_county_4 : cX5_county.data.toList.drop 93 = dktX5_county_4 := dk_seg dksX5_county_3 23 rfl rfl
theorem dksX5_county_5 : cX5_county.data.toList.drop 117 = dktX5_county_5 := dk_seg dksX5_county_4 24 rfl rfl
theorem dksX5_county_6 : cX5_county.data.toList.drop 139 = dktX5_county_6 := dk_seg dksX5_county_5 22 rfl rfl
theorem dksX5_county_7 : cX5_county.data.toList.drop 163 = dktX5_county_7 := dk_seg dksX5_county_6 24 rfl rfl
theorem dksX5_county_8 : cX5_county.data.toList.drop 187 = dktX5_county_8 := dk_seg dksX5_county_7 24 rfl rfl
theorem dX5_county_0 : decode cX5_county 0 = .ok (.aload_n 0, 1) := dk_42 (dk_at dksX5_county_0 0 rfl rfl)
theorem dX5_county_1 : decode cX5_county 1 = .ok (.iconst 0, 1) := dk_3 (dk_at dksX5_county_0 1 rfl rfl)
theorem dX5_county_2 : decode cX5_county 2 = .ok (.putfield 1, 3) := dk_181 0 1 (dk_at dksX5_county_0 2 rfl rfl)
theorem dX5_county_5 : decode cX5_county 5 = .ok (.aload_n 0, 1) := dk_42 (dk_at dksX5_county_0 5 rfl rfl)
theorem dX5_county_6 : decode cX5_county 6 = .ok (.sipush 900, 3) := dk_17 3 132 (dk_at dksX5_county_0 6 rfl rfl)
theorem dX5_county_9 : decode cX5_county 9 = .ok (.invokevirtual 247, 3) := dk_182 0 247 (dk_at dksX5_county_0 9 rfl rfl)
theorem dX5_county_12 : decode cX5_county 12 = .ok (.aload_n 0, 1) := dk_42 (dk_at dksX5_county_0 12 rfl rfl)
theorem dX5_county_13 : decode cX5_county 13 = .ok (.iconst 0, 1) := dk_3 (dk_at dksX5_county_0 13 rfl rfl)
theorem dX5_county_14 : decode cX5_county 14 = .ok (.putfield 174, 3) := dk_181 0 174 (dk_at dksX5_county_0 14 rfl rfl)
theorem dX5_county_17 : decode cX5_county 17 = .ok (.aload_n 0, 1) := dk_42 (dk_at dksX5_county_0 17 rfl rfl)
theorem dX5_county_18 : decode cX5_county 18 = .ok (.iconst 0, 1) := dk_3 (dk_at dksX5_county_0 18 rfl rfl)
theorem dX5_county_19 : decode cX5_county 19 = .ok (.putfield 250, 3) := dk_181 0 250 (dk_at dksX5_county_0 19 rfl rfl)
theorem dX5_county_22 : decode cX5_county 22 = .ok (.aload_n 0, 1) := dk_42 (dk_at dksX5_county_0 22 rfl rfl)
theorem dX5_county_23 : decode cX5_county 23 = .ok (.iconst 0, 1) := dk_3 (dk_at dksX5_county_0 23 rfl rfl)
theorem dX5_county_24 : decode cX5_county 24 = .ok (.putfield 211, 3) := dk_181 0 211 (dk_at dksX5_county_1 0 rfl rfl)
theorem dX5_county_27 : decode cX5_county 27 = .ok (.aload_n 0, 1) := dk_42 (dk_at dksX5_county_1 3 rfl rfl)
theorem dX5_county_28 : decode cX5_county 28 = .ok (.invokevirtual 144, 3) := dk_182 0 144 (dk_at dksX5_county_1 4 rfl rfl)
theorem dX5_county_31 : decode cX5_county 31 = .ok (.aload_n 0, 1) := dk_42 (dk_at dksX5_county_1 7 rfl rfl)
theorem dX5_county_32 : decode cX5_county 32 = .ok (.invokevirtual 186, 3) := dk_182 0 186 (dk_at dksX5_county_1 8 rfl rfl)
theorem dX5_county_35 : decode cX5_county 35 = .ok (.aload_n 0, 1) := dk_42 (dk_at dksX5_county_1 11 rfl rfl)
theorem dX5_county_36 : decode cX5_county 36 = .ok (.getfield 157, 3) := dk_180 0 157 (dk_at dksX5_county_1 12 rfl rfl)
theorem dX5_county_39 : decode cX5_county 39 = .ok (.ifCond .eq 39, 3) := dk_153 0 39 (dk_at dksX5_county_1 15 rfl rfl)
theorem dX5_county_42 : decode cX5_county 42 = .ok (.aload_n 0, 1) := dk_42 (dk_at dksX5_county_1 18 rfl rfl)
theorem dX5_county_43 : decode cX5_county 43 = .ok (.invokevirtual 253, 3) := dk_182 0 253 (dk_at dksX5_county_1 19 rfl rfl)
theorem dX5_county_46 : decode cX5_county 46 = .ok (.ifCond .eq 12, 3) := dk_153 0 12 (dk_at dksX5_county_2 0 rfl rfl)
theorem dX5_county_49 : decode cX5_county 49 = .ok (.aload_n 0, 1) := dk_42 (dk_at dksX5_county_2 3 rfl rfl)
theorem dX5_county_50 : decode cX5_county 50 = .ok (.bipush 59, 2) := dk_16 59 (dk_at dksX5_county_2 4 rfl rfl)
theorem dX5_county_52 : decode cX5_county 52 = .ok (.invokevirtual 256, 3) := dk_182 1 0 (dk_at dksX5_county_2 6 rfl rfl)
theorem dX5_county_55 : decode cX5_county 55 = .ok (.ifCond .ne 10, 3) := dk_154 0 10 (dk_at dksX5_county_2 9 rfl rfl)
theorem dX5_county_58 : decode cX5_county 58 = .ok (.iconst (-1), 1) := dk_2 (dk_at dksX5_county_2 12 rfl rfl)
theorem dX5_county_59 : decode cX5_county 59 = .ok (.aload_n 0, 1) := dk_42 (dk_at dksX5_county_2 13 rfl rfl)
theorem dX5_county_60 : decode cX5_county 60 = .ok (.getfield 177, 3) := dk_180 0 177 (dk_at dksX5_county_2 14 rfl rfl)
theorem dX5_county_63 : decode cX5_county 63 = .ok (.isub, 1) := dk_100 (dk_at dksX5_county_2 17 rfl rfl)
theorem dX5_county_64 : decode cX5_county 64 = .ok (.ireturn, 1) := dk_172 (dk_at dksX5_county_2 18 rfl rfl)
theorem dX5_county_65 : decode cX5_county 65 = .ok (.aload_n 0, 1) := dk_42 (dk_at dksX5_county_2 19 rfl rfl)
theorem dX5_county_66 : decode cX5_county 66 = .ok (.dup, 1) := dk_89 (dk_at dksX5_county_2 20 rfl rfl)
theorem dX5_county_67 : decode cX5_county 67 = .ok (.getfield 250, 3) := dk_180 0 250 (dk_at dksX5_county_2 21 rfl rfl)
theorem dX5_county_70 : decode cX5_county 70 = .ok (.iconst 1, 1) := dk_4 (dk_at dksX5_county_3 0 rfl rfl)
theorem dX5_county_71 : decode cX5_county 71 = .ok (.iadd, 1) := dk_96 (dk_at dksX5_county_3 1 rfl rfl)
theorem dX5_county_72 : decode cX5_county 72 = .ok (.putfield 250, 3) := dk_181 0 250 (dk_at dksX5_county_3 2 rfl rfl)
theorem dX5_county_75 : decode cX5_county 75 = .ok (.goto (-40), 3) := dk_167 255 216 (dk_at dksX5_county_3 5 rfl rfl)
theorem dX5_county_78 : decode cX5_county 78 = .ok (.iconst 0, 1) := dk_3 (dk_at dksX5_county_3 8 rfl rfl)
theorem dX5_county_79 : decode cX5_county 79 = .ok (.istore_n 1, 1) := dk_60 (dk_at dksX5_county_3 9 rfl rfl)
theorem dX5_county_80 : decode cX5_county 80 = .ok (.iload_n 1, 1) := dk_27 (dk_at dksX5_county_3 10 rfl rfl)
theorem dX5_county_81 : decode cX5_county 81 = .ok (.sipush 457, 3) := dk_17 1 201 (dk_at dksX5_county_3 11 rfl rfl)
theorem dX5_county_84 : decode cX5_county 84 = .ok (.if_icmp .ge 32, 3) := dk_162 0 32 (dk_at dksX5_county_3 14 rfl rfl)
theorem dX5_county_87 : decode cX5_county 87 = .ok (.aload_n 0, 1) := dk_42 (dk_at dksX5_county_3 17 rfl rfl)
theorem dX5_county_88 : decode cX5_county 88 = .ok (.getfield 33, 3) := dk_180 0 33 (dk_at dksX5_county_3 18 rfl rfl)
theorem dX5_county_91 : decode cX5_county 91 = .ok (.iload_n 1, 1) := dk_27 (dk_at dksX5_county_3 21 rfl rfl)
theorem dX5_county_92 : decode cX5_county 92 = .ok (.iload_n 1, 1) := dk_27 (dk_at dksX5_county_3 22 rfl rfl)
theorem dX5_county_93 : decode cX5_county 93 = .ok (.sipush 131, 3) := dk_17 0 131 (dk_at dksX5_county_4 0 rfl rfl)
theorem dX5_county_96 : decode cX5_county 96 = .ok (.if_icmp .ge 12, 3) := dk_162 0 12 (dk_at dksX5_county_4 3 rfl rfl)
theorem dX5_county_99 : decode cX5_county 99 = .ok (.aload_n 0, 1) := dk_42 (dk_at dksX5_county_4 6 rfl rfl)
theorem dX5_county_100 : decode cX5_county 100 = .ok (.getfield 37, 3) := dk_180 0 37 (dk_at dksX5_county_4 7 rfl rfl)
theorem dX5_county_103 : decode cX5_county 103 = .ok (.iload_n 1, 1) := dk_27 (dk_at dksX5_county_4 10 rfl rfl)
theorem dX5_county_104 : decode cX5_county 104 = .ok (.iaload, 1) := dk_46 (dk_at dksX5_county_4 11 rfl rfl)
theorem dX5_county_105 : decode cX5_county 105 = .ok (.goto 4, 3) := dk_167 0 4 (dk_at dksX5_county_4 12 rfl rfl)
theorem dX5_county_108 : decode cX5_county 108 = .ok (.iconst 0, 1) := dk_3 (dk_at dksX5_county_4 15 rfl rfl)
theorem dX5_county_109 : decode cX5_county 109 = .ok (.iastore, 1) := dk_79 (dk_at dksX5_county_4 16 rfl rfl)
theorem dX5_county_110 : decode cX5_county 110 = .ok (.iinc 1 1, 3) := dk_132 1 1 (dk_at dksX5_county_4 17 rfl rfl)
theorem dX5_county_113 : decode cX5_county 113 = .ok (.goto (-33), 3) := dk_167 255 223 (dk_at dksX5_county_4 20 rfl rfl)
theorem dX5_county_116 : decode cX5_county 116 = .ok (.iconst 0, 1) := dk_3 (dk_at dksX5_county_4 23 rfl rfl)
theorem dX5_county_117 : decode cX5_county 117 = .ok (.istore_n 1, 1) := dk_60 (dk_at dksX5_county_5 0 rfl rfl)
theorem dX5_county_118 : decode cX5_county 118 = .ok (.iload_n 1, 1) := dk_27 (dk_at dksX5_county_5 1 rfl rfl)
theorem dX5_county_119 : decode cX5_county 119 = .ok (.bipush 12, 2) := dk_16 12 (dk_at dksX5_county_5 2 rfl rfl)
theorem dX5_county_121 : decode cX5_county 121 = .ok (.if_icmp .ge 24, 3) := dk_162 0 24 (dk_at dksX5_county_5 4 rfl rfl)
theorem dX5_county_124 : decode cX5_county 124 = .ok (.aload_n 0, 1) := dk_42 (dk_at dksX5_county_5 7 rfl rfl)
theorem dX5_county_125 : decode cX5_county 125 = .ok (.getfield 43, 3) := dk_180 0 43 (dk_at dksX5_county_5 8 rfl rfl)
theorem dX5_county_128 : decode cX5_county 128 = .ok (.iload_n 1, 1) := dk_27 (dk_at dksX5_county_5 11 rfl rfl)
theorem dX5_county_129 : decode cX5_county 129 = .ok (.aload_n 0, 1) := dk_42 (dk_at dksX5_county_5 12 rfl rfl)
theorem dX5_county_130 : decode cX5_county 130 = .ok (.getfield 43, 3) := dk_180 0 43 (dk_at dksX5_county_5 13 rfl rfl)
theorem dX5_county_133 : decode cX5_county 133 = .ok (.bipush 12, 2) := dk_16 12 (dk_at dksX5_county_5 16 rfl rfl)
theorem dX5_county_135 : decode cX5_county 135 = .ok (.iload_n 1, 1) := dk_27 (dk_at dksX5_county_5 18 rfl rfl)
theorem dX5_county_136 : decode cX5_county 136 = .ok (.iadd, 1) := dk_96 (dk_at dksX5_county_5 19 rfl rfl)
theorem dX5_county_137 : decode cX5_county 137 = .ok (.laload, 1) := dk_47 (dk_at dksX5_county_5 20 rfl rfl)
theorem dX5_county_138 : decode cX5_county 138 = .ok (.lastore, 1) := dk_80 (dk_at dksX5_county_5 21 rfl rfl)
theorem dX5_county_139 : decode cX5_county 139 = .ok (.iinc 1 1, 3) := dk_132 1 1 (dk_at dksX5_county_6 0 rfl rfl)
theorem dX5_county_142 : decode cX5_county 142 = .ok (.goto (-24), 3) := dk_167 255 232 (dk_at dksX5_county_6 3 rfl rfl)
theorem dX5_county_145 : decode cX5_county 145 = .ok (.iconst 0, 1) := dk_3 (dk_at dksX5_county_6 6 rfl rfl)
theorem dX5_county_146 : decode cX5_county 146 = .ok (.istore_n 1, 1) := dk_60 (dk_at dksX5_county_6 7 rfl rfl)
theorem dX5_county_147 : decode cX5_county 147 = .ok (.iload_n 1, 1) := dk_27 (dk_at dksX5_county_6 8 rfl rfl)
theorem dX5_county_148 : decode cX5_county 148 = .ok (.bipush 7, 2) := dk_16 7 (dk_at dksX5_county_6 9 rfl rfl)
theorem dX5_county_150 : decode cX5_county 150 = .ok (.if_icmp .ge 27, 3) := dk_162 0 27 (dk_at dksX5_county_6 11 rfl rfl)
theorem dX5_county_153 : decode cX5_county 153 = .ok (.aload_n 0, 1) := dk_42 (dk_at dksX5_county_6 14 rfl rfl)
theorem dX5_county_154 : decode cX5_county 154 = .ok (.getfield 33, 3) := dk_180 0 33 (dk_at dksX5_county_6 15 rfl rfl)
theorem dX5_county_157 : decode cX5_county 157 = .ok (.sipush 136, 3) := dk_17 0 136 (dk_at dksX5_county_6 18 rfl rfl)
theorem dX5_county_160 : decode cX5_county 160 = .ok (.iload_n 1, 1) := dk_27 (dk_at dksX5_county_6 21 rfl rfl)
theorem dX5_county_161 : decode cX5_county 161 = .ok (.iadd, 1) := dk_96 (dk_at dksX5_county_6 22 rfl rfl)
theorem dX5_county_162 : decode cX5_county 162 = .ok (.aload_n 0, 1) := dk_42 (dk_at dksX5_county_6 23 rfl rfl)
theorem dX5_county_163 : decode cX5_county 163 = .ok (.getfield 33, 3) := dk_180 0 33 (dk_at dksX5_county_7 0 rfl rfl)
theorem dX5_county_166 : decode cX5_county 166 = .ok (.iconst 5, 1) := dk_8 (dk_at dksX5_county_7 3 rfl rfl)
theorem dX5_county_167 : decode cX5_county 167 = .ok (.iload_n 1, 1) := dk_27 (dk_at dksX5_county_7 4 rfl rfl)
theorem dX5_county_168 : decode cX5_county 168 = .ok (.iadd, 1) := dk_96 (dk_at dksX5_county_7 5 rfl rfl)
theorem dX5_county_169 : decode cX5_county 169 = .ok (.iaload, 1) := dk_46 (dk_at dksX5_county_7 6 rfl rfl)
theorem dX5_county_170 : decode cX5_county 170 = .ok (.iastore, 1) := dk_79 (dk_at dksX5_county_7 7 rfl rfl)
theorem dX5_county_171 : decode cX5_county 171 = .ok (.iinc 1 1, 3) := dk_132 1 1 (dk_at dksX5_county_7 8 rfl rfl)
theorem dX5_county_174 : decode cX5_county 174 = .ok (.goto (-27), 3) := dk_167 255 229 (dk_at dksX5_county_7 11 rfl rfl)
theorem dX5_county_177 : decode cX5_county 177 = .ok (.aload_n 0, 1) := dk_42 (dk_at dksX5_county_7 14 rfl rfl)
theorem dX5_county_178 : decode cX5_county 178 = .ok (.invokevirtual 259, 3) := dk_182 1 3 (dk_at dksX5_county_7 15 rfl rfl)
theorem dX5_county_181 : decode cX5_county 181 = .ok (.aload_n 0, 1) := dk_42 (dk_at dksX5_county_7 18 rfl rfl)
theorem dX5_county_182 : decode cX5_county 182 = .ok (.iconst 0, 1) := dk_3 (dk_at dksX5_county_7 19 rfl rfl)
theorem dX5_county_183 : decode cX5_county 183 = .ok (.putfield 262, 3) := dk_181 1 6 (dk_at dksX5_county_7 20 rfl rfl)
theorem dX5_county_186 : decode cX5_county 186 = .ok (.aload_n 0, 1) := dk_42 (dk_at dksX5_county_7 23 rfl rfl)
theorem dX5_county_187 : decode cX5_county 187 = .ok (.getfield 250, 3) := dk_180 0 250 (dk_at dksX5_county_8 0 rfl rfl)
theorem dX5_county_190 : decode cX5_county 190 = .ok (.ireturn, 1) := dk_172 (dk_at dksX5_county_8 3 rfl rfl)
abbrev cX5_taken : ByteArray := prog_26_method_6_code
def yX5_taken : MethodName := ⟨RX5, "taken", "(I)V"⟩
def dkwX5_taken_0 : List UInt8 := [42, 42, 180, 0, 7, 181, 0, 18, 42, 3, 181, 0, 7, 42, 3, 181, 0, 21, 42, 27, 181, 0, 24, 177]
abbrev dktX5_taken_0 : List UInt8 := dkwX5_taken_0 ++ []
theorem dksX5_taken_0 : cX5_taken.data.toList.drop 0 = dktX5_taken_0 := by decide +kernel
theorem dX5_taken_0 : decode cX5_taken 0 = .ok (.aload_n 0, 1) := dk_42 (dk_at dksX5_taken_0 0 rfl rfl)
theorem dX5_taken_1 : decode cX5_taken 1 = .ok (.aload_n 0, 1) := dk_42 (dk_at dksX5_taken_0 1 rfl rfl)
theorem dX5_taken_2 : decode cX5_taken 2 = .ok (.getfield 7, 3) := dk_180 0 7 (dk_at dksX5_taken_0 2 rfl rfl)
theorem dX5_taken_5 : decode cX5_taken 5 = .ok (.putfield 18, 3) := dk_181 0 18 (dk_at dksX5_taken_0 5 rfl rfl)
theorem dX5_taken_8 : decode cX5_taken 8 = .ok (.aload_n 0, 1) := dk_42 (dk_at dksX5_taken_0 8 rfl rfl)
theorem dX5_taken_9 : decode cX5_taken 9 = .ok (.iconst 0, 1) := dk_3 (dk_at dksX5_taken_0 9 rfl rfl)
theorem dX5_taken_10 : decode cX5_taken 10 = .ok (.putfield 7, 3) := dk_181 0 7 (dk_at dksX5_taken_0 10 rfl rfl)
theorem dX5_taken_13 : decode cX5_taken 13 = .ok (.aload_n 0, 1) := dk_42 (dk_at dksX5_taken_0 13 rfl rfl)
theorem dX5_taken_14 : decode cX5_taken 14 = .ok (.iconst 0, 1) := dk_3 (dk_at dksX5_taken_0 14 rfl rfl)
theorem dX5_taken_15 : decode cX5_taken 15 = .ok (.putfield 21, 3) := dk_181 0 21 (dk_at dksX5_taken_0 15 rfl rfl)
theorem dX5_taken_18 : decode cX5_taken 18 = .ok (.aload_n 0, 1) := dk_42 (dk_at dksX5_taken_0 18 rfl rfl)
theorem dX5_taken_19 : decode cX5_taken 19 = .ok (.iload_n 1, 1) := dk_27 (dk_at dksX5_taken_0 19 rfl rfl)
theorem dX5_taken_20 : decode cX5_taken 20 = .ok (.putfield 24, 3) := dk_181 0 24 (dk_at dksX5_taken_0 20 rfl rfl)
theorem dX5_taken_23 : decode cX5_taken 23 = .ok (.return_, 1) := dk_177 (dk_at dksX5_taken_0 23 rfl rfl)
abbrev cX5_next : ByteArray := prog_26_method_18_code
def yX5_next : MethodName := ⟨RX5, "next", "()V"⟩
def dkwX5_next_14 : List UInt8 := [4, 167, 0, 4, 5, 181, 0, 157, 177]
abbrev dktX5_next_14 : List UInt8 := dkwX5_next_14 ++ []
def dkwX5_next_13 : List UInt8 := [180, 0, 154, 28, 153, 0, 8, 16, 7, 167, 0, 4, 6, 164, 0, 7, 7, 167, 0, 12, 28, 153, 0, 7]
abbrev dktX5_next_13 : List UInt8 := dkwX5_next_13 ++ dktX5_next_14
def dkwX5_next_12 : List UInt8 := [181, 0, 154, 42, 89, 180, 0, 21, 4, 96, 181, 0, 21, 167, 255, 142, 42, 29, 153, 0, 20, 42]
abbrev dktX5_next_12 : List UInt8 := dkwX5_next_12 ++ dktX5_next_13
def dkwX5_next_11 : List UInt8 := [180, 0, 167, 104, 42, 182, 0, 147, 96, 16, 48, 100, 181, 0, 167, 42, 89, 180, 0, 154, 4, 96]
abbrev dktX5_next_11 : List UInt8 := dkwX5_next_11 ++ dktX5_next_12
def dkwX5_next_10 : List UInt8 := [16, 8, 121, 42, 182, 0, 147, 133, 129, 181, 0, 170, 42, 180, 0, 154, 6, 162, 0, 22, 42, 16, 10, 42]
abbrev dktX5_next_10 : List UInt8 := dkwX5_next_10 ++ dktX5_next_11
def dkwX5_next_9 : List UInt8 := [28, 160, 0, 7, 4, 167, 0, 4, 3, 62, 42, 180, 0, 154, 16, 7, 162, 0, 20, 42, 42, 180, 0, 170]
abbrev dktX5_next_9 : List UInt8 := dkwX5_next_9 ++ dktX5_next_10
def dkwX5_next_8 : List UInt8 := [154, 0, 13, 42, 182, 0, 147, 184, 0, 164, 153, 0, 100, 29, 153, 0, 18, 42, 182, 0, 147, 184, 0, 160]
abbrev dktX5_next_8 : List UInt8 := dkwX5_next_8 ++ dktX5_next_9
def dkwX5_next_7 : List UInt8 := [184, 0, 160, 61, 4, 62, 42, 9, 181, 0, 170, 42, 3, 181, 0, 167, 42, 182, 0, 147, 184, 0, 160]
abbrev dktX5_next_7 : List UInt8 := dkwX5_next_7 ++ dktX5_next_8
def dkwX5_next_6 : List UInt8 := [167, 0, 4, 7, 181, 0, 157, 42, 27, 181, 0, 167, 42, 89, 180, 0, 21, 4, 96, 181, 0, 21, 177, 27]
abbrev dktX5_next_6 : List UInt8 := dkwX5_next_6 ++ dktX5_next_7
def dkwX5_next_5 : List UInt8 := [159, 0, 21, 27, 16, 41, 159, 0, 15, 27, 16, 60, 161, 0, 13, 27, 16, 62, 163, 0, 7, 6]
abbrev dktX5_next_5 : List UInt8 := dkwX5_next_5 ++ dktX5_next_6
def dkwX5_next_4 : List UInt8 := [27, 184, 0, 160, 154, 0, 65, 27, 184, 0, 164, 154, 0, 58, 42, 27, 16, 59, 159, 0, 27, 27, 16, 40]
abbrev dktX5_next_4 : List UInt8 := dkwX5_next_4 ++ dktX5_next_5
def dkwX5_next_3 : List UInt8 := [181, 0, 151, 42, 7, 181, 0, 157, 177, 42, 182, 0, 147, 60, 27, 156, 0, 9, 42, 3, 181, 0, 157, 177]
abbrev dktX5_next_3 : List UInt8 := dkwX5_next_3 ++ dktX5_next_4
def dkwX5_next_2 : List UInt8 := [42, 180, 0, 24, 164, 0, 28, 42, 180, 0, 21, 42, 180, 0, 24, 161, 0, 17, 42, 42, 180, 0, 24]
abbrev dktX5_next_2 : List UInt8 := dkwX5_next_2 ++ dktX5_next_3
def dkwX5_next_1 : List UInt8 := [96, 181, 0, 21, 167, 255, 228, 42, 42, 180, 0, 21, 181, 0, 151, 42, 3, 181, 0, 154, 42, 180, 0, 18]
abbrev dktX5_next_1 : List UInt8 := dkwX5_next_1 ++ dktX5_next_2
def dkwX5_next_0 : List UInt8 := [42, 182, 0, 147, 16, 32, 159, 0, 12, 42, 182, 0, 147, 16, 10, 160, 0, 16, 42, 89, 180, 0, 21, 4]
abbrev dktX5_next_0 : List UInt8 := dkwX5_next_0 ++ dktX5_next_1
theorem dksX5_next_0 : cX5_next.data.toList.drop 0 = dktX5_next_0 := by decide +kernel
theorem dksX5_next_1 : cX5_next.data.toList.drop 24 = dktX5_next_1 := dk_seg dksX5_next_0 24 rfl rfl
theorem dksX5_next_2 : cX5_next.data.toList.drop 48 = dktX5_next_2 := dk_seg dksX5_next_1 24 rfl rfl
theorem dksX5_next_3 : cX5_next.data.toList.drop 71 = dktX5_next_3 := dk_seg dksX5_next_2 23 rfl rfl
theorem dksX5_next_4 : cX5_next.data.toList.drop 95 = dktX5_next_4 := dk_seg dksX5_next_3 24 rfl rfl
theorem dksX5_next_5 : cX5_next.data.toList.drop 119 = dktX5_next_5 := dk_seg dksX5_next_4 24 rfl rfl
theorem dksX5_next_6 : cX5_next.data.toList.drop 141 = dktX5_next_6 := dk_seg dksX5_next_5 22 rfl rfl
theorem dksX5_next_7 : cX5_next.data.toList.drop 165 = dktX5_next_7 := dk_seg dksX5_next_6 24 rfl rfl
theorem dksX5_next_8 : cX5_next.data.toList.drop 188 = dktX5_next_8 := dk_seg dksX5_next_7 23 rfl rfl
theorem dksX5_next_9 : cX5_next.data.toList.drop 212 = dktX5_next_9 := dk_seg dksX5_next_8 24 rfl rfl
theorem dksX5_next_10 : cX5_next.data.toList.drop 236 = dktX5_next_10 := dk_seg dksX5_next_9 24 rfl rfl
theorem dksX5_next_11 : cX5_next.data.toList.drop 260 = dktX5_next_11 := dk_seg dksX5_next_10 24 rfl rfl
theorem dksX5_next_12 : cX5_next.data.toList.drop 282 = dktX5_next_12 := dk_seg dksX5_next_11 22 rfl rfl
theorem dksX5_next_13 : cX5_next.data.toList.drop 304 = dktX5_next_13 := dk_seg dksX5_next_12 22 rfl rfl
theorem dksX5_next_14 : cX5_next.data.toList.drop 328 = dktX5_next_14 := dk_seg dksX5_next_13 24 rfl rfl
theorem dX5_next_0 : decode cX5_next 0 = .ok (.aload_n 0, 1) := dk_42 (dk_at dksX5_next_0 0 rfl rfl)
theorem dX5_next_1 : decode cX5_next 1 = .ok (.invokevirtual 147, 3) := dk_182 0 147 (dk_at dksX5_next_0 1 rfl rfl)
theorem dX5_next_4 : decode cX5_next 4 = .ok (.bipush 32, 2) := dk_16 32 (dk_at dksX5_next_0 4 rfl rfl)
theorem dX5_next_6 : decode cX5_next 6 = .ok (.if_icmp .eq 12, 3) := dk_159 0 12 (dk_at dksX5_next_0 6 rfl rfl)
theorem dX5_next_9 : decode cX5_next 9 = .ok (.aload_n 0, 1) := dk_42 (dk_at dksX5_next_0 9 rfl rfl)
theorem dX5_next_10 : decode cX5_next 10 = .ok (.invokevirtual 147, 3) := dk_182 0 147 (dk_at dksX5_next_0 10 rfl rfl)
theorem dX5_next_13 : decode cX5_next 13 = .ok (.bipush 10, 2) := dk_16 10 (dk_at dksX5_next_0 13 rfl rfl)
theorem dX5_next_15 : decode cX5_next 15 = .ok (.if_icmp .ne 16, 3) := dk_160 0 16 (dk_at dksX5_next_0 15 rfl rfl)
theorem dX5_next_18 : decode cX5_next 18 = .ok (.aload_n 0, 1) := dk_42 (dk_at dksX5_next_0 18 rfl rfl)
theorem dX5_next_19 : decode cX5_next 19 = .ok (.dup, 1) := dk_89 (dk_at dksX5_next_0 19 rfl rfl)
theorem dX5_next_20 : decode cX5_next 20 = .ok (.getfield 21, 3) := dk_180 0 21 (dk_at dksX5_next_0 20 rfl rfl)
theorem dX5_next_23 : decode cX5_next 23 = .ok (.iconst 1, 1) := dk_4 (dk_at dksX5_next_0 23 rfl rfl)
theorem dX5_next_24 : decode cX5_next 24 = .ok (.iadd, 1) := dk_96 (dk_at dksX5_next_1 0 rfl rfl)
theorem dX5_next_25 : decode cX5_next 25 = .ok (.putfield 21, 3) := dk_181 0 21 (dk_at dksX5_next_1 1 rfl rfl)
theorem dX5_next_28 : decode cX5_next 28 = .ok (.goto (-28), 3) := dk_167 255 228 (dk_at dksX5_next_1 4 rfl rfl)
theorem dX5_next_31 : decode cX5_next 31 = .ok (.aload_n 0, 1) := dk_42 (dk_at dksX5_next_1 7 rfl rfl)
theorem dX5_next_32 : decode cX5_next 32 = .ok (.aload_n 0, 1) := dk_42 (dk_at dksX5_next_1 8 rfl rfl)
theorem dX5_next_33 : decode cX5_next 33 = .ok (.getfield 21, 3) := dk_180 0 21 (dk_at dksX5_next_1 9 rfl rfl)
theorem dX5_next_36 : decode cX5_next 36 = .ok (.putfield 151, 3) := dk_181 0 151 (dk_at dksX5_next_1 12 rfl rfl)
theorem dX5_next_39 : decode cX5_next 39 = .ok (.aload_n 0, 1) := dk_42 (dk_at dksX5_next_1 15 rfl rfl)
theorem dX5_next_40 : decode cX5_next 40 = .ok (.iconst 0, 1) := dk_3 (dk_at dksX5_next_1 16 rfl rfl)
theorem dX5_next_41 : decode cX5_next 41 = .ok (.putfield 154, 3) := dk_181 0 154 (dk_at dksX5_next_1 17 rfl rfl)
theorem dX5_next_44 : decode cX5_next 44 = .ok (.aload_n 0, 1) := dk_42 (dk_at dksX5_next_1 20 rfl rfl)
theorem dX5_next_45 : decode cX5_next 45 = .ok (.getfield 18, 3) := dk_180 0 18 (dk_at dksX5_next_1 21 rfl rfl)
theorem dX5_next_48 : decode cX5_next 48 = .ok (.aload_n 0, 1) := dk_42 (dk_at dksX5_next_2 0 rfl rfl)
theorem dX5_next_49 : decode cX5_next 49 = .ok (.getfield 24, 3) := dk_180 0 24 (dk_at dksX5_next_2 1 rfl rfl)
theorem dX5_next_52 : decode cX5_next 52 = .ok (.if_icmp .le 28, 3) := dk_164 0 28 (dk_at dksX5_next_2 4 rfl rfl)
theorem dX5_next_55 : decode cX5_next 55 = .ok (.aload_n 0, 1) := dk_42 (dk_at dksX5_next_2 7 rfl rfl)
theorem dX5_next_56 : decode cX5_next 56 = .ok (.getfield 21, 3) := dk_180 0 21 (dk_at dksX5_next_2 8 rfl rfl)
theorem dX5_next_59 : decode cX5_next 59 = .ok (.aload_n 0, 1) := dk_42 (dk_at dksX5_next_2 11 rfl rfl)
theorem dX5_next_60 : decode cX5_next 60 = .ok (.getfield 24, 3) := dk_180 0 24 (dk_at dksX5_next_2 12 rfl rfl)
theorem dX5_next_63 : decode cX5_next 63 = .ok (.if_icmp .lt 17, 3) := dk_161 0 17 (dk_at dksX5_next_2 15 rfl rfl)
theorem dX5_next_66 : decode cX5_next 66 = .ok (.aload_n 0, 1) := dk_42 (dk_at dksX5_next_2 18 rfl rfl)
theorem dX5_next_67 : decode cX5_next 67 = .ok (.aload_n 0, 1) := dk_42 (dk_at dksX5_next_2 19 rfl rfl)
theorem dX5_next_68 : decode cX5_next 68 = .ok (.getfield 24, 3) := dk_180 0 24 (dk_at dksX5_next_2 20 rfl rfl)
theorem dX5_next_71 : decode cX5_next 71 = .ok (.putfield 151, 3) := dk_181 0 151 (dk_at dksX5_next_3 0 rfl rfl)
theorem dX5_next_74 : decode cX5_next 74 = .ok (.aload_n 0, 1) := dk_42 (dk_at dksX5_next_3 3 rfl rfl)
theorem dX5_next_75 : decode cX5_next 75 = .ok (.iconst 4, 1) := dk_7 (dk_at dksX5_next_3 4 rfl rfl)
theorem dX5_next_76 : decode cX5_next 76 = .ok (.putfield 157, 3) := dk_181 0 157 (dk_at dksX5_next_3 5 rfl rfl)
theorem dX5_next_79 : decode cX5_next 79 = .ok (.return_, 1) := dk_177 (dk_at dksX5_next_3 8 rfl rfl)
theorem dX5_next_80 : decode cX5_next 80 = .ok (.aload_n 0, 1) := dk_42 (dk_at dksX5_next_3 9 rfl rfl)
theorem dX5_next_81 : decode cX5_next 81 = .ok (.invokevirtual 147, 3) := dk_182 0 147 (dk_at dksX5_next_3 10 rfl rfl)
theorem dX5_next_84 : decode cX5_next 84 = .ok (.istore_n 1, 1) := dk_60 (dk_at dksX5_next_3 13 rfl rfl)
theorem dX5_next_85 : decode cX5_next 85 = .ok (.iload_n 1, 1) := dk_27 (dk_at dksX5_next_3 14 rfl rfl)
theorem dX5_next_86 : decode cX5_next 86 = .ok (.ifCond .ge 9, 3) := dk_156 0 9 (dk_at dksX5_next_3 15 rfl rfl)
theorem dX5_next_89 : decode cX5_next 89 = .ok (.aload_n 0, 1) := dk_42 (dk_at dksX5_next_3 18 rfl rfl)
theorem dX5_next_90 : decode cX5_next 90 = .ok (.iconst 0, 1) := dk_3 (dk_at dksX5_next_3 19 rfl rfl)
theorem dX5_next_91 : decode cX5_next 91 = .ok (.putfield 157, 3) := dk_181 0 157 (dk_at dksX5_next_3 20 rfl rfl)
theorem dX5_next_94 : decode cX5_next 94 = .ok (.return_, 1) := dk_177 (dk_at dksX5_next_3 23 rfl rfl)
theorem dX5_next_95 : decode cX5_next 95 = .ok (.iload_n 1, 1) := dk_27 (dk_at dksX5_next_4 0 rfl rfl)
theorem dX5_next_96 : decode cX5_next 96 = .ok (.invokestatic 160, 3) := dk_184 0 160 (dk_at dksX5_next_4 1 rfl rfl)
theorem dX5_next_99 : decode cX5_next 99 = .ok (.ifCond .ne 65, 3) := dk_154 0 65 (dk_at dksX5_next_4 4 rfl rfl)
theorem dX5_next_102 : decode cX5_next 102 = .ok (.iload_n 1, 1) := dk_27 (dk_at dksX5_next_4 7 rfl rfl)
theorem dX5_next_103 : decode cX5_next 103 = .ok (.invokestatic 164, 3) := dk_184 0 164 (dk_at dksX5_next_4 8 rfl rfl)
theorem dX5_next_106 : decode cX5_next 106 = .ok (.ifCond .ne 58, 3) := dk_154 0 58 (dk_at dksX5_next_4 11 rfl rfl)
theorem dX5_next_109 : decode cX5_next 109 = .ok (.aload_n 0, 1) := dk_42 (dk_at dksX5_next_4 14 rfl rfl)
theorem dX5_next_110 : decode cX5_next 110 = .ok (.iload_n 1, 1) := dk_27 (dk_at dksX5_next_4 15 rfl rfl)
theorem dX5_next_111 : decode cX5_next 111 = .ok (.bipush 59, 2) := dk_16 59 (dk_at dksX5_next_4 16 rfl rfl)
theorem dX5_next_113 : decode cX5_next 113 = .ok (.if_icmp .eq 27, 3) := dk_159 0 27 (dk_at dksX5_next_4 18 rfl rfl)
theorem dX5_next_116 : decode cX5_next 116 = .ok (.iload_n 1, 1) := dk_27 (dk_at dksX5_next_4 21 rfl rfl)
theorem dX5_next_117 : decode cX5_next 117 = .ok (.bipush 40, 2) := dk_16 40 (dk_at dksX5_next_4 22 rfl rfl)
theorem dX5_next_119 : decode cX5_next 119 = .ok (.if_icmp .eq 21, 3) := dk_159 0 21 (dk_at dksX5_next_5 0 rfl rfl)
theorem dX5_next_122 : decode cX5_next 122 = .ok (.iload_n 1, 1) := dk_27 (dk_at dksX5_next_5 3 rfl rfl)
theorem dX5_next_123 : decode cX5_next 123 = .ok (.bipush 41, 2) := dk_16 41 (dk_at dksX5_next_5 4 rfl rfl)
theorem dX5_next_125 : decode cX5_next 125 = .ok (.if_icmp .eq 15, 3) := dk_159 0 15 (dk_at dksX5_next_5 6 rfl rfl)
theorem dX5_next_128 : decode cX5_next 128 = .ok (.iload_n 1, 1) := dk_27 (dk_at dksX5_next_5 9 rfl rfl)
theorem dX5_next_129 : decode cX5_next 129 = .ok (.bipush 60, 2) := dk_16 60 (dk_at dksX5_next_5 10 rfl rfl)
theorem dX5_next_131 : decode cX5_next 131 = .ok (.if_icmp .lt 13, 3) := dk_161 0 13 (dk_at dksX5_next_5 12 rfl rfl)
theorem dX5_next_134 : decode cX5_next 134 = .ok (.iload_n 1, 1) := dk_27 (dk_at dksX5_next_5 15 rfl rfl)
theorem dX5_next_135 : decode cX5_next 135 = .ok (.bipush 62, 2) := dk_16 62 (dk_at dksX5_next_5 16 rfl rfl)
theorem dX5_next_137 : decode cX5_next 137 = .ok (.if_icmp .gt 7, 3) := dk_163 0 7 (dk_at dksX5_next_5 18 rfl rfl)
theorem dX5_next_140 : decode cX5_next 140 = .ok (.iconst 3, 1) := dk_6 (dk_at dksX5_next_5 21 rfl rfl)
theorem dX5_next_141 : decode cX5_next 141 = .ok (.goto 4, 3) := dk_167 0 4 (dk_at dksX5_next_6 0 rfl rfl)
theorem dX5_next_144 : decode cX5_next 144 = .ok (.iconst 4, 1) := dk_7 (dk_at dksX5_next_6 3 rfl rfl)
theorem dX5_next_145 : decode cX5_next 145 = .ok (.putfield 157, 3) := dk_181 0 157 (dk_at dksX5_next_6 4 rfl rfl)
theorem dX5_next_148 : decode cX5_next 148 = .ok (.aload_n 0, 1) := dk_42 (dk_at dksX5_next_6 7 rfl rfl)
theorem dX5_next_149 : decode cX5_next 149 = .ok (.iload_n 1, 1) := dk_27 (dk_at dksX5_next_6 8 rfl rfl)
theorem dX5_next_150 : decode cX5_next 150 = .ok (.putfield 167, 3) := dk_181 0 167 (dk_at dksX5_next_6 9 rfl rfl)
theorem dX5_next_153 : decode cX5_next 153 = .ok (.aload_n 0, 1) := dk_42 (dk_at dksX5_next_6 12 rfl rfl)
theorem dX5_next_154 : decode cX5_next 154 = .ok (.dup, 1) := dk_89 (dk_at dksX5_next_6 13 rfl rfl)
theorem dX5_next_155 : decode cX5_next 155 = .ok (.getfield 21, 3) := dk_180 0 21 (dk_at dksX5_next_6 14 rfl rfl)
theorem dX5_next_158 : decode cX5_next 158 = .ok (.iconst 1, 1) := dk_4 (dk_at dksX5_next_6 17 rfl rfl)
theorem dX5_next_159 : decode cX5_next 159 = .ok (.iadd, 1) := dk_96 (dk_at dksX5_next_6 18 rfl rfl)
theorem dX5_next_160 : decode cX5_next 160 = .ok (.putfield 21, 3) := dk_181 0 21 (dk_at dksX5_next_6 19 rfl rfl)
theorem dX5_next_163 : decode cX5_next 163 = .ok (.return_, 1) := dk_177 (dk_at dksX5_next_6 22 rfl rfl)
theorem dX5_next_164 : decode cX5_next 164 = .ok (.iload_n 1, 1) := dk_27 (dk_at dksX5_next_6 23 rfl rfl)
theorem dX5_next_165 : decode cX5_next 165 = .ok (.invokestatic 160, 3) := dk_184 0 160 (dk_at dksX5_next_7 0 rfl rfl)
theorem dX5_next_168 : decode cX5_next 168 = .ok (.istore_n 2, 1) := dk_61 (dk_at dksX5_next_7 3 rfl rfl)
theorem dX5_next_169 : decode cX5_next 169 = .ok (.iconst 1, 1) := dk_4 (dk_at dksX5_next_7 4 rfl rfl)
theorem dX5_next_170 : decode cX5_next 170 = .ok (.istore_n 3, 1) := dk_62 (dk_at dksX5_next_7 5 rfl rfl)
theorem dX5_next_171 : decode cX5_next 171 = .ok (.aload_n 0, 1) := dk_42 (dk_at dksX5_next_7 6 rfl rfl)
theorem dX5_next_172 : decode cX5_next 172 = .ok (.lconst 0, 1) := dk_9 (dk_at dksX5_next_7 7 rfl rfl)
theorem dX5_next_173 : decode cX5_next 173 = .ok (.putfield 170, 3) := dk_181 0 170 (dk_at dksX5_next_7 8 rfl rfl)
theorem dX5_next_176 : decode cX5_next 176 = .ok (.aload_n 0, 1) := dk_42 (dk_at dksX5_next_7 11 rfl rfl)
theorem dX5_next_177 : decode cX5_next 177 = .ok (.iconst 0, 1) := dk_3 (dk_at dksX5_next_7 12 rfl rfl)
theorem dX5_next_178 : decode cX5_next 178 = .ok (.putfield 167, 3) := dk_181 0 167 (dk_at dksX5_next_7 13 rfl rfl)
theorem dX5_next_181 : decode cX5_next 181 = .ok (.aload_n 0, 1) := dk_42 (dk_at dksX5_next_7 16 rfl rfl)
theorem dX5_next_182 : decode cX5_next 182 = .ok (.invokevirtual 147, 3) := dk_182 0 147 (dk_at dksX5_next_7 17 rfl rfl)
theorem dX5_next_185 : decode cX5_next 185 = .ok (.invokestatic 160, 3) := dk_184 0 160 (dk_at dksX5_next_7 20 rfl rfl)
theorem dX5_next_188 : decode cX5_next 188 = .ok (.ifCond .ne 13, 3) := dk_154 0 13 (dk_at dksX5_next_8 0 rfl rfl)
theorem dX5_next_191 : decode cX5_next 191 = .ok (.aload_n 0, 1) := dk_42 (dk_at dksX5_next_8 3 rfl rfl)
theorem dX5_next_192 : decode cX5_next 192 = .ok (.invokevirtual 147, 3) := dk_182 0 147 (dk_at dksX5_next_8 4 rfl rfl)
theorem dX5_next_195 : decode cX5_next 195 = .ok (.invokestatic 164, 3) := dk_184 0 164 (dk_at dksX5_next_8 7 rfl rfl)
theorem dX5_next_198 : decode cX5_next 198 = .ok (.ifCond .eq 100, 3) := dk_153 0 100 (dk_at dksX5_next_8 10 rfl rfl)
theorem dX5_next_201 : decode cX5_next 201 = .ok (.iload_n 3, 1) := dk_29 (dk_at dksX5_next_8 13 rfl rfl)
theorem dX5_next_202 : decode cX5_next 202 = .ok (.ifCond .eq 18, 3) := dk_153 0 18 (dk_at dksX5_next_8 14 rfl rfl)
theorem dX5_next_205 : decode cX5_next 205 = .ok (.aload_n 0, 1) := dk_42 (dk_at dksX5_next_8 17 rfl rfl)
theorem dX5_next_206 : decode cX5_next 206 = .ok (.invokevirtual 147, 3) := dk_182 0 147 (dk_at dksX5_next_8 18 rfl rfl)
theorem dX5_next_209 : decode cX5_next 209 = .ok (.invokestatic 160, 3) := dk_184 0 160 (dk_at dksX5_next_8 21 rfl rfl)
theorem dX5_next_212 : decode cX5_next 212 = .ok (.iload_n 2, 1) := dk_28 (dk_at dksX5_next_9 0 rfl rfl)
theorem dX5_next_213 : decode cX5_next 213 = .ok (.if_icmp .ne 7, 3) := dk_160 0 7 (dk_at dksX5_next_9 1 rfl rfl)
theorem dX5_next_216 : decode cX5_next 216 = .ok (.iconst 1, 1) := dk_4 (dk_at dksX5_next_9 4 rfl rfl)
theorem dX5_next_217 : decode cX5_next 217 = .ok (.goto 4, 3) := dk_167 0 4 (dk_at dksX5_next_9 5 rfl rfl)
theorem dX5_next_220 : decode cX5_next 220 = .ok (.iconst 0, 1) := dk_3 (dk_at dksX5_next_9 8 rfl rfl)
theorem dX5_next_221 : decode cX5_next 221 = .ok (.istore_n 3, 1) := dk_62 (dk_at dksX5_next_9 9 rfl rfl)
theorem dX5_next_222 : decode cX5_next 222 = .ok (.aload_n 0, 1) := dk_42 (dk_at dksX5_next_9 10 rfl rfl)
theorem dX5_next_223 : decode cX5_next 223 = .ok (.getfield 154, 3) := dk_180 0 154 (dk_at dksX5_next_9 11 rfl rfl)
theorem dX5_next_226 : decode cX5_next 226 = .ok (.bipush 7, 2) := dk_16 7 (dk_at dksX5_next_9 14 rfl rfl)
theorem dX5_next_228 : decode cX5_next 228 = .ok (.if_icmp .ge 20, 3) := dk_162 0 20 (dk_at dksX5_next_9 16 rfl rfl)
theorem dX5_next_231 : decode cX5_next 231 = .ok (.aload_n 0, 1) := dk_42 (dk_at dksX5_next_9 19 rfl rfl)
theorem dX5_next_232 : decode cX5_next 232 = .ok (.aload_n 0, 1) := dk_42 (dk_at dksX5_next_9 20 rfl rfl)
theorem dX5_next_233 : decode cX5_next 233 = .ok (.getfield 170, 3) := dk_180 0 170 (dk_at dksX5_next_9 21 rfl rfl)
theorem dX5_next_236 : decode cX5_next 236 = .ok (.bipush 8, 2) := dk_16 8 (dk_at dksX5_next_10 0 rfl rfl)
theorem dX5_next_238 : decode cX5_next 238 = .ok (.lshl, 1) := dk_121 (dk_at dksX5_next_10 2 rfl rfl)
theorem dX5_next_239 : decode cX5_next 239 = .ok (.aload_n 0, 1) := dk_42 (dk_at dksX5_next_10 3 rfl rfl)
theorem dX5_next_240 : decode cX5_next 240 = .ok (.invokevirtual 147, 3) := dk_182 0 147 (dk_at dksX5_next_10 4 rfl rfl)
theorem dX5_next_243 : decode cX5_next 243 = .ok (.i2l, 1) := dk_133 (dk_at dksX5_next_10 7 rfl rfl)
theorem dX5_next_244 : decode cX5_next 244 = .ok (.lor, 1) := dk_129 (dk_at dksX5_next_10 8 rfl rfl)
theorem dX5_next_245 : decode cX5_next 245 = .ok (.putfield 170, 3) := dk_181 0 170 (dk_at dksX5_next_10 9 rfl rfl)
theorem dX5_next_248 : decode cX5_next 248 = .ok (.aload_n 0, 1) := dk_42 (dk_at dksX5_next_10 12 rfl rfl)
theorem dX5_next_249 : decode cX5_next 249 = .ok (.getfield 154, 3) := dk_180 0 154 (dk_at dksX5_next_10 13 rfl rfl)
theorem dX5_next_252 : decode cX5_next 252 = .ok (.iconst 3, 1) := dk_6 (dk_at dksX5_next_10 16 rfl rfl)
theorem dX5_next_253 : decode cX5_next 253 = .ok (.if_icmp .ge 22, 3) := dk_162 0 22 (dk_at dksX5_next_10 17 rfl rfl)
theorem dX5_next_256 : decode cX5_next 256 = .ok (.aload_n 0, 1) := dk_42 (dk_at dksX5_next_10 20 rfl rfl)
theorem dX5_next_257 : decode cX5_next 257 = .ok (.bipush 10, 2) := dk_16 10 (dk_at dksX5_next_10 21 rfl rfl)
theorem dX5_next_259 : decode cX5_next 259 = .ok (.aload_n 0, 1) := dk_42 (dk_at dksX5_next_10 23 rfl rfl)
theorem dX5_next_260 : decode cX5_next 260 = .ok (.getfield 167, 3) := dk_180 0 167 (dk_at dksX5_next_11 0 rfl rfl)
theorem dX5_next_263 : decode cX5_next 263 = .ok (.imul, 1) := dk_104 (dk_at dksX5_next_11 3 rfl rfl)
theorem dX5_next_264 : decode cX5_next 264 = .ok (.aload_n 0, 1) := dk_42 (dk_at dksX5_next_11 4 rfl rfl)
theorem dX5_next_265 : decode cX5_next 265 = .ok (.invokevirtual 147, 3) := dk_182 0 147 (dk_at dksX5_next_11 5 rfl rfl)
theorem dX5_next_268 : decode cX5_next 268 = .ok (.iadd, 1) := dk_96 (dk_at dksX5_next_11 8 rfl rfl)
theorem dX5_next_269 : decode cX5_next 269 = .ok (.bipush 48, 2) := dk_16 48 (dk_at dksX5_next_11 9 rfl rfl)
theorem dX5_next_271 : decode cX5_next 271 = .ok (.isub, 1) := dk_100 (dk_at dksX5_next_11 11 rfl rfl)
theorem dX5_next_272 : decode cX5_next 272 = .ok (.putfield 167, 3) := dk_181 0 167 (dk_at dksX5_next_11 12 rfl rfl)
theorem dX5_next_275 : decode cX5_next 275 = .ok (.aload_n 0, 1) := dk_42 (dk_at dksX5_next_11 15 rfl rfl)
theorem dX5_next_276 : decode cX5_next 276 = .ok (.dup, 1) := dk_89 (dk_at dksX5_next_11 16 rfl rfl)
theorem dX5_next_277 : decode cX5_next 277 = .ok (.getfield 154, 3) := dk_180 0 154 (dk_at dksX5_next_11 17 rfl rfl)
theorem dX5_next_280 : decode cX5_next 280 = .ok (.iconst 1, 1) := dk_4 (dk_at dksX5_next_11 20 rfl rfl)
theorem dX5_next_281 : decode cX5_next 281 = .ok (.iadd, 1) := dk_96 (dk_at dksX5_next_11 21 rfl rfl)
theorem dX5_next_282 : decode cX5_next 282 = .ok (.putfield 154, 3) := dk_181 0 154 (dk_at dksX5_next_12 0 rfl rfl)
theorem dX5_next_285 : decode cX5_next 285 = .ok (.aload_n 0, 1) := dk_42 (dk_at dksX5_next_12 3 rfl rfl)
theorem dX5_next_286 : decode cX5_next 286 = .ok (.dup, 1) := dk_89 (dk_at dksX5_next_12 4 rfl rfl)
theorem dX5_next_287 : decode cX5_next 287 = .ok (.getfield 21, 3) := dk_180 0 21 (dk_at dksX5_next_12 5 rfl rfl)
theorem dX5_next_290 : decode cX5_next 290 = .ok (.iconst 1, 1) := dk_4 (dk_at dksX5_next_12 8 rfl rfl)
theorem dX5_next_291 : decode cX5_next 291 = .ok (.iadd, 1) := dk_96 (dk_at dksX5_next_12 9 rfl rfl)
theorem dX5_next_292 : decode cX5_next 292 = .ok (.putfield 21, 3) := dk_181 0 21 (dk_at dksX5_next_12 10 rfl rfl)
theorem dX5_next_295 : decode cX5_next 295 = .ok (.goto (-114), 3) := dk_167 255 142 (dk_at dksX5_next_12 13 rfl rfl)
theorem dX5_next_298 : decode cX5_next 298 = .ok (.aload_n 0, 1) := dk_42 (dk_at dksX5_next_12 16 rfl rfl)
theorem dX5_next_299 : decode cX5_next 299 = .ok (.iload_n 3, 1) := dk_29 (dk_at dksX5_next_12 17 rfl rfl)
theorem dX5_next_300 : decode cX5_next 300 = .ok (.ifCond .eq 20, 3) := dk_153 0 20 (dk_at dksX5_next_12 18 rfl rfl)
theorem dX5_next_303 : decode cX5_next 303 = .ok (.aload_n 0, 1) := dk_42 (dk_at dksX5_next_12 21 rfl rfl)
theorem dX5_next_304 : decode cX5_next 304 = .ok (.getfield 154, 3) := dk_180 0 154 (dk_at dksX5_next_13 0 rfl rfl)
theorem dX5_next_307 : decode cX5_next 307 = .ok (.iload_n 2, 1) := dk_28 (dk_at dksX5_next_13 3 rfl rfl)
theorem dX5_next_308 : decode cX5_next 308 = .ok (.ifCond .eq 8, 3) := dk_153 0 8 (dk_at dksX5_next_13 4 rfl rfl)
theorem dX5_next_311 : decode cX5_next 311 = .ok (.bipush 7, 2) := dk_16 7 (dk_at dksX5_next_13 7 rfl rfl)
theorem dX5_next_313 : decode cX5_next 313 = .ok (.goto 4, 3) := dk_167 0 4 (dk_at dksX5_next_13 9 rfl rfl)
theorem dX5_next_316 : decode cX5_next 316 = .ok (.iconst 3, 1) := dk_6 (dk_at dksX5_next_13 12 rfl rfl)
theorem dX5_next_317 : decode cX5_next 317 = .ok (.if_icmp .le 7, 3) := dk_164 0 7 (dk_at dksX5_next_13 13 rfl rfl)
theorem dX5_next_320 : decode cX5_next 320 = .ok (.iconst 4, 1) := dk_7 (dk_at dksX5_next_13 16 rfl rfl)
theorem dX5_next_321 : decode cX5_next 321 = .ok (.goto 12, 3) := dk_167 0 12 (dk_at dksX5_next_13 17 rfl rfl)
theorem dX5_next_324 : decode cX5_next 324 = .ok (.iload_n 2, 1) := dk_28 (dk_at dksX5_next_13 20 rfl rfl)
theorem dX5_next_325 : decode cX5_next 325 = .ok (.ifCond .eq 7, 3) := dk_153 0 7 (dk_at dksX5_next_13 21 rfl rfl)
theorem dX5_next_328 : decode cX5_next 328 = .ok (.iconst 1, 1) := dk_4 (dk_at dksX5_next_14 0 rfl rfl)
theorem dX5_next_329 : decode cX5_next 329 = .ok (.goto 4, 3) := dk_167 0 4 (dk_at dksX5_next_14 1 rfl rfl)
theorem dX5_next_332 : decode cX5_next 332 = .ok (.iconst 2, 1) := dk_5 (dk_at dksX5_next_14 4 rfl rfl)
theorem dX5_next_333 : decode cX5_next 333 = .ok (.putfield 157, 3) := dk_181 0 157 (dk_at dksX5_next_14 5 rfl rfl)
theorem dX5_next_336 : decode cX5_next 336 = .ok (.return_, 1) := dk_177 (dk_at dksX5_next_14 8 rfl rfl)
abbrev cX5_peek : ByteArray := prog_26_method_15_code
def yX5_peek : MethodName := ⟨RX5, "peek", "()I"⟩
def dkwX5_peek_1 : List UInt8 := [167, 0, 4, 2, 172]
abbrev dktX5_peek_1 : List UInt8 := dkwX5_peek_1 ++ []
def dkwX5_peek_0 : List UInt8 := [42, 180, 0, 21, 42, 180, 0, 18, 162, 0, 19, 42, 180, 0, 14, 42, 180, 0, 21, 51, 17, 0, 255, 126]
abbrev dktX5_peek_0 : List UInt8 := dkwX5_peek_0 ++ dktX5_peek_1
theorem dksX5_peek_0 : cX5_peek.data.toList.drop 0 = dktX5_peek_0 := by decide +kernel
theorem dksX5_peek_1 : cX5_peek.data.toList.drop 24 = dktX5_peek_1 := dk_seg dksX5_peek_0 24 rfl rfl
theorem dX5_peek_0 : decode cX5_peek 0 = .ok (.aload_n 0, 1) := dk_42 (dk_at dksX5_peek_0 0 rfl rfl)
theorem dX5_peek_1 : decode cX5_peek 1 = .ok (.getfield 21, 3) := dk_180 0 21 (dk_at dksX5_peek_0 1 rfl rfl)
theorem dX5_peek_4 : decode cX5_peek 4 = .ok (.aload_n 0, 1) := dk_42 (dk_at dksX5_peek_0 4 rfl rfl)
theorem dX5_peek_5 : decode cX5_peek 5 = .ok (.getfield 18, 3) := dk_180 0 18 (dk_at dksX5_peek_0 5 rfl rfl)
theorem dX5_peek_8 : decode cX5_peek 8 = .ok (.if_icmp .ge 19, 3) := dk_162 0 19 (dk_at dksX5_peek_0 8 rfl rfl)
theorem dX5_peek_11 : decode cX5_peek 11 = .ok (.aload_n 0, 1) := dk_42 (dk_at dksX5_peek_0 11 rfl rfl)
theorem dX5_peek_12 : decode cX5_peek 12 = .ok (.getfield 14, 3) := dk_180 0 14 (dk_at dksX5_peek_0 12 rfl rfl)
theorem dX5_peek_15 : decode cX5_peek 15 = .ok (.aload_n 0, 1) := dk_42 (dk_at dksX5_peek_0 15 rfl rfl)
theorem dX5_peek_16 : decode cX5_peek 16 = .ok (.getfield 21, 3) := dk_180 0 21 (dk_at dksX5_peek_0 16 rfl rfl)
theorem dX5_peek_19 : decode cX5_peek 19 = .ok (.baload, 1) := dk_51 (dk_at dksX5_peek_0 19 rfl rfl)
theorem dX5_peek_20 : decode cX5_peek 20 = .ok (.sipush 255, 3) := dk_17 0 255 (dk_at dksX5_peek_0 20 rfl rfl)
theorem dX5_peek_23 : decode cX5_peek 23 = .ok (.iand, 1) := dk_126 (dk_at dksX5_peek_0 23 rfl rfl)
theorem dX5_peek_24 : decode cX5_peek 24 = .ok (.goto 4, 3) := dk_167 0 4 (dk_at dksX5_peek_1 0 rfl rfl)
theorem dX5_peek_27 : decode cX5_peek 27 = .ok (.iconst (-1), 1) := dk_2 (dk_at dksX5_peek_1 3 rfl rfl)
theorem dX5_peek_28 : decode cX5_peek 28 = .ok (.ireturn, 1) := dk_172 (dk_at dksX5_peek_1 4 rfl rfl)
abbrev cX5_isSmall : ByteArray := prog_26_method_16_code
def yX5_isSmall : MethodName := ⟨RX5, "isSmall", "(I)Z"⟩
def dkwX5_isSmall_0 : List UInt8 := [26, 16, 97, 161, 0, 13, 26, 16, 122, 163, 0, 7, 4, 167, 0, 4, 3, 172]
abbrev dktX5_isSmall_0 : List UInt8 := dkwX5_isSmall_0 ++ []
theorem dksX5_isSmall_0 : cX5_isSmall.data.toList.drop 0 = dktX5_isSmall_0 := by decide +kernel
theorem dX5_isSmall_0 : decode cX5_isSmall 0 = .ok (.iload_n 0, 1) := dk_26 (dk_at dksX5_isSmall_0 0 rfl rfl)
theorem dX5_isSmall_1 : decode cX5_isSmall 1 = .ok (.bipush 97, 2) := dk_16 97 (dk_at dksX5_isSmall_0 1 rfl rfl)
theorem dX5_isSmall_3 : decode cX5_isSmall 3 = .ok (.if_icmp .lt 13, 3) := dk_161 0 13 (dk_at dksX5_isSmall_0 3 rfl rfl)
theorem dX5_isSmall_6 : decode cX5_isSmall 6 = .ok (.iload_n 0, 1) := dk_26 (dk_at dksX5_isSmall_0 6 rfl rfl)
theorem dX5_isSmall_7 : decode cX5_isSmall 7 = .ok (.bipush 122, 2) := dk_16 122 (dk_at dksX5_isSmall_0 7 rfl rfl)
theorem dX5_isSmall_9 : decode cX5_isSmall 9 = .ok (.if_icmp .gt 7, 3) := dk_163 0 7 (dk_at dksX5_isSmall_0 9 rfl rfl)
theorem dX5_isSmall_12 : decode cX5_isSmall 12 = .ok (.iconst 1, 1) := dk_4 (dk_at dksX5_isSmall_0 12 rfl rfl)
theorem dX5_isSmall_13 : decode cX5_isSmall 13 = .ok (.goto 4, 3) := dk_167 0 4 (dk_at dksX5_isSmall_0 13 rfl rfl)
theorem dX5_isSmall_16 : decode cX5_isSmall 16 = .ok (.iconst 0, 1) := dk_3 (dk_at dksX5_isSmall_0 16 rfl rfl)
theorem dX5_isSmall_17 : decode cX5_isSmall 17 = .ok (.ireturn, 1) := dk_172 (dk_at dksX5_isSmall_0 17 rfl rfl)
abbrev cX5_isDigit : ByteArray := prog_26_method_17_code
def yX5_isDigit : MethodName := ⟨RX5, "isDigit", "(I)Z"⟩
def dkwX5_isDigit_0 : List UInt8 := [26, 16, 48, 161, 0, 13, 26, 16, 57, 163, 0, 7, 4, 167, 0, 4, 3, 172]
abbrev dktX5_isDigit_0 : List UInt8 := dkwX5_isDigit_0 ++ []
theorem dksX5_isDigit_0 : cX5_isDigit.data.toList.drop 0 = dktX5_isDigit_0 := by decide +kernel
theorem dX5_isDigit_0 : decode cX5_isDigit 0 = .ok (.iload_n 0, 1) := dk_26 (dk_at dksX5_isDigit_0 0 rfl rfl)
theorem dX5_isDigit_1 : decode cX5_isDigit 1 = .ok (.bipush 48, 2) := dk_16 48 (dk_at dksX5_isDigit_0 1 rfl rfl)
theorem dX5_isDigit_3 : decode cX5_isDigit 3 = .ok (.if_icmp .lt 13, 3) := dk_161 0 13 (dk_at dksX5_isDigit_0 3 rfl rfl)
theorem dX5_isDigit_6 : decode cX5_isDigit 6 = .ok (.iload_n 0, 1) := dk_26 (dk_at dksX5_isDigit_0 6 rfl rfl)
theorem dX5_isDigit_7 : decode cX5_isDigit 7 = .ok (.bipush 57, 2) := dk_16 57 (dk_at dksX5_isDigit_0 7 rfl rfl)
theorem dX5_isDigit_9 : decode cX5_isDigit 9 = .ok (.if_icmp .gt 7, 3) := dk_163 0 7 (dk_at dksX5_isDigit_0 9 rfl rfl)
theorem dX5_isDigit_12 : decode cX5_isDigit 12 = .ok (.iconst 1, 1) := dk_4 (dk_at dksX5_isDigit_0 12 rfl rfl)
theorem dX5_isDigit_13 : decode cX5_isDigit 13 = .ok (.goto 4, 3) := dk_167 0 4 (dk_at dksX5_isDigit_0 13 rfl rfl)
theorem dX5_isDigit_16 : decode cX5_isDigit 16 = .ok (.iconst 0, 1) := dk_3 (dk_at dksX5_isDigit_0 16 rfl rfl)
theorem dX5_isDigit_17 : decode cX5_isDigit 17 = .ok (.ireturn, 1) := dk_172 (dk_at dksX5_isDigit_0 17 rfl rfl)
abbrev cX5_line : ByteArray := prog_26_method_31_code
def yX5_line : MethodName := ⟨RX5, "line", "()Z"⟩
def dkwX5_line_6 : List UInt8 := [182, 0, 220, 153, 0, 15, 42, 5, 7, 5, 16, 30, 182, 0, 237, 167, 0, 8, 42, 4, 182, 0, 183, 172]
abbrev dktX5_line_6 : List UInt8 := dkwX5_line_6 ++ []
def dkwX5_line_5 : List UInt8 := [42, 20, 0, 110, 182, 0, 220, 153, 0, 13, 42, 4, 6, 3, 16, 9, 182, 0, 237, 172, 42, 20, 0, 112]
abbrev dktX5_line_5 : List UInt8 := dkwX5_line_5 ++ dktX5_line_6
def dkwX5_line_4 : List UInt8 := [182, 0, 234, 172, 42, 20, 0, 108, 182, 0, 220, 153, 0, 13, 42, 3, 5, 4, 16, 9, 182, 0, 237, 172]
abbrev dktX5_line_4 : List UInt8 := dkwX5_line_4 ++ dktX5_line_5
def dkwX5_line_3 : List UInt8 := [153, 0, 10, 42, 16, 117, 182, 0, 234, 172, 42, 20, 0, 106, 182, 0, 220, 153, 0, 10, 42, 16, 124]
abbrev dktX5_line_3 : List UInt8 := dkwX5_line_3 ++ dktX5_line_4
def dkwX5_line_2 : List UInt8 := [42, 20, 0, 102, 182, 0, 220, 153, 0, 9, 42, 3, 182, 0, 230, 172, 42, 20, 0, 104, 182, 0, 220]
abbrev dktX5_line_2 : List UInt8 := dkwX5_line_2 ++ dktX5_line_3
def dkwX5_line_1 : List UInt8 := [153, 0, 8, 42, 182, 0, 227, 172, 42, 20, 0, 100, 182, 0, 220, 153, 0, 9, 42, 4, 182, 0, 230, 172]
abbrev dktX5_line_1 : List UInt8 := dkwX5_line_1 ++ dktX5_line_2
def dkwX5_line_0 : List UInt8 := [42, 20, 0, 96, 182, 0, 220, 153, 0, 8, 42, 182, 0, 224, 172, 42, 20, 0, 98, 182, 0, 220]
abbrev dktX5_line_0 : List UInt8 := dkwX5_line_0 ++ dktX5_line_1
theorem dksX5_line_0 : cX5_line.data.toList.drop 0 = dktX5_line_0 := by decide +kernel
theorem dksX5_line_1 : cX5_line.data.toList.drop 22 = dktX5_line_1 := dk_seg dksX5_line_0 22 rfl rfl
theorem dksX5_line_2 : cX5_line.data.toList.drop 46 = dktX5_line_2 := dk_seg dksX5_line_1 24 rfl rfl
theorem dksX5_line_3 : cX5_line.data.toList.drop 69 = dktX5_line_3 := dk_seg dksX5_line_2 23 rfl rfl
theorem dksX5_line_4 : cX5_line.data.toList.drop 92 = dktX5_line_4 := dk_seg dksX5_line_3 23 rfl rfl
theorem dksX5_line_5 : cX5_line.data.toList.drop 116 = dktX5_line_5 := dk_seg dksX5_line_4 24 rfl rfl
theorem dksX5_line_6 : cX5_line.data.toList.drop 140 = dktX5_line_6 := dk_seg dksX5_line_5 24 rfl rfl
theorem dX5_line_0 : decode cX5_line 0 = .ok (.aload_n 0, 1) := dk_42 (dk_at dksX5_line_0 0 rfl rfl)
theorem dX5_line_1 : decode cX5_line 1 = .ok (.ldc2_w 96, 3) := dk_20 0 96 (dk_at dksX5_line_0 1 rfl rfl)
theorem dX5_line_4 : decode cX5_line 4 = .ok (.invokevirtual 220, 3) := dk_182 0 220 (dk_at dksX5_line_0 4 rfl rfl)
theorem dX5_line_7 : decode cX5_line 7 = .ok (.ifCond .eq 8, 3) := dk_153 0 8 (dk_at dksX5_line_0 7 rfl rfl)
theorem dX5_line_10 : decode cX5_line 10 = .ok (.aload_n 0, 1) := dk_42 (dk_at dksX5_line_0 10 rfl rfl)
theorem dX5_line_11 : decode cX5_line 11 = .ok (.invokevirtual 224, 3) := dk_182 0 224 (dk_at dksX5_line_0 11 rfl rfl)
theorem dX5_line_14 : decode cX5_line 14 = .ok (.ireturn, 1) := dk_172 (dk_at dksX5_line_0 14 rfl rfl)
theorem dX5_line_15 : decode cX5_line 15 = .ok (.aload_n 0, 1) := dk_42 (dk_at dksX5_line_0 15 rfl rfl)
theorem dX5_line_16 : decode cX5_line 16 = .ok (.ldc2_w 98, 3) := dk_20 0 98 (dk_at dksX5_line_0 16 rfl rfl)
theorem dX5_line_19 : decode cX5_line 19 = .ok (.invokevirtual 220, 3) := dk_182 0 220 (dk_at dksX5_line_0 19 rfl rfl)
theorem dX5_line_22 : decode cX5_line 22 = .ok (.ifCond .eq 8, 3) := dk_153 0 8 (dk_at dksX5_line_1 0 rfl rfl)
theorem dX5_line_25 : decode cX5_line 25 = .ok (.aload_n 0, 1) := dk_42 (dk_at dksX5_line_1 3 rfl rfl)
theorem dX5_line_26 : decode cX5_line 26 = .ok (.invokevirtual 227, 3) := dk_182 0 227 (dk_at dksX5_line_1 4 rfl rfl)
theorem dX5_line_29 : decode cX5_line 29 = .ok (.ireturn, 1) := dk_172 (dk_at dksX5_line_1 7 rfl rfl)
theorem dX5_line_30 : decode cX5_line 30 = .ok (.aload_n 0, 1) := dk_42 (dk_at dksX5_line_1 8 rfl rfl)
theorem dX5_line_31 : decode cX5_line 31 = .ok (.ldc2_w 100, 3) := dk_20 0 100 (dk_at dksX5_line_1 9 rfl rfl)
theorem dX5_line_34 : decode cX5_line 34 = .ok (.invokevirtual 220, 3) := dk_182 0 220 (dk_at dksX5_line_1 12 rfl rfl)
theorem dX5_line_37 : decode cX5_line 37 = .ok (.ifCond .eq 9, 3) := dk_153 0 9 (dk_at dksX5_line_1 15 rfl rfl)
theorem dX5_line_40 : decode cX5_line 40 = .ok (.aload_n 0, 1) := dk_42 (dk_at dksX5_line_1 18 rfl rfl)
theorem dX5_line_41 : decode cX5_line 41 = .ok (.iconst 1, 1) := dk_4 (dk_at dksX5_line_1 19 rfl rfl)
theorem dX5_line_42 : decode cX5_line 42 = .ok (.invokevirtual 230, 3) := dk_182 0 230 (dk_at dksX5_line_1 20 rfl rfl)
theorem dX5_line_45 : decode cX5_line 45 = .ok (.ireturn, 1) := dk_172 (dk_at dksX5_line_1 23 rfl rfl)
theorem dX5_line_46 : decode cX5_line 46 = .ok (.aload_n 0, 1) := dk_42 (dk_at dksX5_line_2 0 rfl rfl)
theorem dX5_line_47 : decode cX5_line 47 = .ok (.ldc2_w 102, 3) := dk_20 0 102 (dk_at dksX5_line_2 1 rfl rfl)
theorem dX5_line_50 : decode cX5_line 50 = .ok (.invokevirtual 220, 3) := dk_182 0 220 (dk_at dksX5_line_2 4 rfl rfl)
theorem dX5_line_53 : decode cX5_line 53 = .ok (.ifCond .eq 9, 3) := dk_153 0 9 (dk_at dksX5_line_2 7 rfl rfl)
theorem dX5_line_56 : decode cX5_line 56 = .ok (.aload_n 0, 1) := dk_42 (dk_at dksX5_line_2 10 rfl rfl)
theorem dX5_line_57 : decode cX5_line 57 = .ok (.iconst 0, 1) := dk_3 (dk_at dksX5_line_2 11 rfl rfl)
theorem dX5_line_58 : decode cX5_line 58 = .ok (.invokevirtual 230, 3) := dk_182 0 230 (dk_at dksX5_line_2 12 rfl rfl)
theorem dX5_line_61 : decode cX5_line 61 = .ok (.ireturn, 1) := dk_172 (dk_at dksX5_line_2 15 rfl rfl)
theorem dX5_line_62 : decode cX5_line 62 = .ok (.aload_n 0, 1) := dk_42 (dk_at dksX5_line_2 16 rfl rfl)
theorem dX5_line_63 : decode cX5_line 63 = .ok (.ldc2_w 104, 3) := dk_20 0 104 (dk_at dksX5_line_2 17 rfl rfl)
theorem dX5_line_66 : decode cX5_line 66 = .ok (.invokevirtual 220, 3) := dk_182 0 220 (dk_at dksX5_line_2 20 rfl rfl)
theorem dX5_line_69 : decode cX5_line 69 = .ok (.ifCond .eq 10, 3) := dk_153 0 10 (dk_at dksX5_line_3 0 rfl rfl)
theorem dX5_line_72 : decode cX5_line 72 = .ok (.aload_n 0, 1) := dk_42 (dk_at dksX5_line_3 3 rfl rfl)
theorem dX5_line_73 : decode cX5_line 73 = .ok (.bipush 117, 2) := dk_16 117 (dk_at dksX5_line_3 4 rfl rfl)
theorem dX5_line_75 : decode cX5_line 75 = .ok (.invokevirtual 234, 3) := dk_182 0 234 (dk_at dksX5_line_3 6 rfl rfl)
theorem dX5_line_78 : decode cX5_line 78 = .ok (.ireturn, 1) := dk_172 (dk_at dksX5_line_3 9 rfl rfl)
theorem dX5_line_79 : decode cX5_line 79 = .ok (.aload_n 0, 1) := dk_42 (dk_at dksX5_line_3 10 rfl rfl)
theorem dX5_line_80 : decode cX5_line 80 = .ok (.ldc2_w 106, 3) := dk_20 0 106 (dk_at dksX5_line_3 11 rfl rfl)
theorem dX5_line_83 : decode cX5_line 83 = .ok (.invokevirtual 220, 3) := dk_182 0 220 (dk_at dksX5_line_3 14 rfl rfl)
theorem dX5_line_86 : decode cX5_line 86 = .ok (.ifCond .eq 10, 3) := dk_153 0 10 (dk_at dksX5_line_3 17 rfl rfl)
theorem dX5_line_89 : decode cX5_line 89 = .ok (.aload_n 0, 1) := dk_42 (dk_at dksX5_line_3 20 rfl rfl)
theorem dX5_line_90 : decode cX5_line 90 = .ok (.bipush 124, 2) := dk_16 124 (dk_at dksX5_line_3 21 rfl rfl)
theorem dX5_line_92 : decode cX5_line 92 = .ok (.invokevirtual 234, 3) := dk_182 0 234 (dk_at dksX5_line_4 0 rfl rfl)
theorem dX5_line_95 : decode cX5_line 95 = .ok (.ireturn, 1) := dk_172 (dk_at dksX5_line_4 3 rfl rfl)
theorem dX5_line_96 : decode cX5_line 96 = .ok (.aload_n 0, 1) := dk_42 (dk_at dksX5_line_4 4 rfl rfl)
theorem dX5_line_97 : decode cX5_line 97 = .ok (.ldc2_w 108, 3) := dk_20 0 108 (dk_at dksX5_line_4 5 rfl rfl)
theorem dX5_line_100 : decode cX5_line 100 = .ok (.invokevirtual 220, 3) := dk_182 0 220 (dk_at dksX5_line_4 8 rfl rfl)
theorem dX5_line_103 : decode cX5_line 103 = .ok (.ifCond .eq 13, 3) := dk_153 0 13 (dk_at dksX5_line_4 11 rfl rfl)
theorem dX5_line_106 : decode cX5_line 106 = .ok (.aload_n 0, 1) := dk_42 (dk_at dksX5_line_4 14 rfl rfl)
theorem dX5_line_107 : decode cX5_line 107 = .ok (.iconst 0, 1) := dk_3 (dk_at dksX5_line_4 15 rfl rfl)
theorem dX5_line_108 : decode cX5_line 108 = .ok (.iconst 2, 1) := dk_5 (dk_at dksX5_line_4 16 rfl rfl)
theorem dX5_line_109 : decode cX5_line 109 = .ok (.iconst 1, 1) := dk_4 (dk_at dksX5_line_4 17 rfl rfl)
theorem dX5_line_110 : decode cX5_line 110 = .ok (.bipush 9, 2) := dk_16 9 (dk_at dksX5_line_4 18 rfl rfl)
theorem dX5_line_112 : decode cX5_line 112 = .ok (.invokevirtual 237, 3) := dk_182 0 237 (dk_at dksX5_line_4 20 rfl rfl)
theorem dX5_line_115 : decode cX5_line 115 = .ok (.ireturn, 1) := dk_172 (dk_at dksX5_line_4 23 rfl rfl)
theorem dX5_line_116 : decode cX5_line 116 = .ok (.aload_n 0, 1) := dk_42 (dk_at dksX5_line_5 0 rfl rfl)
theorem dX5_line_117 : decode cX5_line 117 = .ok (.ldc2_w 110, 3) := dk_20 0 110 (dk_at dksX5_line_5 1 rfl rfl)
theorem dX5_line_120 : decode cX5_line 120 = .ok (.invokevirtual 220, 3) := dk_182 0 220 (dk_at dksX5_line_5 4 rfl rfl)
theorem dX5_line_123 : decode cX5_line 123 = .ok (.ifCond .eq 13, 3) := dk_153 0 13 (dk_at dksX5_line_5 7 rfl rfl)
theorem dX5_line_126 : decode cX5_line 126 = .ok (.aload_n 0, 1) := dk_42 (dk_at dksX5_line_5 10 rfl rfl)
theorem dX5_line_127 : decode cX5_line 127 = .ok (.iconst 1, 1) := dk_4 (dk_at dksX5_line_5 11 rfl rfl)
theorem dX5_line_128 : decode cX5_line 128 = .ok (.iconst 3, 1) := dk_6 (dk_at dksX5_line_5 12 rfl rfl)
theorem dX5_line_129 : decode cX5_line 129 = .ok (.iconst 0, 1) := dk_3 (dk_at dksX5_line_5 13 rfl rfl)
theorem dX5_line_130 : decode cX5_line 130 = .ok (.bipush 9, 2) := dk_16 9 (dk_at dksX5_line_5 14 rfl rfl)
theorem dX5_line_132 : decode cX5_line 132 = .ok (.invokevirtual 237, 3) := dk_182 0 237 (dk_at dksX5_line_5 16 rfl rfl)
theorem dX5_line_135 : decode cX5_line 135 = .ok (.ireturn, 1) := dk_172 (dk_at dksX5_line_5 19 rfl rfl)
theorem dX5_line_136 : decode cX5_line 136 = .ok (.aload_n 0, 1) := dk_42 (dk_at dksX5_line_5 20 rfl rfl)
theorem dX5_line_137 : decode cX5_line 137 = .ok (.ldc2_w 112, 3) := dk_20 0 112 (dk_at dksX5_line_5 21 rfl rfl)
theorem dX5_line_140 : decode cX5_line 140 = .ok (.invokevirtual 220, 3) := dk_182 0 220 (dk_at dksX5_line_6 0 rfl rfl)
theorem dX5_line_143 : decode cX5_line 143 = .ok (.ifCond .eq 15, 3) := dk_153 0 15 (dk_at dksX5_line_6 3 rfl rfl)
theorem dX5_line_146 : decode cX5_line 146 = .ok (.aload_n 0, 1) := dk_42 (dk_at dksX5_line_6 6 rfl rfl)
theorem dX5_line_147 : decode cX5_line 147 = .ok (.iconst 2, 1) := dk_5 (dk_at dksX5_line_6 7 rfl rfl)
theorem dX5_line_148 : decode cX5_line 148 = .ok (.iconst 4, 1) := dk_7 (dk_at dksX5_line_6 8 rfl rfl)
theorem dX5_line_149 : decode cX5_line 149 = .ok (.iconst 2, 1) := dk_5 (dk_at dksX5_line_6 9 rfl rfl)
theorem dX5_line_150 : decode cX5_line 150 = .ok (.bipush 30, 2) := dk_16 30 (dk_at dksX5_line_6 10 rfl rfl)
theorem dX5_line_152 : decode cX5_line 152 = .ok (.invokevirtual 237, 3) := dk_182 0 237 (dk_at dksX5_line_6 12 rfl rfl)
theorem dX5_line_155 : decode cX5_line 155 = .ok (.goto 8, 3) := dk_167 0 8 (dk_at dksX5_line_6 15 rfl rfl)
theorem dX5_line_158 : decode cX5_line 158 = .ok (.aload_n 0, 1) := dk_42 (dk_at dksX5_line_6 18 rfl rfl)
theorem dX5_line_159 : decode cX5_line 159 = .ok (.iconst 1, 1) := dk_4 (dk_at dksX5_line_6 19 rfl rfl)
theorem dX5_line_160 : decode cX5_line 160 = .ok (.invokevirtual 183, 3) := dk_182 0 183 (dk_at dksX5_line_6 20 rfl rfl)
theorem dX5_line_163 : decode cX5_line 163 = .ok (.ireturn, 1) := dk_172 (dk_at dksX5_line_6 23 rfl rfl)
abbrev cX5_isWord : ByteArray := prog_26_method_20_code
def yX5_isWord : MethodName := ⟨RX5, "isWord", "(J)Z"⟩
def dkwX5_isWord_0 : List UInt8 := [42, 180, 0, 157, 4, 160, 0, 16, 42, 180, 0, 170, 31, 148, 154, 0, 7, 4, 167, 0, 4, 3, 172]
abbrev dktX5_isWord_0 : List UInt8 := dkwX5_isWord_0 ++ []
theorem dksX5_isWord_0 : cX5_isWord.data.toList.drop 0 = dktX5_isWord_0 := by decide +kernel
theorem dX5_isWord_0 : decode cX5_isWord 0 = .ok (.aload_n 0, 1) := dk_42 (dk_at dksX5_isWord_0 0 rfl rfl)
theorem dX5_isWord_1 : decode cX5_isWord 1 = .ok (.getfield 157, 3) := dk_180 0 157 (dk_at dksX5_isWord_0 1 rfl rfl)
theorem dX5_isWord_4 : decode cX5_isWord 4 = .ok (.iconst 1, 1) := dk_4 (dk_at dksX5_isWord_0 4 rfl rfl)
theorem dX5_isWord_5 : decode cX5_isWord 5 = .ok (.if_icmp .ne 16, 3) := dk_160 0 16 (dk_at dksX5_isWord_0 5 rfl rfl)
theorem dX5_isWord_8 : decode cX5_isWord 8 = .ok (.aload_n 0, 1) := dk_42 (dk_at dksX5_isWord_0 8 rfl rfl)
theorem dX5_isWord_9 : decode cX5_isWord 9 = .ok (.getfield 170, 3) := dk_180 0 170 (dk_at dksX5_isWord_0 9 rfl rfl)
theorem dX5_isWord_12 : decode cX5_isWord 12 = .ok (.lload_n 1, 1) := dk_31 (dk_at dksX5_isWord_0 12 rfl rfl)
theorem dX5_isWord_13 : decode cX5_isWord 13 = .ok (.lcmp, 1) := dk_148 (dk_at dksX5_isWord_0 13 rfl rfl)
theorem dX5_isWord_14 : decode cX5_isWord 14 = .ok (.ifCond .ne 7, 3) := dk_154 0 7 (dk_at dksX5_isWord_0 14 rfl rfl)
theorem dX5_isWord_17 : decode cX5_isWord 17 = .ok (.iconst 1, 1) := dk_4 (dk_at dksX5_isWord_0 17 rfl rfl)
theorem dX5_isWord_18 : decode cX5_isWord 18 = .ok (.goto 4, 3) := dk_167 0 4 (dk_at dksX5_isWord_0 18 rfl rfl)
theorem dX5_isWord_21 : decode cX5_isWord 21 = .ok (.iconst 0, 1) := dk_3 (dk_at dksX5_isWord_0 21 rfl rfl)
theorem dX5_isWord_22 : decode cX5_isWord 22 = .ok (.ireturn, 1) := dk_172 (dk_at dksX5_isWord_0 22 rfl rfl)
abbrev cX5_readPerson : ByteArray := prog_26_method_32_code
def yX5_readPerson : MethodName := ⟨RX5, "readPerson", "()Z"⟩
def dkwX5_readPerson_2 : List UInt8 := [172, 42, 180, 0, 37, 3, 92, 46, 4, 96, 79, 4, 172]
abbrev dktX5_readPerson_2 : List UInt8 := dkwX5_readPerson_2 ++ []
def dkwX5_readPerson_1 : List UInt8 := [16, 12, 27, 96, 182, 0, 241, 153, 0, 16, 42, 8, 27, 96, 3, 16, 99, 182, 0, 217, 154, 0, 5, 3]
abbrev dktX5_readPerson_1 : List UInt8 := dkwX5_readPerson_1 ++ dktX5_readPerson_2
def dkwX5_readPerson_0 : List UInt8 := [42, 180, 0, 37, 3, 46, 60, 27, 16, 7, 160, 0, 9, 42, 7, 182, 0, 183, 172, 42, 182, 0, 186, 42]
abbrev dktX5_readPerson_0 : List UInt8 := dkwX5_readPerson_0 ++ dktX5_readPerson_1
theorem dksX5_readPerson_0 : cX5_readPerson.data.toList.drop 0 = dktX5_readPerson_0 := by decide +kernel
theorem dksX5_readPerson_1 : cX5_readPerson.data.toList.drop 24 = dktX5_readPerson_1 := dk_seg dksX5_readPerson_0 24 rfl rfl
theorem dksX5_readPerson_2 : cX5_readPerson.data.toList.drop 48 = dktX5_readPerson_2 := dk_seg dksX5_readPerson_1 24 rfl rfl
theorem dX5_readPerson_0 : decode cX5_readPerson 0 = .ok (.aload_n 0, 1) := dk_42 (dk_at dksX5_readPerson_0 0 rfl rfl)
theorem dX5_readPerson_1 : decode cX5_readPerson 1 = .ok (.getfield 37, 3) := dk_180 0 37 (dk_at dksX5_readPerson_0 1 rfl rfl)
theorem dX5_readPerson_4 : decode cX5_readPerson 4 = .ok (.iconst 0, 1) := dk_3 (dk_at dksX5_readPerson_0 4 rfl rfl)
theorem dX5_readPerson_5 : decode cX5_readPerson 5 = .ok (.iaload, 1) := dk_46 (dk_at dksX5_readPerson_0 5 rfl rfl)
theorem dX5_readPerson_6 : decode cX5_readPerson 6 = .ok (.istore_n 1, 1) := dk_60 (dk_at dksX5_readPerson_0 6 rfl rfl)
theorem dX5_readPerson_7 : decode cX5_readPerson 7 = .ok (.iload_n 1, 1) := dk_27 (dk_at dksX5_readPerson_0 7 rfl rfl)
theorem dX5_readPerson_8 : decode cX5_readPerson 8 = .ok (.bipush 7, 2) := dk_16 7 (dk_at dksX5_readPerson_0 8 rfl rfl)
theorem dX5_readPerson_10 : decode cX5_readPerson 10 = .ok (.if_icmp .ne 9, 3) := dk_160 0 9 (dk_at dksX5_readPerson_0 10 rfl rfl)
theorem dX5_readPerson_13 : decode cX5_readPerson 13 = .ok (.aload_n 0, 1) := dk_42 (dk_at dksX5_readPerson_0 13 rfl rfl)
theorem dX5_readPerson_14 : decode cX5_readPerson 14 = .ok (.iconst 4, 1) := dk_7 (dk_at dksX5_readPerson_0 14 rfl rfl)
theorem dX5_readPerson_15 : decode cX5_readPerson 15 = .ok (.invokevirtual 183, 3) := dk_182 0 183 (dk_at dksX5_readPerson_0 15 rfl rfl)
theorem dX5_readPerson_18 : decode cX5_readPerson 18 = .ok (.ireturn, 1) := dk_172 (dk_at dksX5_readPerson_0 18 rfl rfl)
theorem dX5_readPerson_19 : decode cX5_readPerson 19 = .ok (.aload_n 0, 1) := dk_42 (dk_at dksX5_readPerson_0 19 rfl rfl)
theorem dX5_readPerson_20 : decode cX5_readPerson 20 = .ok (.invokevirtual 186, 3) := dk_182 0 186 (dk_at dksX5_readPerson_0 20 rfl rfl)
theorem dX5_readPerson_23 : decode cX5_readPerson 23 = .ok (.aload_n 0, 1) := dk_42 (dk_at dksX5_readPerson_0 23 rfl rfl)
theorem dX5_readPerson_24 : decode cX5_readPerson 24 = .ok (.bipush 12, 2) := dk_16 12 (dk_at dksX5_readPerson_1 0 rfl rfl)
theorem dX5_readPerson_26 : decode cX5_readPerson 26 = .ok (.iload_n 1, 1) := dk_27 (dk_at dksX5_readPerson_1 2 rfl rfl)
theorem dX5_readPerson_27 : decode cX5_readPerson 27 = .ok (.iadd, 1) := dk_96 (dk_at dksX5_readPerson_1 3 rfl rfl)
theorem dX5_readPerson_28 : decode cX5_readPerson 28 = .ok (.invokevirtual 241, 3) := dk_182 0 241 (dk_at dksX5_readPerson_1 4 rfl rfl)
theorem dX5_readPerson_31 : decode cX5_readPerson 31 = .ok (.ifCond .eq 16, 3) := dk_153 0 16 (dk_at dksX5_readPerson_1 7 rfl rfl)
theorem dX5_readPerson_34 : decode cX5_readPerson 34 = .ok (.aload_n 0, 1) := dk_42 (dk_at dksX5_readPerson_1 10 rfl rfl)
theorem dX5_readPerson_35 : decode cX5_readPerson 35 = .ok (.iconst 5, 1) := dk_8 (dk_at dksX5_readPerson_1 11 rfl rfl)
theorem dX5_readPerson_36 : decode cX5_readPerson 36 = .ok (.iload_n 1, 1) := dk_27 (dk_at dksX5_readPerson_1 12 rfl rfl)
theorem dX5_readPerson_37 : decode cX5_readPerson 37 = .ok (.iadd, 1) := dk_96 (dk_at dksX5_readPerson_1 13 rfl rfl)
theorem dX5_readPerson_38 : decode cX5_readPerson 38 = .ok (.iconst 0, 1) := dk_3 (dk_at dksX5_readPerson_1 14 rfl rfl)
theorem dX5_readPerson_39 : decode cX5_readPerson 39 = .ok (.bipush 99, 2) := dk_16 99 (dk_at dksX5_readPerson_1 15 rfl rfl)
theorem dX5_readPerson_41 : decode cX5_readPerson 41 = .ok (.invokevirtual 217, 3) := dk_182 0 217 (dk_at dksX5_readPerson_1 17 rfl rfl)
theorem dX5_readPerson_44 : decode cX5_readPerson 44 = .ok (.ifCond .ne 5, 3) := dk_154 0 5 (dk_at dksX5_readPerson_1 20 rfl rfl)
theorem dX5_readPerson_47 : decode cX5_readPerson 47 = .ok (.iconst 0, 1) := dk_3 (dk_at dksX5_readPerson_1 23 rfl rfl)
theorem dX5_readPerson_48 : decode cX5_readPerson 48 = .ok (.ireturn, 1) := dk_172 (dk_at dksX5_readPerson_2 0 rfl rfl)
theorem dX5_readPerson_49 : decode cX5_readPerson 49 = .ok (.aload_n 0, 1) := dk_42 (dk_at dksX5_readPerson_2 1 rfl rfl)
theorem dX5_readPerson_50 : decode cX5_readPerson 50 = .ok (.getfield 37, 3) := dk_180 0 37 (dk_at dksX5_readPerson_2 2 rfl rfl)
theorem dX5_readPerson_53 : decode cX5_readPerson 53 = .ok (.iconst 0, 1) := dk_3 (dk_at dksX5_readPerson_2 5 rfl rfl)
theorem dX5_readPerson_54 : decode cX5_readPerson 54 = .ok (.dup2, 1) := dk_92 (dk_at dksX5_readPerson_2 6 rfl rfl)
theorem dX5_readPerson_55 : decode cX5_readPerson 55 = .ok (.iaload, 1) := dk_46 (dk_at dksX5_readPerson_2 7 rfl rfl)
theorem dX5_readPerson_56 : decode cX5_readPerson 56 = .ok (.iconst 1, 1) := dk_4 (dk_at dksX5_readPerson_2 8 rfl rfl)
theorem dX5_readPerson_57 : decode cX5_readPerson 57 = .ok (.iadd, 1) := dk_96 (dk_at dksX5_readPerson_2 9 rfl rfl)
theorem dX5_readPerson_58 : decode cX5_readPerson 58 = .ok (.iastore, 1) := dk_79 (dk_at dksX5_readPerson_2 10 rfl rfl)
theorem dX5_readPerson_59 : decode cX5_readPerson 59 = .ok (.iconst 1, 1) := dk_4 (dk_at dksX5_readPerson_2 11 rfl rfl)
theorem dX5_readPerson_60 : decode cX5_readPerson 60 = .ok (.ireturn, 1) := dk_172 (dk_at dksX5_readPerson_2 12 rfl rfl)
abbrev cX5_bad : ByteArray := prog_26_method_19_code
def yX5_bad : MethodName := ⟨RX5, "bad", "(I)Z"⟩
def dkwX5_bad_0 : List UInt8 := [42, 27, 181, 0, 174, 42, 42, 180, 0, 151, 181, 0, 177, 3, 172]
abbrev dktX5_bad_0 : List UInt8 := dkwX5_bad_0 ++ []
theorem dksX5_bad_0 : cX5_bad.data.toList.drop 0 = dktX5_bad_0 := by decide +kernel
theorem dX5_bad_0 : decode cX5_bad 0 = .ok (.aload_n 0, 1) := dk_42 (dk_at dksX5_bad_0 0 rfl rfl)
theorem dX5_bad_1 : decode cX5_bad 1 = .ok (.iload_n 1, 1) := dk_27 (dk_at dksX5_bad_0 1 rfl rfl)
theorem dX5_bad_2 : decode cX5_bad 2 = .ok (.putfield 174, 3) := dk_181 0 174 (dk_at dksX5_bad_0 2 rfl rfl)
theorem dX5_bad_5 : decode cX5_bad 5 = .ok (.aload_n 0, 1) := dk_42 (dk_at dksX5_bad_0 5 rfl rfl)
theorem dX5_bad_6 : decode cX5_bad 6 = .ok (.aload_n 0, 1) := dk_42 (dk_at dksX5_bad_0 6 rfl rfl)
theorem dX5_bad_7 : decode cX5_bad 7 = .ok (.getfield 151, 3) := dk_180 0 151 (dk_at dksX5_bad_0 7 rfl rfl)
theorem dX5_bad_10 : decode cX5_bad 10 = .ok (.putfield 177, 3) := dk_181 0 177 (dk_at dksX5_bad_0 10 rfl rfl)
theorem dX5_bad_13 : decode cX5_bad 13 = .ok (.iconst 0, 1) := dk_3 (dk_at dksX5_bad_0 13 rfl rfl)
theorem dX5_bad_14 : decode cX5_bad 14 = .ok (.ireturn, 1) := dk_172 (dk_at dksX5_bad_0 14 rfl rfl)
abbrev cX5_fresh : ByteArray := prog_26_method_27_code
def yX5_fresh : MethodName := ⟨RX5, "fresh", "(I)Z"⟩
def dkwX5_fresh_2 : List UInt8 := [182, 0, 183, 172, 42, 180, 0, 43, 27, 42, 180, 0, 170, 80, 42, 182, 0, 186, 4, 172]
abbrev dktX5_fresh_2 : List UInt8 := dkwX5_fresh_2 ++ []
def dkwX5_fresh_1 : List UInt8 := [182, 0, 204, 156, 0, 18, 42, 16, 19, 42, 180, 0, 37, 4, 46, 182, 0, 204, 155, 0, 9, 42, 6]
abbrev dktX5_fresh_1 : List UInt8 := dkwX5_fresh_1 ++ dktX5_fresh_2
def dkwX5_fresh_0 : List UInt8 := [42, 182, 0, 200, 154, 0, 9, 42, 4, 182, 0, 183, 172, 42, 16, 12, 42, 180, 0, 37, 3, 46]
abbrev dktX5_fresh_0 : List UInt8 := dkwX5_fresh_0 ++ dktX5_fresh_1
theorem dksX5_fresh_0 : cX5_fresh.data.toList.drop 0 = dktX5_fresh_0 := by decide +kernel
theorem dksX5_fresh_1 : cX5_fresh.data.toList.drop 22 = dktX5_fresh_1 := dk_seg dksX5_fresh_0 22 rfl rfl
theorem dksX5_fresh_2 : cX5_fresh.data.toList.drop 45 = dktX5_fresh_2 := dk_seg dksX5_fresh_1 23 rfl rfl
theorem dX5_fresh_0 : decode cX5_fresh 0 = .ok (.aload_n 0, 1) := dk_42 (dk_at dksX5_fresh_0 0 rfl rfl)
theorem dX5_fresh_1 : decode cX5_fresh 1 = .ok (.invokevirtual 200, 3) := dk_182 0 200 (dk_at dksX5_fresh_0 1 rfl rfl)
theorem dX5_fresh_4 : decode cX5_fresh 4 = .ok (.ifCond .ne 9, 3) := dk_154 0 9 (dk_at dksX5_fresh_0 4 rfl rfl)
theorem dX5_fresh_7 : decode cX5_fresh 7 = .ok (.aload_n 0, 1) := dk_42 (dk_at dksX5_fresh_0 7 rfl rfl)
theorem dX5_fresh_8 : decode cX5_fresh 8 = .ok (.iconst 1, 1) := dk_4 (dk_at dksX5_fresh_0 8 rfl rfl)
theorem dX5_fresh_9 : decode cX5_fresh 9 = .ok (.invokevirtual 183, 3) := dk_182 0 183 (dk_at dksX5_fresh_0 9 rfl rfl)
theorem dX5_fresh_12 : decode cX5_fresh 12 = .ok (.ireturn, 1) := dk_172 (dk_at dksX5_fresh_0 12 rfl rfl)
theorem dX5_fresh_13 : decode cX5_fresh 13 = .ok (.aload_n 0, 1) := dk_42 (dk_at dksX5_fresh_0 13 rfl rfl)
theorem dX5_fresh_14 : decode cX5_fresh 14 = .ok (.bipush 12, 2) := dk_16 12 (dk_at dksX5_fresh_0 14 rfl rfl)
theorem dX5_fresh_16 : decode cX5_fresh 16 = .ok (.aload_n 0, 1) := dk_42 (dk_at dksX5_fresh_0 16 rfl rfl)
theorem dX5_fresh_17 : decode cX5_fresh 17 = .ok (.getfield 37, 3) := dk_180 0 37 (dk_at dksX5_fresh_0 17 rfl rfl)
theorem dX5_fresh_20 : decode cX5_fresh 20 = .ok (.iconst 0, 1) := dk_3 (dk_at dksX5_fresh_0 20 rfl rfl)
theorem dX5_fresh_21 : decode cX5_fresh 21 = .ok (.iaload, 1) := dk_46 (dk_at dksX5_fresh_0 21 rfl rfl)
theorem dX5_fresh_22 : decode cX5_fresh 22 = .ok (.invokevirtual 204, 3) := dk_182 0 204 (dk_at dksX5_fresh_1 0 rfl rfl)
theorem dX5_fresh_25 : decode cX5_fresh 25 = .ok (.ifCond .ge 18, 3) := dk_156 0 18 (dk_at dksX5_fresh_1 3 rfl rfl)
theorem dX5_fresh_28 : decode cX5_fresh 28 = .ok (.aload_n 0, 1) := dk_42 (dk_at dksX5_fresh_1 6 rfl rfl)
theorem dX5_fresh_29 : decode cX5_fresh 29 = .ok (.bipush 19, 2) := dk_16 19 (dk_at dksX5_fresh_1 7 rfl rfl)
theorem dX5_fresh_31 : decode cX5_fresh 31 = .ok (.aload_n 0, 1) := dk_42 (dk_at dksX5_fresh_1 9 rfl rfl)
theorem dX5_fresh_32 : decode cX5_fresh 32 = .ok (.getfield 37, 3) := dk_180 0 37 (dk_at dksX5_fresh_1 10 rfl rfl)
theorem dX5_fresh_35 : decode cX5_fresh 35 = .ok (.iconst 1, 1) := dk_4 (dk_at dksX5_fresh_1 13 rfl rfl)
theorem dX5_fresh_36 : decode cX5_fresh 36 = .ok (.iaload, 1) := dk_46 (dk_at dksX5_fresh_1 14 rfl rfl)
theorem dX5_fresh_37 : decode cX5_fresh 37 = .ok (.invokevirtual 204, 3) := dk_182 0 204 (dk_at dksX5_fresh_1 15 rfl rfl)
theorem dX5_fresh_40 : decode cX5_fresh 40 = .ok (.ifCond .lt 9, 3) := dk_155 0 9 (dk_at dksX5_fresh_1 18 rfl rfl)
theorem dX5_fresh_43 : decode cX5_fresh 43 = .ok (.aload_n 0, 1) := dk_42 (dk_at dksX5_fresh_1 21 rfl rfl)
theorem dX5_fresh_44 : decode cX5_fresh 44 = .ok (.iconst 3, 1) := dk_6 (dk_at dksX5_fresh_1 22 rfl rfl)
theorem dX5_fresh_45 : decode cX5_fresh 45 = .ok (.invokevirtual 183, 3) := dk_182 0 183 (dk_at dksX5_fresh_2 0 rfl rfl)
theorem dX5_fresh_48 : decode cX5_fresh 48 = .ok (.ireturn, 1) := dk_172 (dk_at dksX5_fresh_2 3 rfl rfl)
theorem dX5_fresh_49 : decode cX5_fresh 49 = .ok (.aload_n 0, 1) := dk_42 (dk_at dksX5_fresh_2 4 rfl rfl)
theorem dX5_fresh_50 : decode cX5_fresh 50 = .ok (.getfield 43, 3) := dk_180 0 43 (dk_at dksX5_fresh_2 5 rfl rfl)
theorem dX5_fresh_53 : decode cX5_fresh 53 = .ok (.iload_n 1, 1) := dk_27 (dk_at dksX5_fresh_2 8 rfl rfl)
theorem dX5_fresh_54 : decode cX5_fresh 54 = .ok (.aload_n 0, 1) := dk_42 (dk_at dksX5_fresh_2 9 rfl rfl)
theorem dX5_fresh_55 : decode cX5_fresh 55 = .ok (.getfield 170, 3) := dk_180 0 170 (dk_at dksX5_fresh_2 10 rfl rfl)
theorem dX5_fresh_58 : decode cX5_fresh 58 = .ok (.lastore, 1) := dk_80 (dk_at dksX5_fresh_2 13 rfl rfl)
theorem dX5_fresh_59 : decode cX5_fresh 59 = .ok (.aload_n 0, 1) := dk_42 (dk_at dksX5_fresh_2 14 rfl rfl)
theorem dX5_fresh_60 : decode cX5_fresh 60 = .ok (.invokevirtual 186, 3) := dk_182 0 186 (dk_at dksX5_fresh_2 15 rfl rfl)
theorem dX5_fresh_63 : decode cX5_fresh 63 = .ok (.iconst 1, 1) := dk_4 (dk_at dksX5_fresh_2 18 rfl rfl)
theorem dX5_fresh_64 : decode cX5_fresh 64 = .ok (.ireturn, 1) := dk_172 (dk_at dksX5_fresh_2 19 rfl rfl)
abbrev cX5_isName : ByteArray := prog_26_method_23_code
def yX5_isName : MethodName := ⟨RX5, "isName", "()Z"⟩
def dkwX5_isName_2 : List UInt8 := [132, 2, 1, 167, 255, 223, 27, 172]
abbrev dktX5_isName_2 : List UInt8 := dkwX5_isName_2 ++ []
def dkwX5_isName_1 : List UInt8 := [153, 0, 21, 42, 180, 0, 170, 42, 180, 0, 47, 28, 47, 148, 153, 0, 7, 4, 167, 0, 4, 3, 60]
abbrev dktX5_isName_1 : List UInt8 := dkwX5_isName_1 ++ dktX5_isName_2
def dkwX5_isName_0 : List UInt8 := [42, 180, 0, 157, 4, 160, 0, 7, 4, 167, 0, 4, 3, 60, 3, 61, 28, 16, 24, 162, 0, 33, 27]
abbrev dktX5_isName_0 : List UInt8 := dkwX5_isName_0 ++ dktX5_isName_1
theorem dksX5_isName_0 : cX5_isName.data.toList.drop 0 = dktX5_isName_0 := by decide +kernel
theorem dksX5_isName_1 : cX5_isName.data.toList.drop 23 = dktX5_isName_1 := dk_seg dksX5_isName_0 23 rfl rfl
theorem dksX5_isName_2 : cX5_isName.data.toList.drop 46 = dktX5_isName_2 := dk_seg dksX5_isName_1 23 rfl rfl
theorem dX5_isName_0 : decode cX5_isName 0 = .ok (.aload_n 0, 1) := dk_42 (dk_at dksX5_isName_0 0 rfl rfl)
theorem dX5_isName_1 : decode cX5_isName 1 = .ok (.getfield 157, 3) := dk_180 0 157 (dk_at dksX5_isName_0 1 rfl rfl)
theorem dX5_isName_4 : decode cX5_isName 4 = .ok (.iconst 1, 1) := dk_4 (dk_at dksX5_isName_0 4 rfl rfl)
theorem dX5_isName_5 : decode cX5_isName 5 = .ok (.if_icmp .ne 7, 3) := dk_160 0 7 (dk_at dksX5_isName_0 5 rfl rfl)
theorem dX5_isName_8 : decode cX5_isName 8 = .ok (.iconst 1, 1) := dk_4 (dk_at dksX5_isName_0 8 rfl rfl)
theorem dX5_isName_9 : decode cX5_isName 9 = .ok (.goto 4, 3) := dk_167 0 4 (dk_at dksX5_isName_0 9 rfl rfl)
theorem dX5_isName_12 : decode cX5_isName 12 = .ok (.iconst 0, 1) := dk_3 (dk_at dksX5_isName_0 12 rfl rfl)
theorem dX5_isName_13 : decode cX5_isName 13 = .ok (.istore_n 1, 1) := dk_60 (dk_at dksX5_isName_0 13 rfl rfl)
theorem dX5_isName_14 : decode cX5_isName 14 = .ok (.iconst 0, 1) := dk_3 (dk_at dksX5_isName_0 14 rfl rfl)
theorem dX5_isName_15 : decode cX5_isName 15 = .ok (.istore_n 2, 1) := dk_61 (dk_at dksX5_isName_0 15 rfl rfl)
theorem dX5_isName_16 : decode cX5_isName 16 = .ok (.iload_n 2, 1) := dk_28 (dk_at dksX5_isName_0 16 rfl rfl)
theorem dX5_isName_17 : decode cX5_isName 17 = .ok (.bipush 24, 2) := dk_16 24 (dk_at dksX5_isName_0 17 rfl rfl)
theorem dX5_isName_19 : decode cX5_isName 19 = .ok (.if_icmp .ge 33, 3) := dk_162 0 33 (dk_at dksX5_isName_0 19 rfl rfl)
theorem dX5_isName_22 : decode cX5_isName 22 = .ok (.iload_n 1, 1) := dk_27 (dk_at dksX5_isName_0 22 rfl rfl)
theorem dX5_isName_23 : decode cX5_isName 23 = .ok (.ifCond .eq 21, 3) := dk_153 0 21 (dk_at dksX5_isName_1 0 rfl rfl)
theorem dX5_isName_26 : decode cX5_isName 26 = .ok (.aload_n 0, 1) := dk_42 (dk_at dksX5_isName_1 3 rfl rfl)
theorem dX5_isName_27 : decode cX5_isName 27 = .ok (.getfield 170, 3) := dk_180 0 170 (dk_at dksX5_isName_1 4 rfl rfl)
theorem dX5_isName_30 : decode cX5_isName 30 = .ok (.aload_n 0, 1) := dk_42 (dk_at dksX5_isName_1 7 rfl rfl)
theorem dX5_isName_31 : decode cX5_isName 31 = .ok (.getfield 47, 3) := dk_180 0 47 (dk_at dksX5_isName_1 8 rfl rfl)
theorem dX5_isName_34 : decode cX5_isName 34 = .ok (.iload_n 2, 1) := dk_28 (dk_at dksX5_isName_1 11 rfl rfl)
theorem dX5_isName_35 : decode cX5_isName 35 = .ok (.laload, 1) := dk_47 (dk_at dksX5_isName_1 12 rfl rfl)
theorem dX5_isName_36 : decode cX5_isName 36 = .ok (.lcmp, 1) := dk_148 (dk_at dksX5_isName_1 13 rfl rfl)
theorem dX5_isName_37 : decode cX5_isName 37 = .ok (.ifCond .eq 7, 3) := dk_153 0 7 (dk_at dksX5_isName_1 14 rfl rfl)
theorem dX5_isName_40 : decode cX5_isName 40 = .ok (.iconst 1, 1) := dk_4 (dk_at dksX5_isName_1 17 rfl rfl)
theorem dX5_isName_41 : decode cX5_isName 41 = .ok (.goto 4, 3) := dk_167 0 4 (dk_at dksX5_isName_1 18 rfl rfl)
theorem dX5_isName_44 : decode cX5_isName 44 = .ok (.iconst 0, 1) := dk_3 (dk_at dksX5_isName_1 21 rfl rfl)
theorem dX5_isName_45 : decode cX5_isName 45 = .ok (.istore_n 1, 1) := dk_60 (dk_at dksX5_isName_1 22 rfl rfl)
theorem dX5_isName_46 : decode cX5_isName 46 = .ok (.iinc 2 1, 3) := dk_132 2 1 (dk_at dksX5_isName_2 0 rfl rfl)
theorem dX5_isName_49 : decode cX5_isName 49 = .ok (.goto (-33), 3) := dk_167 255 223 (dk_at dksX5_isName_2 3 rfl rfl)
theorem dX5_isName_52 : decode cX5_isName 52 = .ok (.iload_n 1, 1) := dk_27 (dk_at dksX5_isName_2 6 rfl rfl)
theorem dX5_isName_53 : decode cX5_isName 53 = .ok (.ireturn, 1) := dk_172 (dk_at dksX5_isName_2 7 rfl rfl)
abbrev cX5_seek : ByteArray := prog_26_method_26_code
def yX5_seek : MethodName := ⟨RX5, "seek", "(II)I"⟩
def dkwX5_seek_1 : List UInt8 := [172, 132, 3, 1, 167, 255, 230, 2, 172]
abbrev dktX5_seek_1 : List UInt8 := dkwX5_seek_1 ++ []
def dkwX5_seek_0 : List UInt8 := [3, 62, 29, 28, 162, 0, 27, 42, 180, 0, 43, 27, 29, 96, 47, 42, 180, 0, 170, 148, 154, 0, 5, 29]
abbrev dktX5_seek_0 : List UInt8 := dkwX5_seek_0 ++ dktX5_seek_1
theorem dksX5_seek_0 : cX5_seek.data.toList.drop 0 = dktX5_seek_0 := by decide +kernel
theorem dksX5_seek_1 : cX5_seek.data.toList.drop 24 = dktX5_seek_1 := dk_seg dksX5_seek_0 24 rfl rfl
theorem dX5_seek_0 : decode cX5_seek 0 = .ok (.iconst 0, 1) := dk_3 (dk_at dksX5_seek_0 0 rfl rfl)
theorem dX5_seek_1 : decode cX5_seek 1 = .ok (.istore_n 3, 1) := dk_62 (dk_at dksX5_seek_0 1 rfl rfl)
theorem dX5_seek_2 : decode cX5_seek 2 = .ok (.iload_n 3, 1) := dk_29 (dk_at dksX5_seek_0 2 rfl rfl)
theorem dX5_seek_3 : decode cX5_seek 3 = .ok (.iload_n 2, 1) := dk_28 (dk_at dksX5_seek_0 3 rfl rfl)
theorem dX5_seek_4 : decode cX5_seek 4 = .ok (.if_icmp .ge 27, 3) := dk_162 0 27 (dk_at dksX5_seek_0 4 rfl rfl)
theorem dX5_seek_7 : decode cX5_seek 7 = .ok (.aload_n 0, 1) := dk_42 (dk_at dksX5_seek_0 7 rfl rfl)
theorem dX5_seek_8 : decode cX5_seek 8 = .ok (.getfield 43, 3) := dk_180 0 43 (dk_at dksX5_seek_0 8 rfl rfl)
theorem dX5_seek_11 : decode cX5_seek 11 = .ok (.iload_n 1, 1) := dk_27 (dk_at dksX5_seek_0 11 rfl rfl)
theorem dX5_seek_12 : decode cX5_seek 12 = .ok (.iload_n 3, 1) := dk_29 (dk_at dksX5_seek_0 12 rfl rfl)
theorem dX5_seek_13 : decode cX5_seek 13 = .ok (.iadd, 1) := dk_96 (dk_at dksX5_seek_0 13 rfl rfl)
theorem dX5_seek_14 : decode cX5_seek 14 = .ok (.laload, 1) := dk_47 (dk_at dksX5_seek_0 14 rfl rfl)
theorem dX5_seek_15 : decode cX5_seek 15 = .ok (.aload_n 0, 1) := dk_42 (dk_at dksX5_seek_0 15 rfl rfl)
theorem dX5_seek_16 : decode cX5_seek 16 = .ok (.getfield 170, 3) := dk_180 0 170 (dk_at dksX5_seek_0 16 rfl rfl)
theorem dX5_seek_19 : decode cX5_seek 19 = .ok (.lcmp, 1) := dk_148 (dk_at dksX5_seek_0 19 rfl rfl)
theorem dX5_seek_20 : decode cX5_seek 20 = .ok (.ifCond .ne 5, 3) := dk_154 0 5 (dk_at dksX5_seek_0 20 rfl rfl)
theorem dX5_seek_23 : decode cX5_seek 23 = .ok (.iload_n 3, 1) := dk_29 (dk_at dksX5_seek_0 23 rfl rfl)
theorem dX5_seek_24 : decode cX5_seek 24 = .ok (.ireturn, 1) := dk_172 (dk_at dksX5_seek_1 0 rfl rfl)
theorem dX5_seek_25 : decode cX5_seek 25 = .ok (.iinc 3 1, 3) := dk_132 3 1 (dk_at dksX5_seek_1 1 rfl rfl)
theorem dX5_seek_28 : decode cX5_seek 28 = .ok (.goto (-26), 3) := dk_167 255 230 (dk_at dksX5_seek_1 4 rfl rfl)
theorem dX5_seek_31 : decode cX5_seek 31 = .ok (.iconst (-1), 1) := dk_2 (dk_at dksX5_seek_1 7 rfl rfl)
theorem dX5_seek_32 : decode cX5_seek 32 = .ok (.ireturn, 1) := dk_172 (dk_at dksX5_seek_1 8 rfl rfl)
abbrev cX5_puts : ByteArray := prog_26_method_25_code
def yX5_puts : MethodName := ⟨RX5, "puts", "(III)Z"⟩
def dkwX5_puts_0 : List UInt8 := [42, 28, 29, 182, 0, 196, 154, 0, 5, 3, 172, 42, 180, 0, 37, 27, 42, 180, 0, 193, 79, 4, 172]
abbrev dktX5_puts_0 : List UInt8 := dkwX5_puts_0 ++ []
theorem dksX5_puts_0 : cX5_puts.data.toList.drop 0 = dktX5_puts_0 := by decide +kernel
theorem dX5_puts_0 : decode cX5_puts 0 = .ok (.aload_n 0, 1) := dk_42 (dk_at dksX5_puts_0 0 rfl rfl)
theorem dX5_puts_1 : decode cX5_puts 1 = .ok (.iload_n 2, 1) := dk_28 (dk_at dksX5_puts_0 1 rfl rfl)
theorem dX5_puts_2 : decode cX5_puts 2 = .ok (.iload_n 3, 1) := dk_29 (dk_at dksX5_puts_0 2 rfl rfl)
theorem dX5_puts_3 : decode cX5_puts 3 = .ok (.invokevirtual 196, 3) := dk_182 0 196 (dk_at dksX5_puts_0 3 rfl rfl)
theorem dX5_puts_6 : decode cX5_puts 6 = .ok (.ifCond .ne 5, 3) := dk_154 0 5 (dk_at dksX5_puts_0 6 rfl rfl)
theorem dX5_puts_9 : decode cX5_puts 9 = .ok (.iconst 0, 1) := dk_3 (dk_at dksX5_puts_0 9 rfl rfl)
theorem dX5_puts_10 : decode cX5_puts 10 = .ok (.ireturn, 1) := dk_172 (dk_at dksX5_puts_0 10 rfl rfl)
theorem dX5_puts_11 : decode cX5_puts 11 = .ok (.aload_n 0, 1) := dk_42 (dk_at dksX5_puts_0 11 rfl rfl)
theorem dX5_puts_12 : decode cX5_puts 12 = .ok (.getfield 37, 3) := dk_180 0 37 (dk_at dksX5_puts_0 12 rfl rfl)
theorem dX5_puts_15 : decode cX5_puts 15 = .ok (.iload_n 1, 1) := dk_27 (dk_at dksX5_puts_0 15 rfl rfl)
theorem dX5_puts_16 : decode cX5_puts 16 = .ok (.aload_n 0, 1) := dk_42 (dk_at dksX5_puts_0 16 rfl rfl)
theorem dX5_puts_17 : decode cX5_puts 17 = .ok (.getfield 193, 3) := dk_180 0 193 (dk_at dksX5_puts_0 17 rfl rfl)
theorem dX5_puts_20 : decode cX5_puts 20 = .ok (.iastore, 1) := dk_79 (dk_at dksX5_puts_0 20 rfl rfl)
theorem dX5_puts_21 : decode cX5_puts 21 = .ok (.iconst 1, 1) := dk_4 (dk_at dksX5_puts_0 21 rfl rfl)
theorem dX5_puts_22 : decode cX5_puts 22 = .ok (.ireturn, 1) := dk_172 (dk_at dksX5_puts_0 22 rfl rfl)
abbrev cX5_takes : ByteArray := prog_26_method_24_code
def yX5_takes : MethodName := ⟨RX5, "takes", "(II)Z"⟩
def dkwX5_takes_1 : List UInt8 := [154, 0, 9, 42, 5, 182, 0, 183, 172, 42, 42, 180, 0, 167, 181, 0, 193, 42, 182, 0, 186, 4, 172]
abbrev dktX5_takes_1 : List UInt8 := dkwX5_takes_1 ++ []
def dkwX5_takes_0 : List UInt8 := [42, 180, 0, 157, 5, 159, 0, 9, 42, 4, 182, 0, 183, 172, 42, 180, 0, 167, 27, 28, 184, 0, 189]
abbrev dktX5_takes_0 : List UInt8 := dkwX5_takes_0 ++ dktX5_takes_1
theorem dksX5_takes_0 : cX5_takes.data.toList.drop 0 = dktX5_takes_0 := by decide +kernel
theorem dksX5_takes_1 : cX5_takes.data.toList.drop 23 = dktX5_takes_1 := dk_seg dksX5_takes_0 23 rfl rfl
theorem dX5_takes_0 : decode cX5_takes 0 = .ok (.aload_n 0, 1) := dk_42 (dk_at dksX5_takes_0 0 rfl rfl)
theorem dX5_takes_1 : decode cX5_takes 1 = .ok (.getfield 157, 3) := dk_180 0 157 (dk_at dksX5_takes_0 1 rfl rfl)
theorem dX5_takes_4 : decode cX5_takes 4 = .ok (.iconst 2, 1) := dk_5 (dk_at dksX5_takes_0 4 rfl rfl)
theorem dX5_takes_5 : decode cX5_takes 5 = .ok (.if_icmp .eq 9, 3) := dk_159 0 9 (dk_at dksX5_takes_0 5 rfl rfl)
theorem dX5_takes_8 : decode cX5_takes 8 = .ok (.aload_n 0, 1) := dk_42 (dk_at dksX5_takes_0 8 rfl rfl)
theorem dX5_takes_9 : decode cX5_takes 9 = .ok (.iconst 1, 1) := dk_4 (dk_at dksX5_takes_0 9 rfl rfl)
theorem dX5_takes_10 : decode cX5_takes 10 = .ok (.invokevirtual 183, 3) := dk_182 0 183 (dk_at dksX5_takes_0 10 rfl rfl)
theorem dX5_takes_13 : decode cX5_takes 13 = .ok (.ireturn, 1) := dk_172 (dk_at dksX5_takes_0 13 rfl rfl)
theorem dX5_takes_14 : decode cX5_takes 14 = .ok (.aload_n 0, 1) := dk_42 (dk_at dksX5_takes_0 14 rfl rfl)
theorem dX5_takes_15 : decode cX5_takes 15 = .ok (.getfield 167, 3) := dk_180 0 167 (dk_at dksX5_takes_0 15 rfl rfl)
theorem dX5_takes_18 : decode cX5_takes 18 = .ok (.iload_n 1, 1) := dk_27 (dk_at dksX5_takes_0 18 rfl rfl)
theorem dX5_takes_19 : decode cX5_takes 19 = .ok (.iload_n 2, 1) := dk_28 (dk_at dksX5_takes_0 19 rfl rfl)
theorem dX5_takes_20 : decode cX5_takes 20 = .ok (.invokestatic 189, 3) := dk_184 0 189 (dk_at dksX5_takes_0 20 rfl rfl)
theorem dX5_takes_23 : decode cX5_takes 23 = .ok (.ifCond .ne 9, 3) := dk_154 0 9 (dk_at dksX5_takes_1 0 rfl rfl)
theorem dX5_takes_26 : decode cX5_takes 26 = .ok (.aload_n 0, 1) := dk_42 (dk_at dksX5_takes_1 3 rfl rfl)
theorem dX5_takes_27 : decode cX5_takes 27 = .ok (.iconst 2, 1) := dk_5 (dk_at dksX5_takes_1 4 rfl rfl)
theorem dX5_takes_28 : decode cX5_takes 28 = .ok (.invokevirtual 183, 3) := dk_182 0 183 (dk_at dksX5_takes_1 5 rfl rfl)
theorem dX5_takes_31 : decode cX5_takes 31 = .ok (.ireturn, 1) := dk_172 (dk_at dksX5_takes_1 8 rfl rfl)
theorem dX5_takes_32 : decode cX5_takes 32 = .ok (.aload_n 0, 1) := dk_42 (dk_at dksX5_takes_1 9 rfl rfl)
theorem dX5_takes_33 : decode cX5_takes 33 = .ok (.aload_n 0, 1) := dk_42 (dk_at dksX5_takes_1 10 rfl rfl)
theorem dX5_takes_34 : decode cX5_takes 34 = .ok (.getfield 167, 3) := dk_180 0 167 (dk_at dksX5_takes_1 11 rfl rfl)
theorem dX5_takes_37 : decode cX5_takes 37 = .ok (.putfield 193, 3) := dk_181 0 193 (dk_at dksX5_takes_1 14 rfl rfl)
theorem dX5_takes_40 : decode cX5_takes 40 = .ok (.aload_n 0, 1) := dk_42 (dk_at dksX5_takes_1 17 rfl rfl)
theorem dX5_takes_41 : decode cX5_takes 41 = .ok (.invokevirtual 186, 3) := dk_182 0 186 (dk_at dksX5_takes_1 18 rfl rfl)
theorem dX5_takes_44 : decode cX5_takes 44 = .ok (.iconst 1, 1) := dk_4 (dk_at dksX5_takes_1 21 rfl rfl)
theorem dX5_takes_45 : decode cX5_takes 45 = .ok (.ireturn, 1) := dk_172 (dk_at dksX5_takes_1 22 rfl rfl)
abbrev cX5_isIn : ByteArray := prog_26_method_7_code
def yX5_isIn : MethodName := ⟨RX5, "isIn", "(III)Z"⟩
def dkwX5_isIn_0 : List UInt8 := [26, 27, 161, 0, 12, 26, 28, 163, 0, 7, 4, 167, 0, 4, 3, 172]
abbrev dktX5_isIn_0 : List UInt8 := dkwX5_isIn_0 ++ []
theorem dksX5_isIn_0 : cX5_isIn.data.toList.drop 0 = dktX5_isIn_0 := by decide +kernel
theorem dX5_isIn_0 : decode cX5_isIn 0 = .ok (.iload_n 0, 1) := dk_26 (dk_at dksX5_isIn_0 0 rfl rfl)
theorem dX5_isIn_1 : decode cX5_isIn 1 = .ok (.iload_n 1, 1) := dk_27 (dk_at dksX5_isIn_0 1 rfl rfl)
theorem dX5_isIn_2 : decode cX5_isIn 2 = .ok (.if_icmp .lt 12, 3) := dk_161 0 12 (dk_at dksX5_isIn_0 2 rfl rfl)
theorem dX5_isIn_5 : decode cX5_isIn 5 = .ok (.iload_n 0, 1) := dk_26 (dk_at dksX5_isIn_0 5 rfl rfl)
theorem dX5_isIn_6 : decode cX5_isIn 6 = .ok (.iload_n 2, 1) := dk_28 (dk_at dksX5_isIn_0 6 rfl rfl)
theorem dX5_isIn_7 : decode cX5_isIn 7 = .ok (.if_icmp .gt 7, 3) := dk_163 0 7 (dk_at dksX5_isIn_0 7 rfl rfl)
theorem dX5_isIn_10 : decode cX5_isIn 10 = .ok (.iconst 1, 1) := dk_4 (dk_at dksX5_isIn_0 10 rfl rfl)
theorem dX5_isIn_11 : decode cX5_isIn 11 = .ok (.goto 4, 3) := dk_167 0 4 (dk_at dksX5_isIn_0 11 rfl rfl)
theorem dX5_isIn_14 : decode cX5_isIn 14 = .ok (.iconst 0, 1) := dk_3 (dk_at dksX5_isIn_0 14 rfl rfl)
theorem dX5_isIn_15 : decode cX5_isIn 15 = .ok (.ireturn, 1) := dk_172 (dk_at dksX5_isIn_0 15 rfl rfl)
abbrev cX5_readGood : ByteArray := prog_26_method_33_code
def yX5_readGood : MethodName := ⟨RX5, "readGood", "()Z"⟩
def dkwX5_readGood_1 : List UInt8 := [16, 19, 27, 96, 182, 0, 241, 154, 0, 5, 3, 172, 42, 180, 0, 37, 4, 92, 46, 4, 96, 79, 4, 172]
abbrev dktX5_readGood_1 : List UInt8 := dkwX5_readGood_1 ++ []
def dkwX5_readGood_0 : List UInt8 := [42, 180, 0, 37, 4, 46, 60, 27, 8, 160, 0, 9, 42, 7, 182, 0, 183, 172, 42, 182, 0, 186, 42]
abbrev dktX5_readGood_0 : List UInt8 := dkwX5_readGood_0 ++ dktX5_readGood_1
theorem dksX5_readGood_0 : cX5_readGood.data.toList.drop 0 = dktX5_readGood_0 := by decide +kernel
theorem dksX5_readGood_1 : cX5_readGood.data.toList.drop 23 = dktX5_readGood_1 := dk_seg dksX5_readGood_0 23 rfl rfl
theorem dX5_readGood_0 : decode cX5_readGood 0 = .ok (.aload_n 0, 1) := dk_42 (dk_at dksX5_readGood_0 0 rfl rfl)
theorem dX5_readGood_1 : decode cX5_readGood 1 = .ok (.getfield 37, 3) := dk_180 0 37 (dk_at dksX5_readGood_0 1 rfl rfl)
theorem dX5_readGood_4 : decode cX5_readGood 4 = .ok (.iconst 1, 1) := dk_4 (dk_at dksX5_readGood_0 4 rfl rfl)
theorem dX5_readGood_5 : decode cX5_readGood 5 = .ok (.iaload, 1) := dk_46 (dk_at dksX5_readGood_0 5 rfl rfl)
theorem dX5_readGood_6 : decode cX5_readGood 6 = .ok (.istore_n 1, 1) := dk_60 (dk_at dksX5_readGood_0 6 rfl rfl)
theorem dX5_readGood_7 : decode cX5_readGood 7 = .ok (.iload_n 1, 1) := dk_27 (dk_at dksX5_readGood_0 7 rfl rfl)
theorem dX5_readGood_8 : decode cX5_readGood 8 = .ok (.iconst 5, 1) := dk_8 (dk_at dksX5_readGood_0 8 rfl rfl)
theorem dX5_readGood_9 : decode cX5_readGood 9 = .ok (.if_icmp .ne 9, 3) := dk_160 0 9 (dk_at dksX5_readGood_0 9 rfl rfl)
theorem dX5_readGood_12 : decode cX5_readGood 12 = .ok (.aload_n 0, 1) := dk_42 (dk_at dksX5_readGood_0 12 rfl rfl)
theorem dX5_readGood_13 : decode cX5_readGood 13 = .ok (.iconst 4, 1) := dk_7 (dk_at dksX5_readGood_0 13 rfl rfl)
theorem dX5_readGood_14 : decode cX5_readGood 14 = .ok (.invokevirtual 183, 3) := dk_182 0 183 (dk_at dksX5_readGood_0 14 rfl rfl)
theorem dX5_readGood_17 : decode cX5_readGood 17 = .ok (.ireturn, 1) := dk_172 (dk_at dksX5_readGood_0 17 rfl rfl)
theorem dX5_readGood_18 : decode cX5_readGood 18 = .ok (.aload_n 0, 1) := dk_42 (dk_at dksX5_readGood_0 18 rfl rfl)
theorem dX5_readGood_19 : decode cX5_readGood 19 = .ok (.invokevirtual 186, 3) := dk_182 0 186 (dk_at dksX5_readGood_0 19 rfl rfl)
theorem dX5_readGood_22 : decode cX5_readGood 22 = .ok (.aload_n 0, 1) := dk_42 (dk_at dksX5_readGood_0 22 rfl rfl)
theorem dX5_readGood_23 : decode cX5_readGood 23 = .ok (.bipush 19, 2) := dk_16 19 (dk_at dksX5_readGood_1 0 rfl rfl)
theorem dX5_readGood_25 : decode cX5_readGood 25 = .ok (.iload_n 1, 1) := dk_27 (dk_at dksX5_readGood_1 2 rfl rfl)
theorem dX5_readGood_26 : decode cX5_readGood 26 = .ok (.iadd, 1) := dk_96 (dk_at dksX5_readGood_1 3 rfl rfl)
theorem dX5_readGood_27 : decode cX5_readGood 27 = .ok (.invokevirtual 241, 3) := dk_182 0 241 (dk_at dksX5_readGood_1 4 rfl rfl)
theorem dX5_readGood_30 : decode cX5_readGood 30 = .ok (.ifCond .ne 5, 3) := dk_154 0 5 (dk_at dksX5_readGood_1 7 rfl rfl)
theorem dX5_readGood_33 : decode cX5_readGood 33 = .ok (.iconst 0, 1) := dk_3 (dk_at dksX5_readGood_1 10 rfl rfl)
theorem dX5_readGood_34 : decode cX5_readGood 34 = .ok (.ireturn, 1) := dk_172 (dk_at dksX5_readGood_1 11 rfl rfl)
theorem dX5_readGood_35 : decode cX5_readGood 35 = .ok (.aload_n 0, 1) := dk_42 (dk_at dksX5_readGood_1 12 rfl rfl)
theorem dX5_readGood_36 : decode cX5_readGood 36 = .ok (.getfield 37, 3) := dk_180 0 37 (dk_at dksX5_readGood_1 13 rfl rfl)
theorem dX5_readGood_39 : decode cX5_readGood 39 = .ok (.iconst 1, 1) := dk_4 (dk_at dksX5_readGood_1 16 rfl rfl)
theorem dX5_readGood_40 : decode cX5_readGood 40 = .ok (.dup2, 1) := dk_92 (dk_at dksX5_readGood_1 17 rfl rfl)
theorem dX5_readGood_41 : decode cX5_readGood 41 = .ok (.iaload, 1) := dk_46 (dk_at dksX5_readGood_1 18 rfl rfl)
theorem dX5_readGood_42 : decode cX5_readGood 42 = .ok (.iconst 1, 1) := dk_4 (dk_at dksX5_readGood_1 19 rfl rfl)
theorem dX5_readGood_43 : decode cX5_readGood 43 = .ok (.iadd, 1) := dk_96 (dk_at dksX5_readGood_1 20 rfl rfl)
theorem dX5_readGood_44 : decode cX5_readGood 44 = .ok (.iastore, 1) := dk_79 (dk_at dksX5_readGood_1 21 rfl rfl)
theorem dX5_readGood_45 : decode cX5_readGood 45 = .ok (.iconst 1, 1) := dk_4 (dk_at dksX5_readGood_1 22 rfl rfl)
theorem dX5_readGood_46 : decode cX5_readGood 46 = .ok (.ireturn, 1) := dk_172 (dk_at dksX5_readGood_1 23 rfl rfl)
abbrev cX5_readTrade : ByteArray := prog_26_method_34_code
def yX5_readTrade : MethodName := ⟨RX5, "readTrade", "(Z)Z"⟩
def dkwX5_readTrade_6 : List UInt8 := [96, 79, 4, 172]
abbrev dktX5_readTrade_6 : List UInt8 := dkwX5_readTrade_6 ++ []
def dkwX5_readTrade_5 : List UInt8 := [28, 96, 3, 16, 20, 182, 0, 217, 154, 0, 5, 3, 172, 42, 180, 0, 37, 16, 47, 28, 96, 92, 46, 4]
abbrev dktX5_readTrade_5 : List UInt8 := dkwX5_readTrade_5 ++ dktX5_readTrade_6
def dkwX5_readTrade_4 : List UInt8 := [4, 16, 9, 182, 0, 217, 172, 42, 16, 12, 28, 96, 4, 16, 9, 182, 0, 217, 153, 0, 17, 42, 16, 47]
abbrev dktX5_readTrade_4 : List UInt8 := dkwX5_readTrade_4 ++ dktX5_readTrade_5
def dkwX5_readTrade_3 : List UInt8 := [96, 46, 158, 0, 9, 42, 6, 182, 0, 183, 172, 42, 182, 0, 186, 27, 154, 0, 15, 42, 16, 82, 28, 96]
abbrev dktX5_readTrade_3 : List UInt8 := dkwX5_readTrade_3 ++ dktX5_readTrade_4
def dkwX5_readTrade_2 : List UInt8 := [180, 0, 193, 96, 61, 42, 180, 0, 37, 16, 47, 28, 96, 46, 157, 0, 15, 42, 180, 0, 37, 16, 82, 28]
abbrev dktX5_readTrade_2 : List UInt8 := dkwX5_readTrade_2 ++ dktX5_readTrade_3
def dkwX5_readTrade_1 : List UInt8 := [180, 0, 193, 104, 61, 42, 16, 19, 42, 180, 0, 37, 4, 46, 182, 0, 208, 154, 0, 5, 3, 172, 28, 42]
abbrev dktX5_readTrade_1 : List UInt8 := dkwX5_readTrade_1 ++ dktX5_readTrade_2
def dkwX5_readTrade_0 : List UInt8 := [42, 182, 0, 186, 42, 16, 12, 42, 180, 0, 37, 3, 46, 182, 0, 244, 154, 0, 5, 3, 172, 8, 42]
abbrev dktX5_readTrade_0 : List UInt8 := dkwX5_readTrade_0 ++ dktX5_readTrade_1
theorem dksX5_readTrade_0 : cX5_readTrade.data.toList.drop 0 = dktX5_readTrade_0 := by decide +kernel
theorem dksX5_readTrade_1 : cX5_readTrade.data.toList.drop 23 = dktX5_readTrade_1 := dk_seg dksX5_readTrade_0 23 rfl rfl
theorem dksX5_readTrade_2 : cX5_readTrade.data.toList.drop 47 = dktX5_readTrade_2 := dk_seg dksX5_readTrade_1 24 rfl rfl
theorem dksX5_readTrade_3 : cX5_readTrade.data.toList.drop 71 = dktX5_readTrade_3 := dk_seg dksX5_readTrade_2 24 rfl rfl
theorem dksX5_readTrade_4 : cX5_readTrade.data.toList.drop 95 = dktX5_readTrade_4 := dk_seg dksX5_readTrade_3 24 rfl rfl
theorem dksX5_readTrade_5 : cX5_readTrade.data.toList.drop 119 = dktX5_readTrade_5 := dk_seg dksX5_readTrade_4 24 rfl rfl
theorem dksX5_readTrade_6 : cX5_readTrade.data.toList.drop 143 = dktX5_readTrade_6 := dk_seg dksX5_readTrade_5 24 rfl rfl
theorem dX5_readTrade_0 : decode cX5_readTrade 0 = .ok (.aload_n 0, 1) := dk_42 (dk_at dksX5_readTrade_0 0 rfl rfl)
theorem dX5_readTrade_1 : decode cX5_readTrade 1 = .ok (.invokevirtual 186, 3) := dk_182 0 186 (dk_at dksX5_readTrade_0 1 rfl rfl)
theorem dX5_readTrade_4 : decode cX5_readTrade 4 = .ok (.aload_n 0, 1) := dk_42 (dk_at dksX5_readTrade_0 4 rfl rfl)
theorem dX5_readTrade_5 : decode cX5_readTrade 5 = .ok (.bipush 12, 2) := dk_16 12 (dk_at dksX5_readTrade_0 5 rfl rfl)
theorem dX5_readTrade_7 : decode cX5_readTrade 7 = .ok (.aload_n 0, 1) := dk_42 (dk_at dksX5_readTrade_0 7 rfl rfl)
theorem dX5_readTrade_8 : decode cX5_readTrade 8 = .ok (.getfield 37, 3) := dk_180 0 37 (dk_at dksX5_readTrade_0 8 rfl rfl)
theorem dX5_readTrade_11 : decode cX5_readTrade 11 = .ok (.iconst 0, 1) := dk_3 (dk_at dksX5_readTrade_0 11 rfl rfl)
theorem dX5_readTrade_12 : decode cX5_readTrade 12 = .ok (.iaload, 1) := dk_46 (dk_at dksX5_readTrade_0 12 rfl rfl)
theorem dX5_readTrade_13 : decode cX5_readTrade 13 = .ok (.invokevirtual 244, 3) := dk_182 0 244 (dk_at dksX5_readTrade_0 13 rfl rfl)
theorem dX5_readTrade_16 : decode cX5_readTrade 16 = .ok (.ifCond .ne 5, 3) := dk_154 0 5 (dk_at dksX5_readTrade_0 16 rfl rfl)
theorem dX5_readTrade_19 : decode cX5_readTrade 19 = .ok (.iconst 0, 1) := dk_3 (dk_at dksX5_readTrade_0 19 rfl rfl)
theorem dX5_readTrade_20 : decode cX5_readTrade 20 = .ok (.ireturn, 1) := dk_172 (dk_at dksX5_readTrade_0 20 rfl rfl)
theorem dX5_readTrade_21 : decode cX5_readTrade 21 = .ok (.iconst 5, 1) := dk_8 (dk_at dksX5_readTrade_0 21 rfl rfl)
theorem dX5_readTrade_22 : decode cX5_readTrade 22 = .ok (.aload_n 0, 1) := dk_42 (dk_at dksX5_readTrade_0 22 rfl rfl)
theorem dX5_readTrade_23 : decode cX5_readTrade 23 = .ok (.getfield 193, 3) := dk_180 0 193 (dk_at dksX5_readTrade_1 0 rfl rfl)
theorem dX5_readTrade_26 : decode cX5_readTrade 26 = .ok (.imul, 1) := dk_104 (dk_at dksX5_readTrade_1 3 rfl rfl)
theorem dX5_readTrade_27 : decode cX5_readTrade 27 = .ok (.istore_n 2, 1) := dk_61 (dk_at dksX5_readTrade_1 4 rfl rfl)
theorem dX5_readTrade_28 : decode cX5_readTrade 28 = .ok (.aload_n 0, 1) := dk_42 (dk_at dksX5_readTrade_1 5 rfl rfl)
theorem dX5_readTrade_29 : decode cX5_readTrade 29 = .ok (.bipush 19, 2) := dk_16 19 (dk_at dksX5_readTrade_1 6 rfl rfl)
theorem dX5_readTrade_31 : decode cX5_readTrade 31 = .ok (.aload_n 0, 1) := dk_42 (dk_at dksX5_readTrade_1 8 rfl rfl)
theorem dX5_readTrade_32 : decode cX5_readTrade 32 = .ok (.getfield 37, 3) := dk_180 0 37 (dk_at dksX5_readTrade_1 9 rfl rfl)
theorem dX5_readTrade_35 : decode cX5_readTrade 35 = .ok (.iconst 1, 1) := dk_4 (dk_at dksX5_readTrade_1 12 rfl rfl)
theorem dX5_readTrade_36 : decode cX5_readTrade 36 = .ok (.iaload, 1) := dk_46 (dk_at dksX5_readTrade_1 13 rfl rfl)
theorem dX5_readTrade_37 : decode cX5_readTrade 37 = .ok (.invokevirtual 208, 3) := dk_182 0 208 (dk_at dksX5_readTrade_1 14 rfl rfl)
theorem dX5_readTrade_40 : decode cX5_readTrade 40 = .ok (.ifCond .ne 5, 3) := dk_154 0 5 (dk_at dksX5_readTrade_1 17 rfl rfl)
theorem dX5_readTrade_43 : decode cX5_readTrade 43 = .ok (.iconst 0, 1) := dk_3 (dk_at dksX5_readTrade_1 20 rfl rfl)
theorem dX5_readTrade_44 : decode cX5_readTrade 44 = .ok (.ireturn, 1) := dk_172 (dk_at dksX5_readTrade_1 21 rfl rfl)
theorem dX5_readTrade_45 : decode cX5_readTrade 45 = .ok (.iload_n 2, 1) := dk_28 (dk_at dksX5_readTrade_1 22 rfl rfl)
theorem dX5_readTrade_46 : decode cX5_readTrade 46 = .ok (.aload_n 0, 1) := dk_42 (dk_at dksX5_readTrade_1 23 rfl rfl)
theorem dX5_readTrade_47 : decode cX5_readTrade 47 = .ok (.getfield 193, 3) := dk_180 0 193 (dk_at dksX5_readTrade_2 0 rfl rfl)
theorem dX5_readTrade_50 : decode cX5_readTrade 50 = .ok (.iadd, 1) := dk_96 (dk_at dksX5_readTrade_2 3 rfl rfl)
theorem dX5_readTrade_51 : decode cX5_readTrade 51 = .ok (.istore_n 2, 1) := dk_61 (dk_at dksX5_readTrade_2 4 rfl rfl)
theorem dX5_readTrade_52 : decode cX5_readTrade 52 = .ok (.aload_n 0, 1) := dk_42 (dk_at dksX5_readTrade_2 5 rfl rfl)
theorem dX5_readTrade_53 : decode cX5_readTrade 53 = .ok (.getfield 37, 3) := dk_180 0 37 (dk_at dksX5_readTrade_2 6 rfl rfl)
theorem dX5_readTrade_56 : decode cX5_readTrade 56 = .ok (.bipush 47, 2) := dk_16 47 (dk_at dksX5_readTrade_2 9 rfl rfl)
theorem dX5_readTrade_58 : decode cX5_readTrade 58 = .ok (.iload_n 2, 1) := dk_28 (dk_at dksX5_readTrade_2 11 rfl rfl)
theorem dX5_readTrade_59 : decode cX5_readTrade 59 = .ok (.iadd, 1) := dk_96 (dk_at dksX5_readTrade_2 12 rfl rfl)
theorem dX5_readTrade_60 : decode cX5_readTrade 60 = .ok (.iaload, 1) := dk_46 (dk_at dksX5_readTrade_2 13 rfl rfl)
theorem dX5_readTrade_61 : decode cX5_readTrade 61 = .ok (.ifCond .gt 15, 3) := dk_157 0 15 (dk_at dksX5_readTrade_2 14 rfl rfl)
theorem dX5_readTrade_64 : decode cX5_readTrade 64 = .ok (.aload_n 0, 1) := dk_42 (dk_at dksX5_readTrade_2 17 rfl rfl)
theorem dX5_readTrade_65 : decode cX5_readTrade 65 = .ok (.getfield 37, 3) := dk_180 0 37 (dk_at dksX5_readTrade_2 18 rfl rfl)
theorem dX5_readTrade_68 : decode cX5_readTrade 68 = .ok (.bipush 82, 2) := dk_16 82 (dk_at dksX5_readTrade_2 21 rfl rfl)
theorem dX5_readTrade_70 : decode cX5_readTrade 70 = .ok (.iload_n 2, 1) := dk_28 (dk_at dksX5_readTrade_2 23 rfl rfl)
theorem dX5_readTrade_71 : decode cX5_readTrade 71 = .ok (.iadd, 1) := dk_96 (dk_at dksX5_readTrade_3 0 rfl rfl)
theorem dX5_readTrade_72 : decode cX5_readTrade 72 = .ok (.iaload, 1) := dk_46 (dk_at dksX5_readTrade_3 1 rfl rfl)
theorem dX5_readTrade_73 : decode cX5_readTrade 73 = .ok (.ifCond .le 9, 3) := dk_158 0 9 (dk_at dksX5_readTrade_3 2 rfl rfl)
theorem dX5_readTrade_76 : decode cX5_readTrade 76 = .ok (.aload_n 0, 1) := dk_42 (dk_at dksX5_readTrade_3 5 rfl rfl)
theorem dX5_readTrade_77 : decode cX5_readTrade 77 = .ok (.iconst 3, 1) := dk_6 (dk_at dksX5_readTrade_3 6 rfl rfl)
theorem dX5_readTrade_78 : decode cX5_readTrade 78 = .ok (.invokevirtual 183, 3) := dk_182 0 183 (dk_at dksX5_readTrade_3 7 rfl rfl)
theorem dX5_readTrade_81 : decode cX5_readTrade 81 = .ok (.ireturn, 1) := dk_172 (dk_at dksX5_readTrade_3 10 rfl rfl)
theorem dX5_readTrade_82 : decode cX5_readTrade 82 = .ok (.aload_n 0, 1) := dk_42 (dk_at dksX5_readTrade_3 11 rfl rfl)
theorem dX5_readTrade_83 : decode cX5_readTrade 83 = .ok (.invokevirtual 186, 3) := dk_182 0 186 (dk_at dksX5_readTrade_3 12 rfl rfl)
theorem dX5_readTrade_86 : decode cX5_readTrade 86 = .ok (.iload_n 1, 1) := dk_27 (dk_at dksX5_readTrade_3 15 rfl rfl)
theorem dX5_readTrade_87 : decode cX5_readTrade 87 = .ok (.ifCond .ne 15, 3) := dk_154 0 15 (dk_at dksX5_readTrade_3 16 rfl rfl)
theorem dX5_readTrade_90 : decode cX5_readTrade 90 = .ok (.aload_n 0, 1) := dk_42 (dk_at dksX5_readTrade_3 19 rfl rfl)
theorem dX5_readTrade_91 : decode cX5_readTrade 91 = .ok (.bipush 82, 2) := dk_16 82 (dk_at dksX5_readTrade_3 20 rfl rfl)
theorem dX5_readTrade_93 : decode cX5_readTrade 93 = .ok (.iload_n 2, 1) := dk_28 (dk_at dksX5_readTrade_3 22 rfl rfl)
theorem dX5_readTrade_94 : decode cX5_readTrade 94 = .ok (.iadd, 1) := dk_96 (dk_at dksX5_readTrade_3 23 rfl rfl)
theorem dX5_readTrade_95 : decode cX5_readTrade 95 = .ok (.iconst 1, 1) := dk_4 (dk_at dksX5_readTrade_4 0 rfl rfl)
theorem dX5_readTrade_96 : decode cX5_readTrade 96 = .ok (.bipush 9, 2) := dk_16 9 (dk_at dksX5_readTrade_4 1 rfl rfl)
theorem dX5_readTrade_98 : decode cX5_readTrade 98 = .ok (.invokevirtual 217, 3) := dk_182 0 217 (dk_at dksX5_readTrade_4 3 rfl rfl)
theorem dX5_readTrade_101 : decode cX5_readTrade 101 = .ok (.ireturn, 1) := dk_172 (dk_at dksX5_readTrade_4 6 rfl rfl)
theorem dX5_readTrade_102 : decode cX5_readTrade 102 = .ok (.aload_n 0, 1) := dk_42 (dk_at dksX5_readTrade_4 7 rfl rfl)
theorem dX5_readTrade_103 : decode cX5_readTrade 103 = .ok (.bipush 12, 2) := dk_16 12 (dk_at dksX5_readTrade_4 8 rfl rfl)
theorem dX5_readTrade_105 : decode cX5_readTrade 105 = .ok (.iload_n 2, 1) := dk_28 (dk_at dksX5_readTrade_4 10 rfl rfl)
theorem dX5_readTrade_106 : decode cX5_readTrade 106 = .ok (.iadd, 1) := dk_96 (dk_at dksX5_readTrade_4 11 rfl rfl)
theorem dX5_readTrade_107 : decode cX5_readTrade 107 = .ok (.iconst 1, 1) := dk_4 (dk_at dksX5_readTrade_4 12 rfl rfl)
theorem dX5_readTrade_108 : decode cX5_readTrade 108 = .ok (.bipush 9, 2) := dk_16 9 (dk_at dksX5_readTrade_4 13 rfl rfl)
theorem dX5_readTrade_110 : decode cX5_readTrade 110 = .ok (.invokevirtual 217, 3) := dk_182 0 217 (dk_at dksX5_readTrade_4 15 rfl rfl)
theorem dX5_readTrade_113 : decode cX5_readTrade 113 = .ok (.ifCond .eq 17, 3) := dk_153 0 17 (dk_at dksX5_readTrade_4 18 rfl rfl)
theorem dX5_readTrade_116 : decode cX5_readTrade 116 = .ok (.aload_n 0, 1) := dk_42 (dk_at dksX5_readTrade_4 21 rfl rfl)
theorem dX5_readTrade_117 : decode cX5_readTrade 117 = .ok (.bipush 47, 2) := dk_16 47 (dk_at dksX5_readTrade_4 22 rfl rfl)
theorem dX5_readTrade_119 : decode cX5_readTrade 119 = .ok (.iload_n 2, 1) := dk_28 (dk_at dksX5_readTrade_5 0 rfl rfl)
theorem dX5_readTrade_120 : decode cX5_readTrade 120 = .ok (.iadd, 1) := dk_96 (dk_at dksX5_readTrade_5 1 rfl rfl)
theorem dX5_readTrade_121 : decode cX5_readTrade 121 = .ok (.iconst 0, 1) := dk_3 (dk_at dksX5_readTrade_5 2 rfl rfl)
theorem dX5_readTrade_122 : decode cX5_readTrade 122 = .ok (.bipush 20, 2) := dk_16 20 (dk_at dksX5_readTrade_5 3 rfl rfl)
theorem dX5_readTrade_124 : decode cX5_readTrade 124 = .ok (.invokevirtual 217, 3) := dk_182 0 217 (dk_at dksX5_readTrade_5 5 rfl rfl)
theorem dX5_readTrade_127 : decode cX5_readTrade 127 = .ok (.ifCond .ne 5, 3) := dk_154 0 5 (dk_at dksX5_readTrade_5 8 rfl rfl)
theorem dX5_readTrade_130 : decode cX5_readTrade 130 = .ok (.iconst 0, 1) := dk_3 (dk_at dksX5_readTrade_5 11 rfl rfl)
theorem dX5_readTrade_131 : decode cX5_readTrade 131 = .ok (.ireturn, 1) := dk_172 (dk_at dksX5_readTrade_5 12 rfl rfl)
theorem dX5_readTrade_132 : decode cX5_readTrade 132 = .ok (.aload_n 0, 1) := dk_42 (dk_at dksX5_readTrade_5 13 rfl rfl)
theorem dX5_readTrade_133 : decode cX5_readTrade 133 = .ok (.getfield 37, 3) := dk_180 0 37 (dk_at dksX5_readTrade_5 14 rfl rfl)
theorem dX5_readTrade_136 : decode cX5_readTrade 136 = .ok (.bipush 47, 2) := dk_16 47 (dk_at dksX5_readTrade_5 17 rfl rfl)
theorem dX5_readTrade_138 : decode cX5_readTrade 138 = .ok (.iload_n 2, 1) := dk_28 (dk_at dksX5_readTrade_5 19 rfl rfl)
theorem dX5_readTrade_139 : decode cX5_readTrade 139 = .ok (.iadd, 1) := dk_96 (dk_at dksX5_readTrade_5 20 rfl rfl)
theorem dX5_readTrade_140 : decode cX5_readTrade 140 = .ok (.dup2, 1) := dk_92 (dk_at dksX5_readTrade_5 21 rfl rfl)
theorem dX5_readTrade_141 : decode cX5_readTrade 141 = .ok (.iaload, 1) := dk_46 (dk_at dksX5_readTrade_5 22 rfl rfl)
theorem dX5_readTrade_142 : decode cX5_readTrade 142 = .ok (.iconst 1, 1) := dk_4 (dk_at dksX5_readTrade_5 23 rfl rfl)
theorem dX5_readTrade_143 : decode cX5_readTrade 143 = .ok (.iadd, 1) := dk_96 (dk_at dksX5_readTrade_6 0 rfl rfl)
theorem dX5_readTrade_144 : decode cX5_readTrade 144 = .ok (.iastore, 1) := dk_79 (dk_at dksX5_readTrade_6 1 rfl rfl)
theorem dX5_readTrade_145 : decode cX5_readTrade 145 = .ok (.iconst 1, 1) := dk_4 (dk_at dksX5_readTrade_6 2 rfl rfl)
theorem dX5_readTrade_146 : decode cX5_readTrade 146 = .ok (.ireturn, 1) := dk_172 (dk_at dksX5_readTrade_6 3 rfl rfl)
abbrev cX5_takesName : ByteArray := prog_26_method_29_code
def yX5_takesName : MethodName := ⟨RX5, "takesName", "(II)Z"⟩
def dkwX5_takesName_0 : List UInt8 := [42, 27, 28, 182, 0, 208, 154, 0, 5, 3, 172, 42, 182, 0, 186, 4, 172]
abbrev dktX5_takesName_0 : List UInt8 := dkwX5_takesName_0 ++ []
theorem dksX5_takesName_0 : cX5_takesName.data.toList.drop 0 = dktX5_takesName_0 := by decide +kernel
theorem dX5_takesName_0 : decode cX5_takesName 0 = .ok (.aload_n 0, 1) := dk_42 (dk_at dksX5_takesName_0 0 rfl rfl)
theorem dX5_takesName_1 : decode cX5_takesName 1 = .ok (.iload_n 1, 1) := dk_27 (dk_at dksX5_takesName_0 1 rfl rfl)
theorem dX5_takesName_2 : decode cX5_takesName 2 = .ok (.iload_n 2, 1) := dk_28 (dk_at dksX5_takesName_0 2 rfl rfl)
theorem dX5_takesName_3 : decode cX5_takesName 3 = .ok (.invokevirtual 208, 3) := dk_182 0 208 (dk_at dksX5_takesName_0 3 rfl rfl)
theorem dX5_takesName_6 : decode cX5_takesName 6 = .ok (.ifCond .ne 5, 3) := dk_154 0 5 (dk_at dksX5_takesName_0 6 rfl rfl)
theorem dX5_takesName_9 : decode cX5_takesName 9 = .ok (.iconst 0, 1) := dk_3 (dk_at dksX5_takesName_0 9 rfl rfl)
theorem dX5_takesName_10 : decode cX5_takesName 10 = .ok (.ireturn, 1) := dk_172 (dk_at dksX5_takesName_0 10 rfl rfl)
theorem dX5_takesName_11 : decode cX5_takesName 11 = .ok (.aload_n 0, 1) := dk_42 (dk_at dksX5_takesName_0 11 rfl rfl)
theorem dX5_takesName_12 : decode cX5_takesName 12 = .ok (.invokevirtual 186, 3) := dk_182 0 186 (dk_at dksX5_takesName_0 12 rfl rfl)
theorem dX5_takesName_15 : decode cX5_takesName 15 = .ok (.iconst 1, 1) := dk_4 (dk_at dksX5_takesName_0 15 rfl rfl)
theorem dX5_takesName_16 : decode cX5_takesName 16 = .ok (.ireturn, 1) := dk_172 (dk_at dksX5_takesName_0 16 rfl rfl)
abbrev cX5_looksAt : ByteArray := prog_26_method_28_code
def yX5_looksAt : MethodName := ⟨RX5, "looksAt", "(II)Z"⟩
def dkwX5_looksAt_1 : List UInt8 := [180, 0, 193, 156, 0, 11, 42, 6, 182, 0, 183, 153, 0, 7, 4, 167, 0, 4, 3, 172]
abbrev dktX5_looksAt_1 : List UInt8 := dkwX5_looksAt_1 ++ []
def dkwX5_looksAt_0 : List UInt8 := [42, 182, 0, 200, 154, 0, 9, 42, 4, 182, 0, 183, 172, 42, 42, 27, 28, 182, 0, 204, 181, 0, 193, 42]
abbrev dktX5_looksAt_0 : List UInt8 := dkwX5_looksAt_0 ++ dktX5_looksAt_1
theorem dksX5_looksAt_0 : cX5_looksAt.data.toList.drop 0 = dktX5_looksAt_0 := by decide +kernel
theorem dksX5_looksAt_1 : cX5_looksAt.data.toList.drop 24 = dktX5_looksAt_1 := dk_seg dksX5_looksAt_0 24 rfl rfl
theorem dX5_looksAt_0 : decode cX5_looksAt 0 = .ok (.aload_n 0, 1) := dk_42 (dk_at dksX5_looksAt_0 0 rfl rfl)
theorem dX5_looksAt_1 : decode cX5_looksAt 1 = .ok (.invokevirtual 200, 3) := dk_182 0 200 (dk_at dksX5_looksAt_0 1 rfl rfl)
theorem dX5_looksAt_4 : decode cX5_looksAt 4 = .ok (.ifCond .ne 9, 3) := dk_154 0 9 (dk_at dksX5_looksAt_0 4 rfl rfl)
theorem dX5_looksAt_7 : decode cX5_looksAt 7 = .ok (.aload_n 0, 1) := dk_42 (dk_at dksX5_looksAt_0 7 rfl rfl)
theorem dX5_looksAt_8 : decode cX5_looksAt 8 = .ok (.iconst 1, 1) := dk_4 (dk_at dksX5_looksAt_0 8 rfl rfl)
theorem dX5_looksAt_9 : decode cX5_looksAt 9 = .ok (.invokevirtual 183, 3) := dk_182 0 183 (dk_at dksX5_looksAt_0 9 rfl rfl)
theorem dX5_looksAt_12 : decode cX5_looksAt 12 = .ok (.ireturn, 1) := dk_172 (dk_at dksX5_looksAt_0 12 rfl rfl)
theorem dX5_looksAt_13 : decode cX5_looksAt 13 = .ok (.aload_n 0, 1) := dk_42 (dk_at dksX5_looksAt_0 13 rfl rfl)
theorem dX5_looksAt_14 : decode cX5_looksAt 14 = .ok (.aload_n 0, 1) := dk_42 (dk_at dksX5_looksAt_0 14 rfl rfl)
theorem dX5_looksAt_15 : decode cX5_looksAt 15 = .ok (.iload_n 1, 1) := dk_27 (dk_at dksX5_looksAt_0 15 rfl rfl)
theorem dX5_looksAt_16 : decode cX5_looksAt 16 = .ok (.iload_n 2, 1) := dk_28 (dk_at dksX5_looksAt_0 16 rfl rfl)
theorem dX5_looksAt_17 : decode cX5_looksAt 17 = .ok (.invokevirtual 204, 3) := dk_182 0 204 (dk_at dksX5_looksAt_0 17 rfl rfl)
theorem dX5_looksAt_20 : decode cX5_looksAt 20 = .ok (.putfield 193, 3) := dk_181 0 193 (dk_at dksX5_looksAt_0 20 rfl rfl)
theorem dX5_looksAt_23 : decode cX5_looksAt 23 = .ok (.aload_n 0, 1) := dk_42 (dk_at dksX5_looksAt_0 23 rfl rfl)
theorem dX5_looksAt_24 : decode cX5_looksAt 24 = .ok (.getfield 193, 3) := dk_180 0 193 (dk_at dksX5_looksAt_1 0 rfl rfl)
theorem dX5_looksAt_27 : decode cX5_looksAt 27 = .ok (.ifCond .ge 11, 3) := dk_156 0 11 (dk_at dksX5_looksAt_1 3 rfl rfl)
theorem dX5_looksAt_30 : decode cX5_looksAt 30 = .ok (.aload_n 0, 1) := dk_42 (dk_at dksX5_looksAt_1 6 rfl rfl)
theorem dX5_looksAt_31 : decode cX5_looksAt 31 = .ok (.iconst 3, 1) := dk_6 (dk_at dksX5_looksAt_1 7 rfl rfl)
theorem dX5_looksAt_32 : decode cX5_looksAt 32 = .ok (.invokevirtual 183, 3) := dk_182 0 183 (dk_at dksX5_looksAt_1 8 rfl rfl)
theorem dX5_looksAt_35 : decode cX5_looksAt 35 = .ok (.ifCond .eq 7, 3) := dk_153 0 7 (dk_at dksX5_looksAt_1 11 rfl rfl)
theorem dX5_looksAt_38 : decode cX5_looksAt 38 = .ok (.iconst 1, 1) := dk_4 (dk_at dksX5_looksAt_1 14 rfl rfl)
theorem dX5_looksAt_39 : decode cX5_looksAt 39 = .ok (.goto 4, 3) := dk_167 0 4 (dk_at dksX5_looksAt_1 15 rfl rfl)
theorem dX5_looksAt_42 : decode cX5_looksAt 42 = .ok (.iconst 0, 1) := dk_3 (dk_at dksX5_looksAt_1 18 rfl rfl)
theorem dX5_looksAt_43 : decode cX5_looksAt 43 = .ok (.ireturn, 1) := dk_172 (dk_at dksX5_looksAt_1 19 rfl rfl)
abbrev cX5_readPair : ByteArray := prog_26_method_35_code
def yX5_readPair : MethodName := ⟨RX5, "readPair", "(I)Z"⟩
def dkwX5_readPair_5 : List UInt8 := [172]
abbrev dktX5_readPair_5 : List UInt8 := dkwX5_readPair_5 ++ []
def dkwX5_readPair_4 : List UInt8 := [128, 79, 42, 180, 0, 37, 27, 42, 180, 0, 193, 96, 92, 46, 4, 28, 120, 128, 79, 42, 182, 0, 186, 4]
abbrev dktX5_readPair_4 : List UInt8 := dkwX5_readPair_4 ++ dktX5_readPair_5
def dkwX5_readPair_3 : List UInt8 := [153, 0, 9, 42, 6, 182, 0, 183, 172, 42, 180, 0, 37, 27, 28, 96, 92, 46, 4, 42, 180, 0, 193, 120]
abbrev dktX5_readPair_3 : List UInt8 := dkwX5_readPair_3 ++ dktX5_readPair_4
def dkwX5_readPair_2 : List UInt8 := [180, 0, 193, 28, 159, 0, 21, 42, 180, 0, 37, 27, 28, 96, 46, 42, 180, 0, 193, 184, 0, 214]
abbrev dktX5_readPair_2 : List UInt8 := dkwX5_readPair_2 ++ dktX5_readPair_3
def dkwX5_readPair_1 : List UInt8 := [180, 0, 193, 61, 42, 16, 12, 42, 180, 0, 37, 3, 46, 182, 0, 208, 154, 0, 5, 3, 172, 42]
abbrev dktX5_readPair_1 : List UInt8 := dkwX5_readPair_1 ++ dktX5_readPair_2
def dkwX5_readPair_0 : List UInt8 := [42, 182, 0, 186, 42, 16, 12, 42, 180, 0, 37, 3, 46, 182, 0, 244, 154, 0, 5, 3, 172, 42]
abbrev dktX5_readPair_0 : List UInt8 := dkwX5_readPair_0 ++ dktX5_readPair_1
theorem dksX5_readPair_0 : cX5_readPair.data.toList.drop 0 = dktX5_readPair_0 := by decide +kernel
theorem dksX5_readPair_1 : cX5_readPair.data.toList.drop 22 = dktX5_readPair_1 := dk_seg dksX5_readPair_0 22 rfl rfl
theorem dksX5_readPair_2 : cX5_readPair.data.toList.drop 44 = dktX5_readPair_2 := dk_seg dksX5_readPair_1 22 rfl rfl
theorem dksX5_readPair_3 : cX5_readPair.data.toList.drop 66 = dktX5_readPair_3 := dk_seg dksX5_readPair_2 22 rfl rfl
theorem dksX5_readPair_4 : cX5_readPair.data.toList.drop 90 = dktX5_readPair_4 := dk_seg dksX5_readPair_3 24 rfl rfl
theorem dksX5_readPair_5 : cX5_readPair.data.toList.drop 114 = dktX5_readPair_5 := dk_seg dksX5_readPair_4 24 rfl rfl
theorem dX5_readPair_0 : decode cX5_readPair 0 = .ok (.aload_n 0, 1) := dk_42 (dk_at dksX5_readPair_0 0 rfl rfl)
theorem dX5_readPair_1 : decode cX5_readPair 1 = .ok (.invokevirtual 186, 3) := dk_182 0 186 (dk_at dksX5_readPair_0 1 rfl rfl)
theorem dX5_readPair_4 : decode cX5_readPair 4 = .ok (.aload_n 0, 1) := dk_42 (dk_at dksX5_readPair_0 4 rfl rfl)
theorem dX5_readPair_5 : decode cX5_readPair 5 = .ok (.bipush 12, 2) := dk_16 12 (dk_at dksX5_readPair_0 5 rfl rfl)
theorem dX5_readPair_7 : decode cX5_readPair 7 = .ok (.aload_n 0, 1) := dk_42 (dk_at dksX5_readPair_0 7 rfl rfl)
theorem dX5_readPair_8 : decode cX5_readPair 8 = .ok (.getfield 37, 3) := dk_180 0 37 (dk_at dksX5_readPair_0 8 rfl rfl)
theorem dX5_readPair_11 : decode cX5_readPair 11 = .ok (.iconst 0, 1) := dk_3 (dk_at dksX5_readPair_0 11 rfl rfl)
theorem dX5_readPair_12 : decode cX5_readPair 12 = .ok (.iaload, 1) := dk_46 (dk_at dksX5_readPair_0 12 rfl rfl)
theorem dX5_readPair_13 : decode cX5_readPair 13 = .ok (.invokevirtual 244, 3) := dk_182 0 244 (dk_at dksX5_readPair_0 13 rfl rfl)
theorem dX5_readPair_16 : decode cX5_readPair 16 = .ok (.ifCond .ne 5, 3) := dk_154 0 5 (dk_at dksX5_readPair_0 16 rfl rfl)
theorem dX5_readPair_19 : decode cX5_readPair 19 = .ok (.iconst 0, 1) := dk_3 (dk_at dksX5_readPair_0 19 rfl rfl)
theorem dX5_readPair_20 : decode cX5_readPair 20 = .ok (.ireturn, 1) := dk_172 (dk_at dksX5_readPair_0 20 rfl rfl)
theorem dX5_readPair_21 : decode cX5_readPair 21 = .ok (.aload_n 0, 1) := dk_42 (dk_at dksX5_readPair_0 21 rfl rfl)
theorem dX5_readPair_22 : decode cX5_readPair 22 = .ok (.getfield 193, 3) := dk_180 0 193 (dk_at dksX5_readPair_1 0 rfl rfl)
theorem dX5_readPair_25 : decode cX5_readPair 25 = .ok (.istore_n 2, 1) := dk_61 (dk_at dksX5_readPair_1 3 rfl rfl)
theorem dX5_readPair_26 : decode cX5_readPair 26 = .ok (.aload_n 0, 1) := dk_42 (dk_at dksX5_readPair_1 4 rfl rfl)
theorem dX5_readPair_27 : decode cX5_readPair 27 = .ok (.bipush 12, 2) := dk_16 12 (dk_at dksX5_readPair_1 5 rfl rfl)
theorem dX5_readPair_29 : decode cX5_readPair 29 = .ok (.aload_n 0, 1) := dk_42 (dk_at dksX5_readPair_1 7 rfl rfl)
theorem dX5_readPair_30 : decode cX5_readPair 30 = .ok (.getfield 37, 3) := dk_180 0 37 (dk_at dksX5_readPair_1 8 rfl rfl)
theorem dX5_readPair_33 : decode cX5_readPair 33 = .ok (.iconst 0, 1) := dk_3 (dk_at dksX5_readPair_1 11 rfl rfl)
theorem dX5_readPair_34 : decode cX5_readPair 34 = .ok (.iaload, 1) := dk_46 (dk_at dksX5_readPair_1 12 rfl rfl)
theorem dX5_readPair_35 : decode cX5_readPair 35 = .ok (.invokevirtual 208, 3) := dk_182 0 208 (dk_at dksX5_readPair_1 13 rfl rfl)
theorem dX5_readPair_38 : decode cX5_readPair 38 = .ok (.ifCond .ne 5, 3) := dk_154 0 5 (dk_at dksX5_readPair_1 16 rfl rfl)
theorem dX5_readPair_41 : decode cX5_readPair 41 = .ok (.iconst 0, 1) := dk_3 (dk_at dksX5_readPair_1 19 rfl rfl)
theorem dX5_readPair_42 : decode cX5_readPair 42 = .ok (.ireturn, 1) := dk_172 (dk_at dksX5_readPair_1 20 rfl rfl)
theorem dX5_readPair_43 : decode cX5_readPair 43 = .ok (.aload_n 0, 1) := dk_42 (dk_at dksX5_readPair_1 21 rfl rfl)
theorem dX5_readPair_44 : decode cX5_readPair 44 = .ok (.getfield 193, 3) := dk_180 0 193 (dk_at dksX5_readPair_2 0 rfl rfl)
theorem dX5_readPair_47 : decode cX5_readPair 47 = .ok (.iload_n 2, 1) := dk_28 (dk_at dksX5_readPair_2 3 rfl rfl)
theorem dX5_readPair_48 : decode cX5_readPair 48 = .ok (.if_icmp .eq 21, 3) := dk_159 0 21 (dk_at dksX5_readPair_2 4 rfl rfl)
theorem dX5_readPair_51 : decode cX5_readPair 51 = .ok (.aload_n 0, 1) := dk_42 (dk_at dksX5_readPair_2 7 rfl rfl)
theorem dX5_readPair_52 : decode cX5_readPair 52 = .ok (.getfield 37, 3) := dk_180 0 37 (dk_at dksX5_readPair_2 8 rfl rfl)
theorem dX5_readPair_55 : decode cX5_readPair 55 = .ok (.iload_n 1, 1) := dk_27 (dk_at dksX5_readPair_2 11 rfl rfl)
theorem dX5_readPair_56 : decode cX5_readPair 56 = .ok (.iload_n 2, 1) := dk_28 (dk_at dksX5_readPair_2 12 rfl rfl)
theorem dX5_readPair_57 : decode cX5_readPair 57 = .ok (.iadd, 1) := dk_96 (dk_at dksX5_readPair_2 13 rfl rfl)
theorem dX5_readPair_58 : decode cX5_readPair 58 = .ok (.iaload, 1) := dk_46 (dk_at dksX5_readPair_2 14 rfl rfl)
theorem dX5_readPair_59 : decode cX5_readPair 59 = .ok (.aload_n 0, 1) := dk_42 (dk_at dksX5_readPair_2 15 rfl rfl)
theorem dX5_readPair_60 : decode cX5_readPair 60 = .ok (.getfield 193, 3) := dk_180 0 193 (dk_at dksX5_readPair_2 16 rfl rfl)
theorem dX5_readPair_63 : decode cX5_readPair 63 = .ok (.invokestatic 214, 3) := dk_184 0 214 (dk_at dksX5_readPair_2 19 rfl rfl)
theorem dX5_readPair_66 : decode cX5_readPair 66 = .ok (.ifCond .eq 9, 3) := dk_153 0 9 (dk_at dksX5_readPair_3 0 rfl rfl)
theorem dX5_readPair_69 : decode cX5_readPair 69 = .ok (.aload_n 0, 1) := dk_42 (dk_at dksX5_readPair_3 3 rfl rfl)
theorem dX5_readPair_70 : decode cX5_readPair 70 = .ok (.iconst 3, 1) := dk_6 (dk_at dksX5_readPair_3 4 rfl rfl)
theorem dX5_readPair_71 : decode cX5_readPair 71 = .ok (.invokevirtual 183, 3) := dk_182 0 183 (dk_at dksX5_readPair_3 5 rfl rfl)
theorem dX5_readPair_74 : decode cX5_readPair 74 = .ok (.ireturn, 1) := dk_172 (dk_at dksX5_readPair_3 8 rfl rfl)
theorem dX5_readPair_75 : decode cX5_readPair 75 = .ok (.aload_n 0, 1) := dk_42 (dk_at dksX5_readPair_3 9 rfl rfl)
theorem dX5_readPair_76 : decode cX5_readPair 76 = .ok (.getfield 37, 3) := dk_180 0 37 (dk_at dksX5_readPair_3 10 rfl rfl)
theorem dX5_readPair_79 : decode cX5_readPair 79 = .ok (.iload_n 1, 1) := dk_27 (dk_at dksX5_readPair_3 13 rfl rfl)
theorem dX5_readPair_80 : decode cX5_readPair 80 = .ok (.iload_n 2, 1) := dk_28 (dk_at dksX5_readPair_3 14 rfl rfl)
theorem dX5_readPair_81 : decode cX5_readPair 81 = .ok (.iadd, 1) := dk_96 (dk_at dksX5_readPair_3 15 rfl rfl)
theorem dX5_readPair_82 : decode cX5_readPair 82 = .ok (.dup2, 1) := dk_92 (dk_at dksX5_readPair_3 16 rfl rfl)
theorem dX5_readPair_83 : decode cX5_readPair 83 = .ok (.iaload, 1) := dk_46 (dk_at dksX5_readPair_3 17 rfl rfl)
theorem dX5_readPair_84 : decode cX5_readPair 84 = .ok (.iconst 1, 1) := dk_4 (dk_at dksX5_readPair_3 18 rfl rfl)
theorem dX5_readPair_85 : decode cX5_readPair 85 = .ok (.aload_n 0, 1) := dk_42 (dk_at dksX5_readPair_3 19 rfl rfl)
theorem dX5_readPair_86 : decode cX5_readPair 86 = .ok (.getfield 193, 3) := dk_180 0 193 (dk_at dksX5_readPair_3 20 rfl rfl)
theorem dX5_readPair_89 : decode cX5_readPair 89 = .ok (.ishl, 1) := dk_120 (dk_at dksX5_readPair_3 23 rfl rfl)
theorem dX5_readPair_90 : decode cX5_readPair 90 = .ok (.ior, 1) := dk_128 (dk_at dksX5_readPair_4 0 rfl rfl)
theorem dX5_readPair_91 : decode cX5_readPair 91 = .ok (.iastore, 1) := dk_79 (dk_at dksX5_readPair_4 1 rfl rfl)
theorem dX5_readPair_92 : decode cX5_readPair 92 = .ok (.aload_n 0, 1) := dk_42 (dk_at dksX5_readPair_4 2 rfl rfl)
theorem dX5_readPair_93 : decode cX5_readPair 93 = .ok (.getfield 37, 3) := dk_180 0 37 (dk_at dksX5_readPair_4 3 rfl rfl)
theorem dX5_readPair_96 : decode cX5_readPair 96 = .ok (.iload_n 1, 1) := dk_27 (dk_at dksX5_readPair_4 6 rfl rfl)
theorem dX5_readPair_97 : decode cX5_readPair 97 = .ok (.aload_n 0, 1) := dk_42 (dk_at dksX5_readPair_4 7 rfl rfl)
theorem dX5_readPair_98 : decode cX5_readPair 98 = .ok (.getfield 193, 3) := dk_180 0 193 (dk_at dksX5_readPair_4 8 rfl rfl)
theorem dX5_readPair_101 : decode cX5_readPair 101 = .ok (.iadd, 1) := dk_96 (dk_at dksX5_readPair_4 11 rfl rfl)
theorem dX5_readPair_102 : decode cX5_readPair 102 = .ok (.dup2, 1) := dk_92 (dk_at dksX5_readPair_4 12 rfl rfl)
theorem dX5_readPair_103 : decode cX5_readPair 103 = .ok (.iaload, 1) := dk_46 (dk_at dksX5_readPair_4 13 rfl rfl)
theorem dX5_readPair_104 : decode cX5_readPair 104 = .ok (.iconst 1, 1) := dk_4 (dk_at dksX5_readPair_4 14 rfl rfl)
theorem dX5_readPair_105 : decode cX5_readPair 105 = .ok (.iload_n 2, 1) := dk_28 (dk_at dksX5_readPair_4 15 rfl rfl)
theorem dX5_readPair_106 : decode cX5_readPair 106 = .ok (.ishl, 1) := dk_120 (dk_at dksX5_readPair_4 16 rfl rfl)
theorem dX5_readPair_107 : decode cX5_readPair 107 = .ok (.ior, 1) := dk_128 (dk_at dksX5_readPair_4 17 rfl rfl)
theorem dX5_readPair_108 : decode cX5_readPair 108 = .ok (.iastore, 1) := dk_79 (dk_at dksX5_readPair_4 18 rfl rfl)
theorem dX5_readPair_109 : decode cX5_readPair 109 = .ok (.aload_n 0, 1) := dk_42 (dk_at dksX5_readPair_4 19 rfl rfl)
theorem dX5_readPair_110 : decode cX5_readPair 110 = .ok (.invokevirtual 186, 3) := dk_182 0 186 (dk_at dksX5_readPair_4 20 rfl rfl)
theorem dX5_readPair_113 : decode cX5_readPair 113 = .ok (.iconst 1, 1) := dk_4 (dk_at dksX5_readPair_4 23 rfl rfl)
theorem dX5_readPair_114 : decode cX5_readPair 114 = .ok (.ireturn, 1) := dk_172 (dk_at dksX5_readPair_5 0 rfl rfl)
abbrev cX5_bitOf : ByteArray := prog_26_method_8_code
def yX5_bitOf : MethodName := ⟨RX5, "bitOf", "(II)Z"⟩
def dkwX5_bitOf_0 : List UInt8 := [26, 27, 122, 4, 126, 4, 160, 0, 7, 4, 167, 0, 4, 3, 172]
abbrev dktX5_bitOf_0 : List UInt8 := dkwX5_bitOf_0 ++ []
theorem dksX5_bitOf_0 : cX5_bitOf.data.toList.drop 0 = dktX5_bitOf_0 := by decide +kernel
theorem dX5_bitOf_0 : decode cX5_bitOf 0 = .ok (.iload_n 0, 1) := dk_26 (dk_at dksX5_bitOf_0 0 rfl rfl)
theorem dX5_bitOf_1 : decode cX5_bitOf 1 = .ok (.iload_n 1, 1) := dk_27 (dk_at dksX5_bitOf_0 1 rfl rfl)
theorem dX5_bitOf_2 : decode cX5_bitOf 2 = .ok (.ishr, 1) := dk_122 (dk_at dksX5_bitOf_0 2 rfl rfl)
theorem dX5_bitOf_3 : decode cX5_bitOf 3 = .ok (.iconst 1, 1) := dk_4 (dk_at dksX5_bitOf_0 3 rfl rfl)
theorem dX5_bitOf_4 : decode cX5_bitOf 4 = .ok (.iand, 1) := dk_126 (dk_at dksX5_bitOf_0 4 rfl rfl)
theorem dX5_bitOf_5 : decode cX5_bitOf 5 = .ok (.iconst 1, 1) := dk_4 (dk_at dksX5_bitOf_0 5 rfl rfl)
theorem dX5_bitOf_6 : decode cX5_bitOf 6 = .ok (.if_icmp .ne 7, 3) := dk_160 0 7 (dk_at dksX5_bitOf_0 6 rfl rfl)
theorem dX5_bitOf_9 : decode cX5_bitOf 9 = .ok (.iconst 1, 1) := dk_4 (dk_at dksX5_bitOf_0 9 rfl rfl)
theorem dX5_bitOf_10 : decode cX5_bitOf 10 = .ok (.goto 4, 3) := dk_167 0 4 (dk_at dksX5_bitOf_0 10 rfl rfl)
theorem dX5_bitOf_13 : decode cX5_bitOf 13 = .ok (.iconst 0, 1) := dk_3 (dk_at dksX5_bitOf_0 13 rfl rfl)
theorem dX5_bitOf_14 : decode cX5_bitOf 14 = .ok (.ireturn, 1) := dk_172 (dk_at dksX5_bitOf_0 14 rfl rfl)
abbrev cX5_once : ByteArray := prog_26_method_30_code
def yX5_once : MethodName := ⟨RX5, "once", "(IIII)Z"⟩
def dkwX5_once_1 : List UInt8 := [120, 128, 181, 0, 211, 42, 182, 0, 186, 42, 28, 29, 21, 4, 182, 0, 217, 172]
abbrev dktX5_once_1 : List UInt8 := dkwX5_once_1 ++ []
def dkwX5_once_0 : List UInt8 := [42, 180, 0, 211, 27, 184, 0, 214, 153, 0, 9, 42, 6, 182, 0, 183, 172, 42, 89, 180, 0, 211, 4, 27]
abbrev dktX5_once_0 : List UInt8 := dkwX5_once_0 ++ dktX5_once_1
theorem dksX5_once_0 : cX5_once.data.toList.drop 0 = dktX5_once_0 := by decide +kernel
theorem dksX5_once_1 : cX5_once.data.toList.drop 24 = dktX5_once_1 := dk_seg dksX5_once_0 24 rfl rfl
theorem dX5_once_0 : decode cX5_once 0 = .ok (.aload_n 0, 1) := dk_42 (dk_at dksX5_once_0 0 rfl rfl)
theorem dX5_once_1 : decode cX5_once 1 = .ok (.getfield 211, 3) := dk_180 0 211 (dk_at dksX5_once_0 1 rfl rfl)
theorem dX5_once_4 : decode cX5_once 4 = .ok (.iload_n 1, 1) := dk_27 (dk_at dksX5_once_0 4 rfl rfl)
theorem dX5_once_5 : decode cX5_once 5 = .ok (.invokestatic 214, 3) := dk_184 0 214 (dk_at dksX5_once_0 5 rfl rfl)
theorem dX5_once_8 : decode cX5_once 8 = .ok (.ifCond .eq 9, 3) := dk_153 0 9 (dk_at dksX5_once_0 8 rfl rfl)
theorem dX5_once_11 : decode cX5_once 11 = .ok (.aload_n 0, 1) := dk_42 (dk_at dksX5_once_0 11 rfl rfl)
theorem dX5_once_12 : decode cX5_once 12 = .ok (.iconst 3, 1) := dk_6 (dk_at dksX5_once_0 12 rfl rfl)
theorem dX5_once_13 : decode cX5_once 13 = .ok (.invokevirtual 183, 3) := dk_182 0 183 (dk_at dksX5_once_0 13 rfl rfl)
theorem dX5_once_16 : decode cX5_once 16 = .ok (.ireturn, 1) := dk_172 (dk_at dksX5_once_0 16 rfl rfl)
theorem dX5_once_17 : decode cX5_once 17 = .ok (.aload_n 0, 1) := dk_42 (dk_at dksX5_once_0 17 rfl rfl)
theorem dX5_once_18 : decode cX5_once 18 = .ok (.dup, 1) := dk_89 (dk_at dksX5_once_0 18 rfl rfl)
theorem dX5_once_19 : decode cX5_once 19 = .ok (.getfield 211, 3) := dk_180 0 211 (dk_at dksX5_once_0 19 rfl rfl)
theorem dX5_once_22 : decode cX5_once 22 = .ok (.iconst 1, 1) := dk_4 (dk_at dksX5_once_0 22 rfl rfl)
theorem dX5_once_23 : decode cX5_once 23 = .ok (.iload_n 1, 1) := dk_27 (dk_at dksX5_once_0 23 rfl rfl)
theorem dX5_once_24 : decode cX5_once 24 = .ok (.ishl, 1) := dk_120 (dk_at dksX5_once_1 0 rfl rfl)
theorem dX5_once_25 : decode cX5_once 25 = .ok (.ior, 1) := dk_128 (dk_at dksX5_once_1 1 rfl rfl)
theorem dX5_once_26 : decode cX5_once 26 = .ok (.putfield 211, 3) := dk_181 0 211 (dk_at dksX5_once_1 2 rfl rfl)
theorem dX5_once_29 : decode cX5_once 29 = .ok (.aload_n 0, 1) := dk_42 (dk_at dksX5_once_1 5 rfl rfl)
theorem dX5_once_30 : decode cX5_once 30 = .ok (.invokevirtual 186, 3) := dk_182 0 186 (dk_at dksX5_once_1 6 rfl rfl)
theorem dX5_once_33 : decode cX5_once 33 = .ok (.aload_n 0, 1) := dk_42 (dk_at dksX5_once_1 9 rfl rfl)
theorem dX5_once_34 : decode cX5_once 34 = .ok (.iload_n 2, 1) := dk_28 (dk_at dksX5_once_1 10 rfl rfl)
theorem dX5_once_35 : decode cX5_once 35 = .ok (.iload_n 3, 1) := dk_29 (dk_at dksX5_once_1 11 rfl rfl)
theorem dX5_once_36 : decode cX5_once 36 = .ok (.iload 4, 2) := dk_21 4 (dk_at dksX5_once_1 12 rfl rfl)
theorem dX5_once_38 : decode cX5_once 38 = .ok (.invokevirtual 217, 3) := dk_182 0 217 (dk_at dksX5_once_1 14 rfl rfl)
theorem dX5_once_41 : decode cX5_once 41 = .ok (.ireturn, 1) := dk_172 (dk_at dksX5_once_1 17 rfl rfl)
abbrev cX5_sign : ByteArray := prog_26_method_22_code
def yX5_sign : MethodName := ⟨RX5, "sign", "(I)Z"⟩
def dkwX5_sign_0 : List UInt8 := [42, 27, 182, 0, 180, 154, 0, 9, 42, 4, 182, 0, 183, 172, 42, 182, 0, 186, 4, 172]
abbrev dktX5_sign_0 : List UInt8 := dkwX5_sign_0 ++ []
theorem dksX5_sign_0 : cX5_sign.data.toList.drop 0 = dktX5_sign_0 := by decide +kernel
theorem dX5_sign_0 : decode cX5_sign 0 = .ok (.aload_n 0, 1) := dk_42 (dk_at dksX5_sign_0 0 rfl rfl)
theorem dX5_sign_1 : decode cX5_sign 1 = .ok (.iload_n 1, 1) := dk_27 (dk_at dksX5_sign_0 1 rfl rfl)
theorem dX5_sign_2 : decode cX5_sign 2 = .ok (.invokevirtual 180, 3) := dk_182 0 180 (dk_at dksX5_sign_0 2 rfl rfl)
theorem dX5_sign_5 : decode cX5_sign 5 = .ok (.ifCond .ne 9, 3) := dk_154 0 9 (dk_at dksX5_sign_0 5 rfl rfl)
theorem dX5_sign_8 : decode cX5_sign 8 = .ok (.aload_n 0, 1) := dk_42 (dk_at dksX5_sign_0 8 rfl rfl)
theorem dX5_sign_9 : decode cX5_sign 9 = .ok (.iconst 1, 1) := dk_4 (dk_at dksX5_sign_0 9 rfl rfl)
theorem dX5_sign_10 : decode cX5_sign 10 = .ok (.invokevirtual 183, 3) := dk_182 0 183 (dk_at dksX5_sign_0 10 rfl rfl)
theorem dX5_sign_13 : decode cX5_sign 13 = .ok (.ireturn, 1) := dk_172 (dk_at dksX5_sign_0 13 rfl rfl)
theorem dX5_sign_14 : decode cX5_sign 14 = .ok (.aload_n 0, 1) := dk_42 (dk_at dksX5_sign_0 14 rfl rfl)
theorem dX5_sign_15 : decode cX5_sign 15 = .ok (.invokevirtual 186, 3) := dk_182 0 186 (dk_at dksX5_sign_0 15 rfl rfl)
theorem dX5_sign_18 : decode cX5_sign 18 = .ok (.iconst 1, 1) := dk_4 (dk_at dksX5_sign_0 18 rfl rfl)
theorem dX5_sign_19 : decode cX5_sign 19 = .ok (.ireturn, 1) := dk_172 (dk_at dksX5_sign_0 19 rfl rfl)
abbrev cX5_isSign : ByteArray := prog_26_method_21_code
def yX5_isSign : MethodName := ⟨RX5, "isSign", "(I)Z"⟩
def dkwX5_isSign_0 : List UInt8 := [42, 180, 0, 157, 6, 160, 0, 15, 42, 180, 0, 167, 27, 160, 0, 7, 4, 167, 0, 4, 3, 172]
abbrev dktX5_isSign_0 : List UInt8 := dkwX5_isSign_0 ++ []
theorem dksX5_isSign_0 : cX5_isSign.data.toList.drop 0 = dktX5_isSign_0 := by decide +kernel
theorem dX5_isSign_0 : decode cX5_isSign 0 = .ok (.aload_n 0, 1) := dk_42 (dk_at dksX5_isSign_0 0 rfl rfl)
theorem dX5_isSign_1 : decode cX5_isSign 1 = .ok (.getfield 157, 3) := dk_180 0 157 (dk_at dksX5_isSign_0 1 rfl rfl)
theorem dX5_isSign_4 : decode cX5_isSign 4 = .ok (.iconst 3, 1) := dk_6 (dk_at dksX5_isSign_0 4 rfl rfl)
theorem dX5_isSign_5 : decode cX5_isSign 5 = .ok (.if_icmp .ne 15, 3) := dk_160 0 15 (dk_at dksX5_isSign_0 5 rfl rfl)
theorem dX5_isSign_8 : decode cX5_isSign 8 = .ok (.aload_n 0, 1) := dk_42 (dk_at dksX5_isSign_0 8 rfl rfl)
theorem dX5_isSign_9 : decode cX5_isSign 9 = .ok (.getfield 167, 3) := dk_180 0 167 (dk_at dksX5_isSign_0 9 rfl rfl)
theorem dX5_isSign_12 : decode cX5_isSign 12 = .ok (.iload_n 1, 1) := dk_27 (dk_at dksX5_isSign_0 12 rfl rfl)
theorem dX5_isSign_13 : decode cX5_isSign 13 = .ok (.if_icmp .ne 7, 3) := dk_160 0 7 (dk_at dksX5_isSign_0 13 rfl rfl)
theorem dX5_isSign_16 : decode cX5_isSign 16 = .ok (.iconst 1, 1) := dk_4 (dk_at dksX5_isSign_0 16 rfl rfl)
theorem dX5_isSign_17 : decode cX5_isSign 17 = .ok (.goto 4, 3) := dk_167 0 4 (dk_at dksX5_isSign_0 17 rfl rfl)
theorem dX5_isSign_20 : decode cX5_isSign 20 = .ok (.iconst 0, 1) := dk_3 (dk_at dksX5_isSign_0 20 rfl rfl)
theorem dX5_isSign_21 : decode cX5_isSign 21 = .ok (.ireturn, 1) := dk_172 (dk_at dksX5_isSign_0 21 rfl rfl)
abbrev cX5_morning : ByteArray := prog_26_method_58_code
def yX5_morning : MethodName := ⟨RX5, "morning", "()V"⟩
def dkwX5_morning_3 : List UInt8 := [42, 180, 0, 33, 17, 0, 135, 42, 180, 0, 33, 6, 46, 79, 177]
abbrev dktX5_morning_3 : List UInt8 := dkwX5_morning_3 ++ []
def dkwX5_morning_2 : List UInt8 := [132, 1, 1, 167, 255, 209, 42, 180, 0, 33, 17, 0, 133, 3, 79, 42, 180, 0, 33, 17, 0, 134, 3, 79]
abbrev dktX5_morning_2 : List UInt8 := dkwX5_morning_2 ++ dktX5_morning_3
def dkwX5_morning_1 : List UInt8 := [96, 46, 79, 42, 180, 0, 33, 17, 0, 178, 27, 96, 42, 180, 0, 33, 16, 82, 27, 96, 46, 79]
abbrev dktX5_morning_1 : List UInt8 := dkwX5_morning_1 ++ dktX5_morning_2
def dkwX5_morning_0 : List UInt8 := [3, 60, 27, 16, 35, 162, 0, 47, 42, 180, 0, 33, 17, 0, 143, 27, 96, 42, 180, 0, 33, 16, 12, 27]
abbrev dktX5_morning_0 : List UInt8 := dkwX5_morning_0 ++ dktX5_morning_1
theorem dksX5_morning_0 : cX5_morning.data.toList.drop 0 = dktX5_morning_0 := by decide +kernel
theorem dksX5_morning_1 : cX5_morning.data.toList.drop 24 = dktX5_morning_1 := dk_seg dksX5_morning_0 24 rfl rfl
theorem dksX5_morning_2 : cX5_morning.data.toList.drop 46 = dktX5_morning_2 := dk_seg dksX5_morning_1 22 rfl rfl
theorem dksX5_morning_3 : cX5_morning.data.toList.drop 70 = dktX5_morning_3 := dk_seg dksX5_morning_2 24 rfl rfl
theorem dX5_morning_0 : decode cX5_morning 0 = .ok (.iconst 0, 1) := dk_3 (dk_at dksX5_morning_0 0 rfl rfl)
theorem dX5_morning_1 : decode cX5_morning 1 = .ok (.istore_n 1, 1) := dk_60 (dk_at dksX5_morning_0 1 rfl rfl)
theorem dX5_morning_2 : decode cX5_morning 2 = .ok (.iload_n 1, 1) := dk_27 (dk_at dksX5_morning_0 2 rfl rfl)
theorem dX5_morning_3 : decode cX5_morning 3 = .ok (.bipush 35, 2) := dk_16 35 (dk_at dksX5_morning_0 3 rfl rfl)
theorem dX5_morning_5 : decode cX5_morning 5 = .ok (.if_icmp .ge 47, 3) := dk_162 0 47 (dk_at dksX5_morning_0 5 rfl rfl)
theorem dX5_morning_8 : decode cX5_morning 8 = .ok (.aload_n 0, 1) := dk_42 (dk_at dksX5_morning_0 8 rfl rfl)
theorem dX5_morning_9 : decode cX5_morning 9 = .ok (.getfield 33, 3) := dk_180 0 33 (dk_at dksX5_morning_0 9 rfl rfl)
theorem dX5_morning_12 : decode cX5_morning 12 = .ok (.sipush 143, 3) := dk_17 0 143 (dk_at dksX5_morning_0 12 rfl rfl)
theorem dX5_morning_15 : decode cX5_morning 15 = .ok (.iload_n 1, 1) := dk_27 (dk_at dksX5_morning_0 15 rfl rfl)
theorem dX5_morning_16 : decode cX5_morning 16 = .ok (.iadd, 1) := dk_96 (dk_at dksX5_morning_0 16 rfl rfl)
theorem dX5_morning_17 : decode cX5_morning 17 = .ok (.aload_n 0, 1) := dk_42 (dk_at dksX5_morning_0 17 rfl rfl)
theorem dX5_morning_18 : decode cX5_morning 18 = .ok (.getfield 33, 3) := dk_180 0 33 (dk_at dksX5_morning_0 18 rfl rfl)
theorem dX5_morning_21 : decode cX5_morning 21 = .ok (.bipush 12, 2) := dk_16 12 (dk_at dksX5_morning_0 21 rfl rfl)
theorem dX5_morning_23 : decode cX5_morning 23 = .ok (.iload_n 1, 1) := dk_27 (dk_at dksX5_morning_0 23 rfl rfl)
theorem dX5_morning_24 : decode cX5_morning 24 = .ok (.iadd, 1) := dk_96 (dk_at dksX5_morning_1 0 rfl rfl)
theorem dX5_morning_25 : decode cX5_morning 25 = .ok (.iaload, 1) := dk_46 (dk_at dksX5_morning_1 1 rfl rfl)
theorem dX5_morning_26 : decode cX5_morning 26 = .ok (.iastore, 1) := dk_79 (dk_at dksX5_morning_1 2 rfl rfl)
theorem dX5_morning_27 : decode cX5_morning 27 = .ok (.aload_n 0, 1) := dk_42 (dk_at dksX5_morning_1 3 rfl rfl)
theorem dX5_morning_28 : decode cX5_morning 28 = .ok (.getfield 33, 3) := dk_180 0 33 (dk_at dksX5_morning_1 4 rfl rfl)
theorem dX5_morning_31 : decode cX5_morning 31 = .ok (.sipush 178, 3) := dk_17 0 178 (dk_at dksX5_morning_1 7 rfl rfl)
theorem dX5_morning_34 : decode cX5_morning 34 = .ok (.iload_n 1, 1) := dk_27 (dk_at dksX5_morning_1 10 rfl rfl)
theorem dX5_morning_35 : decode cX5_morning 35 = .ok (.iadd, 1) := dk_96 (dk_at dksX5_morning_1 11 rfl rfl)
theorem dX5_morning_36 : decode cX5_morning 36 = .ok (.aload_n 0, 1) := dk_42 (dk_at dksX5_morning_1 12 rfl rfl)
theorem dX5_morning_37 : decode cX5_morning 37 = .ok (.getfield 33, 3) := dk_180 0 33 (dk_at dksX5_morning_1 13 rfl rfl)
theorem dX5_morning_40 : decode cX5_morning 40 = .ok (.bipush 82, 2) := dk_16 82 (dk_at dksX5_morning_1 16 rfl rfl)
theorem dX5_morning_42 : decode cX5_morning 42 = .ok (.iload_n 1, 1) := dk_27 (dk_at dksX5_morning_1 18 rfl rfl)
theorem dX5_morning_43 : decode cX5_morning 43 = .ok (.iadd, 1) := dk_96 (dk_at dksX5_morning_1 19 rfl rfl)
theorem dX5_morning_44 : decode cX5_morning 44 = .ok (.iaload, 1) := dk_46 (dk_at dksX5_morning_1 20 rfl rfl)
theorem dX5_morning_45 : decode cX5_morning 45 = .ok (.iastore, 1) := dk_79 (dk_at dksX5_morning_1 21 rfl rfl)
theorem dX5_morning_46 : decode cX5_morning 46 = .ok (.iinc 1 1, 3) := dk_132 1 1 (dk_at dksX5_morning_2 0 rfl rfl)
theorem dX5_morning_49 : decode cX5_morning 49 = .ok (.goto (-47), 3) := dk_167 255 209 (dk_at dksX5_morning_2 3 rfl rfl)
theorem dX5_morning_52 : decode cX5_morning 52 = .ok (.aload_n 0, 1) := dk_42 (dk_at dksX5_morning_2 6 rfl rfl)
theorem dX5_morning_53 : decode cX5_morning 53 = .ok (.getfield 33, 3) := dk_180 0 33 (dk_at dksX5_morning_2 7 rfl rfl)
theorem dX5_morning_56 : decode cX5_morning 56 = .ok (.sipush 133, 3) := dk_17 0 133 (dk_at dksX5_morning_2 10 rfl rfl)
theorem dX5_morning_59 : decode cX5_morning 59 = .ok (.iconst 0, 1) := dk_3 (dk_at dksX5_morning_2 13 rfl rfl)
theorem dX5_morning_60 : decode cX5_morning 60 = .ok (.iastore, 1) := dk_79 (dk_at dksX5_morning_2 14 rfl rfl)
theorem dX5_morning_61 : decode cX5_morning 61 = .ok (.aload_n 0, 1) := dk_42 (dk_at dksX5_morning_2 15 rfl rfl)
theorem dX5_morning_62 : decode cX5_morning 62 = .ok (.getfield 33, 3) := dk_180 0 33 (dk_at dksX5_morning_2 16 rfl rfl)
theorem dX5_morning_65 : decode cX5_morning 65 = .ok (.sipush 134, 3) := dk_17 0 134 (dk_at dksX5_morning_2 19 rfl rfl)
theorem dX5_morning_68 : decode cX5_morning 68 = .ok (.iconst 0, 1) := dk_3 (dk_at dksX5_morning_2 22 rfl rfl)
theorem dX5_morning_69 : decode cX5_morning 69 = .ok (.iastore, 1) := dk_79 (dk_at dksX5_morning_2 23 rfl rfl)
theorem dX5_morning_70 : decode cX5_morning 70 = .ok (.aload_n 0, 1) := dk_42 (dk_at dksX5_morning_3 0 rfl rfl)
theorem dX5_morning_71 : decode cX5_morning 71 = .ok (.getfield 33, 3) := dk_180 0 33 (dk_at dksX5_morning_3 1 rfl rfl)
theorem dX5_morning_74 : decode cX5_morning 74 = .ok (.sipush 135, 3) := dk_17 0 135 (dk_at dksX5_morning_3 4 rfl rfl)
theorem dX5_morning_77 : decode cX5_morning 77 = .ok (.aload_n 0, 1) := dk_42 (dk_at dksX5_morning_3 7 rfl rfl)
theorem dX5_morning_78 : decode cX5_morning 78 = .ok (.getfield 33, 3) := dk_180 0 33 (dk_at dksX5_morning_3 8 rfl rfl)
theorem dX5_morning_81 : decode cX5_morning 81 = .ok (.iconst 3, 1) := dk_6 (dk_at dksX5_morning_3 11 rfl rfl)
theorem dX5_morning_82 : decode cX5_morning 82 = .ok (.iaload, 1) := dk_46 (dk_at dksX5_morning_3 12 rfl rfl)
theorem dX5_morning_83 : decode cX5_morning 83 = .ok (.iastore, 1) := dk_79 (dk_at dksX5_morning_3 13 rfl rfl)
theorem dX5_morning_84 : decode cX5_morning 84 = .ok (.return_, 1) := dk_177 (dk_at dksX5_morning_3 14 rfl rfl)
abbrev cX5_fault : ByteArray := prog_26_method_37_code
def yX5_fault : MethodName := ⟨RX5, "fault", "()I"⟩
def dkwX5_fault_0 : List UInt8 := [42, 3, 181, 0, 1, 42, 180, 0, 174, 172]
abbrev dktX5_fault_0 : List UInt8 := dkwX5_fault_0 ++ []
theorem dksX5_fault_0 : cX5_fault.data.toList.drop 0 = dktX5_fault_0 := by decide +kernel
theorem dX5_fault_0 : decode cX5_fault 0 = .ok (.aload_n 0, 1) := dk_42 (dk_at dksX5_fault_0 0 rfl rfl)
theorem dX5_fault_1 : decode cX5_fault 1 = .ok (.iconst 0, 1) := dk_3 (dk_at dksX5_fault_0 1 rfl rfl)
theorem dX5_fault_2 : decode cX5_fault 2 = .ok (.putfield 1, 3) := dk_181 0 1 (dk_at dksX5_fault_0 2 rfl rfl)
theorem dX5_fault_5 : decode cX5_fault 5 = .ok (.aload_n 0, 1) := dk_42 (dk_at dksX5_fault_0 5 rfl rfl)
theorem dX5_fault_6 : decode cX5_fault 6 = .ok (.getfield 174, 3) := dk_180 0 174 (dk_at dksX5_fault_0 6 rfl rfl)
theorem dX5_fault_9 : decode cX5_fault 9 = .ok (.ireturn, 1) := dk_172 (dk_at dksX5_fault_0 9 rfl rfl)
abbrev cX5_person : ByteArray := prog_26_method_46_code
def yX5_person : MethodName := ⟨RX5, "person", "(II)I"⟩
def dkwX5_person_6 : List UInt8 := [27, 182, 1, 13, 172]
abbrev dktX5_person_6 : List UInt8 := dkwX5_person_6 ++ []
def dkwX5_person_5 : List UInt8 := [180, 0, 33, 17, 0, 134, 46, 27, 122, 4, 126, 172, 42, 180, 0, 33, 17, 0, 213, 27, 96, 46, 172, 42]
abbrev dktX5_person_5 : List UInt8 := dkwX5_person_5 ++ dktX5_person_6
def dkwX5_person_4 : List UInt8 := [96, 46, 172, 42, 27, 182, 1, 22, 172, 42, 180, 0, 33, 17, 0, 133, 46, 27, 122, 4, 126, 172, 42]
abbrev dktX5_person_4 : List UInt8 := dkwX5_person_4 ++ dktX5_person_5
def dkwX5_person_3 : List UInt8 := [42, 180, 0, 33, 17, 0, 136, 27, 96, 46, 172, 42, 27, 182, 1, 9, 172, 42, 180, 0, 33, 16, 124, 27]
abbrev dktX5_person_3 : List UInt8 := dkwX5_person_3 ++ dktX5_person_4
def dkwX5_person_2 : List UInt8 := [170, 0, 0, 0, 0, 0, 113, 0, 0, 0, 0, 0, 0, 0, 6, 0, 0, 0, 43, 0, 0, 0, 54, 0, 0, 0, 60, 0, 0, 0, 70, 0, 0, 0, 76, 0, 0, 0, 89, 0, 0, 0, 102]
abbrev dktX5_person_2 : List UInt8 := dkwX5_person_2 ++ dktX5_person_3
def dkwX5_person_1 : List UInt8 := [182, 1, 19, 153, 0, 5, 3, 172, 28]
abbrev dktX5_person_1 : List UInt8 := dkwX5_person_1 ++ dktX5_person_2
def dkwX5_person_0 : List UInt8 := [42, 42, 27, 182, 1, 16, 153, 0, 13, 28, 3, 16, 7, 184, 0, 189, 154, 0, 7, 4, 167, 0, 4, 3]
abbrev dktX5_person_0 : List UInt8 := dkwX5_person_0 ++ dktX5_person_1
theorem dksX5_person_0 : cX5_person.data.toList.drop 0 = dktX5_person_0 := by decide +kernel
theorem dksX5_person_1 : cX5_person.data.toList.drop 24 = dktX5_person_1 := dk_seg dksX5_person_0 24 rfl rfl
theorem dksX5_person_2 : cX5_person.data.toList.drop 33 = dktX5_person_2 := dk_seg dksX5_person_1 9 rfl rfl
theorem dksX5_person_3 : cX5_person.data.toList.drop 76 = dktX5_person_3 := dk_seg dksX5_person_2 43 rfl rfl
theorem dksX5_person_4 : cX5_person.data.toList.drop 100 = dktX5_person_4 := dk_seg dksX5_person_3 24 rfl rfl
theorem dksX5_person_5 : cX5_person.data.toList.drop 123 = dktX5_person_5 := dk_seg dksX5_person_4 23 rfl rfl
theorem dksX5_person_6 : cX5_person.data.toList.drop 147 = dktX5_person_6 := dk_seg dksX5_person_5 24 rfl rfl
theorem dX5_person_0 : decode cX5_person 0 = .ok (.aload_n 0, 1) := dk_42 (dk_at dksX5_person_0 0 rfl rfl)
theorem dX5_person_1 : decode cX5_person 1 = .ok (.aload_n 0, 1) := dk_42 (dk_at dksX5_person_0 1 rfl rfl)
theorem dX5_person_2 : decode cX5_person 2 = .ok (.iload_n 1, 1) := dk_27 (dk_at dksX5_person_0 2 rfl rfl)
theorem dX5_person_3 : decode cX5_person 3 = .ok (.invokevirtual 272, 3) := dk_182 1 16 (dk_at dksX5_person_0 3 rfl rfl)
theorem dX5_person_6 : decode cX5_person 6 = .ok (.ifCond .eq 13, 3) := dk_153 0 13 (dk_at dksX5_person_0 6 rfl rfl)
theorem dX5_person_9 : decode cX5_person 9 = .ok (.iload_n 2, 1) := dk_28 (dk_at dksX5_person_0 9 rfl rfl)
theorem dX5_person_10 : decode cX5_person 10 = .ok (.iconst 0, 1) := dk_3 (dk_at dksX5_person_0 10 rfl rfl)
theorem dX5_person_11 : decode cX5_person 11 = .ok (.bipush 7, 2) := dk_16 7 (dk_at dksX5_person_0 11 rfl rfl)
theorem dX5_person_13 : decode cX5_person 13 = .ok (.invokestatic 189, 3) := dk_184 0 189 (dk_at dksX5_person_0 13 rfl rfl)
theorem dX5_person_16 : decode cX5_person 16 = .ok (.ifCond .ne 7, 3) := dk_154 0 7 (dk_at dksX5_person_0 16 rfl rfl)
theorem dX5_person_19 : decode cX5_person 19 = .ok (.iconst 1, 1) := dk_4 (dk_at dksX5_person_0 19 rfl rfl)
theorem dX5_person_20 : decode cX5_person 20 = .ok (.goto 4, 3) := dk_167 0 4 (dk_at dksX5_person_0 20 rfl rfl)
theorem dX5_person_23 : decode cX5_person 23 = .ok (.iconst 0, 1) := dk_3 (dk_at dksX5_person_0 23 rfl rfl)
theorem dX5_person_24 : decode cX5_person 24 = .ok (.invokevirtual 275, 3) := dk_182 1 19 (dk_at dksX5_person_1 0 rfl rfl)
theorem dX5_person_27 : decode cX5_person 27 = .ok (.ifCond .eq 5, 3) := dk_153 0 5 (dk_at dksX5_person_1 3 rfl rfl)
theorem dX5_person_30 : decode cX5_person 30 = .ok (.iconst 0, 1) := dk_3 (dk_at dksX5_person_1 6 rfl rfl)
theorem dX5_person_31 : decode cX5_person 31 = .ok (.ireturn, 1) := dk_172 (dk_at dksX5_person_1 7 rfl rfl)
theorem dX5_person_32 : decode cX5_person 32 = .ok (.iload_n 2, 1) := dk_28 (dk_at dksX5_person_1 8 rfl rfl)
theorem dX5_person_33 : decode cX5_person 33 = .ok (.tableswitch 113 0 6 #[43, 54, 60, 70, 76, 89, 102], 43) := by decide +kernel
theorem dX5_person_76 : decode cX5_person 76 = .ok (.aload_n 0, 1) := dk_42 (dk_at dksX5_person_3 0 rfl rfl)
theorem dX5_person_77 : decode cX5_person 77 = .ok (.getfield 33, 3) := dk_180 0 33 (dk_at dksX5_person_3 1 rfl rfl)
theorem dX5_person_80 : decode cX5_person 80 = .ok (.sipush 136, 3) := dk_17 0 136 (dk_at dksX5_person_3 4 rfl rfl)
theorem dX5_person_83 : decode cX5_person 83 = .ok (.iload_n 1, 1) := dk_27 (dk_at dksX5_person_3 7 rfl rfl)
theorem dX5_person_84 : decode cX5_person 84 = .ok (.iadd, 1) := dk_96 (dk_at dksX5_person_3 8 rfl rfl)
theorem dX5_person_85 : decode cX5_person 85 = .ok (.iaload, 1) := dk_46 (dk_at dksX5_person_3 9 rfl rfl)
theorem dX5_person_86 : decode cX5_person 86 = .ok (.ireturn, 1) := dk_172 (dk_at dksX5_person_3 10 rfl rfl)
theorem dX5_person_87 : decode cX5_person 87 = .ok (.aload_n 0, 1) := dk_42 (dk_at dksX5_person_3 11 rfl rfl)
theorem dX5_person_88 : decode cX5_person 88 = .ok (.iload_n 1, 1) := dk_27 (dk_at dksX5_person_3 12 rfl rfl)
theorem dX5_person_89 : decode cX5_person 89 = .ok (.invokevirtual 265, 3) := dk_182 1 9 (dk_at dksX5_person_3 13 rfl rfl)
theorem dX5_person_92 : decode cX5_person 92 = .ok (.ireturn, 1) := dk_172 (dk_at dksX5_person_3 16 rfl rfl)
theorem dX5_person_93 : decode cX5_person 93 = .ok (.aload_n 0, 1) := dk_42 (dk_at dksX5_person_3 17 rfl rfl)
theorem dX5_person_94 : decode cX5_person 94 = .ok (.getfield 33, 3) := dk_180 0 33 (dk_at dksX5_person_3 18 rfl rfl)
theorem dX5_person_97 : decode cX5_person 97 = .ok (.bipush 124, 2) := dk_16 124 (dk_at dksX5_person_3 21 rfl rfl)
theorem dX5_person_99 : decode cX5_person 99 = .ok (.iload_n 1, 1) := dk_27 (dk_at dksX5_person_3 23 rfl rfl)
theorem dX5_person_100 : decode cX5_person 100 = .ok (.iadd, 1) := dk_96 (dk_at dksX5_person_4 0 rfl rfl)
theorem dX5_person_101 : decode cX5_person 101 = .ok (.iaload, 1) := dk_46 (dk_at dksX5_person_4 1 rfl rfl)
theorem dX5_person_102 : decode cX5_person 102 = .ok (.ireturn, 1) := dk_172 (dk_at dksX5_person_4 2 rfl rfl)
theorem dX5_person_103 : decode cX5_person 103 = .ok (.aload_n 0, 1) := dk_42 (dk_at dksX5_person_4 3 rfl rfl)
theorem dX5_person_104 : decode cX5_person 104 = .ok (.iload_n 1, 1) := dk_27 (dk_at dksX5_person_4 4 rfl rfl)
theorem dX5_person_105 : decode cX5_person 105 = .ok (.invokevirtual 278, 3) := dk_182 1 22 (dk_at dksX5_person_4 5 rfl rfl)
theorem dX5_person_108 : decode cX5_person 108 = .ok (.ireturn, 1) := dk_172 (dk_at dksX5_person_4 8 rfl rfl)
theorem dX5_person_109 : decode cX5_person 109 = .ok (.aload_n 0, 1) := dk_42 (dk_at dksX5_person_4 9 rfl rfl)
theorem dX5_person_110 : decode cX5_person 110 = .ok (.getfield 33, 3) := dk_180 0 33 (dk_at dksX5_person_4 10 rfl rfl)
theorem dX5_person_113 : decode cX5_person 113 = .ok (.sipush 133, 3) := dk_17 0 133 (dk_at dksX5_person_4 13 rfl rfl)
theorem dX5_person_116 : decode cX5_person 116 = .ok (.iaload, 1) := dk_46 (dk_at dksX5_person_4 16 rfl rfl)
theorem dX5_person_117 : decode cX5_person 117 = .ok (.iload_n 1, 1) := dk_27 (dk_at dksX5_person_4 17 rfl rfl)
theorem dX5_person_118 : decode cX5_person 118 = .ok (.ishr, 1) := dk_122 (dk_at dksX5_person_4 18 rfl rfl)
theorem dX5_person_119 : decode cX5_person 119 = .ok (.iconst 1, 1) := dk_4 (dk_at dksX5_person_4 19 rfl rfl)
theorem dX5_person_120 : decode cX5_person 120 = .ok (.iand, 1) := dk_126 (dk_at dksX5_person_4 20 rfl rfl)
theorem dX5_person_121 : decode cX5_person 121 = .ok (.ireturn, 1) := dk_172 (dk_at dksX5_person_4 21 rfl rfl)
theorem dX5_person_122 : decode cX5_person 122 = .ok (.aload_n 0, 1) := dk_42 (dk_at dksX5_person_4 22 rfl rfl)
theorem dX5_person_123 : decode cX5_person 123 = .ok (.getfield 33, 3) := dk_180 0 33 (dk_at dksX5_person_5 0 rfl rfl)
theorem dX5_person_126 : decode cX5_person 126 = .ok (.sipush 134, 3) := dk_17 0 134 (dk_at dksX5_person_5 3 rfl rfl)
theorem dX5_person_129 : decode cX5_person 129 = .ok (.iaload, 1) := dk_46 (dk_at dksX5_person_5 6 rfl rfl)
theorem dX5_person_130 : decode cX5_person 130 = .ok (.iload_n 1, 1) := dk_27 (dk_at dksX5_person_5 7 rfl rfl)
theorem dX5_person_131 : decode cX5_person 131 = .ok (.ishr, 1) := dk_122 (dk_at dksX5_person_5 8 rfl rfl)
theorem dX5_person_132 : decode cX5_person 132 = .ok (.iconst 1, 1) := dk_4 (dk_at dksX5_person_5 9 rfl rfl)
theorem dX5_person_133 : decode cX5_person 133 = .ok (.iand, 1) := dk_126 (dk_at dksX5_person_5 10 rfl rfl)
theorem dX5_person_134 : decode cX5_person 134 = .ok (.ireturn, 1) := dk_172 (dk_at dksX5_person_5 11 rfl rfl)
theorem dX5_person_135 : decode cX5_person 135 = .ok (.aload_n 0, 1) := dk_42 (dk_at dksX5_person_5 12 rfl rfl)
theorem dX5_person_136 : decode cX5_person 136 = .ok (.getfield 33, 3) := dk_180 0 33 (dk_at dksX5_person_5 13 rfl rfl)
theorem dX5_person_139 : decode cX5_person 139 = .ok (.sipush 213, 3) := dk_17 0 213 (dk_at dksX5_person_5 16 rfl rfl)
theorem dX5_person_142 : decode cX5_person 142 = .ok (.iload_n 1, 1) := dk_27 (dk_at dksX5_person_5 19 rfl rfl)
theorem dX5_person_143 : decode cX5_person 143 = .ok (.iadd, 1) := dk_96 (dk_at dksX5_person_5 20 rfl rfl)
theorem dX5_person_144 : decode cX5_person 144 = .ok (.iaload, 1) := dk_46 (dk_at dksX5_person_5 21 rfl rfl)
theorem dX5_person_145 : decode cX5_person 145 = .ok (.ireturn, 1) := dk_172 (dk_at dksX5_person_5 22 rfl rfl)
theorem dX5_person_146 : decode cX5_person 146 = .ok (.aload_n 0, 1) := dk_42 (dk_at dksX5_person_5 23 rfl rfl)
theorem dX5_person_147 : decode cX5_person 147 = .ok (.iload_n 1, 1) := dk_27 (dk_at dksX5_person_6 0 rfl rfl)
theorem dX5_person_148 : decode cX5_person 148 = .ok (.invokevirtual 269, 3) := dk_182 1 13 (dk_at dksX5_person_6 1 rfl rfl)
theorem dX5_person_151 : decode cX5_person 151 = .ok (.ireturn, 1) := dk_172 (dk_at dksX5_person_6 4 rfl rfl)
abbrev cX5_isPerson : ByteArray := prog_26_method_38_code
def yX5_isPerson : MethodName := ⟨RX5, "isPerson", "(I)Z"⟩
def dkwX5_isPerson_0 : List UInt8 := [27, 3, 42, 180, 0, 33, 3, 46, 4, 100, 184, 0, 189, 172]
abbrev dktX5_isPerson_0 : List UInt8 := dkwX5_isPerson_0 ++ []
theorem dksX5_isPerson_0 : cX5_isPerson.data.toList.drop 0 = dktX5_isPerson_0 := by decide +kernel
theorem dX5_isPerson_0 : decode cX5_isPerson 0 = .ok (.iload_n 1, 1) := dk_27 (dk_at dksX5_isPerson_0 0 rfl rfl)
theorem dX5_isPerson_1 : decode cX5_isPerson 1 = .ok (.iconst 0, 1) := dk_3 (dk_at dksX5_isPerson_0 1 rfl rfl)
theorem dX5_isPerson_2 : decode cX5_isPerson 2 = .ok (.aload_n 0, 1) := dk_42 (dk_at dksX5_isPerson_0 2 rfl rfl)
theorem dX5_isPerson_3 : decode cX5_isPerson 3 = .ok (.getfield 33, 3) := dk_180 0 33 (dk_at dksX5_isPerson_0 3 rfl rfl)
theorem dX5_isPerson_6 : decode cX5_isPerson 6 = .ok (.iconst 0, 1) := dk_3 (dk_at dksX5_isPerson_0 6 rfl rfl)
theorem dX5_isPerson_7 : decode cX5_isPerson 7 = .ok (.iaload, 1) := dk_46 (dk_at dksX5_isPerson_0 7 rfl rfl)
theorem dX5_isPerson_8 : decode cX5_isPerson 8 = .ok (.iconst 1, 1) := dk_4 (dk_at dksX5_isPerson_0 8 rfl rfl)
theorem dX5_isPerson_9 : decode cX5_isPerson 9 = .ok (.isub, 1) := dk_100 (dk_at dksX5_isPerson_0 9 rfl rfl)
theorem dX5_isPerson_10 : decode cX5_isPerson 10 = .ok (.invokestatic 189, 3) := dk_184 0 189 (dk_at dksX5_isPerson_0 10 rfl rfl)
theorem dX5_isPerson_13 : decode cX5_isPerson 13 = .ok (.ireturn, 1) := dk_172 (dk_at dksX5_isPerson_0 13 rfl rfl)
abbrev cX5_throwsIf : ByteArray := prog_26_method_2_code
def yX5_throwsIf : MethodName := ⟨RX5, "throwsIf", "(Z)Z"⟩
def dkwX5_throwsIf_0 : List UInt8 := [42, 27, 153, 0, 7, 4, 167, 0, 4, 3, 181, 0, 1, 27, 172]
abbrev dktX5_throwsIf_0 : List UInt8 := dkwX5_throwsIf_0 ++ []
theorem dksX5_throwsIf_0 : cX5_throwsIf.data.toList.drop 0 = dktX5_throwsIf_0 := by decide +kernel
theorem dX5_throwsIf_0 : decode cX5_throwsIf 0 = .ok (.aload_n 0, 1) := dk_42 (dk_at dksX5_throwsIf_0 0 rfl rfl)
theorem dX5_throwsIf_1 : decode cX5_throwsIf 1 = .ok (.iload_n 1, 1) := dk_27 (dk_at dksX5_throwsIf_0 1 rfl rfl)
theorem dX5_throwsIf_2 : decode cX5_throwsIf 2 = .ok (.ifCond .eq 7, 3) := dk_153 0 7 (dk_at dksX5_throwsIf_0 2 rfl rfl)
theorem dX5_throwsIf_5 : decode cX5_throwsIf 5 = .ok (.iconst 1, 1) := dk_4 (dk_at dksX5_throwsIf_0 5 rfl rfl)
theorem dX5_throwsIf_6 : decode cX5_throwsIf 6 = .ok (.goto 4, 3) := dk_167 0 4 (dk_at dksX5_throwsIf_0 6 rfl rfl)
theorem dX5_throwsIf_9 : decode cX5_throwsIf 9 = .ok (.iconst 0, 1) := dk_3 (dk_at dksX5_throwsIf_0 9 rfl rfl)
theorem dX5_throwsIf_10 : decode cX5_throwsIf 10 = .ok (.putfield 1, 3) := dk_181 0 1 (dk_at dksX5_throwsIf_0 10 rfl rfl)
theorem dX5_throwsIf_13 : decode cX5_throwsIf 13 = .ok (.iload_n 1, 1) := dk_27 (dk_at dksX5_throwsIf_0 13 rfl rfl)
theorem dX5_throwsIf_14 : decode cX5_throwsIf 14 = .ok (.ireturn, 1) := dk_172 (dk_at dksX5_throwsIf_0 14 rfl rfl)
abbrev cX5_knownBy : ByteArray := prog_26_method_40_code
def yX5_knownBy : MethodName := ⟨RX5, "knownBy", "(I)I"⟩
def dkwX5_knownBy_0 : List UInt8 := [42, 180, 0, 33, 16, 117, 27, 96, 46, 42, 180, 0, 33, 17, 0, 220, 27, 96, 46, 128, 172]
abbrev dktX5_knownBy_0 : List UInt8 := dkwX5_knownBy_0 ++ []
theorem dksX5_knownBy_0 : cX5_knownBy.data.toList.drop 0 = dktX5_knownBy_0 := by decide +kernel
theorem dX5_knownBy_0 : decode cX5_knownBy 0 = .ok (.aload_n 0, 1) := dk_42 (dk_at dksX5_knownBy_0 0 rfl rfl)
theorem dX5_knownBy_1 : decode cX5_knownBy 1 = .ok (.getfield 33, 3) := dk_180 0 33 (dk_at dksX5_knownBy_0 1 rfl rfl)
theorem dX5_knownBy_4 : decode cX5_knownBy 4 = .ok (.bipush 117, 2) := dk_16 117 (dk_at dksX5_knownBy_0 4 rfl rfl)
theorem dX5_knownBy_6 : decode cX5_knownBy 6 = .ok (.iload_n 1, 1) := dk_27 (dk_at dksX5_knownBy_0 6 rfl rfl)
theorem dX5_knownBy_7 : decode cX5_knownBy 7 = .ok (.iadd, 1) := dk_96 (dk_at dksX5_knownBy_0 7 rfl rfl)
theorem dX5_knownBy_8 : decode cX5_knownBy 8 = .ok (.iaload, 1) := dk_46 (dk_at dksX5_knownBy_0 8 rfl rfl)
theorem dX5_knownBy_9 : decode cX5_knownBy 9 = .ok (.aload_n 0, 1) := dk_42 (dk_at dksX5_knownBy_0 9 rfl rfl)
theorem dX5_knownBy_10 : decode cX5_knownBy 10 = .ok (.getfield 33, 3) := dk_180 0 33 (dk_at dksX5_knownBy_0 10 rfl rfl)
theorem dX5_knownBy_13 : decode cX5_knownBy 13 = .ok (.sipush 220, 3) := dk_17 0 220 (dk_at dksX5_knownBy_0 13 rfl rfl)
theorem dX5_knownBy_16 : decode cX5_knownBy 16 = .ok (.iload_n 1, 1) := dk_27 (dk_at dksX5_knownBy_0 16 rfl rfl)
theorem dX5_knownBy_17 : decode cX5_knownBy 17 = .ok (.iadd, 1) := dk_96 (dk_at dksX5_knownBy_0 17 rfl rfl)
theorem dX5_knownBy_18 : decode cX5_knownBy 18 = .ok (.iaload, 1) := dk_46 (dk_at dksX5_knownBy_0 18 rfl rfl)
theorem dX5_knownBy_19 : decode cX5_knownBy 19 = .ok (.ior, 1) := dk_128 (dk_at dksX5_knownBy_0 19 rfl rfl)
theorem dX5_knownBy_20 : decode cX5_knownBy 20 = .ok (.ireturn, 1) := dk_172 (dk_at dksX5_knownBy_0 20 rfl rfl)
abbrev cX5_mayBy : ByteArray := prog_26_method_41_code
def yX5_mayBy : MethodName := ⟨RX5, "mayBy", "(I)I"⟩
def dkwX5_mayBy_1 : List UInt8 := [180, 0, 33, 16, 124, 27, 96, 46, 128, 126, 172]
abbrev dktX5_mayBy_1 : List UInt8 := dkwX5_mayBy_1 ++ []
def dkwX5_mayBy_0 : List UInt8 := [4, 42, 180, 0, 33, 3, 46, 120, 4, 100, 4, 27, 120, 2, 130, 126, 42, 27, 182, 1, 9, 2, 130, 42]
abbrev dktX5_mayBy_0 : List UInt8 := dkwX5_mayBy_0 ++ dktX5_mayBy_1
theorem dksX5_mayBy_0 : cX5_mayBy.data.toList.drop 0 = dktX5_mayBy_0 := by decide +kernel
theorem dksX5_mayBy_1 : cX5_mayBy.data.toList.drop 24 = dktX5_mayBy_1 := dk_seg dksX5_mayBy_0 24 rfl rfl
theorem dX5_mayBy_0 : decode cX5_mayBy 0 = .ok (.iconst 1, 1) := dk_4 (dk_at dksX5_mayBy_0 0 rfl rfl)
theorem dX5_mayBy_1 : decode cX5_mayBy 1 = .ok (.aload_n 0, 1) := dk_42 (dk_at dksX5_mayBy_0 1 rfl rfl)
theorem dX5_mayBy_2 : decode cX5_mayBy 2 = .ok (.getfield 33, 3) := dk_180 0 33 (dk_at dksX5_mayBy_0 2 rfl rfl)
theorem dX5_mayBy_5 : decode cX5_mayBy 5 = .ok (.iconst 0, 1) := dk_3 (dk_at dksX5_mayBy_0 5 rfl rfl)
theorem dX5_mayBy_6 : decode cX5_mayBy 6 = .ok (.iaload, 1) := dk_46 (dk_at dksX5_mayBy_0 6 rfl rfl)
theorem dX5_mayBy_7 : decode cX5_mayBy 7 = .ok (.ishl, 1) := dk_120 (dk_at dksX5_mayBy_0 7 rfl rfl)
theorem dX5_mayBy_8 : decode cX5_mayBy 8 = .ok (.iconst 1, 1) := dk_4 (dk_at dksX5_mayBy_0 8 rfl rfl)
theorem dX5_mayBy_9 : decode cX5_mayBy 9 = .ok (.isub, 1) := dk_100 (dk_at dksX5_mayBy_0 9 rfl rfl)
theorem dX5_mayBy_10 : decode cX5_mayBy 10 = .ok (.iconst 1, 1) := dk_4 (dk_at dksX5_mayBy_0 10 rfl rfl)
theorem dX5_mayBy_11 : decode cX5_mayBy 11 = .ok (.iload_n 1, 1) := dk_27 (dk_at dksX5_mayBy_0 11 rfl rfl)
theorem dX5_mayBy_12 : decode cX5_mayBy 12 = .ok (.ishl, 1) := dk_120 (dk_at dksX5_mayBy_0 12 rfl rfl)
theorem dX5_mayBy_13 : decode cX5_mayBy 13 = .ok (.iconst (-1), 1) := dk_2 (dk_at dksX5_mayBy_0 13 rfl rfl)
theorem dX5_mayBy_14 : decode cX5_mayBy 14 = .ok (.ixor, 1) := dk_130 (dk_at dksX5_mayBy_0 14 rfl rfl)
theorem dX5_mayBy_15 : decode cX5_mayBy 15 = .ok (.iand, 1) := dk_126 (dk_at dksX5_mayBy_0 15 rfl rfl)
theorem dX5_mayBy_16 : decode cX5_mayBy 16 = .ok (.aload_n 0, 1) := dk_42 (dk_at dksX5_mayBy_0 16 rfl rfl)
theorem dX5_mayBy_17 : decode cX5_mayBy 17 = .ok (.iload_n 1, 1) := dk_27 (dk_at dksX5_mayBy_0 17 rfl rfl)
theorem dX5_mayBy_18 : decode cX5_mayBy 18 = .ok (.invokevirtual 265, 3) := dk_182 1 9 (dk_at dksX5_mayBy_0 18 rfl rfl)
theorem dX5_mayBy_21 : decode cX5_mayBy 21 = .ok (.iconst (-1), 1) := dk_2 (dk_at dksX5_mayBy_0 21 rfl rfl)
theorem dX5_mayBy_22 : decode cX5_mayBy 22 = .ok (.ixor, 1) := dk_130 (dk_at dksX5_mayBy_0 22 rfl rfl)
theorem dX5_mayBy_23 : decode cX5_mayBy 23 = .ok (.aload_n 0, 1) := dk_42 (dk_at dksX5_mayBy_0 23 rfl rfl)
theorem dX5_mayBy_24 : decode cX5_mayBy 24 = .ok (.getfield 33, 3) := dk_180 0 33 (dk_at dksX5_mayBy_1 0 rfl rfl)
theorem dX5_mayBy_27 : decode cX5_mayBy 27 = .ok (.bipush 124, 2) := dk_16 124 (dk_at dksX5_mayBy_1 3 rfl rfl)
theorem dX5_mayBy_29 : decode cX5_mayBy 29 = .ok (.iload_n 1, 1) := dk_27 (dk_at dksX5_mayBy_1 5 rfl rfl)
theorem dX5_mayBy_30 : decode cX5_mayBy 30 = .ok (.iadd, 1) := dk_96 (dk_at dksX5_mayBy_1 6 rfl rfl)
theorem dX5_mayBy_31 : decode cX5_mayBy 31 = .ok (.iaload, 1) := dk_46 (dk_at dksX5_mayBy_1 7 rfl rfl)
theorem dX5_mayBy_32 : decode cX5_mayBy 32 = .ok (.ior, 1) := dk_128 (dk_at dksX5_mayBy_1 8 rfl rfl)
theorem dX5_mayBy_33 : decode cX5_mayBy 33 = .ok (.iand, 1) := dk_126 (dk_at dksX5_mayBy_1 9 rfl rfl)
theorem dX5_mayBy_34 : decode cX5_mayBy 34 = .ok (.ireturn, 1) := dk_172 (dk_at dksX5_mayBy_1 10 rfl rfl)
abbrev cX5_wantsOf : ByteArray := prog_26_method_44_code
def yX5_wantsOf : MethodName := ⟨RX5, "wantsOf", "(I)I"⟩
def dkwX5_wantsOf_1 : List UInt8 := [104, 96, 29, 96, 46, 96, 61, 132, 3, 1, 167, 255, 226, 28, 172]
abbrev dktX5_wantsOf_1 : List UInt8 := dkwX5_wantsOf_1 ++ []
def dkwX5_wantsOf_0 : List UInt8 := [3, 61, 3, 62, 29, 42, 180, 0, 33, 4, 46, 162, 0, 26, 28, 42, 180, 0, 33, 17, 0, 178, 8, 27]
abbrev dktX5_wantsOf_0 : List UInt8 := dkwX5_wantsOf_0 ++ dktX5_wantsOf_1
theorem dksX5_wantsOf_0 : cX5_wantsOf.data.toList.drop 0 = dktX5_wantsOf_0 := by decide +kernel
theorem dksX5_wantsOf_1 : cX5_wantsOf.data.toList.drop 24 = dktX5_wantsOf_1 := dk_seg dksX5_wantsOf_0 24 rfl rfl
theorem dX5_wantsOf_0 : decode cX5_wantsOf 0 = .ok (.iconst 0, 1) := dk_3 (dk_at dksX5_wantsOf_0 0 rfl rfl)
theorem dX5_wantsOf_1 : decode cX5_wantsOf 1 = .ok (.istore_n 2, 1) := dk_61 (dk_at dksX5_wantsOf_0 1 rfl rfl)
theorem dX5_wantsOf_2 : decode cX5_wantsOf 2 = .ok (.iconst 0, 1) := dk_3 (dk_at dksX5_wantsOf_0 2 rfl rfl)
theorem dX5_wantsOf_3 : decode cX5_wantsOf 3 = .ok (.istore_n 3, 1) := dk_62 (dk_at dksX5_wantsOf_0 3 rfl rfl)
theorem dX5_wantsOf_4 : decode cX5_wantsOf 4 = .ok (.iload_n 3, 1) := dk_29 (dk_at dksX5_wantsOf_0 4 rfl rfl)
theorem dX5_wantsOf_5 : decode cX5_wantsOf 5 = .ok (.aload_n 0, 1) := dk_42 (dk_at dksX5_wantsOf_0 5 rfl rfl)
theorem dX5_wantsOf_6 : decode cX5_wantsOf 6 = .ok (.getfield 33, 3) := dk_180 0 33 (dk_at dksX5_wantsOf_0 6 rfl rfl)
theorem dX5_wantsOf_9 : decode cX5_wantsOf 9 = .ok (.iconst 1, 1) := dk_4 (dk_at dksX5_wantsOf_0 9 rfl rfl)
theorem dX5_wantsOf_10 : decode cX5_wantsOf 10 = .ok (.iaload, 1) := dk_46 (dk_at dksX5_wantsOf_0 10 rfl rfl)
theorem dX5_wantsOf_11 : decode cX5_wantsOf 11 = .ok (.if_icmp .ge 26, 3) := dk_162 0 26 (dk_at dksX5_wantsOf_0 11 rfl rfl)
theorem dX5_wantsOf_14 : decode cX5_wantsOf 14 = .ok (.iload_n 2, 1) := dk_28 (dk_at dksX5_wantsOf_0 14 rfl rfl)
theorem dX5_wantsOf_15 : decode cX5_wantsOf 15 = .ok (.aload_n 0, 1) := dk_42 (dk_at dksX5_wantsOf_0 15 rfl rfl)
theorem dX5_wantsOf_16 : decode cX5_wantsOf 16 = .ok (.getfield 33, 3) := dk_180 0 33 (dk_at dksX5_wantsOf_0 16 rfl rfl)
theorem dX5_wantsOf_19 : decode cX5_wantsOf 19 = .ok (.sipush 178, 3) := dk_17 0 178 (dk_at dksX5_wantsOf_0 19 rfl rfl)
theorem dX5_wantsOf_22 : decode cX5_wantsOf 22 = .ok (.iconst 5, 1) := dk_8 (dk_at dksX5_wantsOf_0 22 rfl rfl)
theorem dX5_wantsOf_23 : decode cX5_wantsOf 23 = .ok (.iload_n 1, 1) := dk_27 (dk_at dksX5_wantsOf_0 23 rfl rfl)
theorem dX5_wantsOf_24 : decode cX5_wantsOf 24 = .ok (.imul, 1) := dk_104 (dk_at dksX5_wantsOf_1 0 rfl rfl)
theorem dX5_wantsOf_25 : decode cX5_wantsOf 25 = .ok (.iadd, 1) := dk_96 (dk_at dksX5_wantsOf_1 1 rfl rfl)
theorem dX5_wantsOf_26 : decode cX5_wantsOf 26 = .ok (.iload_n 3, 1) := dk_29 (dk_at dksX5_wantsOf_1 2 rfl rfl)
theorem dX5_wantsOf_27 : decode cX5_wantsOf 27 = .ok (.iadd, 1) := dk_96 (dk_at dksX5_wantsOf_1 3 rfl rfl)
theorem dX5_wantsOf_28 : decode cX5_wantsOf 28 = .ok (.iaload, 1) := dk_46 (dk_at dksX5_wantsOf_1 4 rfl rfl)
theorem dX5_wantsOf_29 : decode cX5_wantsOf 29 = .ok (.iadd, 1) := dk_96 (dk_at dksX5_wantsOf_1 5 rfl rfl)
theorem dX5_wantsOf_30 : decode cX5_wantsOf 30 = .ok (.istore_n 2, 1) := dk_61 (dk_at dksX5_wantsOf_1 6 rfl rfl)
theorem dX5_wantsOf_31 : decode cX5_wantsOf 31 = .ok (.iinc 3 1, 3) := dk_132 3 1 (dk_at dksX5_wantsOf_1 7 rfl rfl)
theorem dX5_wantsOf_34 : decode cX5_wantsOf 34 = .ok (.goto (-30), 3) := dk_167 255 226 (dk_at dksX5_wantsOf_1 10 rfl rfl)
theorem dX5_wantsOf_37 : decode cX5_wantsOf 37 = .ok (.iload_n 2, 1) := dk_28 (dk_at dksX5_wantsOf_1 13 rfl rfl)
theorem dX5_wantsOf_38 : decode cX5_wantsOf 38 = .ok (.ireturn, 1) := dk_172 (dk_at dksX5_wantsOf_1 14 rfl rfl)
abbrev cX5_good : ByteArray := prog_26_method_47_code
def yX5_good : MethodName := ⟨RX5, "good", "(III)I"⟩
def dkwX5_good_3 : List UInt8 := [42, 180, 0, 33, 16, 47, 21, 4, 96, 46, 4, 100, 167, 0, 4, 2, 172]
abbrev dktX5_good_3 : List UInt8 := dkwX5_good_3 ++ []
def dkwX5_good_2 : List UInt8 := [29, 4, 160, 0, 17, 42, 180, 0, 33, 17, 0, 178, 21, 4, 96, 46, 167, 0, 24, 29, 5, 160, 0, 18]
abbrev dktX5_good_2 : List UInt8 := dkwX5_good_2 ++ dktX5_good_3
def dkwX5_good_1 : List UInt8 := [27, 104, 28, 96, 54, 4, 29, 154, 0, 17, 42, 180, 0, 33, 17, 0, 143, 21, 4, 96, 46, 167, 0, 43]
abbrev dktX5_good_1 : List UInt8 := dkwX5_good_1 ++ dktX5_good_2
def dkwX5_good_0 : List UInt8 := [42, 3, 181, 0, 1, 42, 27, 182, 1, 16, 153, 0, 11, 42, 28, 182, 1, 25, 154, 0, 5, 2, 172, 8]
abbrev dktX5_good_0 : List UInt8 := dkwX5_good_0 ++ dktX5_good_1
theorem dksX5_good_0 : cX5_good.data.toList.drop 0 = dktX5_good_0 := by decide +kernel
theorem dksX5_good_1 : cX5_good.data.toList.drop 24 = dktX5_good_1 := dk_seg dksX5_good_0 24 rfl rfl
theorem dksX5_good_2 : cX5_good.data.toList.drop 48 = dktX5_good_2 := dk_seg dksX5_good_1 24 rfl rfl
theorem dksX5_good_3 : cX5_good.data.toList.drop 72 = dktX5_good_3 := dk_seg dksX5_good_2 24 rfl rfl
theorem dX5_good_0 : decode cX5_good 0 = .ok (.aload_n 0, 1) := dk_42 (dk_at dksX5_good_0 0 rfl rfl)
theorem dX5_good_1 : decode cX5_good 1 = .ok (.iconst 0, 1) := dk_3 (dk_at dksX5_good_0 1 rfl rfl)
theorem dX5_good_2 : decode cX5_good 2 = .ok (.putfield 1, 3) := dk_181 0 1 (dk_at dksX5_good_0 2 rfl rfl)
theorem dX5_good_5 : decode cX5_good 5 = .ok (.aload_n 0, 1) := dk_42 (dk_at dksX5_good_0 5 rfl rfl)
theorem dX5_good_6 : decode cX5_good 6 = .ok (.iload_n 1, 1) := dk_27 (dk_at dksX5_good_0 6 rfl rfl)
theorem dX5_good_7 : decode cX5_good 7 = .ok (.invokevirtual 272, 3) := dk_182 1 16 (dk_at dksX5_good_0 7 rfl rfl)
theorem dX5_good_10 : decode cX5_good 10 = .ok (.ifCond .eq 11, 3) := dk_153 0 11 (dk_at dksX5_good_0 10 rfl rfl)
theorem dX5_good_13 : decode cX5_good 13 = .ok (.aload_n 0, 1) := dk_42 (dk_at dksX5_good_0 13 rfl rfl)
theorem dX5_good_14 : decode cX5_good 14 = .ok (.iload_n 2, 1) := dk_28 (dk_at dksX5_good_0 14 rfl rfl)
theorem dX5_good_15 : decode cX5_good 15 = .ok (.invokevirtual 281, 3) := dk_182 1 25 (dk_at dksX5_good_0 15 rfl rfl)
theorem dX5_good_18 : decode cX5_good 18 = .ok (.ifCond .ne 5, 3) := dk_154 0 5 (dk_at dksX5_good_0 18 rfl rfl)
theorem dX5_good_21 : decode cX5_good 21 = .ok (.iconst (-1), 1) := dk_2 (dk_at dksX5_good_0 21 rfl rfl)
theorem dX5_good_22 : decode cX5_good 22 = .ok (.ireturn, 1) := dk_172 (dk_at dksX5_good_0 22 rfl rfl)
theorem dX5_good_23 : decode cX5_good 23 = .ok (.iconst 5, 1) := dk_8 (dk_at dksX5_good_0 23 rfl rfl)
theorem dX5_good_24 : decode cX5_good 24 = .ok (.iload_n 1, 1) := dk_27 (dk_at dksX5_good_1 0 rfl rfl)
theorem dX5_good_25 : decode cX5_good 25 = .ok (.imul, 1) := dk_104 (dk_at dksX5_good_1 1 rfl rfl)
theorem dX5_good_26 : decode cX5_good 26 = .ok (.iload_n 2, 1) := dk_28 (dk_at dksX5_good_1 2 rfl rfl)
theorem dX5_good_27 : decode cX5_good 27 = .ok (.iadd, 1) := dk_96 (dk_at dksX5_good_1 3 rfl rfl)
theorem dX5_good_28 : decode cX5_good 28 = .ok (.istore 4, 2) := dk_54 4 (dk_at dksX5_good_1 4 rfl rfl)
theorem dX5_good_30 : decode cX5_good 30 = .ok (.iload_n 3, 1) := dk_29 (dk_at dksX5_good_1 6 rfl rfl)
theorem dX5_good_31 : decode cX5_good 31 = .ok (.ifCond .ne 17, 3) := dk_154 0 17 (dk_at dksX5_good_1 7 rfl rfl)
theorem dX5_good_34 : decode cX5_good 34 = .ok (.aload_n 0, 1) := dk_42 (dk_at dksX5_good_1 10 rfl rfl)
theorem dX5_good_35 : decode cX5_good 35 = .ok (.getfield 33, 3) := dk_180 0 33 (dk_at dksX5_good_1 11 rfl rfl)
theorem dX5_good_38 : decode cX5_good 38 = .ok (.sipush 143, 3) := dk_17 0 143 (dk_at dksX5_good_1 14 rfl rfl)
theorem dX5_good_41 : decode cX5_good 41 = .ok (.iload 4, 2) := dk_21 4 (dk_at dksX5_good_1 17 rfl rfl)
theorem dX5_good_43 : decode cX5_good 43 = .ok (.iadd, 1) := dk_96 (dk_at dksX5_good_1 19 rfl rfl)
theorem dX5_good_44 : decode cX5_good 44 = .ok (.iaload, 1) := dk_46 (dk_at dksX5_good_1 20 rfl rfl)
theorem dX5_good_45 : decode cX5_good 45 = .ok (.goto 43, 3) := dk_167 0 43 (dk_at dksX5_good_1 21 rfl rfl)
theorem dX5_good_48 : decode cX5_good 48 = .ok (.iload_n 3, 1) := dk_29 (dk_at dksX5_good_2 0 rfl rfl)
theorem dX5_good_49 : decode cX5_good 49 = .ok (.iconst 1, 1) := dk_4 (dk_at dksX5_good_2 1 rfl rfl)
theorem dX5_good_50 : decode cX5_good 50 = .ok (.if_icmp .ne 17, 3) := dk_160 0 17 (dk_at dksX5_good_2 2 rfl rfl)
theorem dX5_good_53 : decode cX5_good 53 = .ok (.aload_n 0, 1) := dk_42 (dk_at dksX5_good_2 5 rfl rfl)
theorem dX5_good_54 : decode cX5_good 54 = .ok (.getfield 33, 3) := dk_180 0 33 (dk_at dksX5_good_2 6 rfl rfl)
theorem dX5_good_57 : decode cX5_good 57 = .ok (.sipush 178, 3) := dk_17 0 178 (dk_at dksX5_good_2 9 rfl rfl)
theorem dX5_good_60 : decode cX5_good 60 = .ok (.iload 4, 2) := dk_21 4 (dk_at dksX5_good_2 12 rfl rfl)
theorem dX5_good_62 : decode cX5_good 62 = .ok (.iadd, 1) := dk_96 (dk_at dksX5_good_2 14 rfl rfl)
theorem dX5_good_63 : decode cX5_good 63 = .ok (.iaload, 1) := dk_46 (dk_at dksX5_good_2 15 rfl rfl)
theorem dX5_good_64 : decode cX5_good 64 = .ok (.goto 24, 3) := dk_167 0 24 (dk_at dksX5_good_2 16 rfl rfl)
theorem dX5_good_67 : decode cX5_good 67 = .ok (.iload_n 3, 1) := dk_29 (dk_at dksX5_good_2 19 rfl rfl)
theorem dX5_good_68 : decode cX5_good 68 = .ok (.iconst 2, 1) := dk_5 (dk_at dksX5_good_2 20 rfl rfl)
theorem dX5_good_69 : decode cX5_good 69 = .ok (.if_icmp .ne 18, 3) := dk_160 0 18 (dk_at dksX5_good_2 21 rfl rfl)
theorem dX5_good_72 : decode cX5_good 72 = .ok (.aload_n 0, 1) := dk_42 (dk_at dksX5_good_3 0 rfl rfl)
theorem dX5_good_73 : decode cX5_good 73 = .ok (.getfield 33, 3) := dk_180 0 33 (dk_at dksX5_good_3 1 rfl rfl)
theorem dX5_good_76 : decode cX5_good 76 = .ok (.bipush 47, 2) := dk_16 47 (dk_at dksX5_good_3 4 rfl rfl)
theorem dX5_good_78 : decode cX5_good 78 = .ok (.iload 4, 2) := dk_21 4 (dk_at dksX5_good_3 6 rfl rfl)
theorem dX5_good_80 : decode cX5_good 80 = .ok (.iadd, 1) := dk_96 (dk_at dksX5_good_3 8 rfl rfl)
theorem dX5_good_81 : decode cX5_good 81 = .ok (.iaload, 1) := dk_46 (dk_at dksX5_good_3 9 rfl rfl)
theorem dX5_good_82 : decode cX5_good 82 = .ok (.iconst 1, 1) := dk_4 (dk_at dksX5_good_3 10 rfl rfl)
theorem dX5_good_83 : decode cX5_good 83 = .ok (.isub, 1) := dk_100 (dk_at dksX5_good_3 11 rfl rfl)
theorem dX5_good_84 : decode cX5_good 84 = .ok (.goto 4, 3) := dk_167 0 4 (dk_at dksX5_good_3 12 rfl rfl)
theorem dX5_good_87 : decode cX5_good 87 = .ok (.iconst (-1), 1) := dk_2 (dk_at dksX5_good_3 15 rfl rfl)
theorem dX5_good_88 : decode cX5_good 88 = .ok (.ireturn, 1) := dk_172 (dk_at dksX5_good_3 16 rfl rfl)
abbrev cX5_isGood : ByteArray := prog_26_method_39_code
def yX5_isGood : MethodName := ⟨RX5, "isGood", "(I)Z"⟩
def dkwX5_isGood_0 : List UInt8 := [27, 3, 42, 180, 0, 33, 4, 46, 4, 100, 184, 0, 189, 172]
abbrev dktX5_isGood_0 : List UInt8 := dkwX5_isGood_0 ++ []
theorem dksX5_isGood_0 : cX5_isGood.data.toList.drop 0 = dktX5_isGood_0 := by decide +kernel
theorem dX5_isGood_0 : decode cX5_isGood 0 = .ok (.iload_n 1, 1) := dk_27 (dk_at dksX5_isGood_0 0 rfl rfl)
theorem dX5_isGood_1 : decode cX5_isGood 1 = .ok (.iconst 0, 1) := dk_3 (dk_at dksX5_isGood_0 1 rfl rfl)
theorem dX5_isGood_2 : decode cX5_isGood 2 = .ok (.aload_n 0, 1) := dk_42 (dk_at dksX5_isGood_0 2 rfl rfl)
theorem dX5_isGood_3 : decode cX5_isGood 3 = .ok (.getfield 33, 3) := dk_180 0 33 (dk_at dksX5_isGood_0 3 rfl rfl)
theorem dX5_isGood_6 : decode cX5_isGood 6 = .ok (.iconst 1, 1) := dk_4 (dk_at dksX5_isGood_0 6 rfl rfl)
theorem dX5_isGood_7 : decode cX5_isGood 7 = .ok (.iaload, 1) := dk_46 (dk_at dksX5_isGood_0 7 rfl rfl)
theorem dX5_isGood_8 : decode cX5_isGood 8 = .ok (.iconst 1, 1) := dk_4 (dk_at dksX5_isGood_0 8 rfl rfl)
theorem dX5_isGood_9 : decode cX5_isGood 9 = .ok (.isub, 1) := dk_100 (dk_at dksX5_isGood_0 9 rfl rfl)
theorem dX5_isGood_10 : decode cX5_isGood 10 = .ok (.invokestatic 189, 3) := dk_184 0 189 (dk_at dksX5_isGood_0 10 rfl rfl)
theorem dX5_isGood_13 : decode cX5_isGood 13 = .ok (.ireturn, 1) := dk_172 (dk_at dksX5_isGood_0 13 rfl rfl)
abbrev cX5_deals : ByteArray := prog_26_method_48_code
def yX5_deals : MethodName := ⟨RX5, "deals", "(II)I"⟩
def dkwX5_deals_1 : List UInt8 := [159, 0, 21, 42, 180, 0, 33, 17, 0, 227, 16, 7, 27, 104, 96, 28, 96, 46, 167, 0, 4, 2, 172]
abbrev dktX5_deals_1 : List UInt8 := dkwX5_deals_1 ++ []
def dkwX5_deals_0 : List UInt8 := [42, 3, 181, 0, 1, 42, 27, 182, 1, 16, 153, 0, 34, 42, 28, 182, 1, 16, 153, 0, 26, 27, 28]
abbrev dktX5_deals_0 : List UInt8 := dkwX5_deals_0 ++ dktX5_deals_1
theorem dksX5_deals_0 : cX5_deals.data.toList.drop 0 = dktX5_deals_0 := by decide +kernel
theorem dksX5_deals_1 : cX5_deals.data.toList.drop 23 = dktX5_deals_1 := dk_seg dksX5_deals_0 23 rfl rfl
theorem dX5_deals_0 : decode cX5_deals 0 = .ok (.aload_n 0, 1) := dk_42 (dk_at dksX5_deals_0 0 rfl rfl)
theorem dX5_deals_1 : decode cX5_deals 1 = .ok (.iconst 0, 1) := dk_3 (dk_at dksX5_deals_0 1 rfl rfl)
theorem dX5_deals_2 : decode cX5_deals 2 = .ok (.putfield 1, 3) := dk_181 0 1 (dk_at dksX5_deals_0 2 rfl rfl)
theorem dX5_deals_5 : decode cX5_deals 5 = .ok (.aload_n 0, 1) := dk_42 (dk_at dksX5_deals_0 5 rfl rfl)
theorem dX5_deals_6 : decode cX5_deals 6 = .ok (.iload_n 1, 1) := dk_27 (dk_at dksX5_deals_0 6 rfl rfl)
theorem dX5_deals_7 : decode cX5_deals 7 = .ok (.invokevirtual 272, 3) := dk_182 1 16 (dk_at dksX5_deals_0 7 rfl rfl)
theorem dX5_deals_10 : decode cX5_deals 10 = .ok (.ifCond .eq 34, 3) := dk_153 0 34 (dk_at dksX5_deals_0 10 rfl rfl)
theorem dX5_deals_13 : decode cX5_deals 13 = .ok (.aload_n 0, 1) := dk_42 (dk_at dksX5_deals_0 13 rfl rfl)
theorem dX5_deals_14 : decode cX5_deals 14 = .ok (.iload_n 2, 1) := dk_28 (dk_at dksX5_deals_0 14 rfl rfl)
theorem dX5_deals_15 : decode cX5_deals 15 = .ok (.invokevirtual 272, 3) := dk_182 1 16 (dk_at dksX5_deals_0 15 rfl rfl)
theorem dX5_deals_18 : decode cX5_deals 18 = .ok (.ifCond .eq 26, 3) := dk_153 0 26 (dk_at dksX5_deals_0 18 rfl rfl)
theorem dX5_deals_21 : decode cX5_deals 21 = .ok (.iload_n 1, 1) := dk_27 (dk_at dksX5_deals_0 21 rfl rfl)
theorem dX5_deals_22 : decode cX5_deals 22 = .ok (.iload_n 2, 1) := dk_28 (dk_at dksX5_deals_0 22 rfl rfl)
theorem dX5_deals_23 : decode cX5_deals 23 = .ok (.if_icmp .eq 21, 3) := dk_159 0 21 (dk_at dksX5_deals_1 0 rfl rfl)
theorem dX5_deals_26 : decode cX5_deals 26 = .ok (.aload_n 0, 1) := dk_42 (dk_at dksX5_deals_1 3 rfl rfl)
theorem dX5_deals_27 : decode cX5_deals 27 = .ok (.getfield 33, 3) := dk_180 0 33 (dk_at dksX5_deals_1 4 rfl rfl)
theorem dX5_deals_30 : decode cX5_deals 30 = .ok (.sipush 227, 3) := dk_17 0 227 (dk_at dksX5_deals_1 7 rfl rfl)
theorem dX5_deals_33 : decode cX5_deals 33 = .ok (.bipush 7, 2) := dk_16 7 (dk_at dksX5_deals_1 10 rfl rfl)
theorem dX5_deals_35 : decode cX5_deals 35 = .ok (.iload_n 1, 1) := dk_27 (dk_at dksX5_deals_1 12 rfl rfl)
theorem dX5_deals_36 : decode cX5_deals 36 = .ok (.imul, 1) := dk_104 (dk_at dksX5_deals_1 13 rfl rfl)
theorem dX5_deals_37 : decode cX5_deals 37 = .ok (.iadd, 1) := dk_96 (dk_at dksX5_deals_1 14 rfl rfl)
theorem dX5_deals_38 : decode cX5_deals 38 = .ok (.iload_n 2, 1) := dk_28 (dk_at dksX5_deals_1 15 rfl rfl)
theorem dX5_deals_39 : decode cX5_deals 39 = .ok (.iadd, 1) := dk_96 (dk_at dksX5_deals_1 16 rfl rfl)
theorem dX5_deals_40 : decode cX5_deals 40 = .ok (.iaload, 1) := dk_46 (dk_at dksX5_deals_1 17 rfl rfl)
theorem dX5_deals_41 : decode cX5_deals 41 = .ok (.goto 4, 3) := dk_167 0 4 (dk_at dksX5_deals_1 18 rfl rfl)
theorem dX5_deals_44 : decode cX5_deals 44 = .ok (.iconst (-1), 1) := dk_2 (dk_at dksX5_deals_1 21 rfl rfl)
theorem dX5_deals_45 : decode cX5_deals 45 = .ok (.ireturn, 1) := dk_172 (dk_at dksX5_deals_1 22 rfl rfl)
abbrev cX5_now : ByteArray := prog_26_method_49_code
def yX5_now : MethodName := ⟨RX5, "now", "(I)I"⟩
def dkwX5_now_6 : List UInt8 := [17, 0, 132, 46, 172, 28, 5, 108, 172, 29, 172, 2, 172]
abbrev dktX5_now_6 : List UInt8 := dkwX5_now_6 ++ []
def dkwX5_now_5 : List UInt8 := [17, 0, 134, 46, 172, 42, 182, 1, 31, 172, 42, 180, 0, 33, 17, 0, 135, 46, 172, 42, 180, 0, 33]
abbrev dktX5_now_5 : List UInt8 := dkwX5_now_5 ++ dktX5_now_6
def dkwX5_now_4 : List UInt8 := [42, 180, 0, 33, 17, 0, 131, 46, 172, 42, 180, 0, 33, 17, 0, 133, 46, 172, 42, 180, 0, 33]
abbrev dktX5_now_4 : List UInt8 := dkwX5_now_4 ++ dktX5_now_5
def dkwX5_now_3 : List UInt8 := [170, 0, 0, 0, 0, 0, 103, 0, 0, 0, 0, 0, 0, 0, 7, 0, 0, 0, 47, 0, 0, 0, 56, 0, 0, 0, 65, 0, 0, 0, 74, 0, 0, 0, 79, 0, 0, 0, 88, 0, 0, 0, 97, 0, 0, 0, 101]
abbrev dktX5_now_3 : List UInt8 := dkwX5_now_3 ++ dktX5_now_4
def dkwX5_now_2 : List UInt8 := [21, 4, 96, 46, 96, 62, 132, 4, 1, 167, 255, 211, 27]
abbrev dktX5_now_2 : List UInt8 := dkwX5_now_2 ++ dktX5_now_3
def dkwX5_now_1 : List UInt8 := [42, 180, 0, 33, 17, 0, 220, 21, 4, 96, 46, 184, 1, 28, 96, 61, 29, 42, 180, 0, 33, 17, 0, 213]
abbrev dktX5_now_1 : List UInt8 := dkwX5_now_1 ++ dktX5_now_2
def dkwX5_now_0 : List UInt8 := [42, 3, 181, 0, 1, 3, 61, 3, 62, 3, 54, 4, 21, 4, 42, 180, 0, 33, 3, 46, 162, 0, 40, 28]
abbrev dktX5_now_0 : List UInt8 := dkwX5_now_0 ++ dktX5_now_1
theorem dksX5_now_0 : cX5_now.data.toList.drop 0 = dktX5_now_0 := by decide +kernel
theorem dksX5_now_1 : cX5_now.data.toList.drop 24 = dktX5_now_1 := dk_seg dksX5_now_0 24 rfl rfl
theorem dksX5_now_2 : cX5_now.data.toList.drop 48 = dktX5_now_2 := dk_seg dksX5_now_1 24 rfl rfl
theorem dksX5_now_3 : cX5_now.data.toList.drop 61 = dktX5_now_3 := dk_seg dksX5_now_2 13 rfl rfl
theorem dksX5_now_4 : cX5_now.data.toList.drop 108 = dktX5_now_4 := dk_seg dksX5_now_3 47 rfl rfl
theorem dksX5_now_5 : cX5_now.data.toList.drop 130 = dktX5_now_5 := dk_seg dksX5_now_4 22 rfl rfl
theorem dksX5_now_6 : cX5_now.data.toList.drop 153 = dktX5_now_6 := dk_seg dksX5_now_5 23 rfl rfl
theorem dX5_now_0 : decode cX5_now 0 = .ok (.aload_n 0, 1) := dk_42 (dk_at dksX5_now_0 0 rfl rfl)
theorem dX5_now_1 : decode cX5_now 1 = .ok (.iconst 0, 1) := dk_3 (dk_at dksX5_now_0 1 rfl rfl)
theorem dX5_now_2 : decode cX5_now 2 = .ok (.putfield 1, 3) := dk_181 0 1 (dk_at dksX5_now_0 2 rfl rfl)
theorem dX5_now_5 : decode cX5_now 5 = .ok (.iconst 0, 1) := dk_3 (dk_at dksX5_now_0 5 rfl rfl)
theorem dX5_now_6 : decode cX5_now 6 = .ok (.istore_n 2, 1) := dk_61 (dk_at dksX5_now_0 6 rfl rfl)
theorem dX5_now_7 : decode cX5_now 7 = .ok (.iconst 0, 1) := dk_3 (dk_at dksX5_now_0 7 rfl rfl)
theorem dX5_now_8 : decode cX5_now 8 = .ok (.istore_n 3, 1) := dk_62 (dk_at dksX5_now_0 8 rfl rfl)
theorem dX5_now_9 : decode cX5_now 9 = .ok (.iconst 0, 1) := dk_3 (dk_at dksX5_now_0 9 rfl rfl)
theorem dX5_now_10 : decode cX5_now 10 = .ok (.istore 4, 2) := dk_54 4 (dk_at dksX5_now_0 10 rfl rfl)
theorem dX5_now_12 : decode cX5_now 12 = .ok (.iload 4, 2) := dk_21 4 (dk_at dksX5_now_0 12 rfl rfl)
theorem dX5_now_14 : decode cX5_now 14 = .ok (.aload_n 0, 1) := dk_42 (dk_at dksX5_now_0 14 rfl rfl)
theorem dX5_now_15 : decode cX5_now 15 = .ok (.getfield 33, 3) := dk_180 0 33 (dk_at dksX5_now_0 15 rfl rfl)
theorem dX5_now_18 : decode cX5_now 18 = .ok (.iconst 0, 1) := dk_3 (dk_at dksX5_now_0 18 rfl rfl)
theorem dX5_now_19 : decode cX5_now 19 = .ok (.iaload, 1) := dk_46 (dk_at dksX5_now_0 19 rfl rfl)
theorem dX5_now_20 : decode cX5_now 20 = .ok (.if_icmp .ge 40, 3) := dk_162 0 40 (dk_at dksX5_now_0 20 rfl rfl)
theorem dX5_now_23 : decode cX5_now 23 = .ok (.iload_n 2, 1) := dk_28 (dk_at dksX5_now_0 23 rfl rfl)
theorem dX5_now_24 : decode cX5_now 24 = .ok (.aload_n 0, 1) := dk_42 (dk_at dksX5_now_1 0 rfl rfl)
theorem dX5_now_25 : decode cX5_now 25 = .ok (.getfield 33, 3) := dk_180 0 33 (dk_at dksX5_now_1 1 rfl rfl)
theorem dX5_now_28 : decode cX5_now 28 = .ok (.sipush 220, 3) := dk_17 0 220 (dk_at dksX5_now_1 4 rfl rfl)
theorem dX5_now_31 : decode cX5_now 31 = .ok (.iload 4, 2) := dk_21 4 (dk_at dksX5_now_1 7 rfl rfl)
theorem dX5_now_33 : decode cX5_now 33 = .ok (.iadd, 1) := dk_96 (dk_at dksX5_now_1 9 rfl rfl)
theorem dX5_now_34 : decode cX5_now 34 = .ok (.iaload, 1) := dk_46 (dk_at dksX5_now_1 10 rfl rfl)
theorem dX5_now_35 : decode cX5_now 35 = .ok (.invokestatic 284, 3) := dk_184 1 28 (dk_at dksX5_now_1 11 rfl rfl)
theorem dX5_now_38 : decode cX5_now 38 = .ok (.iadd, 1) := dk_96 (dk_at dksX5_now_1 14 rfl rfl)
theorem dX5_now_39 : decode cX5_now 39 = .ok (.istore_n 2, 1) := dk_61 (dk_at dksX5_now_1 15 rfl rfl)
theorem dX5_now_40 : decode cX5_now 40 = .ok (.iload_n 3, 1) := dk_29 (dk_at dksX5_now_1 16 rfl rfl)
theorem dX5_now_41 : decode cX5_now 41 = .ok (.aload_n 0, 1) := dk_42 (dk_at dksX5_now_1 17 rfl rfl)
theorem dX5_now_42 : decode cX5_now 42 = .ok (.getfield 33, 3) := dk_180 0 33 (dk_at dksX5_now_1 18 rfl rfl)
theorem dX5_now_45 : decode cX5_now 45 = .ok (.sipush 213, 3) := dk_17 0 213 (dk_at dksX5_now_1 21 rfl rfl)
theorem dX5_now_48 : decode cX5_now 48 = .ok (.iload 4, 2) := dk_21 4 (dk_at dksX5_now_2 0 rfl rfl)
theorem dX5_now_50 : decode cX5_now 50 = .ok (.iadd, 1) := dk_96 (dk_at dksX5_now_2 2 rfl rfl)
theorem dX5_now_51 : decode cX5_now 51 = .ok (.iaload, 1) := dk_46 (dk_at dksX5_now_2 3 rfl rfl)
theorem dX5_now_52 : decode cX5_now 52 = .ok (.iadd, 1) := dk_96 (dk_at dksX5_now_2 4 rfl rfl)
theorem dX5_now_53 : decode cX5_now 53 = .ok (.istore_n 3, 1) := dk_62 (dk_at dksX5_now_2 5 rfl rfl)
theorem dX5_now_54 : decode cX5_now 54 = .ok (.iinc 4 1, 3) := dk_132 4 1 (dk_at dksX5_now_2 6 rfl rfl)
theorem dX5_now_57 : decode cX5_now 57 = .ok (.goto (-45), 3) := dk_167 255 211 (dk_at dksX5_now_2 9 rfl rfl)
theorem dX5_now_60 : decode cX5_now 60 = .ok (.iload_n 1, 1) := dk_27 (dk_at dksX5_now_2 12 rfl rfl)
theorem dX5_now_61 : decode cX5_now 61 = .ok (.tableswitch 103 0 7 #[47, 56, 65, 74, 79, 88, 97, 101], 47) := by decide +kernel
theorem dX5_now_108 : decode cX5_now 108 = .ok (.aload_n 0, 1) := dk_42 (dk_at dksX5_now_4 0 rfl rfl)
theorem dX5_now_109 : decode cX5_now 109 = .ok (.getfield 33, 3) := dk_180 0 33 (dk_at dksX5_now_4 1 rfl rfl)
theorem dX5_now_112 : decode cX5_now 112 = .ok (.sipush 131, 3) := dk_17 0 131 (dk_at dksX5_now_4 4 rfl rfl)
theorem dX5_now_115 : decode cX5_now 115 = .ok (.iaload, 1) := dk_46 (dk_at dksX5_now_4 7 rfl rfl)
theorem dX5_now_116 : decode cX5_now 116 = .ok (.ireturn, 1) := dk_172 (dk_at dksX5_now_4 8 rfl rfl)
theorem dX5_now_117 : decode cX5_now 117 = .ok (.aload_n 0, 1) := dk_42 (dk_at dksX5_now_4 9 rfl rfl)
theorem dX5_now_118 : decode cX5_now 118 = .ok (.getfield 33, 3) := dk_180 0 33 (dk_at dksX5_now_4 10 rfl rfl)
theorem dX5_now_121 : decode cX5_now 121 = .ok (.sipush 133, 3) := dk_17 0 133 (dk_at dksX5_now_4 13 rfl rfl)
theorem dX5_now_124 : decode cX5_now 124 = .ok (.iaload, 1) := dk_46 (dk_at dksX5_now_4 16 rfl rfl)
theorem dX5_now_125 : decode cX5_now 125 = .ok (.ireturn, 1) := dk_172 (dk_at dksX5_now_4 17 rfl rfl)
theorem dX5_now_126 : decode cX5_now 126 = .ok (.aload_n 0, 1) := dk_42 (dk_at dksX5_now_4 18 rfl rfl)
theorem dX5_now_127 : decode cX5_now 127 = .ok (.getfield 33, 3) := dk_180 0 33 (dk_at dksX5_now_4 19 rfl rfl)
theorem dX5_now_130 : decode cX5_now 130 = .ok (.sipush 134, 3) := dk_17 0 134 (dk_at dksX5_now_5 0 rfl rfl)
theorem dX5_now_133 : decode cX5_now 133 = .ok (.iaload, 1) := dk_46 (dk_at dksX5_now_5 3 rfl rfl)
theorem dX5_now_134 : decode cX5_now 134 = .ok (.ireturn, 1) := dk_172 (dk_at dksX5_now_5 4 rfl rfl)
theorem dX5_now_135 : decode cX5_now 135 = .ok (.aload_n 0, 1) := dk_42 (dk_at dksX5_now_5 5 rfl rfl)
theorem dX5_now_136 : decode cX5_now 136 = .ok (.invokevirtual 287, 3) := dk_182 1 31 (dk_at dksX5_now_5 6 rfl rfl)
theorem dX5_now_139 : decode cX5_now 139 = .ok (.ireturn, 1) := dk_172 (dk_at dksX5_now_5 9 rfl rfl)
theorem dX5_now_140 : decode cX5_now 140 = .ok (.aload_n 0, 1) := dk_42 (dk_at dksX5_now_5 10 rfl rfl)
theorem dX5_now_141 : decode cX5_now 141 = .ok (.getfield 33, 3) := dk_180 0 33 (dk_at dksX5_now_5 11 rfl rfl)
theorem dX5_now_144 : decode cX5_now 144 = .ok (.sipush 135, 3) := dk_17 0 135 (dk_at dksX5_now_5 14 rfl rfl)
theorem dX5_now_147 : decode cX5_now 147 = .ok (.iaload, 1) := dk_46 (dk_at dksX5_now_5 17 rfl rfl)
theorem dX5_now_148 : decode cX5_now 148 = .ok (.ireturn, 1) := dk_172 (dk_at dksX5_now_5 18 rfl rfl)
theorem dX5_now_149 : decode cX5_now 149 = .ok (.aload_n 0, 1) := dk_42 (dk_at dksX5_now_5 19 rfl rfl)
theorem dX5_now_150 : decode cX5_now 150 = .ok (.getfield 33, 3) := dk_180 0 33 (dk_at dksX5_now_5 20 rfl rfl)
theorem dX5_now_153 : decode cX5_now 153 = .ok (.sipush 132, 3) := dk_17 0 132 (dk_at dksX5_now_6 0 rfl rfl)
theorem dX5_now_156 : decode cX5_now 156 = .ok (.iaload, 1) := dk_46 (dk_at dksX5_now_6 3 rfl rfl)
theorem dX5_now_157 : decode cX5_now 157 = .ok (.ireturn, 1) := dk_172 (dk_at dksX5_now_6 4 rfl rfl)
theorem dX5_now_158 : decode cX5_now 158 = .ok (.iload_n 2, 1) := dk_28 (dk_at dksX5_now_6 5 rfl rfl)
theorem dX5_now_159 : decode cX5_now 159 = .ok (.iconst 2, 1) := dk_5 (dk_at dksX5_now_6 6 rfl rfl)
theorem dX5_now_160 : decode cX5_now 160 = .ok (.idiv, 1) := dk_108 (dk_at dksX5_now_6 7 rfl rfl)
theorem dX5_now_161 : decode cX5_now 161 = .ok (.ireturn, 1) := dk_172 (dk_at dksX5_now_6 8 rfl rfl)
theorem dX5_now_162 : decode cX5_now 162 = .ok (.iload_n 3, 1) := dk_29 (dk_at dksX5_now_6 9 rfl rfl)
theorem dX5_now_163 : decode cX5_now 163 = .ok (.ireturn, 1) := dk_172 (dk_at dksX5_now_6 10 rfl rfl)
theorem dX5_now_164 : decode cX5_now 164 = .ok (.iconst (-1), 1) := dk_2 (dk_at dksX5_now_6 11 rfl rfl)
theorem dX5_now_165 : decode cX5_now 165 = .ok (.ireturn, 1) := dk_172 (dk_at dksX5_now_6 12 rfl rfl)
abbrev cX5_bits : ByteArray := prog_26_method_11_code
def yX5_bits : MethodName := ⟨RX5, "bits", "(I)I"⟩
def dkwX5_bits_0 : List UInt8 := [3, 60, 26, 61, 28, 153, 0, 15, 132, 1, 1, 28, 28, 4, 100, 126, 61, 167, 255, 243, 27, 172]
abbrev dktX5_bits_0 : List UInt8 := dkwX5_bits_0 ++ []
theorem dksX5_bits_0 : cX5_bits.data.toList.drop 0 = dktX5_bits_0 := by decide +kernel
theorem dX5_bits_0 : decode cX5_bits 0 = .ok (.iconst 0, 1) := dk_3 (dk_at dksX5_bits_0 0 rfl rfl)
theorem dX5_bits_1 : decode cX5_bits 1 = .ok (.istore_n 1, 1) := dk_60 (dk_at dksX5_bits_0 1 rfl rfl)
theorem dX5_bits_2 : decode cX5_bits 2 = .ok (.iload_n 0, 1) := dk_26 (dk_at dksX5_bits_0 2 rfl rfl)
theorem dX5_bits_3 : decode cX5_bits 3 = .ok (.istore_n 2, 1) := dk_61 (dk_at dksX5_bits_0 3 rfl rfl)
theorem dX5_bits_4 : decode cX5_bits 4 = .ok (.iload_n 2, 1) := dk_28 (dk_at dksX5_bits_0 4 rfl rfl)
theorem dX5_bits_5 : decode cX5_bits 5 = .ok (.ifCond .eq 15, 3) := dk_153 0 15 (dk_at dksX5_bits_0 5 rfl rfl)
theorem dX5_bits_8 : decode cX5_bits 8 = .ok (.iinc 1 1, 3) := dk_132 1 1 (dk_at dksX5_bits_0 8 rfl rfl)
theorem dX5_bits_11 : decode cX5_bits 11 = .ok (.iload_n 2, 1) := dk_28 (dk_at dksX5_bits_0 11 rfl rfl)
theorem dX5_bits_12 : decode cX5_bits 12 = .ok (.iload_n 2, 1) := dk_28 (dk_at dksX5_bits_0 12 rfl rfl)
theorem dX5_bits_13 : decode cX5_bits 13 = .ok (.iconst 1, 1) := dk_4 (dk_at dksX5_bits_0 13 rfl rfl)
theorem dX5_bits_14 : decode cX5_bits 14 = .ok (.isub, 1) := dk_100 (dk_at dksX5_bits_0 14 rfl rfl)
theorem dX5_bits_15 : decode cX5_bits 15 = .ok (.iand, 1) := dk_126 (dk_at dksX5_bits_0 15 rfl rfl)
theorem dX5_bits_16 : decode cX5_bits 16 = .ok (.istore_n 2, 1) := dk_61 (dk_at dksX5_bits_0 16 rfl rfl)
theorem dX5_bits_17 : decode cX5_bits 17 = .ok (.goto (-13), 3) := dk_167 255 243 (dk_at dksX5_bits_0 17 rfl rfl)
theorem dX5_bits_20 : decode cX5_bits 20 = .ok (.iload_n 1, 1) := dk_27 (dk_at dksX5_bits_0 20 rfl rfl)
theorem dX5_bits_21 : decode cX5_bits 21 = .ok (.ireturn, 1) := dk_172 (dk_at dksX5_bits_0 21 rfl rfl)
abbrev cX5_fed : ByteArray := prog_26_method_45_code
def yX5_fed : MethodName := ⟨RX5, "fed", "()I"⟩
def dkwX5_fed_1 : List UInt8 := [28, 120, 167, 0, 4, 3, 128, 60, 132, 2, 1, 167, 255, 225, 27, 172]
abbrev dktX5_fed_1 : List UInt8 := dkwX5_fed_1 ++ []
def dkwX5_fed_0 : List UInt8 := [3, 60, 3, 61, 28, 42, 180, 0, 33, 3, 46, 162, 0, 27, 27, 42, 28, 182, 1, 13, 154, 0, 9, 4]
abbrev dktX5_fed_0 : List UInt8 := dkwX5_fed_0 ++ dktX5_fed_1
theorem dksX5_fed_0 : cX5_fed.data.toList.drop 0 = dktX5_fed_0 := by decide +kernel
theorem dksX5_fed_1 : cX5_fed.data.toList.drop 24 = dktX5_fed_1 := dk_seg dksX5_fed_0 24 rfl rfl
theorem dX5_fed_0 : decode cX5_fed 0 = .ok (.iconst 0, 1) := dk_3 (dk_at dksX5_fed_0 0 rfl rfl)
theorem dX5_fed_1 : decode cX5_fed 1 = .ok (.istore_n 1, 1) := dk_60 (dk_at dksX5_fed_0 1 rfl rfl)
theorem dX5_fed_2 : decode cX5_fed 2 = .ok (.iconst 0, 1) := dk_3 (dk_at dksX5_fed_0 2 rfl rfl)
theorem dX5_fed_3 : decode cX5_fed 3 = .ok (.istore_n 2, 1) := dk_61 (dk_at dksX5_fed_0 3 rfl rfl)
theorem dX5_fed_4 : decode cX5_fed 4 = .ok (.iload_n 2, 1) := dk_28 (dk_at dksX5_fed_0 4 rfl rfl)
theorem dX5_fed_5 : decode cX5_fed 5 = .ok (.aload_n 0, 1) := dk_42 (dk_at dksX5_fed_0 5 rfl rfl)
theorem dX5_fed_6 : decode cX5_fed 6 = .ok (.getfield 33, 3) := dk_180 0 33 (dk_at dksX5_fed_0 6 rfl rfl)
theorem dX5_fed_9 : decode cX5_fed 9 = .ok (.iconst 0, 1) := dk_3 (dk_at dksX5_fed_0 9 rfl rfl)
theorem dX5_fed_10 : decode cX5_fed 10 = .ok (.iaload, 1) := dk_46 (dk_at dksX5_fed_0 10 rfl rfl)
theorem dX5_fed_11 : decode cX5_fed 11 = .ok (.if_icmp .ge 27, 3) := dk_162 0 27 (dk_at dksX5_fed_0 11 rfl rfl)
theorem dX5_fed_14 : decode cX5_fed 14 = .ok (.iload_n 1, 1) := dk_27 (dk_at dksX5_fed_0 14 rfl rfl)
theorem dX5_fed_15 : decode cX5_fed 15 = .ok (.aload_n 0, 1) := dk_42 (dk_at dksX5_fed_0 15 rfl rfl)
theorem dX5_fed_16 : decode cX5_fed 16 = .ok (.iload_n 2, 1) := dk_28 (dk_at dksX5_fed_0 16 rfl rfl)
theorem dX5_fed_17 : decode cX5_fed 17 = .ok (.invokevirtual 269, 3) := dk_182 1 13 (dk_at dksX5_fed_0 17 rfl rfl)
theorem dX5_fed_20 : decode cX5_fed 20 = .ok (.ifCond .ne 9, 3) := dk_154 0 9 (dk_at dksX5_fed_0 20 rfl rfl)
theorem dX5_fed_23 : decode cX5_fed 23 = .ok (.iconst 1, 1) := dk_4 (dk_at dksX5_fed_0 23 rfl rfl)
theorem dX5_fed_24 : decode cX5_fed 24 = .ok (.iload_n 2, 1) := dk_28 (dk_at dksX5_fed_1 0 rfl rfl)
theorem dX5_fed_25 : decode cX5_fed 25 = .ok (.ishl, 1) := dk_120 (dk_at dksX5_fed_1 1 rfl rfl)
theorem dX5_fed_26 : decode cX5_fed 26 = .ok (.goto 4, 3) := dk_167 0 4 (dk_at dksX5_fed_1 2 rfl rfl)
theorem dX5_fed_29 : decode cX5_fed 29 = .ok (.iconst 0, 1) := dk_3 (dk_at dksX5_fed_1 5 rfl rfl)
theorem dX5_fed_30 : decode cX5_fed 30 = .ok (.ior, 1) := dk_128 (dk_at dksX5_fed_1 6 rfl rfl)
theorem dX5_fed_31 : decode cX5_fed 31 = .ok (.istore_n 1, 1) := dk_60 (dk_at dksX5_fed_1 7 rfl rfl)
theorem dX5_fed_32 : decode cX5_fed 32 = .ok (.iinc 2 1, 3) := dk_132 2 1 (dk_at dksX5_fed_1 8 rfl rfl)
theorem dX5_fed_35 : decode cX5_fed 35 = .ok (.goto (-31), 3) := dk_167 255 225 (dk_at dksX5_fed_1 11 rfl rfl)
theorem dX5_fed_38 : decode cX5_fed 38 = .ok (.iload_n 1, 1) := dk_27 (dk_at dksX5_fed_1 14 rfl rfl)
theorem dX5_fed_39 : decode cX5_fed 39 = .ok (.ireturn, 1) := dk_172 (dk_at dksX5_fed_1 15 rfl rfl)
abbrev cX5_buy : ByteArray := prog_26_method_61_code
def yX5_buy : MethodName := ⟨RX5, "buy", "(III)I"⟩
def dkwX5_buy_2 : List UInt8 := [172, 42, 182, 1, 54, 42, 27, 28, 29, 182, 1, 57, 3, 172]
abbrev dktX5_buy_2 : List UInt8 := dkwX5_buy_2 ++ []
def dkwX5_buy_1 : List UInt8 := [182, 1, 16, 154, 0, 5, 2, 172, 42, 27, 28, 29, 182, 1, 50, 54, 4, 21, 4, 158, 0, 6, 21, 4]
abbrev dktX5_buy_1 : List UInt8 := dkwX5_buy_1 ++ dktX5_buy_2
def dkwX5_buy_0 : List UInt8 := [42, 3, 181, 0, 1, 42, 27, 182, 1, 16, 153, 0, 19, 42, 28, 182, 1, 25, 153, 0, 11, 42, 29]
abbrev dktX5_buy_0 : List UInt8 := dkwX5_buy_0 ++ dktX5_buy_1
theorem dksX5_buy_0 : cX5_buy.data.toList.drop 0 = dktX5_buy_0 := by decide +kernel
theorem dksX5_buy_1 : cX5_buy.data.toList.drop 23 = dktX5_buy_1 := dk_seg dksX5_buy_0 23 rfl rfl
theorem dksX5_buy_2 : cX5_buy.data.toList.drop 47 = dktX5_buy_2 := dk_seg dksX5_buy_1 24 rfl rfl
theorem dX5_buy_0 : decode cX5_buy 0 = .ok (.aload_n 0, 1) := dk_42 (dk_at dksX5_buy_0 0 rfl rfl)
theorem dX5_buy_1 : decode cX5_buy 1 = .ok (.iconst 0, 1) := dk_3 (dk_at dksX5_buy_0 1 rfl rfl)
theorem dX5_buy_2 : decode cX5_buy 2 = .ok (.putfield 1, 3) := dk_181 0 1 (dk_at dksX5_buy_0 2 rfl rfl)
theorem dX5_buy_5 : decode cX5_buy 5 = .ok (.aload_n 0, 1) := dk_42 (dk_at dksX5_buy_0 5 rfl rfl)
theorem dX5_buy_6 : decode cX5_buy 6 = .ok (.iload_n 1, 1) := dk_27 (dk_at dksX5_buy_0 6 rfl rfl)
theorem dX5_buy_7 : decode cX5_buy 7 = .ok (.invokevirtual 272, 3) := dk_182 1 16 (dk_at dksX5_buy_0 7 rfl rfl)
theorem dX5_buy_10 : decode cX5_buy 10 = .ok (.ifCond .eq 19, 3) := dk_153 0 19 (dk_at dksX5_buy_0 10 rfl rfl)
theorem dX5_buy_13 : decode cX5_buy 13 = .ok (.aload_n 0, 1) := dk_42 (dk_at dksX5_buy_0 13 rfl rfl)
theorem dX5_buy_14 : decode cX5_buy 14 = .ok (.iload_n 2, 1) := dk_28 (dk_at dksX5_buy_0 14 rfl rfl)
theorem dX5_buy_15 : decode cX5_buy 15 = .ok (.invokevirtual 281, 3) := dk_182 1 25 (dk_at dksX5_buy_0 15 rfl rfl)
theorem dX5_buy_18 : decode cX5_buy 18 = .ok (.ifCond .eq 11, 3) := dk_153 0 11 (dk_at dksX5_buy_0 18 rfl rfl)
theorem dX5_buy_21 : decode cX5_buy 21 = .ok (.aload_n 0, 1) := dk_42 (dk_at dksX5_buy_0 21 rfl rfl)
theorem dX5_buy_22 : decode cX5_buy 22 = .ok (.iload_n 3, 1) := dk_29 (dk_at dksX5_buy_0 22 rfl rfl)
theorem dX5_buy_23 : decode cX5_buy 23 = .ok (.invokevirtual 272, 3) := dk_182 1 16 (dk_at dksX5_buy_1 0 rfl rfl)
theorem dX5_buy_26 : decode cX5_buy 26 = .ok (.ifCond .ne 5, 3) := dk_154 0 5 (dk_at dksX5_buy_1 3 rfl rfl)
theorem dX5_buy_29 : decode cX5_buy 29 = .ok (.iconst (-1), 1) := dk_2 (dk_at dksX5_buy_1 6 rfl rfl)
theorem dX5_buy_30 : decode cX5_buy 30 = .ok (.ireturn, 1) := dk_172 (dk_at dksX5_buy_1 7 rfl rfl)
theorem dX5_buy_31 : decode cX5_buy 31 = .ok (.aload_n 0, 1) := dk_42 (dk_at dksX5_buy_1 8 rfl rfl)
theorem dX5_buy_32 : decode cX5_buy 32 = .ok (.iload_n 1, 1) := dk_27 (dk_at dksX5_buy_1 9 rfl rfl)
theorem dX5_buy_33 : decode cX5_buy 33 = .ok (.iload_n 2, 1) := dk_28 (dk_at dksX5_buy_1 10 rfl rfl)
theorem dX5_buy_34 : decode cX5_buy 34 = .ok (.iload_n 3, 1) := dk_29 (dk_at dksX5_buy_1 11 rfl rfl)
theorem dX5_buy_35 : decode cX5_buy 35 = .ok (.invokevirtual 306, 3) := dk_182 1 50 (dk_at dksX5_buy_1 12 rfl rfl)
theorem dX5_buy_38 : decode cX5_buy 38 = .ok (.istore 4, 2) := dk_54 4 (dk_at dksX5_buy_1 15 rfl rfl)
theorem dX5_buy_40 : decode cX5_buy 40 = .ok (.iload 4, 2) := dk_21 4 (dk_at dksX5_buy_1 17 rfl rfl)
theorem dX5_buy_42 : decode cX5_buy 42 = .ok (.ifCond .le 6, 3) := dk_158 0 6 (dk_at dksX5_buy_1 19 rfl rfl)
theorem dX5_buy_45 : decode cX5_buy 45 = .ok (.iload 4, 2) := dk_21 4 (dk_at dksX5_buy_1 22 rfl rfl)
theorem dX5_buy_47 : decode cX5_buy 47 = .ok (.ireturn, 1) := dk_172 (dk_at dksX5_buy_2 0 rfl rfl)
theorem dX5_buy_48 : decode cX5_buy 48 = .ok (.aload_n 0, 1) := dk_42 (dk_at dksX5_buy_2 1 rfl rfl)
theorem dX5_buy_49 : decode cX5_buy 49 = .ok (.invokevirtual 310, 3) := dk_182 1 54 (dk_at dksX5_buy_2 2 rfl rfl)
theorem dX5_buy_52 : decode cX5_buy 52 = .ok (.aload_n 0, 1) := dk_42 (dk_at dksX5_buy_2 5 rfl rfl)
theorem dX5_buy_53 : decode cX5_buy 53 = .ok (.iload_n 1, 1) := dk_27 (dk_at dksX5_buy_2 6 rfl rfl)
theorem dX5_buy_54 : decode cX5_buy 54 = .ok (.iload_n 2, 1) := dk_28 (dk_at dksX5_buy_2 7 rfl rfl)
theorem dX5_buy_55 : decode cX5_buy 55 = .ok (.iload_n 3, 1) := dk_29 (dk_at dksX5_buy_2 8 rfl rfl)
theorem dX5_buy_56 : decode cX5_buy 56 = .ok (.invokevirtual 313, 3) := dk_182 1 57 (dk_at dksX5_buy_2 9 rfl rfl)
theorem dX5_buy_59 : decode cX5_buy 59 = .ok (.iconst 0, 1) := dk_3 (dk_at dksX5_buy_2 12 rfl rfl)
theorem dX5_buy_60 : decode cX5_buy 60 = .ok (.ireturn, 1) := dk_172 (dk_at dksX5_buy_2 13 rfl rfl)
abbrev cX5_whyBuy : ByteArray := prog_26_method_51_code
def yX5_whyBuy : MethodName := ⟨RX5, "whyBuy", "(III)I"⟩
def dkwX5_whyBuy_5 : List UInt8 := [46, 154, 0, 8, 16, 6, 167, 0, 4, 3, 172]
abbrev dktX5_whyBuy_5 : List UInt8 := dkwX5_whyBuy_5 ++ []
def dkwX5_whyBuy_4 : List UInt8 := [17, 0, 136, 27, 96, 46, 164, 0, 5, 8, 172, 42, 180, 0, 33, 17, 0, 178, 8, 27, 104, 96, 28, 96]
abbrev dktX5_whyBuy_4 : List UInt8 := dkwX5_whyBuy_4 ++ dktX5_whyBuy_5
def dkwX5_whyBuy_3 : List UInt8 := [96, 46, 154, 0, 5, 7, 172, 42, 180, 0, 33, 16, 47, 21, 4, 96, 46, 4, 100, 42, 180, 0, 33]
abbrev dktX5_whyBuy_3 : List UInt8 := dkwX5_whyBuy_3 ++ dktX5_whyBuy_4
def dkwX5_whyBuy_2 : List UInt8 := [182, 1, 37, 154, 0, 5, 6, 172, 8, 29, 104, 28, 96, 54, 4, 42, 180, 0, 33, 17, 0, 143, 21, 4]
abbrev dktX5_whyBuy_2 : List UInt8 := dkwX5_whyBuy_2 ++ dktX5_whyBuy_3
def dkwX5_whyBuy_1 : List UInt8 := [172, 42, 27, 182, 1, 22, 29, 184, 0, 214, 154, 0, 21, 42, 27, 182, 1, 37, 154, 0, 13, 42, 29]
abbrev dktX5_whyBuy_1 : List UInt8 := dkwX5_whyBuy_1 ++ dktX5_whyBuy_2
def dkwX5_whyBuy_0 : List UInt8 := [27, 29, 160, 0, 5, 4, 172, 42, 27, 182, 1, 34, 154, 0, 11, 42, 29, 182, 1, 34, 153, 0, 5, 5]
abbrev dktX5_whyBuy_0 : List UInt8 := dkwX5_whyBuy_0 ++ dktX5_whyBuy_1
theorem dksX5_whyBuy_0 : cX5_whyBuy.data.toList.drop 0 = dktX5_whyBuy_0 := by decide +kernel
theorem dksX5_whyBuy_1 : cX5_whyBuy.data.toList.drop 24 = dktX5_whyBuy_1 := dk_seg dksX5_whyBuy_0 24 rfl rfl
theorem dksX5_whyBuy_2 : cX5_whyBuy.data.toList.drop 47 = dktX5_whyBuy_2 := dk_seg dksX5_whyBuy_1 23 rfl rfl
theorem dksX5_whyBuy_3 : cX5_whyBuy.data.toList.drop 71 = dktX5_whyBuy_3 := dk_seg dksX5_whyBuy_2 24 rfl rfl
theorem dksX5_whyBuy_4 : cX5_whyBuy.data.toList.drop 94 = dktX5_whyBuy_4 := dk_seg dksX5_whyBuy_3 23 rfl rfl
theorem dksX5_whyBuy_5 : cX5_whyBuy.data.toList.drop 118 = dktX5_whyBuy_5 := dk_seg dksX5_whyBuy_4 24 rfl rfl
theorem dX5_whyBuy_0 : decode cX5_whyBuy 0 = .ok (.iload_n 1, 1) := dk_27 (dk_at dksX5_whyBuy_0 0 rfl rfl)
theorem dX5_whyBuy_1 : decode cX5_whyBuy 1 = .ok (.iload_n 3, 1) := dk_29 (dk_at dksX5_whyBuy_0 1 rfl rfl)
theorem dX5_whyBuy_2 : decode cX5_whyBuy 2 = .ok (.if_icmp .ne 5, 3) := dk_160 0 5 (dk_at dksX5_whyBuy_0 2 rfl rfl)
theorem dX5_whyBuy_5 : decode cX5_whyBuy 5 = .ok (.iconst 1, 1) := dk_4 (dk_at dksX5_whyBuy_0 5 rfl rfl)
theorem dX5_whyBuy_6 : decode cX5_whyBuy 6 = .ok (.ireturn, 1) := dk_172 (dk_at dksX5_whyBuy_0 6 rfl rfl)
theorem dX5_whyBuy_7 : decode cX5_whyBuy 7 = .ok (.aload_n 0, 1) := dk_42 (dk_at dksX5_whyBuy_0 7 rfl rfl)
theorem dX5_whyBuy_8 : decode cX5_whyBuy 8 = .ok (.iload_n 1, 1) := dk_27 (dk_at dksX5_whyBuy_0 8 rfl rfl)
theorem dX5_whyBuy_9 : decode cX5_whyBuy 9 = .ok (.invokevirtual 290, 3) := dk_182 1 34 (dk_at dksX5_whyBuy_0 9 rfl rfl)
theorem dX5_whyBuy_12 : decode cX5_whyBuy 12 = .ok (.ifCond .ne 11, 3) := dk_154 0 11 (dk_at dksX5_whyBuy_0 12 rfl rfl)
theorem dX5_whyBuy_15 : decode cX5_whyBuy 15 = .ok (.aload_n 0, 1) := dk_42 (dk_at dksX5_whyBuy_0 15 rfl rfl)
theorem dX5_whyBuy_16 : decode cX5_whyBuy 16 = .ok (.iload_n 3, 1) := dk_29 (dk_at dksX5_whyBuy_0 16 rfl rfl)
theorem dX5_whyBuy_17 : decode cX5_whyBuy 17 = .ok (.invokevirtual 290, 3) := dk_182 1 34 (dk_at dksX5_whyBuy_0 17 rfl rfl)
theorem dX5_whyBuy_20 : decode cX5_whyBuy 20 = .ok (.ifCond .eq 5, 3) := dk_153 0 5 (dk_at dksX5_whyBuy_0 20 rfl rfl)
theorem dX5_whyBuy_23 : decode cX5_whyBuy 23 = .ok (.iconst 2, 1) := dk_5 (dk_at dksX5_whyBuy_0 23 rfl rfl)
theorem dX5_whyBuy_24 : decode cX5_whyBuy 24 = .ok (.ireturn, 1) := dk_172 (dk_at dksX5_whyBuy_1 0 rfl rfl)
theorem dX5_whyBuy_25 : decode cX5_whyBuy 25 = .ok (.aload_n 0, 1) := dk_42 (dk_at dksX5_whyBuy_1 1 rfl rfl)
theorem dX5_whyBuy_26 : decode cX5_whyBuy 26 = .ok (.iload_n 1, 1) := dk_27 (dk_at dksX5_whyBuy_1 2 rfl rfl)
theorem dX5_whyBuy_27 : decode cX5_whyBuy 27 = .ok (.invokevirtual 278, 3) := dk_182 1 22 (dk_at dksX5_whyBuy_1 3 rfl rfl)
theorem dX5_whyBuy_30 : decode cX5_whyBuy 30 = .ok (.iload_n 3, 1) := dk_29 (dk_at dksX5_whyBuy_1 6 rfl rfl)
theorem dX5_whyBuy_31 : decode cX5_whyBuy 31 = .ok (.invokestatic 214, 3) := dk_184 0 214 (dk_at dksX5_whyBuy_1 7 rfl rfl)
theorem dX5_whyBuy_34 : decode cX5_whyBuy 34 = .ok (.ifCond .ne 21, 3) := dk_154 0 21 (dk_at dksX5_whyBuy_1 10 rfl rfl)
theorem dX5_whyBuy_37 : decode cX5_whyBuy 37 = .ok (.aload_n 0, 1) := dk_42 (dk_at dksX5_whyBuy_1 13 rfl rfl)
theorem dX5_whyBuy_38 : decode cX5_whyBuy 38 = .ok (.iload_n 1, 1) := dk_27 (dk_at dksX5_whyBuy_1 14 rfl rfl)
theorem dX5_whyBuy_39 : decode cX5_whyBuy 39 = .ok (.invokevirtual 293, 3) := dk_182 1 37 (dk_at dksX5_whyBuy_1 15 rfl rfl)
theorem dX5_whyBuy_42 : decode cX5_whyBuy 42 = .ok (.ifCond .ne 13, 3) := dk_154 0 13 (dk_at dksX5_whyBuy_1 18 rfl rfl)
theorem dX5_whyBuy_45 : decode cX5_whyBuy 45 = .ok (.aload_n 0, 1) := dk_42 (dk_at dksX5_whyBuy_1 21 rfl rfl)
theorem dX5_whyBuy_46 : decode cX5_whyBuy 46 = .ok (.iload_n 3, 1) := dk_29 (dk_at dksX5_whyBuy_1 22 rfl rfl)
theorem dX5_whyBuy_47 : decode cX5_whyBuy 47 = .ok (.invokevirtual 293, 3) := dk_182 1 37 (dk_at dksX5_whyBuy_2 0 rfl rfl)
theorem dX5_whyBuy_50 : decode cX5_whyBuy 50 = .ok (.ifCond .ne 5, 3) := dk_154 0 5 (dk_at dksX5_whyBuy_2 3 rfl rfl)
theorem dX5_whyBuy_53 : decode cX5_whyBuy 53 = .ok (.iconst 3, 1) := dk_6 (dk_at dksX5_whyBuy_2 6 rfl rfl)
theorem dX5_whyBuy_54 : decode cX5_whyBuy 54 = .ok (.ireturn, 1) := dk_172 (dk_at dksX5_whyBuy_2 7 rfl rfl)
theorem dX5_whyBuy_55 : decode cX5_whyBuy 55 = .ok (.iconst 5, 1) := dk_8 (dk_at dksX5_whyBuy_2 8 rfl rfl)
theorem dX5_whyBuy_56 : decode cX5_whyBuy 56 = .ok (.iload_n 3, 1) := dk_29 (dk_at dksX5_whyBuy_2 9 rfl rfl)
theorem dX5_whyBuy_57 : decode cX5_whyBuy 57 = .ok (.imul, 1) := dk_104 (dk_at dksX5_whyBuy_2 10 rfl rfl)
theorem dX5_whyBuy_58 : decode cX5_whyBuy 58 = .ok (.iload_n 2, 1) := dk_28 (dk_at dksX5_whyBuy_2 11 rfl rfl)
theorem dX5_whyBuy_59 : decode cX5_whyBuy 59 = .ok (.iadd, 1) := dk_96 (dk_at dksX5_whyBuy_2 12 rfl rfl)
theorem dX5_whyBuy_60 : decode cX5_whyBuy 60 = .ok (.istore 4, 2) := dk_54 4 (dk_at dksX5_whyBuy_2 13 rfl rfl)
theorem dX5_whyBuy_62 : decode cX5_whyBuy 62 = .ok (.aload_n 0, 1) := dk_42 (dk_at dksX5_whyBuy_2 15 rfl rfl)
theorem dX5_whyBuy_63 : decode cX5_whyBuy 63 = .ok (.getfield 33, 3) := dk_180 0 33 (dk_at dksX5_whyBuy_2 16 rfl rfl)
theorem dX5_whyBuy_66 : decode cX5_whyBuy 66 = .ok (.sipush 143, 3) := dk_17 0 143 (dk_at dksX5_whyBuy_2 19 rfl rfl)
theorem dX5_whyBuy_69 : decode cX5_whyBuy 69 = .ok (.iload 4, 2) := dk_21 4 (dk_at dksX5_whyBuy_2 22 rfl rfl)
theorem dX5_whyBuy_71 : decode cX5_whyBuy 71 = .ok (.iadd, 1) := dk_96 (dk_at dksX5_whyBuy_3 0 rfl rfl)
theorem dX5_whyBuy_72 : decode cX5_whyBuy 72 = .ok (.iaload, 1) := dk_46 (dk_at dksX5_whyBuy_3 1 rfl rfl)
theorem dX5_whyBuy_73 : decode cX5_whyBuy 73 = .ok (.ifCond .ne 5, 3) := dk_154 0 5 (dk_at dksX5_whyBuy_3 2 rfl rfl)
theorem dX5_whyBuy_76 : decode cX5_whyBuy 76 = .ok (.iconst 4, 1) := dk_7 (dk_at dksX5_whyBuy_3 5 rfl rfl)
theorem dX5_whyBuy_77 : decode cX5_whyBuy 77 = .ok (.ireturn, 1) := dk_172 (dk_at dksX5_whyBuy_3 6 rfl rfl)
theorem dX5_whyBuy_78 : decode cX5_whyBuy 78 = .ok (.aload_n 0, 1) := dk_42 (dk_at dksX5_whyBuy_3 7 rfl rfl)
theorem dX5_whyBuy_79 : decode cX5_whyBuy 79 = .ok (.getfield 33, 3) := dk_180 0 33 (dk_at dksX5_whyBuy_3 8 rfl rfl)
theorem dX5_whyBuy_82 : decode cX5_whyBuy 82 = .ok (.bipush 47, 2) := dk_16 47 (dk_at dksX5_whyBuy_3 11 rfl rfl)
theorem dX5_whyBuy_84 : decode cX5_whyBuy 84 = .ok (.iload 4, 2) := dk_21 4 (dk_at dksX5_whyBuy_3 13 rfl rfl)
theorem dX5_whyBuy_86 : decode cX5_whyBuy 86 = .ok (.iadd, 1) := dk_96 (dk_at dksX5_whyBuy_3 15 rfl rfl)
theorem dX5_whyBuy_87 : decode cX5_whyBuy 87 = .ok (.iaload, 1) := dk_46 (dk_at dksX5_whyBuy_3 16 rfl rfl)
theorem dX5_whyBuy_88 : decode cX5_whyBuy 88 = .ok (.iconst 1, 1) := dk_4 (dk_at dksX5_whyBuy_3 17 rfl rfl)
theorem dX5_whyBuy_89 : decode cX5_whyBuy 89 = .ok (.isub, 1) := dk_100 (dk_at dksX5_whyBuy_3 18 rfl rfl)
theorem dX5_whyBuy_90 : decode cX5_whyBuy 90 = .ok (.aload_n 0, 1) := dk_42 (dk_at dksX5_whyBuy_3 19 rfl rfl)
theorem dX5_whyBuy_91 : decode cX5_whyBuy 91 = .ok (.getfield 33, 3) := dk_180 0 33 (dk_at dksX5_whyBuy_3 20 rfl rfl)
theorem dX5_whyBuy_94 : decode cX5_whyBuy 94 = .ok (.sipush 136, 3) := dk_17 0 136 (dk_at dksX5_whyBuy_4 0 rfl rfl)
theorem dX5_whyBuy_97 : decode cX5_whyBuy 97 = .ok (.iload_n 1, 1) := dk_27 (dk_at dksX5_whyBuy_4 3 rfl rfl)
theorem dX5_whyBuy_98 : decode cX5_whyBuy 98 = .ok (.iadd, 1) := dk_96 (dk_at dksX5_whyBuy_4 4 rfl rfl)
theorem dX5_whyBuy_99 : decode cX5_whyBuy 99 = .ok (.iaload, 1) := dk_46 (dk_at dksX5_whyBuy_4 5 rfl rfl)
theorem dX5_whyBuy_100 : decode cX5_whyBuy 100 = .ok (.if_icmp .le 5, 3) := dk_164 0 5 (dk_at dksX5_whyBuy_4 6 rfl rfl)
theorem dX5_whyBuy_103 : decode cX5_whyBuy 103 = .ok (.iconst 5, 1) := dk_8 (dk_at dksX5_whyBuy_4 9 rfl rfl)
theorem dX5_whyBuy_104 : decode cX5_whyBuy 104 = .ok (.ireturn, 1) := dk_172 (dk_at dksX5_whyBuy_4 10 rfl rfl)
theorem dX5_whyBuy_105 : decode cX5_whyBuy 105 = .ok (.aload_n 0, 1) := dk_42 (dk_at dksX5_whyBuy_4 11 rfl rfl)
theorem dX5_whyBuy_106 : decode cX5_whyBuy 106 = .ok (.getfield 33, 3) := dk_180 0 33 (dk_at dksX5_whyBuy_4 12 rfl rfl)
theorem dX5_whyBuy_109 : decode cX5_whyBuy 109 = .ok (.sipush 178, 3) := dk_17 0 178 (dk_at dksX5_whyBuy_4 15 rfl rfl)
theorem dX5_whyBuy_112 : decode cX5_whyBuy 112 = .ok (.iconst 5, 1) := dk_8 (dk_at dksX5_whyBuy_4 18 rfl rfl)
theorem dX5_whyBuy_113 : decode cX5_whyBuy 113 = .ok (.iload_n 1, 1) := dk_27 (dk_at dksX5_whyBuy_4 19 rfl rfl)
theorem dX5_whyBuy_114 : decode cX5_whyBuy 114 = .ok (.imul, 1) := dk_104 (dk_at dksX5_whyBuy_4 20 rfl rfl)
theorem dX5_whyBuy_115 : decode cX5_whyBuy 115 = .ok (.iadd, 1) := dk_96 (dk_at dksX5_whyBuy_4 21 rfl rfl)
theorem dX5_whyBuy_116 : decode cX5_whyBuy 116 = .ok (.iload_n 2, 1) := dk_28 (dk_at dksX5_whyBuy_4 22 rfl rfl)
theorem dX5_whyBuy_117 : decode cX5_whyBuy 117 = .ok (.iadd, 1) := dk_96 (dk_at dksX5_whyBuy_4 23 rfl rfl)
theorem dX5_whyBuy_118 : decode cX5_whyBuy 118 = .ok (.iaload, 1) := dk_46 (dk_at dksX5_whyBuy_5 0 rfl rfl)
theorem dX5_whyBuy_119 : decode cX5_whyBuy 119 = .ok (.ifCond .ne 8, 3) := dk_154 0 8 (dk_at dksX5_whyBuy_5 1 rfl rfl)
theorem dX5_whyBuy_122 : decode cX5_whyBuy 122 = .ok (.bipush 6, 2) := dk_16 6 (dk_at dksX5_whyBuy_5 4 rfl rfl)
theorem dX5_whyBuy_124 : decode cX5_whyBuy 124 = .ok (.goto 4, 3) := dk_167 0 4 (dk_at dksX5_whyBuy_5 6 rfl rfl)
theorem dX5_whyBuy_127 : decode cX5_whyBuy 127 = .ok (.iconst 0, 1) := dk_3 (dk_at dksX5_whyBuy_5 9 rfl rfl)
theorem dX5_whyBuy_128 : decode cX5_whyBuy 128 = .ok (.ireturn, 1) := dk_172 (dk_at dksX5_whyBuy_5 10 rfl rfl)
abbrev cX5_isHome : ByteArray := prog_26_method_42_code
def yX5_isHome : MethodName := ⟨RX5, "isHome", "(I)Z"⟩
def dkwX5_isHome_0 : List UInt8 := [42, 180, 0, 33, 17, 0, 133, 46, 27, 184, 0, 214, 172]
abbrev dktX5_isHome_0 : List UInt8 := dkwX5_isHome_0 ++ []
theorem dksX5_isHome_0 : cX5_isHome.data.toList.drop 0 = dktX5_isHome_0 := by decide +kernel
theorem dX5_isHome_0 : decode cX5_isHome 0 = .ok (.aload_n 0, 1) := dk_42 (dk_at dksX5_isHome_0 0 rfl rfl)
theorem dX5_isHome_1 : decode cX5_isHome 1 = .ok (.getfield 33, 3) := dk_180 0 33 (dk_at dksX5_isHome_0 1 rfl rfl)
theorem dX5_isHome_4 : decode cX5_isHome 4 = .ok (.sipush 133, 3) := dk_17 0 133 (dk_at dksX5_isHome_0 4 rfl rfl)
theorem dX5_isHome_7 : decode cX5_isHome 7 = .ok (.iaload, 1) := dk_46 (dk_at dksX5_isHome_0 7 rfl rfl)
theorem dX5_isHome_8 : decode cX5_isHome 8 = .ok (.iload_n 1, 1) := dk_27 (dk_at dksX5_isHome_0 8 rfl rfl)
theorem dX5_isHome_9 : decode cX5_isHome 9 = .ok (.invokestatic 214, 3) := dk_184 0 214 (dk_at dksX5_isHome_0 9 rfl rfl)
theorem dX5_isHome_12 : decode cX5_isHome 12 = .ok (.ireturn, 1) := dk_172 (dk_at dksX5_isHome_0 12 rfl rfl)
abbrev cX5_isVeiled : ByteArray := prog_26_method_43_code
def yX5_isVeiled : MethodName := ⟨RX5, "isVeiled", "(I)Z"⟩
def dkwX5_isVeiled_0 : List UInt8 := [42, 180, 0, 33, 17, 0, 134, 46, 27, 184, 0, 214, 172]
abbrev dktX5_isVeiled_0 : List UInt8 := dkwX5_isVeiled_0 ++ []
theorem dksX5_isVeiled_0 : cX5_isVeiled.data.toList.drop 0 = dktX5_isVeiled_0 := by decide +kernel
theorem dX5_isVeiled_0 : decode cX5_isVeiled 0 = .ok (.aload_n 0, 1) := dk_42 (dk_at dksX5_isVeiled_0 0 rfl rfl)
theorem dX5_isVeiled_1 : decode cX5_isVeiled 1 = .ok (.getfield 33, 3) := dk_180 0 33 (dk_at dksX5_isVeiled_0 1 rfl rfl)
theorem dX5_isVeiled_4 : decode cX5_isVeiled 4 = .ok (.sipush 134, 3) := dk_17 0 134 (dk_at dksX5_isVeiled_0 4 rfl rfl)
theorem dX5_isVeiled_7 : decode cX5_isVeiled 7 = .ok (.iaload, 1) := dk_46 (dk_at dksX5_isVeiled_0 7 rfl rfl)
theorem dX5_isVeiled_8 : decode cX5_isVeiled 8 = .ok (.iload_n 1, 1) := dk_27 (dk_at dksX5_isVeiled_0 8 rfl rfl)
theorem dX5_isVeiled_9 : decode cX5_isVeiled 9 = .ok (.invokestatic 214, 3) := dk_184 0 214 (dk_at dksX5_isVeiled_0 9 rfl rfl)
theorem dX5_isVeiled_12 : decode cX5_isVeiled 12 = .ok (.ireturn, 1) := dk_172 (dk_at dksX5_isVeiled_0 12 rfl rfl)
abbrev cX5_keep : ByteArray := prog_26_method_66_code
def yX5_keep : MethodName := ⟨RX5, "keep", "()V"⟩
def dkwX5_keep_4 : List UInt8 := [181, 1, 6, 177]
abbrev dktX5_keep_4 : List UInt8 := dkwX5_keep_4 ++ []
def dkwX5_keep_3 : List UInt8 := [180, 0, 33, 17, 0, 131, 27, 96, 46, 79, 132, 1, 1, 167, 255, 221, 42, 89, 180, 1, 6, 4, 96]
abbrev dktX5_keep_3 : List UInt8 := dkwX5_keep_3 ++ dktX5_keep_4
def dkwX5_keep_2 : List UInt8 := [27, 17, 0, 145, 162, 0, 34, 42, 180, 0, 50, 17, 0, 145, 42, 180, 1, 6, 104, 27, 96, 42]
abbrev dktX5_keep_2 : List UInt8 := dkwX5_keep_2 ++ dktX5_keep_3
def dkwX5_keep_1 : List UInt8 := [180, 0, 50, 27, 17, 0, 145, 96, 46, 79, 132, 1, 1, 167, 255, 230, 42, 16, 7, 181, 1, 6, 3, 60]
abbrev dktX5_keep_1 : List UInt8 := dkwX5_keep_1 ++ dktX5_keep_2
def dkwX5_keep_0 : List UInt8 := [42, 180, 1, 6, 16, 8, 160, 0, 40, 3, 60, 27, 17, 3, 247, 162, 0, 25, 42, 180, 0, 50, 27, 42]
abbrev dktX5_keep_0 : List UInt8 := dkwX5_keep_0 ++ dktX5_keep_1
theorem dksX5_keep_0 : cX5_keep.data.toList.drop 0 = dktX5_keep_0 := by decide +kernel
theorem dksX5_keep_1 : cX5_keep.data.toList.drop 24 = dktX5_keep_1 := dk_seg dksX5_keep_0 24 rfl rfl
theorem dksX5_keep_2 : cX5_keep.data.toList.drop 48 = dktX5_keep_2 := dk_seg dksX5_keep_1 24 rfl rfl
theorem dksX5_keep_3 : cX5_keep.data.toList.drop 70 = dktX5_keep_3 := dk_seg dksX5_keep_2 22 rfl rfl
theorem dksX5_keep_4 : cX5_keep.data.toList.drop 93 = dktX5_keep_4 := dk_seg dksX5_keep_3 23 rfl rfl
theorem dX5_keep_0 : decode cX5_keep 0 = .ok (.aload_n 0, 1) := dk_42 (dk_at dksX5_keep_0 0 rfl rfl)
theorem dX5_keep_1 : decode cX5_keep 1 = .ok (.getfield 262, 3) := dk_180 1 6 (dk_at dksX5_keep_0 1 rfl rfl)
theorem dX5_keep_4 : decode cX5_keep 4 = .ok (.bipush 8, 2) := dk_16 8 (dk_at dksX5_keep_0 4 rfl rfl)
theorem dX5_keep_6 : decode cX5_keep 6 = .ok (.if_icmp .ne 40, 3) := dk_160 0 40 (dk_at dksX5_keep_0 6 rfl rfl)
theorem dX5_keep_9 : decode cX5_keep 9 = .ok (.iconst 0, 1) := dk_3 (dk_at dksX5_keep_0 9 rfl rfl)
theorem dX5_keep_10 : decode cX5_keep 10 = .ok (.istore_n 1, 1) := dk_60 (dk_at dksX5_keep_0 10 rfl rfl)
theorem dX5_keep_11 : decode cX5_keep 11 = .ok (.iload_n 1, 1) := dk_27 (dk_at dksX5_keep_0 11 rfl rfl)
theorem dX5_keep_12 : decode cX5_keep 12 = .ok (.sipush 1015, 3) := dk_17 3 247 (dk_at dksX5_keep_0 12 rfl rfl)
theorem dX5_keep_15 : decode cX5_keep 15 = .ok (.if_icmp .ge 25, 3) := dk_162 0 25 (dk_at dksX5_keep_0 15 rfl rfl)
theorem dX5_keep_18 : decode cX5_keep 18 = .ok (.aload_n 0, 1) := dk_42 (dk_at dksX5_keep_0 18 rfl rfl)
theorem dX5_keep_19 : decode cX5_keep 19 = .ok (.getfield 50, 3) := dk_180 0 50 (dk_at dksX5_keep_0 19 rfl rfl)
theorem dX5_keep_22 : decode cX5_keep 22 = .ok (.iload_n 1, 1) := dk_27 (dk_at dksX5_keep_0 22 rfl rfl)
theorem dX5_keep_23 : decode cX5_keep 23 = .ok (.aload_n 0, 1) := dk_42 (dk_at dksX5_keep_0 23 rfl rfl)
theorem dX5_keep_24 : decode cX5_keep 24 = .ok (.getfield 50, 3) := dk_180 0 50 (dk_at dksX5_keep_1 0 rfl rfl)
theorem dX5_keep_27 : decode cX5_keep 27 = .ok (.iload_n 1, 1) := dk_27 (dk_at dksX5_keep_1 3 rfl rfl)
theorem dX5_keep_28 : decode cX5_keep 28 = .ok (.sipush 145, 3) := dk_17 0 145 (dk_at dksX5_keep_1 4 rfl rfl)
theorem dX5_keep_31 : decode cX5_keep 31 = .ok (.iadd, 1) := dk_96 (dk_at dksX5_keep_1 7 rfl rfl)
theorem dX5_keep_32 : decode cX5_keep 32 = .ok (.iaload, 1) := dk_46 (dk_at dksX5_keep_1 8 rfl rfl)
theorem dX5_keep_33 : decode cX5_keep 33 = .ok (.iastore, 1) := dk_79 (dk_at dksX5_keep_1 9 rfl rfl)
theorem dX5_keep_34 : decode cX5_keep 34 = .ok (.iinc 1 1, 3) := dk_132 1 1 (dk_at dksX5_keep_1 10 rfl rfl)
theorem dX5_keep_37 : decode cX5_keep 37 = .ok (.goto (-26), 3) := dk_167 255 230 (dk_at dksX5_keep_1 13 rfl rfl)
theorem dX5_keep_40 : decode cX5_keep 40 = .ok (.aload_n 0, 1) := dk_42 (dk_at dksX5_keep_1 16 rfl rfl)
theorem dX5_keep_41 : decode cX5_keep 41 = .ok (.bipush 7, 2) := dk_16 7 (dk_at dksX5_keep_1 17 rfl rfl)
theorem dX5_keep_43 : decode cX5_keep 43 = .ok (.putfield 262, 3) := dk_181 1 6 (dk_at dksX5_keep_1 19 rfl rfl)
theorem dX5_keep_46 : decode cX5_keep 46 = .ok (.iconst 0, 1) := dk_3 (dk_at dksX5_keep_1 22 rfl rfl)
theorem dX5_keep_47 : decode cX5_keep 47 = .ok (.istore_n 1, 1) := dk_60 (dk_at dksX5_keep_1 23 rfl rfl)
theorem dX5_keep_48 : decode cX5_keep 48 = .ok (.iload_n 1, 1) := dk_27 (dk_at dksX5_keep_2 0 rfl rfl)
theorem dX5_keep_49 : decode cX5_keep 49 = .ok (.sipush 145, 3) := dk_17 0 145 (dk_at dksX5_keep_2 1 rfl rfl)
theorem dX5_keep_52 : decode cX5_keep 52 = .ok (.if_icmp .ge 34, 3) := dk_162 0 34 (dk_at dksX5_keep_2 4 rfl rfl)
theorem dX5_keep_55 : decode cX5_keep 55 = .ok (.aload_n 0, 1) := dk_42 (dk_at dksX5_keep_2 7 rfl rfl)
theorem dX5_keep_56 : decode cX5_keep 56 = .ok (.getfield 50, 3) := dk_180 0 50 (dk_at dksX5_keep_2 8 rfl rfl)
theorem dX5_keep_59 : decode cX5_keep 59 = .ok (.sipush 145, 3) := dk_17 0 145 (dk_at dksX5_keep_2 11 rfl rfl)
theorem dX5_keep_62 : decode cX5_keep 62 = .ok (.aload_n 0, 1) := dk_42 (dk_at dksX5_keep_2 14 rfl rfl)
theorem dX5_keep_63 : decode cX5_keep 63 = .ok (.getfield 262, 3) := dk_180 1 6 (dk_at dksX5_keep_2 15 rfl rfl)
theorem dX5_keep_66 : decode cX5_keep 66 = .ok (.imul, 1) := dk_104 (dk_at dksX5_keep_2 18 rfl rfl)
theorem dX5_keep_67 : decode cX5_keep 67 = .ok (.iload_n 1, 1) := dk_27 (dk_at dksX5_keep_2 19 rfl rfl)
theorem dX5_keep_68 : decode cX5_keep 68 = .ok (.iadd, 1) := dk_96 (dk_at dksX5_keep_2 20 rfl rfl)
theorem dX5_keep_69 : decode cX5_keep 69 = .ok (.aload_n 0, 1) := dk_42 (dk_at dksX5_keep_2 21 rfl rfl)
theorem dX5_keep_70 : decode cX5_keep 70 = .ok (.getfield 33, 3) := dk_180 0 33 (dk_at dksX5_keep_3 0 rfl rfl)
theorem dX5_keep_73 : decode cX5_keep 73 = .ok (.sipush 131, 3) := dk_17 0 131 (dk_at dksX5_keep_3 3 rfl rfl)
theorem dX5_keep_76 : decode cX5_keep 76 = .ok (.iload_n 1, 1) := dk_27 (dk_at dksX5_keep_3 6 rfl rfl)
theorem dX5_keep_77 : decode cX5_keep 77 = .ok (.iadd, 1) := dk_96 (dk_at dksX5_keep_3 7 rfl rfl)
theorem dX5_keep_78 : decode cX5_keep 78 = .ok (.iaload, 1) := dk_46 (dk_at dksX5_keep_3 8 rfl rfl)
theorem dX5_keep_79 : decode cX5_keep 79 = .ok (.iastore, 1) := dk_79 (dk_at dksX5_keep_3 9 rfl rfl)
theorem dX5_keep_80 : decode cX5_keep 80 = .ok (.iinc 1 1, 3) := dk_132 1 1 (dk_at dksX5_keep_3 10 rfl rfl)
theorem dX5_keep_83 : decode cX5_keep 83 = .ok (.goto (-35), 3) := dk_167 255 221 (dk_at dksX5_keep_3 13 rfl rfl)
theorem dX5_keep_86 : decode cX5_keep 86 = .ok (.aload_n 0, 1) := dk_42 (dk_at dksX5_keep_3 16 rfl rfl)
theorem dX5_keep_87 : decode cX5_keep 87 = .ok (.dup, 1) := dk_89 (dk_at dksX5_keep_3 17 rfl rfl)
theorem dX5_keep_88 : decode cX5_keep 88 = .ok (.getfield 262, 3) := dk_180 1 6 (dk_at dksX5_keep_3 18 rfl rfl)
theorem dX5_keep_91 : decode cX5_keep 91 = .ok (.iconst 1, 1) := dk_4 (dk_at dksX5_keep_3 21 rfl rfl)
theorem dX5_keep_92 : decode cX5_keep 92 = .ok (.iadd, 1) := dk_96 (dk_at dksX5_keep_3 22 rfl rfl)
theorem dX5_keep_93 : decode cX5_keep 93 = .ok (.putfield 262, 3) := dk_181 1 6 (dk_at dksX5_keep_4 0 rfl rfl)
theorem dX5_keep_96 : decode cX5_keep 96 = .ok (.return_, 1) := dk_177 (dk_at dksX5_keep_4 3 rfl rfl)
abbrev cX5_buys : ByteArray := prog_26_method_52_code
def yX5_buys : MethodName := ⟨RX5, "buys", "(III)V"⟩
def dkwX5_buys_7 : List UInt8 := [180, 0, 33, 5, 46, 161, 0, 9, 42, 27, 29, 182, 1, 40, 177]
abbrev dktX5_buys_7 : List UInt8 := dkwX5_buys_7 ++ []
def dkwX5_buys_6 : List UInt8 := [27, 96, 92, 46, 4, 96, 79, 42, 180, 0, 33, 17, 0, 227, 16, 7, 27, 104, 96, 29, 96, 46, 42]
abbrev dktX5_buys_6 : List UInt8 := dkwX5_buys_6 ++ dktX5_buys_7
def dkwX5_buys_5 : List UInt8 := [16, 7, 27, 104, 96, 29, 96, 92, 46, 4, 96, 79, 42, 180, 0, 33, 17, 0, 227, 16, 7, 29, 104, 96]
abbrev dktX5_buys_5 : List UInt8 := dkwX5_buys_5 ++ dktX5_buys_6
def dkwX5_buys_4 : List UInt8 := [27, 182, 1, 37, 154, 0, 11, 42, 29, 182, 1, 37, 153, 0, 4, 177, 42, 180, 0, 33, 17, 0, 227]
abbrev dktX5_buys_4 : List UInt8 := dkwX5_buys_4 ++ dktX5_buys_5
def dkwX5_buys_3 : List UInt8 := [17, 0, 136, 29, 96, 92, 46, 21, 4, 96, 79, 42, 180, 0, 33, 17, 0, 132, 92, 46, 4, 96, 79, 42]
abbrev dktX5_buys_3 : List UInt8 := dkwX5_buys_3 ++ dktX5_buys_4
def dkwX5_buys_2 : List UInt8 := [92, 46, 4, 100, 79, 42, 180, 0, 33, 17, 0, 136, 27, 96, 92, 46, 21, 4, 100, 79, 42, 180, 0, 33]
abbrev dktX5_buys_2 : List UInt8 := dkwX5_buys_2 ++ dktX5_buys_3
def dkwX5_buys_1 : List UInt8 := [8, 29, 104, 96, 28, 96, 92, 46, 4, 100, 79, 42, 180, 0, 33, 17, 0, 178, 8, 27, 104, 96, 28, 96]
abbrev dktX5_buys_1 : List UInt8 := dkwX5_buys_1 ++ dktX5_buys_2
def dkwX5_buys_0 : List UInt8 := [42, 180, 0, 33, 16, 47, 8, 29, 104, 96, 28, 96, 46, 4, 100, 54, 4, 42, 180, 0, 33, 17, 0, 143]
abbrev dktX5_buys_0 : List UInt8 := dkwX5_buys_0 ++ dktX5_buys_1
theorem dksX5_buys_0 : cX5_buys.data.toList.drop 0 = dktX5_buys_0 := by decide +kernel
theorem dksX5_buys_1 : cX5_buys.data.toList.drop 24 = dktX5_buys_1 := dk_seg dksX5_buys_0 24 rfl rfl
theorem dksX5_buys_2 : cX5_buys.data.toList.drop 48 = dktX5_buys_2 := dk_seg dksX5_buys_1 24 rfl rfl
theorem dksX5_buys_3 : cX5_buys.data.toList.drop 72 = dktX5_buys_3 := dk_seg dksX5_buys_2 24 rfl rfl
theorem dksX5_buys_4 : cX5_buys.data.toList.drop 96 = dktX5_buys_4 := dk_seg dksX5_buys_3 24 rfl rfl
theorem dksX5_buys_5 : cX5_buys.data.toList.drop 119 = dktX5_buys_5 := dk_seg dksX5_buys_4 23 rfl rfl
theorem dksX5_buys_6 : cX5_buys.data.toList.drop 143 = dktX5_buys_6 := dk_seg dksX5_buys_5 24 rfl rfl
theorem dksX5_buys_7 : cX5_buys.data.toList.drop 166 = dktX5_buys_7 := dk_seg dksX5_buys_6 23 rfl rfl
theorem dX5_buys_0 : decode cX5_buys 0 = .ok (.aload_n 0, 1) := dk_42 (dk_at dksX5_buys_0 0 rfl rfl)
theorem dX5_buys_1 : decode cX5_buys 1 = .ok (.getfield 33, 3) := dk_180 0 33 (dk_at dksX5_buys_0 1 rfl rfl)
theorem dX5_buys_4 : decode cX5_buys 4 = .ok (.bipush 47, 2) := dk_16 47 (dk_at dksX5_buys_0 4 rfl rfl)
theorem dX5_buys_6 : decode cX5_buys 6 = .ok (.iconst 5, 1) := dk_8 (dk_at dksX5_buys_0 6 rfl rfl)
theorem dX5_buys_7 : decode cX5_buys 7 = .ok (.iload_n 3, 1) := dk_29 (dk_at dksX5_buys_0 7 rfl rfl)
theorem dX5_buys_8 : decode cX5_buys 8 = .ok (.imul, 1) := dk_104 (dk_at dksX5_buys_0 8 rfl rfl)
theorem dX5_buys_9 : decode cX5_buys 9 = .ok (.iadd, 1) := dk_96 (dk_at dksX5_buys_0 9 rfl rfl)
theorem dX5_buys_10 : decode cX5_buys 10 = .ok (.iload_n 2, 1) := dk_28 (dk_at dksX5_buys_0 10 rfl rfl)
theorem dX5_buys_11 : decode cX5_buys 11 = .ok (.iadd, 1) := dk_96 (dk_at dksX5_buys_0 11 rfl rfl)
theorem dX5_buys_12 : decode cX5_buys 12 = .ok (.iaload, 1) := dk_46 (dk_at dksX5_buys_0 12 rfl rfl)
theorem dX5_buys_13 : decode cX5_buys 13 = .ok (.iconst 1, 1) := dk_4 (dk_at dksX5_buys_0 13 rfl rfl)
theorem dX5_buys_14 : decode cX5_buys 14 = .ok (.isub, 1) := dk_100 (dk_at dksX5_buys_0 14 rfl rfl)
theorem dX5_buys_15 : decode cX5_buys 15 = .ok (.istore 4, 2) := dk_54 4 (dk_at dksX5_buys_0 15 rfl rfl)
theorem dX5_buys_17 : decode cX5_buys 17 = .ok (.aload_n 0, 1) := dk_42 (dk_at dksX5_buys_0 17 rfl rfl)
theorem dX5_buys_18 : decode cX5_buys 18 = .ok (.getfield 33, 3) := dk_180 0 33 (dk_at dksX5_buys_0 18 rfl rfl)
theorem dX5_buys_21 : decode cX5_buys 21 = .ok (.sipush 143, 3) := dk_17 0 143 (dk_at dksX5_buys_0 21 rfl rfl)
theorem dX5_buys_24 : decode cX5_buys 24 = .ok (.iconst 5, 1) := dk_8 (dk_at dksX5_buys_1 0 rfl rfl)
theorem dX5_buys_25 : decode cX5_buys 25 = .ok (.iload_n 3, 1) := dk_29 (dk_at dksX5_buys_1 1 rfl rfl)
theorem dX5_buys_26 : decode cX5_buys 26 = .ok (.imul, 1) := dk_104 (dk_at dksX5_buys_1 2 rfl rfl)
theorem dX5_buys_27 : decode cX5_buys 27 = .ok (.iadd, 1) := dk_96 (dk_at dksX5_buys_1 3 rfl rfl)
theorem dX5_buys_28 : decode cX5_buys 28 = .ok (.iload_n 2, 1) := dk_28 (dk_at dksX5_buys_1 4 rfl rfl)
theorem dX5_buys_29 : decode cX5_buys 29 = .ok (.iadd, 1) := dk_96 (dk_at dksX5_buys_1 5 rfl rfl)
theorem dX5_buys_30 : decode cX5_buys 30 = .ok (.dup2, 1) := dk_92 (dk_at dksX5_buys_1 6 rfl rfl)
theorem dX5_buys_31 : decode cX5_buys 31 = .ok (.iaload, 1) := dk_46 (dk_at dksX5_buys_1 7 rfl rfl)
theorem dX5_buys_32 : decode cX5_buys 32 = .ok (.iconst 1, 1) := dk_4 (dk_at dksX5_buys_1 8 rfl rfl)
theorem dX5_buys_33 : decode cX5_buys 33 = .ok (.isub, 1) := dk_100 (dk_at dksX5_buys_1 9 rfl rfl)
theorem dX5_buys_34 : decode cX5_buys 34 = .ok (.iastore, 1) := dk_79 (dk_at dksX5_buys_1 10 rfl rfl)
theorem dX5_buys_35 : decode cX5_buys 35 = .ok (.aload_n 0, 1) := dk_42 (dk_at dksX5_buys_1 11 rfl rfl)
theorem dX5_buys_36 : decode cX5_buys 36 = .ok (.getfield 33, 3) := dk_180 0 33 (dk_at dksX5_buys_1 12 rfl rfl)
theorem dX5_buys_39 : decode cX5_buys 39 = .ok (.sipush 178, 3) := dk_17 0 178 (dk_at dksX5_buys_1 15 rfl rfl)
theorem dX5_buys_42 : decode cX5_buys 42 = .ok (.iconst 5, 1) := dk_8 (dk_at dksX5_buys_1 18 rfl rfl)
theorem dX5_buys_43 : decode cX5_buys 43 = .ok (.iload_n 1, 1) := dk_27 (dk_at dksX5_buys_1 19 rfl rfl)
theorem dX5_buys_44 : decode cX5_buys 44 = .ok (.imul, 1) := dk_104 (dk_at dksX5_buys_1 20 rfl rfl)
theorem dX5_buys_45 : decode cX5_buys 45 = .ok (.iadd, 1) := dk_96 (dk_at dksX5_buys_1 21 rfl rfl)
theorem dX5_buys_46 : decode cX5_buys 46 = .ok (.iload_n 2, 1) := dk_28 (dk_at dksX5_buys_1 22 rfl rfl)
theorem dX5_buys_47 : decode cX5_buys 47 = .ok (.iadd, 1) := dk_96 (dk_at dksX5_buys_1 23 rfl rfl)
theorem dX5_buys_48 : decode cX5_buys 48 = .ok (.dup2, 1) := dk_92 (dk_at dksX5_buys_2 0 rfl rfl)
theorem dX5_buys_49 : decode cX5_buys 49 = .ok (.iaload, 1) := dk_46 (dk_at dksX5_buys_2 1 rfl rfl)
theorem dX5_buys_50 : decode cX5_buys 50 = .ok (.iconst 1, 1) := dk_4 (dk_at dksX5_buys_2 2 rfl rfl)
theorem dX5_buys_51 : decode cX5_buys 51 = .ok (.isub, 1) := dk_100 (dk_at dksX5_buys_2 3 rfl rfl)
theorem dX5_buys_52 : decode cX5_buys 52 = .ok (.iastore, 1) := dk_79 (dk_at dksX5_buys_2 4 rfl rfl)
theorem dX5_buys_53 : decode cX5_buys 53 = .ok (.aload_n 0, 1) := dk_42 (dk_at dksX5_buys_2 5 rfl rfl)
theorem dX5_buys_54 : decode cX5_buys 54 = .ok (.getfield 33, 3) := dk_180 0 33 (dk_at dksX5_buys_2 6 rfl rfl)
theorem dX5_buys_57 : decode cX5_buys 57 = .ok (.sipush 136, 3) := dk_17 0 136 (dk_at dksX5_buys_2 9 rfl rfl)
theorem dX5_buys_60 : decode cX5_buys 60 = .ok (.iload_n 1, 1) := dk_27 (dk_at dksX5_buys_2 12 rfl rfl)
theorem dX5_buys_61 : decode cX5_buys 61 = .ok (.iadd, 1) := dk_96 (dk_at dksX5_buys_2 13 rfl rfl)
theorem dX5_buys_62 : decode cX5_buys 62 = .ok (.dup2, 1) := dk_92 (dk_at dksX5_buys_2 14 rfl rfl)
theorem dX5_buys_63 : decode cX5_buys 63 = .ok (.iaload, 1) := dk_46 (dk_at dksX5_buys_2 15 rfl rfl)
theorem dX5_buys_64 : decode cX5_buys 64 = .ok (.iload 4, 2) := dk_21 4 (dk_at dksX5_buys_2 16 rfl rfl)
theorem dX5_buys_66 : decode cX5_buys 66 = .ok (.isub, 1) := dk_100 (dk_at dksX5_buys_2 18 rfl rfl)
theorem dX5_buys_67 : decode cX5_buys 67 = .ok (.iastore, 1) := dk_79 (dk_at dksX5_buys_2 19 rfl rfl)
theorem dX5_buys_68 : decode cX5_buys 68 = .ok (.aload_n 0, 1) := dk_42 (dk_at dksX5_buys_2 20 rfl rfl)
theorem dX5_buys_69 : decode cX5_buys 69 = .ok (.getfield 33, 3) := dk_180 0 33 (dk_at dksX5_buys_2 21 rfl rfl)
theorem dX5_buys_72 : decode cX5_buys 72 = .ok (.sipush 136, 3) := dk_17 0 136 (dk_at dksX5_buys_3 0 rfl rfl)
theorem dX5_buys_75 : decode cX5_buys 75 = .ok (.iload_n 3, 1) := dk_29 (dk_at dksX5_buys_3 3 rfl rfl)
theorem dX5_buys_76 : decode cX5_buys 76 = .ok (.iadd, 1) := dk_96 (dk_at dksX5_buys_3 4 rfl rfl)
theorem dX5_buys_77 : decode cX5_buys 77 = .ok (.dup2, 1) := dk_92 (dk_at dksX5_buys_3 5 rfl rfl)
theorem dX5_buys_78 : decode cX5_buys 78 = .ok (.iaload, 1) := dk_46 (dk_at dksX5_buys_3 6 rfl rfl)
theorem dX5_buys_79 : decode cX5_buys 79 = .ok (.iload 4, 2) := dk_21 4 (dk_at dksX5_buys_3 7 rfl rfl)
theorem dX5_buys_81 : decode cX5_buys 81 = .ok (.iadd, 1) := dk_96 (dk_at dksX5_buys_3 9 rfl rfl)
theorem dX5_buys_82 : decode cX5_buys 82 = .ok (.iastore, 1) := dk_79 (dk_at dksX5_buys_3 10 rfl rfl)
theorem dX5_buys_83 : decode cX5_buys 83 = .ok (.aload_n 0, 1) := dk_42 (dk_at dksX5_buys_3 11 rfl rfl)
theorem dX5_buys_84 : decode cX5_buys 84 = .ok (.getfield 33, 3) := dk_180 0 33 (dk_at dksX5_buys_3 12 rfl rfl)
theorem dX5_buys_87 : decode cX5_buys 87 = .ok (.sipush 132, 3) := dk_17 0 132 (dk_at dksX5_buys_3 15 rfl rfl)
theorem dX5_buys_90 : decode cX5_buys 90 = .ok (.dup2, 1) := dk_92 (dk_at dksX5_buys_3 18 rfl rfl)
theorem dX5_buys_91 : decode cX5_buys 91 = .ok (.iaload, 1) := dk_46 (dk_at dksX5_buys_3 19 rfl rfl)
theorem dX5_buys_92 : decode cX5_buys 92 = .ok (.iconst 1, 1) := dk_4 (dk_at dksX5_buys_3 20 rfl rfl)
theorem dX5_buys_93 : decode cX5_buys 93 = .ok (.iadd, 1) := dk_96 (dk_at dksX5_buys_3 21 rfl rfl)
theorem dX5_buys_94 : decode cX5_buys 94 = .ok (.iastore, 1) := dk_79 (dk_at dksX5_buys_3 22 rfl rfl)
theorem dX5_buys_95 : decode cX5_buys 95 = .ok (.aload_n 0, 1) := dk_42 (dk_at dksX5_buys_3 23 rfl rfl)
theorem dX5_buys_96 : decode cX5_buys 96 = .ok (.iload_n 1, 1) := dk_27 (dk_at dksX5_buys_4 0 rfl rfl)
theorem dX5_buys_97 : decode cX5_buys 97 = .ok (.invokevirtual 293, 3) := dk_182 1 37 (dk_at dksX5_buys_4 1 rfl rfl)
theorem dX5_buys_100 : decode cX5_buys 100 = .ok (.ifCond .ne 11, 3) := dk_154 0 11 (dk_at dksX5_buys_4 4 rfl rfl)
theorem dX5_buys_103 : decode cX5_buys 103 = .ok (.aload_n 0, 1) := dk_42 (dk_at dksX5_buys_4 7 rfl rfl)
theorem dX5_buys_104 : decode cX5_buys 104 = .ok (.iload_n 3, 1) := dk_29 (dk_at dksX5_buys_4 8 rfl rfl)
theorem dX5_buys_105 : decode cX5_buys 105 = .ok (.invokevirtual 293, 3) := dk_182 1 37 (dk_at dksX5_buys_4 9 rfl rfl)
theorem dX5_buys_108 : decode cX5_buys 108 = .ok (.ifCond .eq 4, 3) := dk_153 0 4 (dk_at dksX5_buys_4 12 rfl rfl)
theorem dX5_buys_111 : decode cX5_buys 111 = .ok (.return_, 1) := dk_177 (dk_at dksX5_buys_4 15 rfl rfl)
theorem dX5_buys_112 : decode cX5_buys 112 = .ok (.aload_n 0, 1) := dk_42 (dk_at dksX5_buys_4 16 rfl rfl)
theorem dX5_buys_113 : decode cX5_buys 113 = .ok (.getfield 33, 3) := dk_180 0 33 (dk_at dksX5_buys_4 17 rfl rfl)
theorem dX5_buys_116 : decode cX5_buys 116 = .ok (.sipush 227, 3) := dk_17 0 227 (dk_at dksX5_buys_4 20 rfl rfl)
theorem dX5_buys_119 : decode cX5_buys 119 = .ok (.bipush 7, 2) := dk_16 7 (dk_at dksX5_buys_5 0 rfl rfl)
theorem dX5_buys_121 : decode cX5_buys 121 = .ok (.iload_n 1, 1) := dk_27 (dk_at dksX5_buys_5 2 rfl rfl)
theorem dX5_buys_122 : decode cX5_buys 122 = .ok (.imul, 1) := dk_104 (dk_at dksX5_buys_5 3 rfl rfl)
theorem dX5_buys_123 : decode cX5_buys 123 = .ok (.iadd, 1) := dk_96 (dk_at dksX5_buys_5 4 rfl rfl)
theorem dX5_buys_124 : decode cX5_buys 124 = .ok (.iload_n 3, 1) := dk_29 (dk_at dksX5_buys_5 5 rfl rfl)
theorem dX5_buys_125 : decode cX5_buys 125 = .ok (.iadd, 1) := dk_96 (dk_at dksX5_buys_5 6 rfl rfl)
theorem dX5_buys_126 : decode cX5_buys 126 = .ok (.dup2, 1) := dk_92 (dk_at dksX5_buys_5 7 rfl rfl)
theorem dX5_buys_127 : decode cX5_buys 127 = .ok (.iaload, 1) := dk_46 (dk_at dksX5_buys_5 8 rfl rfl)
theorem dX5_buys_128 : decode cX5_buys 128 = .ok (.iconst 1, 1) := dk_4 (dk_at dksX5_buys_5 9 rfl rfl)
theorem dX5_buys_129 : decode cX5_buys 129 = .ok (.iadd, 1) := dk_96 (dk_at dksX5_buys_5 10 rfl rfl)
theorem dX5_buys_130 : decode cX5_buys 130 = .ok (.iastore, 1) := dk_79 (dk_at dksX5_buys_5 11 rfl rfl)
theorem dX5_buys_131 : decode cX5_buys 131 = .ok (.aload_n 0, 1) := dk_42 (dk_at dksX5_buys_5 12 rfl rfl)
theorem dX5_buys_132 : decode cX5_buys 132 = .ok (.getfield 33, 3) := dk_180 0 33 (dk_at dksX5_buys_5 13 rfl rfl)
theorem dX5_buys_135 : decode cX5_buys 135 = .ok (.sipush 227, 3) := dk_17 0 227 (dk_at dksX5_buys_5 16 rfl rfl)
theorem dX5_buys_138 : decode cX5_buys 138 = .ok (.bipush 7, 2) := dk_16 7 (dk_at dksX5_buys_5 19 rfl rfl)
theorem dX5_buys_140 : decode cX5_buys 140 = .ok (.iload_n 3, 1) := dk_29 (dk_at dksX5_buys_5 21 rfl rfl)
theorem dX5_buys_141 : decode cX5_buys 141 = .ok (.imul, 1) := dk_104 (dk_at dksX5_buys_5 22 rfl rfl)
theorem dX5_buys_142 : decode cX5_buys 142 = .ok (.iadd, 1) := dk_96 (dk_at dksX5_buys_5 23 rfl rfl)
theorem dX5_buys_143 : decode cX5_buys 143 = .ok (.iload_n 1, 1) := dk_27 (dk_at dksX5_buys_6 0 rfl rfl)
theorem dX5_buys_144 : decode cX5_buys 144 = .ok (.iadd, 1) := dk_96 (dk_at dksX5_buys_6 1 rfl rfl)
theorem dX5_buys_145 : decode cX5_buys 145 = .ok (.dup2, 1) := dk_92 (dk_at dksX5_buys_6 2 rfl rfl)
theorem dX5_buys_146 : decode cX5_buys 146 = .ok (.iaload, 1) := dk_46 (dk_at dksX5_buys_6 3 rfl rfl)
theorem dX5_buys_147 : decode cX5_buys 147 = .ok (.iconst 1, 1) := dk_4 (dk_at dksX5_buys_6 4 rfl rfl)
theorem dX5_buys_148 : decode cX5_buys 148 = .ok (.iadd, 1) := dk_96 (dk_at dksX5_buys_6 5 rfl rfl)
theorem dX5_buys_149 : decode cX5_buys 149 = .ok (.iastore, 1) := dk_79 (dk_at dksX5_buys_6 6 rfl rfl)
theorem dX5_buys_150 : decode cX5_buys 150 = .ok (.aload_n 0, 1) := dk_42 (dk_at dksX5_buys_6 7 rfl rfl)
theorem dX5_buys_151 : decode cX5_buys 151 = .ok (.getfield 33, 3) := dk_180 0 33 (dk_at dksX5_buys_6 8 rfl rfl)
theorem dX5_buys_154 : decode cX5_buys 154 = .ok (.sipush 227, 3) := dk_17 0 227 (dk_at dksX5_buys_6 11 rfl rfl)
theorem dX5_buys_157 : decode cX5_buys 157 = .ok (.bipush 7, 2) := dk_16 7 (dk_at dksX5_buys_6 14 rfl rfl)
theorem dX5_buys_159 : decode cX5_buys 159 = .ok (.iload_n 1, 1) := dk_27 (dk_at dksX5_buys_6 16 rfl rfl)
theorem dX5_buys_160 : decode cX5_buys 160 = .ok (.imul, 1) := dk_104 (dk_at dksX5_buys_6 17 rfl rfl)
theorem dX5_buys_161 : decode cX5_buys 161 = .ok (.iadd, 1) := dk_96 (dk_at dksX5_buys_6 18 rfl rfl)
theorem dX5_buys_162 : decode cX5_buys 162 = .ok (.iload_n 3, 1) := dk_29 (dk_at dksX5_buys_6 19 rfl rfl)
theorem dX5_buys_163 : decode cX5_buys 163 = .ok (.iadd, 1) := dk_96 (dk_at dksX5_buys_6 20 rfl rfl)
theorem dX5_buys_164 : decode cX5_buys 164 = .ok (.iaload, 1) := dk_46 (dk_at dksX5_buys_6 21 rfl rfl)
theorem dX5_buys_165 : decode cX5_buys 165 = .ok (.aload_n 0, 1) := dk_42 (dk_at dksX5_buys_6 22 rfl rfl)
theorem dX5_buys_166 : decode cX5_buys 166 = .ok (.getfield 33, 3) := dk_180 0 33 (dk_at dksX5_buys_7 0 rfl rfl)
theorem dX5_buys_169 : decode cX5_buys 169 = .ok (.iconst 2, 1) := dk_5 (dk_at dksX5_buys_7 3 rfl rfl)
theorem dX5_buys_170 : decode cX5_buys 170 = .ok (.iaload, 1) := dk_46 (dk_at dksX5_buys_7 4 rfl rfl)
theorem dX5_buys_171 : decode cX5_buys 171 = .ok (.if_icmp .lt 9, 3) := dk_161 0 9 (dk_at dksX5_buys_7 5 rfl rfl)
theorem dX5_buys_174 : decode cX5_buys 174 = .ok (.aload_n 0, 1) := dk_42 (dk_at dksX5_buys_7 8 rfl rfl)
theorem dX5_buys_175 : decode cX5_buys 175 = .ok (.iload_n 1, 1) := dk_27 (dk_at dksX5_buys_7 9 rfl rfl)
theorem dX5_buys_176 : decode cX5_buys 176 = .ok (.iload_n 3, 1) := dk_29 (dk_at dksX5_buys_7 10 rfl rfl)
theorem dX5_buys_177 : decode cX5_buys 177 = .ok (.invokevirtual 296, 3) := dk_182 1 40 (dk_at dksX5_buys_7 11 rfl rfl)
theorem dX5_buys_180 : decode cX5_buys 180 = .ok (.return_, 1) := dk_177 (dk_at dksX5_buys_7 14 rfl rfl)
abbrev cX5_meets : ByteArray := prog_26_method_50_code
def yX5_meets : MethodName := ⟨RX5, "meets", "(II)V"⟩
def dkwX5_meets_1 : List UInt8 := [96, 92, 46, 4, 27, 120, 128, 79, 177]
abbrev dktX5_meets_1 : List UInt8 := dkwX5_meets_1 ++ []
def dkwX5_meets_0 : List UInt8 := [42, 180, 0, 33, 17, 0, 220, 27, 96, 92, 46, 4, 28, 120, 128, 79, 42, 180, 0, 33, 17, 0, 220, 28]
abbrev dktX5_meets_0 : List UInt8 := dkwX5_meets_0 ++ dktX5_meets_1
theorem dksX5_meets_0 : cX5_meets.data.toList.drop 0 = dktX5_meets_0 := by decide +kernel
theorem dksX5_meets_1 : cX5_meets.data.toList.drop 24 = dktX5_meets_1 := dk_seg dksX5_meets_0 24 rfl rfl
theorem dX5_meets_0 : decode cX5_meets 0 = .ok (.aload_n 0, 1) := dk_42 (dk_at dksX5_meets_0 0 rfl rfl)
theorem dX5_meets_1 : decode cX5_meets 1 = .ok (.getfield 33, 3) := dk_180 0 33 (dk_at dksX5_meets_0 1 rfl rfl)
theorem dX5_meets_4 : decode cX5_meets 4 = .ok (.sipush 220, 3) := dk_17 0 220 (dk_at dksX5_meets_0 4 rfl rfl)
theorem dX5_meets_7 : decode cX5_meets 7 = .ok (.iload_n 1, 1) := dk_27 (dk_at dksX5_meets_0 7 rfl rfl)
theorem dX5_meets_8 : decode cX5_meets 8 = .ok (.iadd, 1) := dk_96 (dk_at dksX5_meets_0 8 rfl rfl)
theorem dX5_meets_9 : decode cX5_meets 9 = .ok (.dup2, 1) := dk_92 (dk_at dksX5_meets_0 9 rfl rfl)
theorem dX5_meets_10 : decode cX5_meets 10 = .ok (.iaload, 1) := dk_46 (dk_at dksX5_meets_0 10 rfl rfl)
theorem dX5_meets_11 : decode cX5_meets 11 = .ok (.iconst 1, 1) := dk_4 (dk_at dksX5_meets_0 11 rfl rfl)
theorem dX5_meets_12 : decode cX5_meets 12 = .ok (.iload_n 2, 1) := dk_28 (dk_at dksX5_meets_0 12 rfl rfl)
theorem dX5_meets_13 : decode cX5_meets 13 = .ok (.ishl, 1) := dk_120 (dk_at dksX5_meets_0 13 rfl rfl)
theorem dX5_meets_14 : decode cX5_meets 14 = .ok (.ior, 1) := dk_128 (dk_at dksX5_meets_0 14 rfl rfl)
theorem dX5_meets_15 : decode cX5_meets 15 = .ok (.iastore, 1) := dk_79 (dk_at dksX5_meets_0 15 rfl rfl)
theorem dX5_meets_16 : decode cX5_meets 16 = .ok (.aload_n 0, 1) := dk_42 (dk_at dksX5_meets_0 16 rfl rfl)
theorem dX5_meets_17 : decode cX5_meets 17 = .ok (.getfield 33, 3) := dk_180 0 33 (dk_at dksX5_meets_0 17 rfl rfl)
theorem dX5_meets_20 : decode cX5_meets 20 = .ok (.sipush 220, 3) := dk_17 0 220 (dk_at dksX5_meets_0 20 rfl rfl)
theorem dX5_meets_23 : decode cX5_meets 23 = .ok (.iload_n 2, 1) := dk_28 (dk_at dksX5_meets_0 23 rfl rfl)
theorem dX5_meets_24 : decode cX5_meets 24 = .ok (.iadd, 1) := dk_96 (dk_at dksX5_meets_1 0 rfl rfl)
theorem dX5_meets_25 : decode cX5_meets 25 = .ok (.dup2, 1) := dk_92 (dk_at dksX5_meets_1 1 rfl rfl)
theorem dX5_meets_26 : decode cX5_meets 26 = .ok (.iaload, 1) := dk_46 (dk_at dksX5_meets_1 2 rfl rfl)
theorem dX5_meets_27 : decode cX5_meets 27 = .ok (.iconst 1, 1) := dk_4 (dk_at dksX5_meets_1 3 rfl rfl)
theorem dX5_meets_28 : decode cX5_meets 28 = .ok (.iload_n 1, 1) := dk_27 (dk_at dksX5_meets_1 4 rfl rfl)
theorem dX5_meets_29 : decode cX5_meets 29 = .ok (.ishl, 1) := dk_120 (dk_at dksX5_meets_1 5 rfl rfl)
theorem dX5_meets_30 : decode cX5_meets 30 = .ok (.ior, 1) := dk_128 (dk_at dksX5_meets_1 6 rfl rfl)
theorem dX5_meets_31 : decode cX5_meets 31 = .ok (.iastore, 1) := dk_79 (dk_at dksX5_meets_1 7 rfl rfl)
theorem dX5_meets_32 : decode cX5_meets 32 = .ok (.return_, 1) := dk_177 (dk_at dksX5_meets_1 8 rfl rfl)
abbrev cX5_nod : ByteArray := prog_26_method_62_code
def yX5_nod : MethodName := ⟨RX5, "nod", "(II)I"⟩
def dkwX5_nod_1 : List UInt8 := [27, 28, 182, 1, 61, 62, 29, 158, 0, 5, 29, 172, 42, 182, 1, 54, 42, 27, 28, 182, 1, 64, 3, 172]
abbrev dktX5_nod_1 : List UInt8 := dkwX5_nod_1 ++ []
def dkwX5_nod_0 : List UInt8 := [42, 3, 181, 0, 1, 42, 27, 182, 1, 16, 153, 0, 11, 42, 28, 182, 1, 16, 154, 0, 5, 2, 172, 42]
abbrev dktX5_nod_0 : List UInt8 := dkwX5_nod_0 ++ dktX5_nod_1
theorem dksX5_nod_0 : cX5_nod.data.toList.drop 0 = dktX5_nod_0 := by decide +kernel
theorem dksX5_nod_1 : cX5_nod.data.toList.drop 24 = dktX5_nod_1 := dk_seg dksX5_nod_0 24 rfl rfl
theorem dX5_nod_0 : decode cX5_nod 0 = .ok (.aload_n 0, 1) := dk_42 (dk_at dksX5_nod_0 0 rfl rfl)
theorem dX5_nod_1 : decode cX5_nod 1 = .ok (.iconst 0, 1) := dk_3 (dk_at dksX5_nod_0 1 rfl rfl)
theorem dX5_nod_2 : decode cX5_nod 2 = .ok (.putfield 1, 3) := dk_181 0 1 (dk_at dksX5_nod_0 2 rfl rfl)
theorem dX5_nod_5 : decode cX5_nod 5 = .ok (.aload_n 0, 1) := dk_42 (dk_at dksX5_nod_0 5 rfl rfl)
theorem dX5_nod_6 : decode cX5_nod 6 = .ok (.iload_n 1, 1) := dk_27 (dk_at dksX5_nod_0 6 rfl rfl)
theorem dX5_nod_7 : decode cX5_nod 7 = .ok (.invokevirtual 272, 3) := dk_182 1 16 (dk_at dksX5_nod_0 7 rfl rfl)
theorem dX5_nod_10 : decode cX5_nod 10 = .ok (.ifCond .eq 11, 3) := dk_153 0 11 (dk_at dksX5_nod_0 10 rfl rfl)
theorem dX5_nod_13 : decode cX5_nod 13 = .ok (.aload_n 0, 1) := dk_42 (dk_at dksX5_nod_0 13 rfl rfl)
theorem dX5_nod_14 : decode cX5_nod 14 = .ok (.iload_n 2, 1) := dk_28 (dk_at dksX5_nod_0 14 rfl rfl)
theorem dX5_nod_15 : decode cX5_nod 15 = .ok (.invokevirtual 272, 3) := dk_182 1 16 (dk_at dksX5_nod_0 15 rfl rfl)
theorem dX5_nod_18 : decode cX5_nod 18 = .ok (.ifCond .ne 5, 3) := dk_154 0 5 (dk_at dksX5_nod_0 18 rfl rfl)
theorem dX5_nod_21 : decode cX5_nod 21 = .ok (.iconst (-1), 1) := dk_2 (dk_at dksX5_nod_0 21 rfl rfl)
theorem dX5_nod_22 : decode cX5_nod 22 = .ok (.ireturn, 1) := dk_172 (dk_at dksX5_nod_0 22 rfl rfl)
theorem dX5_nod_23 : decode cX5_nod 23 = .ok (.aload_n 0, 1) := dk_42 (dk_at dksX5_nod_0 23 rfl rfl)
theorem dX5_nod_24 : decode cX5_nod 24 = .ok (.iload_n 1, 1) := dk_27 (dk_at dksX5_nod_1 0 rfl rfl)
theorem dX5_nod_25 : decode cX5_nod 25 = .ok (.iload_n 2, 1) := dk_28 (dk_at dksX5_nod_1 1 rfl rfl)
theorem dX5_nod_26 : decode cX5_nod 26 = .ok (.invokevirtual 317, 3) := dk_182 1 61 (dk_at dksX5_nod_1 2 rfl rfl)
theorem dX5_nod_29 : decode cX5_nod 29 = .ok (.istore_n 3, 1) := dk_62 (dk_at dksX5_nod_1 5 rfl rfl)
theorem dX5_nod_30 : decode cX5_nod 30 = .ok (.iload_n 3, 1) := dk_29 (dk_at dksX5_nod_1 6 rfl rfl)
theorem dX5_nod_31 : decode cX5_nod 31 = .ok (.ifCond .le 5, 3) := dk_158 0 5 (dk_at dksX5_nod_1 7 rfl rfl)
theorem dX5_nod_34 : decode cX5_nod 34 = .ok (.iload_n 3, 1) := dk_29 (dk_at dksX5_nod_1 10 rfl rfl)
theorem dX5_nod_35 : decode cX5_nod 35 = .ok (.ireturn, 1) := dk_172 (dk_at dksX5_nod_1 11 rfl rfl)
theorem dX5_nod_36 : decode cX5_nod 36 = .ok (.aload_n 0, 1) := dk_42 (dk_at dksX5_nod_1 12 rfl rfl)
theorem dX5_nod_37 : decode cX5_nod 37 = .ok (.invokevirtual 310, 3) := dk_182 1 54 (dk_at dksX5_nod_1 13 rfl rfl)
theorem dX5_nod_40 : decode cX5_nod 40 = .ok (.aload_n 0, 1) := dk_42 (dk_at dksX5_nod_1 16 rfl rfl)
theorem dX5_nod_41 : decode cX5_nod 41 = .ok (.iload_n 1, 1) := dk_27 (dk_at dksX5_nod_1 17 rfl rfl)
theorem dX5_nod_42 : decode cX5_nod 42 = .ok (.iload_n 2, 1) := dk_28 (dk_at dksX5_nod_1 18 rfl rfl)
theorem dX5_nod_43 : decode cX5_nod 43 = .ok (.invokevirtual 320, 3) := dk_182 1 64 (dk_at dksX5_nod_1 19 rfl rfl)
theorem dX5_nod_46 : decode cX5_nod 46 = .ok (.iconst 0, 1) := dk_3 (dk_at dksX5_nod_1 22 rfl rfl)
theorem dX5_nod_47 : decode cX5_nod 47 = .ok (.ireturn, 1) := dk_172 (dk_at dksX5_nod_1 23 rfl rfl)
abbrev cX5_whyNod : ByteArray := prog_26_method_53_code
def yX5_whyNod : MethodName := ⟨RX5, "whyNod", "(II)I"⟩
def dkwX5_whyNod_2 : List UInt8 := [172]
abbrev dktX5_whyNod_2 : List UInt8 := dkwX5_whyNod_2 ++ []
def dkwX5_whyNod_1 : List UInt8 := [153, 0, 7, 5, 167, 0, 20, 42, 27, 182, 1, 9, 28, 184, 0, 214, 153, 0, 7, 6, 167, 0, 4, 3]
abbrev dktX5_whyNod_1 : List UInt8 := dkwX5_whyNod_1 ++ dktX5_whyNod_2
def dkwX5_whyNod_0 : List UInt8 := [27, 28, 160, 0, 7, 4, 167, 0, 40, 42, 27, 182, 1, 34, 154, 0, 11, 42, 28, 182, 1, 34]
abbrev dktX5_whyNod_0 : List UInt8 := dkwX5_whyNod_0 ++ dktX5_whyNod_1
theorem dksX5_whyNod_0 : cX5_whyNod.data.toList.drop 0 = dktX5_whyNod_0 := by decide +kernel
theorem dksX5_whyNod_1 : cX5_whyNod.data.toList.drop 22 = dktX5_whyNod_1 := dk_seg dksX5_whyNod_0 22 rfl rfl
theorem dksX5_whyNod_2 : cX5_whyNod.data.toList.drop 46 = dktX5_whyNod_2 := dk_seg dksX5_whyNod_1 24 rfl rfl
theorem dX5_whyNod_0 : decode cX5_whyNod 0 = .ok (.iload_n 1, 1) := dk_27 (dk_at dksX5_whyNod_0 0 rfl rfl)
theorem dX5_whyNod_1 : decode cX5_whyNod 1 = .ok (.iload_n 2, 1) := dk_28 (dk_at dksX5_whyNod_0 1 rfl rfl)
theorem dX5_whyNod_2 : decode cX5_whyNod 2 = .ok (.if_icmp .ne 7, 3) := dk_160 0 7 (dk_at dksX5_whyNod_0 2 rfl rfl)
theorem dX5_whyNod_5 : decode cX5_whyNod 5 = .ok (.iconst 1, 1) := dk_4 (dk_at dksX5_whyNod_0 5 rfl rfl)
theorem dX5_whyNod_6 : decode cX5_whyNod 6 = .ok (.goto 40, 3) := dk_167 0 40 (dk_at dksX5_whyNod_0 6 rfl rfl)
theorem dX5_whyNod_9 : decode cX5_whyNod 9 = .ok (.aload_n 0, 1) := dk_42 (dk_at dksX5_whyNod_0 9 rfl rfl)
theorem dX5_whyNod_10 : decode cX5_whyNod 10 = .ok (.iload_n 1, 1) := dk_27 (dk_at dksX5_whyNod_0 10 rfl rfl)
theorem dX5_whyNod_11 : decode cX5_whyNod 11 = .ok (.invokevirtual 290, 3) := dk_182 1 34 (dk_at dksX5_whyNod_0 11 rfl rfl)
theorem dX5_whyNod_14 : decode cX5_whyNod 14 = .ok (.ifCond .ne 11, 3) := dk_154 0 11 (dk_at dksX5_whyNod_0 14 rfl rfl)
theorem dX5_whyNod_17 : decode cX5_whyNod 17 = .ok (.aload_n 0, 1) := dk_42 (dk_at dksX5_whyNod_0 17 rfl rfl)
theorem dX5_whyNod_18 : decode cX5_whyNod 18 = .ok (.iload_n 2, 1) := dk_28 (dk_at dksX5_whyNod_0 18 rfl rfl)
theorem dX5_whyNod_19 : decode cX5_whyNod 19 = .ok (.invokevirtual 290, 3) := dk_182 1 34 (dk_at dksX5_whyNod_0 19 rfl rfl)
theorem dX5_whyNod_22 : decode cX5_whyNod 22 = .ok (.ifCond .eq 7, 3) := dk_153 0 7 (dk_at dksX5_whyNod_1 0 rfl rfl)
theorem dX5_whyNod_25 : decode cX5_whyNod 25 = .ok (.iconst 2, 1) := dk_5 (dk_at dksX5_whyNod_1 3 rfl rfl)
theorem dX5_whyNod_26 : decode cX5_whyNod 26 = .ok (.goto 20, 3) := dk_167 0 20 (dk_at dksX5_whyNod_1 4 rfl rfl)
theorem dX5_whyNod_29 : decode cX5_whyNod 29 = .ok (.aload_n 0, 1) := dk_42 (dk_at dksX5_whyNod_1 7 rfl rfl)
theorem dX5_whyNod_30 : decode cX5_whyNod 30 = .ok (.iload_n 1, 1) := dk_27 (dk_at dksX5_whyNod_1 8 rfl rfl)
theorem dX5_whyNod_31 : decode cX5_whyNod 31 = .ok (.invokevirtual 265, 3) := dk_182 1 9 (dk_at dksX5_whyNod_1 9 rfl rfl)
theorem dX5_whyNod_34 : decode cX5_whyNod 34 = .ok (.iload_n 2, 1) := dk_28 (dk_at dksX5_whyNod_1 12 rfl rfl)
theorem dX5_whyNod_35 : decode cX5_whyNod 35 = .ok (.invokestatic 214, 3) := dk_184 0 214 (dk_at dksX5_whyNod_1 13 rfl rfl)
theorem dX5_whyNod_38 : decode cX5_whyNod 38 = .ok (.ifCond .eq 7, 3) := dk_153 0 7 (dk_at dksX5_whyNod_1 16 rfl rfl)
theorem dX5_whyNod_41 : decode cX5_whyNod 41 = .ok (.iconst 3, 1) := dk_6 (dk_at dksX5_whyNod_1 19 rfl rfl)
theorem dX5_whyNod_42 : decode cX5_whyNod 42 = .ok (.goto 4, 3) := dk_167 0 4 (dk_at dksX5_whyNod_1 20 rfl rfl)
theorem dX5_whyNod_45 : decode cX5_whyNod 45 = .ok (.iconst 0, 1) := dk_3 (dk_at dksX5_whyNod_1 23 rfl rfl)
theorem dX5_whyNod_46 : decode cX5_whyNod 46 = .ok (.ireturn, 1) := dk_172 (dk_at dksX5_whyNod_2 0 rfl rfl)
abbrev cX5_nods : ByteArray := prog_26_method_54_code
def yX5_nods : MethodName := ⟨RX5, "nods", "(II)V"⟩
def dkwX5_nods_0 : List UInt8 := [42, 27, 28, 182, 1, 40, 42, 180, 0, 33, 17, 0, 133, 92, 46, 4, 27, 120, 128, 79, 177]
abbrev dktX5_nods_0 : List UInt8 := dkwX5_nods_0 ++ []
theorem dksX5_nods_0 : cX5_nods.data.toList.drop 0 = dktX5_nods_0 := by decide +kernel
theorem dX5_nods_0 : decode cX5_nods 0 = .ok (.aload_n 0, 1) := dk_42 (dk_at dksX5_nods_0 0 rfl rfl)
theorem dX5_nods_1 : decode cX5_nods 1 = .ok (.iload_n 1, 1) := dk_27 (dk_at dksX5_nods_0 1 rfl rfl)
theorem dX5_nods_2 : decode cX5_nods 2 = .ok (.iload_n 2, 1) := dk_28 (dk_at dksX5_nods_0 2 rfl rfl)
theorem dX5_nods_3 : decode cX5_nods 3 = .ok (.invokevirtual 296, 3) := dk_182 1 40 (dk_at dksX5_nods_0 3 rfl rfl)
theorem dX5_nods_6 : decode cX5_nods 6 = .ok (.aload_n 0, 1) := dk_42 (dk_at dksX5_nods_0 6 rfl rfl)
theorem dX5_nods_7 : decode cX5_nods 7 = .ok (.getfield 33, 3) := dk_180 0 33 (dk_at dksX5_nods_0 7 rfl rfl)
theorem dX5_nods_10 : decode cX5_nods 10 = .ok (.sipush 133, 3) := dk_17 0 133 (dk_at dksX5_nods_0 10 rfl rfl)
theorem dX5_nods_13 : decode cX5_nods 13 = .ok (.dup2, 1) := dk_92 (dk_at dksX5_nods_0 13 rfl rfl)
theorem dX5_nods_14 : decode cX5_nods 14 = .ok (.iaload, 1) := dk_46 (dk_at dksX5_nods_0 14 rfl rfl)
theorem dX5_nods_15 : decode cX5_nods 15 = .ok (.iconst 1, 1) := dk_4 (dk_at dksX5_nods_0 15 rfl rfl)
theorem dX5_nods_16 : decode cX5_nods 16 = .ok (.iload_n 1, 1) := dk_27 (dk_at dksX5_nods_0 16 rfl rfl)
theorem dX5_nods_17 : decode cX5_nods 17 = .ok (.ishl, 1) := dk_120 (dk_at dksX5_nods_0 17 rfl rfl)
theorem dX5_nods_18 : decode cX5_nods 18 = .ok (.ior, 1) := dk_128 (dk_at dksX5_nods_0 18 rfl rfl)
theorem dX5_nods_19 : decode cX5_nods 19 = .ok (.iastore, 1) := dk_79 (dk_at dksX5_nods_0 19 rfl rfl)
theorem dX5_nods_20 : decode cX5_nods 20 = .ok (.return_, 1) := dk_177 (dk_at dksX5_nods_0 20 rfl rfl)
abbrev cX5_veil : ByteArray := prog_26_method_63_code
def yX5_veil : MethodName := ⟨RX5, "veil", "(I)I"⟩
def dkwX5_veil_1 : List UInt8 := [158, 0, 5, 28, 172, 42, 182, 1, 54, 42, 27, 182, 1, 70, 3, 172]
abbrev dktX5_veil_1 : List UInt8 := dkwX5_veil_1 ++ []
def dkwX5_veil_0 : List UInt8 := [42, 3, 181, 0, 1, 42, 27, 182, 1, 16, 154, 0, 5, 2, 172, 42, 27, 182, 1, 67, 61, 28]
abbrev dktX5_veil_0 : List UInt8 := dkwX5_veil_0 ++ dktX5_veil_1
theorem dksX5_veil_0 : cX5_veil.data.toList.drop 0 = dktX5_veil_0 := by decide +kernel
theorem dksX5_veil_1 : cX5_veil.data.toList.drop 22 = dktX5_veil_1 := dk_seg dksX5_veil_0 22 rfl rfl
theorem dX5_veil_0 : decode cX5_veil 0 = .ok (.aload_n 0, 1) := dk_42 (dk_at dksX5_veil_0 0 rfl rfl)
theorem dX5_veil_1 : decode cX5_veil 1 = .ok (.iconst 0, 1) := dk_3 (dk_at dksX5_veil_0 1 rfl rfl)
theorem dX5_veil_2 : decode cX5_veil 2 = .ok (.putfield 1, 3) := dk_181 0 1 (dk_at dksX5_veil_0 2 rfl rfl)
theorem dX5_veil_5 : decode cX5_veil 5 = .ok (.aload_n 0, 1) := dk_42 (dk_at dksX5_veil_0 5 rfl rfl)
theorem dX5_veil_6 : decode cX5_veil 6 = .ok (.iload_n 1, 1) := dk_27 (dk_at dksX5_veil_0 6 rfl rfl)
theorem dX5_veil_7 : decode cX5_veil 7 = .ok (.invokevirtual 272, 3) := dk_182 1 16 (dk_at dksX5_veil_0 7 rfl rfl)
theorem dX5_veil_10 : decode cX5_veil 10 = .ok (.ifCond .ne 5, 3) := dk_154 0 5 (dk_at dksX5_veil_0 10 rfl rfl)
theorem dX5_veil_13 : decode cX5_veil 13 = .ok (.iconst (-1), 1) := dk_2 (dk_at dksX5_veil_0 13 rfl rfl)
theorem dX5_veil_14 : decode cX5_veil 14 = .ok (.ireturn, 1) := dk_172 (dk_at dksX5_veil_0 14 rfl rfl)
theorem dX5_veil_15 : decode cX5_veil 15 = .ok (.aload_n 0, 1) := dk_42 (dk_at dksX5_veil_0 15 rfl rfl)
theorem dX5_veil_16 : decode cX5_veil 16 = .ok (.iload_n 1, 1) := dk_27 (dk_at dksX5_veil_0 16 rfl rfl)
theorem dX5_veil_17 : decode cX5_veil 17 = .ok (.invokevirtual 323, 3) := dk_182 1 67 (dk_at dksX5_veil_0 17 rfl rfl)
theorem dX5_veil_20 : decode cX5_veil 20 = .ok (.istore_n 2, 1) := dk_61 (dk_at dksX5_veil_0 20 rfl rfl)
theorem dX5_veil_21 : decode cX5_veil 21 = .ok (.iload_n 2, 1) := dk_28 (dk_at dksX5_veil_0 21 rfl rfl)
theorem dX5_veil_22 : decode cX5_veil 22 = .ok (.ifCond .le 5, 3) := dk_158 0 5 (dk_at dksX5_veil_1 0 rfl rfl)
theorem dX5_veil_25 : decode cX5_veil 25 = .ok (.iload_n 2, 1) := dk_28 (dk_at dksX5_veil_1 3 rfl rfl)
theorem dX5_veil_26 : decode cX5_veil 26 = .ok (.ireturn, 1) := dk_172 (dk_at dksX5_veil_1 4 rfl rfl)
theorem dX5_veil_27 : decode cX5_veil 27 = .ok (.aload_n 0, 1) := dk_42 (dk_at dksX5_veil_1 5 rfl rfl)
theorem dX5_veil_28 : decode cX5_veil 28 = .ok (.invokevirtual 310, 3) := dk_182 1 54 (dk_at dksX5_veil_1 6 rfl rfl)
theorem dX5_veil_31 : decode cX5_veil 31 = .ok (.aload_n 0, 1) := dk_42 (dk_at dksX5_veil_1 9 rfl rfl)
theorem dX5_veil_32 : decode cX5_veil 32 = .ok (.iload_n 1, 1) := dk_27 (dk_at dksX5_veil_1 10 rfl rfl)
theorem dX5_veil_33 : decode cX5_veil 33 = .ok (.invokevirtual 326, 3) := dk_182 1 70 (dk_at dksX5_veil_1 11 rfl rfl)
theorem dX5_veil_36 : decode cX5_veil 36 = .ok (.iconst 0, 1) := dk_3 (dk_at dksX5_veil_1 14 rfl rfl)
theorem dX5_veil_37 : decode cX5_veil 37 = .ok (.ireturn, 1) := dk_172 (dk_at dksX5_veil_1 15 rfl rfl)
abbrev cX5_whyVeil : ByteArray := prog_26_method_55_code
def yX5_whyVeil : MethodName := ⟨RX5, "whyVeil", "(I)I"⟩
def dkwX5_whyVeil_1 : List UInt8 := [167, 0, 4, 3, 172]
abbrev dktX5_whyVeil_1 : List UInt8 := dkwX5_whyVeil_1 ++ []
def dkwX5_whyVeil_0 : List UInt8 := [42, 27, 182, 1, 37, 153, 0, 7, 4, 167, 0, 19, 42, 180, 0, 33, 17, 0, 135, 46, 154, 0, 7, 5]
abbrev dktX5_whyVeil_0 : List UInt8 := dkwX5_whyVeil_0 ++ dktX5_whyVeil_1
theorem dksX5_whyVeil_0 : cX5_whyVeil.data.toList.drop 0 = dktX5_whyVeil_0 := by decide +kernel
theorem dksX5_whyVeil_1 : cX5_whyVeil.data.toList.drop 24 = dktX5_whyVeil_1 := dk_seg dksX5_whyVeil_0 24 rfl rfl
theorem dX5_whyVeil_0 : decode cX5_whyVeil 0 = .ok (.aload_n 0, 1) := dk_42 (dk_at dksX5_whyVeil_0 0 rfl rfl)
theorem dX5_whyVeil_1 : decode cX5_whyVeil 1 = .ok (.iload_n 1, 1) := dk_27 (dk_at dksX5_whyVeil_0 1 rfl rfl)
theorem dX5_whyVeil_2 : decode cX5_whyVeil 2 = .ok (.invokevirtual 293, 3) := dk_182 1 37 (dk_at dksX5_whyVeil_0 2 rfl rfl)
theorem dX5_whyVeil_5 : decode cX5_whyVeil 5 = .ok (.ifCond .eq 7, 3) := dk_153 0 7 (dk_at dksX5_whyVeil_0 5 rfl rfl)
theorem dX5_whyVeil_8 : decode cX5_whyVeil 8 = .ok (.iconst 1, 1) := dk_4 (dk_at dksX5_whyVeil_0 8 rfl rfl)
theorem dX5_whyVeil_9 : decode cX5_whyVeil 9 = .ok (.goto 19, 3) := dk_167 0 19 (dk_at dksX5_whyVeil_0 9 rfl rfl)
theorem dX5_whyVeil_12 : decode cX5_whyVeil 12 = .ok (.aload_n 0, 1) := dk_42 (dk_at dksX5_whyVeil_0 12 rfl rfl)
theorem dX5_whyVeil_13 : decode cX5_whyVeil 13 = .ok (.getfield 33, 3) := dk_180 0 33 (dk_at dksX5_whyVeil_0 13 rfl rfl)
theorem dX5_whyVeil_16 : decode cX5_whyVeil 16 = .ok (.sipush 135, 3) := dk_17 0 135 (dk_at dksX5_whyVeil_0 16 rfl rfl)
theorem dX5_whyVeil_19 : decode cX5_whyVeil 19 = .ok (.iaload, 1) := dk_46 (dk_at dksX5_whyVeil_0 19 rfl rfl)
theorem dX5_whyVeil_20 : decode cX5_whyVeil 20 = .ok (.ifCond .ne 7, 3) := dk_154 0 7 (dk_at dksX5_whyVeil_0 20 rfl rfl)
theorem dX5_whyVeil_23 : decode cX5_whyVeil 23 = .ok (.iconst 2, 1) := dk_5 (dk_at dksX5_whyVeil_0 23 rfl rfl)
theorem dX5_whyVeil_24 : decode cX5_whyVeil 24 = .ok (.goto 4, 3) := dk_167 0 4 (dk_at dksX5_whyVeil_1 0 rfl rfl)
theorem dX5_whyVeil_27 : decode cX5_whyVeil 27 = .ok (.iconst 0, 1) := dk_3 (dk_at dksX5_whyVeil_1 3 rfl rfl)
theorem dX5_whyVeil_28 : decode cX5_whyVeil 28 = .ok (.ireturn, 1) := dk_172 (dk_at dksX5_whyVeil_1 4 rfl rfl)
abbrev cX5_veils : ByteArray := prog_26_method_56_code
def yX5_veils : MethodName := ⟨RX5, "veils", "(I)V"⟩
def dkwX5_veils_1 : List UInt8 := [100, 79, 177]
abbrev dktX5_veils_1 : List UInt8 := dkwX5_veils_1 ++ []
def dkwX5_veils_0 : List UInt8 := [42, 180, 0, 33, 17, 0, 134, 92, 46, 4, 27, 120, 128, 79, 42, 180, 0, 33, 17, 0, 135, 92, 46, 4]
abbrev dktX5_veils_0 : List UInt8 := dkwX5_veils_0 ++ dktX5_veils_1
theorem dksX5_veils_0 : cX5_veils.data.toList.drop 0 = dktX5_veils_0 := by decide +kernel
theorem dksX5_veils_1 : cX5_veils.data.toList.drop 24 = dktX5_veils_1 := dk_seg dksX5_veils_0 24 rfl rfl
theorem dX5_veils_0 : decode cX5_veils 0 = .ok (.aload_n 0, 1) := dk_42 (dk_at dksX5_veils_0 0 rfl rfl)
theorem dX5_veils_1 : decode cX5_veils 1 = .ok (.getfield 33, 3) := dk_180 0 33 (dk_at dksX5_veils_0 1 rfl rfl)
theorem dX5_veils_4 : decode cX5_veils 4 = .ok (.sipush 134, 3) := dk_17 0 134 (dk_at dksX5_veils_0 4 rfl rfl)
theorem dX5_veils_7 : decode cX5_veils 7 = .ok (.dup2, 1) := dk_92 (dk_at dksX5_veils_0 7 rfl rfl)
theorem dX5_veils_8 : decode cX5_veils 8 = .ok (.iaload, 1) := dk_46 (dk_at dksX5_veils_0 8 rfl rfl)
theorem dX5_veils_9 : decode cX5_veils 9 = .ok (.iconst 1, 1) := dk_4 (dk_at dksX5_veils_0 9 rfl rfl)
theorem dX5_veils_10 : decode cX5_veils 10 = .ok (.iload_n 1, 1) := dk_27 (dk_at dksX5_veils_0 10 rfl rfl)
theorem dX5_veils_11 : decode cX5_veils 11 = .ok (.ishl, 1) := dk_120 (dk_at dksX5_veils_0 11 rfl rfl)
theorem dX5_veils_12 : decode cX5_veils 12 = .ok (.ior, 1) := dk_128 (dk_at dksX5_veils_0 12 rfl rfl)
theorem dX5_veils_13 : decode cX5_veils 13 = .ok (.iastore, 1) := dk_79 (dk_at dksX5_veils_0 13 rfl rfl)
theorem dX5_veils_14 : decode cX5_veils 14 = .ok (.aload_n 0, 1) := dk_42 (dk_at dksX5_veils_0 14 rfl rfl)
theorem dX5_veils_15 : decode cX5_veils 15 = .ok (.getfield 33, 3) := dk_180 0 33 (dk_at dksX5_veils_0 15 rfl rfl)
theorem dX5_veils_18 : decode cX5_veils 18 = .ok (.sipush 135, 3) := dk_17 0 135 (dk_at dksX5_veils_0 18 rfl rfl)
theorem dX5_veils_21 : decode cX5_veils 21 = .ok (.dup2, 1) := dk_92 (dk_at dksX5_veils_0 21 rfl rfl)
theorem dX5_veils_22 : decode cX5_veils 22 = .ok (.iaload, 1) := dk_46 (dk_at dksX5_veils_0 22 rfl rfl)
theorem dX5_veils_23 : decode cX5_veils 23 = .ok (.iconst 1, 1) := dk_4 (dk_at dksX5_veils_0 23 rfl rfl)
theorem dX5_veils_24 : decode cX5_veils 24 = .ok (.isub, 1) := dk_100 (dk_at dksX5_veils_1 0 rfl rfl)
theorem dX5_veils_25 : decode cX5_veils 25 = .ok (.iastore, 1) := dk_79 (dk_at dksX5_veils_1 1 rfl rfl)
theorem dX5_veils_26 : decode cX5_veils 26 = .ok (.return_, 1) := dk_177 (dk_at dksX5_veils_1 2 rfl rfl)
abbrev cX5_tell : ByteArray := prog_26_method_64_code
def yX5_tell : MethodName := ⟨RX5, "tell", "(III)I"⟩
def dkwX5_tell_2 : List UInt8 := [172, 42, 182, 1, 54, 42, 28, 29, 182, 1, 40, 3, 172]
abbrev dktX5_tell_2 : List UInt8 := dkwX5_tell_2 ++ []
def dkwX5_tell_1 : List UInt8 := [182, 1, 16, 154, 0, 5, 2, 172, 42, 27, 28, 29, 182, 1, 73, 54, 4, 21, 4, 158, 0, 6, 21, 4]
abbrev dktX5_tell_1 : List UInt8 := dkwX5_tell_1 ++ dktX5_tell_2
def dkwX5_tell_0 : List UInt8 := [42, 3, 181, 0, 1, 42, 27, 182, 1, 16, 153, 0, 19, 42, 28, 182, 1, 16, 153, 0, 11, 42, 29]
abbrev dktX5_tell_0 : List UInt8 := dkwX5_tell_0 ++ dktX5_tell_1
theorem dksX5_tell_0 : cX5_tell.data.toList.drop 0 = dktX5_tell_0 := by decide +kernel
theorem dksX5_tell_1 : cX5_tell.data.toList.drop 23 = dktX5_tell_1 := dk_seg dksX5_tell_0 23 rfl rfl
theorem dksX5_tell_2 : cX5_tell.data.toList.drop 47 = dktX5_tell_2 := dk_seg dksX5_tell_1 24 rfl rfl
theorem dX5_tell_0 : decode cX5_tell 0 = .ok (.aload_n 0, 1) := dk_42 (dk_at dksX5_tell_0 0 rfl rfl)
theorem dX5_tell_1 : decode cX5_tell 1 = .ok (.iconst 0, 1) := dk_3 (dk_at dksX5_tell_0 1 rfl rfl)
theorem dX5_tell_2 : decode cX5_tell 2 = .ok (.putfield 1, 3) := dk_181 0 1 (dk_at dksX5_tell_0 2 rfl rfl)
theorem dX5_tell_5 : decode cX5_tell 5 = .ok (.aload_n 0, 1) := dk_42 (dk_at dksX5_tell_0 5 rfl rfl)
theorem dX5_tell_6 : decode cX5_tell 6 = .ok (.iload_n 1, 1) := dk_27 (dk_at dksX5_tell_0 6 rfl rfl)
theorem dX5_tell_7 : decode cX5_tell 7 = .ok (.invokevirtual 272, 3) := dk_182 1 16 (dk_at dksX5_tell_0 7 rfl rfl)
theorem dX5_tell_10 : decode cX5_tell 10 = .ok (.ifCond .eq 19, 3) := dk_153 0 19 (dk_at dksX5_tell_0 10 rfl rfl)
theorem dX5_tell_13 : decode cX5_tell 13 = .ok (.aload_n 0, 1) := dk_42 (dk_at dksX5_tell_0 13 rfl rfl)
theorem dX5_tell_14 : decode cX5_tell 14 = .ok (.iload_n 2, 1) := dk_28 (dk_at dksX5_tell_0 14 rfl rfl)
theorem dX5_tell_15 : decode cX5_tell 15 = .ok (.invokevirtual 272, 3) := dk_182 1 16 (dk_at dksX5_tell_0 15 rfl rfl)
theorem dX5_tell_18 : decode cX5_tell 18 = .ok (.ifCond .eq 11, 3) := dk_153 0 11 (dk_at dksX5_tell_0 18 rfl rfl)
theorem dX5_tell_21 : decode cX5_tell 21 = .ok (.aload_n 0, 1) := dk_42 (dk_at dksX5_tell_0 21 rfl rfl)
theorem dX5_tell_22 : decode cX5_tell 22 = .ok (.iload_n 3, 1) := dk_29 (dk_at dksX5_tell_0 22 rfl rfl)
theorem dX5_tell_23 : decode cX5_tell 23 = .ok (.invokevirtual 272, 3) := dk_182 1 16 (dk_at dksX5_tell_1 0 rfl rfl)
theorem dX5_tell_26 : decode cX5_tell 26 = .ok (.ifCond .ne 5, 3) := dk_154 0 5 (dk_at dksX5_tell_1 3 rfl rfl)
theorem dX5_tell_29 : decode cX5_tell 29 = .ok (.iconst (-1), 1) := dk_2 (dk_at dksX5_tell_1 6 rfl rfl)
theorem dX5_tell_30 : decode cX5_tell 30 = .ok (.ireturn, 1) := dk_172 (dk_at dksX5_tell_1 7 rfl rfl)
theorem dX5_tell_31 : decode cX5_tell 31 = .ok (.aload_n 0, 1) := dk_42 (dk_at dksX5_tell_1 8 rfl rfl)
theorem dX5_tell_32 : decode cX5_tell 32 = .ok (.iload_n 1, 1) := dk_27 (dk_at dksX5_tell_1 9 rfl rfl)
theorem dX5_tell_33 : decode cX5_tell 33 = .ok (.iload_n 2, 1) := dk_28 (dk_at dksX5_tell_1 10 rfl rfl)
theorem dX5_tell_34 : decode cX5_tell 34 = .ok (.iload_n 3, 1) := dk_29 (dk_at dksX5_tell_1 11 rfl rfl)
theorem dX5_tell_35 : decode cX5_tell 35 = .ok (.invokevirtual 329, 3) := dk_182 1 73 (dk_at dksX5_tell_1 12 rfl rfl)
theorem dX5_tell_38 : decode cX5_tell 38 = .ok (.istore 4, 2) := dk_54 4 (dk_at dksX5_tell_1 15 rfl rfl)
theorem dX5_tell_40 : decode cX5_tell 40 = .ok (.iload 4, 2) := dk_21 4 (dk_at dksX5_tell_1 17 rfl rfl)
theorem dX5_tell_42 : decode cX5_tell 42 = .ok (.ifCond .le 6, 3) := dk_158 0 6 (dk_at dksX5_tell_1 19 rfl rfl)
theorem dX5_tell_45 : decode cX5_tell 45 = .ok (.iload 4, 2) := dk_21 4 (dk_at dksX5_tell_1 22 rfl rfl)
theorem dX5_tell_47 : decode cX5_tell 47 = .ok (.ireturn, 1) := dk_172 (dk_at dksX5_tell_2 0 rfl rfl)
theorem dX5_tell_48 : decode cX5_tell 48 = .ok (.aload_n 0, 1) := dk_42 (dk_at dksX5_tell_2 1 rfl rfl)
theorem dX5_tell_49 : decode cX5_tell 49 = .ok (.invokevirtual 310, 3) := dk_182 1 54 (dk_at dksX5_tell_2 2 rfl rfl)
theorem dX5_tell_52 : decode cX5_tell 52 = .ok (.aload_n 0, 1) := dk_42 (dk_at dksX5_tell_2 5 rfl rfl)
theorem dX5_tell_53 : decode cX5_tell 53 = .ok (.iload_n 2, 1) := dk_28 (dk_at dksX5_tell_2 6 rfl rfl)
theorem dX5_tell_54 : decode cX5_tell 54 = .ok (.iload_n 3, 1) := dk_29 (dk_at dksX5_tell_2 7 rfl rfl)
theorem dX5_tell_55 : decode cX5_tell 55 = .ok (.invokevirtual 296, 3) := dk_182 1 40 (dk_at dksX5_tell_2 8 rfl rfl)
theorem dX5_tell_58 : decode cX5_tell 58 = .ok (.iconst 0, 1) := dk_3 (dk_at dksX5_tell_2 11 rfl rfl)
theorem dX5_tell_59 : decode cX5_tell 59 = .ok (.ireturn, 1) := dk_172 (dk_at dksX5_tell_2 12 rfl rfl)
abbrev cX5_whyTell : ByteArray := prog_26_method_57_code
def yX5_whyTell : MethodName := ⟨RX5, "whyTell", "(III)I"⟩
def dkwX5_whyTell_2 : List UInt8 := [28, 182, 1, 9, 29, 184, 0, 214, 153, 0, 7, 6, 167, 0, 4, 3, 172]
abbrev dktX5_whyTell_2 : List UInt8 := dkwX5_whyTell_2 ++ []
def dkwX5_whyTell_1 : List UInt8 := [28, 184, 0, 214, 153, 0, 15, 42, 27, 182, 1, 9, 29, 184, 0, 214, 154, 0, 7, 5, 167, 0, 20, 42]
abbrev dktX5_whyTell_1 : List UInt8 := dkwX5_whyTell_1 ++ dktX5_whyTell_2
def dkwX5_whyTell_0 : List UInt8 := [27, 28, 159, 0, 13, 27, 29, 159, 0, 8, 28, 29, 160, 0, 7, 4, 167, 0, 48, 42, 27, 182, 1, 9]
abbrev dktX5_whyTell_0 : List UInt8 := dkwX5_whyTell_0 ++ dktX5_whyTell_1
theorem dksX5_whyTell_0 : cX5_whyTell.data.toList.drop 0 = dktX5_whyTell_0 := by decide +kernel
theorem dksX5_whyTell_1 : cX5_whyTell.data.toList.drop 24 = dktX5_whyTell_1 := dk_seg dksX5_whyTell_0 24 rfl rfl
theorem dksX5_whyTell_2 : cX5_whyTell.data.toList.drop 48 = dktX5_whyTell_2 := dk_seg dksX5_whyTell_1 24 rfl rfl
theorem dX5_whyTell_0 : decode cX5_whyTell 0 = .ok (.iload_n 1, 1) := dk_27 (dk_at dksX5_whyTell_0 0 rfl rfl)
theorem dX5_whyTell_1 : decode cX5_whyTell 1 = .ok (.iload_n 2, 1) := dk_28 (dk_at dksX5_whyTell_0 1 rfl rfl)
theorem dX5_whyTell_2 : decode cX5_whyTell 2 = .ok (.if_icmp .eq 13, 3) := dk_159 0 13 (dk_at dksX5_whyTell_0 2 rfl rfl)
theorem dX5_whyTell_5 : decode cX5_whyTell 5 = .ok (.iload_n 1, 1) := dk_27 (dk_at dksX5_whyTell_0 5 rfl rfl)
theorem dX5_whyTell_6 : decode cX5_whyTell 6 = .ok (.iload_n 3, 1) := dk_29 (dk_at dksX5_whyTell_0 6 rfl rfl)
theorem dX5_whyTell_7 : decode cX5_whyTell 7 = .ok (.if_icmp .eq 8, 3) := dk_159 0 8 (dk_at dksX5_whyTell_0 7 rfl rfl)
theorem dX5_whyTell_10 : decode cX5_whyTell 10 = .ok (.iload_n 2, 1) := dk_28 (dk_at dksX5_whyTell_0 10 rfl rfl)
theorem dX5_whyTell_11 : decode cX5_whyTell 11 = .ok (.iload_n 3, 1) := dk_29 (dk_at dksX5_whyTell_0 11 rfl rfl)
theorem dX5_whyTell_12 : decode cX5_whyTell 12 = .ok (.if_icmp .ne 7, 3) := dk_160 0 7 (dk_at dksX5_whyTell_0 12 rfl rfl)
theorem dX5_whyTell_15 : decode cX5_whyTell 15 = .ok (.iconst 1, 1) := dk_4 (dk_at dksX5_whyTell_0 15 rfl rfl)
theorem dX5_whyTell_16 : decode cX5_whyTell 16 = .ok (.goto 48, 3) := dk_167 0 48 (dk_at dksX5_whyTell_0 16 rfl rfl)
theorem dX5_whyTell_19 : decode cX5_whyTell 19 = .ok (.aload_n 0, 1) := dk_42 (dk_at dksX5_whyTell_0 19 rfl rfl)
theorem dX5_whyTell_20 : decode cX5_whyTell 20 = .ok (.iload_n 1, 1) := dk_27 (dk_at dksX5_whyTell_0 20 rfl rfl)
theorem dX5_whyTell_21 : decode cX5_whyTell 21 = .ok (.invokevirtual 265, 3) := dk_182 1 9 (dk_at dksX5_whyTell_0 21 rfl rfl)
theorem dX5_whyTell_24 : decode cX5_whyTell 24 = .ok (.iload_n 2, 1) := dk_28 (dk_at dksX5_whyTell_1 0 rfl rfl)
theorem dX5_whyTell_25 : decode cX5_whyTell 25 = .ok (.invokestatic 214, 3) := dk_184 0 214 (dk_at dksX5_whyTell_1 1 rfl rfl)
theorem dX5_whyTell_28 : decode cX5_whyTell 28 = .ok (.ifCond .eq 15, 3) := dk_153 0 15 (dk_at dksX5_whyTell_1 4 rfl rfl)
theorem dX5_whyTell_31 : decode cX5_whyTell 31 = .ok (.aload_n 0, 1) := dk_42 (dk_at dksX5_whyTell_1 7 rfl rfl)
theorem dX5_whyTell_32 : decode cX5_whyTell 32 = .ok (.iload_n 1, 1) := dk_27 (dk_at dksX5_whyTell_1 8 rfl rfl)
theorem dX5_whyTell_33 : decode cX5_whyTell 33 = .ok (.invokevirtual 265, 3) := dk_182 1 9 (dk_at dksX5_whyTell_1 9 rfl rfl)
theorem dX5_whyTell_36 : decode cX5_whyTell 36 = .ok (.iload_n 3, 1) := dk_29 (dk_at dksX5_whyTell_1 12 rfl rfl)
theorem dX5_whyTell_37 : decode cX5_whyTell 37 = .ok (.invokestatic 214, 3) := dk_184 0 214 (dk_at dksX5_whyTell_1 13 rfl rfl)
theorem dX5_whyTell_40 : decode cX5_whyTell 40 = .ok (.ifCond .ne 7, 3) := dk_154 0 7 (dk_at dksX5_whyTell_1 16 rfl rfl)
theorem dX5_whyTell_43 : decode cX5_whyTell 43 = .ok (.iconst 2, 1) := dk_5 (dk_at dksX5_whyTell_1 19 rfl rfl)
theorem dX5_whyTell_44 : decode cX5_whyTell 44 = .ok (.goto 20, 3) := dk_167 0 20 (dk_at dksX5_whyTell_1 20 rfl rfl)
theorem dX5_whyTell_47 : decode cX5_whyTell 47 = .ok (.aload_n 0, 1) := dk_42 (dk_at dksX5_whyTell_1 23 rfl rfl)
theorem dX5_whyTell_48 : decode cX5_whyTell 48 = .ok (.iload_n 2, 1) := dk_28 (dk_at dksX5_whyTell_2 0 rfl rfl)
theorem dX5_whyTell_49 : decode cX5_whyTell 49 = .ok (.invokevirtual 265, 3) := dk_182 1 9 (dk_at dksX5_whyTell_2 1 rfl rfl)
theorem dX5_whyTell_52 : decode cX5_whyTell 52 = .ok (.iload_n 3, 1) := dk_29 (dk_at dksX5_whyTell_2 4 rfl rfl)
theorem dX5_whyTell_53 : decode cX5_whyTell 53 = .ok (.invokestatic 214, 3) := dk_184 0 214 (dk_at dksX5_whyTell_2 5 rfl rfl)
theorem dX5_whyTell_56 : decode cX5_whyTell 56 = .ok (.ifCond .eq 7, 3) := dk_153 0 7 (dk_at dksX5_whyTell_2 8 rfl rfl)
theorem dX5_whyTell_59 : decode cX5_whyTell 59 = .ok (.iconst 3, 1) := dk_6 (dk_at dksX5_whyTell_2 11 rfl rfl)
theorem dX5_whyTell_60 : decode cX5_whyTell 60 = .ok (.goto 4, 3) := dk_167 0 4 (dk_at dksX5_whyTell_2 12 rfl rfl)
theorem dX5_whyTell_63 : decode cX5_whyTell 63 = .ok (.iconst 0, 1) := dk_3 (dk_at dksX5_whyTell_2 15 rfl rfl)
theorem dX5_whyTell_64 : decode cX5_whyTell 64 = .ok (.ireturn, 1) := dk_172 (dk_at dksX5_whyTell_2 16 rfl rfl)
abbrev cX5_days : ByteArray := prog_26_method_65_code
def yX5_days : MethodName := ⟨RX5, "days", "(I)I"⟩
def dkwX5_days_1 : List UInt8 := [46, 17, 1, 144, 160, 0, 5, 3, 172, 42, 182, 1, 54, 42, 27, 182, 1, 76, 172]
abbrev dktX5_days_1 : List UInt8 := dkwX5_days_1 ++ []
def dkwX5_days_0 : List UInt8 := [42, 3, 181, 0, 1, 27, 4, 16, 60, 184, 0, 189, 154, 0, 5, 2, 172, 42, 180, 0, 33, 17, 0, 131]
abbrev dktX5_days_0 : List UInt8 := dkwX5_days_0 ++ dktX5_days_1
theorem dksX5_days_0 : cX5_days.data.toList.drop 0 = dktX5_days_0 := by decide +kernel
theorem dksX5_days_1 : cX5_days.data.toList.drop 24 = dktX5_days_1 := dk_seg dksX5_days_0 24 rfl rfl
theorem dX5_days_0 : decode cX5_days 0 = .ok (.aload_n 0, 1) := dk_42 (dk_at dksX5_days_0 0 rfl rfl)
theorem dX5_days_1 : decode cX5_days 1 = .ok (.iconst 0, 1) := dk_3 (dk_at dksX5_days_0 1 rfl rfl)
theorem dX5_days_2 : decode cX5_days 2 = .ok (.putfield 1, 3) := dk_181 0 1 (dk_at dksX5_days_0 2 rfl rfl)
theorem dX5_days_5 : decode cX5_days 5 = .ok (.iload_n 1, 1) := dk_27 (dk_at dksX5_days_0 5 rfl rfl)
theorem dX5_days_6 : decode cX5_days 6 = .ok (.iconst 1, 1) := dk_4 (dk_at dksX5_days_0 6 rfl rfl)
theorem dX5_days_7 : decode cX5_days 7 = .ok (.bipush 60, 2) := dk_16 60 (dk_at dksX5_days_0 7 rfl rfl)
theorem dX5_days_9 : decode cX5_days 9 = .ok (.invokestatic 189, 3) := dk_184 0 189 (dk_at dksX5_days_0 9 rfl rfl)
theorem dX5_days_12 : decode cX5_days 12 = .ok (.ifCond .ne 5, 3) := dk_154 0 5 (dk_at dksX5_days_0 12 rfl rfl)
theorem dX5_days_15 : decode cX5_days 15 = .ok (.iconst (-1), 1) := dk_2 (dk_at dksX5_days_0 15 rfl rfl)
theorem dX5_days_16 : decode cX5_days 16 = .ok (.ireturn, 1) := dk_172 (dk_at dksX5_days_0 16 rfl rfl)
theorem dX5_days_17 : decode cX5_days 17 = .ok (.aload_n 0, 1) := dk_42 (dk_at dksX5_days_0 17 rfl rfl)
theorem dX5_days_18 : decode cX5_days 18 = .ok (.getfield 33, 3) := dk_180 0 33 (dk_at dksX5_days_0 18 rfl rfl)
theorem dX5_days_21 : decode cX5_days 21 = .ok (.sipush 131, 3) := dk_17 0 131 (dk_at dksX5_days_0 21 rfl rfl)
theorem dX5_days_24 : decode cX5_days 24 = .ok (.iaload, 1) := dk_46 (dk_at dksX5_days_1 0 rfl rfl)
theorem dX5_days_25 : decode cX5_days 25 = .ok (.sipush 400, 3) := dk_17 1 144 (dk_at dksX5_days_1 1 rfl rfl)
theorem dX5_days_28 : decode cX5_days 28 = .ok (.if_icmp .ne 5, 3) := dk_160 0 5 (dk_at dksX5_days_1 4 rfl rfl)
theorem dX5_days_31 : decode cX5_days 31 = .ok (.iconst 0, 1) := dk_3 (dk_at dksX5_days_1 7 rfl rfl)
theorem dX5_days_32 : decode cX5_days 32 = .ok (.ireturn, 1) := dk_172 (dk_at dksX5_days_1 8 rfl rfl)
theorem dX5_days_33 : decode cX5_days 33 = .ok (.aload_n 0, 1) := dk_42 (dk_at dksX5_days_1 9 rfl rfl)
theorem dX5_days_34 : decode cX5_days 34 = .ok (.invokevirtual 310, 3) := dk_182 1 54 (dk_at dksX5_days_1 10 rfl rfl)
theorem dX5_days_37 : decode cX5_days 37 = .ok (.aload_n 0, 1) := dk_42 (dk_at dksX5_days_1 13 rfl rfl)
theorem dX5_days_38 : decode cX5_days 38 = .ok (.iload_n 1, 1) := dk_27 (dk_at dksX5_days_1 14 rfl rfl)
theorem dX5_days_39 : decode cX5_days 39 = .ok (.invokevirtual 332, 3) := dk_182 1 76 (dk_at dksX5_days_1 15 rfl rfl)
theorem dX5_days_42 : decode cX5_days 42 = .ok (.ireturn, 1) := dk_172 (dk_at dksX5_days_1 18 rfl rfl)
abbrev cX5_goesOn : ByteArray := prog_26_method_60_code
def yX5_goesOn : MethodName := ⟨RX5, "goesOn", "(I)I"⟩
def dkwX5_goesOn_1 : List UInt8 := [182, 1, 47, 132, 2, 1, 167, 255, 230, 28, 172]
abbrev dktX5_goesOn_1 : List UInt8 := dkwX5_goesOn_1 ++ []
def dkwX5_goesOn_0 : List UInt8 := [3, 61, 28, 27, 162, 0, 27, 42, 180, 0, 33, 17, 0, 131, 46, 17, 1, 144, 162, 0, 13, 42]
abbrev dktX5_goesOn_0 : List UInt8 := dkwX5_goesOn_0 ++ dktX5_goesOn_1
theorem dksX5_goesOn_0 : cX5_goesOn.data.toList.drop 0 = dktX5_goesOn_0 := by decide +kernel
theorem dksX5_goesOn_1 : cX5_goesOn.data.toList.drop 22 = dktX5_goesOn_1 := dk_seg dksX5_goesOn_0 22 rfl rfl
theorem dX5_goesOn_0 : decode cX5_goesOn 0 = .ok (.iconst 0, 1) := dk_3 (dk_at dksX5_goesOn_0 0 rfl rfl)
theorem dX5_goesOn_1 : decode cX5_goesOn 1 = .ok (.istore_n 2, 1) := dk_61 (dk_at dksX5_goesOn_0 1 rfl rfl)
theorem dX5_goesOn_2 : decode cX5_goesOn 2 = .ok (.iload_n 2, 1) := dk_28 (dk_at dksX5_goesOn_0 2 rfl rfl)
theorem dX5_goesOn_3 : decode cX5_goesOn 3 = .ok (.iload_n 1, 1) := dk_27 (dk_at dksX5_goesOn_0 3 rfl rfl)
theorem dX5_goesOn_4 : decode cX5_goesOn 4 = .ok (.if_icmp .ge 27, 3) := dk_162 0 27 (dk_at dksX5_goesOn_0 4 rfl rfl)
theorem dX5_goesOn_7 : decode cX5_goesOn 7 = .ok (.aload_n 0, 1) := dk_42 (dk_at dksX5_goesOn_0 7 rfl rfl)
theorem dX5_goesOn_8 : decode cX5_goesOn 8 = .ok (.getfield 33, 3) := dk_180 0 33 (dk_at dksX5_goesOn_0 8 rfl rfl)
theorem dX5_goesOn_11 : decode cX5_goesOn 11 = .ok (.sipush 131, 3) := dk_17 0 131 (dk_at dksX5_goesOn_0 11 rfl rfl)
theorem dX5_goesOn_14 : decode cX5_goesOn 14 = .ok (.iaload, 1) := dk_46 (dk_at dksX5_goesOn_0 14 rfl rfl)
theorem dX5_goesOn_15 : decode cX5_goesOn 15 = .ok (.sipush 400, 3) := dk_17 1 144 (dk_at dksX5_goesOn_0 15 rfl rfl)
theorem dX5_goesOn_18 : decode cX5_goesOn 18 = .ok (.if_icmp .ge 13, 3) := dk_162 0 13 (dk_at dksX5_goesOn_0 18 rfl rfl)
theorem dX5_goesOn_21 : decode cX5_goesOn 21 = .ok (.aload_n 0, 1) := dk_42 (dk_at dksX5_goesOn_0 21 rfl rfl)
theorem dX5_goesOn_22 : decode cX5_goesOn 22 = .ok (.invokevirtual 303, 3) := dk_182 1 47 (dk_at dksX5_goesOn_1 0 rfl rfl)
theorem dX5_goesOn_25 : decode cX5_goesOn 25 = .ok (.iinc 2 1, 3) := dk_132 2 1 (dk_at dksX5_goesOn_1 3 rfl rfl)
theorem dX5_goesOn_28 : decode cX5_goesOn 28 = .ok (.goto (-26), 3) := dk_167 255 230 (dk_at dksX5_goesOn_1 6 rfl rfl)
theorem dX5_goesOn_31 : decode cX5_goesOn 31 = .ok (.iload_n 2, 1) := dk_28 (dk_at dksX5_goesOn_1 9 rfl rfl)
theorem dX5_goesOn_32 : decode cX5_goesOn 32 = .ok (.ireturn, 1) := dk_172 (dk_at dksX5_goesOn_1 10 rfl rfl)
abbrev cX5_day : ByteArray := prog_26_method_59_code
def yX5_day : MethodName := ⟨RX5, "day", "()V"⟩
def dkwX5_day_5 : List UInt8 := [177]
abbrev dktX5_day_5 : List UInt8 := dkwX5_day_5 ++ []
def dkwX5_day_4 : List UInt8 := [60, 27, 16, 56, 162, 0, 20, 42, 180, 0, 33, 17, 0, 220, 27, 96, 3, 79, 132, 1, 1, 167, 255, 236]
abbrev dktX5_day_4 : List UInt8 := dkwX5_day_4 ++ dktX5_day_5
def dkwX5_day_3 : List UInt8 := [46, 153, 0, 21, 42, 180, 0, 33, 17, 0, 131, 46, 42, 180, 0, 33, 7, 46, 112, 153, 0, 4, 177, 3]
abbrev dktX5_day_3 : List UInt8 := dkwX5_day_3 ++ dktX5_day_4
def dkwX5_day_2 : List UInt8 := [167, 255, 211, 42, 182, 1, 3, 42, 180, 0, 33, 17, 0, 131, 92, 46, 4, 96, 79, 42, 180, 0, 33, 7]
abbrev dktX5_day_2 : List UInt8 := dkwX5_day_2 ++ dktX5_day_3
def dkwX5_day_1 : List UInt8 := [42, 180, 0, 33, 17, 0, 213, 27, 96, 46, 42, 27, 182, 1, 13, 96, 184, 1, 44, 79, 132, 1, 1]
abbrev dktX5_day_1 : List UInt8 := dkwX5_day_1 ++ dktX5_day_2
def dkwX5_day_0 : List UInt8 := [3, 60, 27, 42, 180, 0, 33, 3, 46, 162, 0, 41, 42, 180, 0, 33, 17, 0, 213, 27, 96, 17, 39, 15]
abbrev dktX5_day_0 : List UInt8 := dkwX5_day_0 ++ dktX5_day_1
theorem dksX5_day_0 : cX5_day.data.toList.drop 0 = dktX5_day_0 := by decide +kernel
theorem dksX5_day_1 : cX5_day.data.toList.drop 24 = dktX5_day_1 := dk_seg dksX5_day_0 24 rfl rfl
theorem dksX5_day_2 : cX5_day.data.toList.drop 47 = dktX5_day_2 := dk_seg dksX5_day_1 23 rfl rfl
theorem dksX5_day_3 : cX5_day.data.toList.drop 71 = dktX5_day_3 := dk_seg dksX5_day_2 24 rfl rfl
theorem dksX5_day_4 : cX5_day.data.toList.drop 95 = dktX5_day_4 := dk_seg dksX5_day_3 24 rfl rfl
theorem dksX5_day_5 : cX5_day.data.toList.drop 119 = dktX5_day_5 := dk_seg dksX5_day_4 24 rfl rfl
theorem dX5_day_0 : decode cX5_day 0 = .ok (.iconst 0, 1) := dk_3 (dk_at dksX5_day_0 0 rfl rfl)
theorem dX5_day_1 : decode cX5_day 1 = .ok (.istore_n 1, 1) := dk_60 (dk_at dksX5_day_0 1 rfl rfl)
theorem dX5_day_2 : decode cX5_day 2 = .ok (.iload_n 1, 1) := dk_27 (dk_at dksX5_day_0 2 rfl rfl)
theorem dX5_day_3 : decode cX5_day 3 = .ok (.aload_n 0, 1) := dk_42 (dk_at dksX5_day_0 3 rfl rfl)
theorem dX5_day_4 : decode cX5_day 4 = .ok (.getfield 33, 3) := dk_180 0 33 (dk_at dksX5_day_0 4 rfl rfl)
theorem dX5_day_7 : decode cX5_day 7 = .ok (.iconst 0, 1) := dk_3 (dk_at dksX5_day_0 7 rfl rfl)
theorem dX5_day_8 : decode cX5_day 8 = .ok (.iaload, 1) := dk_46 (dk_at dksX5_day_0 8 rfl rfl)
theorem dX5_day_9 : decode cX5_day 9 = .ok (.if_icmp .ge 41, 3) := dk_162 0 41 (dk_at dksX5_day_0 9 rfl rfl)
theorem dX5_day_12 : decode cX5_day 12 = .ok (.aload_n 0, 1) := dk_42 (dk_at dksX5_day_0 12 rfl rfl)
theorem dX5_day_13 : decode cX5_day 13 = .ok (.getfield 33, 3) := dk_180 0 33 (dk_at dksX5_day_0 13 rfl rfl)
theorem dX5_day_16 : decode cX5_day 16 = .ok (.sipush 213, 3) := dk_17 0 213 (dk_at dksX5_day_0 16 rfl rfl)
theorem dX5_day_19 : decode cX5_day 19 = .ok (.iload_n 1, 1) := dk_27 (dk_at dksX5_day_0 19 rfl rfl)
theorem dX5_day_20 : decode cX5_day 20 = .ok (.iadd, 1) := dk_96 (dk_at dksX5_day_0 20 rfl rfl)
theorem dX5_day_21 : decode cX5_day 21 = .ok (.sipush 9999, 3) := dk_17 39 15 (dk_at dksX5_day_0 21 rfl rfl)
theorem dX5_day_24 : decode cX5_day 24 = .ok (.aload_n 0, 1) := dk_42 (dk_at dksX5_day_1 0 rfl rfl)
theorem dX5_day_25 : decode cX5_day 25 = .ok (.getfield 33, 3) := dk_180 0 33 (dk_at dksX5_day_1 1 rfl rfl)
theorem dX5_day_28 : decode cX5_day 28 = .ok (.sipush 213, 3) := dk_17 0 213 (dk_at dksX5_day_1 4 rfl rfl)
theorem dX5_day_31 : decode cX5_day 31 = .ok (.iload_n 1, 1) := dk_27 (dk_at dksX5_day_1 7 rfl rfl)
theorem dX5_day_32 : decode cX5_day 32 = .ok (.iadd, 1) := dk_96 (dk_at dksX5_day_1 8 rfl rfl)
theorem dX5_day_33 : decode cX5_day 33 = .ok (.iaload, 1) := dk_46 (dk_at dksX5_day_1 9 rfl rfl)
theorem dX5_day_34 : decode cX5_day 34 = .ok (.aload_n 0, 1) := dk_42 (dk_at dksX5_day_1 10 rfl rfl)
theorem dX5_day_35 : decode cX5_day 35 = .ok (.iload_n 1, 1) := dk_27 (dk_at dksX5_day_1 11 rfl rfl)
theorem dX5_day_36 : decode cX5_day 36 = .ok (.invokevirtual 269, 3) := dk_182 1 13 (dk_at dksX5_day_1 12 rfl rfl)
theorem dX5_day_39 : decode cX5_day 39 = .ok (.iadd, 1) := dk_96 (dk_at dksX5_day_1 15 rfl rfl)
theorem dX5_day_40 : decode cX5_day 40 = .ok (.invokestatic 300, 3) := dk_184 1 44 (dk_at dksX5_day_1 16 rfl rfl)
theorem dX5_day_43 : decode cX5_day 43 = .ok (.iastore, 1) := dk_79 (dk_at dksX5_day_1 19 rfl rfl)
theorem dX5_day_44 : decode cX5_day 44 = .ok (.iinc 1 1, 3) := dk_132 1 1 (dk_at dksX5_day_1 20 rfl rfl)
theorem dX5_day_47 : decode cX5_day 47 = .ok (.goto (-45), 3) := dk_167 255 211 (dk_at dksX5_day_2 0 rfl rfl)
theorem dX5_day_50 : decode cX5_day 50 = .ok (.aload_n 0, 1) := dk_42 (dk_at dksX5_day_2 3 rfl rfl)
theorem dX5_day_51 : decode cX5_day 51 = .ok (.invokevirtual 259, 3) := dk_182 1 3 (dk_at dksX5_day_2 4 rfl rfl)
theorem dX5_day_54 : decode cX5_day 54 = .ok (.aload_n 0, 1) := dk_42 (dk_at dksX5_day_2 7 rfl rfl)
theorem dX5_day_55 : decode cX5_day 55 = .ok (.getfield 33, 3) := dk_180 0 33 (dk_at dksX5_day_2 8 rfl rfl)
theorem dX5_day_58 : decode cX5_day 58 = .ok (.sipush 131, 3) := dk_17 0 131 (dk_at dksX5_day_2 11 rfl rfl)
theorem dX5_day_61 : decode cX5_day 61 = .ok (.dup2, 1) := dk_92 (dk_at dksX5_day_2 14 rfl rfl)
theorem dX5_day_62 : decode cX5_day 62 = .ok (.iaload, 1) := dk_46 (dk_at dksX5_day_2 15 rfl rfl)
theorem dX5_day_63 : decode cX5_day 63 = .ok (.iconst 1, 1) := dk_4 (dk_at dksX5_day_2 16 rfl rfl)
theorem dX5_day_64 : decode cX5_day 64 = .ok (.iadd, 1) := dk_96 (dk_at dksX5_day_2 17 rfl rfl)
theorem dX5_day_65 : decode cX5_day 65 = .ok (.iastore, 1) := dk_79 (dk_at dksX5_day_2 18 rfl rfl)
theorem dX5_day_66 : decode cX5_day 66 = .ok (.aload_n 0, 1) := dk_42 (dk_at dksX5_day_2 19 rfl rfl)
theorem dX5_day_67 : decode cX5_day 67 = .ok (.getfield 33, 3) := dk_180 0 33 (dk_at dksX5_day_2 20 rfl rfl)
theorem dX5_day_70 : decode cX5_day 70 = .ok (.iconst 4, 1) := dk_7 (dk_at dksX5_day_2 23 rfl rfl)
theorem dX5_day_71 : decode cX5_day 71 = .ok (.iaload, 1) := dk_46 (dk_at dksX5_day_3 0 rfl rfl)
theorem dX5_day_72 : decode cX5_day 72 = .ok (.ifCond .eq 21, 3) := dk_153 0 21 (dk_at dksX5_day_3 1 rfl rfl)
theorem dX5_day_75 : decode cX5_day 75 = .ok (.aload_n 0, 1) := dk_42 (dk_at dksX5_day_3 4 rfl rfl)
theorem dX5_day_76 : decode cX5_day 76 = .ok (.getfield 33, 3) := dk_180 0 33 (dk_at dksX5_day_3 5 rfl rfl)
theorem dX5_day_79 : decode cX5_day 79 = .ok (.sipush 131, 3) := dk_17 0 131 (dk_at dksX5_day_3 8 rfl rfl)
theorem dX5_day_82 : decode cX5_day 82 = .ok (.iaload, 1) := dk_46 (dk_at dksX5_day_3 11 rfl rfl)
theorem dX5_day_83 : decode cX5_day 83 = .ok (.aload_n 0, 1) := dk_42 (dk_at dksX5_day_3 12 rfl rfl)
theorem dX5_day_84 : decode cX5_day 84 = .ok (.getfield 33, 3) := dk_180 0 33 (dk_at dksX5_day_3 13 rfl rfl)
theorem dX5_day_87 : decode cX5_day 87 = .ok (.iconst 4, 1) := dk_7 (dk_at dksX5_day_3 16 rfl rfl)
theorem dX5_day_88 : decode cX5_day 88 = .ok (.iaload, 1) := dk_46 (dk_at dksX5_day_3 17 rfl rfl)
theorem dX5_day_89 : decode cX5_day 89 = .ok (.irem, 1) := dk_112 (dk_at dksX5_day_3 18 rfl rfl)
theorem dX5_day_90 : decode cX5_day 90 = .ok (.ifCond .eq 4, 3) := dk_153 0 4 (dk_at dksX5_day_3 19 rfl rfl)
theorem dX5_day_93 : decode cX5_day 93 = .ok (.return_, 1) := dk_177 (dk_at dksX5_day_3 22 rfl rfl)
theorem dX5_day_94 : decode cX5_day 94 = .ok (.iconst 0, 1) := dk_3 (dk_at dksX5_day_3 23 rfl rfl)
theorem dX5_day_95 : decode cX5_day 95 = .ok (.istore_n 1, 1) := dk_60 (dk_at dksX5_day_4 0 rfl rfl)
theorem dX5_day_96 : decode cX5_day 96 = .ok (.iload_n 1, 1) := dk_27 (dk_at dksX5_day_4 1 rfl rfl)
theorem dX5_day_97 : decode cX5_day 97 = .ok (.bipush 56, 2) := dk_16 56 (dk_at dksX5_day_4 2 rfl rfl)
theorem dX5_day_99 : decode cX5_day 99 = .ok (.if_icmp .ge 20, 3) := dk_162 0 20 (dk_at dksX5_day_4 4 rfl rfl)
theorem dX5_day_102 : decode cX5_day 102 = .ok (.aload_n 0, 1) := dk_42 (dk_at dksX5_day_4 7 rfl rfl)
theorem dX5_day_103 : decode cX5_day 103 = .ok (.getfield 33, 3) := dk_180 0 33 (dk_at dksX5_day_4 8 rfl rfl)
theorem dX5_day_106 : decode cX5_day 106 = .ok (.sipush 220, 3) := dk_17 0 220 (dk_at dksX5_day_4 11 rfl rfl)
theorem dX5_day_109 : decode cX5_day 109 = .ok (.iload_n 1, 1) := dk_27 (dk_at dksX5_day_4 14 rfl rfl)
theorem dX5_day_110 : decode cX5_day 110 = .ok (.iadd, 1) := dk_96 (dk_at dksX5_day_4 15 rfl rfl)
theorem dX5_day_111 : decode cX5_day 111 = .ok (.iconst 0, 1) := dk_3 (dk_at dksX5_day_4 16 rfl rfl)
theorem dX5_day_112 : decode cX5_day 112 = .ok (.iastore, 1) := dk_79 (dk_at dksX5_day_4 17 rfl rfl)
theorem dX5_day_113 : decode cX5_day 113 = .ok (.iinc 1 1, 3) := dk_132 1 1 (dk_at dksX5_day_4 18 rfl rfl)
theorem dX5_day_116 : decode cX5_day 116 = .ok (.goto (-20), 3) := dk_167 255 236 (dk_at dksX5_day_4 21 rfl rfl)
theorem dX5_day_119 : decode cX5_day 119 = .ok (.return_, 1) := dk_177 (dk_at dksX5_day_5 0 rfl rfl)
abbrev cX5_lesser : ByteArray := prog_26_method_9_code
def yX5_lesser : MethodName := ⟨RX5, "lesser", "(II)I"⟩
def dkwX5_lesser_0 : List UInt8 := [26, 27, 162, 0, 7, 26, 167, 0, 4, 27, 172]
abbrev dktX5_lesser_0 : List UInt8 := dkwX5_lesser_0 ++ []
theorem dksX5_lesser_0 : cX5_lesser.data.toList.drop 0 = dktX5_lesser_0 := by decide +kernel
theorem dX5_lesser_0 : decode cX5_lesser 0 = .ok (.iload_n 0, 1) := dk_26 (dk_at dksX5_lesser_0 0 rfl rfl)
theorem dX5_lesser_1 : decode cX5_lesser 1 = .ok (.iload_n 1, 1) := dk_27 (dk_at dksX5_lesser_0 1 rfl rfl)
theorem dX5_lesser_2 : decode cX5_lesser 2 = .ok (.if_icmp .ge 7, 3) := dk_162 0 7 (dk_at dksX5_lesser_0 2 rfl rfl)
theorem dX5_lesser_5 : decode cX5_lesser 5 = .ok (.iload_n 0, 1) := dk_26 (dk_at dksX5_lesser_0 5 rfl rfl)
theorem dX5_lesser_6 : decode cX5_lesser 6 = .ok (.goto 4, 3) := dk_167 0 4 (dk_at dksX5_lesser_0 6 rfl rfl)
theorem dX5_lesser_9 : decode cX5_lesser 9 = .ok (.iload_n 1, 1) := dk_27 (dk_at dksX5_lesser_0 9 rfl rfl)
theorem dX5_lesser_10 : decode cX5_lesser 10 = .ok (.ireturn, 1) := dk_172 (dk_at dksX5_lesser_0 10 rfl rfl)
abbrev cX5_undo : ByteArray := prog_26_method_67_code
def yX5_undo : MethodName := ⟨RX5, "undo", "()I"⟩
def dkwX5_undo_2 : List UInt8 := [17, 0, 145, 42, 180, 1, 6, 104, 27, 96, 46, 79, 132, 1, 1, 167, 255, 221, 42, 180, 1, 6, 172]
abbrev dktX5_undo_2 : List UInt8 := dkwX5_undo_2 ++ []
def dkwX5_undo_1 : List UInt8 := [3, 60, 27, 17, 0, 145, 162, 0, 34, 42, 180, 0, 33, 17, 0, 131, 27, 96, 42, 180, 0, 50]
abbrev dktX5_undo_1 : List UInt8 := dkwX5_undo_1 ++ dktX5_undo_2
def dkwX5_undo_0 : List UInt8 := [42, 3, 181, 0, 1, 42, 180, 1, 6, 154, 0, 5, 2, 172, 42, 89, 180, 1, 6, 4, 100, 181, 1, 6]
abbrev dktX5_undo_0 : List UInt8 := dkwX5_undo_0 ++ dktX5_undo_1
theorem dksX5_undo_0 : cX5_undo.data.toList.drop 0 = dktX5_undo_0 := by decide +kernel
theorem dksX5_undo_1 : cX5_undo.data.toList.drop 24 = dktX5_undo_1 := dk_seg dksX5_undo_0 24 rfl rfl
theorem dksX5_undo_2 : cX5_undo.data.toList.drop 46 = dktX5_undo_2 := dk_seg dksX5_undo_1 22 rfl rfl
theorem dX5_undo_0 : decode cX5_undo 0 = .ok (.aload_n 0, 1) := dk_42 (dk_at dksX5_undo_0 0 rfl rfl)
theorem dX5_undo_1 : decode cX5_undo 1 = .ok (.iconst 0, 1) := dk_3 (dk_at dksX5_undo_0 1 rfl rfl)
theorem dX5_undo_2 : decode cX5_undo 2 = .ok (.putfield 1, 3) := dk_181 0 1 (dk_at dksX5_undo_0 2 rfl rfl)
theorem dX5_undo_5 : decode cX5_undo 5 = .ok (.aload_n 0, 1) := dk_42 (dk_at dksX5_undo_0 5 rfl rfl)
theorem dX5_undo_6 : decode cX5_undo 6 = .ok (.getfield 262, 3) := dk_180 1 6 (dk_at dksX5_undo_0 6 rfl rfl)
theorem dX5_undo_9 : decode cX5_undo 9 = .ok (.ifCond .ne 5, 3) := dk_154 0 5 (dk_at dksX5_undo_0 9 rfl rfl)
theorem dX5_undo_12 : decode cX5_undo 12 = .ok (.iconst (-1), 1) := dk_2 (dk_at dksX5_undo_0 12 rfl rfl)
theorem dX5_undo_13 : decode cX5_undo 13 = .ok (.ireturn, 1) := dk_172 (dk_at dksX5_undo_0 13 rfl rfl)
theorem dX5_undo_14 : decode cX5_undo 14 = .ok (.aload_n 0, 1) := dk_42 (dk_at dksX5_undo_0 14 rfl rfl)
theorem dX5_undo_15 : decode cX5_undo 15 = .ok (.dup, 1) := dk_89 (dk_at dksX5_undo_0 15 rfl rfl)
theorem dX5_undo_16 : decode cX5_undo 16 = .ok (.getfield 262, 3) := dk_180 1 6 (dk_at dksX5_undo_0 16 rfl rfl)
theorem dX5_undo_19 : decode cX5_undo 19 = .ok (.iconst 1, 1) := dk_4 (dk_at dksX5_undo_0 19 rfl rfl)
theorem dX5_undo_20 : decode cX5_undo 20 = .ok (.isub, 1) := dk_100 (dk_at dksX5_undo_0 20 rfl rfl)
theorem dX5_undo_21 : decode cX5_undo 21 = .ok (.putfield 262, 3) := dk_181 1 6 (dk_at dksX5_undo_0 21 rfl rfl)
theorem dX5_undo_24 : decode cX5_undo 24 = .ok (.iconst 0, 1) := dk_3 (dk_at dksX5_undo_1 0 rfl rfl)
theorem dX5_undo_25 : decode cX5_undo 25 = .ok (.istore_n 1, 1) := dk_60 (dk_at dksX5_undo_1 1 rfl rfl)
theorem dX5_undo_26 : decode cX5_undo 26 = .ok (.iload_n 1, 1) := dk_27 (dk_at dksX5_undo_1 2 rfl rfl)
theorem dX5_undo_27 : decode cX5_undo 27 = .ok (.sipush 145, 3) := dk_17 0 145 (dk_at dksX5_undo_1 3 rfl rfl)
theorem dX5_undo_30 : decode cX5_undo 30 = .ok (.if_icmp .ge 34, 3) := dk_162 0 34 (dk_at dksX5_undo_1 6 rfl rfl)
theorem dX5_undo_33 : decode cX5_undo 33 = .ok (.aload_n 0, 1) := dk_42 (dk_at dksX5_undo_1 9 rfl rfl)
theorem dX5_undo_34 : decode cX5_undo 34 = .ok (.getfield 33, 3) := dk_180 0 33 (dk_at dksX5_undo_1 10 rfl rfl)
theorem dX5_undo_37 : decode cX5_undo 37 = .ok (.sipush 131, 3) := dk_17 0 131 (dk_at dksX5_undo_1 13 rfl rfl)
theorem dX5_undo_40 : decode cX5_undo 40 = .ok (.iload_n 1, 1) := dk_27 (dk_at dksX5_undo_1 16 rfl rfl)
theorem dX5_undo_41 : decode cX5_undo 41 = .ok (.iadd, 1) := dk_96 (dk_at dksX5_undo_1 17 rfl rfl)
theorem dX5_undo_42 : decode cX5_undo 42 = .ok (.aload_n 0, 1) := dk_42 (dk_at dksX5_undo_1 18 rfl rfl)
theorem dX5_undo_43 : decode cX5_undo 43 = .ok (.getfield 50, 3) := dk_180 0 50 (dk_at dksX5_undo_1 19 rfl rfl)
theorem dX5_undo_46 : decode cX5_undo 46 = .ok (.sipush 145, 3) := dk_17 0 145 (dk_at dksX5_undo_2 0 rfl rfl)
theorem dX5_undo_49 : decode cX5_undo 49 = .ok (.aload_n 0, 1) := dk_42 (dk_at dksX5_undo_2 3 rfl rfl)
theorem dX5_undo_50 : decode cX5_undo 50 = .ok (.getfield 262, 3) := dk_180 1 6 (dk_at dksX5_undo_2 4 rfl rfl)
theorem dX5_undo_53 : decode cX5_undo 53 = .ok (.imul, 1) := dk_104 (dk_at dksX5_undo_2 7 rfl rfl)
theorem dX5_undo_54 : decode cX5_undo 54 = .ok (.iload_n 1, 1) := dk_27 (dk_at dksX5_undo_2 8 rfl rfl)
theorem dX5_undo_55 : decode cX5_undo 55 = .ok (.iadd, 1) := dk_96 (dk_at dksX5_undo_2 9 rfl rfl)
theorem dX5_undo_56 : decode cX5_undo 56 = .ok (.iaload, 1) := dk_46 (dk_at dksX5_undo_2 10 rfl rfl)
theorem dX5_undo_57 : decode cX5_undo 57 = .ok (.iastore, 1) := dk_79 (dk_at dksX5_undo_2 11 rfl rfl)
theorem dX5_undo_58 : decode cX5_undo 58 = .ok (.iinc 1 1, 3) := dk_132 1 1 (dk_at dksX5_undo_2 12 rfl rfl)
theorem dX5_undo_61 : decode cX5_undo 61 = .ok (.goto (-35), 3) := dk_167 255 221 (dk_at dksX5_undo_2 15 rfl rfl)
theorem dX5_undo_64 : decode cX5_undo 64 = .ok (.aload_n 0, 1) := dk_42 (dk_at dksX5_undo_2 18 rfl rfl)
theorem dX5_undo_65 : decode cX5_undo 65 = .ok (.getfield 262, 3) := dk_180 1 6 (dk_at dksX5_undo_2 19 rfl rfl)
theorem dX5_undo_68 : decode cX5_undo 68 = .ok (.ireturn, 1) := dk_172 (dk_at dksX5_undo_2 22 rfl rfl)
abbrev cX5_most : ByteArray := prog_26_method_72_code
def yX5_most : MethodName := ⟨RX5, "most", "(I)I"⟩
def dkwX5_most_12 : List UInt8 := [167, 255, 128, 28, 172]
abbrev dktX5_most_12 : List UInt8 := dkwX5_most_12 ++ []
def dkwX5_most_11 : List UInt8 := [46, 96, 92, 46, 29, 96, 79, 42, 180, 0, 59, 21, 4, 46, 54, 4, 167, 255, 196, 28, 29, 96, 61]
abbrev dktX5_most_11 : List UInt8 := dkwX5_most_11 ++ dktX5_most_12
def dkwX5_most_10 : List UInt8 := [104, 21, 4, 96, 92, 46, 29, 100, 79, 42, 180, 0, 56, 16, 16, 21, 4, 104, 42, 180, 0, 59, 21, 4]
abbrev dktX5_most_10 : List UInt8 := dkwX5_most_10 ++ dktX5_most_11
def dkwX5_most_9 : List UInt8 := [16, 15, 54, 4, 21, 4, 16, 14, 159, 0, 59, 42, 180, 0, 56, 16, 16, 42, 180, 0, 59, 21, 4, 46]
abbrev dktX5_most_9 : List UInt8 := dkwX5_most_9 ++ dktX5_most_10
def dkwX5_most_8 : List UInt8 := [21, 4, 46, 104, 21, 4, 96, 46, 184, 1, 44, 62, 42, 180, 0, 59, 21, 4, 46, 54, 4, 167, 255, 217]
abbrev dktX5_most_8 : List UInt8 := dkwX5_most_8 ++ dktX5_most_9
def dkwX5_most_7 : List UInt8 := [62, 16, 15, 54, 4, 21, 4, 16, 14, 159, 0, 38, 29, 42, 180, 0, 56, 16, 16, 42, 180, 0, 59]
abbrev dktX5_most_7 : List UInt8 := dkwX5_most_7 ++ dktX5_most_8
def dkwX5_most_6 : List UInt8 := [132, 3, 1, 167, 255, 218, 132, 2, 1, 167, 255, 147, 3, 61, 42, 182, 1, 86, 153, 0, 127, 19, 1, 79]
abbrev dktX5_most_6 : List UInt8 := dkwX5_most_6 ++ dktX5_most_7
def dkwX5_most_5 : List UInt8 := [159, 0, 23, 42, 180, 0, 56, 16, 16, 28, 104, 16, 7, 96, 29, 96, 42, 28, 29, 182, 1, 83, 79]
abbrev dktX5_most_5 : List UInt8 := dkwX5_most_5 ++ dktX5_most_6
def dkwX5_most_4 : List UInt8 := [8, 28, 104, 96, 27, 96, 46, 79, 3, 62, 29, 42, 180, 0, 33, 3, 46, 162, 0, 34, 29, 28]
abbrev dktX5_most_4 : List UInt8 := dkwX5_most_4 ++ dktX5_most_5
def dkwX5_most_3 : List UInt8 := [96, 46, 79, 42, 180, 0, 56, 16, 16, 16, 7, 28, 96, 104, 16, 15, 96, 42, 180, 0, 33, 17, 0, 178]
abbrev dktX5_most_3 : List UInt8 := dkwX5_most_3 ++ dktX5_most_4
def dkwX5_most_2 : List UInt8 := [162, 0, 105, 42, 180, 0, 56, 17, 0, 224, 28, 96, 42, 180, 0, 33, 17, 0, 143, 8, 28, 104, 96, 27]
abbrev dktX5_most_2 : List UInt8 := dkwX5_most_2 ++ dktX5_most_3
def dkwX5_most_1 : List UInt8 := [42, 180, 0, 56, 28, 3, 79, 132, 2, 1, 167, 255, 239, 3, 61, 28, 42, 180, 0, 33, 3, 46]
abbrev dktX5_most_1 : List UInt8 := dkwX5_most_1 ++ dktX5_most_2
def dkwX5_most_0 : List UInt8 := [42, 3, 181, 0, 1, 42, 27, 182, 1, 25, 154, 0, 5, 2, 172, 3, 61, 28, 17, 1, 0, 162, 0, 16]
abbrev dktX5_most_0 : List UInt8 := dkwX5_most_0 ++ dktX5_most_1
theorem dksX5_most_0 : cX5_most.data.toList.drop 0 = dktX5_most_0 := by decide +kernel
theorem dksX5_most_1 : cX5_most.data.toList.drop 24 = dktX5_most_1 := dk_seg dksX5_most_0 24 rfl rfl
theorem dksX5_most_2 : cX5_most.data.toList.drop 46 = dktX5_most_2 := dk_seg dksX5_most_1 22 rfl rfl
theorem dksX5_most_3 : cX5_most.data.toList.drop 70 = dktX5_most_3 := dk_seg dksX5_most_2 24 rfl rfl
theorem dksX5_most_4 : cX5_most.data.toList.drop 94 = dktX5_most_4 := dk_seg dksX5_most_3 24 rfl rfl
theorem dksX5_most_5 : cX5_most.data.toList.drop 116 = dktX5_most_5 := dk_seg dksX5_most_4 22 rfl rfl
theorem dksX5_most_6 : cX5_most.data.toList.drop 139 = dktX5_most_6 := dk_seg dksX5_most_5 23 rfl rfl
theorem dksX5_most_7 : cX5_most.data.toList.drop 163 = dktX5_most_7 := dk_seg dksX5_most_6 24 rfl rfl
theorem dksX5_most_8 : cX5_most.data.toList.drop 186 = dktX5_most_8 := dk_seg dksX5_most_7 23 rfl rfl
theorem dksX5_most_9 : cX5_most.data.toList.drop 210 = dktX5_most_9 := dk_seg dksX5_most_8 24 rfl rfl
theorem dksX5_most_10 : cX5_most.data.toList.drop 234 = dktX5_most_10 := dk_seg dksX5_most_9 24 rfl rfl
theorem dksX5_most_11 : cX5_most.data.toList.drop 258 = dktX5_most_11 := dk_seg dksX5_most_10 24 rfl rfl
theorem dksX5_most_12 : cX5_most.data.toList.drop 281 = dktX5_most_12 := dk_seg dksX5_most_11 23 rfl rfl
theorem dX5_most_0 : decode cX5_most 0 = .ok (.aload_n 0, 1) := dk_42 (dk_at dksX5_most_0 0 rfl rfl)
theorem dX5_most_1 : decode cX5_most 1 = .ok (.iconst 0, 1) := dk_3 (dk_at dksX5_most_0 1 rfl rfl)
theorem dX5_most_2 : decode cX5_most 2 = .ok (.putfield 1, 3) := dk_181 0 1 (dk_at dksX5_most_0 2 rfl rfl)
theorem dX5_most_5 : decode cX5_most 5 = .ok (.aload_n 0, 1) := dk_42 (dk_at dksX5_most_0 5 rfl rfl)
theorem dX5_most_6 : decode cX5_most 6 = .ok (.iload_n 1, 1) := dk_27 (dk_at dksX5_most_0 6 rfl rfl)
theorem dX5_most_7 : decode cX5_most 7 = .ok (.invokevirtual 281, 3) := dk_182 1 25 (dk_at dksX5_most_0 7 rfl rfl)
theorem dX5_most_10 : decode cX5_most 10 = .ok (.ifCond .ne 5, 3) := dk_154 0 5 (dk_at dksX5_most_0 10 rfl rfl)
theorem dX5_most_13 : decode cX5_most 13 = .ok (.iconst (-1), 1) := dk_2 (dk_at dksX5_most_0 13 rfl rfl)
theorem dX5_most_14 : decode cX5_most 14 = .ok (.ireturn, 1) := dk_172 (dk_at dksX5_most_0 14 rfl rfl)
theorem dX5_most_15 : decode cX5_most 15 = .ok (.iconst 0, 1) := dk_3 (dk_at dksX5_most_0 15 rfl rfl)
theorem dX5_most_16 : decode cX5_most 16 = .ok (.istore_n 2, 1) := dk_61 (dk_at dksX5_most_0 16 rfl rfl)
theorem dX5_most_17 : decode cX5_most 17 = .ok (.iload_n 2, 1) := dk_28 (dk_at dksX5_most_0 17 rfl rfl)
theorem dX5_most_18 : decode cX5_most 18 = .ok (.sipush 256, 3) := dk_17 1 0 (dk_at dksX5_most_0 18 rfl rfl)
theorem dX5_most_21 : decode cX5_most 21 = .ok (.if_icmp .ge 16, 3) := dk_162 0 16 (dk_at dksX5_most_0 21 rfl rfl)
theorem dX5_most_24 : decode cX5_most 24 = .ok (.aload_n 0, 1) := dk_42 (dk_at dksX5_most_1 0 rfl rfl)
theorem dX5_most_25 : decode cX5_most 25 = .ok (.getfield 56, 3) := dk_180 0 56 (dk_at dksX5_most_1 1 rfl rfl)
theorem dX5_most_28 : decode cX5_most 28 = .ok (.iload_n 2, 1) := dk_28 (dk_at dksX5_most_1 4 rfl rfl)
theorem dX5_most_29 : decode cX5_most 29 = .ok (.iconst 0, 1) := dk_3 (dk_at dksX5_most_1 5 rfl rfl)
theorem dX5_most_30 : decode cX5_most 30 = .ok (.iastore, 1) := dk_79 (dk_at dksX5_most_1 6 rfl rfl)
theorem dX5_most_31 : decode cX5_most 31 = .ok (.iinc 2 1, 3) := dk_132 2 1 (dk_at dksX5_most_1 7 rfl rfl)
theorem dX5_most_34 : decode cX5_most 34 = .ok (.goto (-17), 3) := dk_167 255 239 (dk_at dksX5_most_1 10 rfl rfl)
theorem dX5_most_37 : decode cX5_most 37 = .ok (.iconst 0, 1) := dk_3 (dk_at dksX5_most_1 13 rfl rfl)
theorem dX5_most_38 : decode cX5_most 38 = .ok (.istore_n 2, 1) := dk_61 (dk_at dksX5_most_1 14 rfl rfl)
theorem dX5_most_39 : decode cX5_most 39 = .ok (.iload_n 2, 1) := dk_28 (dk_at dksX5_most_1 15 rfl rfl)
theorem dX5_most_40 : decode cX5_most 40 = .ok (.aload_n 0, 1) := dk_42 (dk_at dksX5_most_1 16 rfl rfl)
theorem dX5_most_41 : decode cX5_most 41 = .ok (.getfield 33, 3) := dk_180 0 33 (dk_at dksX5_most_1 17 rfl rfl)
theorem dX5_most_44 : decode cX5_most 44 = .ok (.iconst 0, 1) := dk_3 (dk_at dksX5_most_1 20 rfl rfl)
theorem dX5_most_45 : decode cX5_most 45 = .ok (.iaload, 1) := dk_46 (dk_at dksX5_most_1 21 rfl rfl)
theorem dX5_most_46 : decode cX5_most 46 = .ok (.if_icmp .ge 105, 3) := dk_162 0 105 (dk_at dksX5_most_2 0 rfl rfl)
theorem dX5_most_49 : decode cX5_most 49 = .ok (.aload_n 0, 1) := dk_42 (dk_at dksX5_most_2 3 rfl rfl)
theorem dX5_most_50 : decode cX5_most 50 = .ok (.getfield 56, 3) := dk_180 0 56 (dk_at dksX5_most_2 4 rfl rfl)
theorem dX5_most_53 : decode cX5_most 53 = .ok (.sipush 224, 3) := dk_17 0 224 (dk_at dksX5_most_2 7 rfl rfl)
theorem dX5_most_56 : decode cX5_most 56 = .ok (.iload_n 2, 1) := dk_28 (dk_at dksX5_most_2 10 rfl rfl)
theorem dX5_most_57 : decode cX5_most 57 = .ok (.iadd, 1) := dk_96 (dk_at dksX5_most_2 11 rfl rfl)
theorem dX5_most_58 : decode cX5_most 58 = .ok (.aload_n 0, 1) := dk_42 (dk_at dksX5_most_2 12 rfl rfl)
theorem dX5_most_59 : decode cX5_most 59 = .ok (.getfield 33, 3) := dk_180 0 33 (dk_at dksX5_most_2 13 rfl rfl)
theorem dX5_most_62 : decode cX5_most 62 = .ok (.sipush 143, 3) := dk_17 0 143 (dk_at dksX5_most_2 16 rfl rfl)
theorem dX5_most_65 : decode cX5_most 65 = .ok (.iconst 5, 1) := dk_8 (dk_at dksX5_most_2 19 rfl rfl)
theorem dX5_most_66 : decode cX5_most 66 = .ok (.iload_n 2, 1) := dk_28 (dk_at dksX5_most_2 20 rfl rfl)
theorem dX5_most_67 : decode cX5_most 67 = .ok (.imul, 1) := dk_104 (dk_at dksX5_most_2 21 rfl rfl)
theorem dX5_most_68 : decode cX5_most 68 = .ok (.iadd, 1) := dk_96 (dk_at dksX5_most_2 22 rfl rfl)
theorem dX5_most_69 : decode cX5_most 69 = .ok (.iload_n 1, 1) := dk_27 (dk_at dksX5_most_2 23 rfl rfl)
theorem dX5_most_70 : decode cX5_most 70 = .ok (.iadd, 1) := dk_96 (dk_at dksX5_most_3 0 rfl rfl)
theorem dX5_most_71 : decode cX5_most 71 = .ok (.iaload, 1) := dk_46 (dk_at dksX5_most_3 1 rfl rfl)
theorem dX5_most_72 : decode cX5_most 72 = .ok (.iastore, 1) := dk_79 (dk_at dksX5_most_3 2 rfl rfl)
theorem dX5_most_73 : decode cX5_most 73 = .ok (.aload_n 0, 1) := dk_42 (dk_at dksX5_most_3 3 rfl rfl)
theorem dX5_most_74 : decode cX5_most 74 = .ok (.getfield 56, 3) := dk_180 0 56 (dk_at dksX5_most_3 4 rfl rfl)
theorem dX5_most_77 : decode cX5_most 77 = .ok (.bipush 16, 2) := dk_16 16 (dk_at dksX5_most_3 7 rfl rfl)
theorem dX5_most_79 : decode cX5_most 79 = .ok (.bipush 7, 2) := dk_16 7 (dk_at dksX5_most_3 9 rfl rfl)
theorem dX5_most_81 : decode cX5_most 81 = .ok (.iload_n 2, 1) := dk_28 (dk_at dksX5_most_3 11 rfl rfl)
theorem dX5_most_82 : decode cX5_most 82 = .ok (.iadd, 1) := dk_96 (dk_at dksX5_most_3 12 rfl rfl)
theorem dX5_most_83 : decode cX5_most 83 = .ok (.imul, 1) := dk_104 (dk_at dksX5_most_3 13 rfl rfl)
theorem dX5_most_84 : decode cX5_most 84 = .ok (.bipush 15, 2) := dk_16 15 (dk_at dksX5_most_3 14 rfl rfl)
theorem dX5_most_86 : decode cX5_most 86 = .ok (.iadd, 1) := dk_96 (dk_at dksX5_most_3 16 rfl rfl)
theorem dX5_most_87 : decode cX5_most 87 = .ok (.aload_n 0, 1) := dk_42 (dk_at dksX5_most_3 17 rfl rfl)
theorem dX5_most_88 : decode cX5_most 88 = .ok (.getfield 33, 3) := dk_180 0 33 (dk_at dksX5_most_3 18 rfl rfl)
theorem dX5_most_91 : decode cX5_most 91 = .ok (.sipush 178, 3) := dk_17 0 178 (dk_at dksX5_most_3 21 rfl rfl)
theorem dX5_most_94 : decode cX5_most 94 = .ok (.iconst 5, 1) := dk_8 (dk_at dksX5_most_4 0 rfl rfl)
theorem dX5_most_95 : decode cX5_most 95 = .ok (.iload_n 2, 1) := dk_28 (dk_at dksX5_most_4 1 rfl rfl)
theorem dX5_most_96 : decode cX5_most 96 = .ok (.imul, 1) := dk_104 (dk_at dksX5_most_4 2 rfl rfl)
theorem dX5_most_97 : decode cX5_most 97 = .ok (.iadd, 1) := dk_96 (dk_at dksX5_most_4 3 rfl rfl)
theorem dX5_most_98 : decode cX5_most 98 = .ok (.iload_n 1, 1) := dk_27 (dk_at dksX5_most_4 4 rfl rfl)
theorem dX5_most_99 : decode cX5_most 99 = .ok (.iadd, 1) := dk_96 (dk_at dksX5_most_4 5 rfl rfl)
theorem dX5_most_100 : decode cX5_most 100 = .ok (.iaload, 1) := dk_46 (dk_at dksX5_most_4 6 rfl rfl)
theorem dX5_most_101 : decode cX5_most 101 = .ok (.iastore, 1) := dk_79 (dk_at dksX5_most_4 7 rfl rfl)
theorem dX5_most_102 : decode cX5_most 102 = .ok (.iconst 0, 1) := dk_3 (dk_at dksX5_most_4 8 rfl rfl)
theorem dX5_most_103 : decode cX5_most 103 = .ok (.istore_n 3, 1) := dk_62 (dk_at dksX5_most_4 9 rfl rfl)
theorem dX5_most_104 : decode cX5_most 104 = .ok (.iload_n 3, 1) := dk_29 (dk_at dksX5_most_4 10 rfl rfl)
theorem dX5_most_105 : decode cX5_most 105 = .ok (.aload_n 0, 1) := dk_42 (dk_at dksX5_most_4 11 rfl rfl)
theorem dX5_most_106 : decode cX5_most 106 = .ok (.getfield 33, 3) := dk_180 0 33 (dk_at dksX5_most_4 12 rfl rfl)
theorem dX5_most_109 : decode cX5_most 109 = .ok (.iconst 0, 1) := dk_3 (dk_at dksX5_most_4 15 rfl rfl)
theorem dX5_most_110 : decode cX5_most 110 = .ok (.iaload, 1) := dk_46 (dk_at dksX5_most_4 16 rfl rfl)
theorem dX5_most_111 : decode cX5_most 111 = .ok (.if_icmp .ge 34, 3) := dk_162 0 34 (dk_at dksX5_most_4 17 rfl rfl)
theorem dX5_most_114 : decode cX5_most 114 = .ok (.iload_n 3, 1) := dk_29 (dk_at dksX5_most_4 20 rfl rfl)
theorem dX5_most_115 : decode cX5_most 115 = .ok (.iload_n 2, 1) := dk_28 (dk_at dksX5_most_4 21 rfl rfl)
theorem dX5_most_116 : decode cX5_most 116 = .ok (.if_icmp .eq 23, 3) := dk_159 0 23 (dk_at dksX5_most_5 0 rfl rfl)
theorem dX5_most_119 : decode cX5_most 119 = .ok (.aload_n 0, 1) := dk_42 (dk_at dksX5_most_5 3 rfl rfl)
theorem dX5_most_120 : decode cX5_most 120 = .ok (.getfield 56, 3) := dk_180 0 56 (dk_at dksX5_most_5 4 rfl rfl)
theorem dX5_most_123 : decode cX5_most 123 = .ok (.bipush 16, 2) := dk_16 16 (dk_at dksX5_most_5 7 rfl rfl)
theorem dX5_most_125 : decode cX5_most 125 = .ok (.iload_n 2, 1) := dk_28 (dk_at dksX5_most_5 9 rfl rfl)
theorem dX5_most_126 : decode cX5_most 126 = .ok (.imul, 1) := dk_104 (dk_at dksX5_most_5 10 rfl rfl)
theorem dX5_most_127 : decode cX5_most 127 = .ok (.bipush 7, 2) := dk_16 7 (dk_at dksX5_most_5 11 rfl rfl)
theorem dX5_most_129 : decode cX5_most 129 = .ok (.iadd, 1) := dk_96 (dk_at dksX5_most_5 13 rfl rfl)
theorem dX5_most_130 : decode cX5_most 130 = .ok (.iload_n 3, 1) := dk_29 (dk_at dksX5_most_5 14 rfl rfl)
theorem dX5_most_131 : decode cX5_most 131 = .ok (.iadd, 1) := dk_96 (dk_at dksX5_most_5 15 rfl rfl)
theorem dX5_most_132 : decode cX5_most 132 = .ok (.aload_n 0, 1) := dk_42 (dk_at dksX5_most_5 16 rfl rfl)
theorem dX5_most_133 : decode cX5_most 133 = .ok (.iload_n 2, 1) := dk_28 (dk_at dksX5_most_5 17 rfl rfl)
theorem dX5_most_134 : decode cX5_most 134 = .ok (.iload_n 3, 1) := dk_29 (dk_at dksX5_most_5 18 rfl rfl)
theorem dX5_most_135 : decode cX5_most 135 = .ok (.invokevirtual 339, 3) := dk_182 1 83 (dk_at dksX5_most_5 19 rfl rfl)
theorem dX5_most_138 : decode cX5_most 138 = .ok (.iastore, 1) := dk_79 (dk_at dksX5_most_5 22 rfl rfl)
theorem dX5_most_139 : decode cX5_most 139 = .ok (.iinc 3 1, 3) := dk_132 3 1 (dk_at dksX5_most_6 0 rfl rfl)
theorem dX5_most_142 : decode cX5_most 142 = .ok (.goto (-38), 3) := dk_167 255 218 (dk_at dksX5_most_6 3 rfl rfl)
theorem dX5_most_145 : decode cX5_most 145 = .ok (.iinc 2 1, 3) := dk_132 2 1 (dk_at dksX5_most_6 6 rfl rfl)
theorem dX5_most_148 : decode cX5_most 148 = .ok (.goto (-109), 3) := dk_167 255 147 (dk_at dksX5_most_6 9 rfl rfl)
theorem dX5_most_151 : decode cX5_most 151 = .ok (.iconst 0, 1) := dk_3 (dk_at dksX5_most_6 12 rfl rfl)
theorem dX5_most_152 : decode cX5_most 152 = .ok (.istore_n 2, 1) := dk_61 (dk_at dksX5_most_6 13 rfl rfl)
theorem dX5_most_153 : decode cX5_most 153 = .ok (.aload_n 0, 1) := dk_42 (dk_at dksX5_most_6 14 rfl rfl)
theorem dX5_most_154 : decode cX5_most 154 = .ok (.invokevirtual 342, 3) := dk_182 1 86 (dk_at dksX5_most_6 15 rfl rfl)
theorem dX5_most_157 : decode cX5_most 157 = .ok (.ifCond .eq 127, 3) := dk_153 0 127 (dk_at dksX5_most_6 18 rfl rfl)
theorem dX5_most_160 : decode cX5_most 160 = .ok (.ldc_w 335, 3) := dk_19 1 79 (dk_at dksX5_most_6 21 rfl rfl)
theorem dX5_most_163 : decode cX5_most 163 = .ok (.istore_n 3, 1) := dk_62 (dk_at dksX5_most_7 0 rfl rfl)
theorem dX5_most_164 : decode cX5_most 164 = .ok (.bipush 15, 2) := dk_16 15 (dk_at dksX5_most_7 1 rfl rfl)
theorem dX5_most_166 : decode cX5_most 166 = .ok (.istore 4, 2) := dk_54 4 (dk_at dksX5_most_7 3 rfl rfl)
theorem dX5_most_168 : decode cX5_most 168 = .ok (.iload 4, 2) := dk_21 4 (dk_at dksX5_most_7 5 rfl rfl)
theorem dX5_most_170 : decode cX5_most 170 = .ok (.bipush 14, 2) := dk_16 14 (dk_at dksX5_most_7 7 rfl rfl)
theorem dX5_most_172 : decode cX5_most 172 = .ok (.if_icmp .eq 38, 3) := dk_159 0 38 (dk_at dksX5_most_7 9 rfl rfl)
theorem dX5_most_175 : decode cX5_most 175 = .ok (.iload_n 3, 1) := dk_29 (dk_at dksX5_most_7 12 rfl rfl)
theorem dX5_most_176 : decode cX5_most 176 = .ok (.aload_n 0, 1) := dk_42 (dk_at dksX5_most_7 13 rfl rfl)
theorem dX5_most_177 : decode cX5_most 177 = .ok (.getfield 56, 3) := dk_180 0 56 (dk_at dksX5_most_7 14 rfl rfl)
theorem dX5_most_180 : decode cX5_most 180 = .ok (.bipush 16, 2) := dk_16 16 (dk_at dksX5_most_7 17 rfl rfl)
theorem dX5_most_182 : decode cX5_most 182 = .ok (.aload_n 0, 1) := dk_42 (dk_at dksX5_most_7 19 rfl rfl)
theorem dX5_most_183 : decode cX5_most 183 = .ok (.getfield 59, 3) := dk_180 0 59 (dk_at dksX5_most_7 20 rfl rfl)
theorem dX5_most_186 : decode cX5_most 186 = .ok (.iload 4, 2) := dk_21 4 (dk_at dksX5_most_8 0 rfl rfl)
theorem dX5_most_188 : decode cX5_most 188 = .ok (.iaload, 1) := dk_46 (dk_at dksX5_most_8 2 rfl rfl)
theorem dX5_most_189 : decode cX5_most 189 = .ok (.imul, 1) := dk_104 (dk_at dksX5_most_8 3 rfl rfl)
theorem dX5_most_190 : decode cX5_most 190 = .ok (.iload 4, 2) := dk_21 4 (dk_at dksX5_most_8 4 rfl rfl)
theorem dX5_most_192 : decode cX5_most 192 = .ok (.iadd, 1) := dk_96 (dk_at dksX5_most_8 6 rfl rfl)
theorem dX5_most_193 : decode cX5_most 193 = .ok (.iaload, 1) := dk_46 (dk_at dksX5_most_8 7 rfl rfl)
theorem dX5_most_194 : decode cX5_most 194 = .ok (.invokestatic 300, 3) := dk_184 1 44 (dk_at dksX5_most_8 8 rfl rfl)
theorem dX5_most_197 : decode cX5_most 197 = .ok (.istore_n 3, 1) := dk_62 (dk_at dksX5_most_8 11 rfl rfl)
theorem dX5_most_198 : decode cX5_most 198 = .ok (.aload_n 0, 1) := dk_42 (dk_at dksX5_most_8 12 rfl rfl)
theorem dX5_most_199 : decode cX5_most 199 = .ok (.getfield 59, 3) := dk_180 0 59 (dk_at dksX5_most_8 13 rfl rfl)
theorem dX5_most_202 : decode cX5_most 202 = .ok (.iload 4, 2) := dk_21 4 (dk_at dksX5_most_8 16 rfl rfl)
theorem dX5_most_204 : decode cX5_most 204 = .ok (.iaload, 1) := dk_46 (dk_at dksX5_most_8 18 rfl rfl)
theorem dX5_most_205 : decode cX5_most 205 = .ok (.istore 4, 2) := dk_54 4 (dk_at dksX5_most_8 19 rfl rfl)
theorem dX5_most_207 : decode cX5_most 207 = .ok (.goto (-39), 3) := dk_167 255 217 (dk_at dksX5_most_8 21 rfl rfl)
theorem dX5_most_210 : decode cX5_most 210 = .ok (.bipush 15, 2) := dk_16 15 (dk_at dksX5_most_9 0 rfl rfl)
theorem dX5_most_212 : decode cX5_most 212 = .ok (.istore 4, 2) := dk_54 4 (dk_at dksX5_most_9 2 rfl rfl)
theorem dX5_most_214 : decode cX5_most 214 = .ok (.iload 4, 2) := dk_21 4 (dk_at dksX5_most_9 4 rfl rfl)
theorem dX5_most_216 : decode cX5_most 216 = .ok (.bipush 14, 2) := dk_16 14 (dk_at dksX5_most_9 6 rfl rfl)
theorem dX5_most_218 : decode cX5_most 218 = .ok (.if_icmp .eq 59, 3) := dk_159 0 59 (dk_at dksX5_most_9 8 rfl rfl)
theorem dX5_most_221 : decode cX5_most 221 = .ok (.aload_n 0, 1) := dk_42 (dk_at dksX5_most_9 11 rfl rfl)
theorem dX5_most_222 : decode cX5_most 222 = .ok (.getfield 56, 3) := dk_180 0 56 (dk_at dksX5_most_9 12 rfl rfl)
theorem dX5_most_225 : decode cX5_most 225 = .ok (.bipush 16, 2) := dk_16 16 (dk_at dksX5_most_9 15 rfl rfl)
theorem dX5_most_227 : decode cX5_most 227 = .ok (.aload_n 0, 1) := dk_42 (dk_at dksX5_most_9 17 rfl rfl)
theorem dX5_most_228 : decode cX5_most 228 = .ok (.getfield 59, 3) := dk_180 0 59 (dk_at dksX5_most_9 18 rfl rfl)
theorem dX5_most_231 : decode cX5_most 231 = .ok (.iload 4, 2) := dk_21 4 (dk_at dksX5_most_9 21 rfl rfl)
theorem dX5_most_233 : decode cX5_most 233 = .ok (.iaload, 1) := dk_46 (dk_at dksX5_most_9 23 rfl rfl)
theorem dX5_most_234 : decode cX5_most 234 = .ok (.imul, 1) := dk_104 (dk_at dksX5_most_10 0 rfl rfl)
theorem dX5_most_235 : decode cX5_most 235 = .ok (.iload 4, 2) := dk_21 4 (dk_at dksX5_most_10 1 rfl rfl)
theorem dX5_most_237 : decode cX5_most 237 = .ok (.iadd, 1) := dk_96 (dk_at dksX5_most_10 3 rfl rfl)
theorem dX5_most_238 : decode cX5_most 238 = .ok (.dup2, 1) := dk_92 (dk_at dksX5_most_10 4 rfl rfl)
theorem dX5_most_239 : decode cX5_most 239 = .ok (.iaload, 1) := dk_46 (dk_at dksX5_most_10 5 rfl rfl)
theorem dX5_most_240 : decode cX5_most 240 = .ok (.iload_n 3, 1) := dk_29 (dk_at dksX5_most_10 6 rfl rfl)
theorem dX5_most_241 : decode cX5_most 241 = .ok (.isub, 1) := dk_100 (dk_at dksX5_most_10 7 rfl rfl)
theorem dX5_most_242 : decode cX5_most 242 = .ok (.iastore, 1) := dk_79 (dk_at dksX5_most_10 8 rfl rfl)
theorem dX5_most_243 : decode cX5_most 243 = .ok (.aload_n 0, 1) := dk_42 (dk_at dksX5_most_10 9 rfl rfl)
theorem dX5_most_244 : decode cX5_most 244 = .ok (.getfield 56, 3) := dk_180 0 56 (dk_at dksX5_most_10 10 rfl rfl)
theorem dX5_most_247 : decode cX5_most 247 = .ok (.bipush 16, 2) := dk_16 16 (dk_at dksX5_most_10 13 rfl rfl)
theorem dX5_most_249 : decode cX5_most 249 = .ok (.iload 4, 2) := dk_21 4 (dk_at dksX5_most_10 15 rfl rfl)
theorem dX5_most_251 : decode cX5_most 251 = .ok (.imul, 1) := dk_104 (dk_at dksX5_most_10 17 rfl rfl)
theorem dX5_most_252 : decode cX5_most 252 = .ok (.aload_n 0, 1) := dk_42 (dk_at dksX5_most_10 18 rfl rfl)
theorem dX5_most_253 : decode cX5_most 253 = .ok (.getfield 59, 3) := dk_180 0 59 (dk_at dksX5_most_10 19 rfl rfl)
theorem dX5_most_256 : decode cX5_most 256 = .ok (.iload 4, 2) := dk_21 4 (dk_at dksX5_most_10 22 rfl rfl)
theorem dX5_most_258 : decode cX5_most 258 = .ok (.iaload, 1) := dk_46 (dk_at dksX5_most_11 0 rfl rfl)
theorem dX5_most_259 : decode cX5_most 259 = .ok (.iadd, 1) := dk_96 (dk_at dksX5_most_11 1 rfl rfl)
theorem dX5_most_260 : decode cX5_most 260 = .ok (.dup2, 1) := dk_92 (dk_at dksX5_most_11 2 rfl rfl)
theorem dX5_most_261 : decode cX5_most 261 = .ok (.iaload, 1) := dk_46 (dk_at dksX5_most_11 3 rfl rfl)
theorem dX5_most_262 : decode cX5_most 262 = .ok (.iload_n 3, 1) := dk_29 (dk_at dksX5_most_11 4 rfl rfl)
theorem dX5_most_263 : decode cX5_most 263 = .ok (.iadd, 1) := dk_96 (dk_at dksX5_most_11 5 rfl rfl)
theorem dX5_most_264 : decode cX5_most 264 = .ok (.iastore, 1) := dk_79 (dk_at dksX5_most_11 6 rfl rfl)
theorem dX5_most_265 : decode cX5_most 265 = .ok (.aload_n 0, 1) := dk_42 (dk_at dksX5_most_11 7 rfl rfl)
theorem dX5_most_266 : decode cX5_most 266 = .ok (.getfield 59, 3) := dk_180 0 59 (dk_at dksX5_most_11 8 rfl rfl)
theorem dX5_most_269 : decode cX5_most 269 = .ok (.iload 4, 2) := dk_21 4 (dk_at dksX5_most_11 11 rfl rfl)
theorem dX5_most_271 : decode cX5_most 271 = .ok (.iaload, 1) := dk_46 (dk_at dksX5_most_11 13 rfl rfl)
theorem dX5_most_272 : decode cX5_most 272 = .ok (.istore 4, 2) := dk_54 4 (dk_at dksX5_most_11 14 rfl rfl)
theorem dX5_most_274 : decode cX5_most 274 = .ok (.goto (-60), 3) := dk_167 255 196 (dk_at dksX5_most_11 16 rfl rfl)
theorem dX5_most_277 : decode cX5_most 277 = .ok (.iload_n 2, 1) := dk_28 (dk_at dksX5_most_11 19 rfl rfl)
theorem dX5_most_278 : decode cX5_most 278 = .ok (.iload_n 3, 1) := dk_29 (dk_at dksX5_most_11 20 rfl rfl)
theorem dX5_most_279 : decode cX5_most 279 = .ok (.iadd, 1) := dk_96 (dk_at dksX5_most_11 21 rfl rfl)
theorem dX5_most_280 : decode cX5_most 280 = .ok (.istore_n 2, 1) := dk_61 (dk_at dksX5_most_11 22 rfl rfl)
theorem dX5_most_281 : decode cX5_most 281 = .ok (.goto (-128), 3) := dk_167 255 128 (dk_at dksX5_most_12 0 rfl rfl)
theorem dX5_most_284 : decode cX5_most 284 = .ok (.iload_n 2, 1) := dk_28 (dk_at dksX5_most_12 3 rfl rfl)
theorem dX5_most_285 : decode cX5_most 285 = .ok (.ireturn, 1) := dk_172 (dk_at dksX5_most_12 4 rfl rfl)
abbrev cX5_dealsLeft : ByteArray := prog_26_method_71_code
def yX5_dealsLeft : MethodName := ⟨RX5, "dealsLeft", "(II)I"⟩
def dkwX5_dealsLeft_2 : List UInt8 := [180, 0, 33, 17, 0, 227, 16, 7, 27, 104, 96, 28, 96, 46, 100, 184, 1, 80, 172]
abbrev dktX5_dealsLeft_2 : List UInt8 := dkwX5_dealsLeft_2 ++ []
def dkwX5_dealsLeft_1 : List UInt8 := [46, 28, 184, 0, 214, 153, 0, 9, 19, 1, 79, 167, 0, 29, 3, 42, 180, 0, 33, 5, 46, 42]
abbrev dktX5_dealsLeft_1 : List UInt8 := dkwX5_dealsLeft_1 ++ dktX5_dealsLeft_2
def dkwX5_dealsLeft_0 : List UInt8 := [42, 27, 182, 1, 22, 28, 184, 0, 214, 154, 0, 7, 3, 167, 0, 51, 42, 180, 0, 33, 16, 124, 27, 96]
abbrev dktX5_dealsLeft_0 : List UInt8 := dkwX5_dealsLeft_0 ++ dktX5_dealsLeft_1
theorem dksX5_dealsLeft_0 : cX5_dealsLeft.data.toList.drop 0 = dktX5_dealsLeft_0 := by decide +kernel
theorem dksX5_dealsLeft_1 : cX5_dealsLeft.data.toList.drop 24 = dktX5_dealsLeft_1 := dk_seg dksX5_dealsLeft_0 24 rfl rfl
theorem dksX5_dealsLeft_2 : cX5_dealsLeft.data.toList.drop 46 = dktX5_dealsLeft_2 := dk_seg dksX5_dealsLeft_1 22 rfl rfl
theorem dX5_dealsLeft_0 : decode cX5_dealsLeft 0 = .ok (.aload_n 0, 1) := dk_42 (dk_at dksX5_dealsLeft_0 0 rfl rfl)
theorem dX5_dealsLeft_1 : decode cX5_dealsLeft 1 = .ok (.iload_n 1, 1) := dk_27 (dk_at dksX5_dealsLeft_0 1 rfl rfl)
theorem dX5_dealsLeft_2 : decode cX5_dealsLeft 2 = .ok (.invokevirtual 278, 3) := dk_182 1 22 (dk_at dksX5_dealsLeft_0 2 rfl rfl)
theorem dX5_dealsLeft_5 : decode cX5_dealsLeft 5 = .ok (.iload_n 2, 1) := dk_28 (dk_at dksX5_dealsLeft_0 5 rfl rfl)
theorem dX5_dealsLeft_6 : decode cX5_dealsLeft 6 = .ok (.invokestatic 214, 3) := dk_184 0 214 (dk_at dksX5_dealsLeft_0 6 rfl rfl)
theorem dX5_dealsLeft_9 : decode cX5_dealsLeft 9 = .ok (.ifCond .ne 7, 3) := dk_154 0 7 (dk_at dksX5_dealsLeft_0 9 rfl rfl)
theorem dX5_dealsLeft_12 : decode cX5_dealsLeft 12 = .ok (.iconst 0, 1) := dk_3 (dk_at dksX5_dealsLeft_0 12 rfl rfl)
theorem dX5_dealsLeft_13 : decode cX5_dealsLeft 13 = .ok (.goto 51, 3) := dk_167 0 51 (dk_at dksX5_dealsLeft_0 13 rfl rfl)
theorem dX5_dealsLeft_16 : decode cX5_dealsLeft 16 = .ok (.aload_n 0, 1) := dk_42 (dk_at dksX5_dealsLeft_0 16 rfl rfl)
theorem dX5_dealsLeft_17 : decode cX5_dealsLeft 17 = .ok (.getfield 33, 3) := dk_180 0 33 (dk_at dksX5_dealsLeft_0 17 rfl rfl)
theorem dX5_dealsLeft_20 : decode cX5_dealsLeft 20 = .ok (.bipush 124, 2) := dk_16 124 (dk_at dksX5_dealsLeft_0 20 rfl rfl)
theorem dX5_dealsLeft_22 : decode cX5_dealsLeft 22 = .ok (.iload_n 1, 1) := dk_27 (dk_at dksX5_dealsLeft_0 22 rfl rfl)
theorem dX5_dealsLeft_23 : decode cX5_dealsLeft 23 = .ok (.iadd, 1) := dk_96 (dk_at dksX5_dealsLeft_0 23 rfl rfl)
theorem dX5_dealsLeft_24 : decode cX5_dealsLeft 24 = .ok (.iaload, 1) := dk_46 (dk_at dksX5_dealsLeft_1 0 rfl rfl)
theorem dX5_dealsLeft_25 : decode cX5_dealsLeft 25 = .ok (.iload_n 2, 1) := dk_28 (dk_at dksX5_dealsLeft_1 1 rfl rfl)
theorem dX5_dealsLeft_26 : decode cX5_dealsLeft 26 = .ok (.invokestatic 214, 3) := dk_184 0 214 (dk_at dksX5_dealsLeft_1 2 rfl rfl)
theorem dX5_dealsLeft_29 : decode cX5_dealsLeft 29 = .ok (.ifCond .eq 9, 3) := dk_153 0 9 (dk_at dksX5_dealsLeft_1 5 rfl rfl)
theorem dX5_dealsLeft_32 : decode cX5_dealsLeft 32 = .ok (.ldc_w 335, 3) := dk_19 1 79 (dk_at dksX5_dealsLeft_1 8 rfl rfl)
theorem dX5_dealsLeft_35 : decode cX5_dealsLeft 35 = .ok (.goto 29, 3) := dk_167 0 29 (dk_at dksX5_dealsLeft_1 11 rfl rfl)
theorem dX5_dealsLeft_38 : decode cX5_dealsLeft 38 = .ok (.iconst 0, 1) := dk_3 (dk_at dksX5_dealsLeft_1 14 rfl rfl)
theorem dX5_dealsLeft_39 : decode cX5_dealsLeft 39 = .ok (.aload_n 0, 1) := dk_42 (dk_at dksX5_dealsLeft_1 15 rfl rfl)
theorem dX5_dealsLeft_40 : decode cX5_dealsLeft 40 = .ok (.getfield 33, 3) := dk_180 0 33 (dk_at dksX5_dealsLeft_1 16 rfl rfl)
theorem dX5_dealsLeft_43 : decode cX5_dealsLeft 43 = .ok (.iconst 2, 1) := dk_5 (dk_at dksX5_dealsLeft_1 19 rfl rfl)
theorem dX5_dealsLeft_44 : decode cX5_dealsLeft 44 = .ok (.iaload, 1) := dk_46 (dk_at dksX5_dealsLeft_1 20 rfl rfl)
theorem dX5_dealsLeft_45 : decode cX5_dealsLeft 45 = .ok (.aload_n 0, 1) := dk_42 (dk_at dksX5_dealsLeft_1 21 rfl rfl)
theorem dX5_dealsLeft_46 : decode cX5_dealsLeft 46 = .ok (.getfield 33, 3) := dk_180 0 33 (dk_at dksX5_dealsLeft_2 0 rfl rfl)
theorem dX5_dealsLeft_49 : decode cX5_dealsLeft 49 = .ok (.sipush 227, 3) := dk_17 0 227 (dk_at dksX5_dealsLeft_2 3 rfl rfl)
theorem dX5_dealsLeft_52 : decode cX5_dealsLeft 52 = .ok (.bipush 7, 2) := dk_16 7 (dk_at dksX5_dealsLeft_2 6 rfl rfl)
theorem dX5_dealsLeft_54 : decode cX5_dealsLeft 54 = .ok (.iload_n 1, 1) := dk_27 (dk_at dksX5_dealsLeft_2 8 rfl rfl)
theorem dX5_dealsLeft_55 : decode cX5_dealsLeft 55 = .ok (.imul, 1) := dk_104 (dk_at dksX5_dealsLeft_2 9 rfl rfl)
theorem dX5_dealsLeft_56 : decode cX5_dealsLeft 56 = .ok (.iadd, 1) := dk_96 (dk_at dksX5_dealsLeft_2 10 rfl rfl)
theorem dX5_dealsLeft_57 : decode cX5_dealsLeft 57 = .ok (.iload_n 2, 1) := dk_28 (dk_at dksX5_dealsLeft_2 11 rfl rfl)
theorem dX5_dealsLeft_58 : decode cX5_dealsLeft 58 = .ok (.iadd, 1) := dk_96 (dk_at dksX5_dealsLeft_2 12 rfl rfl)
theorem dX5_dealsLeft_59 : decode cX5_dealsLeft 59 = .ok (.iaload, 1) := dk_46 (dk_at dksX5_dealsLeft_2 13 rfl rfl)
theorem dX5_dealsLeft_60 : decode cX5_dealsLeft 60 = .ok (.isub, 1) := dk_100 (dk_at dksX5_dealsLeft_2 14 rfl rfl)
theorem dX5_dealsLeft_61 : decode cX5_dealsLeft 61 = .ok (.invokestatic 336, 3) := dk_184 1 80 (dk_at dksX5_dealsLeft_2 15 rfl rfl)
theorem dX5_dealsLeft_64 : decode cX5_dealsLeft 64 = .ok (.ireturn, 1) := dk_172 (dk_at dksX5_dealsLeft_2 18 rfl rfl)
abbrev cX5_greater : ByteArray := prog_26_method_10_code
def yX5_greater : MethodName := ⟨RX5, "greater", "(II)I"⟩
def dkwX5_greater_0 : List UInt8 := [26, 27, 164, 0, 7, 26, 167, 0, 4, 27, 172]
abbrev dktX5_greater_0 : List UInt8 := dkwX5_greater_0 ++ []
theorem dksX5_greater_0 : cX5_greater.data.toList.drop 0 = dktX5_greater_0 := by decide +kernel
theorem dX5_greater_0 : decode cX5_greater 0 = .ok (.iload_n 0, 1) := dk_26 (dk_at dksX5_greater_0 0 rfl rfl)
theorem dX5_greater_1 : decode cX5_greater 1 = .ok (.iload_n 1, 1) := dk_27 (dk_at dksX5_greater_0 1 rfl rfl)
theorem dX5_greater_2 : decode cX5_greater 2 = .ok (.if_icmp .le 7, 3) := dk_164 0 7 (dk_at dksX5_greater_0 2 rfl rfl)
theorem dX5_greater_5 : decode cX5_greater 5 = .ok (.iload_n 0, 1) := dk_26 (dk_at dksX5_greater_0 5 rfl rfl)
theorem dX5_greater_6 : decode cX5_greater 6 = .ok (.goto 4, 3) := dk_167 0 4 (dk_at dksX5_greater_0 6 rfl rfl)
theorem dX5_greater_9 : decode cX5_greater 9 = .ok (.iload_n 1, 1) := dk_27 (dk_at dksX5_greater_0 9 rfl rfl)
theorem dX5_greater_10 : decode cX5_greater 10 = .ok (.ireturn, 1) := dk_172 (dk_at dksX5_greater_0 10 rfl rfl)
abbrev cX5_finds : ByteArray := prog_26_method_70_code
def yX5_finds : MethodName := ⟨RX5, "finds", "()Z"⟩
def dkwX5_finds_5 : List UInt8 := [132, 2, 1, 167, 255, 181, 42, 180, 0, 59, 16, 15, 46, 155, 0, 7, 4, 167, 0, 4, 3, 172]
abbrev dktX5_finds_5 : List UInt8 := dkwX5_finds_5 ++ []
def dkwX5_finds_4 : List UInt8 := [180, 0, 62, 28, 46, 79, 42, 180, 0, 62, 27, 29, 79, 132, 1, 1, 132, 3, 1, 167, 255, 194]
abbrev dktX5_finds_4 : List UInt8 := dkwX5_finds_4 ++ dktX5_finds_5
def dkwX5_finds_3 : List UInt8 := [16, 16, 42, 180, 0, 62, 28, 46, 104, 29, 96, 46, 154, 0, 6, 167, 0, 25, 42, 180, 0, 59, 29, 42]
abbrev dktX5_finds_3 : List UInt8 := dkwX5_finds_3 ++ dktX5_finds_4
def dkwX5_finds_2 : List UInt8 := [162, 0, 76, 3, 62, 29, 16, 16, 162, 0, 62, 42, 180, 0, 59, 29, 46, 156, 0, 47, 42, 180, 0, 56]
abbrev dktX5_finds_2 : List UInt8 := dkwX5_finds_2 ++ dktX5_finds_3
def dkwX5_finds_1 : List UInt8 := [180, 0, 59, 16, 14, 16, 14, 79, 42, 180, 0, 62, 3, 16, 14, 79, 4, 60, 3, 61, 28, 27]
abbrev dktX5_finds_1 : List UInt8 := dkwX5_finds_1 ++ dktX5_finds_2
def dkwX5_finds_0 : List UInt8 := [3, 60, 27, 16, 16, 162, 0, 16, 42, 180, 0, 59, 27, 2, 79, 132, 1, 1, 167, 255, 240, 42]
abbrev dktX5_finds_0 : List UInt8 := dkwX5_finds_0 ++ dktX5_finds_1
theorem dksX5_finds_0 : cX5_finds.data.toList.drop 0 = dktX5_finds_0 := by decide +kernel
theorem dksX5_finds_1 : cX5_finds.data.toList.drop 22 = dktX5_finds_1 := dk_seg dksX5_finds_0 22 rfl rfl
theorem dksX5_finds_2 : cX5_finds.data.toList.drop 44 = dktX5_finds_2 := dk_seg dksX5_finds_1 22 rfl rfl
theorem dksX5_finds_3 : cX5_finds.data.toList.drop 68 = dktX5_finds_3 := dk_seg dksX5_finds_2 24 rfl rfl
theorem dksX5_finds_4 : cX5_finds.data.toList.drop 92 = dktX5_finds_4 := dk_seg dksX5_finds_3 24 rfl rfl
theorem dksX5_finds_5 : cX5_finds.data.toList.drop 114 = dktX5_finds_5 := dk_seg dksX5_finds_4 22 rfl rfl
theorem dX5_finds_0 : decode cX5_finds 0 = .ok (.iconst 0, 1) := dk_3 (dk_at dksX5_finds_0 0 rfl rfl)
theorem dX5_finds_1 : decode cX5_finds 1 = .ok (.istore_n 1, 1) := dk_60 (dk_at dksX5_finds_0 1 rfl rfl)
theorem dX5_finds_2 : decode cX5_finds 2 = .ok (.iload_n 1, 1) := dk_27 (dk_at dksX5_finds_0 2 rfl rfl)
theorem dX5_finds_3 : decode cX5_finds 3 = .ok (.bipush 16, 2) := dk_16 16 (dk_at dksX5_finds_0 3 rfl rfl)
theorem dX5_finds_5 : decode cX5_finds 5 = .ok (.if_icmp .ge 16, 3) := dk_162 0 16 (dk_at dksX5_finds_0 5 rfl rfl)
theorem dX5_finds_8 : decode cX5_finds 8 = .ok (.aload_n 0, 1) := dk_42 (dk_at dksX5_finds_0 8 rfl rfl)
theorem dX5_finds_9 : decode cX5_finds 9 = .ok (.getfield 59, 3) := dk_180 0 59 (dk_at dksX5_finds_0 9 rfl rfl)
theorem dX5_finds_12 : decode cX5_finds 12 = .ok (.iload_n 1, 1) := dk_27 (dk_at dksX5_finds_0 12 rfl rfl)
theorem dX5_finds_13 : decode cX5_finds 13 = .ok (.iconst (-1), 1) := dk_2 (dk_at dksX5_finds_0 13 rfl rfl)
theorem dX5_finds_14 : decode cX5_finds 14 = .ok (.iastore, 1) := dk_79 (dk_at dksX5_finds_0 14 rfl rfl)
theorem dX5_finds_15 : decode cX5_finds 15 = .ok (.iinc 1 1, 3) := dk_132 1 1 (dk_at dksX5_finds_0 15 rfl rfl)
theorem dX5_finds_18 : decode cX5_finds 18 = .ok (.goto (-16), 3) := dk_167 255 240 (dk_at dksX5_finds_0 18 rfl rfl)
theorem dX5_finds_21 : decode cX5_finds 21 = .ok (.aload_n 0, 1) := dk_42 (dk_at dksX5_finds_0 21 rfl rfl)
theorem dX5_finds_22 : decode cX5_finds 22 = .ok (.getfield 59, 3) := dk_180 0 59 (dk_at dksX5_finds_1 0 rfl rfl)
theorem dX5_finds_25 : decode cX5_finds 25 = .ok (.bipush 14, 2) := dk_16 14 (dk_at dksX5_finds_1 3 rfl rfl)
theorem dX5_finds_27 : decode cX5_finds 27 = .ok (.bipush 14, 2) := dk_16 14 (dk_at dksX5_finds_1 5 rfl rfl)
theorem dX5_finds_29 : decode cX5_finds 29 = .ok (.iastore, 1) := dk_79 (dk_at dksX5_finds_1 7 rfl rfl)
theorem dX5_finds_30 : decode cX5_finds 30 = .ok (.aload_n 0, 1) := dk_42 (dk_at dksX5_finds_1 8 rfl rfl)
theorem dX5_finds_31 : decode cX5_finds 31 = .ok (.getfield 62, 3) := dk_180 0 62 (dk_at dksX5_finds_1 9 rfl rfl)
theorem dX5_finds_34 : decode cX5_finds 34 = .ok (.iconst 0, 1) := dk_3 (dk_at dksX5_finds_1 12 rfl rfl)
theorem dX5_finds_35 : decode cX5_finds 35 = .ok (.bipush 14, 2) := dk_16 14 (dk_at dksX5_finds_1 13 rfl rfl)
theorem dX5_finds_37 : decode cX5_finds 37 = .ok (.iastore, 1) := dk_79 (dk_at dksX5_finds_1 15 rfl rfl)
theorem dX5_finds_38 : decode cX5_finds 38 = .ok (.iconst 1, 1) := dk_4 (dk_at dksX5_finds_1 16 rfl rfl)
theorem dX5_finds_39 : decode cX5_finds 39 = .ok (.istore_n 1, 1) := dk_60 (dk_at dksX5_finds_1 17 rfl rfl)
theorem dX5_finds_40 : decode cX5_finds 40 = .ok (.iconst 0, 1) := dk_3 (dk_at dksX5_finds_1 18 rfl rfl)
theorem dX5_finds_41 : decode cX5_finds 41 = .ok (.istore_n 2, 1) := dk_61 (dk_at dksX5_finds_1 19 rfl rfl)
theorem dX5_finds_42 : decode cX5_finds 42 = .ok (.iload_n 2, 1) := dk_28 (dk_at dksX5_finds_1 20 rfl rfl)
theorem dX5_finds_43 : decode cX5_finds 43 = .ok (.iload_n 1, 1) := dk_27 (dk_at dksX5_finds_1 21 rfl rfl)
theorem dX5_finds_44 : decode cX5_finds 44 = .ok (.if_icmp .ge 76, 3) := dk_162 0 76 (dk_at dksX5_finds_2 0 rfl rfl)
theorem dX5_finds_47 : decode cX5_finds 47 = .ok (.iconst 0, 1) := dk_3 (dk_at dksX5_finds_2 3 rfl rfl)
theorem dX5_finds_48 : decode cX5_finds 48 = .ok (.istore_n 3, 1) := dk_62 (dk_at dksX5_finds_2 4 rfl rfl)
theorem dX5_finds_49 : decode cX5_finds 49 = .ok (.iload_n 3, 1) := dk_29 (dk_at dksX5_finds_2 5 rfl rfl)
theorem dX5_finds_50 : decode cX5_finds 50 = .ok (.bipush 16, 2) := dk_16 16 (dk_at dksX5_finds_2 6 rfl rfl)
theorem dX5_finds_52 : decode cX5_finds 52 = .ok (.if_icmp .ge 62, 3) := dk_162 0 62 (dk_at dksX5_finds_2 8 rfl rfl)
theorem dX5_finds_55 : decode cX5_finds 55 = .ok (.aload_n 0, 1) := dk_42 (dk_at dksX5_finds_2 11 rfl rfl)
theorem dX5_finds_56 : decode cX5_finds 56 = .ok (.getfield 59, 3) := dk_180 0 59 (dk_at dksX5_finds_2 12 rfl rfl)
theorem dX5_finds_59 : decode cX5_finds 59 = .ok (.iload_n 3, 1) := dk_29 (dk_at dksX5_finds_2 15 rfl rfl)
theorem dX5_finds_60 : decode cX5_finds 60 = .ok (.iaload, 1) := dk_46 (dk_at dksX5_finds_2 16 rfl rfl)
theorem dX5_finds_61 : decode cX5_finds 61 = .ok (.ifCond .ge 47, 3) := dk_156 0 47 (dk_at dksX5_finds_2 17 rfl rfl)
theorem dX5_finds_64 : decode cX5_finds 64 = .ok (.aload_n 0, 1) := dk_42 (dk_at dksX5_finds_2 20 rfl rfl)
theorem dX5_finds_65 : decode cX5_finds 65 = .ok (.getfield 56, 3) := dk_180 0 56 (dk_at dksX5_finds_2 21 rfl rfl)
theorem dX5_finds_68 : decode cX5_finds 68 = .ok (.bipush 16, 2) := dk_16 16 (dk_at dksX5_finds_3 0 rfl rfl)
theorem dX5_finds_70 : decode cX5_finds 70 = .ok (.aload_n 0, 1) := dk_42 (dk_at dksX5_finds_3 2 rfl rfl)
theorem dX5_finds_71 : decode cX5_finds 71 = .ok (.getfield 62, 3) := dk_180 0 62 (dk_at dksX5_finds_3 3 rfl rfl)
theorem dX5_finds_74 : decode cX5_finds 74 = .ok (.iload_n 2, 1) := dk_28 (dk_at dksX5_finds_3 6 rfl rfl)
theorem dX5_finds_75 : decode cX5_finds 75 = .ok (.iaload, 1) := dk_46 (dk_at dksX5_finds_3 7 rfl rfl)
theorem dX5_finds_76 : decode cX5_finds 76 = .ok (.imul, 1) := dk_104 (dk_at dksX5_finds_3 8 rfl rfl)
theorem dX5_finds_77 : decode cX5_finds 77 = .ok (.iload_n 3, 1) := dk_29 (dk_at dksX5_finds_3 9 rfl rfl)
theorem dX5_finds_78 : decode cX5_finds 78 = .ok (.iadd, 1) := dk_96 (dk_at dksX5_finds_3 10 rfl rfl)
theorem dX5_finds_79 : decode cX5_finds 79 = .ok (.iaload, 1) := dk_46 (dk_at dksX5_finds_3 11 rfl rfl)
theorem dX5_finds_80 : decode cX5_finds 80 = .ok (.ifCond .ne 6, 3) := dk_154 0 6 (dk_at dksX5_finds_3 12 rfl rfl)
theorem dX5_finds_83 : decode cX5_finds 83 = .ok (.goto 25, 3) := dk_167 0 25 (dk_at dksX5_finds_3 15 rfl rfl)
theorem dX5_finds_86 : decode cX5_finds 86 = .ok (.aload_n 0, 1) := dk_42 (dk_at dksX5_finds_3 18 rfl rfl)
theorem dX5_finds_87 : decode cX5_finds 87 = .ok (.getfield 59, 3) := dk_180 0 59 (dk_at dksX5_finds_3 19 rfl rfl)
theorem dX5_finds_90 : decode cX5_finds 90 = .ok (.iload_n 3, 1) := dk_29 (dk_at dksX5_finds_3 22 rfl rfl)
theorem dX5_finds_91 : decode cX5_finds 91 = .ok (.aload_n 0, 1) := dk_42 (dk_at dksX5_finds_3 23 rfl rfl)
theorem dX5_finds_92 : decode cX5_finds 92 = .ok (.getfield 62, 3) := dk_180 0 62 (dk_at dksX5_finds_4 0 rfl rfl)
theorem dX5_finds_95 : decode cX5_finds 95 = .ok (.iload_n 2, 1) := dk_28 (dk_at dksX5_finds_4 3 rfl rfl)
theorem dX5_finds_96 : decode cX5_finds 96 = .ok (.iaload, 1) := dk_46 (dk_at dksX5_finds_4 4 rfl rfl)
theorem dX5_finds_97 : decode cX5_finds 97 = .ok (.iastore, 1) := dk_79 (dk_at dksX5_finds_4 5 rfl rfl)
theorem dX5_finds_98 : decode cX5_finds 98 = .ok (.aload_n 0, 1) := dk_42 (dk_at dksX5_finds_4 6 rfl rfl)
theorem dX5_finds_99 : decode cX5_finds 99 = .ok (.getfield 62, 3) := dk_180 0 62 (dk_at dksX5_finds_4 7 rfl rfl)
theorem dX5_finds_102 : decode cX5_finds 102 = .ok (.iload_n 1, 1) := dk_27 (dk_at dksX5_finds_4 10 rfl rfl)
theorem dX5_finds_103 : decode cX5_finds 103 = .ok (.iload_n 3, 1) := dk_29 (dk_at dksX5_finds_4 11 rfl rfl)
theorem dX5_finds_104 : decode cX5_finds 104 = .ok (.iastore, 1) := dk_79 (dk_at dksX5_finds_4 12 rfl rfl)
theorem dX5_finds_105 : decode cX5_finds 105 = .ok (.iinc 1 1, 3) := dk_132 1 1 (dk_at dksX5_finds_4 13 rfl rfl)
theorem dX5_finds_108 : decode cX5_finds 108 = .ok (.iinc 3 1, 3) := dk_132 3 1 (dk_at dksX5_finds_4 16 rfl rfl)
theorem dX5_finds_111 : decode cX5_finds 111 = .ok (.goto (-62), 3) := dk_167 255 194 (dk_at dksX5_finds_4 19 rfl rfl)
theorem dX5_finds_114 : decode cX5_finds 114 = .ok (.iinc 2 1, 3) := dk_132 2 1 (dk_at dksX5_finds_5 0 rfl rfl)
theorem dX5_finds_117 : decode cX5_finds 117 = .ok (.goto (-75), 3) := dk_167 255 181 (dk_at dksX5_finds_5 3 rfl rfl)
theorem dX5_finds_120 : decode cX5_finds 120 = .ok (.aload_n 0, 1) := dk_42 (dk_at dksX5_finds_5 6 rfl rfl)
theorem dX5_finds_121 : decode cX5_finds 121 = .ok (.getfield 59, 3) := dk_180 0 59 (dk_at dksX5_finds_5 7 rfl rfl)
theorem dX5_finds_124 : decode cX5_finds 124 = .ok (.bipush 15, 2) := dk_16 15 (dk_at dksX5_finds_5 10 rfl rfl)
theorem dX5_finds_126 : decode cX5_finds 126 = .ok (.iaload, 1) := dk_46 (dk_at dksX5_finds_5 12 rfl rfl)
theorem dX5_finds_127 : decode cX5_finds 127 = .ok (.ifCond .lt 7, 3) := dk_155 0 7 (dk_at dksX5_finds_5 13 rfl rfl)
theorem dX5_finds_130 : decode cX5_finds 130 = .ok (.iconst 1, 1) := dk_4 (dk_at dksX5_finds_5 16 rfl rfl)
theorem dX5_finds_131 : decode cX5_finds 131 = .ok (.goto 4, 3) := dk_167 0 4 (dk_at dksX5_finds_5 17 rfl rfl)
theorem dX5_finds_134 : decode cX5_finds 134 = .ok (.iconst 0, 1) := dk_3 (dk_at dksX5_finds_5 20 rfl rfl)
theorem dX5_finds_135 : decode cX5_finds 135 = .ok (.ireturn, 1) := dk_172 (dk_at dksX5_finds_5 21 rfl rfl)
abbrev cX5_who : ByteArray := prog_26_method_74_code
def yX5_who : MethodName := ⟨RX5, "who", "()I"⟩
def dkwX5_who_8 : List UInt8 := [29, 181, 1, 99, 132, 3, 1, 167, 255, 200, 27, 172]
abbrev dktX5_who_8 : List UInt8 := dkwX5_who_8 ++ []
def dkwX5_who_7 : List UInt8 := [184, 1, 28, 21, 4, 100, 184, 1, 80, 54, 5, 21, 5, 28, 161, 0, 6, 167, 0, 11, 21, 5, 61, 42]
abbrev dktX5_who_7 : List UInt8 := dkwX5_who_7 ++ dktX5_who_8
def dkwX5_who_6 : List UInt8 := [180, 0, 33, 3, 46, 162, 0, 52, 27, 42, 29, 182, 1, 22, 126, 184, 1, 28, 54, 4, 21, 4, 27]
abbrev dktX5_who_6 : List UInt8 := dkwX5_who_6 ++ dktX5_who_7
def dkwX5_who_5 : List UInt8 := [167, 255, 225, 27, 154, 0, 5, 3, 172, 42, 4, 181, 1, 95, 19, 1, 79, 61, 3, 62, 29, 42]
abbrev dktX5_who_5 : List UInt8 := dkwX5_who_5 ++ dktX5_who_6
def dkwX5_who_4 : List UInt8 := [162, 0, 27, 27, 42, 28, 182, 1, 92, 153, 0, 9, 4, 28, 120, 167, 0, 4, 3, 128, 60, 132, 2, 1]
abbrev dktX5_who_4 : List UInt8 := dkwX5_who_4 ++ dktX5_who_5
def dkwX5_who_3 : List UInt8 := [164, 0, 5, 2, 172, 132, 1, 2, 167, 255, 220, 3, 60, 3, 61, 28, 42, 180, 0, 33, 3, 46]
abbrev dktX5_who_3 : List UInt8 := dkwX5_who_3 ++ dktX5_who_4
def dkwX5_who_2 : List UInt8 := [162, 0, 34, 42, 42, 27, 182, 1, 89, 182, 1, 16, 153, 0, 14, 42, 27, 4, 96, 182, 1, 89, 4]
abbrev dktX5_who_2 : List UInt8 := dkwX5_who_2 ++ dktX5_who_3
def dkwX5_who_1 : List UInt8 := [153, 0, 13, 42, 180, 0, 18, 5, 112, 4, 160, 0, 5, 2, 172, 3, 60, 27, 42, 180, 0, 18]
abbrev dktX5_who_1 : List UInt8 := dkwX5_who_1 ++ dktX5_who_2
def dkwX5_who_0 : List UInt8 := [42, 3, 181, 0, 1, 42, 17, 3, 172, 182, 0, 247, 42, 180, 0, 18, 5, 16, 16, 184, 0, 189]
abbrev dktX5_who_0 : List UInt8 := dkwX5_who_0 ++ dktX5_who_1
theorem dksX5_who_0 : cX5_who.data.toList.drop 0 = dktX5_who_0 := by decide +kernel
theorem dksX5_who_1 : cX5_who.data.toList.drop 22 = dktX5_who_1 := dk_seg dksX5_who_0 22 rfl rfl
theorem dksX5_who_2 : cX5_who.data.toList.drop 44 = dktX5_who_2 := dk_seg dksX5_who_1 22 rfl rfl
theorem dksX5_who_3 : cX5_who.data.toList.drop 67 = dktX5_who_3 := dk_seg dksX5_who_2 23 rfl rfl
theorem dksX5_who_4 : cX5_who.data.toList.drop 89 = dktX5_who_4 := dk_seg dksX5_who_3 22 rfl rfl
theorem dksX5_who_5 : cX5_who.data.toList.drop 113 = dktX5_who_5 := dk_seg dksX5_who_4 24 rfl rfl
theorem dksX5_who_6 : cX5_who.data.toList.drop 135 = dktX5_who_6 := dk_seg dksX5_who_5 22 rfl rfl
theorem dksX5_who_7 : cX5_who.data.toList.drop 158 = dktX5_who_7 := dk_seg dksX5_who_6 23 rfl rfl
theorem dksX5_who_8 : cX5_who.data.toList.drop 182 = dktX5_who_8 := dk_seg dksX5_who_7 24 rfl rfl
theorem dX5_who_0 : decode cX5_who 0 = .ok (.aload_n 0, 1) := dk_42 (dk_at dksX5_who_0 0 rfl rfl)
theorem dX5_who_1 : decode cX5_who 1 = .ok (.iconst 0, 1) := dk_3 (dk_at dksX5_who_0 1 rfl rfl)
theorem dX5_who_2 : decode cX5_who 2 = .ok (.putfield 1, 3) := dk_181 0 1 (dk_at dksX5_who_0 2 rfl rfl)
theorem dX5_who_5 : decode cX5_who 5 = .ok (.aload_n 0, 1) := dk_42 (dk_at dksX5_who_0 5 rfl rfl)
theorem dX5_who_6 : decode cX5_who 6 = .ok (.sipush 940, 3) := dk_17 3 172 (dk_at dksX5_who_0 6 rfl rfl)
theorem dX5_who_9 : decode cX5_who 9 = .ok (.invokevirtual 247, 3) := dk_182 0 247 (dk_at dksX5_who_0 9 rfl rfl)
theorem dX5_who_12 : decode cX5_who 12 = .ok (.aload_n 0, 1) := dk_42 (dk_at dksX5_who_0 12 rfl rfl)
theorem dX5_who_13 : decode cX5_who 13 = .ok (.getfield 18, 3) := dk_180 0 18 (dk_at dksX5_who_0 13 rfl rfl)
theorem dX5_who_16 : decode cX5_who 16 = .ok (.iconst 2, 1) := dk_5 (dk_at dksX5_who_0 16 rfl rfl)
theorem dX5_who_17 : decode cX5_who 17 = .ok (.bipush 16, 2) := dk_16 16 (dk_at dksX5_who_0 17 rfl rfl)
theorem dX5_who_19 : decode cX5_who 19 = .ok (.invokestatic 189, 3) := dk_184 0 189 (dk_at dksX5_who_0 19 rfl rfl)
theorem dX5_who_22 : decode cX5_who 22 = .ok (.ifCond .eq 13, 3) := dk_153 0 13 (dk_at dksX5_who_1 0 rfl rfl)
theorem dX5_who_25 : decode cX5_who 25 = .ok (.aload_n 0, 1) := dk_42 (dk_at dksX5_who_1 3 rfl rfl)
theorem dX5_who_26 : decode cX5_who 26 = .ok (.getfield 18, 3) := dk_180 0 18 (dk_at dksX5_who_1 4 rfl rfl)
theorem dX5_who_29 : decode cX5_who 29 = .ok (.iconst 2, 1) := dk_5 (dk_at dksX5_who_1 7 rfl rfl)
theorem dX5_who_30 : decode cX5_who 30 = .ok (.irem, 1) := dk_112 (dk_at dksX5_who_1 8 rfl rfl)
theorem dX5_who_31 : decode cX5_who 31 = .ok (.iconst 1, 1) := dk_4 (dk_at dksX5_who_1 9 rfl rfl)
theorem dX5_who_32 : decode cX5_who 32 = .ok (.if_icmp .ne 5, 3) := dk_160 0 5 (dk_at dksX5_who_1 10 rfl rfl)
theorem dX5_who_35 : decode cX5_who 35 = .ok (.iconst (-1), 1) := dk_2 (dk_at dksX5_who_1 13 rfl rfl)
theorem dX5_who_36 : decode cX5_who 36 = .ok (.ireturn, 1) := dk_172 (dk_at dksX5_who_1 14 rfl rfl)
theorem dX5_who_37 : decode cX5_who 37 = .ok (.iconst 0, 1) := dk_3 (dk_at dksX5_who_1 15 rfl rfl)
theorem dX5_who_38 : decode cX5_who 38 = .ok (.istore_n 1, 1) := dk_60 (dk_at dksX5_who_1 16 rfl rfl)
theorem dX5_who_39 : decode cX5_who 39 = .ok (.iload_n 1, 1) := dk_27 (dk_at dksX5_who_1 17 rfl rfl)
theorem dX5_who_40 : decode cX5_who 40 = .ok (.aload_n 0, 1) := dk_42 (dk_at dksX5_who_1 18 rfl rfl)
theorem dX5_who_41 : decode cX5_who 41 = .ok (.getfield 18, 3) := dk_180 0 18 (dk_at dksX5_who_1 19 rfl rfl)
theorem dX5_who_44 : decode cX5_who 44 = .ok (.if_icmp .ge 34, 3) := dk_162 0 34 (dk_at dksX5_who_2 0 rfl rfl)
theorem dX5_who_47 : decode cX5_who 47 = .ok (.aload_n 0, 1) := dk_42 (dk_at dksX5_who_2 3 rfl rfl)
theorem dX5_who_48 : decode cX5_who 48 = .ok (.aload_n 0, 1) := dk_42 (dk_at dksX5_who_2 4 rfl rfl)
theorem dX5_who_49 : decode cX5_who 49 = .ok (.iload_n 1, 1) := dk_27 (dk_at dksX5_who_2 5 rfl rfl)
theorem dX5_who_50 : decode cX5_who 50 = .ok (.invokevirtual 345, 3) := dk_182 1 89 (dk_at dksX5_who_2 6 rfl rfl)
theorem dX5_who_53 : decode cX5_who 53 = .ok (.invokevirtual 272, 3) := dk_182 1 16 (dk_at dksX5_who_2 9 rfl rfl)
theorem dX5_who_56 : decode cX5_who 56 = .ok (.ifCond .eq 14, 3) := dk_153 0 14 (dk_at dksX5_who_2 12 rfl rfl)
theorem dX5_who_59 : decode cX5_who 59 = .ok (.aload_n 0, 1) := dk_42 (dk_at dksX5_who_2 15 rfl rfl)
theorem dX5_who_60 : decode cX5_who 60 = .ok (.iload_n 1, 1) := dk_27 (dk_at dksX5_who_2 16 rfl rfl)
theorem dX5_who_61 : decode cX5_who 61 = .ok (.iconst 1, 1) := dk_4 (dk_at dksX5_who_2 17 rfl rfl)
theorem dX5_who_62 : decode cX5_who 62 = .ok (.iadd, 1) := dk_96 (dk_at dksX5_who_2 18 rfl rfl)
theorem dX5_who_63 : decode cX5_who 63 = .ok (.invokevirtual 345, 3) := dk_182 1 89 (dk_at dksX5_who_2 19 rfl rfl)
theorem dX5_who_66 : decode cX5_who 66 = .ok (.iconst 1, 1) := dk_4 (dk_at dksX5_who_2 22 rfl rfl)
theorem dX5_who_67 : decode cX5_who 67 = .ok (.if_icmp .le 5, 3) := dk_164 0 5 (dk_at dksX5_who_3 0 rfl rfl)
theorem dX5_who_70 : decode cX5_who 70 = .ok (.iconst (-1), 1) := dk_2 (dk_at dksX5_who_3 3 rfl rfl)
theorem dX5_who_71 : decode cX5_who 71 = .ok (.ireturn, 1) := dk_172 (dk_at dksX5_who_3 4 rfl rfl)
theorem dX5_who_72 : decode cX5_who 72 = .ok (.iinc 1 2, 3) := dk_132 1 2 (dk_at dksX5_who_3 5 rfl rfl)
theorem dX5_who_75 : decode cX5_who 75 = .ok (.goto (-36), 3) := dk_167 255 220 (dk_at dksX5_who_3 8 rfl rfl)
theorem dX5_who_78 : decode cX5_who 78 = .ok (.iconst 0, 1) := dk_3 (dk_at dksX5_who_3 11 rfl rfl)
theorem dX5_who_79 : decode cX5_who 79 = .ok (.istore_n 1, 1) := dk_60 (dk_at dksX5_who_3 12 rfl rfl)
theorem dX5_who_80 : decode cX5_who 80 = .ok (.iconst 0, 1) := dk_3 (dk_at dksX5_who_3 13 rfl rfl)
theorem dX5_who_81 : decode cX5_who 81 = .ok (.istore_n 2, 1) := dk_61 (dk_at dksX5_who_3 14 rfl rfl)
theorem dX5_who_82 : decode cX5_who 82 = .ok (.iload_n 2, 1) := dk_28 (dk_at dksX5_who_3 15 rfl rfl)
theorem dX5_who_83 : decode cX5_who 83 = .ok (.aload_n 0, 1) := dk_42 (dk_at dksX5_who_3 16 rfl rfl)
theorem dX5_who_84 : decode cX5_who 84 = .ok (.getfield 33, 3) := dk_180 0 33 (dk_at dksX5_who_3 17 rfl rfl)
theorem dX5_who_87 : decode cX5_who 87 = .ok (.iconst 0, 1) := dk_3 (dk_at dksX5_who_3 20 rfl rfl)
theorem dX5_who_88 : decode cX5_who 88 = .ok (.iaload, 1) := dk_46 (dk_at dksX5_who_3 21 rfl rfl)
theorem dX5_who_89 : decode cX5_who 89 = .ok (.if_icmp .ge 27, 3) := dk_162 0 27 (dk_at dksX5_who_4 0 rfl rfl)
theorem dX5_who_92 : decode cX5_who 92 = .ok (.iload_n 1, 1) := dk_27 (dk_at dksX5_who_4 3 rfl rfl)
theorem dX5_who_93 : decode cX5_who 93 = .ok (.aload_n 0, 1) := dk_42 (dk_at dksX5_who_4 4 rfl rfl)
theorem dX5_who_94 : decode cX5_who 94 = .ok (.iload_n 2, 1) := dk_28 (dk_at dksX5_who_4 5 rfl rfl)
theorem dX5_who_95 : decode cX5_who 95 = .ok (.invokevirtual 348, 3) := dk_182 1 92 (dk_at dksX5_who_4 6 rfl rfl)
theorem dX5_who_98 : decode cX5_who 98 = .ok (.ifCond .eq 9, 3) := dk_153 0 9 (dk_at dksX5_who_4 9 rfl rfl)
theorem dX5_who_101 : decode cX5_who 101 = .ok (.iconst 1, 1) := dk_4 (dk_at dksX5_who_4 12 rfl rfl)
theorem dX5_who_102 : decode cX5_who 102 = .ok (.iload_n 2, 1) := dk_28 (dk_at dksX5_who_4 13 rfl rfl)
theorem dX5_who_103 : decode cX5_who 103 = .ok (.ishl, 1) := dk_120 (dk_at dksX5_who_4 14 rfl rfl)
theorem dX5_who_104 : decode cX5_who 104 = .ok (.goto 4, 3) := dk_167 0 4 (dk_at dksX5_who_4 15 rfl rfl)
theorem dX5_who_107 : decode cX5_who 107 = .ok (.iconst 0, 1) := dk_3 (dk_at dksX5_who_4 18 rfl rfl)
theorem dX5_who_108 : decode cX5_who 108 = .ok (.ior, 1) := dk_128 (dk_at dksX5_who_4 19 rfl rfl)
theorem dX5_who_109 : decode cX5_who 109 = .ok (.istore_n 1, 1) := dk_60 (dk_at dksX5_who_4 20 rfl rfl)
theorem dX5_who_110 : decode cX5_who 110 = .ok (.iinc 2 1, 3) := dk_132 2 1 (dk_at dksX5_who_4 21 rfl rfl)
theorem dX5_who_113 : decode cX5_who 113 = .ok (.goto (-31), 3) := dk_167 255 225 (dk_at dksX5_who_5 0 rfl rfl)
theorem dX5_who_116 : decode cX5_who 116 = .ok (.iload_n 1, 1) := dk_27 (dk_at dksX5_who_5 3 rfl rfl)
theorem dX5_who_117 : decode cX5_who 117 = .ok (.ifCond .ne 5, 3) := dk_154 0 5 (dk_at dksX5_who_5 4 rfl rfl)
theorem dX5_who_120 : decode cX5_who 120 = .ok (.iconst 0, 1) := dk_3 (dk_at dksX5_who_5 7 rfl rfl)
theorem dX5_who_121 : decode cX5_who 121 = .ok (.ireturn, 1) := dk_172 (dk_at dksX5_who_5 8 rfl rfl)
theorem dX5_who_122 : decode cX5_who 122 = .ok (.aload_n 0, 1) := dk_42 (dk_at dksX5_who_5 9 rfl rfl)
theorem dX5_who_123 : decode cX5_who 123 = .ok (.iconst 1, 1) := dk_4 (dk_at dksX5_who_5 10 rfl rfl)
theorem dX5_who_124 : decode cX5_who 124 = .ok (.putfield 351, 3) := dk_181 1 95 (dk_at dksX5_who_5 11 rfl rfl)
theorem dX5_who_127 : decode cX5_who 127 = .ok (.ldc_w 335, 3) := dk_19 1 79 (dk_at dksX5_who_5 14 rfl rfl)
theorem dX5_who_130 : decode cX5_who 130 = .ok (.istore_n 2, 1) := dk_61 (dk_at dksX5_who_5 17 rfl rfl)
theorem dX5_who_131 : decode cX5_who 131 = .ok (.iconst 0, 1) := dk_3 (dk_at dksX5_who_5 18 rfl rfl)
theorem dX5_who_132 : decode cX5_who 132 = .ok (.istore_n 3, 1) := dk_62 (dk_at dksX5_who_5 19 rfl rfl)
theorem dX5_who_133 : decode cX5_who 133 = .ok (.iload_n 3, 1) := dk_29 (dk_at dksX5_who_5 20 rfl rfl)
theorem dX5_who_134 : decode cX5_who 134 = .ok (.aload_n 0, 1) := dk_42 (dk_at dksX5_who_5 21 rfl rfl)
theorem dX5_who_135 : decode cX5_who 135 = .ok (.getfield 33, 3) := dk_180 0 33 (dk_at dksX5_who_6 0 rfl rfl)
theorem dX5_who_138 : decode cX5_who 138 = .ok (.iconst 0, 1) := dk_3 (dk_at dksX5_who_6 3 rfl rfl)
theorem dX5_who_139 : decode cX5_who 139 = .ok (.iaload, 1) := dk_46 (dk_at dksX5_who_6 4 rfl rfl)
theorem dX5_who_140 : decode cX5_who 140 = .ok (.if_icmp .ge 52, 3) := dk_162 0 52 (dk_at dksX5_who_6 5 rfl rfl)
theorem dX5_who_143 : decode cX5_who 143 = .ok (.iload_n 1, 1) := dk_27 (dk_at dksX5_who_6 8 rfl rfl)
theorem dX5_who_144 : decode cX5_who 144 = .ok (.aload_n 0, 1) := dk_42 (dk_at dksX5_who_6 9 rfl rfl)
theorem dX5_who_145 : decode cX5_who 145 = .ok (.iload_n 3, 1) := dk_29 (dk_at dksX5_who_6 10 rfl rfl)
theorem dX5_who_146 : decode cX5_who 146 = .ok (.invokevirtual 278, 3) := dk_182 1 22 (dk_at dksX5_who_6 11 rfl rfl)
theorem dX5_who_149 : decode cX5_who 149 = .ok (.iand, 1) := dk_126 (dk_at dksX5_who_6 14 rfl rfl)
theorem dX5_who_150 : decode cX5_who 150 = .ok (.invokestatic 284, 3) := dk_184 1 28 (dk_at dksX5_who_6 15 rfl rfl)
theorem dX5_who_153 : decode cX5_who 153 = .ok (.istore 4, 2) := dk_54 4 (dk_at dksX5_who_6 18 rfl rfl)
theorem dX5_who_155 : decode cX5_who 155 = .ok (.iload 4, 2) := dk_21 4 (dk_at dksX5_who_6 20 rfl rfl)
theorem dX5_who_157 : decode cX5_who 157 = .ok (.iload_n 1, 1) := dk_27 (dk_at dksX5_who_6 22 rfl rfl)
theorem dX5_who_158 : decode cX5_who 158 = .ok (.invokestatic 284, 3) := dk_184 1 28 (dk_at dksX5_who_7 0 rfl rfl)
theorem dX5_who_161 : decode cX5_who 161 = .ok (.iload 4, 2) := dk_21 4 (dk_at dksX5_who_7 3 rfl rfl)
theorem dX5_who_163 : decode cX5_who 163 = .ok (.isub, 1) := dk_100 (dk_at dksX5_who_7 5 rfl rfl)
theorem dX5_who_164 : decode cX5_who 164 = .ok (.invokestatic 336, 3) := dk_184 1 80 (dk_at dksX5_who_7 6 rfl rfl)
theorem dX5_who_167 : decode cX5_who 167 = .ok (.istore 5, 2) := dk_54 5 (dk_at dksX5_who_7 9 rfl rfl)
theorem dX5_who_169 : decode cX5_who 169 = .ok (.iload 5, 2) := dk_21 5 (dk_at dksX5_who_7 11 rfl rfl)
theorem dX5_who_171 : decode cX5_who 171 = .ok (.iload_n 2, 1) := dk_28 (dk_at dksX5_who_7 13 rfl rfl)
theorem dX5_who_172 : decode cX5_who 172 = .ok (.if_icmp .lt 6, 3) := dk_161 0 6 (dk_at dksX5_who_7 14 rfl rfl)
theorem dX5_who_175 : decode cX5_who 175 = .ok (.goto 11, 3) := dk_167 0 11 (dk_at dksX5_who_7 17 rfl rfl)
theorem dX5_who_178 : decode cX5_who 178 = .ok (.iload 5, 2) := dk_21 5 (dk_at dksX5_who_7 20 rfl rfl)
theorem dX5_who_180 : decode cX5_who 180 = .ok (.istore_n 2, 1) := dk_61 (dk_at dksX5_who_7 22 rfl rfl)
theorem dX5_who_181 : decode cX5_who 181 = .ok (.aload_n 0, 1) := dk_42 (dk_at dksX5_who_7 23 rfl rfl)
theorem dX5_who_182 : decode cX5_who 182 = .ok (.iload_n 3, 1) := dk_29 (dk_at dksX5_who_8 0 rfl rfl)
theorem dX5_who_183 : decode cX5_who 183 = .ok (.putfield 355, 3) := dk_181 1 99 (dk_at dksX5_who_8 1 rfl rfl)
theorem dX5_who_186 : decode cX5_who 186 = .ok (.iinc 3 1, 3) := dk_132 3 1 (dk_at dksX5_who_8 4 rfl rfl)
theorem dX5_who_189 : decode cX5_who 189 = .ok (.goto (-56), 3) := dk_167 255 200 (dk_at dksX5_who_8 7 rfl rfl)
theorem dX5_who_192 : decode cX5_who 192 = .ok (.iload_n 1, 1) := dk_27 (dk_at dksX5_who_8 10 rfl rfl)
theorem dX5_who_193 : decode cX5_who 193 = .ok (.ireturn, 1) := dk_172 (dk_at dksX5_who_8 11 rfl rfl)
abbrev cX5_octet : ByteArray := prog_26_method_12_code
def yX5_octet : MethodName := ⟨RX5, "octet", "(I)I"⟩
def dkwX5_octet_0 : List UInt8 := [42, 180, 0, 14, 27, 51, 17, 0, 255, 126, 172]
abbrev dktX5_octet_0 : List UInt8 := dkwX5_octet_0 ++ []
theorem dksX5_octet_0 : cX5_octet.data.toList.drop 0 = dktX5_octet_0 := by decide +kernel
theorem dX5_octet_0 : decode cX5_octet 0 = .ok (.aload_n 0, 1) := dk_42 (dk_at dksX5_octet_0 0 rfl rfl)
theorem dX5_octet_1 : decode cX5_octet 1 = .ok (.getfield 14, 3) := dk_180 0 14 (dk_at dksX5_octet_0 1 rfl rfl)
theorem dX5_octet_4 : decode cX5_octet 4 = .ok (.iload_n 1, 1) := dk_27 (dk_at dksX5_octet_0 4 rfl rfl)
theorem dX5_octet_5 : decode cX5_octet 5 = .ok (.baload, 1) := dk_51 (dk_at dksX5_octet_0 5 rfl rfl)
theorem dX5_octet_6 : decode cX5_octet 6 = .ok (.sipush 255, 3) := dk_17 0 255 (dk_at dksX5_octet_0 6 rfl rfl)
theorem dX5_octet_9 : decode cX5_octet 9 = .ok (.iand, 1) := dk_126 (dk_at dksX5_octet_0 9 rfl rfl)
theorem dX5_octet_10 : decode cX5_octet 10 = .ok (.ireturn, 1) := dk_172 (dk_at dksX5_octet_0 10 rfl rfl)
abbrev cX5_isMask : ByteArray := prog_26_method_73_code
def yX5_isMask : MethodName := ⟨RX5, "isMask", "(I)Z"⟩
def dkwX5_isMask_3 : List UInt8 := [172]
abbrev dktX5_isMask_3 : List UInt8 := dkwX5_isMask_3 ++ []
def dkwX5_isMask_2 : List UInt8 := [160, 0, 7, 4, 167, 0, 4, 3, 160, 0, 7, 4, 167, 0, 4, 3, 61, 132, 3, 2, 167, 255, 194, 28]
abbrev dktX5_isMask_2 : List UInt8 := dkwX5_isMask_2 ++ dktX5_isMask_3
def dkwX5_isMask_1 : List UInt8 := [159, 0, 39, 42, 27, 182, 1, 22, 42, 29, 182, 1, 89, 184, 0, 214, 42, 29, 4, 96, 182, 1, 89, 4]
abbrev dktX5_isMask_1 : List UInt8 := dkwX5_isMask_1 ++ dktX5_isMask_2
def dkwX5_isMask_0 : List UInt8 := [4, 61, 3, 62, 29, 42, 180, 0, 18, 162, 0, 60, 28, 153, 0, 48, 42, 29, 182, 1, 89, 27]
abbrev dktX5_isMask_0 : List UInt8 := dkwX5_isMask_0 ++ dktX5_isMask_1
theorem dksX5_isMask_0 : cX5_isMask.data.toList.drop 0 = dktX5_isMask_0 := by decide +kernel
theorem dksX5_isMask_1 : cX5_isMask.data.toList.drop 22 = dktX5_isMask_1 := dk_seg dksX5_isMask_0 22 rfl rfl
theorem dksX5_isMask_2 : cX5_isMask.data.toList.drop 46 = dktX5_isMask_2 := dk_seg dksX5_isMask_1 24 rfl rfl
theorem dksX5_isMask_3 : cX5_isMask.data.toList.drop 70 = dktX5_isMask_3 := dk_seg dksX5_isMask_2 24 rfl rfl
theorem dX5_isMask_0 : decode cX5_isMask 0 = .ok (.iconst 1, 1) := dk_4 (dk_at dksX5_isMask_0 0 rfl rfl)
theorem dX5_isMask_1 : decode cX5_isMask 1 = .ok (.istore_n 2, 1) := dk_61 (dk_at dksX5_isMask_0 1 rfl rfl)
theorem dX5_isMask_2 : decode cX5_isMask 2 = .ok (.iconst 0, 1) := dk_3 (dk_at dksX5_isMask_0 2 rfl rfl)
theorem dX5_isMask_3 : decode cX5_isMask 3 = .ok (.istore_n 3, 1) := dk_62 (dk_at dksX5_isMask_0 3 rfl rfl)
theorem dX5_isMask_4 : decode cX5_isMask 4 = .ok (.iload_n 3, 1) := dk_29 (dk_at dksX5_isMask_0 4 rfl rfl)
theorem dX5_isMask_5 : decode cX5_isMask 5 = .ok (.aload_n 0, 1) := dk_42 (dk_at dksX5_isMask_0 5 rfl rfl)
theorem dX5_isMask_6 : decode cX5_isMask 6 = .ok (.getfield 18, 3) := dk_180 0 18 (dk_at dksX5_isMask_0 6 rfl rfl)
theorem dX5_isMask_9 : decode cX5_isMask 9 = .ok (.if_icmp .ge 60, 3) := dk_162 0 60 (dk_at dksX5_isMask_0 9 rfl rfl)
theorem dX5_isMask_12 : decode cX5_isMask 12 = .ok (.iload_n 2, 1) := dk_28 (dk_at dksX5_isMask_0 12 rfl rfl)
theorem dX5_isMask_13 : decode cX5_isMask 13 = .ok (.ifCond .eq 48, 3) := dk_153 0 48 (dk_at dksX5_isMask_0 13 rfl rfl)
theorem dX5_isMask_16 : decode cX5_isMask 16 = .ok (.aload_n 0, 1) := dk_42 (dk_at dksX5_isMask_0 16 rfl rfl)
theorem dX5_isMask_17 : decode cX5_isMask 17 = .ok (.iload_n 3, 1) := dk_29 (dk_at dksX5_isMask_0 17 rfl rfl)
theorem dX5_isMask_18 : decode cX5_isMask 18 = .ok (.invokevirtual 345, 3) := dk_182 1 89 (dk_at dksX5_isMask_0 18 rfl rfl)
theorem dX5_isMask_21 : decode cX5_isMask 21 = .ok (.iload_n 1, 1) := dk_27 (dk_at dksX5_isMask_0 21 rfl rfl)
theorem dX5_isMask_22 : decode cX5_isMask 22 = .ok (.if_icmp .eq 39, 3) := dk_159 0 39 (dk_at dksX5_isMask_1 0 rfl rfl)
theorem dX5_isMask_25 : decode cX5_isMask 25 = .ok (.aload_n 0, 1) := dk_42 (dk_at dksX5_isMask_1 3 rfl rfl)
theorem dX5_isMask_26 : decode cX5_isMask 26 = .ok (.iload_n 1, 1) := dk_27 (dk_at dksX5_isMask_1 4 rfl rfl)
theorem dX5_isMask_27 : decode cX5_isMask 27 = .ok (.invokevirtual 278, 3) := dk_182 1 22 (dk_at dksX5_isMask_1 5 rfl rfl)
theorem dX5_isMask_30 : decode cX5_isMask 30 = .ok (.aload_n 0, 1) := dk_42 (dk_at dksX5_isMask_1 8 rfl rfl)
theorem dX5_isMask_31 : decode cX5_isMask 31 = .ok (.iload_n 3, 1) := dk_29 (dk_at dksX5_isMask_1 9 rfl rfl)
theorem dX5_isMask_32 : decode cX5_isMask 32 = .ok (.invokevirtual 345, 3) := dk_182 1 89 (dk_at dksX5_isMask_1 10 rfl rfl)
theorem dX5_isMask_35 : decode cX5_isMask 35 = .ok (.invokestatic 214, 3) := dk_184 0 214 (dk_at dksX5_isMask_1 13 rfl rfl)
theorem dX5_isMask_38 : decode cX5_isMask 38 = .ok (.aload_n 0, 1) := dk_42 (dk_at dksX5_isMask_1 16 rfl rfl)
theorem dX5_isMask_39 : decode cX5_isMask 39 = .ok (.iload_n 3, 1) := dk_29 (dk_at dksX5_isMask_1 17 rfl rfl)
theorem dX5_isMask_40 : decode cX5_isMask 40 = .ok (.iconst 1, 1) := dk_4 (dk_at dksX5_isMask_1 18 rfl rfl)
theorem dX5_isMask_41 : decode cX5_isMask 41 = .ok (.iadd, 1) := dk_96 (dk_at dksX5_isMask_1 19 rfl rfl)
theorem dX5_isMask_42 : decode cX5_isMask 42 = .ok (.invokevirtual 345, 3) := dk_182 1 89 (dk_at dksX5_isMask_1 20 rfl rfl)
theorem dX5_isMask_45 : decode cX5_isMask 45 = .ok (.iconst 1, 1) := dk_4 (dk_at dksX5_isMask_1 23 rfl rfl)
theorem dX5_isMask_46 : decode cX5_isMask 46 = .ok (.if_icmp .ne 7, 3) := dk_160 0 7 (dk_at dksX5_isMask_2 0 rfl rfl)
theorem dX5_isMask_49 : decode cX5_isMask 49 = .ok (.iconst 1, 1) := dk_4 (dk_at dksX5_isMask_2 3 rfl rfl)
theorem dX5_isMask_50 : decode cX5_isMask 50 = .ok (.goto 4, 3) := dk_167 0 4 (dk_at dksX5_isMask_2 4 rfl rfl)
theorem dX5_isMask_53 : decode cX5_isMask 53 = .ok (.iconst 0, 1) := dk_3 (dk_at dksX5_isMask_2 7 rfl rfl)
theorem dX5_isMask_54 : decode cX5_isMask 54 = .ok (.if_icmp .ne 7, 3) := dk_160 0 7 (dk_at dksX5_isMask_2 8 rfl rfl)
theorem dX5_isMask_57 : decode cX5_isMask 57 = .ok (.iconst 1, 1) := dk_4 (dk_at dksX5_isMask_2 11 rfl rfl)
theorem dX5_isMask_58 : decode cX5_isMask 58 = .ok (.goto 4, 3) := dk_167 0 4 (dk_at dksX5_isMask_2 12 rfl rfl)
theorem dX5_isMask_61 : decode cX5_isMask 61 = .ok (.iconst 0, 1) := dk_3 (dk_at dksX5_isMask_2 15 rfl rfl)
theorem dX5_isMask_62 : decode cX5_isMask 62 = .ok (.istore_n 2, 1) := dk_61 (dk_at dksX5_isMask_2 16 rfl rfl)
theorem dX5_isMask_63 : decode cX5_isMask 63 = .ok (.iinc 3 2, 3) := dk_132 3 2 (dk_at dksX5_isMask_2 17 rfl rfl)
theorem dX5_isMask_66 : decode cX5_isMask 66 = .ok (.goto (-62), 3) := dk_167 255 194 (dk_at dksX5_isMask_2 20 rfl rfl)
theorem dX5_isMask_69 : decode cX5_isMask 69 = .ok (.iload_n 2, 1) := dk_28 (dk_at dksX5_isMask_2 23 rfl rfl)
theorem dX5_isMask_70 : decode cX5_isMask 70 = .ok (.ireturn, 1) := dk_172 (dk_at dksX5_isMask_3 0 rfl rfl)
abbrev cX5_ask : ByteArray := prog_26_method_75_code
def yX5_ask : MethodName := ⟨RX5, "ask", "()I"⟩
def dkwX5_ask_0 : List UInt8 := [42, 3, 181, 0, 1, 42, 180, 1, 95, 153, 0, 10, 42, 180, 1, 99, 167, 0, 4, 2, 172]
abbrev dktX5_ask_0 : List UInt8 := dkwX5_ask_0 ++ []
theorem dksX5_ask_0 : cX5_ask.data.toList.drop 0 = dktX5_ask_0 := by decide +kernel
theorem dX5_ask_0 : decode cX5_ask 0 = .ok (.aload_n 0, 1) := dk_42 (dk_at dksX5_ask_0 0 rfl rfl)
theorem dX5_ask_1 : decode cX5_ask 1 = .ok (.iconst 0, 1) := dk_3 (dk_at dksX5_ask_0 1 rfl rfl)
theorem dX5_ask_2 : decode cX5_ask 2 = .ok (.putfield 1, 3) := dk_181 0 1 (dk_at dksX5_ask_0 2 rfl rfl)
theorem dX5_ask_5 : decode cX5_ask 5 = .ok (.aload_n 0, 1) := dk_42 (dk_at dksX5_ask_0 5 rfl rfl)
theorem dX5_ask_6 : decode cX5_ask 6 = .ok (.getfield 351, 3) := dk_180 1 95 (dk_at dksX5_ask_0 6 rfl rfl)
theorem dX5_ask_9 : decode cX5_ask 9 = .ok (.ifCond .eq 10, 3) := dk_153 0 10 (dk_at dksX5_ask_0 9 rfl rfl)
theorem dX5_ask_12 : decode cX5_ask 12 = .ok (.aload_n 0, 1) := dk_42 (dk_at dksX5_ask_0 12 rfl rfl)
theorem dX5_ask_13 : decode cX5_ask 13 = .ok (.getfield 355, 3) := dk_180 1 99 (dk_at dksX5_ask_0 13 rfl rfl)
theorem dX5_ask_16 : decode cX5_ask 16 = .ok (.goto 4, 3) := dk_167 0 4 (dk_at dksX5_ask_0 16 rfl rfl)
theorem dX5_ask_19 : decode cX5_ask 19 = .ok (.iconst (-1), 1) := dk_2 (dk_at dksX5_ask_0 19 rfl rfl)
theorem dX5_ask_20 : decode cX5_ask 20 = .ok (.ireturn, 1) := dk_172 (dk_at dksX5_ask_0 20 rfl rfl)
abbrev cX5_serve : ByteArray := prog_26_method_77_code
def yX5_serve : MethodName := ⟨RX5, "serve", "(I)I"⟩
def dkwX5_serve_5 : List UInt8 := [156, 0, 5, 2, 172, 42, 4, 181, 1, 105, 42, 29, 181, 1, 108, 29, 184, 1, 28, 172]
abbrev dktX5_serve_5 : List UInt8 := dkwX5_serve_5 ++ []
def dkwX5_serve_4 : List UInt8 := [162, 0, 16, 42, 27, 21, 4, 182, 1, 102, 153, 0, 6, 21, 4, 62, 132, 4, 1, 167, 255, 209, 29]
abbrev dktX5_serve_4 : List UInt8 := dkwX5_serve_4 ++ dktX5_serve_5
def dkwX5_serve_3 : List UInt8 := [21, 4, 28, 2, 130, 126, 154, 0, 32, 29, 155, 0, 15, 21, 4, 184, 1, 28, 29, 184, 1, 28]
abbrev dktX5_serve_3 : List UInt8 := dkwX5_serve_3 ++ dktX5_serve_4
def dkwX5_serve_2 : List UInt8 := [120, 167, 0, 4, 3, 128, 61, 132, 3, 1, 167, 255, 217, 2, 62, 3, 54, 4, 21, 4, 28, 163, 0, 47]
abbrev dktX5_serve_2 : List UInt8 := dkwX5_serve_2 ++ dktX5_serve_3
def dkwX5_serve_1 : List UInt8 := [3, 46, 162, 0, 35, 28, 42, 180, 0, 33, 16, 47, 8, 29, 104, 96, 27, 96, 46, 158, 0, 9, 4, 29]
abbrev dktX5_serve_1 : List UInt8 := dkwX5_serve_1 ++ dktX5_serve_2
def dkwX5_serve_0 : List UInt8 := [42, 3, 181, 0, 1, 42, 27, 182, 1, 25, 154, 0, 5, 2, 172, 3, 61, 3, 62, 29, 42, 180, 0, 33]
abbrev dktX5_serve_0 : List UInt8 := dkwX5_serve_0 ++ dktX5_serve_1
theorem dksX5_serve_0 : cX5_serve.data.toList.drop 0 = dktX5_serve_0 := by decide +kernel
theorem dksX5_serve_1 : cX5_serve.data.toList.drop 24 = dktX5_serve_1 := dk_seg dksX5_serve_0 24 rfl rfl
theorem dksX5_serve_2 : cX5_serve.data.toList.drop 48 = dktX5_serve_2 := dk_seg dksX5_serve_1 24 rfl rfl
theorem dksX5_serve_3 : cX5_serve.data.toList.drop 72 = dktX5_serve_3 := dk_seg dksX5_serve_2 24 rfl rfl
theorem dksX5_serve_4 : cX5_serve.data.toList.drop 94 = dktX5_serve_4 := dk_seg dksX5_serve_3 22 rfl rfl
theorem dksX5_serve_5 : cX5_serve.data.toList.drop 117 = dktX5_serve_5 := dk_seg dksX5_serve_4 23 rfl rfl
theorem dX5_serve_0 : decode cX5_serve 0 = .ok (.aload_n 0, 1) := dk_42 (dk_at dksX5_serve_0 0 rfl rfl)
theorem dX5_serve_1 : decode cX5_serve 1 = .ok (.iconst 0, 1) := dk_3 (dk_at dksX5_serve_0 1 rfl rfl)
theorem dX5_serve_2 : decode cX5_serve 2 = .ok (.putfield 1, 3) := dk_181 0 1 (dk_at dksX5_serve_0 2 rfl rfl)
theorem dX5_serve_5 : decode cX5_serve 5 = .ok (.aload_n 0, 1) := dk_42 (dk_at dksX5_serve_0 5 rfl rfl)
theorem dX5_serve_6 : decode cX5_serve 6 = .ok (.iload_n 1, 1) := dk_27 (dk_at dksX5_serve_0 6 rfl rfl)
theorem dX5_serve_7 : decode cX5_serve 7 = .ok (.invokevirtual 281, 3) := dk_182 1 25 (dk_at dksX5_serve_0 7 rfl rfl)
theorem dX5_serve_10 : decode cX5_serve 10 = .ok (.ifCond .ne 5, 3) := dk_154 0 5 (dk_at dksX5_serve_0 10 rfl rfl)
theorem dX5_serve_13 : decode cX5_serve 13 = .ok (.iconst (-1), 1) := dk_2 (dk_at dksX5_serve_0 13 rfl rfl)
theorem dX5_serve_14 : decode cX5_serve 14 = .ok (.ireturn, 1) := dk_172 (dk_at dksX5_serve_0 14 rfl rfl)
theorem dX5_serve_15 : decode cX5_serve 15 = .ok (.iconst 0, 1) := dk_3 (dk_at dksX5_serve_0 15 rfl rfl)
theorem dX5_serve_16 : decode cX5_serve 16 = .ok (.istore_n 2, 1) := dk_61 (dk_at dksX5_serve_0 16 rfl rfl)
theorem dX5_serve_17 : decode cX5_serve 17 = .ok (.iconst 0, 1) := dk_3 (dk_at dksX5_serve_0 17 rfl rfl)
theorem dX5_serve_18 : decode cX5_serve 18 = .ok (.istore_n 3, 1) := dk_62 (dk_at dksX5_serve_0 18 rfl rfl)
theorem dX5_serve_19 : decode cX5_serve 19 = .ok (.iload_n 3, 1) := dk_29 (dk_at dksX5_serve_0 19 rfl rfl)
theorem dX5_serve_20 : decode cX5_serve 20 = .ok (.aload_n 0, 1) := dk_42 (dk_at dksX5_serve_0 20 rfl rfl)
theorem dX5_serve_21 : decode cX5_serve 21 = .ok (.getfield 33, 3) := dk_180 0 33 (dk_at dksX5_serve_0 21 rfl rfl)
theorem dX5_serve_24 : decode cX5_serve 24 = .ok (.iconst 0, 1) := dk_3 (dk_at dksX5_serve_1 0 rfl rfl)
theorem dX5_serve_25 : decode cX5_serve 25 = .ok (.iaload, 1) := dk_46 (dk_at dksX5_serve_1 1 rfl rfl)
theorem dX5_serve_26 : decode cX5_serve 26 = .ok (.if_icmp .ge 35, 3) := dk_162 0 35 (dk_at dksX5_serve_1 2 rfl rfl)
theorem dX5_serve_29 : decode cX5_serve 29 = .ok (.iload_n 2, 1) := dk_28 (dk_at dksX5_serve_1 5 rfl rfl)
theorem dX5_serve_30 : decode cX5_serve 30 = .ok (.aload_n 0, 1) := dk_42 (dk_at dksX5_serve_1 6 rfl rfl)
theorem dX5_serve_31 : decode cX5_serve 31 = .ok (.getfield 33, 3) := dk_180 0 33 (dk_at dksX5_serve_1 7 rfl rfl)
theorem dX5_serve_34 : decode cX5_serve 34 = .ok (.bipush 47, 2) := dk_16 47 (dk_at dksX5_serve_1 10 rfl rfl)
theorem dX5_serve_36 : decode cX5_serve 36 = .ok (.iconst 5, 1) := dk_8 (dk_at dksX5_serve_1 12 rfl rfl)
theorem dX5_serve_37 : decode cX5_serve 37 = .ok (.iload_n 3, 1) := dk_29 (dk_at dksX5_serve_1 13 rfl rfl)
theorem dX5_serve_38 : decode cX5_serve 38 = .ok (.imul, 1) := dk_104 (dk_at dksX5_serve_1 14 rfl rfl)
theorem dX5_serve_39 : decode cX5_serve 39 = .ok (.iadd, 1) := dk_96 (dk_at dksX5_serve_1 15 rfl rfl)
theorem dX5_serve_40 : decode cX5_serve 40 = .ok (.iload_n 1, 1) := dk_27 (dk_at dksX5_serve_1 16 rfl rfl)
theorem dX5_serve_41 : decode cX5_serve 41 = .ok (.iadd, 1) := dk_96 (dk_at dksX5_serve_1 17 rfl rfl)
theorem dX5_serve_42 : decode cX5_serve 42 = .ok (.iaload, 1) := dk_46 (dk_at dksX5_serve_1 18 rfl rfl)
theorem dX5_serve_43 : decode cX5_serve 43 = .ok (.ifCond .le 9, 3) := dk_158 0 9 (dk_at dksX5_serve_1 19 rfl rfl)
theorem dX5_serve_46 : decode cX5_serve 46 = .ok (.iconst 1, 1) := dk_4 (dk_at dksX5_serve_1 22 rfl rfl)
theorem dX5_serve_47 : decode cX5_serve 47 = .ok (.iload_n 3, 1) := dk_29 (dk_at dksX5_serve_1 23 rfl rfl)
theorem dX5_serve_48 : decode cX5_serve 48 = .ok (.ishl, 1) := dk_120 (dk_at dksX5_serve_2 0 rfl rfl)
theorem dX5_serve_49 : decode cX5_serve 49 = .ok (.goto 4, 3) := dk_167 0 4 (dk_at dksX5_serve_2 1 rfl rfl)
theorem dX5_serve_52 : decode cX5_serve 52 = .ok (.iconst 0, 1) := dk_3 (dk_at dksX5_serve_2 4 rfl rfl)
theorem dX5_serve_53 : decode cX5_serve 53 = .ok (.ior, 1) := dk_128 (dk_at dksX5_serve_2 5 rfl rfl)
theorem dX5_serve_54 : decode cX5_serve 54 = .ok (.istore_n 2, 1) := dk_61 (dk_at dksX5_serve_2 6 rfl rfl)
theorem dX5_serve_55 : decode cX5_serve 55 = .ok (.iinc 3 1, 3) := dk_132 3 1 (dk_at dksX5_serve_2 7 rfl rfl)
theorem dX5_serve_58 : decode cX5_serve 58 = .ok (.goto (-39), 3) := dk_167 255 217 (dk_at dksX5_serve_2 10 rfl rfl)
theorem dX5_serve_61 : decode cX5_serve 61 = .ok (.iconst (-1), 1) := dk_2 (dk_at dksX5_serve_2 13 rfl rfl)
theorem dX5_serve_62 : decode cX5_serve 62 = .ok (.istore_n 3, 1) := dk_62 (dk_at dksX5_serve_2 14 rfl rfl)
theorem dX5_serve_63 : decode cX5_serve 63 = .ok (.iconst 0, 1) := dk_3 (dk_at dksX5_serve_2 15 rfl rfl)
theorem dX5_serve_64 : decode cX5_serve 64 = .ok (.istore 4, 2) := dk_54 4 (dk_at dksX5_serve_2 16 rfl rfl)
theorem dX5_serve_66 : decode cX5_serve 66 = .ok (.iload 4, 2) := dk_21 4 (dk_at dksX5_serve_2 18 rfl rfl)
theorem dX5_serve_68 : decode cX5_serve 68 = .ok (.iload_n 2, 1) := dk_28 (dk_at dksX5_serve_2 20 rfl rfl)
theorem dX5_serve_69 : decode cX5_serve 69 = .ok (.if_icmp .gt 47, 3) := dk_163 0 47 (dk_at dksX5_serve_2 21 rfl rfl)
theorem dX5_serve_72 : decode cX5_serve 72 = .ok (.iload 4, 2) := dk_21 4 (dk_at dksX5_serve_3 0 rfl rfl)
theorem dX5_serve_74 : decode cX5_serve 74 = .ok (.iload_n 2, 1) := dk_28 (dk_at dksX5_serve_3 2 rfl rfl)
theorem dX5_serve_75 : decode cX5_serve 75 = .ok (.iconst (-1), 1) := dk_2 (dk_at dksX5_serve_3 3 rfl rfl)
theorem dX5_serve_76 : decode cX5_serve 76 = .ok (.ixor, 1) := dk_130 (dk_at dksX5_serve_3 4 rfl rfl)
theorem dX5_serve_77 : decode cX5_serve 77 = .ok (.iand, 1) := dk_126 (dk_at dksX5_serve_3 5 rfl rfl)
theorem dX5_serve_78 : decode cX5_serve 78 = .ok (.ifCond .ne 32, 3) := dk_154 0 32 (dk_at dksX5_serve_3 6 rfl rfl)
theorem dX5_serve_81 : decode cX5_serve 81 = .ok (.iload_n 3, 1) := dk_29 (dk_at dksX5_serve_3 9 rfl rfl)
theorem dX5_serve_82 : decode cX5_serve 82 = .ok (.ifCond .lt 15, 3) := dk_155 0 15 (dk_at dksX5_serve_3 10 rfl rfl)
theorem dX5_serve_85 : decode cX5_serve 85 = .ok (.iload 4, 2) := dk_21 4 (dk_at dksX5_serve_3 13 rfl rfl)
theorem dX5_serve_87 : decode cX5_serve 87 = .ok (.invokestatic 284, 3) := dk_184 1 28 (dk_at dksX5_serve_3 15 rfl rfl)
theorem dX5_serve_90 : decode cX5_serve 90 = .ok (.iload_n 3, 1) := dk_29 (dk_at dksX5_serve_3 18 rfl rfl)
theorem dX5_serve_91 : decode cX5_serve 91 = .ok (.invokestatic 284, 3) := dk_184 1 28 (dk_at dksX5_serve_3 19 rfl rfl)
theorem dX5_serve_94 : decode cX5_serve 94 = .ok (.if_icmp .ge 16, 3) := dk_162 0 16 (dk_at dksX5_serve_4 0 rfl rfl)
theorem dX5_serve_97 : decode cX5_serve 97 = .ok (.aload_n 0, 1) := dk_42 (dk_at dksX5_serve_4 3 rfl rfl)
theorem dX5_serve_98 : decode cX5_serve 98 = .ok (.iload_n 1, 1) := dk_27 (dk_at dksX5_serve_4 4 rfl rfl)
theorem dX5_serve_99 : decode cX5_serve 99 = .ok (.iload 4, 2) := dk_21 4 (dk_at dksX5_serve_4 5 rfl rfl)
theorem dX5_serve_101 : decode cX5_serve 101 = .ok (.invokevirtual 358, 3) := dk_182 1 102 (dk_at dksX5_serve_4 7 rfl rfl)
theorem dX5_serve_104 : decode cX5_serve 104 = .ok (.ifCond .eq 6, 3) := dk_153 0 6 (dk_at dksX5_serve_4 10 rfl rfl)
theorem dX5_serve_107 : decode cX5_serve 107 = .ok (.iload 4, 2) := dk_21 4 (dk_at dksX5_serve_4 13 rfl rfl)
theorem dX5_serve_109 : decode cX5_serve 109 = .ok (.istore_n 3, 1) := dk_62 (dk_at dksX5_serve_4 15 rfl rfl)
theorem dX5_serve_110 : decode cX5_serve 110 = .ok (.iinc 4 1, 3) := dk_132 4 1 (dk_at dksX5_serve_4 16 rfl rfl)
theorem dX5_serve_113 : decode cX5_serve 113 = .ok (.goto (-47), 3) := dk_167 255 209 (dk_at dksX5_serve_4 19 rfl rfl)
theorem dX5_serve_116 : decode cX5_serve 116 = .ok (.iload_n 3, 1) := dk_29 (dk_at dksX5_serve_4 22 rfl rfl)
theorem dX5_serve_117 : decode cX5_serve 117 = .ok (.ifCond .ge 5, 3) := dk_156 0 5 (dk_at dksX5_serve_5 0 rfl rfl)
theorem dX5_serve_120 : decode cX5_serve 120 = .ok (.iconst (-1), 1) := dk_2 (dk_at dksX5_serve_5 3 rfl rfl)
theorem dX5_serve_121 : decode cX5_serve 121 = .ok (.ireturn, 1) := dk_172 (dk_at dksX5_serve_5 4 rfl rfl)
theorem dX5_serve_122 : decode cX5_serve 122 = .ok (.aload_n 0, 1) := dk_42 (dk_at dksX5_serve_5 5 rfl rfl)
theorem dX5_serve_123 : decode cX5_serve 123 = .ok (.iconst 1, 1) := dk_4 (dk_at dksX5_serve_5 6 rfl rfl)
theorem dX5_serve_124 : decode cX5_serve 124 = .ok (.putfield 361, 3) := dk_181 1 105 (dk_at dksX5_serve_5 7 rfl rfl)
theorem dX5_serve_127 : decode cX5_serve 127 = .ok (.aload_n 0, 1) := dk_42 (dk_at dksX5_serve_5 10 rfl rfl)
theorem dX5_serve_128 : decode cX5_serve 128 = .ok (.iload_n 3, 1) := dk_29 (dk_at dksX5_serve_5 11 rfl rfl)
theorem dX5_serve_129 : decode cX5_serve 129 = .ok (.putfield 364, 3) := dk_181 1 108 (dk_at dksX5_serve_5 12 rfl rfl)
theorem dX5_serve_132 : decode cX5_serve 132 = .ok (.iload_n 3, 1) := dk_29 (dk_at dksX5_serve_5 15 rfl rfl)
theorem dX5_serve_133 : decode cX5_serve 133 = .ok (.invokestatic 284, 3) := dk_184 1 28 (dk_at dksX5_serve_5 16 rfl rfl)
theorem dX5_serve_136 : decode cX5_serve 136 = .ok (.ireturn, 1) := dk_172 (dk_at dksX5_serve_5 19 rfl rfl)
abbrev cX5_isServed : ByteArray := prog_26_method_76_code
def yX5_isServed : MethodName := ⟨RX5, "isServed", "(II)Z"⟩
def dkwX5_isServed_2 : List UInt8 := [4, 167, 0, 4, 3, 62, 132, 4, 1, 167, 255, 204, 29, 172]
abbrev dktX5_isServed_2 : List UInt8 := dkwX5_isServed_2 ++ []
def dkwX5_isServed_1 : List UInt8 := [16, 82, 8, 21, 4, 104, 96, 27, 96, 46, 153, 0, 14, 42, 21, 4, 182, 1, 22, 28, 126, 153, 0, 7]
abbrev dktX5_isServed_1 : List UInt8 := dkwX5_isServed_1 ++ dktX5_isServed_2
def dkwX5_isServed_0 : List UInt8 := [4, 62, 3, 54, 4, 21, 4, 42, 180, 0, 33, 3, 46, 162, 0, 47, 29, 153, 0, 35, 42, 180, 0, 33]
abbrev dktX5_isServed_0 : List UInt8 := dkwX5_isServed_0 ++ dktX5_isServed_1
theorem dksX5_isServed_0 : cX5_isServed.data.toList.drop 0 = dktX5_isServed_0 := by decide +kernel
theorem dksX5_isServed_1 : cX5_isServed.data.toList.drop 24 = dktX5_isServed_1 := dk_seg dksX5_isServed_0 24 rfl rfl
theorem dksX5_isServed_2 : cX5_isServed.data.toList.drop 48 = dktX5_isServed_2 := dk_seg dksX5_isServed_1 24 rfl rfl
theorem dX5_isServed_0 : decode cX5_isServed 0 = .ok (.iconst 1, 1) := dk_4 (dk_at dksX5_isServed_0 0 rfl rfl)
theorem dX5_isServed_1 : decode cX5_isServed 1 = .ok (.istore_n 3, 1) := dk_62 (dk_at dksX5_isServed_0 1 rfl rfl)
theorem dX5_isServed_2 : decode cX5_isServed 2 = .ok (.iconst 0, 1) := dk_3 (dk_at dksX5_isServed_0 2 rfl rfl)
theorem dX5_isServed_3 : decode cX5_isServed 3 = .ok (.istore 4, 2) := dk_54 4 (dk_at dksX5_isServed_0 3 rfl rfl)
theorem dX5_isServed_5 : decode cX5_isServed 5 = .ok (.iload 4, 2) := dk_21 4 (dk_at dksX5_isServed_0 5 rfl rfl)
theorem dX5_isServed_7 : decode cX5_isServed 7 = .ok (.aload_n 0, 1) := dk_42 (dk_at dksX5_isServed_0 7 rfl rfl)
theorem dX5_isServed_8 : decode cX5_isServed 8 = .ok (.getfield 33, 3) := dk_180 0 33 (dk_at dksX5_isServed_0 8 rfl rfl)
theorem dX5_isServed_11 : decode cX5_isServed 11 = .ok (.iconst 0, 1) := dk_3 (dk_at dksX5_isServed_0 11 rfl rfl)
theorem dX5_isServed_12 : decode cX5_isServed 12 = .ok (.iaload, 1) := dk_46 (dk_at dksX5_isServed_0 12 rfl rfl)
theorem dX5_isServed_13 : decode cX5_isServed 13 = .ok (.if_icmp .ge 47, 3) := dk_162 0 47 (dk_at dksX5_isServed_0 13 rfl rfl)
theorem dX5_isServed_16 : decode cX5_isServed 16 = .ok (.iload_n 3, 1) := dk_29 (dk_at dksX5_isServed_0 16 rfl rfl)
theorem dX5_isServed_17 : decode cX5_isServed 17 = .ok (.ifCond .eq 35, 3) := dk_153 0 35 (dk_at dksX5_isServed_0 17 rfl rfl)
theorem dX5_isServed_20 : decode cX5_isServed 20 = .ok (.aload_n 0, 1) := dk_42 (dk_at dksX5_isServed_0 20 rfl rfl)
theorem dX5_isServed_21 : decode cX5_isServed 21 = .ok (.getfield 33, 3) := dk_180 0 33 (dk_at dksX5_isServed_0 21 rfl rfl)
theorem dX5_isServed_24 : decode cX5_isServed 24 = .ok (.bipush 82, 2) := dk_16 82 (dk_at dksX5_isServed_1 0 rfl rfl)
theorem dX5_isServed_26 : decode cX5_isServed 26 = .ok (.iconst 5, 1) := dk_8 (dk_at dksX5_isServed_1 2 rfl rfl)
theorem dX5_isServed_27 : decode cX5_isServed 27 = .ok (.iload 4, 2) := dk_21 4 (dk_at dksX5_isServed_1 3 rfl rfl)
theorem dX5_isServed_29 : decode cX5_isServed 29 = .ok (.imul, 1) := dk_104 (dk_at dksX5_isServed_1 5 rfl rfl)
theorem dX5_isServed_30 : decode cX5_isServed 30 = .ok (.iadd, 1) := dk_96 (dk_at dksX5_isServed_1 6 rfl rfl)
theorem dX5_isServed_31 : decode cX5_isServed 31 = .ok (.iload_n 1, 1) := dk_27 (dk_at dksX5_isServed_1 7 rfl rfl)
theorem dX5_isServed_32 : decode cX5_isServed 32 = .ok (.iadd, 1) := dk_96 (dk_at dksX5_isServed_1 8 rfl rfl)
theorem dX5_isServed_33 : decode cX5_isServed 33 = .ok (.iaload, 1) := dk_46 (dk_at dksX5_isServed_1 9 rfl rfl)
theorem dX5_isServed_34 : decode cX5_isServed 34 = .ok (.ifCond .eq 14, 3) := dk_153 0 14 (dk_at dksX5_isServed_1 10 rfl rfl)
theorem dX5_isServed_37 : decode cX5_isServed 37 = .ok (.aload_n 0, 1) := dk_42 (dk_at dksX5_isServed_1 13 rfl rfl)
theorem dX5_isServed_38 : decode cX5_isServed 38 = .ok (.iload 4, 2) := dk_21 4 (dk_at dksX5_isServed_1 14 rfl rfl)
theorem dX5_isServed_40 : decode cX5_isServed 40 = .ok (.invokevirtual 278, 3) := dk_182 1 22 (dk_at dksX5_isServed_1 16 rfl rfl)
theorem dX5_isServed_43 : decode cX5_isServed 43 = .ok (.iload_n 2, 1) := dk_28 (dk_at dksX5_isServed_1 19 rfl rfl)
theorem dX5_isServed_44 : decode cX5_isServed 44 = .ok (.iand, 1) := dk_126 (dk_at dksX5_isServed_1 20 rfl rfl)
theorem dX5_isServed_45 : decode cX5_isServed 45 = .ok (.ifCond .eq 7, 3) := dk_153 0 7 (dk_at dksX5_isServed_1 21 rfl rfl)
theorem dX5_isServed_48 : decode cX5_isServed 48 = .ok (.iconst 1, 1) := dk_4 (dk_at dksX5_isServed_2 0 rfl rfl)
theorem dX5_isServed_49 : decode cX5_isServed 49 = .ok (.goto 4, 3) := dk_167 0 4 (dk_at dksX5_isServed_2 1 rfl rfl)
theorem dX5_isServed_52 : decode cX5_isServed 52 = .ok (.iconst 0, 1) := dk_3 (dk_at dksX5_isServed_2 4 rfl rfl)
theorem dX5_isServed_53 : decode cX5_isServed 53 = .ok (.istore_n 3, 1) := dk_62 (dk_at dksX5_isServed_2 5 rfl rfl)
theorem dX5_isServed_54 : decode cX5_isServed 54 = .ok (.iinc 4 1, 3) := dk_132 4 1 (dk_at dksX5_isServed_2 6 rfl rfl)
theorem dX5_isServed_57 : decode cX5_isServed 57 = .ok (.goto (-52), 3) := dk_167 255 204 (dk_at dksX5_isServed_2 9 rfl rfl)
theorem dX5_isServed_60 : decode cX5_isServed 60 = .ok (.iload_n 3, 1) := dk_29 (dk_at dksX5_isServed_2 12 rfl rfl)
theorem dX5_isServed_61 : decode cX5_isServed 61 = .ok (.ireturn, 1) := dk_172 (dk_at dksX5_isServed_2 13 rfl rfl)
abbrev cX5_serving : ByteArray := prog_26_method_78_code
def yX5_serving : MethodName := ⟨RX5, "serving", "()I"⟩
def dkwX5_serving_0 : List UInt8 := [42, 3, 181, 0, 1, 42, 180, 1, 105, 153, 0, 10, 42, 180, 1, 108, 167, 0, 4, 2, 172]
abbrev dktX5_serving_0 : List UInt8 := dkwX5_serving_0 ++ []
theorem dksX5_serving_0 : cX5_serving.data.toList.drop 0 = dktX5_serving_0 := by decide +kernel
theorem dX5_serving_0 : decode cX5_serving 0 = .ok (.aload_n 0, 1) := dk_42 (dk_at dksX5_serving_0 0 rfl rfl)
theorem dX5_serving_1 : decode cX5_serving 1 = .ok (.iconst 0, 1) := dk_3 (dk_at dksX5_serving_0 1 rfl rfl)
theorem dX5_serving_2 : decode cX5_serving 2 = .ok (.putfield 1, 3) := dk_181 0 1 (dk_at dksX5_serving_0 2 rfl rfl)
theorem dX5_serving_5 : decode cX5_serving 5 = .ok (.aload_n 0, 1) := dk_42 (dk_at dksX5_serving_0 5 rfl rfl)
theorem dX5_serving_6 : decode cX5_serving 6 = .ok (.getfield 361, 3) := dk_180 1 105 (dk_at dksX5_serving_0 6 rfl rfl)
theorem dX5_serving_9 : decode cX5_serving 9 = .ok (.ifCond .eq 10, 3) := dk_153 0 10 (dk_at dksX5_serving_0 9 rfl rfl)
theorem dX5_serving_12 : decode cX5_serving 12 = .ok (.aload_n 0, 1) := dk_42 (dk_at dksX5_serving_0 12 rfl rfl)
theorem dX5_serving_13 : decode cX5_serving 13 = .ok (.getfield 364, 3) := dk_180 1 108 (dk_at dksX5_serving_0 13 rfl rfl)
theorem dX5_serving_16 : decode cX5_serving 16 = .ok (.goto 4, 3) := dk_167 0 4 (dk_at dksX5_serving_0 16 rfl rfl)
theorem dX5_serving_19 : decode cX5_serving 19 = .ok (.iconst (-1), 1) := dk_2 (dk_at dksX5_serving_0 19 rfl rfl)
theorem dX5_serving_20 : decode cX5_serving 20 = .ok (.ireturn, 1) := dk_172 (dk_at dksX5_serving_0 20 rfl rfl)
abbrev cX5_chain : ByteArray := prog_26_method_80_code
def yX5_chain : MethodName := ⟨RX5, "chain", "(II)I"⟩
def dkwX5_chain_5 : List UInt8 := [21, 4, 21, 5, 79, 21, 5, 62, 132, 4, 1, 167, 255, 193, 42, 180, 0, 71, 172]
abbrev dktX5_chain_5 : List UInt8 := dkwX5_chain_5 ++ []
def dkwX5_chain_4 : List UInt8 := [21, 5, 46, 42, 180, 0, 71, 21, 4, 100, 159, 0, 9, 132, 5, 1, 167, 255, 223, 42, 180, 0, 68]
abbrev dktX5_chain_4 : List UInt8 := dkwX5_chain_4 ++ dktX5_chain_5
def dkwX5_chain_3 : List UInt8 := [162, 0, 60, 3, 54, 5, 42, 29, 182, 1, 22, 21, 5, 184, 0, 214, 153, 0, 20, 42, 180, 0, 65]
abbrev dktX5_chain_3 : List UInt8 := dkwX5_chain_3 ++ dktX5_chain_4
def dkwX5_chain_2 : List UInt8 := [42, 42, 180, 0, 65, 27, 46, 4, 100, 181, 0, 71, 27, 62, 3, 54, 4, 21, 4, 42, 180, 0, 71]
abbrev dktX5_chain_2 : List UInt8 := dkwX5_chain_2 ++ dktX5_chain_3
def dkwX5_chain_1 : List UInt8 := [160, 0, 5, 2, 172, 42, 28, 182, 1, 111, 42, 180, 0, 65, 27, 46, 19, 1, 79, 161, 0, 5, 2, 172]
abbrev dktX5_chain_1 : List UInt8 := dkwX5_chain_1 ++ dktX5_chain_2
def dkwX5_chain_0 : List UInt8 := [42, 3, 181, 0, 1, 42, 27, 182, 1, 16, 153, 0, 16, 42, 28, 182, 1, 16, 153, 0, 8, 27, 28]
abbrev dktX5_chain_0 : List UInt8 := dkwX5_chain_0 ++ dktX5_chain_1
theorem dksX5_chain_0 : cX5_chain.data.toList.drop 0 = dktX5_chain_0 := by decide +kernel
theorem dksX5_chain_1 : cX5_chain.data.toList.drop 23 = dktX5_chain_1 := dk_seg dksX5_chain_0 23 rfl rfl
theorem dksX5_chain_2 : cX5_chain.data.toList.drop 47 = dktX5_chain_2 := dk_seg dksX5_chain_1 24 rfl rfl
theorem dksX5_chain_3 : cX5_chain.data.toList.drop 70 = dktX5_chain_3 := dk_seg dksX5_chain_2 23 rfl rfl
theorem dksX5_chain_4 : cX5_chain.data.toList.drop 93 = dktX5_chain_4 := dk_seg dksX5_chain_3 23 rfl rfl
theorem dksX5_chain_5 : cX5_chain.data.toList.drop 116 = dktX5_chain_5 := dk_seg dksX5_chain_4 23 rfl rfl
theorem dX5_chain_0 : decode cX5_chain 0 = .ok (.aload_n 0, 1) := dk_42 (dk_at dksX5_chain_0 0 rfl rfl)
theorem dX5_chain_1 : decode cX5_chain 1 = .ok (.iconst 0, 1) := dk_3 (dk_at dksX5_chain_0 1 rfl rfl)
theorem dX5_chain_2 : decode cX5_chain 2 = .ok (.putfield 1, 3) := dk_181 0 1 (dk_at dksX5_chain_0 2 rfl rfl)
theorem dX5_chain_5 : decode cX5_chain 5 = .ok (.aload_n 0, 1) := dk_42 (dk_at dksX5_chain_0 5 rfl rfl)
theorem dX5_chain_6 : decode cX5_chain 6 = .ok (.iload_n 1, 1) := dk_27 (dk_at dksX5_chain_0 6 rfl rfl)
theorem dX5_chain_7 : decode cX5_chain 7 = .ok (.invokevirtual 272, 3) := dk_182 1 16 (dk_at dksX5_chain_0 7 rfl rfl)
theorem dX5_chain_10 : decode cX5_chain 10 = .ok (.ifCond .eq 16, 3) := dk_153 0 16 (dk_at dksX5_chain_0 10 rfl rfl)
theorem dX5_chain_13 : decode cX5_chain 13 = .ok (.aload_n 0, 1) := dk_42 (dk_at dksX5_chain_0 13 rfl rfl)
theorem dX5_chain_14 : decode cX5_chain 14 = .ok (.iload_n 2, 1) := dk_28 (dk_at dksX5_chain_0 14 rfl rfl)
theorem dX5_chain_15 : decode cX5_chain 15 = .ok (.invokevirtual 272, 3) := dk_182 1 16 (dk_at dksX5_chain_0 15 rfl rfl)
theorem dX5_chain_18 : decode cX5_chain 18 = .ok (.ifCond .eq 8, 3) := dk_153 0 8 (dk_at dksX5_chain_0 18 rfl rfl)
theorem dX5_chain_21 : decode cX5_chain 21 = .ok (.iload_n 1, 1) := dk_27 (dk_at dksX5_chain_0 21 rfl rfl)
theorem dX5_chain_22 : decode cX5_chain 22 = .ok (.iload_n 2, 1) := dk_28 (dk_at dksX5_chain_0 22 rfl rfl)
theorem dX5_chain_23 : decode cX5_chain 23 = .ok (.if_icmp .ne 5, 3) := dk_160 0 5 (dk_at dksX5_chain_1 0 rfl rfl)
theorem dX5_chain_26 : decode cX5_chain 26 = .ok (.iconst (-1), 1) := dk_2 (dk_at dksX5_chain_1 3 rfl rfl)
theorem dX5_chain_27 : decode cX5_chain 27 = .ok (.ireturn, 1) := dk_172 (dk_at dksX5_chain_1 4 rfl rfl)
theorem dX5_chain_28 : decode cX5_chain 28 = .ok (.aload_n 0, 1) := dk_42 (dk_at dksX5_chain_1 5 rfl rfl)
theorem dX5_chain_29 : decode cX5_chain 29 = .ok (.iload_n 2, 1) := dk_28 (dk_at dksX5_chain_1 6 rfl rfl)
theorem dX5_chain_30 : decode cX5_chain 30 = .ok (.invokevirtual 367, 3) := dk_182 1 111 (dk_at dksX5_chain_1 7 rfl rfl)
theorem dX5_chain_33 : decode cX5_chain 33 = .ok (.aload_n 0, 1) := dk_42 (dk_at dksX5_chain_1 10 rfl rfl)
theorem dX5_chain_34 : decode cX5_chain 34 = .ok (.getfield 65, 3) := dk_180 0 65 (dk_at dksX5_chain_1 11 rfl rfl)
theorem dX5_chain_37 : decode cX5_chain 37 = .ok (.iload_n 1, 1) := dk_27 (dk_at dksX5_chain_1 14 rfl rfl)
theorem dX5_chain_38 : decode cX5_chain 38 = .ok (.iaload, 1) := dk_46 (dk_at dksX5_chain_1 15 rfl rfl)
theorem dX5_chain_39 : decode cX5_chain 39 = .ok (.ldc_w 335, 3) := dk_19 1 79 (dk_at dksX5_chain_1 16 rfl rfl)
theorem dX5_chain_42 : decode cX5_chain 42 = .ok (.if_icmp .lt 5, 3) := dk_161 0 5 (dk_at dksX5_chain_1 19 rfl rfl)
theorem dX5_chain_45 : decode cX5_chain 45 = .ok (.iconst (-1), 1) := dk_2 (dk_at dksX5_chain_1 22 rfl rfl)
theorem dX5_chain_46 : decode cX5_chain 46 = .ok (.ireturn, 1) := dk_172 (dk_at dksX5_chain_1 23 rfl rfl)
theorem dX5_chain_47 : decode cX5_chain 47 = .ok (.aload_n 0, 1) := dk_42 (dk_at dksX5_chain_2 0 rfl rfl)
theorem dX5_chain_48 : decode cX5_chain 48 = .ok (.aload_n 0, 1) := dk_42 (dk_at dksX5_chain_2 1 rfl rfl)
theorem dX5_chain_49 : decode cX5_chain 49 = .ok (.getfield 65, 3) := dk_180 0 65 (dk_at dksX5_chain_2 2 rfl rfl)
theorem dX5_chain_52 : decode cX5_chain 52 = .ok (.iload_n 1, 1) := dk_27 (dk_at dksX5_chain_2 5 rfl rfl)
theorem dX5_chain_53 : decode cX5_chain 53 = .ok (.iaload, 1) := dk_46 (dk_at dksX5_chain_2 6 rfl rfl)
theorem dX5_chain_54 : decode cX5_chain 54 = .ok (.iconst 1, 1) := dk_4 (dk_at dksX5_chain_2 7 rfl rfl)
theorem dX5_chain_55 : decode cX5_chain 55 = .ok (.isub, 1) := dk_100 (dk_at dksX5_chain_2 8 rfl rfl)
theorem dX5_chain_56 : decode cX5_chain 56 = .ok (.putfield 71, 3) := dk_181 0 71 (dk_at dksX5_chain_2 9 rfl rfl)
theorem dX5_chain_59 : decode cX5_chain 59 = .ok (.iload_n 1, 1) := dk_27 (dk_at dksX5_chain_2 12 rfl rfl)
theorem dX5_chain_60 : decode cX5_chain 60 = .ok (.istore_n 3, 1) := dk_62 (dk_at dksX5_chain_2 13 rfl rfl)
theorem dX5_chain_61 : decode cX5_chain 61 = .ok (.iconst 0, 1) := dk_3 (dk_at dksX5_chain_2 14 rfl rfl)
theorem dX5_chain_62 : decode cX5_chain 62 = .ok (.istore 4, 2) := dk_54 4 (dk_at dksX5_chain_2 15 rfl rfl)
theorem dX5_chain_64 : decode cX5_chain 64 = .ok (.iload 4, 2) := dk_21 4 (dk_at dksX5_chain_2 17 rfl rfl)
theorem dX5_chain_66 : decode cX5_chain 66 = .ok (.aload_n 0, 1) := dk_42 (dk_at dksX5_chain_2 19 rfl rfl)
theorem dX5_chain_67 : decode cX5_chain 67 = .ok (.getfield 71, 3) := dk_180 0 71 (dk_at dksX5_chain_2 20 rfl rfl)
theorem dX5_chain_70 : decode cX5_chain 70 = .ok (.if_icmp .ge 60, 3) := dk_162 0 60 (dk_at dksX5_chain_3 0 rfl rfl)
theorem dX5_chain_73 : decode cX5_chain 73 = .ok (.iconst 0, 1) := dk_3 (dk_at dksX5_chain_3 3 rfl rfl)
theorem dX5_chain_74 : decode cX5_chain 74 = .ok (.istore 5, 2) := dk_54 5 (dk_at dksX5_chain_3 4 rfl rfl)
theorem dX5_chain_76 : decode cX5_chain 76 = .ok (.aload_n 0, 1) := dk_42 (dk_at dksX5_chain_3 6 rfl rfl)
theorem dX5_chain_77 : decode cX5_chain 77 = .ok (.iload_n 3, 1) := dk_29 (dk_at dksX5_chain_3 7 rfl rfl)
theorem dX5_chain_78 : decode cX5_chain 78 = .ok (.invokevirtual 278, 3) := dk_182 1 22 (dk_at dksX5_chain_3 8 rfl rfl)
theorem dX5_chain_81 : decode cX5_chain 81 = .ok (.iload 5, 2) := dk_21 5 (dk_at dksX5_chain_3 11 rfl rfl)
theorem dX5_chain_83 : decode cX5_chain 83 = .ok (.invokestatic 214, 3) := dk_184 0 214 (dk_at dksX5_chain_3 13 rfl rfl)
theorem dX5_chain_86 : decode cX5_chain 86 = .ok (.ifCond .eq 20, 3) := dk_153 0 20 (dk_at dksX5_chain_3 16 rfl rfl)
theorem dX5_chain_89 : decode cX5_chain 89 = .ok (.aload_n 0, 1) := dk_42 (dk_at dksX5_chain_3 19 rfl rfl)
theorem dX5_chain_90 : decode cX5_chain 90 = .ok (.getfield 65, 3) := dk_180 0 65 (dk_at dksX5_chain_3 20 rfl rfl)
theorem dX5_chain_93 : decode cX5_chain 93 = .ok (.iload 5, 2) := dk_21 5 (dk_at dksX5_chain_4 0 rfl rfl)
theorem dX5_chain_95 : decode cX5_chain 95 = .ok (.iaload, 1) := dk_46 (dk_at dksX5_chain_4 2 rfl rfl)
theorem dX5_chain_96 : decode cX5_chain 96 = .ok (.aload_n 0, 1) := dk_42 (dk_at dksX5_chain_4 3 rfl rfl)
theorem dX5_chain_97 : decode cX5_chain 97 = .ok (.getfield 71, 3) := dk_180 0 71 (dk_at dksX5_chain_4 4 rfl rfl)
theorem dX5_chain_100 : decode cX5_chain 100 = .ok (.iload 4, 2) := dk_21 4 (dk_at dksX5_chain_4 7 rfl rfl)
theorem dX5_chain_102 : decode cX5_chain 102 = .ok (.isub, 1) := dk_100 (dk_at dksX5_chain_4 9 rfl rfl)
theorem dX5_chain_103 : decode cX5_chain 103 = .ok (.if_icmp .eq 9, 3) := dk_159 0 9 (dk_at dksX5_chain_4 10 rfl rfl)
theorem dX5_chain_106 : decode cX5_chain 106 = .ok (.iinc 5 1, 3) := dk_132 5 1 (dk_at dksX5_chain_4 13 rfl rfl)
theorem dX5_chain_109 : decode cX5_chain 109 = .ok (.goto (-33), 3) := dk_167 255 223 (dk_at dksX5_chain_4 16 rfl rfl)
theorem dX5_chain_112 : decode cX5_chain 112 = .ok (.aload_n 0, 1) := dk_42 (dk_at dksX5_chain_4 19 rfl rfl)
theorem dX5_chain_113 : decode cX5_chain 113 = .ok (.getfield 68, 3) := dk_180 0 68 (dk_at dksX5_chain_4 20 rfl rfl)
theorem dX5_chain_116 : decode cX5_chain 116 = .ok (.iload 4, 2) := dk_21 4 (dk_at dksX5_chain_5 0 rfl rfl)
theorem dX5_chain_118 : decode cX5_chain 118 = .ok (.iload 5, 2) := dk_21 5 (dk_at dksX5_chain_5 2 rfl rfl)
theorem dX5_chain_120 : decode cX5_chain 120 = .ok (.iastore, 1) := dk_79 (dk_at dksX5_chain_5 4 rfl rfl)
theorem dX5_chain_121 : decode cX5_chain 121 = .ok (.iload 5, 2) := dk_21 5 (dk_at dksX5_chain_5 5 rfl rfl)
theorem dX5_chain_123 : decode cX5_chain 123 = .ok (.istore_n 3, 1) := dk_62 (dk_at dksX5_chain_5 7 rfl rfl)
theorem dX5_chain_124 : decode cX5_chain 124 = .ok (.iinc 4 1, 3) := dk_132 4 1 (dk_at dksX5_chain_5 8 rfl rfl)
theorem dX5_chain_127 : decode cX5_chain 127 = .ok (.goto (-63), 3) := dk_167 255 193 (dk_at dksX5_chain_5 11 rfl rfl)
theorem dX5_chain_130 : decode cX5_chain 130 = .ok (.aload_n 0, 1) := dk_42 (dk_at dksX5_chain_5 14 rfl rfl)
theorem dX5_chain_131 : decode cX5_chain 131 = .ok (.getfield 71, 3) := dk_180 0 71 (dk_at dksX5_chain_5 15 rfl rfl)
theorem dX5_chain_134 : decode cX5_chain 134 = .ok (.ireturn, 1) := dk_172 (dk_at dksX5_chain_5 18 rfl rfl)
abbrev cX5_laysSteps : ByteArray := prog_26_method_79_code
def yX5_laysSteps : MethodName := ⟨RX5, "laysSteps", "(I)V"⟩
def dkwX5_laysSteps_5 : List UInt8 := [132, 5, 1, 167, 255, 199, 132, 3, 1, 167, 255, 173, 132, 2, 1, 167, 255, 159, 177]
abbrev dktX5_laysSteps_5 : List UInt8 := dkwX5_laysSteps_5 ++ []
def dkwX5_laysSteps_4 : List UInt8 := [42, 180, 0, 65, 29, 46, 162, 0, 18, 42, 180, 0, 65, 29, 42, 180, 0, 65, 21, 5, 46, 4, 96, 79]
abbrev dktX5_laysSteps_4 : List UInt8 := dkwX5_laysSteps_4 ++ dktX5_laysSteps_5
def dkwX5_laysSteps_3 : List UInt8 := [3, 46, 162, 0, 52, 21, 4, 21, 5, 184, 0, 214, 153, 0, 36, 42, 180, 0, 65, 21, 5, 46, 4, 96]
abbrev dktX5_laysSteps_3 : List UInt8 := dkwX5_laysSteps_3 ++ dktX5_laysSteps_4
def dkwX5_laysSteps_2 : List UInt8 := [180, 0, 33, 3, 46, 162, 0, 79, 42, 29, 182, 1, 22, 54, 4, 3, 54, 5, 21, 5, 42, 180, 0, 33]
abbrev dktX5_laysSteps_2 : List UInt8 := dkwX5_laysSteps_2 ++ dktX5_laysSteps_3
def dkwX5_laysSteps_1 : List UInt8 := [19, 1, 79, 79, 132, 2, 1, 167, 255, 229, 3, 61, 28, 16, 7, 162, 0, 97, 3, 62, 29, 42]
abbrev dktX5_laysSteps_1 : List UInt8 := dkwX5_laysSteps_1 ++ dktX5_laysSteps_2
def dkwX5_laysSteps_0 : List UInt8 := [3, 61, 28, 16, 7, 162, 0, 27, 42, 180, 0, 65, 28, 28, 27, 160, 0, 7, 3, 167, 0, 6]
abbrev dktX5_laysSteps_0 : List UInt8 := dkwX5_laysSteps_0 ++ dktX5_laysSteps_1
theorem dksX5_laysSteps_0 : cX5_laysSteps.data.toList.drop 0 = dktX5_laysSteps_0 := by decide +kernel
theorem dksX5_laysSteps_1 : cX5_laysSteps.data.toList.drop 22 = dktX5_laysSteps_1 := dk_seg dksX5_laysSteps_0 22 rfl rfl
theorem dksX5_laysSteps_2 : cX5_laysSteps.data.toList.drop 44 = dktX5_laysSteps_2 := dk_seg dksX5_laysSteps_1 22 rfl rfl
theorem dksX5_laysSteps_3 : cX5_laysSteps.data.toList.drop 68 = dktX5_laysSteps_3 := dk_seg dksX5_laysSteps_2 24 rfl rfl
theorem dksX5_laysSteps_4 : cX5_laysSteps.data.toList.drop 92 = dktX5_laysSteps_4 := dk_seg dksX5_laysSteps_3 24 rfl rfl
theorem dksX5_laysSteps_5 : cX5_laysSteps.data.toList.drop 116 = dktX5_laysSteps_5 := dk_seg dksX5_laysSteps_4 24 rfl rfl
theorem dX5_laysSteps_0 : decode cX5_laysSteps 0 = .ok (.iconst 0, 1) := dk_3 (dk_at dksX5_laysSteps_0 0 rfl rfl)
theorem dX5_laysSteps_1 : decode cX5_laysSteps 1 = .ok (.istore_n 2, 1) := dk_61 (dk_at dksX5_laysSteps_0 1 rfl rfl)
theorem dX5_laysSteps_2 : decode cX5_laysSteps 2 = .ok (.iload_n 2, 1) := dk_28 (dk_at dksX5_laysSteps_0 2 rfl rfl)
theorem dX5_laysSteps_3 : decode cX5_laysSteps 3 = .ok (.bipush 7, 2) := dk_16 7 (dk_at dksX5_laysSteps_0 3 rfl rfl)
theorem dX5_laysSteps_5 : decode cX5_laysSteps 5 = .ok (.if_icmp .ge 27, 3) := dk_162 0 27 (dk_at dksX5_laysSteps_0 5 rfl rfl)
theorem dX5_laysSteps_8 : decode cX5_laysSteps 8 = .ok (.aload_n 0, 1) := dk_42 (dk_at dksX5_laysSteps_0 8 rfl rfl)
theorem dX5_laysSteps_9 : decode cX5_laysSteps 9 = .ok (.getfield 65, 3) := dk_180 0 65 (dk_at dksX5_laysSteps_0 9 rfl rfl)
theorem dX5_laysSteps_12 : decode cX5_laysSteps 12 = .ok (.iload_n 2, 1) := dk_28 (dk_at dksX5_laysSteps_0 12 rfl rfl)
theorem dX5_laysSteps_13 : decode cX5_laysSteps 13 = .ok (.iload_n 2, 1) := dk_28 (dk_at dksX5_laysSteps_0 13 rfl rfl)
theorem dX5_laysSteps_14 : decode cX5_laysSteps 14 = .ok (.iload_n 1, 1) := dk_27 (dk_at dksX5_laysSteps_0 14 rfl rfl)
theorem dX5_laysSteps_15 : decode cX5_laysSteps 15 = .ok (.if_icmp .ne 7, 3) := dk_160 0 7 (dk_at dksX5_laysSteps_0 15 rfl rfl)
theorem dX5_laysSteps_18 : decode cX5_laysSteps 18 = .ok (.iconst 0, 1) := dk_3 (dk_at dksX5_laysSteps_0 18 rfl rfl)
theorem dX5_laysSteps_19 : decode cX5_laysSteps 19 = .ok (.goto 6, 3) := dk_167 0 6 (dk_at dksX5_laysSteps_0 19 rfl rfl)
theorem dX5_laysSteps_22 : decode cX5_laysSteps 22 = .ok (.ldc_w 335, 3) := dk_19 1 79 (dk_at dksX5_laysSteps_1 0 rfl rfl)
theorem dX5_laysSteps_25 : decode cX5_laysSteps 25 = .ok (.iastore, 1) := dk_79 (dk_at dksX5_laysSteps_1 3 rfl rfl)
theorem dX5_laysSteps_26 : decode cX5_laysSteps 26 = .ok (.iinc 2 1, 3) := dk_132 2 1 (dk_at dksX5_laysSteps_1 4 rfl rfl)
theorem dX5_laysSteps_29 : decode cX5_laysSteps 29 = .ok (.goto (-27), 3) := dk_167 255 229 (dk_at dksX5_laysSteps_1 7 rfl rfl)
theorem dX5_laysSteps_32 : decode cX5_laysSteps 32 = .ok (.iconst 0, 1) := dk_3 (dk_at dksX5_laysSteps_1 10 rfl rfl)
theorem dX5_laysSteps_33 : decode cX5_laysSteps 33 = .ok (.istore_n 2, 1) := dk_61 (dk_at dksX5_laysSteps_1 11 rfl rfl)
theorem dX5_laysSteps_34 : decode cX5_laysSteps 34 = .ok (.iload_n 2, 1) := dk_28 (dk_at dksX5_laysSteps_1 12 rfl rfl)
theorem dX5_laysSteps_35 : decode cX5_laysSteps 35 = .ok (.bipush 7, 2) := dk_16 7 (dk_at dksX5_laysSteps_1 13 rfl rfl)
theorem dX5_laysSteps_37 : decode cX5_laysSteps 37 = .ok (.if_icmp .ge 97, 3) := dk_162 0 97 (dk_at dksX5_laysSteps_1 15 rfl rfl)
theorem dX5_laysSteps_40 : decode cX5_laysSteps 40 = .ok (.iconst 0, 1) := dk_3 (dk_at dksX5_laysSteps_1 18 rfl rfl)
theorem dX5_laysSteps_41 : decode cX5_laysSteps 41 = .ok (.istore_n 3, 1) := dk_62 (dk_at dksX5_laysSteps_1 19 rfl rfl)
theorem dX5_laysSteps_42 : decode cX5_laysSteps 42 = .ok (.iload_n 3, 1) := dk_29 (dk_at dksX5_laysSteps_1 20 rfl rfl)
theorem dX5_laysSteps_43 : decode cX5_laysSteps 43 = .ok (.aload_n 0, 1) := dk_42 (dk_at dksX5_laysSteps_1 21 rfl rfl)
theorem dX5_laysSteps_44 : decode cX5_laysSteps 44 = .ok (.getfield 33, 3) := dk_180 0 33 (dk_at dksX5_laysSteps_2 0 rfl rfl)
theorem dX5_laysSteps_47 : decode cX5_laysSteps 47 = .ok (.iconst 0, 1) := dk_3 (dk_at dksX5_laysSteps_2 3 rfl rfl)
theorem dX5_laysSteps_48 : decode cX5_laysSteps 48 = .ok (.iaload, 1) := dk_46 (dk_at dksX5_laysSteps_2 4 rfl rfl)
theorem dX5_laysSteps_49 : decode cX5_laysSteps 49 = .ok (.if_icmp .ge 79, 3) := dk_162 0 79 (dk_at dksX5_laysSteps_2 5 rfl rfl)
theorem dX5_laysSteps_52 : decode cX5_laysSteps 52 = .ok (.aload_n 0, 1) := dk_42 (dk_at dksX5_laysSteps_2 8 rfl rfl)
theorem dX5_laysSteps_53 : decode cX5_laysSteps 53 = .ok (.iload_n 3, 1) := dk_29 (dk_at dksX5_laysSteps_2 9 rfl rfl)
theorem dX5_laysSteps_54 : decode cX5_laysSteps 54 = .ok (.invokevirtual 278, 3) := dk_182 1 22 (dk_at dksX5_laysSteps_2 10 rfl rfl)
theorem dX5_laysSteps_57 : decode cX5_laysSteps 57 = .ok (.istore 4, 2) := dk_54 4 (dk_at dksX5_laysSteps_2 13 rfl rfl)
theorem dX5_laysSteps_59 : decode cX5_laysSteps 59 = .ok (.iconst 0, 1) := dk_3 (dk_at dksX5_laysSteps_2 15 rfl rfl)
theorem dX5_laysSteps_60 : decode cX5_laysSteps 60 = .ok (.istore 5, 2) := dk_54 5 (dk_at dksX5_laysSteps_2 16 rfl rfl)
theorem dX5_laysSteps_62 : decode cX5_laysSteps 62 = .ok (.iload 5, 2) := dk_21 5 (dk_at dksX5_laysSteps_2 18 rfl rfl)
theorem dX5_laysSteps_64 : decode cX5_laysSteps 64 = .ok (.aload_n 0, 1) := dk_42 (dk_at dksX5_laysSteps_2 20 rfl rfl)
theorem dX5_laysSteps_65 : decode cX5_laysSteps 65 = .ok (.getfield 33, 3) := dk_180 0 33 (dk_at dksX5_laysSteps_2 21 rfl rfl)
theorem dX5_laysSteps_68 : decode cX5_laysSteps 68 = .ok (.iconst 0, 1) := dk_3 (dk_at dksX5_laysSteps_3 0 rfl rfl)
theorem dX5_laysSteps_69 : decode cX5_laysSteps 69 = .ok (.iaload, 1) := dk_46 (dk_at dksX5_laysSteps_3 1 rfl rfl)
theorem dX5_laysSteps_70 : decode cX5_laysSteps 70 = .ok (.if_icmp .ge 52, 3) := dk_162 0 52 (dk_at dksX5_laysSteps_3 2 rfl rfl)
theorem dX5_laysSteps_73 : decode cX5_laysSteps 73 = .ok (.iload 4, 2) := dk_21 4 (dk_at dksX5_laysSteps_3 5 rfl rfl)
theorem dX5_laysSteps_75 : decode cX5_laysSteps 75 = .ok (.iload 5, 2) := dk_21 5 (dk_at dksX5_laysSteps_3 7 rfl rfl)
theorem dX5_laysSteps_77 : decode cX5_laysSteps 77 = .ok (.invokestatic 214, 3) := dk_184 0 214 (dk_at dksX5_laysSteps_3 9 rfl rfl)
theorem dX5_laysSteps_80 : decode cX5_laysSteps 80 = .ok (.ifCond .eq 36, 3) := dk_153 0 36 (dk_at dksX5_laysSteps_3 12 rfl rfl)
theorem dX5_laysSteps_83 : decode cX5_laysSteps 83 = .ok (.aload_n 0, 1) := dk_42 (dk_at dksX5_laysSteps_3 15 rfl rfl)
theorem dX5_laysSteps_84 : decode cX5_laysSteps 84 = .ok (.getfield 65, 3) := dk_180 0 65 (dk_at dksX5_laysSteps_3 16 rfl rfl)
theorem dX5_laysSteps_87 : decode cX5_laysSteps 87 = .ok (.iload 5, 2) := dk_21 5 (dk_at dksX5_laysSteps_3 19 rfl rfl)
theorem dX5_laysSteps_89 : decode cX5_laysSteps 89 = .ok (.iaload, 1) := dk_46 (dk_at dksX5_laysSteps_3 21 rfl rfl)
theorem dX5_laysSteps_90 : decode cX5_laysSteps 90 = .ok (.iconst 1, 1) := dk_4 (dk_at dksX5_laysSteps_3 22 rfl rfl)
theorem dX5_laysSteps_91 : decode cX5_laysSteps 91 = .ok (.iadd, 1) := dk_96 (dk_at dksX5_laysSteps_3 23 rfl rfl)
theorem dX5_laysSteps_92 : decode cX5_laysSteps 92 = .ok (.aload_n 0, 1) := dk_42 (dk_at dksX5_laysSteps_4 0 rfl rfl)
theorem dX5_laysSteps_93 : decode cX5_laysSteps 93 = .ok (.getfield 65, 3) := dk_180 0 65 (dk_at dksX5_laysSteps_4 1 rfl rfl)
theorem dX5_laysSteps_96 : decode cX5_laysSteps 96 = .ok (.iload_n 3, 1) := dk_29 (dk_at dksX5_laysSteps_4 4 rfl rfl)
theorem dX5_laysSteps_97 : decode cX5_laysSteps 97 = .ok (.iaload, 1) := dk_46 (dk_at dksX5_laysSteps_4 5 rfl rfl)
theorem dX5_laysSteps_98 : decode cX5_laysSteps 98 = .ok (.if_icmp .ge 18, 3) := dk_162 0 18 (dk_at dksX5_laysSteps_4 6 rfl rfl)
theorem dX5_laysSteps_101 : decode cX5_laysSteps 101 = .ok (.aload_n 0, 1) := dk_42 (dk_at dksX5_laysSteps_4 9 rfl rfl)
theorem dX5_laysSteps_102 : decode cX5_laysSteps 102 = .ok (.getfield 65, 3) := dk_180 0 65 (dk_at dksX5_laysSteps_4 10 rfl rfl)
theorem dX5_laysSteps_105 : decode cX5_laysSteps 105 = .ok (.iload_n 3, 1) := dk_29 (dk_at dksX5_laysSteps_4 13 rfl rfl)
theorem dX5_laysSteps_106 : decode cX5_laysSteps 106 = .ok (.aload_n 0, 1) := dk_42 (dk_at dksX5_laysSteps_4 14 rfl rfl)
theorem dX5_laysSteps_107 : decode cX5_laysSteps 107 = .ok (.getfield 65, 3) := dk_180 0 65 (dk_at dksX5_laysSteps_4 15 rfl rfl)
theorem dX5_laysSteps_110 : decode cX5_laysSteps 110 = .ok (.iload 5, 2) := dk_21 5 (dk_at dksX5_laysSteps_4 18 rfl rfl)
theorem dX5_laysSteps_112 : decode cX5_laysSteps 112 = .ok (.iaload, 1) := dk_46 (dk_at dksX5_laysSteps_4 20 rfl rfl)
theorem dX5_laysSteps_113 : decode cX5_laysSteps 113 = .ok (.iconst 1, 1) := dk_4 (dk_at dksX5_laysSteps_4 21 rfl rfl)
theorem dX5_laysSteps_114 : decode cX5_laysSteps 114 = .ok (.iadd, 1) := dk_96 (dk_at dksX5_laysSteps_4 22 rfl rfl)
theorem dX5_laysSteps_115 : decode cX5_laysSteps 115 = .ok (.iastore, 1) := dk_79 (dk_at dksX5_laysSteps_4 23 rfl rfl)
theorem dX5_laysSteps_116 : decode cX5_laysSteps 116 = .ok (.iinc 5 1, 3) := dk_132 5 1 (dk_at dksX5_laysSteps_5 0 rfl rfl)
theorem dX5_laysSteps_119 : decode cX5_laysSteps 119 = .ok (.goto (-57), 3) := dk_167 255 199 (dk_at dksX5_laysSteps_5 3 rfl rfl)
theorem dX5_laysSteps_122 : decode cX5_laysSteps 122 = .ok (.iinc 3 1, 3) := dk_132 3 1 (dk_at dksX5_laysSteps_5 6 rfl rfl)
theorem dX5_laysSteps_125 : decode cX5_laysSteps 125 = .ok (.goto (-83), 3) := dk_167 255 173 (dk_at dksX5_laysSteps_5 9 rfl rfl)
theorem dX5_laysSteps_128 : decode cX5_laysSteps 128 = .ok (.iinc 2 1, 3) := dk_132 2 1 (dk_at dksX5_laysSteps_5 12 rfl rfl)
theorem dX5_laysSteps_131 : decode cX5_laysSteps 131 = .ok (.goto (-97), 3) := dk_167 255 159 (dk_at dksX5_laysSteps_5 15 rfl rfl)
theorem dX5_laysSteps_134 : decode cX5_laysSteps 134 = .ok (.return_, 1) := dk_177 (dk_at dksX5_laysSteps_5 18 rfl rfl)
abbrev cX5_chainAt : ByteArray := prog_26_method_81_code
def yX5_chainAt : MethodName := ⟨RX5, "chainAt", "(I)I"⟩
def dkwX5_chainAt_1 : List UInt8 := [46, 167, 0, 4, 2, 172]
abbrev dktX5_chainAt_1 : List UInt8 := dkwX5_chainAt_1 ++ []
def dkwX5_chainAt_0 : List UInt8 := [42, 3, 181, 0, 1, 27, 3, 42, 180, 0, 71, 4, 100, 184, 0, 189, 153, 0, 12, 42, 180, 0, 68, 27]
abbrev dktX5_chainAt_0 : List UInt8 := dkwX5_chainAt_0 ++ dktX5_chainAt_1
theorem dksX5_chainAt_0 : cX5_chainAt.data.toList.drop 0 = dktX5_chainAt_0 := by decide +kernel
theorem dksX5_chainAt_1 : cX5_chainAt.data.toList.drop 24 = dktX5_chainAt_1 := dk_seg dksX5_chainAt_0 24 rfl rfl
theorem dX5_chainAt_0 : decode cX5_chainAt 0 = .ok (.aload_n 0, 1) := dk_42 (dk_at dksX5_chainAt_0 0 rfl rfl)
theorem dX5_chainAt_1 : decode cX5_chainAt 1 = .ok (.iconst 0, 1) := dk_3 (dk_at dksX5_chainAt_0 1 rfl rfl)
theorem dX5_chainAt_2 : decode cX5_chainAt 2 = .ok (.putfield 1, 3) := dk_181 0 1 (dk_at dksX5_chainAt_0 2 rfl rfl)
theorem dX5_chainAt_5 : decode cX5_chainAt 5 = .ok (.iload_n 1, 1) := dk_27 (dk_at dksX5_chainAt_0 5 rfl rfl)
theorem dX5_chainAt_6 : decode cX5_chainAt 6 = .ok (.iconst 0, 1) := dk_3 (dk_at dksX5_chainAt_0 6 rfl rfl)
theorem dX5_chainAt_7 : decode cX5_chainAt 7 = .ok (.aload_n 0, 1) := dk_42 (dk_at dksX5_chainAt_0 7 rfl rfl)
theorem dX5_chainAt_8 : decode cX5_chainAt 8 = .ok (.getfield 71, 3) := dk_180 0 71 (dk_at dksX5_chainAt_0 8 rfl rfl)
theorem dX5_chainAt_11 : decode cX5_chainAt 11 = .ok (.iconst 1, 1) := dk_4 (dk_at dksX5_chainAt_0 11 rfl rfl)
theorem dX5_chainAt_12 : decode cX5_chainAt 12 = .ok (.isub, 1) := dk_100 (dk_at dksX5_chainAt_0 12 rfl rfl)
theorem dX5_chainAt_13 : decode cX5_chainAt 13 = .ok (.invokestatic 189, 3) := dk_184 0 189 (dk_at dksX5_chainAt_0 13 rfl rfl)
theorem dX5_chainAt_16 : decode cX5_chainAt 16 = .ok (.ifCond .eq 12, 3) := dk_153 0 12 (dk_at dksX5_chainAt_0 16 rfl rfl)
theorem dX5_chainAt_19 : decode cX5_chainAt 19 = .ok (.aload_n 0, 1) := dk_42 (dk_at dksX5_chainAt_0 19 rfl rfl)
theorem dX5_chainAt_20 : decode cX5_chainAt 20 = .ok (.getfield 68, 3) := dk_180 0 68 (dk_at dksX5_chainAt_0 20 rfl rfl)
theorem dX5_chainAt_23 : decode cX5_chainAt 23 = .ok (.iload_n 1, 1) := dk_27 (dk_at dksX5_chainAt_0 23 rfl rfl)
theorem dX5_chainAt_24 : decode cX5_chainAt 24 = .ok (.iaload, 1) := dk_46 (dk_at dksX5_chainAt_1 0 rfl rfl)
theorem dX5_chainAt_25 : decode cX5_chainAt 25 = .ok (.goto 4, 3) := dk_167 0 4 (dk_at dksX5_chainAt_1 1 rfl rfl)
theorem dX5_chainAt_28 : decode cX5_chainAt 28 = .ok (.iconst (-1), 1) := dk_2 (dk_at dksX5_chainAt_1 4 rfl rfl)
theorem dX5_chainAt_29 : decode cX5_chainAt 29 = .ok (.ireturn, 1) := dk_172 (dk_at dksX5_chainAt_1 5 rfl rfl)
abbrev cX5_out : ByteArray := prog_26_method_83_code
def yX5_out : MethodName := ⟨RX5, "out", "(I)I"⟩
def dkwX5_out_2 : List UInt8 := [29, 160, 0, 5, 2, 172, 21, 5, 62, 132, 4, 1, 167, 255, 229, 21, 4, 172]
abbrev dktX5_out_2 : List UInt8 := dkwX5_out_2 ++ []
def dkwX5_out_1 : List UInt8 := [100, 61, 4, 27, 120, 62, 3, 54, 4, 29, 28, 159, 0, 28, 42, 29, 3, 182, 1, 114, 54, 5, 21, 5]
abbrev dktX5_out_1 : List UInt8 := dkwX5_out_1 ++ dktX5_out_2
def dkwX5_out_0 : List UInt8 := [42, 3, 181, 0, 1, 42, 27, 182, 1, 16, 154, 0, 5, 2, 172, 4, 42, 180, 0, 33, 3, 46, 120, 4]
abbrev dktX5_out_0 : List UInt8 := dkwX5_out_0 ++ dktX5_out_1
theorem dksX5_out_0 : cX5_out.data.toList.drop 0 = dktX5_out_0 := by decide +kernel
theorem dksX5_out_1 : cX5_out.data.toList.drop 24 = dktX5_out_1 := dk_seg dksX5_out_0 24 rfl rfl
theorem dksX5_out_2 : cX5_out.data.toList.drop 48 = dktX5_out_2 := dk_seg dksX5_out_1 24 rfl rfl
theorem dX5_out_0 : decode cX5_out 0 = .ok (.aload_n 0, 1) := dk_42 (dk_at dksX5_out_0 0 rfl rfl)
theorem dX5_out_1 : decode cX5_out 1 = .ok (.iconst 0, 1) := dk_3 (dk_at dksX5_out_0 1 rfl rfl)
theorem dX5_out_2 : decode cX5_out 2 = .ok (.putfield 1, 3) := dk_181 0 1 (dk_at dksX5_out_0 2 rfl rfl)
theorem dX5_out_5 : decode cX5_out 5 = .ok (.aload_n 0, 1) := dk_42 (dk_at dksX5_out_0 5 rfl rfl)
theorem dX5_out_6 : decode cX5_out 6 = .ok (.iload_n 1, 1) := dk_27 (dk_at dksX5_out_0 6 rfl rfl)
theorem dX5_out_7 : decode cX5_out 7 = .ok (.invokevirtual 272, 3) := dk_182 1 16 (dk_at dksX5_out_0 7 rfl rfl)
theorem dX5_out_10 : decode cX5_out 10 = .ok (.ifCond .ne 5, 3) := dk_154 0 5 (dk_at dksX5_out_0 10 rfl rfl)
theorem dX5_out_13 : decode cX5_out 13 = .ok (.iconst (-1), 1) := dk_2 (dk_at dksX5_out_0 13 rfl rfl)
theorem dX5_out_14 : decode cX5_out 14 = .ok (.ireturn, 1) := dk_172 (dk_at dksX5_out_0 14 rfl rfl)
theorem dX5_out_15 : decode cX5_out 15 = .ok (.iconst 1, 1) := dk_4 (dk_at dksX5_out_0 15 rfl rfl)
theorem dX5_out_16 : decode cX5_out 16 = .ok (.aload_n 0, 1) := dk_42 (dk_at dksX5_out_0 16 rfl rfl)
theorem dX5_out_17 : decode cX5_out 17 = .ok (.getfield 33, 3) := dk_180 0 33 (dk_at dksX5_out_0 17 rfl rfl)
theorem dX5_out_20 : decode cX5_out 20 = .ok (.iconst 0, 1) := dk_3 (dk_at dksX5_out_0 20 rfl rfl)
theorem dX5_out_21 : decode cX5_out 21 = .ok (.iaload, 1) := dk_46 (dk_at dksX5_out_0 21 rfl rfl)
theorem dX5_out_22 : decode cX5_out 22 = .ok (.ishl, 1) := dk_120 (dk_at dksX5_out_0 22 rfl rfl)
theorem dX5_out_23 : decode cX5_out 23 = .ok (.iconst 1, 1) := dk_4 (dk_at dksX5_out_0 23 rfl rfl)
theorem dX5_out_24 : decode cX5_out 24 = .ok (.isub, 1) := dk_100 (dk_at dksX5_out_1 0 rfl rfl)
theorem dX5_out_25 : decode cX5_out 25 = .ok (.istore_n 2, 1) := dk_61 (dk_at dksX5_out_1 1 rfl rfl)
theorem dX5_out_26 : decode cX5_out 26 = .ok (.iconst 1, 1) := dk_4 (dk_at dksX5_out_1 2 rfl rfl)
theorem dX5_out_27 : decode cX5_out 27 = .ok (.iload_n 1, 1) := dk_27 (dk_at dksX5_out_1 3 rfl rfl)
theorem dX5_out_28 : decode cX5_out 28 = .ok (.ishl, 1) := dk_120 (dk_at dksX5_out_1 4 rfl rfl)
theorem dX5_out_29 : decode cX5_out 29 = .ok (.istore_n 3, 1) := dk_62 (dk_at dksX5_out_1 5 rfl rfl)
theorem dX5_out_30 : decode cX5_out 30 = .ok (.iconst 0, 1) := dk_3 (dk_at dksX5_out_1 6 rfl rfl)
theorem dX5_out_31 : decode cX5_out 31 = .ok (.istore 4, 2) := dk_54 4 (dk_at dksX5_out_1 7 rfl rfl)
theorem dX5_out_33 : decode cX5_out 33 = .ok (.iload_n 3, 1) := dk_29 (dk_at dksX5_out_1 9 rfl rfl)
theorem dX5_out_34 : decode cX5_out 34 = .ok (.iload_n 2, 1) := dk_28 (dk_at dksX5_out_1 10 rfl rfl)
theorem dX5_out_35 : decode cX5_out 35 = .ok (.if_icmp .eq 28, 3) := dk_159 0 28 (dk_at dksX5_out_1 11 rfl rfl)
theorem dX5_out_38 : decode cX5_out 38 = .ok (.aload_n 0, 1) := dk_42 (dk_at dksX5_out_1 14 rfl rfl)
theorem dX5_out_39 : decode cX5_out 39 = .ok (.iload_n 3, 1) := dk_29 (dk_at dksX5_out_1 15 rfl rfl)
theorem dX5_out_40 : decode cX5_out 40 = .ok (.iconst 0, 1) := dk_3 (dk_at dksX5_out_1 16 rfl rfl)
theorem dX5_out_41 : decode cX5_out 41 = .ok (.invokevirtual 370, 3) := dk_182 1 114 (dk_at dksX5_out_1 17 rfl rfl)
theorem dX5_out_44 : decode cX5_out 44 = .ok (.istore 5, 2) := dk_54 5 (dk_at dksX5_out_1 20 rfl rfl)
theorem dX5_out_46 : decode cX5_out 46 = .ok (.iload 5, 2) := dk_21 5 (dk_at dksX5_out_1 22 rfl rfl)
theorem dX5_out_48 : decode cX5_out 48 = .ok (.iload_n 3, 1) := dk_29 (dk_at dksX5_out_2 0 rfl rfl)
theorem dX5_out_49 : decode cX5_out 49 = .ok (.if_icmp .ne 5, 3) := dk_160 0 5 (dk_at dksX5_out_2 1 rfl rfl)
theorem dX5_out_52 : decode cX5_out 52 = .ok (.iconst (-1), 1) := dk_2 (dk_at dksX5_out_2 4 rfl rfl)
theorem dX5_out_53 : decode cX5_out 53 = .ok (.ireturn, 1) := dk_172 (dk_at dksX5_out_2 5 rfl rfl)
theorem dX5_out_54 : decode cX5_out 54 = .ok (.iload 5, 2) := dk_21 5 (dk_at dksX5_out_2 6 rfl rfl)
theorem dX5_out_56 : decode cX5_out 56 = .ok (.istore_n 3, 1) := dk_62 (dk_at dksX5_out_2 8 rfl rfl)
theorem dX5_out_57 : decode cX5_out 57 = .ok (.iinc 4 1, 3) := dk_132 4 1 (dk_at dksX5_out_2 9 rfl rfl)
theorem dX5_out_60 : decode cX5_out 60 = .ok (.goto (-27), 3) := dk_167 255 229 (dk_at dksX5_out_2 12 rfl rfl)
theorem dX5_out_63 : decode cX5_out 63 = .ok (.iload 4, 2) := dk_21 4 (dk_at dksX5_out_2 15 rfl rfl)
theorem dX5_out_65 : decode cX5_out 65 = .ok (.ireturn, 1) := dk_172 (dk_at dksX5_out_2 17 rfl rfl)
abbrev cX5_tolds : ByteArray := prog_26_method_82_code
def yX5_tolds : MethodName := ⟨RX5, "tolds", "(II)I"⟩
def dkwX5_tolds_2 : List UInt8 := [130, 126, 172]
abbrev dktX5_tolds_2 : List UInt8 := dkwX5_tolds_2 ++ []
def dkwX5_tolds_1 : List UInt8 := [153, 0, 12, 42, 21, 4, 182, 1, 9, 167, 0, 4, 3, 128, 62, 132, 4, 1, 167, 255, 220, 29, 28, 2]
abbrev dktX5_tolds_1 : List UInt8 := dkwX5_tolds_1 ++ dktX5_tolds_2
def dkwX5_tolds_0 : List UInt8 := [27, 62, 3, 54, 4, 21, 4, 42, 180, 0, 33, 3, 46, 162, 0, 31, 29, 27, 21, 4, 184, 0, 214]
abbrev dktX5_tolds_0 : List UInt8 := dkwX5_tolds_0 ++ dktX5_tolds_1
theorem dksX5_tolds_0 : cX5_tolds.data.toList.drop 0 = dktX5_tolds_0 := by decide +kernel
theorem dksX5_tolds_1 : cX5_tolds.data.toList.drop 23 = dktX5_tolds_1 := dk_seg dksX5_tolds_0 23 rfl rfl
theorem dksX5_tolds_2 : cX5_tolds.data.toList.drop 47 = dktX5_tolds_2 := dk_seg dksX5_tolds_1 24 rfl rfl
theorem dX5_tolds_0 : decode cX5_tolds 0 = .ok (.iload_n 1, 1) := dk_27 (dk_at dksX5_tolds_0 0 rfl rfl)
theorem dX5_tolds_1 : decode cX5_tolds 1 = .ok (.istore_n 3, 1) := dk_62 (dk_at dksX5_tolds_0 1 rfl rfl)
theorem dX5_tolds_2 : decode cX5_tolds 2 = .ok (.iconst 0, 1) := dk_3 (dk_at dksX5_tolds_0 2 rfl rfl)
theorem dX5_tolds_3 : decode cX5_tolds 3 = .ok (.istore 4, 2) := dk_54 4 (dk_at dksX5_tolds_0 3 rfl rfl)
theorem dX5_tolds_5 : decode cX5_tolds 5 = .ok (.iload 4, 2) := dk_21 4 (dk_at dksX5_tolds_0 5 rfl rfl)
theorem dX5_tolds_7 : decode cX5_tolds 7 = .ok (.aload_n 0, 1) := dk_42 (dk_at dksX5_tolds_0 7 rfl rfl)
theorem dX5_tolds_8 : decode cX5_tolds 8 = .ok (.getfield 33, 3) := dk_180 0 33 (dk_at dksX5_tolds_0 8 rfl rfl)
theorem dX5_tolds_11 : decode cX5_tolds 11 = .ok (.iconst 0, 1) := dk_3 (dk_at dksX5_tolds_0 11 rfl rfl)
theorem dX5_tolds_12 : decode cX5_tolds 12 = .ok (.iaload, 1) := dk_46 (dk_at dksX5_tolds_0 12 rfl rfl)
theorem dX5_tolds_13 : decode cX5_tolds 13 = .ok (.if_icmp .ge 31, 3) := dk_162 0 31 (dk_at dksX5_tolds_0 13 rfl rfl)
theorem dX5_tolds_16 : decode cX5_tolds 16 = .ok (.iload_n 3, 1) := dk_29 (dk_at dksX5_tolds_0 16 rfl rfl)
theorem dX5_tolds_17 : decode cX5_tolds 17 = .ok (.iload_n 1, 1) := dk_27 (dk_at dksX5_tolds_0 17 rfl rfl)
theorem dX5_tolds_18 : decode cX5_tolds 18 = .ok (.iload 4, 2) := dk_21 4 (dk_at dksX5_tolds_0 18 rfl rfl)
theorem dX5_tolds_20 : decode cX5_tolds 20 = .ok (.invokestatic 214, 3) := dk_184 0 214 (dk_at dksX5_tolds_0 20 rfl rfl)
theorem dX5_tolds_23 : decode cX5_tolds 23 = .ok (.ifCond .eq 12, 3) := dk_153 0 12 (dk_at dksX5_tolds_1 0 rfl rfl)
theorem dX5_tolds_26 : decode cX5_tolds 26 = .ok (.aload_n 0, 1) := dk_42 (dk_at dksX5_tolds_1 3 rfl rfl)
theorem dX5_tolds_27 : decode cX5_tolds 27 = .ok (.iload 4, 2) := dk_21 4 (dk_at dksX5_tolds_1 4 rfl rfl)
theorem dX5_tolds_29 : decode cX5_tolds 29 = .ok (.invokevirtual 265, 3) := dk_182 1 9 (dk_at dksX5_tolds_1 6 rfl rfl)
theorem dX5_tolds_32 : decode cX5_tolds 32 = .ok (.goto 4, 3) := dk_167 0 4 (dk_at dksX5_tolds_1 9 rfl rfl)
theorem dX5_tolds_35 : decode cX5_tolds 35 = .ok (.iconst 0, 1) := dk_3 (dk_at dksX5_tolds_1 12 rfl rfl)
theorem dX5_tolds_36 : decode cX5_tolds 36 = .ok (.ior, 1) := dk_128 (dk_at dksX5_tolds_1 13 rfl rfl)
theorem dX5_tolds_37 : decode cX5_tolds 37 = .ok (.istore_n 3, 1) := dk_62 (dk_at dksX5_tolds_1 14 rfl rfl)
theorem dX5_tolds_38 : decode cX5_tolds 38 = .ok (.iinc 4 1, 3) := dk_132 4 1 (dk_at dksX5_tolds_1 15 rfl rfl)
theorem dX5_tolds_41 : decode cX5_tolds 41 = .ok (.goto (-36), 3) := dk_167 255 220 (dk_at dksX5_tolds_1 18 rfl rfl)
theorem dX5_tolds_44 : decode cX5_tolds 44 = .ok (.iload_n 3, 1) := dk_29 (dk_at dksX5_tolds_1 21 rfl rfl)
theorem dX5_tolds_45 : decode cX5_tolds 45 = .ok (.iload_n 2, 1) := dk_28 (dk_at dksX5_tolds_1 22 rfl rfl)
theorem dX5_tolds_46 : decode cX5_tolds 46 = .ok (.iconst (-1), 1) := dk_2 (dk_at dksX5_tolds_1 23 rfl rfl)
theorem dX5_tolds_47 : decode cX5_tolds 47 = .ok (.ixor, 1) := dk_130 (dk_at dksX5_tolds_2 0 rfl rfl)
theorem dX5_tolds_48 : decode cX5_tolds 48 = .ok (.iand, 1) := dk_126 (dk_at dksX5_tolds_2 1 rfl rfl)
theorem dX5_tolds_49 : decode cX5_tolds 49 = .ok (.ireturn, 1) := dk_172 (dk_at dksX5_tolds_2 2 rfl rfl)
abbrev cX5_apart : ByteArray := prog_26_method_85_code
def yX5_apart : MethodName := ⟨RX5, "apart", "(II)I"⟩
def dkwX5_apart_5 : List UInt8 := [29, 181, 1, 123, 29, 184, 1, 28, 172]
abbrev dktX5_apart_5 : List UInt8 := dkwX5_apart_5 ++ []
def dkwX5_apart_4 : List UInt8 := [28, 21, 4, 182, 1, 117, 153, 0, 6, 21, 4, 62, 132, 4, 1, 167, 255, 192, 42, 4, 181, 1, 120, 42]
abbrev dktX5_apart_4 : List UInt8 := dkwX5_apart_4 ++ dktX5_apart_5
def dkwX5_apart_3 : List UInt8 := [184, 0, 214, 154, 0, 33, 29, 155, 0, 15, 21, 4, 184, 1, 28, 29, 184, 1, 28, 162, 0, 17, 42, 27]
abbrev dktX5_apart_3 : List UInt8 := dkwX5_apart_3 ++ dktX5_apart_4
def dkwX5_apart_2 : List UInt8 := [4, 42, 180, 0, 33, 3, 46, 120, 162, 0, 57, 21, 4, 27, 184, 0, 214, 154, 0, 42, 21, 4, 28]
abbrev dktX5_apart_2 : List UInt8 := dkwX5_apart_2 ++ dktX5_apart_3
def dkwX5_apart_1 : List UInt8 := [159, 0, 15, 42, 27, 182, 1, 9, 28, 184, 0, 214, 153, 0, 5, 2, 172, 2, 62, 3, 54, 4, 21, 4]
abbrev dktX5_apart_1 : List UInt8 := dkwX5_apart_1 ++ dktX5_apart_2
def dkwX5_apart_0 : List UInt8 := [42, 3, 181, 0, 1, 42, 27, 182, 1, 16, 153, 0, 28, 42, 28, 182, 1, 16, 153, 0, 20, 27, 28]
abbrev dktX5_apart_0 : List UInt8 := dkwX5_apart_0 ++ dktX5_apart_1
theorem dksX5_apart_0 : cX5_apart.data.toList.drop 0 = dktX5_apart_0 := by decide +kernel
theorem dksX5_apart_1 : cX5_apart.data.toList.drop 23 = dktX5_apart_1 := dk_seg dksX5_apart_0 23 rfl rfl
theorem dksX5_apart_2 : cX5_apart.data.toList.drop 47 = dktX5_apart_2 := dk_seg dksX5_apart_1 24 rfl rfl
theorem dksX5_apart_3 : cX5_apart.data.toList.drop 70 = dktX5_apart_3 := dk_seg dksX5_apart_2 23 rfl rfl
theorem dksX5_apart_4 : cX5_apart.data.toList.drop 94 = dktX5_apart_4 := dk_seg dksX5_apart_3 24 rfl rfl
theorem dksX5_apart_5 : cX5_apart.data.toList.drop 118 = dktX5_apart_5 := dk_seg dksX5_apart_4 24 rfl rfl
theorem dX5_apart_0 : decode cX5_apart 0 = .ok (.aload_n 0, 1) := dk_42 (dk_at dksX5_apart_0 0 rfl rfl)
theorem dX5_apart_1 : decode cX5_apart 1 = .ok (.iconst 0, 1) := dk_3 (dk_at dksX5_apart_0 1 rfl rfl)
theorem dX5_apart_2 : decode cX5_apart 2 = .ok (.putfield 1, 3) := dk_181 0 1 (dk_at dksX5_apart_0 2 rfl rfl)
theorem dX5_apart_5 : decode cX5_apart 5 = .ok (.aload_n 0, 1) := dk_42 (dk_at dksX5_apart_0 5 rfl rfl)
theorem dX5_apart_6 : decode cX5_apart 6 = .ok (.iload_n 1, 1) := dk_27 (dk_at dksX5_apart_0 6 rfl rfl)
theorem dX5_apart_7 : decode cX5_apart 7 = .ok (.invokevirtual 272, 3) := dk_182 1 16 (dk_at dksX5_apart_0 7 rfl rfl)
theorem dX5_apart_10 : decode cX5_apart 10 = .ok (.ifCond .eq 28, 3) := dk_153 0 28 (dk_at dksX5_apart_0 10 rfl rfl)
theorem dX5_apart_13 : decode cX5_apart 13 = .ok (.aload_n 0, 1) := dk_42 (dk_at dksX5_apart_0 13 rfl rfl)
theorem dX5_apart_14 : decode cX5_apart 14 = .ok (.iload_n 2, 1) := dk_28 (dk_at dksX5_apart_0 14 rfl rfl)
theorem dX5_apart_15 : decode cX5_apart 15 = .ok (.invokevirtual 272, 3) := dk_182 1 16 (dk_at dksX5_apart_0 15 rfl rfl)
theorem dX5_apart_18 : decode cX5_apart 18 = .ok (.ifCond .eq 20, 3) := dk_153 0 20 (dk_at dksX5_apart_0 18 rfl rfl)
theorem dX5_apart_21 : decode cX5_apart 21 = .ok (.iload_n 1, 1) := dk_27 (dk_at dksX5_apart_0 21 rfl rfl)
theorem dX5_apart_22 : decode cX5_apart 22 = .ok (.iload_n 2, 1) := dk_28 (dk_at dksX5_apart_0 22 rfl rfl)
theorem dX5_apart_23 : decode cX5_apart 23 = .ok (.if_icmp .eq 15, 3) := dk_159 0 15 (dk_at dksX5_apart_1 0 rfl rfl)
theorem dX5_apart_26 : decode cX5_apart 26 = .ok (.aload_n 0, 1) := dk_42 (dk_at dksX5_apart_1 3 rfl rfl)
theorem dX5_apart_27 : decode cX5_apart 27 = .ok (.iload_n 1, 1) := dk_27 (dk_at dksX5_apart_1 4 rfl rfl)
theorem dX5_apart_28 : decode cX5_apart 28 = .ok (.invokevirtual 265, 3) := dk_182 1 9 (dk_at dksX5_apart_1 5 rfl rfl)
theorem dX5_apart_31 : decode cX5_apart 31 = .ok (.iload_n 2, 1) := dk_28 (dk_at dksX5_apart_1 8 rfl rfl)
theorem dX5_apart_32 : decode cX5_apart 32 = .ok (.invokestatic 214, 3) := dk_184 0 214 (dk_at dksX5_apart_1 9 rfl rfl)
theorem dX5_apart_35 : decode cX5_apart 35 = .ok (.ifCond .eq 5, 3) := dk_153 0 5 (dk_at dksX5_apart_1 12 rfl rfl)
theorem dX5_apart_38 : decode cX5_apart 38 = .ok (.iconst (-1), 1) := dk_2 (dk_at dksX5_apart_1 15 rfl rfl)
theorem dX5_apart_39 : decode cX5_apart 39 = .ok (.ireturn, 1) := dk_172 (dk_at dksX5_apart_1 16 rfl rfl)
theorem dX5_apart_40 : decode cX5_apart 40 = .ok (.iconst (-1), 1) := dk_2 (dk_at dksX5_apart_1 17 rfl rfl)
theorem dX5_apart_41 : decode cX5_apart 41 = .ok (.istore_n 3, 1) := dk_62 (dk_at dksX5_apart_1 18 rfl rfl)
theorem dX5_apart_42 : decode cX5_apart 42 = .ok (.iconst 0, 1) := dk_3 (dk_at dksX5_apart_1 19 rfl rfl)
theorem dX5_apart_43 : decode cX5_apart 43 = .ok (.istore 4, 2) := dk_54 4 (dk_at dksX5_apart_1 20 rfl rfl)
theorem dX5_apart_45 : decode cX5_apart 45 = .ok (.iload 4, 2) := dk_21 4 (dk_at dksX5_apart_1 22 rfl rfl)
theorem dX5_apart_47 : decode cX5_apart 47 = .ok (.iconst 1, 1) := dk_4 (dk_at dksX5_apart_2 0 rfl rfl)
theorem dX5_apart_48 : decode cX5_apart 48 = .ok (.aload_n 0, 1) := dk_42 (dk_at dksX5_apart_2 1 rfl rfl)
theorem dX5_apart_49 : decode cX5_apart 49 = .ok (.getfield 33, 3) := dk_180 0 33 (dk_at dksX5_apart_2 2 rfl rfl)
theorem dX5_apart_52 : decode cX5_apart 52 = .ok (.iconst 0, 1) := dk_3 (dk_at dksX5_apart_2 5 rfl rfl)
theorem dX5_apart_53 : decode cX5_apart 53 = .ok (.iaload, 1) := dk_46 (dk_at dksX5_apart_2 6 rfl rfl)
theorem dX5_apart_54 : decode cX5_apart 54 = .ok (.ishl, 1) := dk_120 (dk_at dksX5_apart_2 7 rfl rfl)
theorem dX5_apart_55 : decode cX5_apart 55 = .ok (.if_icmp .ge 57, 3) := dk_162 0 57 (dk_at dksX5_apart_2 8 rfl rfl)
theorem dX5_apart_58 : decode cX5_apart 58 = .ok (.iload 4, 2) := dk_21 4 (dk_at dksX5_apart_2 11 rfl rfl)
theorem dX5_apart_60 : decode cX5_apart 60 = .ok (.iload_n 1, 1) := dk_27 (dk_at dksX5_apart_2 13 rfl rfl)
theorem dX5_apart_61 : decode cX5_apart 61 = .ok (.invokestatic 214, 3) := dk_184 0 214 (dk_at dksX5_apart_2 14 rfl rfl)
theorem dX5_apart_64 : decode cX5_apart 64 = .ok (.ifCond .ne 42, 3) := dk_154 0 42 (dk_at dksX5_apart_2 17 rfl rfl)
theorem dX5_apart_67 : decode cX5_apart 67 = .ok (.iload 4, 2) := dk_21 4 (dk_at dksX5_apart_2 20 rfl rfl)
theorem dX5_apart_69 : decode cX5_apart 69 = .ok (.iload_n 2, 1) := dk_28 (dk_at dksX5_apart_2 22 rfl rfl)
theorem dX5_apart_70 : decode cX5_apart 70 = .ok (.invokestatic 214, 3) := dk_184 0 214 (dk_at dksX5_apart_3 0 rfl rfl)
theorem dX5_apart_73 : decode cX5_apart 73 = .ok (.ifCond .ne 33, 3) := dk_154 0 33 (dk_at dksX5_apart_3 3 rfl rfl)
theorem dX5_apart_76 : decode cX5_apart 76 = .ok (.iload_n 3, 1) := dk_29 (dk_at dksX5_apart_3 6 rfl rfl)
theorem dX5_apart_77 : decode cX5_apart 77 = .ok (.ifCond .lt 15, 3) := dk_155 0 15 (dk_at dksX5_apart_3 7 rfl rfl)
theorem dX5_apart_80 : decode cX5_apart 80 = .ok (.iload 4, 2) := dk_21 4 (dk_at dksX5_apart_3 10 rfl rfl)
theorem dX5_apart_82 : decode cX5_apart 82 = .ok (.invokestatic 284, 3) := dk_184 1 28 (dk_at dksX5_apart_3 12 rfl rfl)
theorem dX5_apart_85 : decode cX5_apart 85 = .ok (.iload_n 3, 1) := dk_29 (dk_at dksX5_apart_3 15 rfl rfl)
theorem dX5_apart_86 : decode cX5_apart 86 = .ok (.invokestatic 284, 3) := dk_184 1 28 (dk_at dksX5_apart_3 16 rfl rfl)
theorem dX5_apart_89 : decode cX5_apart 89 = .ok (.if_icmp .ge 17, 3) := dk_162 0 17 (dk_at dksX5_apart_3 19 rfl rfl)
theorem dX5_apart_92 : decode cX5_apart 92 = .ok (.aload_n 0, 1) := dk_42 (dk_at dksX5_apart_3 22 rfl rfl)
theorem dX5_apart_93 : decode cX5_apart 93 = .ok (.iload_n 1, 1) := dk_27 (dk_at dksX5_apart_3 23 rfl rfl)
theorem dX5_apart_94 : decode cX5_apart 94 = .ok (.iload_n 2, 1) := dk_28 (dk_at dksX5_apart_4 0 rfl rfl)
theorem dX5_apart_95 : decode cX5_apart 95 = .ok (.iload 4, 2) := dk_21 4 (dk_at dksX5_apart_4 1 rfl rfl)
theorem dX5_apart_97 : decode cX5_apart 97 = .ok (.invokevirtual 373, 3) := dk_182 1 117 (dk_at dksX5_apart_4 3 rfl rfl)
theorem dX5_apart_100 : decode cX5_apart 100 = .ok (.ifCond .eq 6, 3) := dk_153 0 6 (dk_at dksX5_apart_4 6 rfl rfl)
theorem dX5_apart_103 : decode cX5_apart 103 = .ok (.iload 4, 2) := dk_21 4 (dk_at dksX5_apart_4 9 rfl rfl)
theorem dX5_apart_105 : decode cX5_apart 105 = .ok (.istore_n 3, 1) := dk_62 (dk_at dksX5_apart_4 11 rfl rfl)
theorem dX5_apart_106 : decode cX5_apart 106 = .ok (.iinc 4 1, 3) := dk_132 4 1 (dk_at dksX5_apart_4 12 rfl rfl)
theorem dX5_apart_109 : decode cX5_apart 109 = .ok (.goto (-64), 3) := dk_167 255 192 (dk_at dksX5_apart_4 15 rfl rfl)
theorem dX5_apart_112 : decode cX5_apart 112 = .ok (.aload_n 0, 1) := dk_42 (dk_at dksX5_apart_4 18 rfl rfl)
theorem dX5_apart_113 : decode cX5_apart 113 = .ok (.iconst 1, 1) := dk_4 (dk_at dksX5_apart_4 19 rfl rfl)
theorem dX5_apart_114 : decode cX5_apart 114 = .ok (.putfield 376, 3) := dk_181 1 120 (dk_at dksX5_apart_4 20 rfl rfl)
theorem dX5_apart_117 : decode cX5_apart 117 = .ok (.aload_n 0, 1) := dk_42 (dk_at dksX5_apart_4 23 rfl rfl)
theorem dX5_apart_118 : decode cX5_apart 118 = .ok (.iload_n 3, 1) := dk_29 (dk_at dksX5_apart_5 0 rfl rfl)
theorem dX5_apart_119 : decode cX5_apart 119 = .ok (.putfield 379, 3) := dk_181 1 123 (dk_at dksX5_apart_5 1 rfl rfl)
theorem dX5_apart_122 : decode cX5_apart 122 = .ok (.iload_n 3, 1) := dk_29 (dk_at dksX5_apart_5 4 rfl rfl)
theorem dX5_apart_123 : decode cX5_apart 123 = .ok (.invokestatic 284, 3) := dk_184 1 28 (dk_at dksX5_apart_5 5 rfl rfl)
theorem dX5_apart_126 : decode cX5_apart 126 = .ok (.ireturn, 1) := dk_172 (dk_at dksX5_apart_5 8 rfl rfl)
abbrev cX5_areApart : ByteArray := prog_26_method_84_code
def yX5_areApart : MethodName := ⟨RX5, "areApart", "(III)Z"⟩
def dkwX5_areApart_1 : List UInt8 := [132, 5, 1, 167, 255, 237, 21, 4, 28, 184, 0, 214, 154, 0, 7, 4, 167, 0, 4, 3, 172]
abbrev dktX5_areApart_1 : List UInt8 := dkwX5_areApart_1 ++ []
def dkwX5_areApart_0 : List UInt8 := [4, 27, 120, 54, 4, 3, 54, 5, 21, 5, 16, 7, 162, 0, 18, 42, 21, 4, 29, 182, 1, 114, 54, 4]
abbrev dktX5_areApart_0 : List UInt8 := dkwX5_areApart_0 ++ dktX5_areApart_1
theorem dksX5_areApart_0 : cX5_areApart.data.toList.drop 0 = dktX5_areApart_0 := by decide +kernel
theorem dksX5_areApart_1 : cX5_areApart.data.toList.drop 24 = dktX5_areApart_1 := dk_seg dksX5_areApart_0 24 rfl rfl
theorem dX5_areApart_0 : decode cX5_areApart 0 = .ok (.iconst 1, 1) := dk_4 (dk_at dksX5_areApart_0 0 rfl rfl)
theorem dX5_areApart_1 : decode cX5_areApart 1 = .ok (.iload_n 1, 1) := dk_27 (dk_at dksX5_areApart_0 1 rfl rfl)
theorem dX5_areApart_2 : decode cX5_areApart 2 = .ok (.ishl, 1) := dk_120 (dk_at dksX5_areApart_0 2 rfl rfl)
theorem dX5_areApart_3 : decode cX5_areApart 3 = .ok (.istore 4, 2) := dk_54 4 (dk_at dksX5_areApart_0 3 rfl rfl)
theorem dX5_areApart_5 : decode cX5_areApart 5 = .ok (.iconst 0, 1) := dk_3 (dk_at dksX5_areApart_0 5 rfl rfl)
theorem dX5_areApart_6 : decode cX5_areApart 6 = .ok (.istore 5, 2) := dk_54 5 (dk_at dksX5_areApart_0 6 rfl rfl)
theorem dX5_areApart_8 : decode cX5_areApart 8 = .ok (.iload 5, 2) := dk_21 5 (dk_at dksX5_areApart_0 8 rfl rfl)
theorem dX5_areApart_10 : decode cX5_areApart 10 = .ok (.bipush 7, 2) := dk_16 7 (dk_at dksX5_areApart_0 10 rfl rfl)
theorem dX5_areApart_12 : decode cX5_areApart 12 = .ok (.if_icmp .ge 18, 3) := dk_162 0 18 (dk_at dksX5_areApart_0 12 rfl rfl)
theorem dX5_areApart_15 : decode cX5_areApart 15 = .ok (.aload_n 0, 1) := dk_42 (dk_at dksX5_areApart_0 15 rfl rfl)
theorem dX5_areApart_16 : decode cX5_areApart 16 = .ok (.iload 4, 2) := dk_21 4 (dk_at dksX5_areApart_0 16 rfl rfl)
theorem dX5_areApart_18 : decode cX5_areApart 18 = .ok (.iload_n 3, 1) := dk_29 (dk_at dksX5_areApart_0 18 rfl rfl)
theorem dX5_areApart_19 : decode cX5_areApart 19 = .ok (.invokevirtual 370, 3) := dk_182 1 114 (dk_at dksX5_areApart_0 19 rfl rfl)
theorem dX5_areApart_22 : decode cX5_areApart 22 = .ok (.istore 4, 2) := dk_54 4 (dk_at dksX5_areApart_0 22 rfl rfl)
theorem dX5_areApart_24 : decode cX5_areApart 24 = .ok (.iinc 5 1, 3) := dk_132 5 1 (dk_at dksX5_areApart_1 0 rfl rfl)
theorem dX5_areApart_27 : decode cX5_areApart 27 = .ok (.goto (-19), 3) := dk_167 255 237 (dk_at dksX5_areApart_1 3 rfl rfl)
theorem dX5_areApart_30 : decode cX5_areApart 30 = .ok (.iload 4, 2) := dk_21 4 (dk_at dksX5_areApart_1 6 rfl rfl)
theorem dX5_areApart_32 : decode cX5_areApart 32 = .ok (.iload_n 2, 1) := dk_28 (dk_at dksX5_areApart_1 8 rfl rfl)
theorem dX5_areApart_33 : decode cX5_areApart 33 = .ok (.invokestatic 214, 3) := dk_184 0 214 (dk_at dksX5_areApart_1 9 rfl rfl)
theorem dX5_areApart_36 : decode cX5_areApart 36 = .ok (.ifCond .ne 7, 3) := dk_154 0 7 (dk_at dksX5_areApart_1 12 rfl rfl)
theorem dX5_areApart_39 : decode cX5_areApart 39 = .ok (.iconst 1, 1) := dk_4 (dk_at dksX5_areApart_1 15 rfl rfl)
theorem dX5_areApart_40 : decode cX5_areApart 40 = .ok (.goto 4, 3) := dk_167 0 4 (dk_at dksX5_areApart_1 16 rfl rfl)
theorem dX5_areApart_43 : decode cX5_areApart 43 = .ok (.iconst 0, 1) := dk_3 (dk_at dksX5_areApart_1 19 rfl rfl)
theorem dX5_areApart_44 : decode cX5_areApart 44 = .ok (.ireturn, 1) := dk_172 (dk_at dksX5_areApart_1 20 rfl rfl)
abbrev cX5_parting : ByteArray := prog_26_method_86_code
def yX5_parting : MethodName := ⟨RX5, "parting", "()I"⟩
def dkwX5_parting_0 : List UInt8 := [42, 3, 181, 0, 1, 42, 180, 1, 120, 153, 0, 10, 42, 180, 1, 123, 167, 0, 4, 2, 172]
abbrev dktX5_parting_0 : List UInt8 := dkwX5_parting_0 ++ []
theorem dksX5_parting_0 : cX5_parting.data.toList.drop 0 = dktX5_parting_0 := by decide +kernel
theorem dX5_parting_0 : decode cX5_parting 0 = .ok (.aload_n 0, 1) := dk_42 (dk_at dksX5_parting_0 0 rfl rfl)
theorem dX5_parting_1 : decode cX5_parting 1 = .ok (.iconst 0, 1) := dk_3 (dk_at dksX5_parting_0 1 rfl rfl)
theorem dX5_parting_2 : decode cX5_parting 2 = .ok (.putfield 1, 3) := dk_181 0 1 (dk_at dksX5_parting_0 2 rfl rfl)
theorem dX5_parting_5 : decode cX5_parting 5 = .ok (.aload_n 0, 1) := dk_42 (dk_at dksX5_parting_0 5 rfl rfl)
theorem dX5_parting_6 : decode cX5_parting 6 = .ok (.getfield 376, 3) := dk_180 1 120 (dk_at dksX5_parting_0 6 rfl rfl)
theorem dX5_parting_9 : decode cX5_parting 9 = .ok (.ifCond .eq 10, 3) := dk_153 0 10 (dk_at dksX5_parting_0 9 rfl rfl)
theorem dX5_parting_12 : decode cX5_parting 12 = .ok (.aload_n 0, 1) := dk_42 (dk_at dksX5_parting_0 12 rfl rfl)
theorem dX5_parting_13 : decode cX5_parting 13 = .ok (.getfield 379, 3) := dk_180 1 123 (dk_at dksX5_parting_0 13 rfl rfl)
theorem dX5_parting_16 : decode cX5_parting 16 = .ok (.goto 4, 3) := dk_167 0 4 (dk_at dksX5_parting_0 16 rfl rfl)
theorem dX5_parting_19 : decode cX5_parting 19 = .ok (.iconst (-1), 1) := dk_2 (dk_at dksX5_parting_0 19 rfl rfl)
theorem dX5_parting_20 : decode cX5_parting 20 = .ok (.ireturn, 1) := dk_172 (dk_at dksX5_parting_0 20 rfl rfl)
abbrev cX5_recluse : ByteArray := prog_26_method_87_code
def yX5_recluse : MethodName := ⟨RX5, "recluse", "()I"⟩
def dkwX5_recluse_2 : List UInt8 := [167, 255, 218, 27, 172]
abbrev dktX5_recluse_2 : List UInt8 := dkwX5_recluse_2 ++ []
def dkwX5_recluse_1 : List UInt8 := [28, 182, 1, 9, 184, 1, 28, 42, 27, 182, 1, 9, 184, 1, 28, 162, 0, 5, 28, 60, 132, 2, 1]
abbrev dktX5_recluse_1 : List UInt8 := dkwX5_recluse_1 ++ dktX5_recluse_2
def dkwX5_recluse_0 : List UInt8 := [42, 3, 181, 0, 1, 2, 60, 3, 61, 28, 42, 180, 0, 33, 3, 46, 162, 0, 34, 27, 155, 0, 22, 42]
abbrev dktX5_recluse_0 : List UInt8 := dkwX5_recluse_0 ++ dktX5_recluse_1
theorem dksX5_recluse_0 : cX5_recluse.data.toList.drop 0 = dktX5_recluse_0 := by decide +kernel
theorem dksX5_recluse_1 : cX5_recluse.data.toList.drop 24 = dktX5_recluse_1 := dk_seg dksX5_recluse_0 24 rfl rfl
theorem dksX5_recluse_2 : cX5_recluse.data.toList.drop 47 = dktX5_recluse_2 := dk_seg dksX5_recluse_1 23 rfl rfl
theorem dX5_recluse_0 : decode cX5_recluse 0 = .ok (.aload_n 0, 1) := dk_42 (dk_at dksX5_recluse_0 0 rfl rfl)
theorem dX5_recluse_1 : decode cX5_recluse 1 = .ok (.iconst 0, 1) := dk_3 (dk_at dksX5_recluse_0 1 rfl rfl)
theorem dX5_recluse_2 : decode cX5_recluse 2 = .ok (.putfield 1, 3) := dk_181 0 1 (dk_at dksX5_recluse_0 2 rfl rfl)
theorem dX5_recluse_5 : decode cX5_recluse 5 = .ok (.iconst (-1), 1) := dk_2 (dk_at dksX5_recluse_0 5 rfl rfl)
theorem dX5_recluse_6 : decode cX5_recluse 6 = .ok (.istore_n 1, 1) := dk_60 (dk_at dksX5_recluse_0 6 rfl rfl)
theorem dX5_recluse_7 : decode cX5_recluse 7 = .ok (.iconst 0, 1) := dk_3 (dk_at dksX5_recluse_0 7 rfl rfl)
theorem dX5_recluse_8 : decode cX5_recluse 8 = .ok (.istore_n 2, 1) := dk_61 (dk_at dksX5_recluse_0 8 rfl rfl)
theorem dX5_recluse_9 : decode cX5_recluse 9 = .ok (.iload_n 2, 1) := dk_28 (dk_at dksX5_recluse_0 9 rfl rfl)
theorem dX5_recluse_10 : decode cX5_recluse 10 = .ok (.aload_n 0, 1) := dk_42 (dk_at dksX5_recluse_0 10 rfl rfl)
theorem dX5_recluse_11 : decode cX5_recluse 11 = .ok (.getfield 33, 3) := dk_180 0 33 (dk_at dksX5_recluse_0 11 rfl rfl)
theorem dX5_recluse_14 : decode cX5_recluse 14 = .ok (.iconst 0, 1) := dk_3 (dk_at dksX5_recluse_0 14 rfl rfl)
theorem dX5_recluse_15 : decode cX5_recluse 15 = .ok (.iaload, 1) := dk_46 (dk_at dksX5_recluse_0 15 rfl rfl)
theorem dX5_recluse_16 : decode cX5_recluse 16 = .ok (.if_icmp .ge 34, 3) := dk_162 0 34 (dk_at dksX5_recluse_0 16 rfl rfl)
theorem dX5_recluse_19 : decode cX5_recluse 19 = .ok (.iload_n 1, 1) := dk_27 (dk_at dksX5_recluse_0 19 rfl rfl)
theorem dX5_recluse_20 : decode cX5_recluse 20 = .ok (.ifCond .lt 22, 3) := dk_155 0 22 (dk_at dksX5_recluse_0 20 rfl rfl)
theorem dX5_recluse_23 : decode cX5_recluse 23 = .ok (.aload_n 0, 1) := dk_42 (dk_at dksX5_recluse_0 23 rfl rfl)
theorem dX5_recluse_24 : decode cX5_recluse 24 = .ok (.iload_n 2, 1) := dk_28 (dk_at dksX5_recluse_1 0 rfl rfl)
theorem dX5_recluse_25 : decode cX5_recluse 25 = .ok (.invokevirtual 265, 3) := dk_182 1 9 (dk_at dksX5_recluse_1 1 rfl rfl)
theorem dX5_recluse_28 : decode cX5_recluse 28 = .ok (.invokestatic 284, 3) := dk_184 1 28 (dk_at dksX5_recluse_1 4 rfl rfl)
theorem dX5_recluse_31 : decode cX5_recluse 31 = .ok (.aload_n 0, 1) := dk_42 (dk_at dksX5_recluse_1 7 rfl rfl)
theorem dX5_recluse_32 : decode cX5_recluse 32 = .ok (.iload_n 1, 1) := dk_27 (dk_at dksX5_recluse_1 8 rfl rfl)
theorem dX5_recluse_33 : decode cX5_recluse 33 = .ok (.invokevirtual 265, 3) := dk_182 1 9 (dk_at dksX5_recluse_1 9 rfl rfl)
theorem dX5_recluse_36 : decode cX5_recluse 36 = .ok (.invokestatic 284, 3) := dk_184 1 28 (dk_at dksX5_recluse_1 12 rfl rfl)
theorem dX5_recluse_39 : decode cX5_recluse 39 = .ok (.if_icmp .ge 5, 3) := dk_162 0 5 (dk_at dksX5_recluse_1 15 rfl rfl)
theorem dX5_recluse_42 : decode cX5_recluse 42 = .ok (.iload_n 2, 1) := dk_28 (dk_at dksX5_recluse_1 18 rfl rfl)
theorem dX5_recluse_43 : decode cX5_recluse 43 = .ok (.istore_n 1, 1) := dk_60 (dk_at dksX5_recluse_1 19 rfl rfl)
theorem dX5_recluse_44 : decode cX5_recluse 44 = .ok (.iinc 2 1, 3) := dk_132 2 1 (dk_at dksX5_recluse_1 20 rfl rfl)
theorem dX5_recluse_47 : decode cX5_recluse 47 = .ok (.goto (-38), 3) := dk_167 255 218 (dk_at dksX5_recluse_2 0 rfl rfl)
theorem dX5_recluse_50 : decode cX5_recluse 50 = .ok (.iload_n 1, 1) := dk_27 (dk_at dksX5_recluse_2 3 rfl rfl)
theorem dX5_recluse_51 : decode cX5_recluse 51 = .ok (.ireturn, 1) := dk_172 (dk_at dksX5_recluse_2 4 rfl rfl)
abbrev cX5_face : ByteArray := prog_26_method_91_code
def yX5_face : MethodName := ⟨RX5, "face", "(I)I"⟩
def dkwX5_face_5 : List UInt8 := [20, 0, 128, 182, 1, 138, 42, 180, 1, 126, 172]
abbrev dktX5_face_5 : List UInt8 := dkwX5_face_5 ++ []
def dkwX5_face_4 : List UInt8 := [182, 1, 37, 153, 0, 10, 42, 20, 0, 130, 182, 1, 138, 42, 27, 182, 1, 34, 153, 0, 10, 42]
abbrev dktX5_face_4 : List UInt8 := dkwX5_face_4 ++ dktX5_face_5
def dkwX5_face_3 : List UInt8 := [184, 0, 214, 153, 0, 13, 42, 42, 180, 0, 43, 28, 47, 182, 1, 138, 132, 2, 1, 167, 255, 221, 42, 27]
abbrev dktX5_face_3 : List UInt8 := dkwX5_face_3 ++ dktX5_face_4
def dkwX5_face_2 : List UInt8 := [20, 1, 141, 182, 1, 138, 3, 61, 28, 42, 180, 0, 33, 3, 46, 162, 0, 31, 42, 27, 182, 1, 9, 28]
abbrev dktX5_face_2 : List UInt8 := dkwX5_face_2 ++ dktX5_face_3
def dkwX5_face_1 : List UInt8 := [180, 0, 43, 27, 47, 182, 1, 134, 42, 20, 0, 104, 182, 1, 138, 42, 27, 182, 1, 9, 154, 0, 10, 42]
abbrev dktX5_face_1 : List UInt8 := dkwX5_face_1 ++ dktX5_face_2
def dkwX5_face_0 : List UInt8 := [42, 3, 181, 0, 1, 42, 27, 182, 1, 16, 154, 0, 5, 2, 172, 42, 3, 181, 1, 126, 42, 42]
abbrev dktX5_face_0 : List UInt8 := dkwX5_face_0 ++ dktX5_face_1
theorem dksX5_face_0 : cX5_face.data.toList.drop 0 = dktX5_face_0 := by decide +kernel
theorem dksX5_face_1 : cX5_face.data.toList.drop 22 = dktX5_face_1 := dk_seg dksX5_face_0 22 rfl rfl
theorem dksX5_face_2 : cX5_face.data.toList.drop 46 = dktX5_face_2 := dk_seg dksX5_face_1 24 rfl rfl
theorem dksX5_face_3 : cX5_face.data.toList.drop 70 = dktX5_face_3 := dk_seg dksX5_face_2 24 rfl rfl
theorem dksX5_face_4 : cX5_face.data.toList.drop 94 = dktX5_face_4 := dk_seg dksX5_face_3 24 rfl rfl
theorem dksX5_face_5 : cX5_face.data.toList.drop 116 = dktX5_face_5 := dk_seg dksX5_face_4 22 rfl rfl
theorem dX5_face_0 : decode cX5_face 0 = .ok (.aload_n 0, 1) := dk_42 (dk_at dksX5_face_0 0 rfl rfl)
theorem dX5_face_1 : decode cX5_face 1 = .ok (.iconst 0, 1) := dk_3 (dk_at dksX5_face_0 1 rfl rfl)
theorem dX5_face_2 : decode cX5_face 2 = .ok (.putfield 1, 3) := dk_181 0 1 (dk_at dksX5_face_0 2 rfl rfl)
theorem dX5_face_5 : decode cX5_face 5 = .ok (.aload_n 0, 1) := dk_42 (dk_at dksX5_face_0 5 rfl rfl)
theorem dX5_face_6 : decode cX5_face 6 = .ok (.iload_n 1, 1) := dk_27 (dk_at dksX5_face_0 6 rfl rfl)
theorem dX5_face_7 : decode cX5_face 7 = .ok (.invokevirtual 272, 3) := dk_182 1 16 (dk_at dksX5_face_0 7 rfl rfl)
theorem dX5_face_10 : decode cX5_face 10 = .ok (.ifCond .ne 5, 3) := dk_154 0 5 (dk_at dksX5_face_0 10 rfl rfl)
theorem dX5_face_13 : decode cX5_face 13 = .ok (.iconst (-1), 1) := dk_2 (dk_at dksX5_face_0 13 rfl rfl)
theorem dX5_face_14 : decode cX5_face 14 = .ok (.ireturn, 1) := dk_172 (dk_at dksX5_face_0 14 rfl rfl)
theorem dX5_face_15 : decode cX5_face 15 = .ok (.aload_n 0, 1) := dk_42 (dk_at dksX5_face_0 15 rfl rfl)
theorem dX5_face_16 : decode cX5_face 16 = .ok (.iconst 0, 1) := dk_3 (dk_at dksX5_face_0 16 rfl rfl)
theorem dX5_face_17 : decode cX5_face 17 = .ok (.putfield 382, 3) := dk_181 1 126 (dk_at dksX5_face_0 17 rfl rfl)
theorem dX5_face_20 : decode cX5_face 20 = .ok (.aload_n 0, 1) := dk_42 (dk_at dksX5_face_0 20 rfl rfl)
theorem dX5_face_21 : decode cX5_face 21 = .ok (.aload_n 0, 1) := dk_42 (dk_at dksX5_face_0 21 rfl rfl)
theorem dX5_face_22 : decode cX5_face 22 = .ok (.getfield 43, 3) := dk_180 0 43 (dk_at dksX5_face_1 0 rfl rfl)
theorem dX5_face_25 : decode cX5_face 25 = .ok (.iload_n 1, 1) := dk_27 (dk_at dksX5_face_1 3 rfl rfl)
theorem dX5_face_26 : decode cX5_face 26 = .ok (.laload, 1) := dk_47 (dk_at dksX5_face_1 4 rfl rfl)
theorem dX5_face_27 : decode cX5_face 27 = .ok (.invokevirtual 390, 3) := dk_182 1 134 (dk_at dksX5_face_1 5 rfl rfl)
theorem dX5_face_30 : decode cX5_face 30 = .ok (.aload_n 0, 1) := dk_42 (dk_at dksX5_face_1 8 rfl rfl)
theorem dX5_face_31 : decode cX5_face 31 = .ok (.ldc2_w 104, 3) := dk_20 0 104 (dk_at dksX5_face_1 9 rfl rfl)
theorem dX5_face_34 : decode cX5_face 34 = .ok (.invokevirtual 394, 3) := dk_182 1 138 (dk_at dksX5_face_1 12 rfl rfl)
theorem dX5_face_37 : decode cX5_face 37 = .ok (.aload_n 0, 1) := dk_42 (dk_at dksX5_face_1 15 rfl rfl)
theorem dX5_face_38 : decode cX5_face 38 = .ok (.iload_n 1, 1) := dk_27 (dk_at dksX5_face_1 16 rfl rfl)
theorem dX5_face_39 : decode cX5_face 39 = .ok (.invokevirtual 265, 3) := dk_182 1 9 (dk_at dksX5_face_1 17 rfl rfl)
theorem dX5_face_42 : decode cX5_face 42 = .ok (.ifCond .ne 10, 3) := dk_154 0 10 (dk_at dksX5_face_1 20 rfl rfl)
theorem dX5_face_45 : decode cX5_face 45 = .ok (.aload_n 0, 1) := dk_42 (dk_at dksX5_face_1 23 rfl rfl)
theorem dX5_face_46 : decode cX5_face 46 = .ok (.ldc2_w 397, 3) := dk_20 1 141 (dk_at dksX5_face_2 0 rfl rfl)
theorem dX5_face_49 : decode cX5_face 49 = .ok (.invokevirtual 394, 3) := dk_182 1 138 (dk_at dksX5_face_2 3 rfl rfl)
theorem dX5_face_52 : decode cX5_face 52 = .ok (.iconst 0, 1) := dk_3 (dk_at dksX5_face_2 6 rfl rfl)
theorem dX5_face_53 : decode cX5_face 53 = .ok (.istore_n 2, 1) := dk_61 (dk_at dksX5_face_2 7 rfl rfl)
theorem dX5_face_54 : decode cX5_face 54 = .ok (.iload_n 2, 1) := dk_28 (dk_at dksX5_face_2 8 rfl rfl)
theorem dX5_face_55 : decode cX5_face 55 = .ok (.aload_n 0, 1) := dk_42 (dk_at dksX5_face_2 9 rfl rfl)
theorem dX5_face_56 : decode cX5_face 56 = .ok (.getfield 33, 3) := dk_180 0 33 (dk_at dksX5_face_2 10 rfl rfl)
theorem dX5_face_59 : decode cX5_face 59 = .ok (.iconst 0, 1) := dk_3 (dk_at dksX5_face_2 13 rfl rfl)
theorem dX5_face_60 : decode cX5_face 60 = .ok (.iaload, 1) := dk_46 (dk_at dksX5_face_2 14 rfl rfl)
theorem dX5_face_61 : decode cX5_face 61 = .ok (.if_icmp .ge 31, 3) := dk_162 0 31 (dk_at dksX5_face_2 15 rfl rfl)
theorem dX5_face_64 : decode cX5_face 64 = .ok (.aload_n 0, 1) := dk_42 (dk_at dksX5_face_2 18 rfl rfl)
theorem dX5_face_65 : decode cX5_face 65 = .ok (.iload_n 1, 1) := dk_27 (dk_at dksX5_face_2 19 rfl rfl)
theorem dX5_face_66 : decode cX5_face 66 = .ok (.invokevirtual 265, 3) := dk_182 1 9 (dk_at dksX5_face_2 20 rfl rfl)
theorem dX5_face_69 : decode cX5_face 69 = .ok (.iload_n 2, 1) := dk_28 (dk_at dksX5_face_2 23 rfl rfl)
theorem dX5_face_70 : decode cX5_face 70 = .ok (.invokestatic 214, 3) := dk_184 0 214 (dk_at dksX5_face_3 0 rfl rfl)
theorem dX5_face_73 : decode cX5_face 73 = .ok (.ifCond .eq 13, 3) := dk_153 0 13 (dk_at dksX5_face_3 3 rfl rfl)
theorem dX5_face_76 : decode cX5_face 76 = .ok (.aload_n 0, 1) := dk_42 (dk_at dksX5_face_3 6 rfl rfl)
theorem dX5_face_77 : decode cX5_face 77 = .ok (.aload_n 0, 1) := dk_42 (dk_at dksX5_face_3 7 rfl rfl)
theorem dX5_face_78 : decode cX5_face 78 = .ok (.getfield 43, 3) := dk_180 0 43 (dk_at dksX5_face_3 8 rfl rfl)
theorem dX5_face_81 : decode cX5_face 81 = .ok (.iload_n 2, 1) := dk_28 (dk_at dksX5_face_3 11 rfl rfl)
theorem dX5_face_82 : decode cX5_face 82 = .ok (.laload, 1) := dk_47 (dk_at dksX5_face_3 12 rfl rfl)
theorem dX5_face_83 : decode cX5_face 83 = .ok (.invokevirtual 394, 3) := dk_182 1 138 (dk_at dksX5_face_3 13 rfl rfl)
theorem dX5_face_86 : decode cX5_face 86 = .ok (.iinc 2 1, 3) := dk_132 2 1 (dk_at dksX5_face_3 16 rfl rfl)
theorem dX5_face_89 : decode cX5_face 89 = .ok (.goto (-35), 3) := dk_167 255 221 (dk_at dksX5_face_3 19 rfl rfl)
theorem dX5_face_92 : decode cX5_face 92 = .ok (.aload_n 0, 1) := dk_42 (dk_at dksX5_face_3 22 rfl rfl)
theorem dX5_face_93 : decode cX5_face 93 = .ok (.iload_n 1, 1) := dk_27 (dk_at dksX5_face_3 23 rfl rfl)
theorem dX5_face_94 : decode cX5_face 94 = .ok (.invokevirtual 293, 3) := dk_182 1 37 (dk_at dksX5_face_4 0 rfl rfl)
theorem dX5_face_97 : decode cX5_face 97 = .ok (.ifCond .eq 10, 3) := dk_153 0 10 (dk_at dksX5_face_4 3 rfl rfl)
theorem dX5_face_100 : decode cX5_face 100 = .ok (.aload_n 0, 1) := dk_42 (dk_at dksX5_face_4 6 rfl rfl)
theorem dX5_face_101 : decode cX5_face 101 = .ok (.ldc2_w 130, 3) := dk_20 0 130 (dk_at dksX5_face_4 7 rfl rfl)
theorem dX5_face_104 : decode cX5_face 104 = .ok (.invokevirtual 394, 3) := dk_182 1 138 (dk_at dksX5_face_4 10 rfl rfl)
theorem dX5_face_107 : decode cX5_face 107 = .ok (.aload_n 0, 1) := dk_42 (dk_at dksX5_face_4 13 rfl rfl)
theorem dX5_face_108 : decode cX5_face 108 = .ok (.iload_n 1, 1) := dk_27 (dk_at dksX5_face_4 14 rfl rfl)
theorem dX5_face_109 : decode cX5_face 109 = .ok (.invokevirtual 290, 3) := dk_182 1 34 (dk_at dksX5_face_4 15 rfl rfl)
theorem dX5_face_112 : decode cX5_face 112 = .ok (.ifCond .eq 10, 3) := dk_153 0 10 (dk_at dksX5_face_4 18 rfl rfl)
theorem dX5_face_115 : decode cX5_face 115 = .ok (.aload_n 0, 1) := dk_42 (dk_at dksX5_face_4 21 rfl rfl)
theorem dX5_face_116 : decode cX5_face 116 = .ok (.ldc2_w 128, 3) := dk_20 0 128 (dk_at dksX5_face_5 0 rfl rfl)
theorem dX5_face_119 : decode cX5_face 119 = .ok (.invokevirtual 394, 3) := dk_182 1 138 (dk_at dksX5_face_5 3 rfl rfl)
theorem dX5_face_122 : decode cX5_face 122 = .ok (.aload_n 0, 1) := dk_42 (dk_at dksX5_face_5 6 rfl rfl)
theorem dX5_face_123 : decode cX5_face 123 = .ok (.getfield 382, 3) := dk_180 1 126 (dk_at dksX5_face_5 7 rfl rfl)
theorem dX5_face_126 : decode cX5_face 126 = .ok (.ireturn, 1) := dk_172 (dk_at dksX5_face_5 10 rfl rfl)
abbrev cX5_spells : ByteArray := prog_26_method_89_code
def yX5_spells : MethodName := ⟨RX5, "spells", "(J)V"⟩
def dkwX5_spells_1 : List UInt8 := [20, 1, 129, 127, 136, 182, 1, 131, 132, 3, 248, 167, 255, 225, 177]
abbrev dktX5_spells_1 : List UInt8 := dkwX5_spells_1 ++ []
def dkwX5_spells_0 : List UInt8 := [16, 56, 62, 29, 155, 0, 33, 31, 29, 123, 20, 1, 129, 127, 9, 148, 153, 0, 15, 42, 31, 29, 123]
abbrev dktX5_spells_0 : List UInt8 := dkwX5_spells_0 ++ dktX5_spells_1
theorem dksX5_spells_0 : cX5_spells.data.toList.drop 0 = dktX5_spells_0 := by decide +kernel
theorem dksX5_spells_1 : cX5_spells.data.toList.drop 23 = dktX5_spells_1 := dk_seg dksX5_spells_0 23 rfl rfl
theorem dX5_spells_0 : decode cX5_spells 0 = .ok (.bipush 56, 2) := dk_16 56 (dk_at dksX5_spells_0 0 rfl rfl)
theorem dX5_spells_2 : decode cX5_spells 2 = .ok (.istore_n 3, 1) := dk_62 (dk_at dksX5_spells_0 2 rfl rfl)
theorem dX5_spells_3 : decode cX5_spells 3 = .ok (.iload_n 3, 1) := dk_29 (dk_at dksX5_spells_0 3 rfl rfl)
theorem dX5_spells_4 : decode cX5_spells 4 = .ok (.ifCond .lt 33, 3) := dk_155 0 33 (dk_at dksX5_spells_0 4 rfl rfl)
theorem dX5_spells_7 : decode cX5_spells 7 = .ok (.lload_n 1, 1) := dk_31 (dk_at dksX5_spells_0 7 rfl rfl)
theorem dX5_spells_8 : decode cX5_spells 8 = .ok (.iload_n 3, 1) := dk_29 (dk_at dksX5_spells_0 8 rfl rfl)
theorem dX5_spells_9 : decode cX5_spells 9 = .ok (.lshr, 1) := dk_123 (dk_at dksX5_spells_0 9 rfl rfl)
theorem dX5_spells_10 : decode cX5_spells 10 = .ok (.ldc2_w 385, 3) := dk_20 1 129 (dk_at dksX5_spells_0 10 rfl rfl)
theorem dX5_spells_13 : decode cX5_spells 13 = .ok (.land, 1) := dk_127 (dk_at dksX5_spells_0 13 rfl rfl)
theorem dX5_spells_14 : decode cX5_spells 14 = .ok (.lconst 0, 1) := dk_9 (dk_at dksX5_spells_0 14 rfl rfl)
theorem dX5_spells_15 : decode cX5_spells 15 = .ok (.lcmp, 1) := dk_148 (dk_at dksX5_spells_0 15 rfl rfl)
theorem dX5_spells_16 : decode cX5_spells 16 = .ok (.ifCond .eq 15, 3) := dk_153 0 15 (dk_at dksX5_spells_0 16 rfl rfl)
theorem dX5_spells_19 : decode cX5_spells 19 = .ok (.aload_n 0, 1) := dk_42 (dk_at dksX5_spells_0 19 rfl rfl)
theorem dX5_spells_20 : decode cX5_spells 20 = .ok (.lload_n 1, 1) := dk_31 (dk_at dksX5_spells_0 20 rfl rfl)
theorem dX5_spells_21 : decode cX5_spells 21 = .ok (.iload_n 3, 1) := dk_29 (dk_at dksX5_spells_0 21 rfl rfl)
theorem dX5_spells_22 : decode cX5_spells 22 = .ok (.lshr, 1) := dk_123 (dk_at dksX5_spells_0 22 rfl rfl)
theorem dX5_spells_23 : decode cX5_spells 23 = .ok (.ldc2_w 385, 3) := dk_20 1 129 (dk_at dksX5_spells_1 0 rfl rfl)
theorem dX5_spells_26 : decode cX5_spells 26 = .ok (.land, 1) := dk_127 (dk_at dksX5_spells_1 3 rfl rfl)
theorem dX5_spells_27 : decode cX5_spells 27 = .ok (.l2i, 1) := dk_136 (dk_at dksX5_spells_1 4 rfl rfl)
theorem dX5_spells_28 : decode cX5_spells 28 = .ok (.invokevirtual 387, 3) := dk_182 1 131 (dk_at dksX5_spells_1 5 rfl rfl)
theorem dX5_spells_31 : decode cX5_spells 31 = .ok (.iinc 3 (-8), 3) := dk_132 3 248 (dk_at dksX5_spells_1 8 rfl rfl)
theorem dX5_spells_34 : decode cX5_spells 34 = .ok (.goto (-31), 3) := dk_167 255 225 (dk_at dksX5_spells_1 11 rfl rfl)
theorem dX5_spells_37 : decode cX5_spells 37 = .ok (.return_, 1) := dk_177 (dk_at dksX5_spells_1 14 rfl rfl)
abbrev cX5_lays : ByteArray := prog_26_method_88_code
def yX5_lays : MethodName := ⟨RX5, "lays", "(I)V"⟩
def dkwX5_lays_0 : List UInt8 := [42, 180, 0, 74, 42, 180, 1, 126, 27, 145, 84, 42, 89, 180, 1, 126, 4, 96, 181, 1, 126, 177]
abbrev dktX5_lays_0 : List UInt8 := dkwX5_lays_0 ++ []
theorem dksX5_lays_0 : cX5_lays.data.toList.drop 0 = dktX5_lays_0 := by decide +kernel
theorem dX5_lays_0 : decode cX5_lays 0 = .ok (.aload_n 0, 1) := dk_42 (dk_at dksX5_lays_0 0 rfl rfl)
theorem dX5_lays_1 : decode cX5_lays 1 = .ok (.getfield 74, 3) := dk_180 0 74 (dk_at dksX5_lays_0 1 rfl rfl)
theorem dX5_lays_4 : decode cX5_lays 4 = .ok (.aload_n 0, 1) := dk_42 (dk_at dksX5_lays_0 4 rfl rfl)
theorem dX5_lays_5 : decode cX5_lays 5 = .ok (.getfield 382, 3) := dk_180 1 126 (dk_at dksX5_lays_0 5 rfl rfl)
theorem dX5_lays_8 : decode cX5_lays 8 = .ok (.iload_n 1, 1) := dk_27 (dk_at dksX5_lays_0 8 rfl rfl)
theorem dX5_lays_9 : decode cX5_lays 9 = .ok (.i2b, 1) := dk_145 (dk_at dksX5_lays_0 9 rfl rfl)
theorem dX5_lays_10 : decode cX5_lays 10 = .ok (.bastore, 1) := dk_84 (dk_at dksX5_lays_0 10 rfl rfl)
theorem dX5_lays_11 : decode cX5_lays 11 = .ok (.aload_n 0, 1) := dk_42 (dk_at dksX5_lays_0 11 rfl rfl)
theorem dX5_lays_12 : decode cX5_lays 12 = .ok (.dup, 1) := dk_89 (dk_at dksX5_lays_0 12 rfl rfl)
theorem dX5_lays_13 : decode cX5_lays 13 = .ok (.getfield 382, 3) := dk_180 1 126 (dk_at dksX5_lays_0 13 rfl rfl)
theorem dX5_lays_16 : decode cX5_lays 16 = .ok (.iconst 1, 1) := dk_4 (dk_at dksX5_lays_0 16 rfl rfl)
theorem dX5_lays_17 : decode cX5_lays 17 = .ok (.iadd, 1) := dk_96 (dk_at dksX5_lays_0 17 rfl rfl)
theorem dX5_lays_18 : decode cX5_lays 18 = .ok (.putfield 382, 3) := dk_181 1 126 (dk_at dksX5_lays_0 18 rfl rfl)
theorem dX5_lays_21 : decode cX5_lays 21 = .ok (.return_, 1) := dk_177 (dk_at dksX5_lays_0 21 rfl rfl)
abbrev cX5_says : ByteArray := prog_26_method_90_code
def yX5_says : MethodName := ⟨RX5, "says", "(J)V"⟩
def dkwX5_says_0 : List UInt8 := [42, 16, 32, 182, 1, 131, 42, 31, 182, 1, 134, 177]
abbrev dktX5_says_0 : List UInt8 := dkwX5_says_0 ++ []
theorem dksX5_says_0 : cX5_says.data.toList.drop 0 = dktX5_says_0 := by decide +kernel
theorem dX5_says_0 : decode cX5_says 0 = .ok (.aload_n 0, 1) := dk_42 (dk_at dksX5_says_0 0 rfl rfl)
theorem dX5_says_1 : decode cX5_says 1 = .ok (.bipush 32, 2) := dk_16 32 (dk_at dksX5_says_0 1 rfl rfl)
theorem dX5_says_3 : decode cX5_says 3 = .ok (.invokevirtual 387, 3) := dk_182 1 131 (dk_at dksX5_says_0 3 rfl rfl)
theorem dX5_says_6 : decode cX5_says 6 = .ok (.aload_n 0, 1) := dk_42 (dk_at dksX5_says_0 6 rfl rfl)
theorem dX5_says_7 : decode cX5_says 7 = .ok (.lload_n 1, 1) := dk_31 (dk_at dksX5_says_0 7 rfl rfl)
theorem dX5_says_8 : decode cX5_says 8 = .ok (.invokevirtual 390, 3) := dk_182 1 134 (dk_at dksX5_says_0 8 rfl rfl)
theorem dX5_says_11 : decode cX5_says 11 = .ok (.return_, 1) := dk_177 (dk_at dksX5_says_0 11 rfl rfl)
abbrev cX5_byteAt : ByteArray := prog_26_method_92_code
def yX5_byteAt : MethodName := ⟨RX5, "byteAt", "(I)I"⟩
def dkwX5_byteAt_1 : List UInt8 := [51, 167, 0, 4, 2, 172]
abbrev dktX5_byteAt_1 : List UInt8 := dkwX5_byteAt_1 ++ []
def dkwX5_byteAt_0 : List UInt8 := [42, 3, 181, 0, 1, 27, 3, 42, 180, 1, 126, 4, 100, 184, 0, 189, 153, 0, 12, 42, 180, 0, 74, 27]
abbrev dktX5_byteAt_0 : List UInt8 := dkwX5_byteAt_0 ++ dktX5_byteAt_1
theorem dksX5_byteAt_0 : cX5_byteAt.data.toList.drop 0 = dktX5_byteAt_0 := by decide +kernel
theorem dksX5_byteAt_1 : cX5_byteAt.data.toList.drop 24 = dktX5_byteAt_1 := dk_seg dksX5_byteAt_0 24 rfl rfl
theorem dX5_byteAt_0 : decode cX5_byteAt 0 = .ok (.aload_n 0, 1) := dk_42 (dk_at dksX5_byteAt_0 0 rfl rfl)
theorem dX5_byteAt_1 : decode cX5_byteAt 1 = .ok (.iconst 0, 1) := dk_3 (dk_at dksX5_byteAt_0 1 rfl rfl)
theorem dX5_byteAt_2 : decode cX5_byteAt 2 = .ok (.putfield 1, 3) := dk_181 0 1 (dk_at dksX5_byteAt_0 2 rfl rfl)
theorem dX5_byteAt_5 : decode cX5_byteAt 5 = .ok (.iload_n 1, 1) := dk_27 (dk_at dksX5_byteAt_0 5 rfl rfl)
theorem dX5_byteAt_6 : decode cX5_byteAt 6 = .ok (.iconst 0, 1) := dk_3 (dk_at dksX5_byteAt_0 6 rfl rfl)
theorem dX5_byteAt_7 : decode cX5_byteAt 7 = .ok (.aload_n 0, 1) := dk_42 (dk_at dksX5_byteAt_0 7 rfl rfl)
theorem dX5_byteAt_8 : decode cX5_byteAt 8 = .ok (.getfield 382, 3) := dk_180 1 126 (dk_at dksX5_byteAt_0 8 rfl rfl)
theorem dX5_byteAt_11 : decode cX5_byteAt 11 = .ok (.iconst 1, 1) := dk_4 (dk_at dksX5_byteAt_0 11 rfl rfl)
theorem dX5_byteAt_12 : decode cX5_byteAt 12 = .ok (.isub, 1) := dk_100 (dk_at dksX5_byteAt_0 12 rfl rfl)
theorem dX5_byteAt_13 : decode cX5_byteAt 13 = .ok (.invokestatic 189, 3) := dk_184 0 189 (dk_at dksX5_byteAt_0 13 rfl rfl)
theorem dX5_byteAt_16 : decode cX5_byteAt 16 = .ok (.ifCond .eq 12, 3) := dk_153 0 12 (dk_at dksX5_byteAt_0 16 rfl rfl)
theorem dX5_byteAt_19 : decode cX5_byteAt 19 = .ok (.aload_n 0, 1) := dk_42 (dk_at dksX5_byteAt_0 19 rfl rfl)
theorem dX5_byteAt_20 : decode cX5_byteAt 20 = .ok (.getfield 74, 3) := dk_180 0 74 (dk_at dksX5_byteAt_0 20 rfl rfl)
theorem dX5_byteAt_23 : decode cX5_byteAt 23 = .ok (.iload_n 1, 1) := dk_27 (dk_at dksX5_byteAt_0 23 rfl rfl)
theorem dX5_byteAt_24 : decode cX5_byteAt 24 = .ok (.baload, 1) := dk_51 (dk_at dksX5_byteAt_1 0 rfl rfl)
theorem dX5_byteAt_25 : decode cX5_byteAt 25 = .ok (.goto 4, 3) := dk_167 0 4 (dk_at dksX5_byteAt_1 1 rfl rfl)
theorem dX5_byteAt_28 : decode cX5_byteAt 28 = .ok (.iconst (-1), 1) := dk_2 (dk_at dksX5_byteAt_1 4 rfl rfl)
theorem dX5_byteAt_29 : decode cX5_byteAt 29 = .ok (.ireturn, 1) := dk_172 (dk_at dksX5_byteAt_1 5 rfl rfl)
abbrev cX5_drawn : ByteArray := prog_26_method_96_code
def yX5_drawn : MethodName := ⟨RX5, "drawn", "(II)I"⟩
def dkwX5_drawn_1 : List UInt8 := [46, 17, 1, 144, 162, 0, 7, 42, 182, 1, 54, 42, 27, 28, 182, 1, 153, 172]
abbrev dktX5_drawn_1 : List UInt8 := dkwX5_drawn_1 ++ []
def dkwX5_drawn_0 : List UInt8 := [42, 3, 181, 0, 1, 27, 4, 16, 60, 184, 0, 189, 154, 0, 5, 2, 172, 42, 180, 0, 33, 17, 0, 131]
abbrev dktX5_drawn_0 : List UInt8 := dkwX5_drawn_0 ++ dktX5_drawn_1
theorem dksX5_drawn_0 : cX5_drawn.data.toList.drop 0 = dktX5_drawn_0 := by decide +kernel
theorem dksX5_drawn_1 : cX5_drawn.data.toList.drop 24 = dktX5_drawn_1 := dk_seg dksX5_drawn_0 24 rfl rfl
theorem dX5_drawn_0 : decode cX5_drawn 0 = .ok (.aload_n 0, 1) := dk_42 (dk_at dksX5_drawn_0 0 rfl rfl)
theorem dX5_drawn_1 : decode cX5_drawn 1 = .ok (.iconst 0, 1) := dk_3 (dk_at dksX5_drawn_0 1 rfl rfl)
theorem dX5_drawn_2 : decode cX5_drawn 2 = .ok (.putfield 1, 3) := dk_181 0 1 (dk_at dksX5_drawn_0 2 rfl rfl)
theorem dX5_drawn_5 : decode cX5_drawn 5 = .ok (.iload_n 1, 1) := dk_27 (dk_at dksX5_drawn_0 5 rfl rfl)
theorem dX5_drawn_6 : decode cX5_drawn 6 = .ok (.iconst 1, 1) := dk_4 (dk_at dksX5_drawn_0 6 rfl rfl)
theorem dX5_drawn_7 : decode cX5_drawn 7 = .ok (.bipush 60, 2) := dk_16 60 (dk_at dksX5_drawn_0 7 rfl rfl)
theorem dX5_drawn_9 : decode cX5_drawn 9 = .ok (.invokestatic 189, 3) := dk_184 0 189 (dk_at dksX5_drawn_0 9 rfl rfl)
theorem dX5_drawn_12 : decode cX5_drawn 12 = .ok (.ifCond .ne 5, 3) := dk_154 0 5 (dk_at dksX5_drawn_0 12 rfl rfl)
theorem dX5_drawn_15 : decode cX5_drawn 15 = .ok (.iconst (-1), 1) := dk_2 (dk_at dksX5_drawn_0 15 rfl rfl)
theorem dX5_drawn_16 : decode cX5_drawn 16 = .ok (.ireturn, 1) := dk_172 (dk_at dksX5_drawn_0 16 rfl rfl)
theorem dX5_drawn_17 : decode cX5_drawn 17 = .ok (.aload_n 0, 1) := dk_42 (dk_at dksX5_drawn_0 17 rfl rfl)
theorem dX5_drawn_18 : decode cX5_drawn 18 = .ok (.getfield 33, 3) := dk_180 0 33 (dk_at dksX5_drawn_0 18 rfl rfl)
theorem dX5_drawn_21 : decode cX5_drawn 21 = .ok (.sipush 131, 3) := dk_17 0 131 (dk_at dksX5_drawn_0 21 rfl rfl)
theorem dX5_drawn_24 : decode cX5_drawn 24 = .ok (.iaload, 1) := dk_46 (dk_at dksX5_drawn_1 0 rfl rfl)
theorem dX5_drawn_25 : decode cX5_drawn 25 = .ok (.sipush 400, 3) := dk_17 1 144 (dk_at dksX5_drawn_1 1 rfl rfl)
theorem dX5_drawn_28 : decode cX5_drawn 28 = .ok (.if_icmp .ge 7, 3) := dk_162 0 7 (dk_at dksX5_drawn_1 4 rfl rfl)
theorem dX5_drawn_31 : decode cX5_drawn 31 = .ok (.aload_n 0, 1) := dk_42 (dk_at dksX5_drawn_1 7 rfl rfl)
theorem dX5_drawn_32 : decode cX5_drawn 32 = .ok (.invokevirtual 310, 3) := dk_182 1 54 (dk_at dksX5_drawn_1 8 rfl rfl)
theorem dX5_drawn_35 : decode cX5_drawn 35 = .ok (.aload_n 0, 1) := dk_42 (dk_at dksX5_drawn_1 11 rfl rfl)
theorem dX5_drawn_36 : decode cX5_drawn 36 = .ok (.iload_n 1, 1) := dk_27 (dk_at dksX5_drawn_1 12 rfl rfl)
theorem dX5_drawn_37 : decode cX5_drawn 37 = .ok (.iload_n 2, 1) := dk_28 (dk_at dksX5_drawn_1 13 rfl rfl)
theorem dX5_drawn_38 : decode cX5_drawn 38 = .ok (.invokevirtual 409, 3) := dk_182 1 153 (dk_at dksX5_drawn_1 14 rfl rfl)
theorem dX5_drawn_41 : decode cX5_drawn 41 = .ok (.ireturn, 1) := dk_172 (dk_at dksX5_drawn_1 17 rfl rfl)
abbrev cX5_draws : ByteArray := prog_26_method_95_code
def yX5_draws : MethodName := ⟨RX5, "draws", "(II)I"⟩
def dkwX5_draws_2 : List UInt8 := [132, 4, 1, 167, 255, 236, 42, 182, 1, 47, 132, 3, 1, 167, 255, 204, 29, 172]
abbrev dktX5_draws_2 : List UInt8 := dkwX5_draws_2 ++ []
def dkwX5_draws_1 : List UInt8 := [162, 0, 39, 3, 54, 4, 21, 4, 42, 180, 0, 33, 3, 46, 162, 0, 15, 42, 21, 4, 182, 1, 150]
abbrev dktX5_draws_1 : List UInt8 := dkwX5_draws_1 ++ dktX5_draws_2
def dkwX5_draws_0 : List UInt8 := [42, 28, 181, 1, 143, 3, 62, 29, 27, 162, 0, 53, 42, 180, 0, 33, 17, 0, 131, 46, 17, 1, 144]
abbrev dktX5_draws_0 : List UInt8 := dkwX5_draws_0 ++ dktX5_draws_1
theorem dksX5_draws_0 : cX5_draws.data.toList.drop 0 = dktX5_draws_0 := by decide +kernel
theorem dksX5_draws_1 : cX5_draws.data.toList.drop 23 = dktX5_draws_1 := dk_seg dksX5_draws_0 23 rfl rfl
theorem dksX5_draws_2 : cX5_draws.data.toList.drop 46 = dktX5_draws_2 := dk_seg dksX5_draws_1 23 rfl rfl
theorem dX5_draws_0 : decode cX5_draws 0 = .ok (.aload_n 0, 1) := dk_42 (dk_at dksX5_draws_0 0 rfl rfl)
theorem dX5_draws_1 : decode cX5_draws 1 = .ok (.iload_n 2, 1) := dk_28 (dk_at dksX5_draws_0 1 rfl rfl)
theorem dX5_draws_2 : decode cX5_draws 2 = .ok (.putfield 399, 3) := dk_181 1 143 (dk_at dksX5_draws_0 2 rfl rfl)
theorem dX5_draws_5 : decode cX5_draws 5 = .ok (.iconst 0, 1) := dk_3 (dk_at dksX5_draws_0 5 rfl rfl)
theorem dX5_draws_6 : decode cX5_draws 6 = .ok (.istore_n 3, 1) := dk_62 (dk_at dksX5_draws_0 6 rfl rfl)
theorem dX5_draws_7 : decode cX5_draws 7 = .ok (.iload_n 3, 1) := dk_29 (dk_at dksX5_draws_0 7 rfl rfl)
theorem dX5_draws_8 : decode cX5_draws 8 = .ok (.iload_n 1, 1) := dk_27 (dk_at dksX5_draws_0 8 rfl rfl)
theorem dX5_draws_9 : decode cX5_draws 9 = .ok (.if_icmp .ge 53, 3) := dk_162 0 53 (dk_at dksX5_draws_0 9 rfl rfl)
theorem dX5_draws_12 : decode cX5_draws 12 = .ok (.aload_n 0, 1) := dk_42 (dk_at dksX5_draws_0 12 rfl rfl)
theorem dX5_draws_13 : decode cX5_draws 13 = .ok (.getfield 33, 3) := dk_180 0 33 (dk_at dksX5_draws_0 13 rfl rfl)
theorem dX5_draws_16 : decode cX5_draws 16 = .ok (.sipush 131, 3) := dk_17 0 131 (dk_at dksX5_draws_0 16 rfl rfl)
theorem dX5_draws_19 : decode cX5_draws 19 = .ok (.iaload, 1) := dk_46 (dk_at dksX5_draws_0 19 rfl rfl)
theorem dX5_draws_20 : decode cX5_draws 20 = .ok (.sipush 400, 3) := dk_17 1 144 (dk_at dksX5_draws_0 20 rfl rfl)
theorem dX5_draws_23 : decode cX5_draws 23 = .ok (.if_icmp .ge 39, 3) := dk_162 0 39 (dk_at dksX5_draws_1 0 rfl rfl)
theorem dX5_draws_26 : decode cX5_draws 26 = .ok (.iconst 0, 1) := dk_3 (dk_at dksX5_draws_1 3 rfl rfl)
theorem dX5_draws_27 : decode cX5_draws 27 = .ok (.istore 4, 2) := dk_54 4 (dk_at dksX5_draws_1 4 rfl rfl)
theorem dX5_draws_29 : decode cX5_draws 29 = .ok (.iload 4, 2) := dk_21 4 (dk_at dksX5_draws_1 6 rfl rfl)
theorem dX5_draws_31 : decode cX5_draws 31 = .ok (.aload_n 0, 1) := dk_42 (dk_at dksX5_draws_1 8 rfl rfl)
theorem dX5_draws_32 : decode cX5_draws 32 = .ok (.getfield 33, 3) := dk_180 0 33 (dk_at dksX5_draws_1 9 rfl rfl)
theorem dX5_draws_35 : decode cX5_draws 35 = .ok (.iconst 0, 1) := dk_3 (dk_at dksX5_draws_1 12 rfl rfl)
theorem dX5_draws_36 : decode cX5_draws 36 = .ok (.iaload, 1) := dk_46 (dk_at dksX5_draws_1 13 rfl rfl)
theorem dX5_draws_37 : decode cX5_draws 37 = .ok (.if_icmp .ge 15, 3) := dk_162 0 15 (dk_at dksX5_draws_1 14 rfl rfl)
theorem dX5_draws_40 : decode cX5_draws 40 = .ok (.aload_n 0, 1) := dk_42 (dk_at dksX5_draws_1 17 rfl rfl)
theorem dX5_draws_41 : decode cX5_draws 41 = .ok (.iload 4, 2) := dk_21 4 (dk_at dksX5_draws_1 18 rfl rfl)
theorem dX5_draws_43 : decode cX5_draws 43 = .ok (.invokevirtual 406, 3) := dk_182 1 150 (dk_at dksX5_draws_1 20 rfl rfl)
theorem dX5_draws_46 : decode cX5_draws 46 = .ok (.iinc 4 1, 3) := dk_132 4 1 (dk_at dksX5_draws_2 0 rfl rfl)
theorem dX5_draws_49 : decode cX5_draws 49 = .ok (.goto (-20), 3) := dk_167 255 236 (dk_at dksX5_draws_2 3 rfl rfl)
theorem dX5_draws_52 : decode cX5_draws 52 = .ok (.aload_n 0, 1) := dk_42 (dk_at dksX5_draws_2 6 rfl rfl)
theorem dX5_draws_53 : decode cX5_draws 53 = .ok (.invokevirtual 303, 3) := dk_182 1 47 (dk_at dksX5_draws_2 7 rfl rfl)
theorem dX5_draws_56 : decode cX5_draws 56 = .ok (.iinc 3 1, 3) := dk_132 3 1 (dk_at dksX5_draws_2 10 rfl rfl)
theorem dX5_draws_59 : decode cX5_draws 59 = .ok (.goto (-52), 3) := dk_167 255 204 (dk_at dksX5_draws_2 13 rfl rfl)
theorem dX5_draws_62 : decode cX5_draws 62 = .ok (.iload_n 3, 1) := dk_29 (dk_at dksX5_draws_2 16 rfl rfl)
theorem dX5_draws_63 : decode cX5_draws 63 = .ok (.ireturn, 1) := dk_172 (dk_at dksX5_draws_2 17 rfl rfl)
abbrev cX5_drawPerson : ByteArray := prog_26_method_94_code
def yX5_drawPerson : MethodName := ⟨RX5, "drawPerson", "(I)V"⟩
def dkwX5_drawPerson_4 : List UInt8 := [28, 7, 160, 0, 16, 42, 27, 182, 1, 67, 154, 0, 8, 42, 27, 182, 1, 70, 177]
abbrev dktX5_drawPerson_4 : List UInt8 := dkwX5_drawPerson_4 ++ []
def dkwX5_drawPerson_3 : List UInt8 := [180, 0, 33, 3, 46, 182, 1, 147, 62, 42, 27, 29, 182, 1, 61, 154, 0, 9, 42, 27, 29, 182, 1, 64]
abbrev dktX5_drawPerson_3 : List UInt8 := dkwX5_drawPerson_3 ++ dktX5_drawPerson_4
def dkwX5_drawPerson_2 : List UInt8 := [21, 4, 182, 1, 50, 154, 0, 11, 42, 27, 29, 21, 4, 182, 1, 57, 28, 6, 160, 0, 29, 42, 42]
abbrev dktX5_drawPerson_2 : List UInt8 := dkwX5_drawPerson_2 ++ dktX5_drawPerson_3
def dkwX5_drawPerson_1 : List UInt8 := [180, 0, 33, 4, 46, 182, 1, 147, 62, 42, 42, 180, 0, 33, 3, 46, 182, 1, 147, 54, 4, 42, 27, 29]
abbrev dktX5_drawPerson_1 : List UInt8 := dkwX5_drawPerson_1 ++ dktX5_drawPerson_2
def dkwX5_drawPerson_0 : List UInt8 := [42, 16, 6, 182, 1, 147, 61, 28, 6, 162, 0, 54, 42, 180, 0, 33, 4, 46, 158, 0, 45, 42, 42]
abbrev dktX5_drawPerson_0 : List UInt8 := dkwX5_drawPerson_0 ++ dktX5_drawPerson_1
theorem dksX5_drawPerson_0 : cX5_drawPerson.data.toList.drop 0 = dktX5_drawPerson_0 := by decide +kernel
theorem dksX5_drawPerson_1 : cX5_drawPerson.data.toList.drop 23 = dktX5_drawPerson_1 := dk_seg dksX5_drawPerson_0 23 rfl rfl
theorem dksX5_drawPerson_2 : cX5_drawPerson.data.toList.drop 47 = dktX5_drawPerson_2 := dk_seg dksX5_drawPerson_1 24 rfl rfl
theorem dksX5_drawPerson_3 : cX5_drawPerson.data.toList.drop 70 = dktX5_drawPerson_3 := dk_seg dksX5_drawPerson_2 23 rfl rfl
theorem dksX5_drawPerson_4 : cX5_drawPerson.data.toList.drop 94 = dktX5_drawPerson_4 := dk_seg dksX5_drawPerson_3 24 rfl rfl
theorem dX5_drawPerson_0 : decode cX5_drawPerson 0 = .ok (.aload_n 0, 1) := dk_42 (dk_at dksX5_drawPerson_0 0 rfl rfl)
theorem dX5_drawPerson_1 : decode cX5_drawPerson 1 = .ok (.bipush 6, 2) := dk_16 6 (dk_at dksX5_drawPerson_0 1 rfl rfl)
theorem dX5_drawPerson_3 : decode cX5_drawPerson 3 = .ok (.invokevirtual 403, 3) := dk_182 1 147 (dk_at dksX5_drawPerson_0 3 rfl rfl)
theorem dX5_drawPerson_6 : decode cX5_drawPerson 6 = .ok (.istore_n 2, 1) := dk_61 (dk_at dksX5_drawPerson_0 6 rfl rfl)
theorem dX5_drawPerson_7 : decode cX5_drawPerson 7 = .ok (.iload_n 2, 1) := dk_28 (dk_at dksX5_drawPerson_0 7 rfl rfl)
theorem dX5_drawPerson_8 : decode cX5_drawPerson 8 = .ok (.iconst 3, 1) := dk_6 (dk_at dksX5_drawPerson_0 8 rfl rfl)
theorem dX5_drawPerson_9 : decode cX5_drawPerson 9 = .ok (.if_icmp .ge 54, 3) := dk_162 0 54 (dk_at dksX5_drawPerson_0 9 rfl rfl)
theorem dX5_drawPerson_12 : decode cX5_drawPerson 12 = .ok (.aload_n 0, 1) := dk_42 (dk_at dksX5_drawPerson_0 12 rfl rfl)
theorem dX5_drawPerson_13 : decode cX5_drawPerson 13 = .ok (.getfield 33, 3) := dk_180 0 33 (dk_at dksX5_drawPerson_0 13 rfl rfl)
theorem dX5_drawPerson_16 : decode cX5_drawPerson 16 = .ok (.iconst 1, 1) := dk_4 (dk_at dksX5_drawPerson_0 16 rfl rfl)
theorem dX5_drawPerson_17 : decode cX5_drawPerson 17 = .ok (.iaload, 1) := dk_46 (dk_at dksX5_drawPerson_0 17 rfl rfl)
theorem dX5_drawPerson_18 : decode cX5_drawPerson 18 = .ok (.ifCond .le 45, 3) := dk_158 0 45 (dk_at dksX5_drawPerson_0 18 rfl rfl)
theorem dX5_drawPerson_21 : decode cX5_drawPerson 21 = .ok (.aload_n 0, 1) := dk_42 (dk_at dksX5_drawPerson_0 21 rfl rfl)
theorem dX5_drawPerson_22 : decode cX5_drawPerson 22 = .ok (.aload_n 0, 1) := dk_42 (dk_at dksX5_drawPerson_0 22 rfl rfl)
theorem dX5_drawPerson_23 : decode cX5_drawPerson 23 = .ok (.getfield 33, 3) := dk_180 0 33 (dk_at dksX5_drawPerson_1 0 rfl rfl)
theorem dX5_drawPerson_26 : decode cX5_drawPerson 26 = .ok (.iconst 1, 1) := dk_4 (dk_at dksX5_drawPerson_1 3 rfl rfl)
theorem dX5_drawPerson_27 : decode cX5_drawPerson 27 = .ok (.iaload, 1) := dk_46 (dk_at dksX5_drawPerson_1 4 rfl rfl)
theorem dX5_drawPerson_28 : decode cX5_drawPerson 28 = .ok (.invokevirtual 403, 3) := dk_182 1 147 (dk_at dksX5_drawPerson_1 5 rfl rfl)
theorem dX5_drawPerson_31 : decode cX5_drawPerson 31 = .ok (.istore_n 3, 1) := dk_62 (dk_at dksX5_drawPerson_1 8 rfl rfl)
theorem dX5_drawPerson_32 : decode cX5_drawPerson 32 = .ok (.aload_n 0, 1) := dk_42 (dk_at dksX5_drawPerson_1 9 rfl rfl)
theorem dX5_drawPerson_33 : decode cX5_drawPerson 33 = .ok (.aload_n 0, 1) := dk_42 (dk_at dksX5_drawPerson_1 10 rfl rfl)
theorem dX5_drawPerson_34 : decode cX5_drawPerson 34 = .ok (.getfield 33, 3) := dk_180 0 33 (dk_at dksX5_drawPerson_1 11 rfl rfl)
theorem dX5_drawPerson_37 : decode cX5_drawPerson 37 = .ok (.iconst 0, 1) := dk_3 (dk_at dksX5_drawPerson_1 14 rfl rfl)
theorem dX5_drawPerson_38 : decode cX5_drawPerson 38 = .ok (.iaload, 1) := dk_46 (dk_at dksX5_drawPerson_1 15 rfl rfl)
theorem dX5_drawPerson_39 : decode cX5_drawPerson 39 = .ok (.invokevirtual 403, 3) := dk_182 1 147 (dk_at dksX5_drawPerson_1 16 rfl rfl)
theorem dX5_drawPerson_42 : decode cX5_drawPerson 42 = .ok (.istore 4, 2) := dk_54 4 (dk_at dksX5_drawPerson_1 19 rfl rfl)
theorem dX5_drawPerson_44 : decode cX5_drawPerson 44 = .ok (.aload_n 0, 1) := dk_42 (dk_at dksX5_drawPerson_1 21 rfl rfl)
theorem dX5_drawPerson_45 : decode cX5_drawPerson 45 = .ok (.iload_n 1, 1) := dk_27 (dk_at dksX5_drawPerson_1 22 rfl rfl)
theorem dX5_drawPerson_46 : decode cX5_drawPerson 46 = .ok (.iload_n 3, 1) := dk_29 (dk_at dksX5_drawPerson_1 23 rfl rfl)
theorem dX5_drawPerson_47 : decode cX5_drawPerson 47 = .ok (.iload 4, 2) := dk_21 4 (dk_at dksX5_drawPerson_2 0 rfl rfl)
theorem dX5_drawPerson_49 : decode cX5_drawPerson 49 = .ok (.invokevirtual 306, 3) := dk_182 1 50 (dk_at dksX5_drawPerson_2 2 rfl rfl)
theorem dX5_drawPerson_52 : decode cX5_drawPerson 52 = .ok (.ifCond .ne 11, 3) := dk_154 0 11 (dk_at dksX5_drawPerson_2 5 rfl rfl)
theorem dX5_drawPerson_55 : decode cX5_drawPerson 55 = .ok (.aload_n 0, 1) := dk_42 (dk_at dksX5_drawPerson_2 8 rfl rfl)
theorem dX5_drawPerson_56 : decode cX5_drawPerson 56 = .ok (.iload_n 1, 1) := dk_27 (dk_at dksX5_drawPerson_2 9 rfl rfl)
theorem dX5_drawPerson_57 : decode cX5_drawPerson 57 = .ok (.iload_n 3, 1) := dk_29 (dk_at dksX5_drawPerson_2 10 rfl rfl)
theorem dX5_drawPerson_58 : decode cX5_drawPerson 58 = .ok (.iload 4, 2) := dk_21 4 (dk_at dksX5_drawPerson_2 11 rfl rfl)
theorem dX5_drawPerson_60 : decode cX5_drawPerson 60 = .ok (.invokevirtual 313, 3) := dk_182 1 57 (dk_at dksX5_drawPerson_2 13 rfl rfl)
theorem dX5_drawPerson_63 : decode cX5_drawPerson 63 = .ok (.iload_n 2, 1) := dk_28 (dk_at dksX5_drawPerson_2 16 rfl rfl)
theorem dX5_drawPerson_64 : decode cX5_drawPerson 64 = .ok (.iconst 3, 1) := dk_6 (dk_at dksX5_drawPerson_2 17 rfl rfl)
theorem dX5_drawPerson_65 : decode cX5_drawPerson 65 = .ok (.if_icmp .ne 29, 3) := dk_160 0 29 (dk_at dksX5_drawPerson_2 18 rfl rfl)
theorem dX5_drawPerson_68 : decode cX5_drawPerson 68 = .ok (.aload_n 0, 1) := dk_42 (dk_at dksX5_drawPerson_2 21 rfl rfl)
theorem dX5_drawPerson_69 : decode cX5_drawPerson 69 = .ok (.aload_n 0, 1) := dk_42 (dk_at dksX5_drawPerson_2 22 rfl rfl)
theorem dX5_drawPerson_70 : decode cX5_drawPerson 70 = .ok (.getfield 33, 3) := dk_180 0 33 (dk_at dksX5_drawPerson_3 0 rfl rfl)
theorem dX5_drawPerson_73 : decode cX5_drawPerson 73 = .ok (.iconst 0, 1) := dk_3 (dk_at dksX5_drawPerson_3 3 rfl rfl)
theorem dX5_drawPerson_74 : decode cX5_drawPerson 74 = .ok (.iaload, 1) := dk_46 (dk_at dksX5_drawPerson_3 4 rfl rfl)
theorem dX5_drawPerson_75 : decode cX5_drawPerson 75 = .ok (.invokevirtual 403, 3) := dk_182 1 147 (dk_at dksX5_drawPerson_3 5 rfl rfl)
theorem dX5_drawPerson_78 : decode cX5_drawPerson 78 = .ok (.istore_n 3, 1) := dk_62 (dk_at dksX5_drawPerson_3 8 rfl rfl)
theorem dX5_drawPerson_79 : decode cX5_drawPerson 79 = .ok (.aload_n 0, 1) := dk_42 (dk_at dksX5_drawPerson_3 9 rfl rfl)
theorem dX5_drawPerson_80 : decode cX5_drawPerson 80 = .ok (.iload_n 1, 1) := dk_27 (dk_at dksX5_drawPerson_3 10 rfl rfl)
theorem dX5_drawPerson_81 : decode cX5_drawPerson 81 = .ok (.iload_n 3, 1) := dk_29 (dk_at dksX5_drawPerson_3 11 rfl rfl)
theorem dX5_drawPerson_82 : decode cX5_drawPerson 82 = .ok (.invokevirtual 317, 3) := dk_182 1 61 (dk_at dksX5_drawPerson_3 12 rfl rfl)
theorem dX5_drawPerson_85 : decode cX5_drawPerson 85 = .ok (.ifCond .ne 9, 3) := dk_154 0 9 (dk_at dksX5_drawPerson_3 15 rfl rfl)
theorem dX5_drawPerson_88 : decode cX5_drawPerson 88 = .ok (.aload_n 0, 1) := dk_42 (dk_at dksX5_drawPerson_3 18 rfl rfl)
theorem dX5_drawPerson_89 : decode cX5_drawPerson 89 = .ok (.iload_n 1, 1) := dk_27 (dk_at dksX5_drawPerson_3 19 rfl rfl)
theorem dX5_drawPerson_90 : decode cX5_drawPerson 90 = .ok (.iload_n 3, 1) := dk_29 (dk_at dksX5_drawPerson_3 20 rfl rfl)
theorem dX5_drawPerson_91 : decode cX5_drawPerson 91 = .ok (.invokevirtual 320, 3) := dk_182 1 64 (dk_at dksX5_drawPerson_3 21 rfl rfl)
theorem dX5_drawPerson_94 : decode cX5_drawPerson 94 = .ok (.iload_n 2, 1) := dk_28 (dk_at dksX5_drawPerson_4 0 rfl rfl)
theorem dX5_drawPerson_95 : decode cX5_drawPerson 95 = .ok (.iconst 4, 1) := dk_7 (dk_at dksX5_drawPerson_4 1 rfl rfl)
theorem dX5_drawPerson_96 : decode cX5_drawPerson 96 = .ok (.if_icmp .ne 16, 3) := dk_160 0 16 (dk_at dksX5_drawPerson_4 2 rfl rfl)
theorem dX5_drawPerson_99 : decode cX5_drawPerson 99 = .ok (.aload_n 0, 1) := dk_42 (dk_at dksX5_drawPerson_4 5 rfl rfl)
theorem dX5_drawPerson_100 : decode cX5_drawPerson 100 = .ok (.iload_n 1, 1) := dk_27 (dk_at dksX5_drawPerson_4 6 rfl rfl)
theorem dX5_drawPerson_101 : decode cX5_drawPerson 101 = .ok (.invokevirtual 323, 3) := dk_182 1 67 (dk_at dksX5_drawPerson_4 7 rfl rfl)
theorem dX5_drawPerson_104 : decode cX5_drawPerson 104 = .ok (.ifCond .ne 8, 3) := dk_154 0 8 (dk_at dksX5_drawPerson_4 10 rfl rfl)
theorem dX5_drawPerson_107 : decode cX5_drawPerson 107 = .ok (.aload_n 0, 1) := dk_42 (dk_at dksX5_drawPerson_4 13 rfl rfl)
theorem dX5_drawPerson_108 : decode cX5_drawPerson 108 = .ok (.iload_n 1, 1) := dk_27 (dk_at dksX5_drawPerson_4 14 rfl rfl)
theorem dX5_drawPerson_109 : decode cX5_drawPerson 109 = .ok (.invokevirtual 326, 3) := dk_182 1 70 (dk_at dksX5_drawPerson_4 15 rfl rfl)
theorem dX5_drawPerson_112 : decode cX5_drawPerson 112 = .ok (.return_, 1) := dk_177 (dk_at dksX5_drawPerson_4 18 rfl rfl)
abbrev cX5_draw : ByteArray := prog_26_method_93_code
def yX5_draw : MethodName := ⟨RX5, "draw", "(I)I"⟩
def dkwX5_draw_1 : List UInt8 := [112, 172]
abbrev dktX5_draw_1 : List UInt8 := dkwX5_draw_1 ++ []
def dkwX5_draw_0 : List UInt8 := [42, 42, 180, 1, 143, 19, 1, 146, 104, 17, 48, 57, 96, 181, 1, 143, 42, 180, 1, 143, 16, 8, 124, 27]
abbrev dktX5_draw_0 : List UInt8 := dkwX5_draw_0 ++ dktX5_draw_1
theorem dksX5_draw_0 : cX5_draw.data.toList.drop 0 = dktX5_draw_0 := by decide +kernel
theorem dksX5_draw_1 : cX5_draw.data.toList.drop 24 = dktX5_draw_1 := dk_seg dksX5_draw_0 24 rfl rfl
theorem dX5_draw_0 : decode cX5_draw 0 = .ok (.aload_n 0, 1) := dk_42 (dk_at dksX5_draw_0 0 rfl rfl)
theorem dX5_draw_1 : decode cX5_draw 1 = .ok (.aload_n 0, 1) := dk_42 (dk_at dksX5_draw_0 1 rfl rfl)
theorem dX5_draw_2 : decode cX5_draw 2 = .ok (.getfield 399, 3) := dk_180 1 143 (dk_at dksX5_draw_0 2 rfl rfl)
theorem dX5_draw_5 : decode cX5_draw 5 = .ok (.ldc_w 402, 3) := dk_19 1 146 (dk_at dksX5_draw_0 5 rfl rfl)
theorem dX5_draw_8 : decode cX5_draw 8 = .ok (.imul, 1) := dk_104 (dk_at dksX5_draw_0 8 rfl rfl)
theorem dX5_draw_9 : decode cX5_draw 9 = .ok (.sipush 12345, 3) := dk_17 48 57 (dk_at dksX5_draw_0 9 rfl rfl)
theorem dX5_draw_12 : decode cX5_draw 12 = .ok (.iadd, 1) := dk_96 (dk_at dksX5_draw_0 12 rfl rfl)
theorem dX5_draw_13 : decode cX5_draw 13 = .ok (.putfield 399, 3) := dk_181 1 143 (dk_at dksX5_draw_0 13 rfl rfl)
theorem dX5_draw_16 : decode cX5_draw 16 = .ok (.aload_n 0, 1) := dk_42 (dk_at dksX5_draw_0 16 rfl rfl)
theorem dX5_draw_17 : decode cX5_draw 17 = .ok (.getfield 399, 3) := dk_180 1 143 (dk_at dksX5_draw_0 17 rfl rfl)
theorem dX5_draw_20 : decode cX5_draw 20 = .ok (.bipush 8, 2) := dk_16 8 (dk_at dksX5_draw_0 20 rfl rfl)
theorem dX5_draw_22 : decode cX5_draw 22 = .ok (.iushr, 1) := dk_124 (dk_at dksX5_draw_0 22 rfl rfl)
theorem dX5_draw_23 : decode cX5_draw 23 = .ok (.iload_n 1, 1) := dk_27 (dk_at dksX5_draw_0 23 rfl rfl)
theorem dX5_draw_24 : decode cX5_draw 24 = .ok (.irem, 1) := dk_112 (dk_at dksX5_draw_1 0 rfl rfl)
theorem dX5_draw_25 : decode cX5_draw 25 = .ok (.ireturn, 1) := dk_172 (dk_at dksX5_draw_1 1 rfl rfl)
abbrev cX5_odds : ByteArray := prog_26_method_97_code
def yX5_odds : MethodName := ⟨RX5, "odds", "(III)I"⟩
def dkwX5_odds_4 : List UInt8 := [132, 6, 1, 167, 255, 207, 21, 5, 172]
abbrev dktX5_odds_4 : List UInt8 := dkwX5_odds_4 ++ []
def dkwX5_odds_3 : List UInt8 := [17, 0, 136, 27, 96, 46, 21, 4, 164, 0, 7, 4, 167, 0, 4, 3, 96, 54, 5, 42, 182, 1, 159]
abbrev dktX5_odds_3 : List UInt8 := dkwX5_odds_3 ++ dktX5_odds_4
def dkwX5_odds_2 : List UInt8 := [21, 6, 28, 162, 0, 49, 42, 16, 10, 29, 21, 6, 96, 182, 1, 153, 87, 21, 5, 42, 180, 0, 33]
abbrev dktX5_odds_2 : List UInt8 := dkwX5_odds_2 ++ dktX5_odds_3
def dkwX5_odds_1 : List UInt8 := [172, 42, 182, 1, 156, 42, 180, 0, 33, 17, 0, 136, 27, 96, 46, 54, 4, 3, 54, 5, 3, 54, 6]
abbrev dktX5_odds_1 : List UInt8 := dkwX5_odds_1 ++ dktX5_odds_2
def dkwX5_odds_0 : List UInt8 := [42, 3, 181, 0, 1, 42, 27, 182, 1, 16, 153, 0, 13, 28, 4, 16, 30, 184, 0, 189, 154, 0, 5, 2]
abbrev dktX5_odds_0 : List UInt8 := dkwX5_odds_0 ++ dktX5_odds_1
theorem dksX5_odds_0 : cX5_odds.data.toList.drop 0 = dktX5_odds_0 := by decide +kernel
theorem dksX5_odds_1 : cX5_odds.data.toList.drop 24 = dktX5_odds_1 := dk_seg dksX5_odds_0 24 rfl rfl
theorem dksX5_odds_2 : cX5_odds.data.toList.drop 47 = dktX5_odds_2 := dk_seg dksX5_odds_1 23 rfl rfl
theorem dksX5_odds_3 : cX5_odds.data.toList.drop 70 = dktX5_odds_3 := dk_seg dksX5_odds_2 23 rfl rfl
theorem dksX5_odds_4 : cX5_odds.data.toList.drop 93 = dktX5_odds_4 := dk_seg dksX5_odds_3 23 rfl rfl
theorem dX5_odds_0 : decode cX5_odds 0 = .ok (.aload_n 0, 1) := dk_42 (dk_at dksX5_odds_0 0 rfl rfl)
theorem dX5_odds_1 : decode cX5_odds 1 = .ok (.iconst 0, 1) := dk_3 (dk_at dksX5_odds_0 1 rfl rfl)
theorem dX5_odds_2 : decode cX5_odds 2 = .ok (.putfield 1, 3) := dk_181 0 1 (dk_at dksX5_odds_0 2 rfl rfl)
theorem dX5_odds_5 : decode cX5_odds 5 = .ok (.aload_n 0, 1) := dk_42 (dk_at dksX5_odds_0 5 rfl rfl)
theorem dX5_odds_6 : decode cX5_odds 6 = .ok (.iload_n 1, 1) := dk_27 (dk_at dksX5_odds_0 6 rfl rfl)
theorem dX5_odds_7 : decode cX5_odds 7 = .ok (.invokevirtual 272, 3) := dk_182 1 16 (dk_at dksX5_odds_0 7 rfl rfl)
theorem dX5_odds_10 : decode cX5_odds 10 = .ok (.ifCond .eq 13, 3) := dk_153 0 13 (dk_at dksX5_odds_0 10 rfl rfl)
theorem dX5_odds_13 : decode cX5_odds 13 = .ok (.iload_n 2, 1) := dk_28 (dk_at dksX5_odds_0 13 rfl rfl)
theorem dX5_odds_14 : decode cX5_odds 14 = .ok (.iconst 1, 1) := dk_4 (dk_at dksX5_odds_0 14 rfl rfl)
theorem dX5_odds_15 : decode cX5_odds 15 = .ok (.bipush 30, 2) := dk_16 30 (dk_at dksX5_odds_0 15 rfl rfl)
theorem dX5_odds_17 : decode cX5_odds 17 = .ok (.invokestatic 189, 3) := dk_184 0 189 (dk_at dksX5_odds_0 17 rfl rfl)
theorem dX5_odds_20 : decode cX5_odds 20 = .ok (.ifCond .ne 5, 3) := dk_154 0 5 (dk_at dksX5_odds_0 20 rfl rfl)
theorem dX5_odds_23 : decode cX5_odds 23 = .ok (.iconst (-1), 1) := dk_2 (dk_at dksX5_odds_0 23 rfl rfl)
theorem dX5_odds_24 : decode cX5_odds 24 = .ok (.ireturn, 1) := dk_172 (dk_at dksX5_odds_1 0 rfl rfl)
theorem dX5_odds_25 : decode cX5_odds 25 = .ok (.aload_n 0, 1) := dk_42 (dk_at dksX5_odds_1 1 rfl rfl)
theorem dX5_odds_26 : decode cX5_odds 26 = .ok (.invokevirtual 412, 3) := dk_182 1 156 (dk_at dksX5_odds_1 2 rfl rfl)
theorem dX5_odds_29 : decode cX5_odds 29 = .ok (.aload_n 0, 1) := dk_42 (dk_at dksX5_odds_1 5 rfl rfl)
theorem dX5_odds_30 : decode cX5_odds 30 = .ok (.getfield 33, 3) := dk_180 0 33 (dk_at dksX5_odds_1 6 rfl rfl)
theorem dX5_odds_33 : decode cX5_odds 33 = .ok (.sipush 136, 3) := dk_17 0 136 (dk_at dksX5_odds_1 9 rfl rfl)
theorem dX5_odds_36 : decode cX5_odds 36 = .ok (.iload_n 1, 1) := dk_27 (dk_at dksX5_odds_1 12 rfl rfl)
theorem dX5_odds_37 : decode cX5_odds 37 = .ok (.iadd, 1) := dk_96 (dk_at dksX5_odds_1 13 rfl rfl)
theorem dX5_odds_38 : decode cX5_odds 38 = .ok (.iaload, 1) := dk_46 (dk_at dksX5_odds_1 14 rfl rfl)
theorem dX5_odds_39 : decode cX5_odds 39 = .ok (.istore 4, 2) := dk_54 4 (dk_at dksX5_odds_1 15 rfl rfl)
theorem dX5_odds_41 : decode cX5_odds 41 = .ok (.iconst 0, 1) := dk_3 (dk_at dksX5_odds_1 17 rfl rfl)
theorem dX5_odds_42 : decode cX5_odds 42 = .ok (.istore 5, 2) := dk_54 5 (dk_at dksX5_odds_1 18 rfl rfl)
theorem dX5_odds_44 : decode cX5_odds 44 = .ok (.iconst 0, 1) := dk_3 (dk_at dksX5_odds_1 20 rfl rfl)
theorem dX5_odds_45 : decode cX5_odds 45 = .ok (.istore 6, 2) := dk_54 6 (dk_at dksX5_odds_1 21 rfl rfl)
theorem dX5_odds_47 : decode cX5_odds 47 = .ok (.iload 6, 2) := dk_21 6 (dk_at dksX5_odds_2 0 rfl rfl)
theorem dX5_odds_49 : decode cX5_odds 49 = .ok (.iload_n 2, 1) := dk_28 (dk_at dksX5_odds_2 2 rfl rfl)
theorem dX5_odds_50 : decode cX5_odds 50 = .ok (.if_icmp .ge 49, 3) := dk_162 0 49 (dk_at dksX5_odds_2 3 rfl rfl)
theorem dX5_odds_53 : decode cX5_odds 53 = .ok (.aload_n 0, 1) := dk_42 (dk_at dksX5_odds_2 6 rfl rfl)
theorem dX5_odds_54 : decode cX5_odds 54 = .ok (.bipush 10, 2) := dk_16 10 (dk_at dksX5_odds_2 7 rfl rfl)
theorem dX5_odds_56 : decode cX5_odds 56 = .ok (.iload_n 3, 1) := dk_29 (dk_at dksX5_odds_2 9 rfl rfl)
theorem dX5_odds_57 : decode cX5_odds 57 = .ok (.iload 6, 2) := dk_21 6 (dk_at dksX5_odds_2 10 rfl rfl)
theorem dX5_odds_59 : decode cX5_odds 59 = .ok (.iadd, 1) := dk_96 (dk_at dksX5_odds_2 12 rfl rfl)
theorem dX5_odds_60 : decode cX5_odds 60 = .ok (.invokevirtual 409, 3) := dk_182 1 153 (dk_at dksX5_odds_2 13 rfl rfl)
theorem dX5_odds_63 : decode cX5_odds 63 = .ok (.pop, 1) := dk_87 (dk_at dksX5_odds_2 16 rfl rfl)
theorem dX5_odds_64 : decode cX5_odds 64 = .ok (.iload 5, 2) := dk_21 5 (dk_at dksX5_odds_2 17 rfl rfl)
theorem dX5_odds_66 : decode cX5_odds 66 = .ok (.aload_n 0, 1) := dk_42 (dk_at dksX5_odds_2 19 rfl rfl)
theorem dX5_odds_67 : decode cX5_odds 67 = .ok (.getfield 33, 3) := dk_180 0 33 (dk_at dksX5_odds_2 20 rfl rfl)
theorem dX5_odds_70 : decode cX5_odds 70 = .ok (.sipush 136, 3) := dk_17 0 136 (dk_at dksX5_odds_3 0 rfl rfl)
theorem dX5_odds_73 : decode cX5_odds 73 = .ok (.iload_n 1, 1) := dk_27 (dk_at dksX5_odds_3 3 rfl rfl)
theorem dX5_odds_74 : decode cX5_odds 74 = .ok (.iadd, 1) := dk_96 (dk_at dksX5_odds_3 4 rfl rfl)
theorem dX5_odds_75 : decode cX5_odds 75 = .ok (.iaload, 1) := dk_46 (dk_at dksX5_odds_3 5 rfl rfl)
theorem dX5_odds_76 : decode cX5_odds 76 = .ok (.iload 4, 2) := dk_21 4 (dk_at dksX5_odds_3 6 rfl rfl)
theorem dX5_odds_78 : decode cX5_odds 78 = .ok (.if_icmp .le 7, 3) := dk_164 0 7 (dk_at dksX5_odds_3 8 rfl rfl)
theorem dX5_odds_81 : decode cX5_odds 81 = .ok (.iconst 1, 1) := dk_4 (dk_at dksX5_odds_3 11 rfl rfl)
theorem dX5_odds_82 : decode cX5_odds 82 = .ok (.goto 4, 3) := dk_167 0 4 (dk_at dksX5_odds_3 12 rfl rfl)
theorem dX5_odds_85 : decode cX5_odds 85 = .ok (.iconst 0, 1) := dk_3 (dk_at dksX5_odds_3 15 rfl rfl)
theorem dX5_odds_86 : decode cX5_odds 86 = .ok (.iadd, 1) := dk_96 (dk_at dksX5_odds_3 16 rfl rfl)
theorem dX5_odds_87 : decode cX5_odds 87 = .ok (.istore 5, 2) := dk_54 5 (dk_at dksX5_odds_3 17 rfl rfl)
theorem dX5_odds_89 : decode cX5_odds 89 = .ok (.aload_n 0, 1) := dk_42 (dk_at dksX5_odds_3 19 rfl rfl)
theorem dX5_odds_90 : decode cX5_odds 90 = .ok (.invokevirtual 415, 3) := dk_182 1 159 (dk_at dksX5_odds_3 20 rfl rfl)
theorem dX5_odds_93 : decode cX5_odds 93 = .ok (.iinc 6 1, 3) := dk_132 6 1 (dk_at dksX5_odds_4 0 rfl rfl)
theorem dX5_odds_96 : decode cX5_odds 96 = .ok (.goto (-49), 3) := dk_167 255 207 (dk_at dksX5_odds_4 3 rfl rfl)
theorem dX5_odds_99 : decode cX5_odds 99 = .ok (.iload 5, 2) := dk_21 5 (dk_at dksX5_odds_4 6 rfl rfl)
theorem dX5_odds_101 : decode cX5_odds 101 = .ok (.ireturn, 1) := dk_172 (dk_at dksX5_odds_4 8 rfl rfl)
abbrev cX5_tries : ByteArray := prog_26_method_68_code
def yX5_tries : MethodName := ⟨RX5, "tries", "()V"⟩
def dkwX5_tries_1 : List UInt8 := [79, 132, 1, 1, 167, 255, 230, 177]
abbrev dktX5_tries_1 : List UInt8 := dkwX5_tries_1 ++ []
def dkwX5_tries_0 : List UInt8 := [3, 60, 27, 17, 0, 145, 162, 0, 25, 42, 180, 0, 53, 27, 42, 180, 0, 33, 17, 0, 131, 27, 96, 46]
abbrev dktX5_tries_0 : List UInt8 := dkwX5_tries_0 ++ dktX5_tries_1
theorem dksX5_tries_0 : cX5_tries.data.toList.drop 0 = dktX5_tries_0 := by decide +kernel
theorem dksX5_tries_1 : cX5_tries.data.toList.drop 24 = dktX5_tries_1 := dk_seg dksX5_tries_0 24 rfl rfl
theorem dX5_tries_0 : decode cX5_tries 0 = .ok (.iconst 0, 1) := dk_3 (dk_at dksX5_tries_0 0 rfl rfl)
theorem dX5_tries_1 : decode cX5_tries 1 = .ok (.istore_n 1, 1) := dk_60 (dk_at dksX5_tries_0 1 rfl rfl)
theorem dX5_tries_2 : decode cX5_tries 2 = .ok (.iload_n 1, 1) := dk_27 (dk_at dksX5_tries_0 2 rfl rfl)
theorem dX5_tries_3 : decode cX5_tries 3 = .ok (.sipush 145, 3) := dk_17 0 145 (dk_at dksX5_tries_0 3 rfl rfl)
theorem dX5_tries_6 : decode cX5_tries 6 = .ok (.if_icmp .ge 25, 3) := dk_162 0 25 (dk_at dksX5_tries_0 6 rfl rfl)
theorem dX5_tries_9 : decode cX5_tries 9 = .ok (.aload_n 0, 1) := dk_42 (dk_at dksX5_tries_0 9 rfl rfl)
theorem dX5_tries_10 : decode cX5_tries 10 = .ok (.getfield 53, 3) := dk_180 0 53 (dk_at dksX5_tries_0 10 rfl rfl)
theorem dX5_tries_13 : decode cX5_tries 13 = .ok (.iload_n 1, 1) := dk_27 (dk_at dksX5_tries_0 13 rfl rfl)
theorem dX5_tries_14 : decode cX5_tries 14 = .ok (.aload_n 0, 1) := dk_42 (dk_at dksX5_tries_0 14 rfl rfl)
theorem dX5_tries_15 : decode cX5_tries 15 = .ok (.getfield 33, 3) := dk_180 0 33 (dk_at dksX5_tries_0 15 rfl rfl)
theorem dX5_tries_18 : decode cX5_tries 18 = .ok (.sipush 131, 3) := dk_17 0 131 (dk_at dksX5_tries_0 18 rfl rfl)
theorem dX5_tries_21 : decode cX5_tries 21 = .ok (.iload_n 1, 1) := dk_27 (dk_at dksX5_tries_0 21 rfl rfl)
theorem dX5_tries_22 : decode cX5_tries 22 = .ok (.iadd, 1) := dk_96 (dk_at dksX5_tries_0 22 rfl rfl)
theorem dX5_tries_23 : decode cX5_tries 23 = .ok (.iaload, 1) := dk_46 (dk_at dksX5_tries_0 23 rfl rfl)
theorem dX5_tries_24 : decode cX5_tries 24 = .ok (.iastore, 1) := dk_79 (dk_at dksX5_tries_1 0 rfl rfl)
theorem dX5_tries_25 : decode cX5_tries 25 = .ok (.iinc 1 1, 3) := dk_132 1 1 (dk_at dksX5_tries_1 1 rfl rfl)
theorem dX5_tries_28 : decode cX5_tries 28 = .ok (.goto (-26), 3) := dk_167 255 230 (dk_at dksX5_tries_1 4 rfl rfl)
theorem dX5_tries_31 : decode cX5_tries 31 = .ok (.return_, 1) := dk_177 (dk_at dksX5_tries_1 7 rfl rfl)
abbrev cX5_back : ByteArray := prog_26_method_69_code
def yX5_back : MethodName := ⟨RX5, "back", "()V"⟩
def dkwX5_back_1 : List UInt8 := [79, 132, 1, 1, 167, 255, 230, 177]
abbrev dktX5_back_1 : List UInt8 := dkwX5_back_1 ++ []
def dkwX5_back_0 : List UInt8 := [3, 60, 27, 17, 0, 145, 162, 0, 25, 42, 180, 0, 33, 17, 0, 131, 27, 96, 42, 180, 0, 53, 27, 46]
abbrev dktX5_back_0 : List UInt8 := dkwX5_back_0 ++ dktX5_back_1
theorem dksX5_back_0 : cX5_back.data.toList.drop 0 = dktX5_back_0 := by decide +kernel
theorem dksX5_back_1 : cX5_back.data.toList.drop 24 = dktX5_back_1 := dk_seg dksX5_back_0 24 rfl rfl
theorem dX5_back_0 : decode cX5_back 0 = .ok (.iconst 0, 1) := dk_3 (dk_at dksX5_back_0 0 rfl rfl)
theorem dX5_back_1 : decode cX5_back 1 = .ok (.istore_n 1, 1) := dk_60 (dk_at dksX5_back_0 1 rfl rfl)
theorem dX5_back_2 : decode cX5_back 2 = .ok (.iload_n 1, 1) := dk_27 (dk_at dksX5_back_0 2 rfl rfl)
theorem dX5_back_3 : decode cX5_back 3 = .ok (.sipush 145, 3) := dk_17 0 145 (dk_at dksX5_back_0 3 rfl rfl)
theorem dX5_back_6 : decode cX5_back 6 = .ok (.if_icmp .ge 25, 3) := dk_162 0 25 (dk_at dksX5_back_0 6 rfl rfl)
theorem dX5_back_9 : decode cX5_back 9 = .ok (.aload_n 0, 1) := dk_42 (dk_at dksX5_back_0 9 rfl rfl)
theorem dX5_back_10 : decode cX5_back 10 = .ok (.getfield 33, 3) := dk_180 0 33 (dk_at dksX5_back_0 10 rfl rfl)
theorem dX5_back_13 : decode cX5_back 13 = .ok (.sipush 131, 3) := dk_17 0 131 (dk_at dksX5_back_0 13 rfl rfl)
theorem dX5_back_16 : decode cX5_back 16 = .ok (.iload_n 1, 1) := dk_27 (dk_at dksX5_back_0 16 rfl rfl)
theorem dX5_back_17 : decode cX5_back 17 = .ok (.iadd, 1) := dk_96 (dk_at dksX5_back_0 17 rfl rfl)
theorem dX5_back_18 : decode cX5_back 18 = .ok (.aload_n 0, 1) := dk_42 (dk_at dksX5_back_0 18 rfl rfl)
theorem dX5_back_19 : decode cX5_back 19 = .ok (.getfield 53, 3) := dk_180 0 53 (dk_at dksX5_back_0 19 rfl rfl)
theorem dX5_back_22 : decode cX5_back 22 = .ok (.iload_n 1, 1) := dk_27 (dk_at dksX5_back_0 22 rfl rfl)
theorem dX5_back_23 : decode cX5_back 23 = .ok (.iaload, 1) := dk_46 (dk_at dksX5_back_0 23 rfl rfl)
theorem dX5_back_24 : decode cX5_back 24 = .ok (.iastore, 1) := dk_79 (dk_at dksX5_back_1 0 rfl rfl)
theorem dX5_back_25 : decode cX5_back 25 = .ok (.iinc 1 1, 3) := dk_132 1 1 (dk_at dksX5_back_1 1 rfl rfl)
theorem dX5_back_28 : decode cX5_back 28 = .ok (.goto (-26), 3) := dk_167 255 230 (dk_at dksX5_back_1 4 rfl rfl)
theorem dX5_back_31 : decode cX5_back 31 = .ok (.return_, 1) := dk_177 (dk_at dksX5_back_1 7 rfl rfl)
abbrev cX5_book : ByteArray := prog_26_method_100_code
def yX5_book : MethodName := ⟨RX5, "book", "(I)I"⟩
def dkwX5_book_12 : List UInt8 := [46, 79, 132, 3, 1, 167, 255, 223, 27, 154, 0, 7, 42, 182, 1, 159, 28, 172]
abbrev dktX5_book_12 : List UInt8 := dkwX5_book_12 ++ []
def dkwX5_book_11 : List UInt8 := [162, 0, 32, 42, 180, 0, 50, 17, 0, 145, 42, 180, 1, 6, 4, 100, 104, 29, 96, 42, 180, 0, 53, 29]
abbrev dktX5_book_11 : List UInt8 := dkwX5_book_11 ++ dktX5_book_12
def dkwX5_book_10 : List UInt8 := [160, 0, 54, 42, 180, 0, 77, 4, 46, 158, 0, 45, 42, 182, 1, 54, 3, 62, 29, 17, 0, 145]
abbrev dktX5_book_10 : List UInt8 := dkwX5_book_10 ++ dktX5_book_11
def dkwX5_book_9 : List UInt8 := [17, 0, 131, 46, 79, 42, 180, 0, 77, 6, 42, 182, 1, 31, 79, 42, 4, 181, 1, 172, 27, 4]
abbrev dktX5_book_9 : List UInt8 := dkwX5_book_9 ++ dktX5_book_10
def dkwX5_book_8 : List UInt8 := [180, 0, 77, 4, 92, 46, 4, 96, 79, 132, 3, 1, 167, 255, 169, 42, 180, 0, 77, 5, 42, 180, 0, 33]
abbrev dktX5_book_8 : List UInt8 := dkwX5_book_8 ++ dktX5_book_9
def dkwX5_book_7 : List UInt8 := [29, 104, 6, 96, 46, 182, 1, 168, 79, 42, 180, 0, 77, 3, 46, 158, 0, 8, 29, 61, 167, 0, 13, 42]
abbrev dktX5_book_7 : List UInt8 := dkwX5_book_7 ++ dktX5_book_8
def dkwX5_book_6 : List UInt8 := [180, 0, 40, 7, 29, 104, 4, 96, 46, 42, 180, 0, 40, 7, 29, 104, 5, 96, 46, 42, 180, 0, 40, 7]
abbrev dktX5_book_6 : List UInt8 := dkwX5_book_6 ++ dktX5_book_7
def dkwX5_book_5 : List UInt8 := [162, 0, 85, 28, 156, 0, 81, 42, 180, 0, 77, 3, 42, 42, 180, 0, 40, 7, 29, 104, 46, 42]
abbrev dktX5_book_5 : List UInt8 := dkwX5_book_5 ++ dktX5_book_6
def dkwX5_book_4 : List UInt8 := [42, 180, 0, 77, 28, 3, 79, 132, 2, 1, 167, 255, 241, 2, 61, 3, 62, 29, 42, 180, 1, 162]
abbrev dktX5_book_4 : List UInt8 := dkwX5_book_4 ++ dktX5_book_5
def dkwX5_book_3 : List UInt8 := [42, 89, 180, 1, 162, 4, 96, 181, 1, 162, 167, 255, 215, 42, 182, 1, 156, 3, 61, 28, 7, 162, 0, 16]
abbrev dktX5_book_3 : List UInt8 := dkwX5_book_3 ++ dktX5_book_4
def dkwX5_book_2 : List UInt8 := [42, 182, 1, 165, 153, 0, 12, 42, 16, 59, 182, 1, 0, 154, 0, 11, 16, 254, 42, 180, 0, 177, 100, 172]
abbrev dktX5_book_2 : List UInt8 := dkwX5_book_2 ++ dktX5_book_3
def dkwX5_book_1 : List UInt8 := [182, 0, 247, 42, 3, 181, 0, 174, 42, 3, 181, 1, 162, 42, 182, 0, 186, 42, 180, 0, 157, 153, 0, 40]
abbrev dktX5_book_1 : List UInt8 := dkwX5_book_1 ++ dktX5_book_2
def dkwX5_book_0 : List UInt8 := [42, 3, 181, 0, 1, 27, 3, 4, 184, 0, 189, 154, 0, 7, 17, 252, 24, 172, 42, 17, 1, 144]
abbrev dktX5_book_0 : List UInt8 := dkwX5_book_0 ++ dktX5_book_1
theorem dksX5_book_0 : cX5_book.data.toList.drop 0 = dktX5_book_0 := by decide +kernel
theorem dksX5_book_1 : cX5_book.data.toList.drop 22 = dktX5_book_1 := dk_seg dksX5_book_0 22 rfl rfl
theorem dksX5_book_2 : cX5_book.data.toList.drop 46 = dktX5_book_2 := dk_seg dksX5_book_1 24 rfl rfl
theorem dksX5_book_3 : cX5_book.data.toList.drop 70 = dktX5_book_3 := dk_seg dksX5_book_2 24 rfl rfl
theorem dksX5_book_4 : cX5_book.data.toList.drop 94 = dktX5_book_4 := dk_seg dksX5_book_3 24 rfl rfl
theorem dksX5_book_5 : cX5_book.data.toList.drop 116 = dktX5_book_5 := dk_seg dksX5_book_4 22 rfl rfl
theorem dksX5_book_6 : cX5_book.data.toList.drop 138 = dktX5_book_6 := dk_seg dksX5_book_5 22 rfl rfl
theorem dksX5_book_7 : cX5_book.data.toList.drop 162 = dktX5_book_7 := dk_seg dksX5_book_6 24 rfl rfl
theorem dksX5_book_8 : cX5_book.data.toList.drop 186 = dktX5_book_8 := dk_seg dksX5_book_7 24 rfl rfl
theorem dksX5_book_9 : cX5_book.data.toList.drop 210 = dktX5_book_9 := dk_seg dksX5_book_8 24 rfl rfl
theorem dksX5_book_10 : cX5_book.data.toList.drop 232 = dktX5_book_10 := dk_seg dksX5_book_9 22 rfl rfl
theorem dksX5_book_11 : cX5_book.data.toList.drop 254 = dktX5_book_11 := dk_seg dksX5_book_10 22 rfl rfl
theorem dksX5_book_12 : cX5_book.data.toList.drop 278 = dktX5_book_12 := dk_seg dksX5_book_11 24 rfl rfl
theorem dX5_book_0 : decode cX5_book 0 = .ok (.aload_n 0, 1) := dk_42 (dk_at dksX5_book_0 0 rfl rfl)
theorem dX5_book_1 : decode cX5_book 1 = .ok (.iconst 0, 1) := dk_3 (dk_at dksX5_book_0 1 rfl rfl)
theorem dX5_book_2 : decode cX5_book 2 = .ok (.putfield 1, 3) := dk_181 0 1 (dk_at dksX5_book_0 2 rfl rfl)
theorem dX5_book_5 : decode cX5_book 5 = .ok (.iload_n 1, 1) := dk_27 (dk_at dksX5_book_0 5 rfl rfl)
theorem dX5_book_6 : decode cX5_book 6 = .ok (.iconst 0, 1) := dk_3 (dk_at dksX5_book_0 6 rfl rfl)
theorem dX5_book_7 : decode cX5_book 7 = .ok (.iconst 1, 1) := dk_4 (dk_at dksX5_book_0 7 rfl rfl)
theorem dX5_book_8 : decode cX5_book 8 = .ok (.invokestatic 189, 3) := dk_184 0 189 (dk_at dksX5_book_0 8 rfl rfl)
theorem dX5_book_11 : decode cX5_book 11 = .ok (.ifCond .ne 7, 3) := dk_154 0 7 (dk_at dksX5_book_0 11 rfl rfl)
theorem dX5_book_14 : decode cX5_book 14 = .ok (.sipush (-1000), 3) := dk_17 252 24 (dk_at dksX5_book_0 14 rfl rfl)
theorem dX5_book_17 : decode cX5_book 17 = .ok (.ireturn, 1) := dk_172 (dk_at dksX5_book_0 17 rfl rfl)
theorem dX5_book_18 : decode cX5_book 18 = .ok (.aload_n 0, 1) := dk_42 (dk_at dksX5_book_0 18 rfl rfl)
theorem dX5_book_19 : decode cX5_book 19 = .ok (.sipush 400, 3) := dk_17 1 144 (dk_at dksX5_book_0 19 rfl rfl)
theorem dX5_book_22 : decode cX5_book 22 = .ok (.invokevirtual 247, 3) := dk_182 0 247 (dk_at dksX5_book_1 0 rfl rfl)
theorem dX5_book_25 : decode cX5_book 25 = .ok (.aload_n 0, 1) := dk_42 (dk_at dksX5_book_1 3 rfl rfl)
theorem dX5_book_26 : decode cX5_book 26 = .ok (.iconst 0, 1) := dk_3 (dk_at dksX5_book_1 4 rfl rfl)
theorem dX5_book_27 : decode cX5_book 27 = .ok (.putfield 174, 3) := dk_181 0 174 (dk_at dksX5_book_1 5 rfl rfl)
theorem dX5_book_30 : decode cX5_book 30 = .ok (.aload_n 0, 1) := dk_42 (dk_at dksX5_book_1 8 rfl rfl)
theorem dX5_book_31 : decode cX5_book 31 = .ok (.iconst 0, 1) := dk_3 (dk_at dksX5_book_1 9 rfl rfl)
theorem dX5_book_32 : decode cX5_book 32 = .ok (.putfield 418, 3) := dk_181 1 162 (dk_at dksX5_book_1 10 rfl rfl)
theorem dX5_book_35 : decode cX5_book 35 = .ok (.aload_n 0, 1) := dk_42 (dk_at dksX5_book_1 13 rfl rfl)
theorem dX5_book_36 : decode cX5_book 36 = .ok (.invokevirtual 186, 3) := dk_182 0 186 (dk_at dksX5_book_1 14 rfl rfl)
theorem dX5_book_39 : decode cX5_book 39 = .ok (.aload_n 0, 1) := dk_42 (dk_at dksX5_book_1 17 rfl rfl)
theorem dX5_book_40 : decode cX5_book 40 = .ok (.getfield 157, 3) := dk_180 0 157 (dk_at dksX5_book_1 18 rfl rfl)
theorem dX5_book_43 : decode cX5_book 43 = .ok (.ifCond .eq 40, 3) := dk_153 0 40 (dk_at dksX5_book_1 21 rfl rfl)
theorem dX5_book_46 : decode cX5_book 46 = .ok (.aload_n 0, 1) := dk_42 (dk_at dksX5_book_2 0 rfl rfl)
theorem dX5_book_47 : decode cX5_book 47 = .ok (.invokevirtual 421, 3) := dk_182 1 165 (dk_at dksX5_book_2 1 rfl rfl)
theorem dX5_book_50 : decode cX5_book 50 = .ok (.ifCond .eq 12, 3) := dk_153 0 12 (dk_at dksX5_book_2 4 rfl rfl)
theorem dX5_book_53 : decode cX5_book 53 = .ok (.aload_n 0, 1) := dk_42 (dk_at dksX5_book_2 7 rfl rfl)
theorem dX5_book_54 : decode cX5_book 54 = .ok (.bipush 59, 2) := dk_16 59 (dk_at dksX5_book_2 8 rfl rfl)
theorem dX5_book_56 : decode cX5_book 56 = .ok (.invokevirtual 256, 3) := dk_182 1 0 (dk_at dksX5_book_2 10 rfl rfl)
theorem dX5_book_59 : decode cX5_book 59 = .ok (.ifCond .ne 11, 3) := dk_154 0 11 (dk_at dksX5_book_2 13 rfl rfl)
theorem dX5_book_62 : decode cX5_book 62 = .ok (.bipush (-2), 2) := dk_16 254 (dk_at dksX5_book_2 16 rfl rfl)
theorem dX5_book_64 : decode cX5_book 64 = .ok (.aload_n 0, 1) := dk_42 (dk_at dksX5_book_2 18 rfl rfl)
theorem dX5_book_65 : decode cX5_book 65 = .ok (.getfield 177, 3) := dk_180 0 177 (dk_at dksX5_book_2 19 rfl rfl)
theorem dX5_book_68 : decode cX5_book 68 = .ok (.isub, 1) := dk_100 (dk_at dksX5_book_2 22 rfl rfl)
theorem dX5_book_69 : decode cX5_book 69 = .ok (.ireturn, 1) := dk_172 (dk_at dksX5_book_2 23 rfl rfl)
theorem dX5_book_70 : decode cX5_book 70 = .ok (.aload_n 0, 1) := dk_42 (dk_at dksX5_book_3 0 rfl rfl)
theorem dX5_book_71 : decode cX5_book 71 = .ok (.dup, 1) := dk_89 (dk_at dksX5_book_3 1 rfl rfl)
theorem dX5_book_72 : decode cX5_book 72 = .ok (.getfield 418, 3) := dk_180 1 162 (dk_at dksX5_book_3 2 rfl rfl)
theorem dX5_book_75 : decode cX5_book 75 = .ok (.iconst 1, 1) := dk_4 (dk_at dksX5_book_3 5 rfl rfl)
theorem dX5_book_76 : decode cX5_book 76 = .ok (.iadd, 1) := dk_96 (dk_at dksX5_book_3 6 rfl rfl)
theorem dX5_book_77 : decode cX5_book 77 = .ok (.putfield 418, 3) := dk_181 1 162 (dk_at dksX5_book_3 7 rfl rfl)
theorem dX5_book_80 : decode cX5_book 80 = .ok (.goto (-41), 3) := dk_167 255 215 (dk_at dksX5_book_3 10 rfl rfl)
theorem dX5_book_83 : decode cX5_book 83 = .ok (.aload_n 0, 1) := dk_42 (dk_at dksX5_book_3 13 rfl rfl)
theorem dX5_book_84 : decode cX5_book 84 = .ok (.invokevirtual 412, 3) := dk_182 1 156 (dk_at dksX5_book_3 14 rfl rfl)
theorem dX5_book_87 : decode cX5_book 87 = .ok (.iconst 0, 1) := dk_3 (dk_at dksX5_book_3 17 rfl rfl)
theorem dX5_book_88 : decode cX5_book 88 = .ok (.istore_n 2, 1) := dk_61 (dk_at dksX5_book_3 18 rfl rfl)
theorem dX5_book_89 : decode cX5_book 89 = .ok (.iload_n 2, 1) := dk_28 (dk_at dksX5_book_3 19 rfl rfl)
theorem dX5_book_90 : decode cX5_book 90 = .ok (.iconst 4, 1) := dk_7 (dk_at dksX5_book_3 20 rfl rfl)
theorem dX5_book_91 : decode cX5_book 91 = .ok (.if_icmp .ge 16, 3) := dk_162 0 16 (dk_at dksX5_book_3 21 rfl rfl)
theorem dX5_book_94 : decode cX5_book 94 = .ok (.aload_n 0, 1) := dk_42 (dk_at dksX5_book_4 0 rfl rfl)
theorem dX5_book_95 : decode cX5_book 95 = .ok (.getfield 77, 3) := dk_180 0 77 (dk_at dksX5_book_4 1 rfl rfl)
theorem dX5_book_98 : decode cX5_book 98 = .ok (.iload_n 2, 1) := dk_28 (dk_at dksX5_book_4 4 rfl rfl)
theorem dX5_book_99 : decode cX5_book 99 = .ok (.iconst 0, 1) := dk_3 (dk_at dksX5_book_4 5 rfl rfl)
theorem dX5_book_100 : decode cX5_book 100 = .ok (.iastore, 1) := dk_79 (dk_at dksX5_book_4 6 rfl rfl)
theorem dX5_book_101 : decode cX5_book 101 = .ok (.iinc 2 1, 3) := dk_132 2 1 (dk_at dksX5_book_4 7 rfl rfl)
theorem dX5_book_104 : decode cX5_book 104 = .ok (.goto (-15), 3) := dk_167 255 241 (dk_at dksX5_book_4 10 rfl rfl)
theorem dX5_book_107 : decode cX5_book 107 = .ok (.iconst (-1), 1) := dk_2 (dk_at dksX5_book_4 13 rfl rfl)
theorem dX5_book_108 : decode cX5_book 108 = .ok (.istore_n 2, 1) := dk_61 (dk_at dksX5_book_4 14 rfl rfl)
theorem dX5_book_109 : decode cX5_book 109 = .ok (.iconst 0, 1) := dk_3 (dk_at dksX5_book_4 15 rfl rfl)
theorem dX5_book_110 : decode cX5_book 110 = .ok (.istore_n 3, 1) := dk_62 (dk_at dksX5_book_4 16 rfl rfl)
theorem dX5_book_111 : decode cX5_book 111 = .ok (.iload_n 3, 1) := dk_29 (dk_at dksX5_book_4 17 rfl rfl)
theorem dX5_book_112 : decode cX5_book 112 = .ok (.aload_n 0, 1) := dk_42 (dk_at dksX5_book_4 18 rfl rfl)
theorem dX5_book_113 : decode cX5_book 113 = .ok (.getfield 418, 3) := dk_180 1 162 (dk_at dksX5_book_4 19 rfl rfl)
theorem dX5_book_116 : decode cX5_book 116 = .ok (.if_icmp .ge 85, 3) := dk_162 0 85 (dk_at dksX5_book_5 0 rfl rfl)
theorem dX5_book_119 : decode cX5_book 119 = .ok (.iload_n 2, 1) := dk_28 (dk_at dksX5_book_5 3 rfl rfl)
theorem dX5_book_120 : decode cX5_book 120 = .ok (.ifCond .ge 81, 3) := dk_156 0 81 (dk_at dksX5_book_5 4 rfl rfl)
theorem dX5_book_123 : decode cX5_book 123 = .ok (.aload_n 0, 1) := dk_42 (dk_at dksX5_book_5 7 rfl rfl)
theorem dX5_book_124 : decode cX5_book 124 = .ok (.getfield 77, 3) := dk_180 0 77 (dk_at dksX5_book_5 8 rfl rfl)
theorem dX5_book_127 : decode cX5_book 127 = .ok (.iconst 0, 1) := dk_3 (dk_at dksX5_book_5 11 rfl rfl)
theorem dX5_book_128 : decode cX5_book 128 = .ok (.aload_n 0, 1) := dk_42 (dk_at dksX5_book_5 12 rfl rfl)
theorem dX5_book_129 : decode cX5_book 129 = .ok (.aload_n 0, 1) := dk_42 (dk_at dksX5_book_5 13 rfl rfl)
theorem dX5_book_130 : decode cX5_book 130 = .ok (.getfield 40, 3) := dk_180 0 40 (dk_at dksX5_book_5 14 rfl rfl)
theorem dX5_book_133 : decode cX5_book 133 = .ok (.iconst 4, 1) := dk_7 (dk_at dksX5_book_5 17 rfl rfl)
theorem dX5_book_134 : decode cX5_book 134 = .ok (.iload_n 3, 1) := dk_29 (dk_at dksX5_book_5 18 rfl rfl)
theorem dX5_book_135 : decode cX5_book 135 = .ok (.imul, 1) := dk_104 (dk_at dksX5_book_5 19 rfl rfl)
theorem dX5_book_136 : decode cX5_book 136 = .ok (.iaload, 1) := dk_46 (dk_at dksX5_book_5 20 rfl rfl)
theorem dX5_book_137 : decode cX5_book 137 = .ok (.aload_n 0, 1) := dk_42 (dk_at dksX5_book_5 21 rfl rfl)
theorem dX5_book_138 : decode cX5_book 138 = .ok (.getfield 40, 3) := dk_180 0 40 (dk_at dksX5_book_6 0 rfl rfl)
theorem dX5_book_141 : decode cX5_book 141 = .ok (.iconst 4, 1) := dk_7 (dk_at dksX5_book_6 3 rfl rfl)
theorem dX5_book_142 : decode cX5_book 142 = .ok (.iload_n 3, 1) := dk_29 (dk_at dksX5_book_6 4 rfl rfl)
theorem dX5_book_143 : decode cX5_book 143 = .ok (.imul, 1) := dk_104 (dk_at dksX5_book_6 5 rfl rfl)
theorem dX5_book_144 : decode cX5_book 144 = .ok (.iconst 1, 1) := dk_4 (dk_at dksX5_book_6 6 rfl rfl)
theorem dX5_book_145 : decode cX5_book 145 = .ok (.iadd, 1) := dk_96 (dk_at dksX5_book_6 7 rfl rfl)
theorem dX5_book_146 : decode cX5_book 146 = .ok (.iaload, 1) := dk_46 (dk_at dksX5_book_6 8 rfl rfl)
theorem dX5_book_147 : decode cX5_book 147 = .ok (.aload_n 0, 1) := dk_42 (dk_at dksX5_book_6 9 rfl rfl)
theorem dX5_book_148 : decode cX5_book 148 = .ok (.getfield 40, 3) := dk_180 0 40 (dk_at dksX5_book_6 10 rfl rfl)
theorem dX5_book_151 : decode cX5_book 151 = .ok (.iconst 4, 1) := dk_7 (dk_at dksX5_book_6 13 rfl rfl)
theorem dX5_book_152 : decode cX5_book 152 = .ok (.iload_n 3, 1) := dk_29 (dk_at dksX5_book_6 14 rfl rfl)
theorem dX5_book_153 : decode cX5_book 153 = .ok (.imul, 1) := dk_104 (dk_at dksX5_book_6 15 rfl rfl)
theorem dX5_book_154 : decode cX5_book 154 = .ok (.iconst 2, 1) := dk_5 (dk_at dksX5_book_6 16 rfl rfl)
theorem dX5_book_155 : decode cX5_book 155 = .ok (.iadd, 1) := dk_96 (dk_at dksX5_book_6 17 rfl rfl)
theorem dX5_book_156 : decode cX5_book 156 = .ok (.iaload, 1) := dk_46 (dk_at dksX5_book_6 18 rfl rfl)
theorem dX5_book_157 : decode cX5_book 157 = .ok (.aload_n 0, 1) := dk_42 (dk_at dksX5_book_6 19 rfl rfl)
theorem dX5_book_158 : decode cX5_book 158 = .ok (.getfield 40, 3) := dk_180 0 40 (dk_at dksX5_book_6 20 rfl rfl)
theorem dX5_book_161 : decode cX5_book 161 = .ok (.iconst 4, 1) := dk_7 (dk_at dksX5_book_6 23 rfl rfl)
theorem dX5_book_162 : decode cX5_book 162 = .ok (.iload_n 3, 1) := dk_29 (dk_at dksX5_book_7 0 rfl rfl)
theorem dX5_book_163 : decode cX5_book 163 = .ok (.imul, 1) := dk_104 (dk_at dksX5_book_7 1 rfl rfl)
theorem dX5_book_164 : decode cX5_book 164 = .ok (.iconst 3, 1) := dk_6 (dk_at dksX5_book_7 2 rfl rfl)
theorem dX5_book_165 : decode cX5_book 165 = .ok (.iadd, 1) := dk_96 (dk_at dksX5_book_7 3 rfl rfl)
theorem dX5_book_166 : decode cX5_book 166 = .ok (.iaload, 1) := dk_46 (dk_at dksX5_book_7 4 rfl rfl)
theorem dX5_book_167 : decode cX5_book 167 = .ok (.invokevirtual 424, 3) := dk_182 1 168 (dk_at dksX5_book_7 5 rfl rfl)
theorem dX5_book_170 : decode cX5_book 170 = .ok (.iastore, 1) := dk_79 (dk_at dksX5_book_7 8 rfl rfl)
theorem dX5_book_171 : decode cX5_book 171 = .ok (.aload_n 0, 1) := dk_42 (dk_at dksX5_book_7 9 rfl rfl)
theorem dX5_book_172 : decode cX5_book 172 = .ok (.getfield 77, 3) := dk_180 0 77 (dk_at dksX5_book_7 10 rfl rfl)
theorem dX5_book_175 : decode cX5_book 175 = .ok (.iconst 0, 1) := dk_3 (dk_at dksX5_book_7 13 rfl rfl)
theorem dX5_book_176 : decode cX5_book 176 = .ok (.iaload, 1) := dk_46 (dk_at dksX5_book_7 14 rfl rfl)
theorem dX5_book_177 : decode cX5_book 177 = .ok (.ifCond .le 8, 3) := dk_158 0 8 (dk_at dksX5_book_7 15 rfl rfl)
theorem dX5_book_180 : decode cX5_book 180 = .ok (.iload_n 3, 1) := dk_29 (dk_at dksX5_book_7 18 rfl rfl)
theorem dX5_book_181 : decode cX5_book 181 = .ok (.istore_n 2, 1) := dk_61 (dk_at dksX5_book_7 19 rfl rfl)
theorem dX5_book_182 : decode cX5_book 182 = .ok (.goto 13, 3) := dk_167 0 13 (dk_at dksX5_book_7 20 rfl rfl)
theorem dX5_book_185 : decode cX5_book 185 = .ok (.aload_n 0, 1) := dk_42 (dk_at dksX5_book_7 23 rfl rfl)
theorem dX5_book_186 : decode cX5_book 186 = .ok (.getfield 77, 3) := dk_180 0 77 (dk_at dksX5_book_8 0 rfl rfl)
theorem dX5_book_189 : decode cX5_book 189 = .ok (.iconst 1, 1) := dk_4 (dk_at dksX5_book_8 3 rfl rfl)
theorem dX5_book_190 : decode cX5_book 190 = .ok (.dup2, 1) := dk_92 (dk_at dksX5_book_8 4 rfl rfl)
theorem dX5_book_191 : decode cX5_book 191 = .ok (.iaload, 1) := dk_46 (dk_at dksX5_book_8 5 rfl rfl)
theorem dX5_book_192 : decode cX5_book 192 = .ok (.iconst 1, 1) := dk_4 (dk_at dksX5_book_8 6 rfl rfl)
theorem dX5_book_193 : decode cX5_book 193 = .ok (.iadd, 1) := dk_96 (dk_at dksX5_book_8 7 rfl rfl)
theorem dX5_book_194 : decode cX5_book 194 = .ok (.iastore, 1) := dk_79 (dk_at dksX5_book_8 8 rfl rfl)
theorem dX5_book_195 : decode cX5_book 195 = .ok (.iinc 3 1, 3) := dk_132 3 1 (dk_at dksX5_book_8 9 rfl rfl)
theorem dX5_book_198 : decode cX5_book 198 = .ok (.goto (-87), 3) := dk_167 255 169 (dk_at dksX5_book_8 12 rfl rfl)
theorem dX5_book_201 : decode cX5_book 201 = .ok (.aload_n 0, 1) := dk_42 (dk_at dksX5_book_8 15 rfl rfl)
theorem dX5_book_202 : decode cX5_book 202 = .ok (.getfield 77, 3) := dk_180 0 77 (dk_at dksX5_book_8 16 rfl rfl)
theorem dX5_book_205 : decode cX5_book 205 = .ok (.iconst 2, 1) := dk_5 (dk_at dksX5_book_8 19 rfl rfl)
theorem dX5_book_206 : decode cX5_book 206 = .ok (.aload_n 0, 1) := dk_42 (dk_at dksX5_book_8 20 rfl rfl)
theorem dX5_book_207 : decode cX5_book 207 = .ok (.getfield 33, 3) := dk_180 0 33 (dk_at dksX5_book_8 21 rfl rfl)
theorem dX5_book_210 : decode cX5_book 210 = .ok (.sipush 131, 3) := dk_17 0 131 (dk_at dksX5_book_9 0 rfl rfl)
theorem dX5_book_213 : decode cX5_book 213 = .ok (.iaload, 1) := dk_46 (dk_at dksX5_book_9 3 rfl rfl)
theorem dX5_book_214 : decode cX5_book 214 = .ok (.iastore, 1) := dk_79 (dk_at dksX5_book_9 4 rfl rfl)
theorem dX5_book_215 : decode cX5_book 215 = .ok (.aload_n 0, 1) := dk_42 (dk_at dksX5_book_9 5 rfl rfl)
theorem dX5_book_216 : decode cX5_book 216 = .ok (.getfield 77, 3) := dk_180 0 77 (dk_at dksX5_book_9 6 rfl rfl)
theorem dX5_book_219 : decode cX5_book 219 = .ok (.iconst 3, 1) := dk_6 (dk_at dksX5_book_9 9 rfl rfl)
theorem dX5_book_220 : decode cX5_book 220 = .ok (.aload_n 0, 1) := dk_42 (dk_at dksX5_book_9 10 rfl rfl)
theorem dX5_book_221 : decode cX5_book 221 = .ok (.invokevirtual 287, 3) := dk_182 1 31 (dk_at dksX5_book_9 11 rfl rfl)
theorem dX5_book_224 : decode cX5_book 224 = .ok (.iastore, 1) := dk_79 (dk_at dksX5_book_9 14 rfl rfl)
theorem dX5_book_225 : decode cX5_book 225 = .ok (.aload_n 0, 1) := dk_42 (dk_at dksX5_book_9 15 rfl rfl)
theorem dX5_book_226 : decode cX5_book 226 = .ok (.iconst 1, 1) := dk_4 (dk_at dksX5_book_9 16 rfl rfl)
theorem dX5_book_227 : decode cX5_book 227 = .ok (.putfield 428, 3) := dk_181 1 172 (dk_at dksX5_book_9 17 rfl rfl)
theorem dX5_book_230 : decode cX5_book 230 = .ok (.iload_n 1, 1) := dk_27 (dk_at dksX5_book_9 20 rfl rfl)
theorem dX5_book_231 : decode cX5_book 231 = .ok (.iconst 1, 1) := dk_4 (dk_at dksX5_book_9 21 rfl rfl)
theorem dX5_book_232 : decode cX5_book 232 = .ok (.if_icmp .ne 54, 3) := dk_160 0 54 (dk_at dksX5_book_10 0 rfl rfl)
theorem dX5_book_235 : decode cX5_book 235 = .ok (.aload_n 0, 1) := dk_42 (dk_at dksX5_book_10 3 rfl rfl)
theorem dX5_book_236 : decode cX5_book 236 = .ok (.getfield 77, 3) := dk_180 0 77 (dk_at dksX5_book_10 4 rfl rfl)
theorem dX5_book_239 : decode cX5_book 239 = .ok (.iconst 1, 1) := dk_4 (dk_at dksX5_book_10 7 rfl rfl)
theorem dX5_book_240 : decode cX5_book 240 = .ok (.iaload, 1) := dk_46 (dk_at dksX5_book_10 8 rfl rfl)
theorem dX5_book_241 : decode cX5_book 241 = .ok (.ifCond .le 45, 3) := dk_158 0 45 (dk_at dksX5_book_10 9 rfl rfl)
theorem dX5_book_244 : decode cX5_book 244 = .ok (.aload_n 0, 1) := dk_42 (dk_at dksX5_book_10 12 rfl rfl)
theorem dX5_book_245 : decode cX5_book 245 = .ok (.invokevirtual 310, 3) := dk_182 1 54 (dk_at dksX5_book_10 13 rfl rfl)
theorem dX5_book_248 : decode cX5_book 248 = .ok (.iconst 0, 1) := dk_3 (dk_at dksX5_book_10 16 rfl rfl)
theorem dX5_book_249 : decode cX5_book 249 = .ok (.istore_n 3, 1) := dk_62 (dk_at dksX5_book_10 17 rfl rfl)
theorem dX5_book_250 : decode cX5_book 250 = .ok (.iload_n 3, 1) := dk_29 (dk_at dksX5_book_10 18 rfl rfl)
theorem dX5_book_251 : decode cX5_book 251 = .ok (.sipush 145, 3) := dk_17 0 145 (dk_at dksX5_book_10 19 rfl rfl)
theorem dX5_book_254 : decode cX5_book 254 = .ok (.if_icmp .ge 32, 3) := dk_162 0 32 (dk_at dksX5_book_11 0 rfl rfl)
theorem dX5_book_257 : decode cX5_book 257 = .ok (.aload_n 0, 1) := dk_42 (dk_at dksX5_book_11 3 rfl rfl)
theorem dX5_book_258 : decode cX5_book 258 = .ok (.getfield 50, 3) := dk_180 0 50 (dk_at dksX5_book_11 4 rfl rfl)
theorem dX5_book_261 : decode cX5_book 261 = .ok (.sipush 145, 3) := dk_17 0 145 (dk_at dksX5_book_11 7 rfl rfl)
theorem dX5_book_264 : decode cX5_book 264 = .ok (.aload_n 0, 1) := dk_42 (dk_at dksX5_book_11 10 rfl rfl)
theorem dX5_book_265 : decode cX5_book 265 = .ok (.getfield 262, 3) := dk_180 1 6 (dk_at dksX5_book_11 11 rfl rfl)
theorem dX5_book_268 : decode cX5_book 268 = .ok (.iconst 1, 1) := dk_4 (dk_at dksX5_book_11 14 rfl rfl)
theorem dX5_book_269 : decode cX5_book 269 = .ok (.isub, 1) := dk_100 (dk_at dksX5_book_11 15 rfl rfl)
theorem dX5_book_270 : decode cX5_book 270 = .ok (.imul, 1) := dk_104 (dk_at dksX5_book_11 16 rfl rfl)
theorem dX5_book_271 : decode cX5_book 271 = .ok (.iload_n 3, 1) := dk_29 (dk_at dksX5_book_11 17 rfl rfl)
theorem dX5_book_272 : decode cX5_book 272 = .ok (.iadd, 1) := dk_96 (dk_at dksX5_book_11 18 rfl rfl)
theorem dX5_book_273 : decode cX5_book 273 = .ok (.aload_n 0, 1) := dk_42 (dk_at dksX5_book_11 19 rfl rfl)
theorem dX5_book_274 : decode cX5_book 274 = .ok (.getfield 53, 3) := dk_180 0 53 (dk_at dksX5_book_11 20 rfl rfl)
theorem dX5_book_277 : decode cX5_book 277 = .ok (.iload_n 3, 1) := dk_29 (dk_at dksX5_book_11 23 rfl rfl)
theorem dX5_book_278 : decode cX5_book 278 = .ok (.iaload, 1) := dk_46 (dk_at dksX5_book_12 0 rfl rfl)
theorem dX5_book_279 : decode cX5_book 279 = .ok (.iastore, 1) := dk_79 (dk_at dksX5_book_12 1 rfl rfl)
theorem dX5_book_280 : decode cX5_book 280 = .ok (.iinc 3 1, 3) := dk_132 3 1 (dk_at dksX5_book_12 2 rfl rfl)
theorem dX5_book_283 : decode cX5_book 283 = .ok (.goto (-33), 3) := dk_167 255 223 (dk_at dksX5_book_12 5 rfl rfl)
theorem dX5_book_286 : decode cX5_book 286 = .ok (.iload_n 1, 1) := dk_27 (dk_at dksX5_book_12 8 rfl rfl)
theorem dX5_book_287 : decode cX5_book 287 = .ok (.ifCond .ne 7, 3) := dk_154 0 7 (dk_at dksX5_book_12 9 rfl rfl)
theorem dX5_book_290 : decode cX5_book 290 = .ok (.aload_n 0, 1) := dk_42 (dk_at dksX5_book_12 12 rfl rfl)
theorem dX5_book_291 : decode cX5_book 291 = .ok (.invokevirtual 415, 3) := dk_182 1 159 (dk_at dksX5_book_12 13 rfl rfl)
theorem dX5_book_294 : decode cX5_book 294 = .ok (.iload_n 2, 1) := dk_28 (dk_at dksX5_book_12 16 rfl rfl)
theorem dX5_book_295 : decode cX5_book 295 = .ok (.ireturn, 1) := dk_172 (dk_at dksX5_book_12 17 rfl rfl)
abbrev cX5_bookLine : ByteArray := prog_26_method_98_code
def yX5_bookLine : MethodName := ⟨RX5, "bookLine", "()Z"⟩
def dkwX5_bookLine_12 : List UInt8 := [172]
abbrev dktX5_bookLine_12 : List UInt8 := dkwX5_bookLine_12 ++ []
def dkwX5_bookLine_11 : List UInt8 := [180, 0, 33, 3, 46, 182, 0, 244, 54, 5, 42, 180, 0, 40, 27, 6, 96, 42, 180, 0, 193, 79, 21, 5]
abbrev dktX5_bookLine_11 : List UInt8 := dkwX5_bookLine_11 ++ dktX5_bookLine_12
def dkwX5_bookLine_10 : List UInt8 := [5, 96, 42, 180, 0, 193, 79, 21, 5, 153, 0, 9, 21, 4, 4, 160, 0, 6, 21, 5, 172, 42, 3, 42]
abbrev dktX5_bookLine_10 : List UInt8 := dkwX5_bookLine_10 ++ dktX5_bookLine_11
def dkwX5_bookLine_9 : List UInt8 := [182, 0, 244, 167, 0, 14, 42, 3, 42, 180, 0, 33, 3, 46, 182, 0, 244, 54, 5, 42, 180, 0, 40, 27]
abbrev dktX5_bookLine_9 : List UInt8 := dkwX5_bookLine_9 ++ dktX5_bookLine_10
def dkwX5_bookLine_8 : List UInt8 := [79, 21, 4, 5, 160, 0, 5, 4, 172, 21, 4, 154, 0, 18, 42, 16, 7, 42, 180, 0, 33, 4, 46]
abbrev dktX5_bookLine_8 : List UInt8 := dkwX5_bookLine_8 ++ dktX5_bookLine_9
def dkwX5_bookLine_7 : List UInt8 := [182, 0, 183, 172, 42, 182, 0, 186, 42, 180, 0, 40, 27, 21, 4, 79, 42, 180, 0, 40, 27, 4, 96, 29]
abbrev dktX5_bookLine_7 : List UInt8 := dkwX5_bookLine_7 ++ dktX5_bookLine_8
def dkwX5_bookLine_6 : List UInt8 := [20, 0, 118, 182, 0, 220, 153, 0, 7, 6, 167, 0, 4, 2, 54, 4, 21, 4, 156, 0, 9, 42, 4]
abbrev dktX5_bookLine_6 : List UInt8 := dkwX5_bookLine_6 ++ dktX5_bookLine_7
def dkwX5_bookLine_5 : List UInt8 := [153, 0, 7, 4, 167, 0, 32, 42, 20, 0, 110, 182, 0, 220, 153, 0, 7, 5, 167, 0, 18, 42]
abbrev dktX5_bookLine_5 : List UInt8 := dkwX5_bookLine_5 ++ dktX5_bookLine_6
def dkwX5_bookLine_4 : List UInt8 := [4, 172, 42, 20, 0, 114, 182, 0, 220, 153, 0, 7, 3, 167, 0, 46, 42, 20, 0, 116, 182, 0, 220]
abbrev dktX5_bookLine_4 : List UInt8 := dkwX5_bookLine_4 ++ dktX5_bookLine_5
def dkwX5_bookLine_3 : List UInt8 := [42, 4, 16, 60, 182, 0, 196, 154, 0, 5, 3, 172, 42, 180, 0, 40, 27, 4, 96, 42, 180, 0, 193, 79]
abbrev dktX5_bookLine_3 : List UInt8 := dkwX5_bookLine_3 ++ dktX5_bookLine_4
def dkwX5_bookLine_2 : List UInt8 := [182, 0, 183, 172, 42, 180, 0, 193, 62, 42, 182, 0, 186, 42, 180, 0, 40, 27, 7, 79, 28, 153, 0, 29]
abbrev dktX5_bookLine_2 : List UInt8 := dkwX5_bookLine_2 ++ dktX5_bookLine_3
def dkwX5_bookLine_1 : List UInt8 := [180, 0, 33, 3, 46, 182, 0, 208, 154, 0, 5, 3, 172, 42, 180, 1, 162, 16, 40, 160, 0, 9, 42, 7]
abbrev dktX5_bookLine_1 : List UInt8 := dkwX5_bookLine_1 ++ dktX5_bookLine_2
def dkwX5_bookLine_0 : List UInt8 := [7, 42, 180, 1, 162, 104, 60, 42, 20, 0, 120, 182, 0, 220, 61, 28, 154, 0, 19, 42, 3, 42]
abbrev dktX5_bookLine_0 : List UInt8 := dkwX5_bookLine_0 ++ dktX5_bookLine_1
theorem dksX5_bookLine_0 : cX5_bookLine.data.toList.drop 0 = dktX5_bookLine_0 := by decide +kernel
theorem dksX5_bookLine_1 : cX5_bookLine.data.toList.drop 22 = dktX5_bookLine_1 := dk_seg dksX5_bookLine_0 22 rfl rfl
theorem dksX5_bookLine_2 : cX5_bookLine.data.toList.drop 46 = dktX5_bookLine_2 := dk_seg dksX5_bookLine_1 24 rfl rfl
theorem dksX5_bookLine_3 : cX5_bookLine.data.toList.drop 70 = dktX5_bookLine_3 := dk_seg dksX5_bookLine_2 24 rfl rfl
theorem dksX5_bookLine_4 : cX5_bookLine.data.toList.drop 94 = dktX5_bookLine_4 := dk_seg dksX5_bookLine_3 24 rfl rfl
theorem dksX5_bookLine_5 : cX5_bookLine.data.toList.drop 117 = dktX5_bookLine_5 := dk_seg dksX5_bookLine_4 23 rfl rfl
theorem dksX5_bookLine_6 : cX5_bookLine.data.toList.drop 139 = dktX5_bookLine_6 := dk_seg dksX5_bookLine_5 22 rfl rfl
theorem dksX5_bookLine_7 : cX5_bookLine.data.toList.drop 162 = dktX5_bookLine_7 := dk_seg dksX5_bookLine_6 23 rfl rfl
theorem dksX5_bookLine_8 : cX5_bookLine.data.toList.drop 186 = dktX5_bookLine_8 := dk_seg dksX5_bookLine_7 24 rfl rfl
theorem dksX5_bookLine_9 : cX5_bookLine.data.toList.drop 209 = dktX5_bookLine_9 := dk_seg dksX5_bookLine_8 23 rfl rfl
theorem dksX5_bookLine_10 : cX5_bookLine.data.toList.drop 233 = dktX5_bookLine_10 := dk_seg dksX5_bookLine_9 24 rfl rfl
theorem dksX5_bookLine_11 : cX5_bookLine.data.toList.drop 257 = dktX5_bookLine_11 := dk_seg dksX5_bookLine_10 24 rfl rfl
theorem dksX5_bookLine_12 : cX5_bookLine.data.toList.drop 281 = dktX5_bookLine_12 := dk_seg dksX5_bookLine_11 24 rfl rfl
theorem dX5_bookLine_0 : decode cX5_bookLine 0 = .ok (.iconst 4, 1) := dk_7 (dk_at dksX5_bookLine_0 0 rfl rfl)
theorem dX5_bookLine_1 : decode cX5_bookLine 1 = .ok (.aload_n 0, 1) := dk_42 (dk_at dksX5_bookLine_0 1 rfl rfl)
theorem dX5_bookLine_2 : decode cX5_bookLine 2 = .ok (.getfield 418, 3) := dk_180 1 162 (dk_at dksX5_bookLine_0 2 rfl rfl)
theorem dX5_bookLine_5 : decode cX5_bookLine 5 = .ok (.imul, 1) := dk_104 (dk_at dksX5_bookLine_0 5 rfl rfl)
theorem dX5_bookLine_6 : decode cX5_bookLine 6 = .ok (.istore_n 1, 1) := dk_60 (dk_at dksX5_bookLine_0 6 rfl rfl)
theorem dX5_bookLine_7 : decode cX5_bookLine 7 = .ok (.aload_n 0, 1) := dk_42 (dk_at dksX5_bookLine_0 7 rfl rfl)
theorem dX5_bookLine_8 : decode cX5_bookLine 8 = .ok (.ldc2_w 120, 3) := dk_20 0 120 (dk_at dksX5_bookLine_0 8 rfl rfl)
theorem dX5_bookLine_11 : decode cX5_bookLine 11 = .ok (.invokevirtual 220, 3) := dk_182 0 220 (dk_at dksX5_bookLine_0 11 rfl rfl)
theorem dX5_bookLine_14 : decode cX5_bookLine 14 = .ok (.istore_n 2, 1) := dk_61 (dk_at dksX5_bookLine_0 14 rfl rfl)
theorem dX5_bookLine_15 : decode cX5_bookLine 15 = .ok (.iload_n 2, 1) := dk_28 (dk_at dksX5_bookLine_0 15 rfl rfl)
theorem dX5_bookLine_16 : decode cX5_bookLine 16 = .ok (.ifCond .ne 19, 3) := dk_154 0 19 (dk_at dksX5_bookLine_0 16 rfl rfl)
theorem dX5_bookLine_19 : decode cX5_bookLine 19 = .ok (.aload_n 0, 1) := dk_42 (dk_at dksX5_bookLine_0 19 rfl rfl)
theorem dX5_bookLine_20 : decode cX5_bookLine 20 = .ok (.iconst 0, 1) := dk_3 (dk_at dksX5_bookLine_0 20 rfl rfl)
theorem dX5_bookLine_21 : decode cX5_bookLine 21 = .ok (.aload_n 0, 1) := dk_42 (dk_at dksX5_bookLine_0 21 rfl rfl)
theorem dX5_bookLine_22 : decode cX5_bookLine 22 = .ok (.getfield 33, 3) := dk_180 0 33 (dk_at dksX5_bookLine_1 0 rfl rfl)
theorem dX5_bookLine_25 : decode cX5_bookLine 25 = .ok (.iconst 0, 1) := dk_3 (dk_at dksX5_bookLine_1 3 rfl rfl)
theorem dX5_bookLine_26 : decode cX5_bookLine 26 = .ok (.iaload, 1) := dk_46 (dk_at dksX5_bookLine_1 4 rfl rfl)
theorem dX5_bookLine_27 : decode cX5_bookLine 27 = .ok (.invokevirtual 208, 3) := dk_182 0 208 (dk_at dksX5_bookLine_1 5 rfl rfl)
theorem dX5_bookLine_30 : decode cX5_bookLine 30 = .ok (.ifCond .ne 5, 3) := dk_154 0 5 (dk_at dksX5_bookLine_1 8 rfl rfl)
theorem dX5_bookLine_33 : decode cX5_bookLine 33 = .ok (.iconst 0, 1) := dk_3 (dk_at dksX5_bookLine_1 11 rfl rfl)
theorem dX5_bookLine_34 : decode cX5_bookLine 34 = .ok (.ireturn, 1) := dk_172 (dk_at dksX5_bookLine_1 12 rfl rfl)
theorem dX5_bookLine_35 : decode cX5_bookLine 35 = .ok (.aload_n 0, 1) := dk_42 (dk_at dksX5_bookLine_1 13 rfl rfl)
theorem dX5_bookLine_36 : decode cX5_bookLine 36 = .ok (.getfield 418, 3) := dk_180 1 162 (dk_at dksX5_bookLine_1 14 rfl rfl)
theorem dX5_bookLine_39 : decode cX5_bookLine 39 = .ok (.bipush 40, 2) := dk_16 40 (dk_at dksX5_bookLine_1 17 rfl rfl)
theorem dX5_bookLine_41 : decode cX5_bookLine 41 = .ok (.if_icmp .ne 9, 3) := dk_160 0 9 (dk_at dksX5_bookLine_1 19 rfl rfl)
theorem dX5_bookLine_44 : decode cX5_bookLine 44 = .ok (.aload_n 0, 1) := dk_42 (dk_at dksX5_bookLine_1 22 rfl rfl)
theorem dX5_bookLine_45 : decode cX5_bookLine 45 = .ok (.iconst 4, 1) := dk_7 (dk_at dksX5_bookLine_1 23 rfl rfl)
theorem dX5_bookLine_46 : decode cX5_bookLine 46 = .ok (.invokevirtual 183, 3) := dk_182 0 183 (dk_at dksX5_bookLine_2 0 rfl rfl)
theorem dX5_bookLine_49 : decode cX5_bookLine 49 = .ok (.ireturn, 1) := dk_172 (dk_at dksX5_bookLine_2 3 rfl rfl)
theorem dX5_bookLine_50 : decode cX5_bookLine 50 = .ok (.aload_n 0, 1) := dk_42 (dk_at dksX5_bookLine_2 4 rfl rfl)
theorem dX5_bookLine_51 : decode cX5_bookLine 51 = .ok (.getfield 193, 3) := dk_180 0 193 (dk_at dksX5_bookLine_2 5 rfl rfl)
theorem dX5_bookLine_54 : decode cX5_bookLine 54 = .ok (.istore_n 3, 1) := dk_62 (dk_at dksX5_bookLine_2 8 rfl rfl)
theorem dX5_bookLine_55 : decode cX5_bookLine 55 = .ok (.aload_n 0, 1) := dk_42 (dk_at dksX5_bookLine_2 9 rfl rfl)
theorem dX5_bookLine_56 : decode cX5_bookLine 56 = .ok (.invokevirtual 186, 3) := dk_182 0 186 (dk_at dksX5_bookLine_2 10 rfl rfl)
theorem dX5_bookLine_59 : decode cX5_bookLine 59 = .ok (.aload_n 0, 1) := dk_42 (dk_at dksX5_bookLine_2 13 rfl rfl)
theorem dX5_bookLine_60 : decode cX5_bookLine 60 = .ok (.getfield 40, 3) := dk_180 0 40 (dk_at dksX5_bookLine_2 14 rfl rfl)
theorem dX5_bookLine_63 : decode cX5_bookLine 63 = .ok (.iload_n 1, 1) := dk_27 (dk_at dksX5_bookLine_2 17 rfl rfl)
theorem dX5_bookLine_64 : decode cX5_bookLine 64 = .ok (.iconst 4, 1) := dk_7 (dk_at dksX5_bookLine_2 18 rfl rfl)
theorem dX5_bookLine_65 : decode cX5_bookLine 65 = .ok (.iastore, 1) := dk_79 (dk_at dksX5_bookLine_2 19 rfl rfl)
theorem dX5_bookLine_66 : decode cX5_bookLine 66 = .ok (.iload_n 2, 1) := dk_28 (dk_at dksX5_bookLine_2 20 rfl rfl)
theorem dX5_bookLine_67 : decode cX5_bookLine 67 = .ok (.ifCond .eq 29, 3) := dk_153 0 29 (dk_at dksX5_bookLine_2 21 rfl rfl)
theorem dX5_bookLine_70 : decode cX5_bookLine 70 = .ok (.aload_n 0, 1) := dk_42 (dk_at dksX5_bookLine_3 0 rfl rfl)
theorem dX5_bookLine_71 : decode cX5_bookLine 71 = .ok (.iconst 1, 1) := dk_4 (dk_at dksX5_bookLine_3 1 rfl rfl)
theorem dX5_bookLine_72 : decode cX5_bookLine 72 = .ok (.bipush 60, 2) := dk_16 60 (dk_at dksX5_bookLine_3 2 rfl rfl)
theorem dX5_bookLine_74 : decode cX5_bookLine 74 = .ok (.invokevirtual 196, 3) := dk_182 0 196 (dk_at dksX5_bookLine_3 4 rfl rfl)
theorem dX5_bookLine_77 : decode cX5_bookLine 77 = .ok (.ifCond .ne 5, 3) := dk_154 0 5 (dk_at dksX5_bookLine_3 7 rfl rfl)
theorem dX5_bookLine_80 : decode cX5_bookLine 80 = .ok (.iconst 0, 1) := dk_3 (dk_at dksX5_bookLine_3 10 rfl rfl)
theorem dX5_bookLine_81 : decode cX5_bookLine 81 = .ok (.ireturn, 1) := dk_172 (dk_at dksX5_bookLine_3 11 rfl rfl)
theorem dX5_bookLine_82 : decode cX5_bookLine 82 = .ok (.aload_n 0, 1) := dk_42 (dk_at dksX5_bookLine_3 12 rfl rfl)
theorem dX5_bookLine_83 : decode cX5_bookLine 83 = .ok (.getfield 40, 3) := dk_180 0 40 (dk_at dksX5_bookLine_3 13 rfl rfl)
theorem dX5_bookLine_86 : decode cX5_bookLine 86 = .ok (.iload_n 1, 1) := dk_27 (dk_at dksX5_bookLine_3 16 rfl rfl)
theorem dX5_bookLine_87 : decode cX5_bookLine 87 = .ok (.iconst 1, 1) := dk_4 (dk_at dksX5_bookLine_3 17 rfl rfl)
theorem dX5_bookLine_88 : decode cX5_bookLine 88 = .ok (.iadd, 1) := dk_96 (dk_at dksX5_bookLine_3 18 rfl rfl)
theorem dX5_bookLine_89 : decode cX5_bookLine 89 = .ok (.aload_n 0, 1) := dk_42 (dk_at dksX5_bookLine_3 19 rfl rfl)
theorem dX5_bookLine_90 : decode cX5_bookLine 90 = .ok (.getfield 193, 3) := dk_180 0 193 (dk_at dksX5_bookLine_3 20 rfl rfl)
theorem dX5_bookLine_93 : decode cX5_bookLine 93 = .ok (.iastore, 1) := dk_79 (dk_at dksX5_bookLine_3 23 rfl rfl)
theorem dX5_bookLine_94 : decode cX5_bookLine 94 = .ok (.iconst 1, 1) := dk_4 (dk_at dksX5_bookLine_4 0 rfl rfl)
theorem dX5_bookLine_95 : decode cX5_bookLine 95 = .ok (.ireturn, 1) := dk_172 (dk_at dksX5_bookLine_4 1 rfl rfl)
theorem dX5_bookLine_96 : decode cX5_bookLine 96 = .ok (.aload_n 0, 1) := dk_42 (dk_at dksX5_bookLine_4 2 rfl rfl)
theorem dX5_bookLine_97 : decode cX5_bookLine 97 = .ok (.ldc2_w 114, 3) := dk_20 0 114 (dk_at dksX5_bookLine_4 3 rfl rfl)
theorem dX5_bookLine_100 : decode cX5_bookLine 100 = .ok (.invokevirtual 220, 3) := dk_182 0 220 (dk_at dksX5_bookLine_4 6 rfl rfl)
theorem dX5_bookLine_103 : decode cX5_bookLine 103 = .ok (.ifCond .eq 7, 3) := dk_153 0 7 (dk_at dksX5_bookLine_4 9 rfl rfl)
theorem dX5_bookLine_106 : decode cX5_bookLine 106 = .ok (.iconst 0, 1) := dk_3 (dk_at dksX5_bookLine_4 12 rfl rfl)
theorem dX5_bookLine_107 : decode cX5_bookLine 107 = .ok (.goto 46, 3) := dk_167 0 46 (dk_at dksX5_bookLine_4 13 rfl rfl)
theorem dX5_bookLine_110 : decode cX5_bookLine 110 = .ok (.aload_n 0, 1) := dk_42 (dk_at dksX5_bookLine_4 16 rfl rfl)
theorem dX5_bookLine_111 : decode cX5_bookLine 111 = .ok (.ldc2_w 116, 3) := dk_20 0 116 (dk_at dksX5_bookLine_4 17 rfl rfl)
theorem dX5_bookLine_114 : decode cX5_bookLine 114 = .ok (.invokevirtual 220, 3) := dk_182 0 220 (dk_at dksX5_bookLine_4 20 rfl rfl)
theorem dX5_bookLine_117 : decode cX5_bookLine 117 = .ok (.ifCond .eq 7, 3) := dk_153 0 7 (dk_at dksX5_bookLine_5 0 rfl rfl)
theorem dX5_bookLine_120 : decode cX5_bookLine 120 = .ok (.iconst 1, 1) := dk_4 (dk_at dksX5_bookLine_5 3 rfl rfl)
theorem dX5_bookLine_121 : decode cX5_bookLine 121 = .ok (.goto 32, 3) := dk_167 0 32 (dk_at dksX5_bookLine_5 4 rfl rfl)
theorem dX5_bookLine_124 : decode cX5_bookLine 124 = .ok (.aload_n 0, 1) := dk_42 (dk_at dksX5_bookLine_5 7 rfl rfl)
theorem dX5_bookLine_125 : decode cX5_bookLine 125 = .ok (.ldc2_w 110, 3) := dk_20 0 110 (dk_at dksX5_bookLine_5 8 rfl rfl)
theorem dX5_bookLine_128 : decode cX5_bookLine 128 = .ok (.invokevirtual 220, 3) := dk_182 0 220 (dk_at dksX5_bookLine_5 11 rfl rfl)
theorem dX5_bookLine_131 : decode cX5_bookLine 131 = .ok (.ifCond .eq 7, 3) := dk_153 0 7 (dk_at dksX5_bookLine_5 14 rfl rfl)
theorem dX5_bookLine_134 : decode cX5_bookLine 134 = .ok (.iconst 2, 1) := dk_5 (dk_at dksX5_bookLine_5 17 rfl rfl)
theorem dX5_bookLine_135 : decode cX5_bookLine 135 = .ok (.goto 18, 3) := dk_167 0 18 (dk_at dksX5_bookLine_5 18 rfl rfl)
theorem dX5_bookLine_138 : decode cX5_bookLine 138 = .ok (.aload_n 0, 1) := dk_42 (dk_at dksX5_bookLine_5 21 rfl rfl)
theorem dX5_bookLine_139 : decode cX5_bookLine 139 = .ok (.ldc2_w 118, 3) := dk_20 0 118 (dk_at dksX5_bookLine_6 0 rfl rfl)
theorem dX5_bookLine_142 : decode cX5_bookLine 142 = .ok (.invokevirtual 220, 3) := dk_182 0 220 (dk_at dksX5_bookLine_6 3 rfl rfl)
theorem dX5_bookLine_145 : decode cX5_bookLine 145 = .ok (.ifCond .eq 7, 3) := dk_153 0 7 (dk_at dksX5_bookLine_6 6 rfl rfl)
theorem dX5_bookLine_148 : decode cX5_bookLine 148 = .ok (.iconst 3, 1) := dk_6 (dk_at dksX5_bookLine_6 9 rfl rfl)
theorem dX5_bookLine_149 : decode cX5_bookLine 149 = .ok (.goto 4, 3) := dk_167 0 4 (dk_at dksX5_bookLine_6 10 rfl rfl)
theorem dX5_bookLine_152 : decode cX5_bookLine 152 = .ok (.iconst (-1), 1) := dk_2 (dk_at dksX5_bookLine_6 13 rfl rfl)
theorem dX5_bookLine_153 : decode cX5_bookLine 153 = .ok (.istore 4, 2) := dk_54 4 (dk_at dksX5_bookLine_6 14 rfl rfl)
theorem dX5_bookLine_155 : decode cX5_bookLine 155 = .ok (.iload 4, 2) := dk_21 4 (dk_at dksX5_bookLine_6 16 rfl rfl)
theorem dX5_bookLine_157 : decode cX5_bookLine 157 = .ok (.ifCond .ge 9, 3) := dk_156 0 9 (dk_at dksX5_bookLine_6 18 rfl rfl)
theorem dX5_bookLine_160 : decode cX5_bookLine 160 = .ok (.aload_n 0, 1) := dk_42 (dk_at dksX5_bookLine_6 21 rfl rfl)
theorem dX5_bookLine_161 : decode cX5_bookLine 161 = .ok (.iconst 1, 1) := dk_4 (dk_at dksX5_bookLine_6 22 rfl rfl)
theorem dX5_bookLine_162 : decode cX5_bookLine 162 = .ok (.invokevirtual 183, 3) := dk_182 0 183 (dk_at dksX5_bookLine_7 0 rfl rfl)
theorem dX5_bookLine_165 : decode cX5_bookLine 165 = .ok (.ireturn, 1) := dk_172 (dk_at dksX5_bookLine_7 3 rfl rfl)
theorem dX5_bookLine_166 : decode cX5_bookLine 166 = .ok (.aload_n 0, 1) := dk_42 (dk_at dksX5_bookLine_7 4 rfl rfl)
theorem dX5_bookLine_167 : decode cX5_bookLine 167 = .ok (.invokevirtual 186, 3) := dk_182 0 186 (dk_at dksX5_bookLine_7 5 rfl rfl)
theorem dX5_bookLine_170 : decode cX5_bookLine 170 = .ok (.aload_n 0, 1) := dk_42 (dk_at dksX5_bookLine_7 8 rfl rfl)
theorem dX5_bookLine_171 : decode cX5_bookLine 171 = .ok (.getfield 40, 3) := dk_180 0 40 (dk_at dksX5_bookLine_7 9 rfl rfl)
theorem dX5_bookLine_174 : decode cX5_bookLine 174 = .ok (.iload_n 1, 1) := dk_27 (dk_at dksX5_bookLine_7 12 rfl rfl)
theorem dX5_bookLine_175 : decode cX5_bookLine 175 = .ok (.iload 4, 2) := dk_21 4 (dk_at dksX5_bookLine_7 13 rfl rfl)
theorem dX5_bookLine_177 : decode cX5_bookLine 177 = .ok (.iastore, 1) := dk_79 (dk_at dksX5_bookLine_7 15 rfl rfl)
theorem dX5_bookLine_178 : decode cX5_bookLine 178 = .ok (.aload_n 0, 1) := dk_42 (dk_at dksX5_bookLine_7 16 rfl rfl)
theorem dX5_bookLine_179 : decode cX5_bookLine 179 = .ok (.getfield 40, 3) := dk_180 0 40 (dk_at dksX5_bookLine_7 17 rfl rfl)
theorem dX5_bookLine_182 : decode cX5_bookLine 182 = .ok (.iload_n 1, 1) := dk_27 (dk_at dksX5_bookLine_7 20 rfl rfl)
theorem dX5_bookLine_183 : decode cX5_bookLine 183 = .ok (.iconst 1, 1) := dk_4 (dk_at dksX5_bookLine_7 21 rfl rfl)
theorem dX5_bookLine_184 : decode cX5_bookLine 184 = .ok (.iadd, 1) := dk_96 (dk_at dksX5_bookLine_7 22 rfl rfl)
theorem dX5_bookLine_185 : decode cX5_bookLine 185 = .ok (.iload_n 3, 1) := dk_29 (dk_at dksX5_bookLine_7 23 rfl rfl)
theorem dX5_bookLine_186 : decode cX5_bookLine 186 = .ok (.iastore, 1) := dk_79 (dk_at dksX5_bookLine_8 0 rfl rfl)
theorem dX5_bookLine_187 : decode cX5_bookLine 187 = .ok (.iload 4, 2) := dk_21 4 (dk_at dksX5_bookLine_8 1 rfl rfl)
theorem dX5_bookLine_189 : decode cX5_bookLine 189 = .ok (.iconst 2, 1) := dk_5 (dk_at dksX5_bookLine_8 3 rfl rfl)
theorem dX5_bookLine_190 : decode cX5_bookLine 190 = .ok (.if_icmp .ne 5, 3) := dk_160 0 5 (dk_at dksX5_bookLine_8 4 rfl rfl)
theorem dX5_bookLine_193 : decode cX5_bookLine 193 = .ok (.iconst 1, 1) := dk_4 (dk_at dksX5_bookLine_8 7 rfl rfl)
theorem dX5_bookLine_194 : decode cX5_bookLine 194 = .ok (.ireturn, 1) := dk_172 (dk_at dksX5_bookLine_8 8 rfl rfl)
theorem dX5_bookLine_195 : decode cX5_bookLine 195 = .ok (.iload 4, 2) := dk_21 4 (dk_at dksX5_bookLine_8 9 rfl rfl)
theorem dX5_bookLine_197 : decode cX5_bookLine 197 = .ok (.ifCond .ne 18, 3) := dk_154 0 18 (dk_at dksX5_bookLine_8 11 rfl rfl)
theorem dX5_bookLine_200 : decode cX5_bookLine 200 = .ok (.aload_n 0, 1) := dk_42 (dk_at dksX5_bookLine_8 14 rfl rfl)
theorem dX5_bookLine_201 : decode cX5_bookLine 201 = .ok (.bipush 7, 2) := dk_16 7 (dk_at dksX5_bookLine_8 15 rfl rfl)
theorem dX5_bookLine_203 : decode cX5_bookLine 203 = .ok (.aload_n 0, 1) := dk_42 (dk_at dksX5_bookLine_8 17 rfl rfl)
theorem dX5_bookLine_204 : decode cX5_bookLine 204 = .ok (.getfield 33, 3) := dk_180 0 33 (dk_at dksX5_bookLine_8 18 rfl rfl)
theorem dX5_bookLine_207 : decode cX5_bookLine 207 = .ok (.iconst 1, 1) := dk_4 (dk_at dksX5_bookLine_8 21 rfl rfl)
theorem dX5_bookLine_208 : decode cX5_bookLine 208 = .ok (.iaload, 1) := dk_46 (dk_at dksX5_bookLine_8 22 rfl rfl)
theorem dX5_bookLine_209 : decode cX5_bookLine 209 = .ok (.invokevirtual 244, 3) := dk_182 0 244 (dk_at dksX5_bookLine_9 0 rfl rfl)
theorem dX5_bookLine_212 : decode cX5_bookLine 212 = .ok (.goto 14, 3) := dk_167 0 14 (dk_at dksX5_bookLine_9 3 rfl rfl)
theorem dX5_bookLine_215 : decode cX5_bookLine 215 = .ok (.aload_n 0, 1) := dk_42 (dk_at dksX5_bookLine_9 6 rfl rfl)
theorem dX5_bookLine_216 : decode cX5_bookLine 216 = .ok (.iconst 0, 1) := dk_3 (dk_at dksX5_bookLine_9 7 rfl rfl)
theorem dX5_bookLine_217 : decode cX5_bookLine 217 = .ok (.aload_n 0, 1) := dk_42 (dk_at dksX5_bookLine_9 8 rfl rfl)
theorem dX5_bookLine_218 : decode cX5_bookLine 218 = .ok (.getfield 33, 3) := dk_180 0 33 (dk_at dksX5_bookLine_9 9 rfl rfl)
theorem dX5_bookLine_221 : decode cX5_bookLine 221 = .ok (.iconst 0, 1) := dk_3 (dk_at dksX5_bookLine_9 12 rfl rfl)
theorem dX5_bookLine_222 : decode cX5_bookLine 222 = .ok (.iaload, 1) := dk_46 (dk_at dksX5_bookLine_9 13 rfl rfl)
theorem dX5_bookLine_223 : decode cX5_bookLine 223 = .ok (.invokevirtual 244, 3) := dk_182 0 244 (dk_at dksX5_bookLine_9 14 rfl rfl)
theorem dX5_bookLine_226 : decode cX5_bookLine 226 = .ok (.istore 5, 2) := dk_54 5 (dk_at dksX5_bookLine_9 17 rfl rfl)
theorem dX5_bookLine_228 : decode cX5_bookLine 228 = .ok (.aload_n 0, 1) := dk_42 (dk_at dksX5_bookLine_9 19 rfl rfl)
theorem dX5_bookLine_229 : decode cX5_bookLine 229 = .ok (.getfield 40, 3) := dk_180 0 40 (dk_at dksX5_bookLine_9 20 rfl rfl)
theorem dX5_bookLine_232 : decode cX5_bookLine 232 = .ok (.iload_n 1, 1) := dk_27 (dk_at dksX5_bookLine_9 23 rfl rfl)
theorem dX5_bookLine_233 : decode cX5_bookLine 233 = .ok (.iconst 2, 1) := dk_5 (dk_at dksX5_bookLine_10 0 rfl rfl)
theorem dX5_bookLine_234 : decode cX5_bookLine 234 = .ok (.iadd, 1) := dk_96 (dk_at dksX5_bookLine_10 1 rfl rfl)
theorem dX5_bookLine_235 : decode cX5_bookLine 235 = .ok (.aload_n 0, 1) := dk_42 (dk_at dksX5_bookLine_10 2 rfl rfl)
theorem dX5_bookLine_236 : decode cX5_bookLine 236 = .ok (.getfield 193, 3) := dk_180 0 193 (dk_at dksX5_bookLine_10 3 rfl rfl)
theorem dX5_bookLine_239 : decode cX5_bookLine 239 = .ok (.iastore, 1) := dk_79 (dk_at dksX5_bookLine_10 6 rfl rfl)
theorem dX5_bookLine_240 : decode cX5_bookLine 240 = .ok (.iload 5, 2) := dk_21 5 (dk_at dksX5_bookLine_10 7 rfl rfl)
theorem dX5_bookLine_242 : decode cX5_bookLine 242 = .ok (.ifCond .eq 9, 3) := dk_153 0 9 (dk_at dksX5_bookLine_10 9 rfl rfl)
theorem dX5_bookLine_245 : decode cX5_bookLine 245 = .ok (.iload 4, 2) := dk_21 4 (dk_at dksX5_bookLine_10 12 rfl rfl)
theorem dX5_bookLine_247 : decode cX5_bookLine 247 = .ok (.iconst 1, 1) := dk_4 (dk_at dksX5_bookLine_10 14 rfl rfl)
theorem dX5_bookLine_248 : decode cX5_bookLine 248 = .ok (.if_icmp .ne 6, 3) := dk_160 0 6 (dk_at dksX5_bookLine_10 15 rfl rfl)
theorem dX5_bookLine_251 : decode cX5_bookLine 251 = .ok (.iload 5, 2) := dk_21 5 (dk_at dksX5_bookLine_10 18 rfl rfl)
theorem dX5_bookLine_253 : decode cX5_bookLine 253 = .ok (.ireturn, 1) := dk_172 (dk_at dksX5_bookLine_10 20 rfl rfl)
theorem dX5_bookLine_254 : decode cX5_bookLine 254 = .ok (.aload_n 0, 1) := dk_42 (dk_at dksX5_bookLine_10 21 rfl rfl)
theorem dX5_bookLine_255 : decode cX5_bookLine 255 = .ok (.iconst 0, 1) := dk_3 (dk_at dksX5_bookLine_10 22 rfl rfl)
theorem dX5_bookLine_256 : decode cX5_bookLine 256 = .ok (.aload_n 0, 1) := dk_42 (dk_at dksX5_bookLine_10 23 rfl rfl)
theorem dX5_bookLine_257 : decode cX5_bookLine 257 = .ok (.getfield 33, 3) := dk_180 0 33 (dk_at dksX5_bookLine_11 0 rfl rfl)
theorem dX5_bookLine_260 : decode cX5_bookLine 260 = .ok (.iconst 0, 1) := dk_3 (dk_at dksX5_bookLine_11 3 rfl rfl)
theorem dX5_bookLine_261 : decode cX5_bookLine 261 = .ok (.iaload, 1) := dk_46 (dk_at dksX5_bookLine_11 4 rfl rfl)
theorem dX5_bookLine_262 : decode cX5_bookLine 262 = .ok (.invokevirtual 244, 3) := dk_182 0 244 (dk_at dksX5_bookLine_11 5 rfl rfl)
theorem dX5_bookLine_265 : decode cX5_bookLine 265 = .ok (.istore 5, 2) := dk_54 5 (dk_at dksX5_bookLine_11 8 rfl rfl)
theorem dX5_bookLine_267 : decode cX5_bookLine 267 = .ok (.aload_n 0, 1) := dk_42 (dk_at dksX5_bookLine_11 10 rfl rfl)
theorem dX5_bookLine_268 : decode cX5_bookLine 268 = .ok (.getfield 40, 3) := dk_180 0 40 (dk_at dksX5_bookLine_11 11 rfl rfl)
theorem dX5_bookLine_271 : decode cX5_bookLine 271 = .ok (.iload_n 1, 1) := dk_27 (dk_at dksX5_bookLine_11 14 rfl rfl)
theorem dX5_bookLine_272 : decode cX5_bookLine 272 = .ok (.iconst 3, 1) := dk_6 (dk_at dksX5_bookLine_11 15 rfl rfl)
theorem dX5_bookLine_273 : decode cX5_bookLine 273 = .ok (.iadd, 1) := dk_96 (dk_at dksX5_bookLine_11 16 rfl rfl)
theorem dX5_bookLine_274 : decode cX5_bookLine 274 = .ok (.aload_n 0, 1) := dk_42 (dk_at dksX5_bookLine_11 17 rfl rfl)
theorem dX5_bookLine_275 : decode cX5_bookLine 275 = .ok (.getfield 193, 3) := dk_180 0 193 (dk_at dksX5_bookLine_11 18 rfl rfl)
theorem dX5_bookLine_278 : decode cX5_bookLine 278 = .ok (.iastore, 1) := dk_79 (dk_at dksX5_bookLine_11 21 rfl rfl)
theorem dX5_bookLine_279 : decode cX5_bookLine 279 = .ok (.iload 5, 2) := dk_21 5 (dk_at dksX5_bookLine_11 22 rfl rfl)
theorem dX5_bookLine_281 : decode cX5_bookLine 281 = .ok (.ireturn, 1) := dk_172 (dk_at dksX5_bookLine_12 0 rfl rfl)
abbrev cX5_does : ByteArray := prog_26_method_99_code
def yX5_does : MethodName := ⟨RX5, "does", "(IIII)I"⟩
def dkwX5_does_7 : List UInt8 := [87, 21, 5, 158, 0, 13, 16, 10, 27, 104, 21, 5, 96, 167, 0, 4, 3, 172]
abbrev dktX5_does_7 : List UInt8 := dkwX5_does_7 ++ []
def dkwX5_does_6 : List UInt8 := [42, 180, 0, 33, 17, 0, 131, 46, 28, 96, 17, 1, 144, 164, 0, 6, 16, 41, 172, 42, 28, 182, 1, 76]
abbrev dktX5_does_6 : List UInt8 := dkwX5_does_6 ++ dktX5_does_7
def dkwX5_does_5 : List UInt8 := [28, 29, 21, 4, 182, 1, 73, 54, 5, 21, 5, 154, 0, 38, 42, 29, 21, 4, 182, 1, 40, 167, 0, 28]
abbrev dktX5_does_5 : List UInt8 := dkwX5_does_5 ++ dktX5_does_6
def dkwX5_does_4 : List UInt8 := [167, 0, 73, 42, 28, 182, 1, 67, 54, 5, 21, 5, 154, 0, 61, 42, 28, 182, 1, 70, 167, 0, 53, 42]
abbrev dktX5_does_4 : List UInt8 := dkwX5_does_4 ++ dktX5_does_5
def dkwX5_does_3 : List UInt8 := [167, 0, 95, 42, 28, 29, 182, 1, 61, 54, 5, 21, 5, 154, 0, 82, 42, 28, 29, 182, 1, 64]
abbrev dktX5_does_3 : List UInt8 := dkwX5_does_3 ++ dktX5_does_4
def dkwX5_does_2 : List UInt8 := [42, 28, 29, 21, 4, 182, 1, 50, 54, 5, 21, 5, 154, 0, 106, 42, 28, 29, 21, 4, 182, 1, 57]
abbrev dktX5_does_2 : List UInt8 := dkwX5_does_2 ++ dktX5_does_3
def dkwX5_does_1 : List UInt8 := [170, 0, 0, 0, 0, 0, 0, 125, 0, 0, 0, 0, 0, 0, 0, 3, 0, 0, 0, 32, 0, 0, 0, 58, 0, 0, 0, 80, 0, 0, 0, 100]
abbrev dktX5_does_1 : List UInt8 := dkwX5_does_1 ++ dktX5_does_2
def dkwX5_does_0 : List UInt8 := [3, 54, 5, 27]
abbrev dktX5_does_0 : List UInt8 := dkwX5_does_0 ++ dktX5_does_1
theorem dksX5_does_0 : cX5_does.data.toList.drop 0 = dktX5_does_0 := by decide +kernel
theorem dksX5_does_1 : cX5_does.data.toList.drop 4 = dktX5_does_1 := dk_seg dksX5_does_0 4 rfl rfl
theorem dksX5_does_2 : cX5_does.data.toList.drop 36 = dktX5_does_2 := dk_seg dksX5_does_1 32 rfl rfl
theorem dksX5_does_3 : cX5_does.data.toList.drop 59 = dktX5_does_3 := dk_seg dksX5_does_2 23 rfl rfl
theorem dksX5_does_4 : cX5_does.data.toList.drop 81 = dktX5_does_4 := dk_seg dksX5_does_3 22 rfl rfl
theorem dksX5_does_5 : cX5_does.data.toList.drop 105 = dktX5_does_5 := dk_seg dksX5_does_4 24 rfl rfl
theorem dksX5_does_6 : cX5_does.data.toList.drop 129 = dktX5_does_6 := dk_seg dksX5_does_5 24 rfl rfl
theorem dksX5_does_7 : cX5_does.data.toList.drop 153 = dktX5_does_7 := dk_seg dksX5_does_6 24 rfl rfl
theorem dX5_does_0 : decode cX5_does 0 = .ok (.iconst 0, 1) := dk_3 (dk_at dksX5_does_0 0 rfl rfl)
theorem dX5_does_1 : decode cX5_does 1 = .ok (.istore 5, 2) := dk_54 5 (dk_at dksX5_does_0 1 rfl rfl)
theorem dX5_does_3 : decode cX5_does 3 = .ok (.iload_n 1, 1) := dk_27 (dk_at dksX5_does_0 3 rfl rfl)
theorem dX5_does_4 : decode cX5_does 4 = .ok (.tableswitch 125 0 3 #[32, 58, 80, 100], 32) := by decide +kernel
theorem dX5_does_36 : decode cX5_does 36 = .ok (.aload_n 0, 1) := dk_42 (dk_at dksX5_does_2 0 rfl rfl)
theorem dX5_does_37 : decode cX5_does 37 = .ok (.iload_n 2, 1) := dk_28 (dk_at dksX5_does_2 1 rfl rfl)
theorem dX5_does_38 : decode cX5_does 38 = .ok (.iload_n 3, 1) := dk_29 (dk_at dksX5_does_2 2 rfl rfl)
theorem dX5_does_39 : decode cX5_does 39 = .ok (.iload 4, 2) := dk_21 4 (dk_at dksX5_does_2 3 rfl rfl)
theorem dX5_does_41 : decode cX5_does 41 = .ok (.invokevirtual 306, 3) := dk_182 1 50 (dk_at dksX5_does_2 5 rfl rfl)
theorem dX5_does_44 : decode cX5_does 44 = .ok (.istore 5, 2) := dk_54 5 (dk_at dksX5_does_2 8 rfl rfl)
theorem dX5_does_46 : decode cX5_does 46 = .ok (.iload 5, 2) := dk_21 5 (dk_at dksX5_does_2 10 rfl rfl)
theorem dX5_does_48 : decode cX5_does 48 = .ok (.ifCond .ne 106, 3) := dk_154 0 106 (dk_at dksX5_does_2 12 rfl rfl)
theorem dX5_does_51 : decode cX5_does 51 = .ok (.aload_n 0, 1) := dk_42 (dk_at dksX5_does_2 15 rfl rfl)
theorem dX5_does_52 : decode cX5_does 52 = .ok (.iload_n 2, 1) := dk_28 (dk_at dksX5_does_2 16 rfl rfl)
theorem dX5_does_53 : decode cX5_does 53 = .ok (.iload_n 3, 1) := dk_29 (dk_at dksX5_does_2 17 rfl rfl)
theorem dX5_does_54 : decode cX5_does 54 = .ok (.iload 4, 2) := dk_21 4 (dk_at dksX5_does_2 18 rfl rfl)
theorem dX5_does_56 : decode cX5_does 56 = .ok (.invokevirtual 313, 3) := dk_182 1 57 (dk_at dksX5_does_2 20 rfl rfl)
theorem dX5_does_59 : decode cX5_does 59 = .ok (.goto 95, 3) := dk_167 0 95 (dk_at dksX5_does_3 0 rfl rfl)
theorem dX5_does_62 : decode cX5_does 62 = .ok (.aload_n 0, 1) := dk_42 (dk_at dksX5_does_3 3 rfl rfl)
theorem dX5_does_63 : decode cX5_does 63 = .ok (.iload_n 2, 1) := dk_28 (dk_at dksX5_does_3 4 rfl rfl)
theorem dX5_does_64 : decode cX5_does 64 = .ok (.iload_n 3, 1) := dk_29 (dk_at dksX5_does_3 5 rfl rfl)
theorem dX5_does_65 : decode cX5_does 65 = .ok (.invokevirtual 317, 3) := dk_182 1 61 (dk_at dksX5_does_3 6 rfl rfl)
theorem dX5_does_68 : decode cX5_does 68 = .ok (.istore 5, 2) := dk_54 5 (dk_at dksX5_does_3 9 rfl rfl)
theorem dX5_does_70 : decode cX5_does 70 = .ok (.iload 5, 2) := dk_21 5 (dk_at dksX5_does_3 11 rfl rfl)
theorem dX5_does_72 : decode cX5_does 72 = .ok (.ifCond .ne 82, 3) := dk_154 0 82 (dk_at dksX5_does_3 13 rfl rfl)
theorem dX5_does_75 : decode cX5_does 75 = .ok (.aload_n 0, 1) := dk_42 (dk_at dksX5_does_3 16 rfl rfl)
theorem dX5_does_76 : decode cX5_does 76 = .ok (.iload_n 2, 1) := dk_28 (dk_at dksX5_does_3 17 rfl rfl)
theorem dX5_does_77 : decode cX5_does 77 = .ok (.iload_n 3, 1) := dk_29 (dk_at dksX5_does_3 18 rfl rfl)
theorem dX5_does_78 : decode cX5_does 78 = .ok (.invokevirtual 320, 3) := dk_182 1 64 (dk_at dksX5_does_3 19 rfl rfl)
theorem dX5_does_81 : decode cX5_does 81 = .ok (.goto 73, 3) := dk_167 0 73 (dk_at dksX5_does_4 0 rfl rfl)
theorem dX5_does_84 : decode cX5_does 84 = .ok (.aload_n 0, 1) := dk_42 (dk_at dksX5_does_4 3 rfl rfl)
theorem dX5_does_85 : decode cX5_does 85 = .ok (.iload_n 2, 1) := dk_28 (dk_at dksX5_does_4 4 rfl rfl)
theorem dX5_does_86 : decode cX5_does 86 = .ok (.invokevirtual 323, 3) := dk_182 1 67 (dk_at dksX5_does_4 5 rfl rfl)
theorem dX5_does_89 : decode cX5_does 89 = .ok (.istore 5, 2) := dk_54 5 (dk_at dksX5_does_4 8 rfl rfl)
theorem dX5_does_91 : decode cX5_does 91 = .ok (.iload 5, 2) := dk_21 5 (dk_at dksX5_does_4 10 rfl rfl)
theorem dX5_does_93 : decode cX5_does 93 = .ok (.ifCond .ne 61, 3) := dk_154 0 61 (dk_at dksX5_does_4 12 rfl rfl)
theorem dX5_does_96 : decode cX5_does 96 = .ok (.aload_n 0, 1) := dk_42 (dk_at dksX5_does_4 15 rfl rfl)
theorem dX5_does_97 : decode cX5_does 97 = .ok (.iload_n 2, 1) := dk_28 (dk_at dksX5_does_4 16 rfl rfl)
theorem dX5_does_98 : decode cX5_does 98 = .ok (.invokevirtual 326, 3) := dk_182 1 70 (dk_at dksX5_does_4 17 rfl rfl)
theorem dX5_does_101 : decode cX5_does 101 = .ok (.goto 53, 3) := dk_167 0 53 (dk_at dksX5_does_4 20 rfl rfl)
theorem dX5_does_104 : decode cX5_does 104 = .ok (.aload_n 0, 1) := dk_42 (dk_at dksX5_does_4 23 rfl rfl)
theorem dX5_does_105 : decode cX5_does 105 = .ok (.iload_n 2, 1) := dk_28 (dk_at dksX5_does_5 0 rfl rfl)
theorem dX5_does_106 : decode cX5_does 106 = .ok (.iload_n 3, 1) := dk_29 (dk_at dksX5_does_5 1 rfl rfl)
theorem dX5_does_107 : decode cX5_does 107 = .ok (.iload 4, 2) := dk_21 4 (dk_at dksX5_does_5 2 rfl rfl)
theorem dX5_does_109 : decode cX5_does 109 = .ok (.invokevirtual 329, 3) := dk_182 1 73 (dk_at dksX5_does_5 4 rfl rfl)
theorem dX5_does_112 : decode cX5_does 112 = .ok (.istore 5, 2) := dk_54 5 (dk_at dksX5_does_5 7 rfl rfl)
theorem dX5_does_114 : decode cX5_does 114 = .ok (.iload 5, 2) := dk_21 5 (dk_at dksX5_does_5 9 rfl rfl)
theorem dX5_does_116 : decode cX5_does 116 = .ok (.ifCond .ne 38, 3) := dk_154 0 38 (dk_at dksX5_does_5 11 rfl rfl)
theorem dX5_does_119 : decode cX5_does 119 = .ok (.aload_n 0, 1) := dk_42 (dk_at dksX5_does_5 14 rfl rfl)
theorem dX5_does_120 : decode cX5_does 120 = .ok (.iload_n 3, 1) := dk_29 (dk_at dksX5_does_5 15 rfl rfl)
theorem dX5_does_121 : decode cX5_does 121 = .ok (.iload 4, 2) := dk_21 4 (dk_at dksX5_does_5 16 rfl rfl)
theorem dX5_does_123 : decode cX5_does 123 = .ok (.invokevirtual 296, 3) := dk_182 1 40 (dk_at dksX5_does_5 18 rfl rfl)
theorem dX5_does_126 : decode cX5_does 126 = .ok (.goto 28, 3) := dk_167 0 28 (dk_at dksX5_does_5 21 rfl rfl)
theorem dX5_does_129 : decode cX5_does 129 = .ok (.aload_n 0, 1) := dk_42 (dk_at dksX5_does_6 0 rfl rfl)
theorem dX5_does_130 : decode cX5_does 130 = .ok (.getfield 33, 3) := dk_180 0 33 (dk_at dksX5_does_6 1 rfl rfl)
theorem dX5_does_133 : decode cX5_does 133 = .ok (.sipush 131, 3) := dk_17 0 131 (dk_at dksX5_does_6 4 rfl rfl)
theorem dX5_does_136 : decode cX5_does 136 = .ok (.iaload, 1) := dk_46 (dk_at dksX5_does_6 7 rfl rfl)
theorem dX5_does_137 : decode cX5_does 137 = .ok (.iload_n 2, 1) := dk_28 (dk_at dksX5_does_6 8 rfl rfl)
theorem dX5_does_138 : decode cX5_does 138 = .ok (.iadd, 1) := dk_96 (dk_at dksX5_does_6 9 rfl rfl)
theorem dX5_does_139 : decode cX5_does 139 = .ok (.sipush 400, 3) := dk_17 1 144 (dk_at dksX5_does_6 10 rfl rfl)
theorem dX5_does_142 : decode cX5_does 142 = .ok (.if_icmp .le 6, 3) := dk_164 0 6 (dk_at dksX5_does_6 13 rfl rfl)
theorem dX5_does_145 : decode cX5_does 145 = .ok (.bipush 41, 2) := dk_16 41 (dk_at dksX5_does_6 16 rfl rfl)
theorem dX5_does_147 : decode cX5_does 147 = .ok (.ireturn, 1) := dk_172 (dk_at dksX5_does_6 18 rfl rfl)
theorem dX5_does_148 : decode cX5_does 148 = .ok (.aload_n 0, 1) := dk_42 (dk_at dksX5_does_6 19 rfl rfl)
theorem dX5_does_149 : decode cX5_does 149 = .ok (.iload_n 2, 1) := dk_28 (dk_at dksX5_does_6 20 rfl rfl)
theorem dX5_does_150 : decode cX5_does 150 = .ok (.invokevirtual 332, 3) := dk_182 1 76 (dk_at dksX5_does_6 21 rfl rfl)
theorem dX5_does_153 : decode cX5_does 153 = .ok (.pop, 1) := dk_87 (dk_at dksX5_does_7 0 rfl rfl)
theorem dX5_does_154 : decode cX5_does 154 = .ok (.iload 5, 2) := dk_21 5 (dk_at dksX5_does_7 1 rfl rfl)
theorem dX5_does_156 : decode cX5_does 156 = .ok (.ifCond .le 13, 3) := dk_158 0 13 (dk_at dksX5_does_7 3 rfl rfl)
theorem dX5_does_159 : decode cX5_does 159 = .ok (.bipush 10, 2) := dk_16 10 (dk_at dksX5_does_7 6 rfl rfl)
theorem dX5_does_161 : decode cX5_does 161 = .ok (.iload_n 1, 1) := dk_27 (dk_at dksX5_does_7 8 rfl rfl)
theorem dX5_does_162 : decode cX5_does 162 = .ok (.imul, 1) := dk_104 (dk_at dksX5_does_7 9 rfl rfl)
theorem dX5_does_163 : decode cX5_does 163 = .ok (.iload 5, 2) := dk_21 5 (dk_at dksX5_does_7 10 rfl rfl)
theorem dX5_does_165 : decode cX5_does 165 = .ok (.iadd, 1) := dk_96 (dk_at dksX5_does_7 12 rfl rfl)
theorem dX5_does_166 : decode cX5_does 166 = .ok (.goto 4, 3) := dk_167 0 4 (dk_at dksX5_does_7 13 rfl rfl)
theorem dX5_does_169 : decode cX5_does 169 = .ok (.iconst 0, 1) := dk_3 (dk_at dksX5_does_7 16 rfl rfl)
theorem dX5_does_170 : decode cX5_does 170 = .ok (.ireturn, 1) := dk_172 (dk_at dksX5_does_7 17 rfl rfl)
abbrev cX5_told : ByteArray := prog_26_method_101_code
def yX5_told : MethodName := ⟨RX5, "told", "(I)I"⟩
def dkwX5_told_1 : List UInt8 := [180, 0, 77, 27, 46, 167, 0, 4, 2, 172]
abbrev dktX5_told_1 : List UInt8 := dkwX5_told_1 ++ []
def dkwX5_told_0 : List UInt8 := [42, 3, 181, 0, 1, 42, 180, 1, 172, 153, 0, 21, 27, 3, 6, 184, 0, 189, 153, 0, 12, 42]
abbrev dktX5_told_0 : List UInt8 := dkwX5_told_0 ++ dktX5_told_1
theorem dksX5_told_0 : cX5_told.data.toList.drop 0 = dktX5_told_0 := by decide +kernel
theorem dksX5_told_1 : cX5_told.data.toList.drop 22 = dktX5_told_1 := dk_seg dksX5_told_0 22 rfl rfl
theorem dX5_told_0 : decode cX5_told 0 = .ok (.aload_n 0, 1) := dk_42 (dk_at dksX5_told_0 0 rfl rfl)
theorem dX5_told_1 : decode cX5_told 1 = .ok (.iconst 0, 1) := dk_3 (dk_at dksX5_told_0 1 rfl rfl)
theorem dX5_told_2 : decode cX5_told 2 = .ok (.putfield 1, 3) := dk_181 0 1 (dk_at dksX5_told_0 2 rfl rfl)
theorem dX5_told_5 : decode cX5_told 5 = .ok (.aload_n 0, 1) := dk_42 (dk_at dksX5_told_0 5 rfl rfl)
theorem dX5_told_6 : decode cX5_told 6 = .ok (.getfield 428, 3) := dk_180 1 172 (dk_at dksX5_told_0 6 rfl rfl)
theorem dX5_told_9 : decode cX5_told 9 = .ok (.ifCond .eq 21, 3) := dk_153 0 21 (dk_at dksX5_told_0 9 rfl rfl)
theorem dX5_told_12 : decode cX5_told 12 = .ok (.iload_n 1, 1) := dk_27 (dk_at dksX5_told_0 12 rfl rfl)
theorem dX5_told_13 : decode cX5_told 13 = .ok (.iconst 0, 1) := dk_3 (dk_at dksX5_told_0 13 rfl rfl)
theorem dX5_told_14 : decode cX5_told 14 = .ok (.iconst 3, 1) := dk_6 (dk_at dksX5_told_0 14 rfl rfl)
theorem dX5_told_15 : decode cX5_told 15 = .ok (.invokestatic 189, 3) := dk_184 0 189 (dk_at dksX5_told_0 15 rfl rfl)
theorem dX5_told_18 : decode cX5_told 18 = .ok (.ifCond .eq 12, 3) := dk_153 0 12 (dk_at dksX5_told_0 18 rfl rfl)
theorem dX5_told_21 : decode cX5_told 21 = .ok (.aload_n 0, 1) := dk_42 (dk_at dksX5_told_0 21 rfl rfl)
theorem dX5_told_22 : decode cX5_told 22 = .ok (.getfield 77, 3) := dk_180 0 77 (dk_at dksX5_told_1 0 rfl rfl)
theorem dX5_told_25 : decode cX5_told 25 = .ok (.iload_n 1, 1) := dk_27 (dk_at dksX5_told_1 3 rfl rfl)
theorem dX5_told_26 : decode cX5_told 26 = .ok (.iaload, 1) := dk_46 (dk_at dksX5_told_1 4 rfl rfl)
theorem dX5_told_27 : decode cX5_told 27 = .ok (.goto 4, 3) := dk_167 0 4 (dk_at dksX5_told_1 5 rfl rfl)
theorem dX5_told_30 : decode cX5_told 30 = .ok (.iconst (-1), 1) := dk_2 (dk_at dksX5_told_1 8 rfl rfl)
theorem dX5_told_31 : decode cX5_told 31 = .ok (.ireturn, 1) := dk_172 (dk_at dksX5_told_1 9 rfl rfl)
abbrev cX5_sentence : ByteArray := prog_26_method_108_code
def yX5_sentence : MethodName := ⟨RX5, "sentence", "()I"⟩
def dkwX5_sentence_7 : List UInt8 := [180, 0, 40, 28, 46, 79, 132, 2, 1, 167, 255, 227, 42, 180, 1, 190, 172]
abbrev dktX5_sentence_7 : List UInt8 := dkwX5_sentence_7 ++ []
def dkwX5_sentence_6 : List UInt8 := [79, 3, 61, 28, 6, 42, 180, 1, 175, 104, 162, 0, 25, 42, 180, 0, 33, 17, 1, 21, 28, 96, 42]
abbrev dktX5_sentence_6 : List UInt8 := dkwX5_sentence_6 ++ dktX5_sentence_7
def dkwX5_sentence_5 : List UInt8 := [182, 1, 205, 154, 255, 182, 2, 42, 180, 0, 177, 100, 172, 42, 180, 0, 33, 17, 1, 20, 42, 180, 1, 175]
abbrev dktX5_sentence_5 : List UInt8 := dkwX5_sentence_5 ++ dktX5_sentence_6
def dkwX5_sentence_4 : List UInt8 := [172, 3, 60, 167, 255, 206, 42, 180, 1, 193, 153, 0, 13, 42, 182, 1, 202, 154, 255, 192, 167, 0, 10, 42]
abbrev dktX5_sentence_4 : List UInt8 := dkwX5_sentence_4 ++ dktX5_sentence_5
def dkwX5_sentence_3 : List UInt8 := [16, 22, 182, 1, 199, 42, 180, 1, 178, 158, 0, 16, 42, 4, 182, 0, 183, 87, 2, 42, 180, 0, 177, 100]
abbrev dktX5_sentence_3 : List UInt8 := dkwX5_sentence_3 ++ dktX5_sentence_4
def dkwX5_sentence_2 : List UInt8 := [27, 153, 0, 83, 42, 180, 1, 193, 153, 0, 45, 42, 180, 0, 157, 154, 0, 38, 42, 182, 1, 196, 42]
abbrev dktX5_sentence_2 : List UInt8 := dkwX5_sentence_2 ++ dktX5_sentence_3
def dkwX5_sentence_1 : List UInt8 := [181, 1, 190, 42, 3, 181, 1, 178, 42, 4, 181, 1, 184, 42, 3, 181, 1, 193, 42, 182, 0, 186, 4, 60]
abbrev dktX5_sentence_1 : List UInt8 := dkwX5_sentence_1 ++ dktX5_sentence_2
def dkwX5_sentence_0 : List UInt8 := [42, 3, 181, 0, 1, 42, 17, 0, 200, 182, 0, 247, 42, 3, 181, 0, 174, 42, 3, 181, 1, 175, 42, 3]
abbrev dktX5_sentence_0 : List UInt8 := dkwX5_sentence_0 ++ dktX5_sentence_1
theorem dksX5_sentence_0 : cX5_sentence.data.toList.drop 0 = dktX5_sentence_0 := by decide +kernel
theorem dksX5_sentence_1 : cX5_sentence.data.toList.drop 24 = dktX5_sentence_1 := dk_seg dksX5_sentence_0 24 rfl rfl
theorem dksX5_sentence_2 : cX5_sentence.data.toList.drop 48 = dktX5_sentence_2 := dk_seg dksX5_sentence_1 24 rfl rfl
theorem dksX5_sentence_3 : cX5_sentence.data.toList.drop 71 = dktX5_sentence_3 := dk_seg dksX5_sentence_2 23 rfl rfl
theorem dksX5_sentence_4 : cX5_sentence.data.toList.drop 95 = dktX5_sentence_4 := dk_seg dksX5_sentence_3 24 rfl rfl
theorem dksX5_sentence_5 : cX5_sentence.data.toList.drop 119 = dktX5_sentence_5 := dk_seg dksX5_sentence_4 24 rfl rfl
theorem dksX5_sentence_6 : cX5_sentence.data.toList.drop 143 = dktX5_sentence_6 := dk_seg dksX5_sentence_5 24 rfl rfl
theorem dksX5_sentence_7 : cX5_sentence.data.toList.drop 166 = dktX5_sentence_7 := dk_seg dksX5_sentence_6 23 rfl rfl
theorem dX5_sentence_0 : decode cX5_sentence 0 = .ok (.aload_n 0, 1) := dk_42 (dk_at dksX5_sentence_0 0 rfl rfl)
theorem dX5_sentence_1 : decode cX5_sentence 1 = .ok (.iconst 0, 1) := dk_3 (dk_at dksX5_sentence_0 1 rfl rfl)
theorem dX5_sentence_2 : decode cX5_sentence 2 = .ok (.putfield 1, 3) := dk_181 0 1 (dk_at dksX5_sentence_0 2 rfl rfl)
theorem dX5_sentence_5 : decode cX5_sentence 5 = .ok (.aload_n 0, 1) := dk_42 (dk_at dksX5_sentence_0 5 rfl rfl)
theorem dX5_sentence_6 : decode cX5_sentence 6 = .ok (.sipush 200, 3) := dk_17 0 200 (dk_at dksX5_sentence_0 6 rfl rfl)
theorem dX5_sentence_9 : decode cX5_sentence 9 = .ok (.invokevirtual 247, 3) := dk_182 0 247 (dk_at dksX5_sentence_0 9 rfl rfl)
theorem dX5_sentence_12 : decode cX5_sentence 12 = .ok (.aload_n 0, 1) := dk_42 (dk_at dksX5_sentence_0 12 rfl rfl)
theorem dX5_sentence_13 : decode cX5_sentence 13 = .ok (.iconst 0, 1) := dk_3 (dk_at dksX5_sentence_0 13 rfl rfl)
theorem dX5_sentence_14 : decode cX5_sentence 14 = .ok (.putfield 174, 3) := dk_181 0 174 (dk_at dksX5_sentence_0 14 rfl rfl)
theorem dX5_sentence_17 : decode cX5_sentence 17 = .ok (.aload_n 0, 1) := dk_42 (dk_at dksX5_sentence_0 17 rfl rfl)
theorem dX5_sentence_18 : decode cX5_sentence 18 = .ok (.iconst 0, 1) := dk_3 (dk_at dksX5_sentence_0 18 rfl rfl)
theorem dX5_sentence_19 : decode cX5_sentence 19 = .ok (.putfield 431, 3) := dk_181 1 175 (dk_at dksX5_sentence_0 19 rfl rfl)
theorem dX5_sentence_22 : decode cX5_sentence 22 = .ok (.aload_n 0, 1) := dk_42 (dk_at dksX5_sentence_0 22 rfl rfl)
theorem dX5_sentence_23 : decode cX5_sentence 23 = .ok (.iconst 0, 1) := dk_3 (dk_at dksX5_sentence_0 23 rfl rfl)
theorem dX5_sentence_24 : decode cX5_sentence 24 = .ok (.putfield 446, 3) := dk_181 1 190 (dk_at dksX5_sentence_1 0 rfl rfl)
theorem dX5_sentence_27 : decode cX5_sentence 27 = .ok (.aload_n 0, 1) := dk_42 (dk_at dksX5_sentence_1 3 rfl rfl)
theorem dX5_sentence_28 : decode cX5_sentence 28 = .ok (.iconst 0, 1) := dk_3 (dk_at dksX5_sentence_1 4 rfl rfl)
theorem dX5_sentence_29 : decode cX5_sentence 29 = .ok (.putfield 434, 3) := dk_181 1 178 (dk_at dksX5_sentence_1 5 rfl rfl)
theorem dX5_sentence_32 : decode cX5_sentence 32 = .ok (.aload_n 0, 1) := dk_42 (dk_at dksX5_sentence_1 8 rfl rfl)
theorem dX5_sentence_33 : decode cX5_sentence 33 = .ok (.iconst 1, 1) := dk_4 (dk_at dksX5_sentence_1 9 rfl rfl)
theorem dX5_sentence_34 : decode cX5_sentence 34 = .ok (.putfield 440, 3) := dk_181 1 184 (dk_at dksX5_sentence_1 10 rfl rfl)
theorem dX5_sentence_37 : decode cX5_sentence 37 = .ok (.aload_n 0, 1) := dk_42 (dk_at dksX5_sentence_1 13 rfl rfl)
theorem dX5_sentence_38 : decode cX5_sentence 38 = .ok (.iconst 0, 1) := dk_3 (dk_at dksX5_sentence_1 14 rfl rfl)
theorem dX5_sentence_39 : decode cX5_sentence 39 = .ok (.putfield 449, 3) := dk_181 1 193 (dk_at dksX5_sentence_1 15 rfl rfl)
theorem dX5_sentence_42 : decode cX5_sentence 42 = .ok (.aload_n 0, 1) := dk_42 (dk_at dksX5_sentence_1 18 rfl rfl)
theorem dX5_sentence_43 : decode cX5_sentence 43 = .ok (.invokevirtual 186, 3) := dk_182 0 186 (dk_at dksX5_sentence_1 19 rfl rfl)
theorem dX5_sentence_46 : decode cX5_sentence 46 = .ok (.iconst 1, 1) := dk_4 (dk_at dksX5_sentence_1 22 rfl rfl)
theorem dX5_sentence_47 : decode cX5_sentence 47 = .ok (.istore_n 1, 1) := dk_60 (dk_at dksX5_sentence_1 23 rfl rfl)
theorem dX5_sentence_48 : decode cX5_sentence 48 = .ok (.iload_n 1, 1) := dk_27 (dk_at dksX5_sentence_2 0 rfl rfl)
theorem dX5_sentence_49 : decode cX5_sentence 49 = .ok (.ifCond .eq 83, 3) := dk_153 0 83 (dk_at dksX5_sentence_2 1 rfl rfl)
theorem dX5_sentence_52 : decode cX5_sentence 52 = .ok (.aload_n 0, 1) := dk_42 (dk_at dksX5_sentence_2 4 rfl rfl)
theorem dX5_sentence_53 : decode cX5_sentence 53 = .ok (.getfield 449, 3) := dk_180 1 193 (dk_at dksX5_sentence_2 5 rfl rfl)
theorem dX5_sentence_56 : decode cX5_sentence 56 = .ok (.ifCond .eq 45, 3) := dk_153 0 45 (dk_at dksX5_sentence_2 8 rfl rfl)
theorem dX5_sentence_59 : decode cX5_sentence 59 = .ok (.aload_n 0, 1) := dk_42 (dk_at dksX5_sentence_2 11 rfl rfl)
theorem dX5_sentence_60 : decode cX5_sentence 60 = .ok (.getfield 157, 3) := dk_180 0 157 (dk_at dksX5_sentence_2 12 rfl rfl)
theorem dX5_sentence_63 : decode cX5_sentence 63 = .ok (.ifCond .ne 38, 3) := dk_154 0 38 (dk_at dksX5_sentence_2 15 rfl rfl)
theorem dX5_sentence_66 : decode cX5_sentence 66 = .ok (.aload_n 0, 1) := dk_42 (dk_at dksX5_sentence_2 18 rfl rfl)
theorem dX5_sentence_67 : decode cX5_sentence 67 = .ok (.invokevirtual 452, 3) := dk_182 1 196 (dk_at dksX5_sentence_2 19 rfl rfl)
theorem dX5_sentence_70 : decode cX5_sentence 70 = .ok (.aload_n 0, 1) := dk_42 (dk_at dksX5_sentence_2 22 rfl rfl)
theorem dX5_sentence_71 : decode cX5_sentence 71 = .ok (.bipush 22, 2) := dk_16 22 (dk_at dksX5_sentence_3 0 rfl rfl)
theorem dX5_sentence_73 : decode cX5_sentence 73 = .ok (.invokevirtual 455, 3) := dk_182 1 199 (dk_at dksX5_sentence_3 2 rfl rfl)
theorem dX5_sentence_76 : decode cX5_sentence 76 = .ok (.aload_n 0, 1) := dk_42 (dk_at dksX5_sentence_3 5 rfl rfl)
theorem dX5_sentence_77 : decode cX5_sentence 77 = .ok (.getfield 434, 3) := dk_180 1 178 (dk_at dksX5_sentence_3 6 rfl rfl)
theorem dX5_sentence_80 : decode cX5_sentence 80 = .ok (.ifCond .le 16, 3) := dk_158 0 16 (dk_at dksX5_sentence_3 9 rfl rfl)
theorem dX5_sentence_83 : decode cX5_sentence 83 = .ok (.aload_n 0, 1) := dk_42 (dk_at dksX5_sentence_3 12 rfl rfl)
theorem dX5_sentence_84 : decode cX5_sentence 84 = .ok (.iconst 1, 1) := dk_4 (dk_at dksX5_sentence_3 13 rfl rfl)
theorem dX5_sentence_85 : decode cX5_sentence 85 = .ok (.invokevirtual 183, 3) := dk_182 0 183 (dk_at dksX5_sentence_3 14 rfl rfl)
theorem dX5_sentence_88 : decode cX5_sentence 88 = .ok (.pop, 1) := dk_87 (dk_at dksX5_sentence_3 17 rfl rfl)
theorem dX5_sentence_89 : decode cX5_sentence 89 = .ok (.iconst (-1), 1) := dk_2 (dk_at dksX5_sentence_3 18 rfl rfl)
theorem dX5_sentence_90 : decode cX5_sentence 90 = .ok (.aload_n 0, 1) := dk_42 (dk_at dksX5_sentence_3 19 rfl rfl)
theorem dX5_sentence_91 : decode cX5_sentence 91 = .ok (.getfield 177, 3) := dk_180 0 177 (dk_at dksX5_sentence_3 20 rfl rfl)
theorem dX5_sentence_94 : decode cX5_sentence 94 = .ok (.isub, 1) := dk_100 (dk_at dksX5_sentence_3 23 rfl rfl)
theorem dX5_sentence_95 : decode cX5_sentence 95 = .ok (.ireturn, 1) := dk_172 (dk_at dksX5_sentence_4 0 rfl rfl)
theorem dX5_sentence_96 : decode cX5_sentence 96 = .ok (.iconst 0, 1) := dk_3 (dk_at dksX5_sentence_4 1 rfl rfl)
theorem dX5_sentence_97 : decode cX5_sentence 97 = .ok (.istore_n 1, 1) := dk_60 (dk_at dksX5_sentence_4 2 rfl rfl)
theorem dX5_sentence_98 : decode cX5_sentence 98 = .ok (.goto (-50), 3) := dk_167 255 206 (dk_at dksX5_sentence_4 3 rfl rfl)
theorem dX5_sentence_101 : decode cX5_sentence 101 = .ok (.aload_n 0, 1) := dk_42 (dk_at dksX5_sentence_4 6 rfl rfl)
theorem dX5_sentence_102 : decode cX5_sentence 102 = .ok (.getfield 449, 3) := dk_180 1 193 (dk_at dksX5_sentence_4 7 rfl rfl)
theorem dX5_sentence_105 : decode cX5_sentence 105 = .ok (.ifCond .eq 13, 3) := dk_153 0 13 (dk_at dksX5_sentence_4 10 rfl rfl)
theorem dX5_sentence_108 : decode cX5_sentence 108 = .ok (.aload_n 0, 1) := dk_42 (dk_at dksX5_sentence_4 13 rfl rfl)
theorem dX5_sentence_109 : decode cX5_sentence 109 = .ok (.invokevirtual 458, 3) := dk_182 1 202 (dk_at dksX5_sentence_4 14 rfl rfl)
theorem dX5_sentence_112 : decode cX5_sentence 112 = .ok (.ifCond .ne (-64), 3) := dk_154 255 192 (dk_at dksX5_sentence_4 17 rfl rfl)
theorem dX5_sentence_115 : decode cX5_sentence 115 = .ok (.goto 10, 3) := dk_167 0 10 (dk_at dksX5_sentence_4 20 rfl rfl)
theorem dX5_sentence_118 : decode cX5_sentence 118 = .ok (.aload_n 0, 1) := dk_42 (dk_at dksX5_sentence_4 23 rfl rfl)
theorem dX5_sentence_119 : decode cX5_sentence 119 = .ok (.invokevirtual 461, 3) := dk_182 1 205 (dk_at dksX5_sentence_5 0 rfl rfl)
theorem dX5_sentence_122 : decode cX5_sentence 122 = .ok (.ifCond .ne (-74), 3) := dk_154 255 182 (dk_at dksX5_sentence_5 3 rfl rfl)
theorem dX5_sentence_125 : decode cX5_sentence 125 = .ok (.iconst (-1), 1) := dk_2 (dk_at dksX5_sentence_5 6 rfl rfl)
theorem dX5_sentence_126 : decode cX5_sentence 126 = .ok (.aload_n 0, 1) := dk_42 (dk_at dksX5_sentence_5 7 rfl rfl)
theorem dX5_sentence_127 : decode cX5_sentence 127 = .ok (.getfield 177, 3) := dk_180 0 177 (dk_at dksX5_sentence_5 8 rfl rfl)
theorem dX5_sentence_130 : decode cX5_sentence 130 = .ok (.isub, 1) := dk_100 (dk_at dksX5_sentence_5 11 rfl rfl)
theorem dX5_sentence_131 : decode cX5_sentence 131 = .ok (.ireturn, 1) := dk_172 (dk_at dksX5_sentence_5 12 rfl rfl)
theorem dX5_sentence_132 : decode cX5_sentence 132 = .ok (.aload_n 0, 1) := dk_42 (dk_at dksX5_sentence_5 13 rfl rfl)
theorem dX5_sentence_133 : decode cX5_sentence 133 = .ok (.getfield 33, 3) := dk_180 0 33 (dk_at dksX5_sentence_5 14 rfl rfl)
theorem dX5_sentence_136 : decode cX5_sentence 136 = .ok (.sipush 276, 3) := dk_17 1 20 (dk_at dksX5_sentence_5 17 rfl rfl)
theorem dX5_sentence_139 : decode cX5_sentence 139 = .ok (.aload_n 0, 1) := dk_42 (dk_at dksX5_sentence_5 20 rfl rfl)
theorem dX5_sentence_140 : decode cX5_sentence 140 = .ok (.getfield 431, 3) := dk_180 1 175 (dk_at dksX5_sentence_5 21 rfl rfl)
theorem dX5_sentence_143 : decode cX5_sentence 143 = .ok (.iastore, 1) := dk_79 (dk_at dksX5_sentence_6 0 rfl rfl)
theorem dX5_sentence_144 : decode cX5_sentence 144 = .ok (.iconst 0, 1) := dk_3 (dk_at dksX5_sentence_6 1 rfl rfl)
theorem dX5_sentence_145 : decode cX5_sentence 145 = .ok (.istore_n 2, 1) := dk_61 (dk_at dksX5_sentence_6 2 rfl rfl)
theorem dX5_sentence_146 : decode cX5_sentence 146 = .ok (.iload_n 2, 1) := dk_28 (dk_at dksX5_sentence_6 3 rfl rfl)
theorem dX5_sentence_147 : decode cX5_sentence 147 = .ok (.iconst 3, 1) := dk_6 (dk_at dksX5_sentence_6 4 rfl rfl)
theorem dX5_sentence_148 : decode cX5_sentence 148 = .ok (.aload_n 0, 1) := dk_42 (dk_at dksX5_sentence_6 5 rfl rfl)
theorem dX5_sentence_149 : decode cX5_sentence 149 = .ok (.getfield 431, 3) := dk_180 1 175 (dk_at dksX5_sentence_6 6 rfl rfl)
theorem dX5_sentence_152 : decode cX5_sentence 152 = .ok (.imul, 1) := dk_104 (dk_at dksX5_sentence_6 9 rfl rfl)
theorem dX5_sentence_153 : decode cX5_sentence 153 = .ok (.if_icmp .ge 25, 3) := dk_162 0 25 (dk_at dksX5_sentence_6 10 rfl rfl)
theorem dX5_sentence_156 : decode cX5_sentence 156 = .ok (.aload_n 0, 1) := dk_42 (dk_at dksX5_sentence_6 13 rfl rfl)
theorem dX5_sentence_157 : decode cX5_sentence 157 = .ok (.getfield 33, 3) := dk_180 0 33 (dk_at dksX5_sentence_6 14 rfl rfl)
theorem dX5_sentence_160 : decode cX5_sentence 160 = .ok (.sipush 277, 3) := dk_17 1 21 (dk_at dksX5_sentence_6 17 rfl rfl)
theorem dX5_sentence_163 : decode cX5_sentence 163 = .ok (.iload_n 2, 1) := dk_28 (dk_at dksX5_sentence_6 20 rfl rfl)
theorem dX5_sentence_164 : decode cX5_sentence 164 = .ok (.iadd, 1) := dk_96 (dk_at dksX5_sentence_6 21 rfl rfl)
theorem dX5_sentence_165 : decode cX5_sentence 165 = .ok (.aload_n 0, 1) := dk_42 (dk_at dksX5_sentence_6 22 rfl rfl)
theorem dX5_sentence_166 : decode cX5_sentence 166 = .ok (.getfield 40, 3) := dk_180 0 40 (dk_at dksX5_sentence_7 0 rfl rfl)
theorem dX5_sentence_169 : decode cX5_sentence 169 = .ok (.iload_n 2, 1) := dk_28 (dk_at dksX5_sentence_7 3 rfl rfl)
theorem dX5_sentence_170 : decode cX5_sentence 170 = .ok (.iaload, 1) := dk_46 (dk_at dksX5_sentence_7 4 rfl rfl)
theorem dX5_sentence_171 : decode cX5_sentence 171 = .ok (.iastore, 1) := dk_79 (dk_at dksX5_sentence_7 5 rfl rfl)
theorem dX5_sentence_172 : decode cX5_sentence 172 = .ok (.iinc 2 1, 3) := dk_132 2 1 (dk_at dksX5_sentence_7 6 rfl rfl)
theorem dX5_sentence_175 : decode cX5_sentence 175 = .ok (.goto (-29), 3) := dk_167 255 227 (dk_at dksX5_sentence_7 9 rfl rfl)
theorem dX5_sentence_178 : decode cX5_sentence 178 = .ok (.aload_n 0, 1) := dk_42 (dk_at dksX5_sentence_7 12 rfl rfl)
theorem dX5_sentence_179 : decode cX5_sentence 179 = .ok (.getfield 446, 3) := dk_180 1 190 (dk_at dksX5_sentence_7 13 rfl rfl)
theorem dX5_sentence_182 : decode cX5_sentence 182 = .ok (.ireturn, 1) := dk_172 (dk_at dksX5_sentence_7 16 rfl rfl)
abbrev cX5_nots : ByteArray := prog_26_method_104_code
def yX5_nots : MethodName := ⟨RX5, "nots", "()V"⟩
def dkwX5_nots_2 : List UInt8 := [182, 1, 181, 167, 255, 205, 177]
abbrev dktX5_nots_2 : List UInt8 := dkwX5_nots_2 ++ []
def dkwX5_nots_1 : List UInt8 := [89, 180, 1, 178, 4, 100, 181, 1, 178, 42, 89, 180, 1, 184, 4, 100, 181, 1, 184, 42, 16, 20, 3, 3]
abbrev dktX5_nots_1 : List UInt8 := dkwX5_nots_1 ++ dktX5_nots_2
def dkwX5_nots_0 : List UInt8 := [42, 180, 1, 178, 158, 0, 50, 42, 180, 0, 80, 42, 180, 1, 178, 4, 100, 46, 16, 20, 160, 0, 34, 42]
abbrev dktX5_nots_0 : List UInt8 := dkwX5_nots_0 ++ dktX5_nots_1
theorem dksX5_nots_0 : cX5_nots.data.toList.drop 0 = dktX5_nots_0 := by decide +kernel
theorem dksX5_nots_1 : cX5_nots.data.toList.drop 24 = dktX5_nots_1 := dk_seg dksX5_nots_0 24 rfl rfl
theorem dksX5_nots_2 : cX5_nots.data.toList.drop 48 = dktX5_nots_2 := dk_seg dksX5_nots_1 24 rfl rfl
theorem dX5_nots_0 : decode cX5_nots 0 = .ok (.aload_n 0, 1) := dk_42 (dk_at dksX5_nots_0 0 rfl rfl)
theorem dX5_nots_1 : decode cX5_nots 1 = .ok (.getfield 434, 3) := dk_180 1 178 (dk_at dksX5_nots_0 1 rfl rfl)
theorem dX5_nots_4 : decode cX5_nots 4 = .ok (.ifCond .le 50, 3) := dk_158 0 50 (dk_at dksX5_nots_0 4 rfl rfl)
theorem dX5_nots_7 : decode cX5_nots 7 = .ok (.aload_n 0, 1) := dk_42 (dk_at dksX5_nots_0 7 rfl rfl)
theorem dX5_nots_8 : decode cX5_nots 8 = .ok (.getfield 80, 3) := dk_180 0 80 (dk_at dksX5_nots_0 8 rfl rfl)
theorem dX5_nots_11 : decode cX5_nots 11 = .ok (.aload_n 0, 1) := dk_42 (dk_at dksX5_nots_0 11 rfl rfl)
theorem dX5_nots_12 : decode cX5_nots 12 = .ok (.getfield 434, 3) := dk_180 1 178 (dk_at dksX5_nots_0 12 rfl rfl)
theorem dX5_nots_15 : decode cX5_nots 15 = .ok (.iconst 1, 1) := dk_4 (dk_at dksX5_nots_0 15 rfl rfl)
theorem dX5_nots_16 : decode cX5_nots 16 = .ok (.isub, 1) := dk_100 (dk_at dksX5_nots_0 16 rfl rfl)
theorem dX5_nots_17 : decode cX5_nots 17 = .ok (.iaload, 1) := dk_46 (dk_at dksX5_nots_0 17 rfl rfl)
theorem dX5_nots_18 : decode cX5_nots 18 = .ok (.bipush 20, 2) := dk_16 20 (dk_at dksX5_nots_0 18 rfl rfl)
theorem dX5_nots_20 : decode cX5_nots 20 = .ok (.if_icmp .ne 34, 3) := dk_160 0 34 (dk_at dksX5_nots_0 20 rfl rfl)
theorem dX5_nots_23 : decode cX5_nots 23 = .ok (.aload_n 0, 1) := dk_42 (dk_at dksX5_nots_0 23 rfl rfl)
theorem dX5_nots_24 : decode cX5_nots 24 = .ok (.dup, 1) := dk_89 (dk_at dksX5_nots_1 0 rfl rfl)
theorem dX5_nots_25 : decode cX5_nots 25 = .ok (.getfield 434, 3) := dk_180 1 178 (dk_at dksX5_nots_1 1 rfl rfl)
theorem dX5_nots_28 : decode cX5_nots 28 = .ok (.iconst 1, 1) := dk_4 (dk_at dksX5_nots_1 4 rfl rfl)
theorem dX5_nots_29 : decode cX5_nots 29 = .ok (.isub, 1) := dk_100 (dk_at dksX5_nots_1 5 rfl rfl)
theorem dX5_nots_30 : decode cX5_nots 30 = .ok (.putfield 434, 3) := dk_181 1 178 (dk_at dksX5_nots_1 6 rfl rfl)
theorem dX5_nots_33 : decode cX5_nots 33 = .ok (.aload_n 0, 1) := dk_42 (dk_at dksX5_nots_1 9 rfl rfl)
theorem dX5_nots_34 : decode cX5_nots 34 = .ok (.dup, 1) := dk_89 (dk_at dksX5_nots_1 10 rfl rfl)
theorem dX5_nots_35 : decode cX5_nots 35 = .ok (.getfield 440, 3) := dk_180 1 184 (dk_at dksX5_nots_1 11 rfl rfl)
theorem dX5_nots_38 : decode cX5_nots 38 = .ok (.iconst 1, 1) := dk_4 (dk_at dksX5_nots_1 14 rfl rfl)
theorem dX5_nots_39 : decode cX5_nots 39 = .ok (.isub, 1) := dk_100 (dk_at dksX5_nots_1 15 rfl rfl)
theorem dX5_nots_40 : decode cX5_nots 40 = .ok (.putfield 440, 3) := dk_181 1 184 (dk_at dksX5_nots_1 16 rfl rfl)
theorem dX5_nots_43 : decode cX5_nots 43 = .ok (.aload_n 0, 1) := dk_42 (dk_at dksX5_nots_1 19 rfl rfl)
theorem dX5_nots_44 : decode cX5_nots 44 = .ok (.bipush 20, 2) := dk_16 20 (dk_at dksX5_nots_1 20 rfl rfl)
theorem dX5_nots_46 : decode cX5_nots 46 = .ok (.iconst 0, 1) := dk_3 (dk_at dksX5_nots_1 22 rfl rfl)
theorem dX5_nots_47 : decode cX5_nots 47 = .ok (.iconst 0, 1) := dk_3 (dk_at dksX5_nots_1 23 rfl rfl)
theorem dX5_nots_48 : decode cX5_nots 48 = .ok (.invokevirtual 437, 3) := dk_182 1 181 (dk_at dksX5_nots_2 0 rfl rfl)
theorem dX5_nots_51 : decode cX5_nots 51 = .ok (.goto (-51), 3) := dk_167 255 205 (dk_at dksX5_nots_2 3 rfl rfl)
theorem dX5_nots_54 : decode cX5_nots 54 = .ok (.return_, 1) := dk_177 (dk_at dksX5_nots_2 6 rfl rfl)
abbrev cX5_code : ByteArray := prog_26_method_102_code
def yX5_code : MethodName := ⟨RX5, "code", "(III)V"⟩
def dkwX5_code_2 : List UInt8 := [181, 1, 175, 177]
abbrev dktX5_code_2 : List UInt8 := dkwX5_code_2 ++ []
def dkwX5_code_1 : List UInt8 := [28, 79, 42, 180, 0, 40, 6, 42, 180, 1, 175, 104, 5, 96, 29, 79, 42, 89, 180, 1, 175, 4, 96]
abbrev dktX5_code_1 : List UInt8 := dkwX5_code_1 ++ dktX5_code_2
def dkwX5_code_0 : List UInt8 := [42, 180, 0, 40, 6, 42, 180, 1, 175, 104, 27, 79, 42, 180, 0, 40, 6, 42, 180, 1, 175, 104, 4, 96]
abbrev dktX5_code_0 : List UInt8 := dkwX5_code_0 ++ dktX5_code_1
theorem dksX5_code_0 : cX5_code.data.toList.drop 0 = dktX5_code_0 := by decide +kernel
theorem dksX5_code_1 : cX5_code.data.toList.drop 24 = dktX5_code_1 := dk_seg dksX5_code_0 24 rfl rfl
theorem dksX5_code_2 : cX5_code.data.toList.drop 47 = dktX5_code_2 := dk_seg dksX5_code_1 23 rfl rfl
theorem dX5_code_0 : decode cX5_code 0 = .ok (.aload_n 0, 1) := dk_42 (dk_at dksX5_code_0 0 rfl rfl)
theorem dX5_code_1 : decode cX5_code 1 = .ok (.getfield 40, 3) := dk_180 0 40 (dk_at dksX5_code_0 1 rfl rfl)
theorem dX5_code_4 : decode cX5_code 4 = .ok (.iconst 3, 1) := dk_6 (dk_at dksX5_code_0 4 rfl rfl)
theorem dX5_code_5 : decode cX5_code 5 = .ok (.aload_n 0, 1) := dk_42 (dk_at dksX5_code_0 5 rfl rfl)
theorem dX5_code_6 : decode cX5_code 6 = .ok (.getfield 431, 3) := dk_180 1 175 (dk_at dksX5_code_0 6 rfl rfl)
theorem dX5_code_9 : decode cX5_code 9 = .ok (.imul, 1) := dk_104 (dk_at dksX5_code_0 9 rfl rfl)
theorem dX5_code_10 : decode cX5_code 10 = .ok (.iload_n 1, 1) := dk_27 (dk_at dksX5_code_0 10 rfl rfl)
theorem dX5_code_11 : decode cX5_code 11 = .ok (.iastore, 1) := dk_79 (dk_at dksX5_code_0 11 rfl rfl)
theorem dX5_code_12 : decode cX5_code 12 = .ok (.aload_n 0, 1) := dk_42 (dk_at dksX5_code_0 12 rfl rfl)
theorem dX5_code_13 : decode cX5_code 13 = .ok (.getfield 40, 3) := dk_180 0 40 (dk_at dksX5_code_0 13 rfl rfl)
theorem dX5_code_16 : decode cX5_code 16 = .ok (.iconst 3, 1) := dk_6 (dk_at dksX5_code_0 16 rfl rfl)
theorem dX5_code_17 : decode cX5_code 17 = .ok (.aload_n 0, 1) := dk_42 (dk_at dksX5_code_0 17 rfl rfl)
theorem dX5_code_18 : decode cX5_code 18 = .ok (.getfield 431, 3) := dk_180 1 175 (dk_at dksX5_code_0 18 rfl rfl)
theorem dX5_code_21 : decode cX5_code 21 = .ok (.imul, 1) := dk_104 (dk_at dksX5_code_0 21 rfl rfl)
theorem dX5_code_22 : decode cX5_code 22 = .ok (.iconst 1, 1) := dk_4 (dk_at dksX5_code_0 22 rfl rfl)
theorem dX5_code_23 : decode cX5_code 23 = .ok (.iadd, 1) := dk_96 (dk_at dksX5_code_0 23 rfl rfl)
theorem dX5_code_24 : decode cX5_code 24 = .ok (.iload_n 2, 1) := dk_28 (dk_at dksX5_code_1 0 rfl rfl)
theorem dX5_code_25 : decode cX5_code 25 = .ok (.iastore, 1) := dk_79 (dk_at dksX5_code_1 1 rfl rfl)
theorem dX5_code_26 : decode cX5_code 26 = .ok (.aload_n 0, 1) := dk_42 (dk_at dksX5_code_1 2 rfl rfl)
theorem dX5_code_27 : decode cX5_code 27 = .ok (.getfield 40, 3) := dk_180 0 40 (dk_at dksX5_code_1 3 rfl rfl)
theorem dX5_code_30 : decode cX5_code 30 = .ok (.iconst 3, 1) := dk_6 (dk_at dksX5_code_1 6 rfl rfl)
theorem dX5_code_31 : decode cX5_code 31 = .ok (.aload_n 0, 1) := dk_42 (dk_at dksX5_code_1 7 rfl rfl)
theorem dX5_code_32 : decode cX5_code 32 = .ok (.getfield 431, 3) := dk_180 1 175 (dk_at dksX5_code_1 8 rfl rfl)
theorem dX5_code_35 : decode cX5_code 35 = .ok (.imul, 1) := dk_104 (dk_at dksX5_code_1 11 rfl rfl)
theorem dX5_code_36 : decode cX5_code 36 = .ok (.iconst 2, 1) := dk_5 (dk_at dksX5_code_1 12 rfl rfl)
theorem dX5_code_37 : decode cX5_code 37 = .ok (.iadd, 1) := dk_96 (dk_at dksX5_code_1 13 rfl rfl)
theorem dX5_code_38 : decode cX5_code 38 = .ok (.iload_n 3, 1) := dk_29 (dk_at dksX5_code_1 14 rfl rfl)
theorem dX5_code_39 : decode cX5_code 39 = .ok (.iastore, 1) := dk_79 (dk_at dksX5_code_1 15 rfl rfl)
theorem dX5_code_40 : decode cX5_code 40 = .ok (.aload_n 0, 1) := dk_42 (dk_at dksX5_code_1 16 rfl rfl)
theorem dX5_code_41 : decode cX5_code 41 = .ok (.dup, 1) := dk_89 (dk_at dksX5_code_1 17 rfl rfl)
theorem dX5_code_42 : decode cX5_code 42 = .ok (.getfield 431, 3) := dk_180 1 175 (dk_at dksX5_code_1 18 rfl rfl)
theorem dX5_code_45 : decode cX5_code 45 = .ok (.iconst 1, 1) := dk_4 (dk_at dksX5_code_1 21 rfl rfl)
theorem dX5_code_46 : decode cX5_code 46 = .ok (.iadd, 1) := dk_96 (dk_at dksX5_code_1 22 rfl rfl)
theorem dX5_code_47 : decode cX5_code 47 = .ok (.putfield 431, 3) := dk_181 1 175 (dk_at dksX5_code_2 0 rfl rfl)
theorem dX5_code_50 : decode cX5_code 50 = .ok (.return_, 1) := dk_177 (dk_at dksX5_code_2 3 rfl rfl)
abbrev cX5_joins : ByteArray := prog_26_method_103_code
def yX5_joins : MethodName := ⟨RX5, "joins", "(I)V"⟩
def dkwX5_joins_3 : List UInt8 := [167, 255, 186, 177]
abbrev dktX5_joins_3 : List UInt8 := dkwX5_joins_3 ++ []
def dkwX5_joins_2 : List UInt8 := [180, 1, 178, 4, 100, 181, 1, 178, 42, 42, 180, 0, 80, 42, 180, 1, 178, 46, 3, 3, 182, 1, 181]
abbrev dktX5_joins_2 : List UInt8 := dkwX5_joins_2 ++ dktX5_joins_3
def dkwX5_joins_1 : List UInt8 := [180, 0, 80, 42, 180, 1, 178, 4, 100, 46, 16, 22, 160, 0, 37, 27, 16, 22, 160, 0, 31, 42, 89]
abbrev dktX5_joins_1 : List UInt8 := dkwX5_joins_1 ++ dktX5_joins_2
def dkwX5_joins_0 : List UInt8 := [42, 180, 1, 178, 158, 0, 69, 42, 180, 0, 80, 42, 180, 1, 178, 4, 100, 46, 16, 21, 159, 0, 25, 42]
abbrev dktX5_joins_0 : List UInt8 := dkwX5_joins_0 ++ dktX5_joins_1
theorem dksX5_joins_0 : cX5_joins.data.toList.drop 0 = dktX5_joins_0 := by decide +kernel
theorem dksX5_joins_1 : cX5_joins.data.toList.drop 24 = dktX5_joins_1 := dk_seg dksX5_joins_0 24 rfl rfl
theorem dksX5_joins_2 : cX5_joins.data.toList.drop 47 = dktX5_joins_2 := dk_seg dksX5_joins_1 23 rfl rfl
theorem dksX5_joins_3 : cX5_joins.data.toList.drop 70 = dktX5_joins_3 := dk_seg dksX5_joins_2 23 rfl rfl
theorem dX5_joins_0 : decode cX5_joins 0 = .ok (.aload_n 0, 1) := dk_42 (dk_at dksX5_joins_0 0 rfl rfl)
theorem dX5_joins_1 : decode cX5_joins 1 = .ok (.getfield 434, 3) := dk_180 1 178 (dk_at dksX5_joins_0 1 rfl rfl)
theorem dX5_joins_4 : decode cX5_joins 4 = .ok (.ifCond .le 69, 3) := dk_158 0 69 (dk_at dksX5_joins_0 4 rfl rfl)
theorem dX5_joins_7 : decode cX5_joins 7 = .ok (.aload_n 0, 1) := dk_42 (dk_at dksX5_joins_0 7 rfl rfl)
theorem dX5_joins_8 : decode cX5_joins 8 = .ok (.getfield 80, 3) := dk_180 0 80 (dk_at dksX5_joins_0 8 rfl rfl)
theorem dX5_joins_11 : decode cX5_joins 11 = .ok (.aload_n 0, 1) := dk_42 (dk_at dksX5_joins_0 11 rfl rfl)
theorem dX5_joins_12 : decode cX5_joins 12 = .ok (.getfield 434, 3) := dk_180 1 178 (dk_at dksX5_joins_0 12 rfl rfl)
theorem dX5_joins_15 : decode cX5_joins 15 = .ok (.iconst 1, 1) := dk_4 (dk_at dksX5_joins_0 15 rfl rfl)
theorem dX5_joins_16 : decode cX5_joins 16 = .ok (.isub, 1) := dk_100 (dk_at dksX5_joins_0 16 rfl rfl)
theorem dX5_joins_17 : decode cX5_joins 17 = .ok (.iaload, 1) := dk_46 (dk_at dksX5_joins_0 17 rfl rfl)
theorem dX5_joins_18 : decode cX5_joins 18 = .ok (.bipush 21, 2) := dk_16 21 (dk_at dksX5_joins_0 18 rfl rfl)
theorem dX5_joins_20 : decode cX5_joins 20 = .ok (.if_icmp .eq 25, 3) := dk_159 0 25 (dk_at dksX5_joins_0 20 rfl rfl)
theorem dX5_joins_23 : decode cX5_joins 23 = .ok (.aload_n 0, 1) := dk_42 (dk_at dksX5_joins_0 23 rfl rfl)
theorem dX5_joins_24 : decode cX5_joins 24 = .ok (.getfield 80, 3) := dk_180 0 80 (dk_at dksX5_joins_1 0 rfl rfl)
theorem dX5_joins_27 : decode cX5_joins 27 = .ok (.aload_n 0, 1) := dk_42 (dk_at dksX5_joins_1 3 rfl rfl)
theorem dX5_joins_28 : decode cX5_joins 28 = .ok (.getfield 434, 3) := dk_180 1 178 (dk_at dksX5_joins_1 4 rfl rfl)
theorem dX5_joins_31 : decode cX5_joins 31 = .ok (.iconst 1, 1) := dk_4 (dk_at dksX5_joins_1 7 rfl rfl)
theorem dX5_joins_32 : decode cX5_joins 32 = .ok (.isub, 1) := dk_100 (dk_at dksX5_joins_1 8 rfl rfl)
theorem dX5_joins_33 : decode cX5_joins 33 = .ok (.iaload, 1) := dk_46 (dk_at dksX5_joins_1 9 rfl rfl)
theorem dX5_joins_34 : decode cX5_joins 34 = .ok (.bipush 22, 2) := dk_16 22 (dk_at dksX5_joins_1 10 rfl rfl)
theorem dX5_joins_36 : decode cX5_joins 36 = .ok (.if_icmp .ne 37, 3) := dk_160 0 37 (dk_at dksX5_joins_1 12 rfl rfl)
theorem dX5_joins_39 : decode cX5_joins 39 = .ok (.iload_n 1, 1) := dk_27 (dk_at dksX5_joins_1 15 rfl rfl)
theorem dX5_joins_40 : decode cX5_joins 40 = .ok (.bipush 22, 2) := dk_16 22 (dk_at dksX5_joins_1 16 rfl rfl)
theorem dX5_joins_42 : decode cX5_joins 42 = .ok (.if_icmp .ne 31, 3) := dk_160 0 31 (dk_at dksX5_joins_1 18 rfl rfl)
theorem dX5_joins_45 : decode cX5_joins 45 = .ok (.aload_n 0, 1) := dk_42 (dk_at dksX5_joins_1 21 rfl rfl)
theorem dX5_joins_46 : decode cX5_joins 46 = .ok (.dup, 1) := dk_89 (dk_at dksX5_joins_1 22 rfl rfl)
theorem dX5_joins_47 : decode cX5_joins 47 = .ok (.getfield 434, 3) := dk_180 1 178 (dk_at dksX5_joins_2 0 rfl rfl)
theorem dX5_joins_50 : decode cX5_joins 50 = .ok (.iconst 1, 1) := dk_4 (dk_at dksX5_joins_2 3 rfl rfl)
theorem dX5_joins_51 : decode cX5_joins 51 = .ok (.isub, 1) := dk_100 (dk_at dksX5_joins_2 4 rfl rfl)
theorem dX5_joins_52 : decode cX5_joins 52 = .ok (.putfield 434, 3) := dk_181 1 178 (dk_at dksX5_joins_2 5 rfl rfl)
theorem dX5_joins_55 : decode cX5_joins 55 = .ok (.aload_n 0, 1) := dk_42 (dk_at dksX5_joins_2 8 rfl rfl)
theorem dX5_joins_56 : decode cX5_joins 56 = .ok (.aload_n 0, 1) := dk_42 (dk_at dksX5_joins_2 9 rfl rfl)
theorem dX5_joins_57 : decode cX5_joins 57 = .ok (.getfield 80, 3) := dk_180 0 80 (dk_at dksX5_joins_2 10 rfl rfl)
theorem dX5_joins_60 : decode cX5_joins 60 = .ok (.aload_n 0, 1) := dk_42 (dk_at dksX5_joins_2 13 rfl rfl)
theorem dX5_joins_61 : decode cX5_joins 61 = .ok (.getfield 434, 3) := dk_180 1 178 (dk_at dksX5_joins_2 14 rfl rfl)
theorem dX5_joins_64 : decode cX5_joins 64 = .ok (.iaload, 1) := dk_46 (dk_at dksX5_joins_2 17 rfl rfl)
theorem dX5_joins_65 : decode cX5_joins 65 = .ok (.iconst 0, 1) := dk_3 (dk_at dksX5_joins_2 18 rfl rfl)
theorem dX5_joins_66 : decode cX5_joins 66 = .ok (.iconst 0, 1) := dk_3 (dk_at dksX5_joins_2 19 rfl rfl)
theorem dX5_joins_67 : decode cX5_joins 67 = .ok (.invokevirtual 437, 3) := dk_182 1 181 (dk_at dksX5_joins_2 20 rfl rfl)
theorem dX5_joins_70 : decode cX5_joins 70 = .ok (.goto (-70), 3) := dk_167 255 186 (dk_at dksX5_joins_3 0 rfl rfl)
theorem dX5_joins_73 : decode cX5_joins 73 = .ok (.return_, 1) := dk_177 (dk_at dksX5_joins_3 3 rfl rfl)
abbrev cX5_behind : ByteArray := prog_26_method_107_code
def yX5_behind : MethodName := ⟨RX5, "behind", "()Z"⟩
def dkwX5_behind_6 : List UInt8 := [42, 182, 0, 186, 4, 172]
abbrev dktX5_behind_6 : List UInt8 := dkwX5_behind_6 ++ []
def dkwX5_behind_5 : List UInt8 := [182, 0, 183, 172, 42, 89, 180, 1, 178, 4, 100, 181, 1, 178, 42, 89, 180, 1, 184, 4, 100, 181, 1, 184]
abbrev dktX5_behind_5 : List UInt8 := dkwX5_behind_5 ++ dktX5_behind_6
def dkwX5_behind_4 : List UInt8 := [16, 22, 182, 1, 199, 42, 16, 41, 182, 0, 180, 153, 0, 10, 42, 180, 1, 178, 154, 0, 9, 42, 4]
abbrev dktX5_behind_4 : List UInt8 := dkwX5_behind_4 ++ dktX5_behind_5
def dkwX5_behind_3 : List UInt8 := [79, 42, 89, 180, 1, 178, 4, 96, 181, 1, 178, 42, 3, 181, 1, 193, 42, 182, 0, 186, 4, 172, 42]
abbrev dktX5_behind_3 : List UInt8 := dkwX5_behind_3 ++ dktX5_behind_4
def dkwX5_behind_2 : List UInt8 := [180, 0, 80, 42, 180, 1, 178, 42, 20, 0, 124, 182, 0, 220, 153, 0, 8, 16, 21, 167, 0, 5, 16, 22]
abbrev dktX5_behind_2 : List UInt8 := dkwX5_behind_2 ++ dktX5_behind_3
def dkwX5_behind_1 : List UInt8 := [42, 42, 20, 0, 124, 182, 0, 220, 153, 0, 8, 16, 21, 167, 0, 5, 16, 22, 182, 1, 199, 42]
abbrev dktX5_behind_1 : List UInt8 := dkwX5_behind_1 ++ dktX5_behind_2
def dkwX5_behind_0 : List UInt8 := [42, 182, 1, 196, 42, 20, 0, 124, 182, 0, 220, 154, 0, 13, 42, 20, 0, 122, 182, 0, 220, 153, 0, 71]
abbrev dktX5_behind_0 : List UInt8 := dkwX5_behind_0 ++ dktX5_behind_1
theorem dksX5_behind_0 : cX5_behind.data.toList.drop 0 = dktX5_behind_0 := by decide +kernel
theorem dksX5_behind_1 : cX5_behind.data.toList.drop 24 = dktX5_behind_1 := dk_seg dksX5_behind_0 24 rfl rfl
theorem dksX5_behind_2 : cX5_behind.data.toList.drop 46 = dktX5_behind_2 := dk_seg dksX5_behind_1 22 rfl rfl
theorem dksX5_behind_3 : cX5_behind.data.toList.drop 70 = dktX5_behind_3 := dk_seg dksX5_behind_2 24 rfl rfl
theorem dksX5_behind_4 : cX5_behind.data.toList.drop 93 = dktX5_behind_4 := dk_seg dksX5_behind_3 23 rfl rfl
theorem dksX5_behind_5 : cX5_behind.data.toList.drop 116 = dktX5_behind_5 := dk_seg dksX5_behind_4 23 rfl rfl
theorem dksX5_behind_6 : cX5_behind.data.toList.drop 140 = dktX5_behind_6 := dk_seg dksX5_behind_5 24 rfl rfl
theorem dX5_behind_0 : decode cX5_behind 0 = .ok (.aload_n 0, 1) := dk_42 (dk_at dksX5_behind_0 0 rfl rfl)
theorem dX5_behind_1 : decode cX5_behind 1 = .ok (.invokevirtual 452, 3) := dk_182 1 196 (dk_at dksX5_behind_0 1 rfl rfl)
theorem dX5_behind_4 : decode cX5_behind 4 = .ok (.aload_n 0, 1) := dk_42 (dk_at dksX5_behind_0 4 rfl rfl)
theorem dX5_behind_5 : decode cX5_behind 5 = .ok (.ldc2_w 124, 3) := dk_20 0 124 (dk_at dksX5_behind_0 5 rfl rfl)
theorem dX5_behind_8 : decode cX5_behind 8 = .ok (.invokevirtual 220, 3) := dk_182 0 220 (dk_at dksX5_behind_0 8 rfl rfl)
theorem dX5_behind_11 : decode cX5_behind 11 = .ok (.ifCond .ne 13, 3) := dk_154 0 13 (dk_at dksX5_behind_0 11 rfl rfl)
theorem dX5_behind_14 : decode cX5_behind 14 = .ok (.aload_n 0, 1) := dk_42 (dk_at dksX5_behind_0 14 rfl rfl)
theorem dX5_behind_15 : decode cX5_behind 15 = .ok (.ldc2_w 122, 3) := dk_20 0 122 (dk_at dksX5_behind_0 15 rfl rfl)
theorem dX5_behind_18 : decode cX5_behind 18 = .ok (.invokevirtual 220, 3) := dk_182 0 220 (dk_at dksX5_behind_0 18 rfl rfl)
theorem dX5_behind_21 : decode cX5_behind 21 = .ok (.ifCond .eq 71, 3) := dk_153 0 71 (dk_at dksX5_behind_0 21 rfl rfl)
theorem dX5_behind_24 : decode cX5_behind 24 = .ok (.aload_n 0, 1) := dk_42 (dk_at dksX5_behind_1 0 rfl rfl)
theorem dX5_behind_25 : decode cX5_behind 25 = .ok (.aload_n 0, 1) := dk_42 (dk_at dksX5_behind_1 1 rfl rfl)
theorem dX5_behind_26 : decode cX5_behind 26 = .ok (.ldc2_w 124, 3) := dk_20 0 124 (dk_at dksX5_behind_1 2 rfl rfl)
theorem dX5_behind_29 : decode cX5_behind 29 = .ok (.invokevirtual 220, 3) := dk_182 0 220 (dk_at dksX5_behind_1 5 rfl rfl)
theorem dX5_behind_32 : decode cX5_behind 32 = .ok (.ifCond .eq 8, 3) := dk_153 0 8 (dk_at dksX5_behind_1 8 rfl rfl)
theorem dX5_behind_35 : decode cX5_behind 35 = .ok (.bipush 21, 2) := dk_16 21 (dk_at dksX5_behind_1 11 rfl rfl)
theorem dX5_behind_37 : decode cX5_behind 37 = .ok (.goto 5, 3) := dk_167 0 5 (dk_at dksX5_behind_1 13 rfl rfl)
theorem dX5_behind_40 : decode cX5_behind 40 = .ok (.bipush 22, 2) := dk_16 22 (dk_at dksX5_behind_1 16 rfl rfl)
theorem dX5_behind_42 : decode cX5_behind 42 = .ok (.invokevirtual 455, 3) := dk_182 1 199 (dk_at dksX5_behind_1 18 rfl rfl)
theorem dX5_behind_45 : decode cX5_behind 45 = .ok (.aload_n 0, 1) := dk_42 (dk_at dksX5_behind_1 21 rfl rfl)
theorem dX5_behind_46 : decode cX5_behind 46 = .ok (.getfield 80, 3) := dk_180 0 80 (dk_at dksX5_behind_2 0 rfl rfl)
theorem dX5_behind_49 : decode cX5_behind 49 = .ok (.aload_n 0, 1) := dk_42 (dk_at dksX5_behind_2 3 rfl rfl)
theorem dX5_behind_50 : decode cX5_behind 50 = .ok (.getfield 434, 3) := dk_180 1 178 (dk_at dksX5_behind_2 4 rfl rfl)
theorem dX5_behind_53 : decode cX5_behind 53 = .ok (.aload_n 0, 1) := dk_42 (dk_at dksX5_behind_2 7 rfl rfl)
theorem dX5_behind_54 : decode cX5_behind 54 = .ok (.ldc2_w 124, 3) := dk_20 0 124 (dk_at dksX5_behind_2 8 rfl rfl)
theorem dX5_behind_57 : decode cX5_behind 57 = .ok (.invokevirtual 220, 3) := dk_182 0 220 (dk_at dksX5_behind_2 11 rfl rfl)
theorem dX5_behind_60 : decode cX5_behind 60 = .ok (.ifCond .eq 8, 3) := dk_153 0 8 (dk_at dksX5_behind_2 14 rfl rfl)
theorem dX5_behind_63 : decode cX5_behind 63 = .ok (.bipush 21, 2) := dk_16 21 (dk_at dksX5_behind_2 17 rfl rfl)
theorem dX5_behind_65 : decode cX5_behind 65 = .ok (.goto 5, 3) := dk_167 0 5 (dk_at dksX5_behind_2 19 rfl rfl)
theorem dX5_behind_68 : decode cX5_behind 68 = .ok (.bipush 22, 2) := dk_16 22 (dk_at dksX5_behind_2 22 rfl rfl)
theorem dX5_behind_70 : decode cX5_behind 70 = .ok (.iastore, 1) := dk_79 (dk_at dksX5_behind_3 0 rfl rfl)
theorem dX5_behind_71 : decode cX5_behind 71 = .ok (.aload_n 0, 1) := dk_42 (dk_at dksX5_behind_3 1 rfl rfl)
theorem dX5_behind_72 : decode cX5_behind 72 = .ok (.dup, 1) := dk_89 (dk_at dksX5_behind_3 2 rfl rfl)
theorem dX5_behind_73 : decode cX5_behind 73 = .ok (.getfield 434, 3) := dk_180 1 178 (dk_at dksX5_behind_3 3 rfl rfl)
theorem dX5_behind_76 : decode cX5_behind 76 = .ok (.iconst 1, 1) := dk_4 (dk_at dksX5_behind_3 6 rfl rfl)
theorem dX5_behind_77 : decode cX5_behind 77 = .ok (.iadd, 1) := dk_96 (dk_at dksX5_behind_3 7 rfl rfl)
theorem dX5_behind_78 : decode cX5_behind 78 = .ok (.putfield 434, 3) := dk_181 1 178 (dk_at dksX5_behind_3 8 rfl rfl)
theorem dX5_behind_81 : decode cX5_behind 81 = .ok (.aload_n 0, 1) := dk_42 (dk_at dksX5_behind_3 11 rfl rfl)
theorem dX5_behind_82 : decode cX5_behind 82 = .ok (.iconst 0, 1) := dk_3 (dk_at dksX5_behind_3 12 rfl rfl)
theorem dX5_behind_83 : decode cX5_behind 83 = .ok (.putfield 449, 3) := dk_181 1 193 (dk_at dksX5_behind_3 13 rfl rfl)
theorem dX5_behind_86 : decode cX5_behind 86 = .ok (.aload_n 0, 1) := dk_42 (dk_at dksX5_behind_3 16 rfl rfl)
theorem dX5_behind_87 : decode cX5_behind 87 = .ok (.invokevirtual 186, 3) := dk_182 0 186 (dk_at dksX5_behind_3 17 rfl rfl)
theorem dX5_behind_90 : decode cX5_behind 90 = .ok (.iconst 1, 1) := dk_4 (dk_at dksX5_behind_3 20 rfl rfl)
theorem dX5_behind_91 : decode cX5_behind 91 = .ok (.ireturn, 1) := dk_172 (dk_at dksX5_behind_3 21 rfl rfl)
theorem dX5_behind_92 : decode cX5_behind 92 = .ok (.aload_n 0, 1) := dk_42 (dk_at dksX5_behind_3 22 rfl rfl)
theorem dX5_behind_93 : decode cX5_behind 93 = .ok (.bipush 22, 2) := dk_16 22 (dk_at dksX5_behind_4 0 rfl rfl)
theorem dX5_behind_95 : decode cX5_behind 95 = .ok (.invokevirtual 455, 3) := dk_182 1 199 (dk_at dksX5_behind_4 2 rfl rfl)
theorem dX5_behind_98 : decode cX5_behind 98 = .ok (.aload_n 0, 1) := dk_42 (dk_at dksX5_behind_4 5 rfl rfl)
theorem dX5_behind_99 : decode cX5_behind 99 = .ok (.bipush 41, 2) := dk_16 41 (dk_at dksX5_behind_4 6 rfl rfl)
theorem dX5_behind_101 : decode cX5_behind 101 = .ok (.invokevirtual 180, 3) := dk_182 0 180 (dk_at dksX5_behind_4 8 rfl rfl)
theorem dX5_behind_104 : decode cX5_behind 104 = .ok (.ifCond .eq 10, 3) := dk_153 0 10 (dk_at dksX5_behind_4 11 rfl rfl)
theorem dX5_behind_107 : decode cX5_behind 107 = .ok (.aload_n 0, 1) := dk_42 (dk_at dksX5_behind_4 14 rfl rfl)
theorem dX5_behind_108 : decode cX5_behind 108 = .ok (.getfield 434, 3) := dk_180 1 178 (dk_at dksX5_behind_4 15 rfl rfl)
theorem dX5_behind_111 : decode cX5_behind 111 = .ok (.ifCond .ne 9, 3) := dk_154 0 9 (dk_at dksX5_behind_4 18 rfl rfl)
theorem dX5_behind_114 : decode cX5_behind 114 = .ok (.aload_n 0, 1) := dk_42 (dk_at dksX5_behind_4 21 rfl rfl)
theorem dX5_behind_115 : decode cX5_behind 115 = .ok (.iconst 1, 1) := dk_4 (dk_at dksX5_behind_4 22 rfl rfl)
theorem dX5_behind_116 : decode cX5_behind 116 = .ok (.invokevirtual 183, 3) := dk_182 0 183 (dk_at dksX5_behind_5 0 rfl rfl)
theorem dX5_behind_119 : decode cX5_behind 119 = .ok (.ireturn, 1) := dk_172 (dk_at dksX5_behind_5 3 rfl rfl)
theorem dX5_behind_120 : decode cX5_behind 120 = .ok (.aload_n 0, 1) := dk_42 (dk_at dksX5_behind_5 4 rfl rfl)
theorem dX5_behind_121 : decode cX5_behind 121 = .ok (.dup, 1) := dk_89 (dk_at dksX5_behind_5 5 rfl rfl)
theorem dX5_behind_122 : decode cX5_behind 122 = .ok (.getfield 434, 3) := dk_180 1 178 (dk_at dksX5_behind_5 6 rfl rfl)
theorem dX5_behind_125 : decode cX5_behind 125 = .ok (.iconst 1, 1) := dk_4 (dk_at dksX5_behind_5 9 rfl rfl)
theorem dX5_behind_126 : decode cX5_behind 126 = .ok (.isub, 1) := dk_100 (dk_at dksX5_behind_5 10 rfl rfl)
theorem dX5_behind_127 : decode cX5_behind 127 = .ok (.putfield 434, 3) := dk_181 1 178 (dk_at dksX5_behind_5 11 rfl rfl)
theorem dX5_behind_130 : decode cX5_behind 130 = .ok (.aload_n 0, 1) := dk_42 (dk_at dksX5_behind_5 14 rfl rfl)
theorem dX5_behind_131 : decode cX5_behind 131 = .ok (.dup, 1) := dk_89 (dk_at dksX5_behind_5 15 rfl rfl)
theorem dX5_behind_132 : decode cX5_behind 132 = .ok (.getfield 440, 3) := dk_180 1 184 (dk_at dksX5_behind_5 16 rfl rfl)
theorem dX5_behind_135 : decode cX5_behind 135 = .ok (.iconst 1, 1) := dk_4 (dk_at dksX5_behind_5 19 rfl rfl)
theorem dX5_behind_136 : decode cX5_behind 136 = .ok (.isub, 1) := dk_100 (dk_at dksX5_behind_5 20 rfl rfl)
theorem dX5_behind_137 : decode cX5_behind 137 = .ok (.putfield 440, 3) := dk_181 1 184 (dk_at dksX5_behind_5 21 rfl rfl)
theorem dX5_behind_140 : decode cX5_behind 140 = .ok (.aload_n 0, 1) := dk_42 (dk_at dksX5_behind_6 0 rfl rfl)
theorem dX5_behind_141 : decode cX5_behind 141 = .ok (.invokevirtual 186, 3) := dk_182 0 186 (dk_at dksX5_behind_6 1 rfl rfl)
theorem dX5_behind_144 : decode cX5_behind 144 = .ok (.iconst 1, 1) := dk_4 (dk_at dksX5_behind_6 4 rfl rfl)
theorem dX5_behind_145 : decode cX5_behind 145 = .ok (.ireturn, 1) := dk_172 (dk_at dksX5_behind_6 5 rfl rfl)
abbrev cX5_operand : ByteArray := prog_26_method_106_code
def yX5_operand : MethodName := ⟨RX5, "operand", "()Z"⟩
def dkwX5_operand_11 : List UInt8 := [42, 29, 21, 4, 42, 180, 0, 167, 182, 1, 181, 42, 182, 0, 186, 4, 172]
abbrev dktX5_operand_11 : List UInt8 := dkwX5_operand_11 ++ []
def dkwX5_operand_10 : List UInt8 := [42, 180, 0, 167, 54, 4, 42, 182, 0, 186, 42, 180, 0, 157, 5, 159, 0, 9, 42, 4, 182, 0, 183, 172]
abbrev dktX5_operand_10 : List UInt8 := dkwX5_operand_10 ++ dktX5_operand_11
def dkwX5_operand_9 : List UInt8 := [42, 180, 0, 167, 16, 60, 161, 0, 12, 42, 180, 0, 167, 16, 62, 164, 0, 9, 42, 4, 182, 0, 183, 172]
abbrev dktX5_operand_9 : List UInt8 := dkwX5_operand_9 ++ dktX5_operand_10
def dkwX5_operand_8 : List UInt8 := [42, 29, 3, 42, 180, 0, 193, 182, 1, 181, 42, 182, 0, 186, 4, 172, 42, 180, 0, 157, 6, 160, 0, 21]
abbrev dktX5_operand_8 : List UInt8 := dkwX5_operand_8 ++ dktX5_operand_9
def dkwX5_operand_7 : List UInt8 := [167, 0, 15, 42, 16, 7, 42, 180, 0, 33, 4, 46, 182, 0, 208, 54, 4, 21, 4, 154, 0, 5, 3, 172]
abbrev dktX5_operand_7 : List UInt8 := dkwX5_operand_7 ++ dktX5_operand_8
def dkwX5_operand_6 : List UInt8 := [172, 29, 16, 6, 162, 0, 59, 29, 7, 160, 0, 17, 42, 3, 42, 180, 0, 33, 3, 46, 182, 0, 208]
abbrev dktX5_operand_6 : List UInt8 := dkwX5_operand_6 ++ dktX5_operand_7
def dkwX5_operand_5 : List UInt8 := [96, 181, 1, 184, 4, 172, 42, 4, 181, 1, 193, 29, 7, 162, 0, 12, 42, 29, 3, 3, 182, 1, 181, 4]
abbrev dktX5_operand_5 : List UInt8 := dkwX5_operand_5 ++ dktX5_operand_6
def dkwX5_operand_4 : List UInt8 := [16, 20, 167, 0, 5, 16, 23, 79, 42, 89, 180, 1, 178, 4, 96, 181, 1, 178, 42, 89, 180, 1, 184, 4]
abbrev dktX5_operand_4 : List UInt8 := dkwX5_operand_4 ++ dktX5_operand_5
def dkwX5_operand_3 : List UInt8 := [42, 182, 0, 186, 27, 154, 0, 7, 28, 153, 0, 45, 42, 180, 0, 80, 42, 180, 1, 178, 27, 153, 0, 8]
abbrev dktX5_operand_3 : List UInt8 := dkwX5_operand_3 ++ dktX5_operand_4
def dkwX5_operand_2 : List UInt8 := [180, 1, 184, 16, 8, 164, 0, 9, 42, 7, 182, 0, 183, 172, 42, 89, 180, 1, 190, 4, 96, 181, 1, 190]
abbrev dktX5_operand_2 : List UInt8 := dkwX5_operand_2 ++ dktX5_operand_3
def dkwX5_operand_1 : List UInt8 := [28, 154, 0, 13, 29, 156, 0, 9, 42, 4, 182, 0, 183, 172, 42, 180, 1, 190, 16, 20, 159, 0, 12, 42]
abbrev dktX5_operand_1 : List UInt8 := dkwX5_operand_1 ++ dktX5_operand_2
def dkwX5_operand_0 : List UInt8 := [42, 20, 0, 126, 182, 0, 220, 60, 42, 16, 40, 182, 0, 180, 61, 42, 182, 1, 187, 62, 27, 154, 0, 17]
abbrev dktX5_operand_0 : List UInt8 := dkwX5_operand_0 ++ dktX5_operand_1
theorem dksX5_operand_0 : cX5_operand.data.toList.drop 0 = dktX5_operand_0 := by decide +kernel
theorem dksX5_operand_1 : cX5_operand.data.toList.drop 24 = dktX5_operand_1 := dk_seg dksX5_operand_0 24 rfl rfl
theorem dksX5_operand_2 : cX5_operand.data.toList.drop 48 = dktX5_operand_2 := dk_seg dksX5_operand_1 24 rfl rfl
theorem dksX5_operand_3 : cX5_operand.data.toList.drop 72 = dktX5_operand_3 := dk_seg dksX5_operand_2 24 rfl rfl
theorem dksX5_operand_4 : cX5_operand.data.toList.drop 96 = dktX5_operand_4 := dk_seg dksX5_operand_3 24 rfl rfl
theorem dksX5_operand_5 : cX5_operand.data.toList.drop 120 = dktX5_operand_5 := dk_seg dksX5_operand_4 24 rfl rfl
theorem dksX5_operand_6 : cX5_operand.data.toList.drop 144 = dktX5_operand_6 := dk_seg dksX5_operand_5 24 rfl rfl
theorem dksX5_operand_7 : cX5_operand.data.toList.drop 167 = dktX5_operand_7 := dk_seg dksX5_operand_6 23 rfl rfl
theorem dksX5_operand_8 : cX5_operand.data.toList.drop 191 = dktX5_operand_8 := dk_seg dksX5_operand_7 24 rfl rfl
theorem dksX5_operand_9 : cX5_operand.data.toList.drop 215 = dktX5_operand_9 := dk_seg dksX5_operand_8 24 rfl rfl
theorem dksX5_operand_10 : cX5_operand.data.toList.drop 239 = dktX5_operand_10 := dk_seg dksX5_operand_9 24 rfl rfl
theorem dksX5_operand_11 : cX5_operand.data.toList.drop 263 = dktX5_operand_11 := dk_seg dksX5_operand_10 24 rfl rfl
theorem dX5_operand_0 : decode cX5_operand 0 = .ok (.aload_n 0, 1) := dk_42 (dk_at dksX5_operand_0 0 rfl rfl)
theorem dX5_operand_1 : decode cX5_operand 1 = .ok (.ldc2_w 126, 3) := dk_20 0 126 (dk_at dksX5_operand_0 1 rfl rfl)
theorem dX5_operand_4 : decode cX5_operand 4 = .ok (.invokevirtual 220, 3) := dk_182 0 220 (dk_at dksX5_operand_0 4 rfl rfl)
theorem dX5_operand_7 : decode cX5_operand 7 = .ok (.istore_n 1, 1) := dk_60 (dk_at dksX5_operand_0 7 rfl rfl)
theorem dX5_operand_8 : decode cX5_operand 8 = .ok (.aload_n 0, 1) := dk_42 (dk_at dksX5_operand_0 8 rfl rfl)
theorem dX5_operand_9 : decode cX5_operand 9 = .ok (.bipush 40, 2) := dk_16 40 (dk_at dksX5_operand_0 9 rfl rfl)
theorem dX5_operand_11 : decode cX5_operand 11 = .ok (.invokevirtual 180, 3) := dk_182 0 180 (dk_at dksX5_operand_0 11 rfl rfl)
theorem dX5_operand_14 : decode cX5_operand 14 = .ok (.istore_n 2, 1) := dk_61 (dk_at dksX5_operand_0 14 rfl rfl)
theorem dX5_operand_15 : decode cX5_operand 15 = .ok (.aload_n 0, 1) := dk_42 (dk_at dksX5_operand_0 15 rfl rfl)
theorem dX5_operand_16 : decode cX5_operand 16 = .ok (.invokevirtual 443, 3) := dk_182 1 187 (dk_at dksX5_operand_0 16 rfl rfl)
theorem dX5_operand_19 : decode cX5_operand 19 = .ok (.istore_n 3, 1) := dk_62 (dk_at dksX5_operand_0 19 rfl rfl)
theorem dX5_operand_20 : decode cX5_operand 20 = .ok (.iload_n 1, 1) := dk_27 (dk_at dksX5_operand_0 20 rfl rfl)
theorem dX5_operand_21 : decode cX5_operand 21 = .ok (.ifCond .ne 17, 3) := dk_154 0 17 (dk_at dksX5_operand_0 21 rfl rfl)
theorem dX5_operand_24 : decode cX5_operand 24 = .ok (.iload_n 2, 1) := dk_28 (dk_at dksX5_operand_1 0 rfl rfl)
theorem dX5_operand_25 : decode cX5_operand 25 = .ok (.ifCond .ne 13, 3) := dk_154 0 13 (dk_at dksX5_operand_1 1 rfl rfl)
theorem dX5_operand_28 : decode cX5_operand 28 = .ok (.iload_n 3, 1) := dk_29 (dk_at dksX5_operand_1 4 rfl rfl)
theorem dX5_operand_29 : decode cX5_operand 29 = .ok (.ifCond .ge 9, 3) := dk_156 0 9 (dk_at dksX5_operand_1 5 rfl rfl)
theorem dX5_operand_32 : decode cX5_operand 32 = .ok (.aload_n 0, 1) := dk_42 (dk_at dksX5_operand_1 8 rfl rfl)
theorem dX5_operand_33 : decode cX5_operand 33 = .ok (.iconst 1, 1) := dk_4 (dk_at dksX5_operand_1 9 rfl rfl)
theorem dX5_operand_34 : decode cX5_operand 34 = .ok (.invokevirtual 183, 3) := dk_182 0 183 (dk_at dksX5_operand_1 10 rfl rfl)
theorem dX5_operand_37 : decode cX5_operand 37 = .ok (.ireturn, 1) := dk_172 (dk_at dksX5_operand_1 13 rfl rfl)
theorem dX5_operand_38 : decode cX5_operand 38 = .ok (.aload_n 0, 1) := dk_42 (dk_at dksX5_operand_1 14 rfl rfl)
theorem dX5_operand_39 : decode cX5_operand 39 = .ok (.getfield 446, 3) := dk_180 1 190 (dk_at dksX5_operand_1 15 rfl rfl)
theorem dX5_operand_42 : decode cX5_operand 42 = .ok (.bipush 20, 2) := dk_16 20 (dk_at dksX5_operand_1 18 rfl rfl)
theorem dX5_operand_44 : decode cX5_operand 44 = .ok (.if_icmp .eq 12, 3) := dk_159 0 12 (dk_at dksX5_operand_1 20 rfl rfl)
theorem dX5_operand_47 : decode cX5_operand 47 = .ok (.aload_n 0, 1) := dk_42 (dk_at dksX5_operand_1 23 rfl rfl)
theorem dX5_operand_48 : decode cX5_operand 48 = .ok (.getfield 440, 3) := dk_180 1 184 (dk_at dksX5_operand_2 0 rfl rfl)
theorem dX5_operand_51 : decode cX5_operand 51 = .ok (.bipush 8, 2) := dk_16 8 (dk_at dksX5_operand_2 3 rfl rfl)
theorem dX5_operand_53 : decode cX5_operand 53 = .ok (.if_icmp .le 9, 3) := dk_164 0 9 (dk_at dksX5_operand_2 5 rfl rfl)
theorem dX5_operand_56 : decode cX5_operand 56 = .ok (.aload_n 0, 1) := dk_42 (dk_at dksX5_operand_2 8 rfl rfl)
theorem dX5_operand_57 : decode cX5_operand 57 = .ok (.iconst 4, 1) := dk_7 (dk_at dksX5_operand_2 9 rfl rfl)
theorem dX5_operand_58 : decode cX5_operand 58 = .ok (.invokevirtual 183, 3) := dk_182 0 183 (dk_at dksX5_operand_2 10 rfl rfl)
theorem dX5_operand_61 : decode cX5_operand 61 = .ok (.ireturn, 1) := dk_172 (dk_at dksX5_operand_2 13 rfl rfl)
theorem dX5_operand_62 : decode cX5_operand 62 = .ok (.aload_n 0, 1) := dk_42 (dk_at dksX5_operand_2 14 rfl rfl)
theorem dX5_operand_63 : decode cX5_operand 63 = .ok (.dup, 1) := dk_89 (dk_at dksX5_operand_2 15 rfl rfl)
theorem dX5_operand_64 : decode cX5_operand 64 = .ok (.getfield 446, 3) := dk_180 1 190 (dk_at dksX5_operand_2 16 rfl rfl)
theorem dX5_operand_67 : decode cX5_operand 67 = .ok (.iconst 1, 1) := dk_4 (dk_at dksX5_operand_2 19 rfl rfl)
theorem dX5_operand_68 : decode cX5_operand 68 = .ok (.iadd, 1) := dk_96 (dk_at dksX5_operand_2 20 rfl rfl)
theorem dX5_operand_69 : decode cX5_operand 69 = .ok (.putfield 446, 3) := dk_181 1 190 (dk_at dksX5_operand_2 21 rfl rfl)
theorem dX5_operand_72 : decode cX5_operand 72 = .ok (.aload_n 0, 1) := dk_42 (dk_at dksX5_operand_3 0 rfl rfl)
theorem dX5_operand_73 : decode cX5_operand 73 = .ok (.invokevirtual 186, 3) := dk_182 0 186 (dk_at dksX5_operand_3 1 rfl rfl)
theorem dX5_operand_76 : decode cX5_operand 76 = .ok (.iload_n 1, 1) := dk_27 (dk_at dksX5_operand_3 4 rfl rfl)
theorem dX5_operand_77 : decode cX5_operand 77 = .ok (.ifCond .ne 7, 3) := dk_154 0 7 (dk_at dksX5_operand_3 5 rfl rfl)
theorem dX5_operand_80 : decode cX5_operand 80 = .ok (.iload_n 2, 1) := dk_28 (dk_at dksX5_operand_3 8 rfl rfl)
theorem dX5_operand_81 : decode cX5_operand 81 = .ok (.ifCond .eq 45, 3) := dk_153 0 45 (dk_at dksX5_operand_3 9 rfl rfl)
theorem dX5_operand_84 : decode cX5_operand 84 = .ok (.aload_n 0, 1) := dk_42 (dk_at dksX5_operand_3 12 rfl rfl)
theorem dX5_operand_85 : decode cX5_operand 85 = .ok (.getfield 80, 3) := dk_180 0 80 (dk_at dksX5_operand_3 13 rfl rfl)
theorem dX5_operand_88 : decode cX5_operand 88 = .ok (.aload_n 0, 1) := dk_42 (dk_at dksX5_operand_3 16 rfl rfl)
theorem dX5_operand_89 : decode cX5_operand 89 = .ok (.getfield 434, 3) := dk_180 1 178 (dk_at dksX5_operand_3 17 rfl rfl)
theorem dX5_operand_92 : decode cX5_operand 92 = .ok (.iload_n 1, 1) := dk_27 (dk_at dksX5_operand_3 20 rfl rfl)
theorem dX5_operand_93 : decode cX5_operand 93 = .ok (.ifCond .eq 8, 3) := dk_153 0 8 (dk_at dksX5_operand_3 21 rfl rfl)
theorem dX5_operand_96 : decode cX5_operand 96 = .ok (.bipush 20, 2) := dk_16 20 (dk_at dksX5_operand_4 0 rfl rfl)
theorem dX5_operand_98 : decode cX5_operand 98 = .ok (.goto 5, 3) := dk_167 0 5 (dk_at dksX5_operand_4 2 rfl rfl)
theorem dX5_operand_101 : decode cX5_operand 101 = .ok (.bipush 23, 2) := dk_16 23 (dk_at dksX5_operand_4 5 rfl rfl)
theorem dX5_operand_103 : decode cX5_operand 103 = .ok (.iastore, 1) := dk_79 (dk_at dksX5_operand_4 7 rfl rfl)
theorem dX5_operand_104 : decode cX5_operand 104 = .ok (.aload_n 0, 1) := dk_42 (dk_at dksX5_operand_4 8 rfl rfl)
theorem dX5_operand_105 : decode cX5_operand 105 = .ok (.dup, 1) := dk_89 (dk_at dksX5_operand_4 9 rfl rfl)
theorem dX5_operand_106 : decode cX5_operand 106 = .ok (.getfield 434, 3) := dk_180 1 178 (dk_at dksX5_operand_4 10 rfl rfl)
theorem dX5_operand_109 : decode cX5_operand 109 = .ok (.iconst 1, 1) := dk_4 (dk_at dksX5_operand_4 13 rfl rfl)
theorem dX5_operand_110 : decode cX5_operand 110 = .ok (.iadd, 1) := dk_96 (dk_at dksX5_operand_4 14 rfl rfl)
theorem dX5_operand_111 : decode cX5_operand 111 = .ok (.putfield 434, 3) := dk_181 1 178 (dk_at dksX5_operand_4 15 rfl rfl)
theorem dX5_operand_114 : decode cX5_operand 114 = .ok (.aload_n 0, 1) := dk_42 (dk_at dksX5_operand_4 18 rfl rfl)
theorem dX5_operand_115 : decode cX5_operand 115 = .ok (.dup, 1) := dk_89 (dk_at dksX5_operand_4 19 rfl rfl)
theorem dX5_operand_116 : decode cX5_operand 116 = .ok (.getfield 440, 3) := dk_180 1 184 (dk_at dksX5_operand_4 20 rfl rfl)
theorem dX5_operand_119 : decode cX5_operand 119 = .ok (.iconst 1, 1) := dk_4 (dk_at dksX5_operand_4 23 rfl rfl)
theorem dX5_operand_120 : decode cX5_operand 120 = .ok (.iadd, 1) := dk_96 (dk_at dksX5_operand_5 0 rfl rfl)
theorem dX5_operand_121 : decode cX5_operand 121 = .ok (.putfield 440, 3) := dk_181 1 184 (dk_at dksX5_operand_5 1 rfl rfl)
theorem dX5_operand_124 : decode cX5_operand 124 = .ok (.iconst 1, 1) := dk_4 (dk_at dksX5_operand_5 4 rfl rfl)
theorem dX5_operand_125 : decode cX5_operand 125 = .ok (.ireturn, 1) := dk_172 (dk_at dksX5_operand_5 5 rfl rfl)
theorem dX5_operand_126 : decode cX5_operand 126 = .ok (.aload_n 0, 1) := dk_42 (dk_at dksX5_operand_5 6 rfl rfl)
theorem dX5_operand_127 : decode cX5_operand 127 = .ok (.iconst 1, 1) := dk_4 (dk_at dksX5_operand_5 7 rfl rfl)
theorem dX5_operand_128 : decode cX5_operand 128 = .ok (.putfield 449, 3) := dk_181 1 193 (dk_at dksX5_operand_5 8 rfl rfl)
theorem dX5_operand_131 : decode cX5_operand 131 = .ok (.iload_n 3, 1) := dk_29 (dk_at dksX5_operand_5 11 rfl rfl)
theorem dX5_operand_132 : decode cX5_operand 132 = .ok (.iconst 4, 1) := dk_7 (dk_at dksX5_operand_5 12 rfl rfl)
theorem dX5_operand_133 : decode cX5_operand 133 = .ok (.if_icmp .ge 12, 3) := dk_162 0 12 (dk_at dksX5_operand_5 13 rfl rfl)
theorem dX5_operand_136 : decode cX5_operand 136 = .ok (.aload_n 0, 1) := dk_42 (dk_at dksX5_operand_5 16 rfl rfl)
theorem dX5_operand_137 : decode cX5_operand 137 = .ok (.iload_n 3, 1) := dk_29 (dk_at dksX5_operand_5 17 rfl rfl)
theorem dX5_operand_138 : decode cX5_operand 138 = .ok (.iconst 0, 1) := dk_3 (dk_at dksX5_operand_5 18 rfl rfl)
theorem dX5_operand_139 : decode cX5_operand 139 = .ok (.iconst 0, 1) := dk_3 (dk_at dksX5_operand_5 19 rfl rfl)
theorem dX5_operand_140 : decode cX5_operand 140 = .ok (.invokevirtual 437, 3) := dk_182 1 181 (dk_at dksX5_operand_5 20 rfl rfl)
theorem dX5_operand_143 : decode cX5_operand 143 = .ok (.iconst 1, 1) := dk_4 (dk_at dksX5_operand_5 23 rfl rfl)
theorem dX5_operand_144 : decode cX5_operand 144 = .ok (.ireturn, 1) := dk_172 (dk_at dksX5_operand_6 0 rfl rfl)
theorem dX5_operand_145 : decode cX5_operand 145 = .ok (.iload_n 3, 1) := dk_29 (dk_at dksX5_operand_6 1 rfl rfl)
theorem dX5_operand_146 : decode cX5_operand 146 = .ok (.bipush 6, 2) := dk_16 6 (dk_at dksX5_operand_6 2 rfl rfl)
theorem dX5_operand_148 : decode cX5_operand 148 = .ok (.if_icmp .ge 59, 3) := dk_162 0 59 (dk_at dksX5_operand_6 4 rfl rfl)
theorem dX5_operand_151 : decode cX5_operand 151 = .ok (.iload_n 3, 1) := dk_29 (dk_at dksX5_operand_6 7 rfl rfl)
theorem dX5_operand_152 : decode cX5_operand 152 = .ok (.iconst 4, 1) := dk_7 (dk_at dksX5_operand_6 8 rfl rfl)
theorem dX5_operand_153 : decode cX5_operand 153 = .ok (.if_icmp .ne 17, 3) := dk_160 0 17 (dk_at dksX5_operand_6 9 rfl rfl)
theorem dX5_operand_156 : decode cX5_operand 156 = .ok (.aload_n 0, 1) := dk_42 (dk_at dksX5_operand_6 12 rfl rfl)
theorem dX5_operand_157 : decode cX5_operand 157 = .ok (.iconst 0, 1) := dk_3 (dk_at dksX5_operand_6 13 rfl rfl)
theorem dX5_operand_158 : decode cX5_operand 158 = .ok (.aload_n 0, 1) := dk_42 (dk_at dksX5_operand_6 14 rfl rfl)
theorem dX5_operand_159 : decode cX5_operand 159 = .ok (.getfield 33, 3) := dk_180 0 33 (dk_at dksX5_operand_6 15 rfl rfl)
theorem dX5_operand_162 : decode cX5_operand 162 = .ok (.iconst 0, 1) := dk_3 (dk_at dksX5_operand_6 18 rfl rfl)
theorem dX5_operand_163 : decode cX5_operand 163 = .ok (.iaload, 1) := dk_46 (dk_at dksX5_operand_6 19 rfl rfl)
theorem dX5_operand_164 : decode cX5_operand 164 = .ok (.invokevirtual 208, 3) := dk_182 0 208 (dk_at dksX5_operand_6 20 rfl rfl)
theorem dX5_operand_167 : decode cX5_operand 167 = .ok (.goto 15, 3) := dk_167 0 15 (dk_at dksX5_operand_7 0 rfl rfl)
theorem dX5_operand_170 : decode cX5_operand 170 = .ok (.aload_n 0, 1) := dk_42 (dk_at dksX5_operand_7 3 rfl rfl)
theorem dX5_operand_171 : decode cX5_operand 171 = .ok (.bipush 7, 2) := dk_16 7 (dk_at dksX5_operand_7 4 rfl rfl)
theorem dX5_operand_173 : decode cX5_operand 173 = .ok (.aload_n 0, 1) := dk_42 (dk_at dksX5_operand_7 6 rfl rfl)
theorem dX5_operand_174 : decode cX5_operand 174 = .ok (.getfield 33, 3) := dk_180 0 33 (dk_at dksX5_operand_7 7 rfl rfl)
theorem dX5_operand_177 : decode cX5_operand 177 = .ok (.iconst 1, 1) := dk_4 (dk_at dksX5_operand_7 10 rfl rfl)
theorem dX5_operand_178 : decode cX5_operand 178 = .ok (.iaload, 1) := dk_46 (dk_at dksX5_operand_7 11 rfl rfl)
theorem dX5_operand_179 : decode cX5_operand 179 = .ok (.invokevirtual 208, 3) := dk_182 0 208 (dk_at dksX5_operand_7 12 rfl rfl)
theorem dX5_operand_182 : decode cX5_operand 182 = .ok (.istore 4, 2) := dk_54 4 (dk_at dksX5_operand_7 15 rfl rfl)
theorem dX5_operand_184 : decode cX5_operand 184 = .ok (.iload 4, 2) := dk_21 4 (dk_at dksX5_operand_7 17 rfl rfl)
theorem dX5_operand_186 : decode cX5_operand 186 = .ok (.ifCond .ne 5, 3) := dk_154 0 5 (dk_at dksX5_operand_7 19 rfl rfl)
theorem dX5_operand_189 : decode cX5_operand 189 = .ok (.iconst 0, 1) := dk_3 (dk_at dksX5_operand_7 22 rfl rfl)
theorem dX5_operand_190 : decode cX5_operand 190 = .ok (.ireturn, 1) := dk_172 (dk_at dksX5_operand_7 23 rfl rfl)
theorem dX5_operand_191 : decode cX5_operand 191 = .ok (.aload_n 0, 1) := dk_42 (dk_at dksX5_operand_8 0 rfl rfl)
theorem dX5_operand_192 : decode cX5_operand 192 = .ok (.iload_n 3, 1) := dk_29 (dk_at dksX5_operand_8 1 rfl rfl)
theorem dX5_operand_193 : decode cX5_operand 193 = .ok (.iconst 0, 1) := dk_3 (dk_at dksX5_operand_8 2 rfl rfl)
theorem dX5_operand_194 : decode cX5_operand 194 = .ok (.aload_n 0, 1) := dk_42 (dk_at dksX5_operand_8 3 rfl rfl)
theorem dX5_operand_195 : decode cX5_operand 195 = .ok (.getfield 193, 3) := dk_180 0 193 (dk_at dksX5_operand_8 4 rfl rfl)
theorem dX5_operand_198 : decode cX5_operand 198 = .ok (.invokevirtual 437, 3) := dk_182 1 181 (dk_at dksX5_operand_8 7 rfl rfl)
theorem dX5_operand_201 : decode cX5_operand 201 = .ok (.aload_n 0, 1) := dk_42 (dk_at dksX5_operand_8 10 rfl rfl)
theorem dX5_operand_202 : decode cX5_operand 202 = .ok (.invokevirtual 186, 3) := dk_182 0 186 (dk_at dksX5_operand_8 11 rfl rfl)
theorem dX5_operand_205 : decode cX5_operand 205 = .ok (.iconst 1, 1) := dk_4 (dk_at dksX5_operand_8 14 rfl rfl)
theorem dX5_operand_206 : decode cX5_operand 206 = .ok (.ireturn, 1) := dk_172 (dk_at dksX5_operand_8 15 rfl rfl)
theorem dX5_operand_207 : decode cX5_operand 207 = .ok (.aload_n 0, 1) := dk_42 (dk_at dksX5_operand_8 16 rfl rfl)
theorem dX5_operand_208 : decode cX5_operand 208 = .ok (.getfield 157, 3) := dk_180 0 157 (dk_at dksX5_operand_8 17 rfl rfl)
theorem dX5_operand_211 : decode cX5_operand 211 = .ok (.iconst 3, 1) := dk_6 (dk_at dksX5_operand_8 20 rfl rfl)
theorem dX5_operand_212 : decode cX5_operand 212 = .ok (.if_icmp .ne 21, 3) := dk_160 0 21 (dk_at dksX5_operand_8 21 rfl rfl)
theorem dX5_operand_215 : decode cX5_operand 215 = .ok (.aload_n 0, 1) := dk_42 (dk_at dksX5_operand_9 0 rfl rfl)
theorem dX5_operand_216 : decode cX5_operand 216 = .ok (.getfield 167, 3) := dk_180 0 167 (dk_at dksX5_operand_9 1 rfl rfl)
theorem dX5_operand_219 : decode cX5_operand 219 = .ok (.bipush 60, 2) := dk_16 60 (dk_at dksX5_operand_9 4 rfl rfl)
theorem dX5_operand_221 : decode cX5_operand 221 = .ok (.if_icmp .lt 12, 3) := dk_161 0 12 (dk_at dksX5_operand_9 6 rfl rfl)
theorem dX5_operand_224 : decode cX5_operand 224 = .ok (.aload_n 0, 1) := dk_42 (dk_at dksX5_operand_9 9 rfl rfl)
theorem dX5_operand_225 : decode cX5_operand 225 = .ok (.getfield 167, 3) := dk_180 0 167 (dk_at dksX5_operand_9 10 rfl rfl)
theorem dX5_operand_228 : decode cX5_operand 228 = .ok (.bipush 62, 2) := dk_16 62 (dk_at dksX5_operand_9 13 rfl rfl)
theorem dX5_operand_230 : decode cX5_operand 230 = .ok (.if_icmp .le 9, 3) := dk_164 0 9 (dk_at dksX5_operand_9 15 rfl rfl)
theorem dX5_operand_233 : decode cX5_operand 233 = .ok (.aload_n 0, 1) := dk_42 (dk_at dksX5_operand_9 18 rfl rfl)
theorem dX5_operand_234 : decode cX5_operand 234 = .ok (.iconst 1, 1) := dk_4 (dk_at dksX5_operand_9 19 rfl rfl)
theorem dX5_operand_235 : decode cX5_operand 235 = .ok (.invokevirtual 183, 3) := dk_182 0 183 (dk_at dksX5_operand_9 20 rfl rfl)
theorem dX5_operand_238 : decode cX5_operand 238 = .ok (.ireturn, 1) := dk_172 (dk_at dksX5_operand_9 23 rfl rfl)
theorem dX5_operand_239 : decode cX5_operand 239 = .ok (.aload_n 0, 1) := dk_42 (dk_at dksX5_operand_10 0 rfl rfl)
theorem dX5_operand_240 : decode cX5_operand 240 = .ok (.getfield 167, 3) := dk_180 0 167 (dk_at dksX5_operand_10 1 rfl rfl)
theorem dX5_operand_243 : decode cX5_operand 243 = .ok (.istore 4, 2) := dk_54 4 (dk_at dksX5_operand_10 4 rfl rfl)
theorem dX5_operand_245 : decode cX5_operand 245 = .ok (.aload_n 0, 1) := dk_42 (dk_at dksX5_operand_10 6 rfl rfl)
theorem dX5_operand_246 : decode cX5_operand 246 = .ok (.invokevirtual 186, 3) := dk_182 0 186 (dk_at dksX5_operand_10 7 rfl rfl)
theorem dX5_operand_249 : decode cX5_operand 249 = .ok (.aload_n 0, 1) := dk_42 (dk_at dksX5_operand_10 10 rfl rfl)
theorem dX5_operand_250 : decode cX5_operand 250 = .ok (.getfield 157, 3) := dk_180 0 157 (dk_at dksX5_operand_10 11 rfl rfl)
theorem dX5_operand_253 : decode cX5_operand 253 = .ok (.iconst 2, 1) := dk_5 (dk_at dksX5_operand_10 14 rfl rfl)
theorem dX5_operand_254 : decode cX5_operand 254 = .ok (.if_icmp .eq 9, 3) := dk_159 0 9 (dk_at dksX5_operand_10 15 rfl rfl)
theorem dX5_operand_257 : decode cX5_operand 257 = .ok (.aload_n 0, 1) := dk_42 (dk_at dksX5_operand_10 18 rfl rfl)
theorem dX5_operand_258 : decode cX5_operand 258 = .ok (.iconst 1, 1) := dk_4 (dk_at dksX5_operand_10 19 rfl rfl)
theorem dX5_operand_259 : decode cX5_operand 259 = .ok (.invokevirtual 183, 3) := dk_182 0 183 (dk_at dksX5_operand_10 20 rfl rfl)
theorem dX5_operand_262 : decode cX5_operand 262 = .ok (.ireturn, 1) := dk_172 (dk_at dksX5_operand_10 23 rfl rfl)
theorem dX5_operand_263 : decode cX5_operand 263 = .ok (.aload_n 0, 1) := dk_42 (dk_at dksX5_operand_11 0 rfl rfl)
theorem dX5_operand_264 : decode cX5_operand 264 = .ok (.iload_n 3, 1) := dk_29 (dk_at dksX5_operand_11 1 rfl rfl)
theorem dX5_operand_265 : decode cX5_operand 265 = .ok (.iload 4, 2) := dk_21 4 (dk_at dksX5_operand_11 2 rfl rfl)
theorem dX5_operand_267 : decode cX5_operand 267 = .ok (.aload_n 0, 1) := dk_42 (dk_at dksX5_operand_11 4 rfl rfl)
theorem dX5_operand_268 : decode cX5_operand 268 = .ok (.getfield 167, 3) := dk_180 0 167 (dk_at dksX5_operand_11 5 rfl rfl)
theorem dX5_operand_271 : decode cX5_operand 271 = .ok (.invokevirtual 437, 3) := dk_182 1 181 (dk_at dksX5_operand_11 8 rfl rfl)
theorem dX5_operand_274 : decode cX5_operand 274 = .ok (.aload_n 0, 1) := dk_42 (dk_at dksX5_operand_11 11 rfl rfl)
theorem dX5_operand_275 : decode cX5_operand 275 = .ok (.invokevirtual 186, 3) := dk_182 0 186 (dk_at dksX5_operand_11 12 rfl rfl)
theorem dX5_operand_278 : decode cX5_operand 278 = .ok (.iconst 1, 1) := dk_4 (dk_at dksX5_operand_11 15 rfl rfl)
theorem dX5_operand_279 : decode cX5_operand 279 = .ok (.ireturn, 1) := dk_172 (dk_at dksX5_operand_11 16 rfl rfl)
abbrev cX5_leafOf : ByteArray := prog_26_method_105_code
def yX5_leafOf : MethodName := ⟨RX5, "leafOf", "()I"⟩
def dkwX5_leafOf_6 : List UInt8 := [167, 0, 4, 2, 172]
abbrev dktX5_leafOf_6 : List UInt8 := dkwX5_leafOf_6 ++ []
def dkwX5_leafOf_5 : List UInt8 := [182, 0, 220, 153, 0, 8, 16, 8, 167, 0, 19, 42, 20, 0, 142, 182, 0, 220, 153, 0, 8, 16, 9]
abbrev dktX5_leafOf_5 : List UInt8 := dkwX5_leafOf_5 ++ dktX5_leafOf_6
def dkwX5_leafOf_4 : List UInt8 := [16, 6, 167, 0, 49, 42, 20, 0, 138, 182, 0, 220, 153, 0, 8, 16, 7, 167, 0, 34, 42, 20, 0, 140]
abbrev dktX5_leafOf_4 : List UInt8 := dkwX5_leafOf_4 ++ dktX5_leafOf_5
def dkwX5_leafOf_3 : List UInt8 := [42, 20, 0, 102, 182, 0, 220, 153, 0, 7, 8, 167, 0, 64, 42, 20, 0, 136, 182, 0, 220, 153, 0, 8]
abbrev dktX5_leafOf_3 : List UInt8 := dkwX5_leafOf_3 ++ dktX5_leafOf_4
def dkwX5_leafOf_2 : List UInt8 := [182, 0, 220, 153, 0, 7, 6, 167, 0, 92, 42, 20, 0, 104, 182, 0, 220, 153, 0, 7, 7, 167, 0, 78]
abbrev dktX5_leafOf_2 : List UInt8 := dkwX5_leafOf_2 ++ dktX5_leafOf_3
def dkwX5_leafOf_1 : List UInt8 := [4, 167, 0, 120, 42, 20, 0, 132, 182, 0, 220, 153, 0, 7, 5, 167, 0, 106, 42, 20, 0, 134]
abbrev dktX5_leafOf_1 : List UInt8 := dkwX5_leafOf_1 ++ dktX5_leafOf_2
def dkwX5_leafOf_0 : List UInt8 := [42, 20, 0, 128, 182, 0, 220, 153, 0, 7, 3, 167, 0, 134, 42, 20, 0, 130, 182, 0, 220, 153, 0, 7]
abbrev dktX5_leafOf_0 : List UInt8 := dkwX5_leafOf_0 ++ dktX5_leafOf_1
theorem dksX5_leafOf_0 : cX5_leafOf.data.toList.drop 0 = dktX5_leafOf_0 := by decide +kernel
theorem dksX5_leafOf_1 : cX5_leafOf.data.toList.drop 24 = dktX5_leafOf_1 := dk_seg dksX5_leafOf_0 24 rfl rfl
theorem dksX5_leafOf_2 : cX5_leafOf.data.toList.drop 46 = dktX5_leafOf_2 := dk_seg dksX5_leafOf_1 22 rfl rfl
theorem dksX5_leafOf_3 : cX5_leafOf.data.toList.drop 70 = dktX5_leafOf_3 := dk_seg dksX5_leafOf_2 24 rfl rfl
theorem dksX5_leafOf_4 : cX5_leafOf.data.toList.drop 94 = dktX5_leafOf_4 := dk_seg dksX5_leafOf_3 24 rfl rfl
theorem dksX5_leafOf_5 : cX5_leafOf.data.toList.drop 118 = dktX5_leafOf_5 := dk_seg dksX5_leafOf_4 24 rfl rfl
theorem dksX5_leafOf_6 : cX5_leafOf.data.toList.drop 141 = dktX5_leafOf_6 := dk_seg dksX5_leafOf_5 23 rfl rfl
theorem dX5_leafOf_0 : decode cX5_leafOf 0 = .ok (.aload_n 0, 1) := dk_42 (dk_at dksX5_leafOf_0 0 rfl rfl)
theorem dX5_leafOf_1 : decode cX5_leafOf 1 = .ok (.ldc2_w 128, 3) := dk_20 0 128 (dk_at dksX5_leafOf_0 1 rfl rfl)
theorem dX5_leafOf_4 : decode cX5_leafOf 4 = .ok (.invokevirtual 220, 3) := dk_182 0 220 (dk_at dksX5_leafOf_0 4 rfl rfl)
theorem dX5_leafOf_7 : decode cX5_leafOf 7 = .ok (.ifCond .eq 7, 3) := dk_153 0 7 (dk_at dksX5_leafOf_0 7 rfl rfl)
theorem dX5_leafOf_10 : decode cX5_leafOf 10 = .ok (.iconst 0, 1) := dk_3 (dk_at dksX5_leafOf_0 10 rfl rfl)
theorem dX5_leafOf_11 : decode cX5_leafOf 11 = .ok (.goto 134, 3) := dk_167 0 134 (dk_at dksX5_leafOf_0 11 rfl rfl)
theorem dX5_leafOf_14 : decode cX5_leafOf 14 = .ok (.aload_n 0, 1) := dk_42 (dk_at dksX5_leafOf_0 14 rfl rfl)
theorem dX5_leafOf_15 : decode cX5_leafOf 15 = .ok (.ldc2_w 130, 3) := dk_20 0 130 (dk_at dksX5_leafOf_0 15 rfl rfl)
theorem dX5_leafOf_18 : decode cX5_leafOf 18 = .ok (.invokevirtual 220, 3) := dk_182 0 220 (dk_at dksX5_leafOf_0 18 rfl rfl)
theorem dX5_leafOf_21 : decode cX5_leafOf 21 = .ok (.ifCond .eq 7, 3) := dk_153 0 7 (dk_at dksX5_leafOf_0 21 rfl rfl)
theorem dX5_leafOf_24 : decode cX5_leafOf 24 = .ok (.iconst 1, 1) := dk_4 (dk_at dksX5_leafOf_1 0 rfl rfl)
theorem dX5_leafOf_25 : decode cX5_leafOf 25 = .ok (.goto 120, 3) := dk_167 0 120 (dk_at dksX5_leafOf_1 1 rfl rfl)
theorem dX5_leafOf_28 : decode cX5_leafOf 28 = .ok (.aload_n 0, 1) := dk_42 (dk_at dksX5_leafOf_1 4 rfl rfl)
theorem dX5_leafOf_29 : decode cX5_leafOf 29 = .ok (.ldc2_w 132, 3) := dk_20 0 132 (dk_at dksX5_leafOf_1 5 rfl rfl)
theorem dX5_leafOf_32 : decode cX5_leafOf 32 = .ok (.invokevirtual 220, 3) := dk_182 0 220 (dk_at dksX5_leafOf_1 8 rfl rfl)
theorem dX5_leafOf_35 : decode cX5_leafOf 35 = .ok (.ifCond .eq 7, 3) := dk_153 0 7 (dk_at dksX5_leafOf_1 11 rfl rfl)
theorem dX5_leafOf_38 : decode cX5_leafOf 38 = .ok (.iconst 2, 1) := dk_5 (dk_at dksX5_leafOf_1 14 rfl rfl)
theorem dX5_leafOf_39 : decode cX5_leafOf 39 = .ok (.goto 106, 3) := dk_167 0 106 (dk_at dksX5_leafOf_1 15 rfl rfl)
theorem dX5_leafOf_42 : decode cX5_leafOf 42 = .ok (.aload_n 0, 1) := dk_42 (dk_at dksX5_leafOf_1 18 rfl rfl)
theorem dX5_leafOf_43 : decode cX5_leafOf 43 = .ok (.ldc2_w 134, 3) := dk_20 0 134 (dk_at dksX5_leafOf_1 19 rfl rfl)
theorem dX5_leafOf_46 : decode cX5_leafOf 46 = .ok (.invokevirtual 220, 3) := dk_182 0 220 (dk_at dksX5_leafOf_2 0 rfl rfl)
theorem dX5_leafOf_49 : decode cX5_leafOf 49 = .ok (.ifCond .eq 7, 3) := dk_153 0 7 (dk_at dksX5_leafOf_2 3 rfl rfl)
theorem dX5_leafOf_52 : decode cX5_leafOf 52 = .ok (.iconst 3, 1) := dk_6 (dk_at dksX5_leafOf_2 6 rfl rfl)
theorem dX5_leafOf_53 : decode cX5_leafOf 53 = .ok (.goto 92, 3) := dk_167 0 92 (dk_at dksX5_leafOf_2 7 rfl rfl)
theorem dX5_leafOf_56 : decode cX5_leafOf 56 = .ok (.aload_n 0, 1) := dk_42 (dk_at dksX5_leafOf_2 10 rfl rfl)
theorem dX5_leafOf_57 : decode cX5_leafOf 57 = .ok (.ldc2_w 104, 3) := dk_20 0 104 (dk_at dksX5_leafOf_2 11 rfl rfl)
theorem dX5_leafOf_60 : decode cX5_leafOf 60 = .ok (.invokevirtual 220, 3) := dk_182 0 220 (dk_at dksX5_leafOf_2 14 rfl rfl)
theorem dX5_leafOf_63 : decode cX5_leafOf 63 = .ok (.ifCond .eq 7, 3) := dk_153 0 7 (dk_at dksX5_leafOf_2 17 rfl rfl)
theorem dX5_leafOf_66 : decode cX5_leafOf 66 = .ok (.iconst 4, 1) := dk_7 (dk_at dksX5_leafOf_2 20 rfl rfl)
theorem dX5_leafOf_67 : decode cX5_leafOf 67 = .ok (.goto 78, 3) := dk_167 0 78 (dk_at dksX5_leafOf_2 21 rfl rfl)
theorem dX5_leafOf_70 : decode cX5_leafOf 70 = .ok (.aload_n 0, 1) := dk_42 (dk_at dksX5_leafOf_3 0 rfl rfl)
theorem dX5_leafOf_71 : decode cX5_leafOf 71 = .ok (.ldc2_w 102, 3) := dk_20 0 102 (dk_at dksX5_leafOf_3 1 rfl rfl)
theorem dX5_leafOf_74 : decode cX5_leafOf 74 = .ok (.invokevirtual 220, 3) := dk_182 0 220 (dk_at dksX5_leafOf_3 4 rfl rfl)
theorem dX5_leafOf_77 : decode cX5_leafOf 77 = .ok (.ifCond .eq 7, 3) := dk_153 0 7 (dk_at dksX5_leafOf_3 7 rfl rfl)
theorem dX5_leafOf_80 : decode cX5_leafOf 80 = .ok (.iconst 5, 1) := dk_8 (dk_at dksX5_leafOf_3 10 rfl rfl)
theorem dX5_leafOf_81 : decode cX5_leafOf 81 = .ok (.goto 64, 3) := dk_167 0 64 (dk_at dksX5_leafOf_3 11 rfl rfl)
theorem dX5_leafOf_84 : decode cX5_leafOf 84 = .ok (.aload_n 0, 1) := dk_42 (dk_at dksX5_leafOf_3 14 rfl rfl)
theorem dX5_leafOf_85 : decode cX5_leafOf 85 = .ok (.ldc2_w 136, 3) := dk_20 0 136 (dk_at dksX5_leafOf_3 15 rfl rfl)
theorem dX5_leafOf_88 : decode cX5_leafOf 88 = .ok (.invokevirtual 220, 3) := dk_182 0 220 (dk_at dksX5_leafOf_3 18 rfl rfl)
theorem dX5_leafOf_91 : decode cX5_leafOf 91 = .ok (.ifCond .eq 8, 3) := dk_153 0 8 (dk_at dksX5_leafOf_3 21 rfl rfl)
theorem dX5_leafOf_94 : decode cX5_leafOf 94 = .ok (.bipush 6, 2) := dk_16 6 (dk_at dksX5_leafOf_4 0 rfl rfl)
theorem dX5_leafOf_96 : decode cX5_leafOf 96 = .ok (.goto 49, 3) := dk_167 0 49 (dk_at dksX5_leafOf_4 2 rfl rfl)
theorem dX5_leafOf_99 : decode cX5_leafOf 99 = .ok (.aload_n 0, 1) := dk_42 (dk_at dksX5_leafOf_4 5 rfl rfl)
theorem dX5_leafOf_100 : decode cX5_leafOf 100 = .ok (.ldc2_w 138, 3) := dk_20 0 138 (dk_at dksX5_leafOf_4 6 rfl rfl)
theorem dX5_leafOf_103 : decode cX5_leafOf 103 = .ok (.invokevirtual 220, 3) := dk_182 0 220 (dk_at dksX5_leafOf_4 9 rfl rfl)
theorem dX5_leafOf_106 : decode cX5_leafOf 106 = .ok (.ifCond .eq 8, 3) := dk_153 0 8 (dk_at dksX5_leafOf_4 12 rfl rfl)
theorem dX5_leafOf_109 : decode cX5_leafOf 109 = .ok (.bipush 7, 2) := dk_16 7 (dk_at dksX5_leafOf_4 15 rfl rfl)
theorem dX5_leafOf_111 : decode cX5_leafOf 111 = .ok (.goto 34, 3) := dk_167 0 34 (dk_at dksX5_leafOf_4 17 rfl rfl)
theorem dX5_leafOf_114 : decode cX5_leafOf 114 = .ok (.aload_n 0, 1) := dk_42 (dk_at dksX5_leafOf_4 20 rfl rfl)
theorem dX5_leafOf_115 : decode cX5_leafOf 115 = .ok (.ldc2_w 140, 3) := dk_20 0 140 (dk_at dksX5_leafOf_4 21 rfl rfl)
theorem dX5_leafOf_118 : decode cX5_leafOf 118 = .ok (.invokevirtual 220, 3) := dk_182 0 220 (dk_at dksX5_leafOf_5 0 rfl rfl)
theorem dX5_leafOf_121 : decode cX5_leafOf 121 = .ok (.ifCond .eq 8, 3) := dk_153 0 8 (dk_at dksX5_leafOf_5 3 rfl rfl)
theorem dX5_leafOf_124 : decode cX5_leafOf 124 = .ok (.bipush 8, 2) := dk_16 8 (dk_at dksX5_leafOf_5 6 rfl rfl)
theorem dX5_leafOf_126 : decode cX5_leafOf 126 = .ok (.goto 19, 3) := dk_167 0 19 (dk_at dksX5_leafOf_5 8 rfl rfl)
theorem dX5_leafOf_129 : decode cX5_leafOf 129 = .ok (.aload_n 0, 1) := dk_42 (dk_at dksX5_leafOf_5 11 rfl rfl)
theorem dX5_leafOf_130 : decode cX5_leafOf 130 = .ok (.ldc2_w 142, 3) := dk_20 0 142 (dk_at dksX5_leafOf_5 12 rfl rfl)
theorem dX5_leafOf_133 : decode cX5_leafOf 133 = .ok (.invokevirtual 220, 3) := dk_182 0 220 (dk_at dksX5_leafOf_5 15 rfl rfl)
theorem dX5_leafOf_136 : decode cX5_leafOf 136 = .ok (.ifCond .eq 8, 3) := dk_153 0 8 (dk_at dksX5_leafOf_5 18 rfl rfl)
theorem dX5_leafOf_139 : decode cX5_leafOf 139 = .ok (.bipush 9, 2) := dk_16 9 (dk_at dksX5_leafOf_5 21 rfl rfl)
theorem dX5_leafOf_141 : decode cX5_leafOf 141 = .ok (.goto 4, 3) := dk_167 0 4 (dk_at dksX5_leafOf_6 0 rfl rfl)
theorem dX5_leafOf_144 : decode cX5_leafOf 144 = .ok (.iconst (-1), 1) := dk_2 (dk_at dksX5_leafOf_6 3 rfl rfl)
theorem dX5_leafOf_145 : decode cX5_leafOf 145 = .ok (.ireturn, 1) := dk_172 (dk_at dksX5_leafOf_6 4 rfl rfl)
abbrev cX5_said : ByteArray := prog_26_method_112_code
def yX5_said : MethodName := ⟨RX5, "said", "(I)I"⟩
def dkwX5_said_3 : List UInt8 := [167, 0, 4, 2, 172]
abbrev dktX5_said_3 : List UInt8 := dkwX5_said_3 ++ []
def dkwX5_said_2 : List UInt8 := [28, 27, 160, 0, 5, 29, 172, 132, 2, 1, 132, 3, 1, 167, 255, 222, 27, 2, 160, 0, 7, 28]
abbrev dktX5_said_2 : List UInt8 := dkwX5_said_2 ++ dktX5_said_3
def dkwX5_said_1 : List UInt8 := [61, 3, 62, 29, 42, 180, 0, 33, 3, 46, 162, 0, 30, 42, 29, 182, 1, 214, 154, 0, 6, 167, 0, 13]
abbrev dktX5_said_1 : List UInt8 := dkwX5_said_1 ++ dktX5_said_2
def dkwX5_said_0 : List UInt8 := [42, 3, 181, 0, 1, 42, 180, 0, 33, 17, 1, 20, 46, 153, 0, 8, 27, 2, 162, 0, 5, 2, 172, 3]
abbrev dktX5_said_0 : List UInt8 := dkwX5_said_0 ++ dktX5_said_1
theorem dksX5_said_0 : cX5_said.data.toList.drop 0 = dktX5_said_0 := by decide +kernel
theorem dksX5_said_1 : cX5_said.data.toList.drop 24 = dktX5_said_1 := dk_seg dksX5_said_0 24 rfl rfl
theorem dksX5_said_2 : cX5_said.data.toList.drop 48 = dktX5_said_2 := dk_seg dksX5_said_1 24 rfl rfl
theorem dksX5_said_3 : cX5_said.data.toList.drop 70 = dktX5_said_3 := dk_seg dksX5_said_2 22 rfl rfl
theorem dX5_said_0 : decode cX5_said 0 = .ok (.aload_n 0, 1) := dk_42 (dk_at dksX5_said_0 0 rfl rfl)
theorem dX5_said_1 : decode cX5_said 1 = .ok (.iconst 0, 1) := dk_3 (dk_at dksX5_said_0 1 rfl rfl)
theorem dX5_said_2 : decode cX5_said 2 = .ok (.putfield 1, 3) := dk_181 0 1 (dk_at dksX5_said_0 2 rfl rfl)
theorem dX5_said_5 : decode cX5_said 5 = .ok (.aload_n 0, 1) := dk_42 (dk_at dksX5_said_0 5 rfl rfl)
theorem dX5_said_6 : decode cX5_said 6 = .ok (.getfield 33, 3) := dk_180 0 33 (dk_at dksX5_said_0 6 rfl rfl)
theorem dX5_said_9 : decode cX5_said 9 = .ok (.sipush 276, 3) := dk_17 1 20 (dk_at dksX5_said_0 9 rfl rfl)
theorem dX5_said_12 : decode cX5_said 12 = .ok (.iaload, 1) := dk_46 (dk_at dksX5_said_0 12 rfl rfl)
theorem dX5_said_13 : decode cX5_said 13 = .ok (.ifCond .eq 8, 3) := dk_153 0 8 (dk_at dksX5_said_0 13 rfl rfl)
theorem dX5_said_16 : decode cX5_said 16 = .ok (.iload_n 1, 1) := dk_27 (dk_at dksX5_said_0 16 rfl rfl)
theorem dX5_said_17 : decode cX5_said 17 = .ok (.iconst (-1), 1) := dk_2 (dk_at dksX5_said_0 17 rfl rfl)
theorem dX5_said_18 : decode cX5_said 18 = .ok (.if_icmp .ge 5, 3) := dk_162 0 5 (dk_at dksX5_said_0 18 rfl rfl)
theorem dX5_said_21 : decode cX5_said 21 = .ok (.iconst (-1), 1) := dk_2 (dk_at dksX5_said_0 21 rfl rfl)
theorem dX5_said_22 : decode cX5_said 22 = .ok (.ireturn, 1) := dk_172 (dk_at dksX5_said_0 22 rfl rfl)
theorem dX5_said_23 : decode cX5_said 23 = .ok (.iconst 0, 1) := dk_3 (dk_at dksX5_said_0 23 rfl rfl)
theorem dX5_said_24 : decode cX5_said 24 = .ok (.istore_n 2, 1) := dk_61 (dk_at dksX5_said_1 0 rfl rfl)
theorem dX5_said_25 : decode cX5_said 25 = .ok (.iconst 0, 1) := dk_3 (dk_at dksX5_said_1 1 rfl rfl)
theorem dX5_said_26 : decode cX5_said 26 = .ok (.istore_n 3, 1) := dk_62 (dk_at dksX5_said_1 2 rfl rfl)
theorem dX5_said_27 : decode cX5_said 27 = .ok (.iload_n 3, 1) := dk_29 (dk_at dksX5_said_1 3 rfl rfl)
theorem dX5_said_28 : decode cX5_said 28 = .ok (.aload_n 0, 1) := dk_42 (dk_at dksX5_said_1 4 rfl rfl)
theorem dX5_said_29 : decode cX5_said 29 = .ok (.getfield 33, 3) := dk_180 0 33 (dk_at dksX5_said_1 5 rfl rfl)
theorem dX5_said_32 : decode cX5_said 32 = .ok (.iconst 0, 1) := dk_3 (dk_at dksX5_said_1 8 rfl rfl)
theorem dX5_said_33 : decode cX5_said 33 = .ok (.iaload, 1) := dk_46 (dk_at dksX5_said_1 9 rfl rfl)
theorem dX5_said_34 : decode cX5_said 34 = .ok (.if_icmp .ge 30, 3) := dk_162 0 30 (dk_at dksX5_said_1 10 rfl rfl)
theorem dX5_said_37 : decode cX5_said 37 = .ok (.aload_n 0, 1) := dk_42 (dk_at dksX5_said_1 13 rfl rfl)
theorem dX5_said_38 : decode cX5_said 38 = .ok (.iload_n 3, 1) := dk_29 (dk_at dksX5_said_1 14 rfl rfl)
theorem dX5_said_39 : decode cX5_said 39 = .ok (.invokevirtual 470, 3) := dk_182 1 214 (dk_at dksX5_said_1 15 rfl rfl)
theorem dX5_said_42 : decode cX5_said 42 = .ok (.ifCond .ne 6, 3) := dk_154 0 6 (dk_at dksX5_said_1 18 rfl rfl)
theorem dX5_said_45 : decode cX5_said 45 = .ok (.goto 13, 3) := dk_167 0 13 (dk_at dksX5_said_1 21 rfl rfl)
theorem dX5_said_48 : decode cX5_said 48 = .ok (.iload_n 2, 1) := dk_28 (dk_at dksX5_said_2 0 rfl rfl)
theorem dX5_said_49 : decode cX5_said 49 = .ok (.iload_n 1, 1) := dk_27 (dk_at dksX5_said_2 1 rfl rfl)
theorem dX5_said_50 : decode cX5_said 50 = .ok (.if_icmp .ne 5, 3) := dk_160 0 5 (dk_at dksX5_said_2 2 rfl rfl)
theorem dX5_said_53 : decode cX5_said 53 = .ok (.iload_n 3, 1) := dk_29 (dk_at dksX5_said_2 5 rfl rfl)
theorem dX5_said_54 : decode cX5_said 54 = .ok (.ireturn, 1) := dk_172 (dk_at dksX5_said_2 6 rfl rfl)
theorem dX5_said_55 : decode cX5_said 55 = .ok (.iinc 2 1, 3) := dk_132 2 1 (dk_at dksX5_said_2 7 rfl rfl)
theorem dX5_said_58 : decode cX5_said 58 = .ok (.iinc 3 1, 3) := dk_132 3 1 (dk_at dksX5_said_2 10 rfl rfl)
theorem dX5_said_61 : decode cX5_said 61 = .ok (.goto (-34), 3) := dk_167 255 222 (dk_at dksX5_said_2 13 rfl rfl)
theorem dX5_said_64 : decode cX5_said 64 = .ok (.iload_n 1, 1) := dk_27 (dk_at dksX5_said_2 16 rfl rfl)
theorem dX5_said_65 : decode cX5_said 65 = .ok (.iconst (-1), 1) := dk_2 (dk_at dksX5_said_2 17 rfl rfl)
theorem dX5_said_66 : decode cX5_said 66 = .ok (.if_icmp .ne 7, 3) := dk_160 0 7 (dk_at dksX5_said_2 18 rfl rfl)
theorem dX5_said_69 : decode cX5_said 69 = .ok (.iload_n 2, 1) := dk_28 (dk_at dksX5_said_2 21 rfl rfl)
theorem dX5_said_70 : decode cX5_said 70 = .ok (.goto 4, 3) := dk_167 0 4 (dk_at dksX5_said_3 0 rfl rfl)
theorem dX5_said_73 : decode cX5_said 73 = .ok (.iconst (-1), 1) := dk_2 (dk_at dksX5_said_3 3 rfl rfl)
theorem dX5_said_74 : decode cX5_said 74 = .ok (.ireturn, 1) := dk_172 (dk_at dksX5_said_3 4 rfl rfl)
abbrev cX5_isSaid : ByteArray := prog_26_method_111_code
def yX5_isSaid : MethodName := ⟨RX5, "isSaid", "(I)Z"⟩
def dkwX5_isSaid_9 : List UInt8 := [167, 255, 51, 42, 180, 0, 83, 3, 51, 172]
abbrev dktX5_isSaid_9 : List UInt8 := dkwX5_isSaid_9 ++ []
def dkwX5_isSaid_8 : List UInt8 := [4, 96, 46, 42, 180, 0, 33, 21, 4, 5, 96, 46, 182, 1, 211, 84, 132, 2, 1, 132, 3, 1]
abbrev dktX5_isSaid_8 : List UInt8 := dkwX5_isSaid_8 ++ dktX5_isSaid_9
def dkwX5_isSaid_7 : List UInt8 := [84, 167, 0, 42, 42, 180, 0, 83, 28, 42, 27, 42, 180, 0, 33, 21, 4, 46, 42, 180, 0, 33, 21, 4]
abbrev dktX5_isSaid_7 : List UInt8 := dkwX5_isSaid_7 ++ dktX5_isSaid_8
def dkwX5_isSaid_6 : List UInt8 := [180, 0, 83, 28, 4, 100, 51, 154, 0, 12, 42, 180, 0, 83, 28, 51, 153, 0, 7, 4, 167, 0, 4, 3]
abbrev dktX5_isSaid_6 : List UInt8 := dkwX5_isSaid_6 ++ dktX5_isSaid_7
def dkwX5_isSaid_5 : List UInt8 := [100, 51, 153, 0, 16, 42, 180, 0, 83, 28, 51, 153, 0, 7, 4, 167, 0, 32, 3, 167, 0, 28, 42]
abbrev dktX5_isSaid_5 : List UInt8 := dkwX5_isSaid_5 ++ dktX5_isSaid_6
def dkwX5_isSaid_4 : List UInt8 := [180, 0, 83, 28, 4, 100, 42, 180, 0, 33, 21, 4, 46, 16, 21, 160, 0, 31, 42, 180, 0, 83, 28, 4]
abbrev dktX5_isSaid_4 : List UInt8 := dkwX5_isSaid_4 ++ dktX5_isSaid_5
def dkwX5_isSaid_3 : List UInt8 := [21, 4, 46, 16, 21, 159, 0, 15, 42, 180, 0, 33, 21, 4, 46, 16, 22, 160, 0, 82, 132, 2, 255, 42]
abbrev dktX5_isSaid_3 : List UInt8 := dkwX5_isSaid_3 ++ dktX5_isSaid_4
def dkwX5_isSaid_2 : List UInt8 := [180, 0, 83, 28, 4, 100, 51, 154, 0, 7, 4, 167, 0, 4, 3, 84, 167, 0, 145, 42, 180, 0, 33]
abbrev dktX5_isSaid_2 : List UInt8 := dkwX5_isSaid_2 ++ dktX5_isSaid_3
def dkwX5_isSaid_1 : List UInt8 := [54, 4, 42, 180, 0, 33, 21, 4, 46, 16, 20, 160, 0, 30, 42, 180, 0, 83, 28, 4, 100, 42]
abbrev dktX5_isSaid_1 : List UInt8 := dkwX5_isSaid_1 ++ dktX5_isSaid_2
def dkwX5_isSaid_0 : List UInt8 := [3, 61, 3, 62, 29, 42, 180, 0, 33, 17, 1, 20, 46, 162, 0, 199, 17, 1, 21, 6, 29, 104, 96]
abbrev dktX5_isSaid_0 : List UInt8 := dkwX5_isSaid_0 ++ dktX5_isSaid_1
theorem dksX5_isSaid_0 : cX5_isSaid.data.toList.drop 0 = dktX5_isSaid_0 := by decide +kernel
theorem dksX5_isSaid_1 : cX5_isSaid.data.toList.drop 23 = dktX5_isSaid_1 := dk_seg dksX5_isSaid_0 23 rfl rfl
theorem dksX5_isSaid_2 : cX5_isSaid.data.toList.drop 45 = dktX5_isSaid_2 := dk_seg dksX5_isSaid_1 22 rfl rfl
theorem dksX5_isSaid_3 : cX5_isSaid.data.toList.drop 68 = dktX5_isSaid_3 := dk_seg dksX5_isSaid_2 23 rfl rfl
theorem dksX5_isSaid_4 : cX5_isSaid.data.toList.drop 92 = dktX5_isSaid_4 := dk_seg dksX5_isSaid_3 24 rfl rfl
theorem dksX5_isSaid_5 : cX5_isSaid.data.toList.drop 116 = dktX5_isSaid_5 := dk_seg dksX5_isSaid_4 24 rfl rfl
theorem dksX5_isSaid_6 : cX5_isSaid.data.toList.drop 139 = dktX5_isSaid_6 := dk_seg dksX5_isSaid_5 23 rfl rfl
theorem dksX5_isSaid_7 : cX5_isSaid.data.toList.drop 163 = dktX5_isSaid_7 := dk_seg dksX5_isSaid_6 24 rfl rfl
theorem dksX5_isSaid_8 : cX5_isSaid.data.toList.drop 187 = dktX5_isSaid_8 := dk_seg dksX5_isSaid_7 24 rfl rfl
theorem dksX5_isSaid_9 : cX5_isSaid.data.toList.drop 209 = dktX5_isSaid_9 := dk_seg dksX5_isSaid_8 22 rfl rfl
theorem dX5_isSaid_0 : decode cX5_isSaid 0 = .ok (.iconst 0, 1) := dk_3 (dk_at dksX5_isSaid_0 0 rfl rfl)
theorem dX5_isSaid_1 : decode cX5_isSaid 1 = .ok (.istore_n 2, 1) := dk_61 (dk_at dksX5_isSaid_0 1 rfl rfl)
theorem dX5_isSaid_2 : decode cX5_isSaid 2 = .ok (.iconst 0, 1) := dk_3 (dk_at dksX5_isSaid_0 2 rfl rfl)
theorem dX5_isSaid_3 : decode cX5_isSaid 3 = .ok (.istore_n 3, 1) := dk_62 (dk_at dksX5_isSaid_0 3 rfl rfl)
theorem dX5_isSaid_4 : decode cX5_isSaid 4 = .ok (.iload_n 3, 1) := dk_29 (dk_at dksX5_isSaid_0 4 rfl rfl)
theorem dX5_isSaid_5 : decode cX5_isSaid 5 = .ok (.aload_n 0, 1) := dk_42 (dk_at dksX5_isSaid_0 5 rfl rfl)
theorem dX5_isSaid_6 : decode cX5_isSaid 6 = .ok (.getfield 33, 3) := dk_180 0 33 (dk_at dksX5_isSaid_0 6 rfl rfl)
theorem dX5_isSaid_9 : decode cX5_isSaid 9 = .ok (.sipush 276, 3) := dk_17 1 20 (dk_at dksX5_isSaid_0 9 rfl rfl)
theorem dX5_isSaid_12 : decode cX5_isSaid 12 = .ok (.iaload, 1) := dk_46 (dk_at dksX5_isSaid_0 12 rfl rfl)
theorem dX5_isSaid_13 : decode cX5_isSaid 13 = .ok (.if_icmp .ge 199, 3) := dk_162 0 199 (dk_at dksX5_isSaid_0 13 rfl rfl)
theorem dX5_isSaid_16 : decode cX5_isSaid 16 = .ok (.sipush 277, 3) := dk_17 1 21 (dk_at dksX5_isSaid_0 16 rfl rfl)
theorem dX5_isSaid_19 : decode cX5_isSaid 19 = .ok (.iconst 3, 1) := dk_6 (dk_at dksX5_isSaid_0 19 rfl rfl)
theorem dX5_isSaid_20 : decode cX5_isSaid 20 = .ok (.iload_n 3, 1) := dk_29 (dk_at dksX5_isSaid_0 20 rfl rfl)
theorem dX5_isSaid_21 : decode cX5_isSaid 21 = .ok (.imul, 1) := dk_104 (dk_at dksX5_isSaid_0 21 rfl rfl)
theorem dX5_isSaid_22 : decode cX5_isSaid 22 = .ok (.iadd, 1) := dk_96 (dk_at dksX5_isSaid_0 22 rfl rfl)
theorem dX5_isSaid_23 : decode cX5_isSaid 23 = .ok (.istore 4, 2) := dk_54 4 (dk_at dksX5_isSaid_1 0 rfl rfl)
theorem dX5_isSaid_25 : decode cX5_isSaid 25 = .ok (.aload_n 0, 1) := dk_42 (dk_at dksX5_isSaid_1 2 rfl rfl)
theorem dX5_isSaid_26 : decode cX5_isSaid 26 = .ok (.getfield 33, 3) := dk_180 0 33 (dk_at dksX5_isSaid_1 3 rfl rfl)
theorem dX5_isSaid_29 : decode cX5_isSaid 29 = .ok (.iload 4, 2) := dk_21 4 (dk_at dksX5_isSaid_1 6 rfl rfl)
theorem dX5_isSaid_31 : decode cX5_isSaid 31 = .ok (.iaload, 1) := dk_46 (dk_at dksX5_isSaid_1 8 rfl rfl)
theorem dX5_isSaid_32 : decode cX5_isSaid 32 = .ok (.bipush 20, 2) := dk_16 20 (dk_at dksX5_isSaid_1 9 rfl rfl)
theorem dX5_isSaid_34 : decode cX5_isSaid 34 = .ok (.if_icmp .ne 30, 3) := dk_160 0 30 (dk_at dksX5_isSaid_1 11 rfl rfl)
theorem dX5_isSaid_37 : decode cX5_isSaid 37 = .ok (.aload_n 0, 1) := dk_42 (dk_at dksX5_isSaid_1 14 rfl rfl)
theorem dX5_isSaid_38 : decode cX5_isSaid 38 = .ok (.getfield 83, 3) := dk_180 0 83 (dk_at dksX5_isSaid_1 15 rfl rfl)
theorem dX5_isSaid_41 : decode cX5_isSaid 41 = .ok (.iload_n 2, 1) := dk_28 (dk_at dksX5_isSaid_1 18 rfl rfl)
theorem dX5_isSaid_42 : decode cX5_isSaid 42 = .ok (.iconst 1, 1) := dk_4 (dk_at dksX5_isSaid_1 19 rfl rfl)
theorem dX5_isSaid_43 : decode cX5_isSaid 43 = .ok (.isub, 1) := dk_100 (dk_at dksX5_isSaid_1 20 rfl rfl)
theorem dX5_isSaid_44 : decode cX5_isSaid 44 = .ok (.aload_n 0, 1) := dk_42 (dk_at dksX5_isSaid_1 21 rfl rfl)
theorem dX5_isSaid_45 : decode cX5_isSaid 45 = .ok (.getfield 83, 3) := dk_180 0 83 (dk_at dksX5_isSaid_2 0 rfl rfl)
theorem dX5_isSaid_48 : decode cX5_isSaid 48 = .ok (.iload_n 2, 1) := dk_28 (dk_at dksX5_isSaid_2 3 rfl rfl)
theorem dX5_isSaid_49 : decode cX5_isSaid 49 = .ok (.iconst 1, 1) := dk_4 (dk_at dksX5_isSaid_2 4 rfl rfl)
theorem dX5_isSaid_50 : decode cX5_isSaid 50 = .ok (.isub, 1) := dk_100 (dk_at dksX5_isSaid_2 5 rfl rfl)
theorem dX5_isSaid_51 : decode cX5_isSaid 51 = .ok (.baload, 1) := dk_51 (dk_at dksX5_isSaid_2 6 rfl rfl)
theorem dX5_isSaid_52 : decode cX5_isSaid 52 = .ok (.ifCond .ne 7, 3) := dk_154 0 7 (dk_at dksX5_isSaid_2 7 rfl rfl)
theorem dX5_isSaid_55 : decode cX5_isSaid 55 = .ok (.iconst 1, 1) := dk_4 (dk_at dksX5_isSaid_2 10 rfl rfl)
theorem dX5_isSaid_56 : decode cX5_isSaid 56 = .ok (.goto 4, 3) := dk_167 0 4 (dk_at dksX5_isSaid_2 11 rfl rfl)
theorem dX5_isSaid_59 : decode cX5_isSaid 59 = .ok (.iconst 0, 1) := dk_3 (dk_at dksX5_isSaid_2 14 rfl rfl)
theorem dX5_isSaid_60 : decode cX5_isSaid 60 = .ok (.bastore, 1) := dk_84 (dk_at dksX5_isSaid_2 15 rfl rfl)
theorem dX5_isSaid_61 : decode cX5_isSaid 61 = .ok (.goto 145, 3) := dk_167 0 145 (dk_at dksX5_isSaid_2 16 rfl rfl)
theorem dX5_isSaid_64 : decode cX5_isSaid 64 = .ok (.aload_n 0, 1) := dk_42 (dk_at dksX5_isSaid_2 19 rfl rfl)
theorem dX5_isSaid_65 : decode cX5_isSaid 65 = .ok (.getfield 33, 3) := dk_180 0 33 (dk_at dksX5_isSaid_2 20 rfl rfl)
theorem dX5_isSaid_68 : decode cX5_isSaid 68 = .ok (.iload 4, 2) := dk_21 4 (dk_at dksX5_isSaid_3 0 rfl rfl)
theorem dX5_isSaid_70 : decode cX5_isSaid 70 = .ok (.iaload, 1) := dk_46 (dk_at dksX5_isSaid_3 2 rfl rfl)
theorem dX5_isSaid_71 : decode cX5_isSaid 71 = .ok (.bipush 21, 2) := dk_16 21 (dk_at dksX5_isSaid_3 3 rfl rfl)
theorem dX5_isSaid_73 : decode cX5_isSaid 73 = .ok (.if_icmp .eq 15, 3) := dk_159 0 15 (dk_at dksX5_isSaid_3 5 rfl rfl)
theorem dX5_isSaid_76 : decode cX5_isSaid 76 = .ok (.aload_n 0, 1) := dk_42 (dk_at dksX5_isSaid_3 8 rfl rfl)
theorem dX5_isSaid_77 : decode cX5_isSaid 77 = .ok (.getfield 33, 3) := dk_180 0 33 (dk_at dksX5_isSaid_3 9 rfl rfl)
theorem dX5_isSaid_80 : decode cX5_isSaid 80 = .ok (.iload 4, 2) := dk_21 4 (dk_at dksX5_isSaid_3 12 rfl rfl)
theorem dX5_isSaid_82 : decode cX5_isSaid 82 = .ok (.iaload, 1) := dk_46 (dk_at dksX5_isSaid_3 14 rfl rfl)
theorem dX5_isSaid_83 : decode cX5_isSaid 83 = .ok (.bipush 22, 2) := dk_16 22 (dk_at dksX5_isSaid_3 15 rfl rfl)
theorem dX5_isSaid_85 : decode cX5_isSaid 85 = .ok (.if_icmp .ne 82, 3) := dk_160 0 82 (dk_at dksX5_isSaid_3 17 rfl rfl)
theorem dX5_isSaid_88 : decode cX5_isSaid 88 = .ok (.iinc 2 (-1), 3) := dk_132 2 255 (dk_at dksX5_isSaid_3 20 rfl rfl)
theorem dX5_isSaid_91 : decode cX5_isSaid 91 = .ok (.aload_n 0, 1) := dk_42 (dk_at dksX5_isSaid_3 23 rfl rfl)
theorem dX5_isSaid_92 : decode cX5_isSaid 92 = .ok (.getfield 83, 3) := dk_180 0 83 (dk_at dksX5_isSaid_4 0 rfl rfl)
theorem dX5_isSaid_95 : decode cX5_isSaid 95 = .ok (.iload_n 2, 1) := dk_28 (dk_at dksX5_isSaid_4 3 rfl rfl)
theorem dX5_isSaid_96 : decode cX5_isSaid 96 = .ok (.iconst 1, 1) := dk_4 (dk_at dksX5_isSaid_4 4 rfl rfl)
theorem dX5_isSaid_97 : decode cX5_isSaid 97 = .ok (.isub, 1) := dk_100 (dk_at dksX5_isSaid_4 5 rfl rfl)
theorem dX5_isSaid_98 : decode cX5_isSaid 98 = .ok (.aload_n 0, 1) := dk_42 (dk_at dksX5_isSaid_4 6 rfl rfl)
theorem dX5_isSaid_99 : decode cX5_isSaid 99 = .ok (.getfield 33, 3) := dk_180 0 33 (dk_at dksX5_isSaid_4 7 rfl rfl)
theorem dX5_isSaid_102 : decode cX5_isSaid 102 = .ok (.iload 4, 2) := dk_21 4 (dk_at dksX5_isSaid_4 10 rfl rfl)
theorem dX5_isSaid_104 : decode cX5_isSaid 104 = .ok (.iaload, 1) := dk_46 (dk_at dksX5_isSaid_4 12 rfl rfl)
theorem dX5_isSaid_105 : decode cX5_isSaid 105 = .ok (.bipush 21, 2) := dk_16 21 (dk_at dksX5_isSaid_4 13 rfl rfl)
theorem dX5_isSaid_107 : decode cX5_isSaid 107 = .ok (.if_icmp .ne 31, 3) := dk_160 0 31 (dk_at dksX5_isSaid_4 15 rfl rfl)
theorem dX5_isSaid_110 : decode cX5_isSaid 110 = .ok (.aload_n 0, 1) := dk_42 (dk_at dksX5_isSaid_4 18 rfl rfl)
theorem dX5_isSaid_111 : decode cX5_isSaid 111 = .ok (.getfield 83, 3) := dk_180 0 83 (dk_at dksX5_isSaid_4 19 rfl rfl)
theorem dX5_isSaid_114 : decode cX5_isSaid 114 = .ok (.iload_n 2, 1) := dk_28 (dk_at dksX5_isSaid_4 22 rfl rfl)
theorem dX5_isSaid_115 : decode cX5_isSaid 115 = .ok (.iconst 1, 1) := dk_4 (dk_at dksX5_isSaid_4 23 rfl rfl)
theorem dX5_isSaid_116 : decode cX5_isSaid 116 = .ok (.isub, 1) := dk_100 (dk_at dksX5_isSaid_5 0 rfl rfl)
theorem dX5_isSaid_117 : decode cX5_isSaid 117 = .ok (.baload, 1) := dk_51 (dk_at dksX5_isSaid_5 1 rfl rfl)
theorem dX5_isSaid_118 : decode cX5_isSaid 118 = .ok (.ifCond .eq 16, 3) := dk_153 0 16 (dk_at dksX5_isSaid_5 2 rfl rfl)
theorem dX5_isSaid_121 : decode cX5_isSaid 121 = .ok (.aload_n 0, 1) := dk_42 (dk_at dksX5_isSaid_5 5 rfl rfl)
theorem dX5_isSaid_122 : decode cX5_isSaid 122 = .ok (.getfield 83, 3) := dk_180 0 83 (dk_at dksX5_isSaid_5 6 rfl rfl)
theorem dX5_isSaid_125 : decode cX5_isSaid 125 = .ok (.iload_n 2, 1) := dk_28 (dk_at dksX5_isSaid_5 9 rfl rfl)
theorem dX5_isSaid_126 : decode cX5_isSaid 126 = .ok (.baload, 1) := dk_51 (dk_at dksX5_isSaid_5 10 rfl rfl)
theorem dX5_isSaid_127 : decode cX5_isSaid 127 = .ok (.ifCond .eq 7, 3) := dk_153 0 7 (dk_at dksX5_isSaid_5 11 rfl rfl)
theorem dX5_isSaid_130 : decode cX5_isSaid 130 = .ok (.iconst 1, 1) := dk_4 (dk_at dksX5_isSaid_5 14 rfl rfl)
theorem dX5_isSaid_131 : decode cX5_isSaid 131 = .ok (.goto 32, 3) := dk_167 0 32 (dk_at dksX5_isSaid_5 15 rfl rfl)
theorem dX5_isSaid_134 : decode cX5_isSaid 134 = .ok (.iconst 0, 1) := dk_3 (dk_at dksX5_isSaid_5 18 rfl rfl)
theorem dX5_isSaid_135 : decode cX5_isSaid 135 = .ok (.goto 28, 3) := dk_167 0 28 (dk_at dksX5_isSaid_5 19 rfl rfl)
theorem dX5_isSaid_138 : decode cX5_isSaid 138 = .ok (.aload_n 0, 1) := dk_42 (dk_at dksX5_isSaid_5 22 rfl rfl)
theorem dX5_isSaid_139 : decode cX5_isSaid 139 = .ok (.getfield 83, 3) := dk_180 0 83 (dk_at dksX5_isSaid_6 0 rfl rfl)
theorem dX5_isSaid_142 : decode cX5_isSaid 142 = .ok (.iload_n 2, 1) := dk_28 (dk_at dksX5_isSaid_6 3 rfl rfl)
theorem dX5_isSaid_143 : decode cX5_isSaid 143 = .ok (.iconst 1, 1) := dk_4 (dk_at dksX5_isSaid_6 4 rfl rfl)
theorem dX5_isSaid_144 : decode cX5_isSaid 144 = .ok (.isub, 1) := dk_100 (dk_at dksX5_isSaid_6 5 rfl rfl)
theorem dX5_isSaid_145 : decode cX5_isSaid 145 = .ok (.baload, 1) := dk_51 (dk_at dksX5_isSaid_6 6 rfl rfl)
theorem dX5_isSaid_146 : decode cX5_isSaid 146 = .ok (.ifCond .ne 12, 3) := dk_154 0 12 (dk_at dksX5_isSaid_6 7 rfl rfl)
theorem dX5_isSaid_149 : decode cX5_isSaid 149 = .ok (.aload_n 0, 1) := dk_42 (dk_at dksX5_isSaid_6 10 rfl rfl)
theorem dX5_isSaid_150 : decode cX5_isSaid 150 = .ok (.getfield 83, 3) := dk_180 0 83 (dk_at dksX5_isSaid_6 11 rfl rfl)
theorem dX5_isSaid_153 : decode cX5_isSaid 153 = .ok (.iload_n 2, 1) := dk_28 (dk_at dksX5_isSaid_6 14 rfl rfl)
theorem dX5_isSaid_154 : decode cX5_isSaid 154 = .ok (.baload, 1) := dk_51 (dk_at dksX5_isSaid_6 15 rfl rfl)
theorem dX5_isSaid_155 : decode cX5_isSaid 155 = .ok (.ifCond .eq 7, 3) := dk_153 0 7 (dk_at dksX5_isSaid_6 16 rfl rfl)
theorem dX5_isSaid_158 : decode cX5_isSaid 158 = .ok (.iconst 1, 1) := dk_4 (dk_at dksX5_isSaid_6 19 rfl rfl)
theorem dX5_isSaid_159 : decode cX5_isSaid 159 = .ok (.goto 4, 3) := dk_167 0 4 (dk_at dksX5_isSaid_6 20 rfl rfl)
theorem dX5_isSaid_162 : decode cX5_isSaid 162 = .ok (.iconst 0, 1) := dk_3 (dk_at dksX5_isSaid_6 23 rfl rfl)
theorem dX5_isSaid_163 : decode cX5_isSaid 163 = .ok (.bastore, 1) := dk_84 (dk_at dksX5_isSaid_7 0 rfl rfl)
theorem dX5_isSaid_164 : decode cX5_isSaid 164 = .ok (.goto 42, 3) := dk_167 0 42 (dk_at dksX5_isSaid_7 1 rfl rfl)
theorem dX5_isSaid_167 : decode cX5_isSaid 167 = .ok (.aload_n 0, 1) := dk_42 (dk_at dksX5_isSaid_7 4 rfl rfl)
theorem dX5_isSaid_168 : decode cX5_isSaid 168 = .ok (.getfield 83, 3) := dk_180 0 83 (dk_at dksX5_isSaid_7 5 rfl rfl)
theorem dX5_isSaid_171 : decode cX5_isSaid 171 = .ok (.iload_n 2, 1) := dk_28 (dk_at dksX5_isSaid_7 8 rfl rfl)
theorem dX5_isSaid_172 : decode cX5_isSaid 172 = .ok (.aload_n 0, 1) := dk_42 (dk_at dksX5_isSaid_7 9 rfl rfl)
theorem dX5_isSaid_173 : decode cX5_isSaid 173 = .ok (.iload_n 1, 1) := dk_27 (dk_at dksX5_isSaid_7 10 rfl rfl)
theorem dX5_isSaid_174 : decode cX5_isSaid 174 = .ok (.aload_n 0, 1) := dk_42 (dk_at dksX5_isSaid_7 11 rfl rfl)
theorem dX5_isSaid_175 : decode cX5_isSaid 175 = .ok (.getfield 33, 3) := dk_180 0 33 (dk_at dksX5_isSaid_7 12 rfl rfl)
theorem dX5_isSaid_178 : decode cX5_isSaid 178 = .ok (.iload 4, 2) := dk_21 4 (dk_at dksX5_isSaid_7 15 rfl rfl)
theorem dX5_isSaid_180 : decode cX5_isSaid 180 = .ok (.iaload, 1) := dk_46 (dk_at dksX5_isSaid_7 17 rfl rfl)
theorem dX5_isSaid_181 : decode cX5_isSaid 181 = .ok (.aload_n 0, 1) := dk_42 (dk_at dksX5_isSaid_7 18 rfl rfl)
theorem dX5_isSaid_182 : decode cX5_isSaid 182 = .ok (.getfield 33, 3) := dk_180 0 33 (dk_at dksX5_isSaid_7 19 rfl rfl)
theorem dX5_isSaid_185 : decode cX5_isSaid 185 = .ok (.iload 4, 2) := dk_21 4 (dk_at dksX5_isSaid_7 22 rfl rfl)
theorem dX5_isSaid_187 : decode cX5_isSaid 187 = .ok (.iconst 1, 1) := dk_4 (dk_at dksX5_isSaid_8 0 rfl rfl)
theorem dX5_isSaid_188 : decode cX5_isSaid 188 = .ok (.iadd, 1) := dk_96 (dk_at dksX5_isSaid_8 1 rfl rfl)
theorem dX5_isSaid_189 : decode cX5_isSaid 189 = .ok (.iaload, 1) := dk_46 (dk_at dksX5_isSaid_8 2 rfl rfl)
theorem dX5_isSaid_190 : decode cX5_isSaid 190 = .ok (.aload_n 0, 1) := dk_42 (dk_at dksX5_isSaid_8 3 rfl rfl)
theorem dX5_isSaid_191 : decode cX5_isSaid 191 = .ok (.getfield 33, 3) := dk_180 0 33 (dk_at dksX5_isSaid_8 4 rfl rfl)
theorem dX5_isSaid_194 : decode cX5_isSaid 194 = .ok (.iload 4, 2) := dk_21 4 (dk_at dksX5_isSaid_8 7 rfl rfl)
theorem dX5_isSaid_196 : decode cX5_isSaid 196 = .ok (.iconst 2, 1) := dk_5 (dk_at dksX5_isSaid_8 9 rfl rfl)
theorem dX5_isSaid_197 : decode cX5_isSaid 197 = .ok (.iadd, 1) := dk_96 (dk_at dksX5_isSaid_8 10 rfl rfl)
theorem dX5_isSaid_198 : decode cX5_isSaid 198 = .ok (.iaload, 1) := dk_46 (dk_at dksX5_isSaid_8 11 rfl rfl)
theorem dX5_isSaid_199 : decode cX5_isSaid 199 = .ok (.invokevirtual 467, 3) := dk_182 1 211 (dk_at dksX5_isSaid_8 12 rfl rfl)
theorem dX5_isSaid_202 : decode cX5_isSaid 202 = .ok (.bastore, 1) := dk_84 (dk_at dksX5_isSaid_8 15 rfl rfl)
theorem dX5_isSaid_203 : decode cX5_isSaid 203 = .ok (.iinc 2 1, 3) := dk_132 2 1 (dk_at dksX5_isSaid_8 16 rfl rfl)
theorem dX5_isSaid_206 : decode cX5_isSaid 206 = .ok (.iinc 3 1, 3) := dk_132 3 1 (dk_at dksX5_isSaid_8 19 rfl rfl)
theorem dX5_isSaid_209 : decode cX5_isSaid 209 = .ok (.goto (-205), 3) := dk_167 255 51 (dk_at dksX5_isSaid_9 0 rfl rfl)
theorem dX5_isSaid_212 : decode cX5_isSaid 212 = .ok (.aload_n 0, 1) := dk_42 (dk_at dksX5_isSaid_9 3 rfl rfl)
theorem dX5_isSaid_213 : decode cX5_isSaid 213 = .ok (.getfield 83, 3) := dk_180 0 83 (dk_at dksX5_isSaid_9 4 rfl rfl)
theorem dX5_isSaid_216 : decode cX5_isSaid 216 = .ok (.iconst 0, 1) := dk_3 (dk_at dksX5_isSaid_9 7 rfl rfl)
theorem dX5_isSaid_217 : decode cX5_isSaid 217 = .ok (.baload, 1) := dk_51 (dk_at dksX5_isSaid_9 8 rfl rfl)
theorem dX5_isSaid_218 : decode cX5_isSaid 218 = .ok (.ireturn, 1) := dk_172 (dk_at dksX5_isSaid_9 9 rfl rfl)
abbrev cX5_isLeaf : ByteArray := prog_26_method_110_code
def yX5_isLeaf : MethodName := ⟨RX5, "isLeaf", "(IIII)Z"⟩
def dkwX5_isLeaf_9 : List UInt8 := [167, 0, 15, 21, 5, 21, 4, 164, 0, 7, 4, 167, 0, 4, 3, 172]
abbrev dktX5_isLeaf_9 : List UInt8 := dkwX5_isLeaf_9 ++ []
def dkwX5_isLeaf_8 : List UInt8 := [3, 167, 0, 36, 29, 16, 61, 160, 0, 18, 21, 5, 21, 4, 160, 0, 7, 4, 167, 0, 19, 3]
abbrev dktX5_isLeaf_8 : List UInt8 := dkwX5_isLeaf_8 ++ dktX5_isLeaf_9
def dkwX5_isLeaf_7 : List UInt8 := [46, 167, 0, 4, 27, 54, 5, 29, 16, 60, 160, 0, 18, 21, 5, 21, 4, 162, 0, 7, 4, 167, 0, 40]
abbrev dktX5_isLeaf_7 : List UInt8 := dkwX5_isLeaf_7 ++ dktX5_isLeaf_8
def dkwX5_isLeaf_6 : List UInt8 := [182, 1, 9, 184, 1, 28, 167, 0, 23, 28, 16, 8, 160, 0, 16, 42, 180, 0, 33, 17, 0, 213, 27, 96]
abbrev dktX5_isLeaf_6 : List UInt8 := dkwX5_isLeaf_6 ++ dktX5_isLeaf_7
def dkwX5_isLeaf_5 : List UInt8 := [160, 0, 16, 42, 180, 0, 33, 17, 0, 136, 27, 96, 46, 167, 0, 40, 28, 16, 7, 160, 0, 14, 42, 27]
abbrev dktX5_isLeaf_5 : List UInt8 := dkwX5_isLeaf_5 ++ dktX5_isLeaf_6
def dkwX5_isLeaf_4 : List UInt8 := [17, 0, 178, 8, 27, 104, 96, 21, 4, 96, 46, 158, 0, 7, 4, 167, 0, 4, 3, 172, 28, 16, 6]
abbrev dktX5_isLeaf_4 : List UInt8 := dkwX5_isLeaf_4 ++ dktX5_isLeaf_5
def dkwX5_isLeaf_3 : List UInt8 := [3, 172, 42, 27, 182, 1, 208, 172, 42, 27, 182, 1, 9, 21, 4, 184, 0, 214, 172, 42, 180, 0, 33]
abbrev dktX5_isLeaf_3 : List UInt8 := dkwX5_isLeaf_3 ++ dktX5_isLeaf_4
def dkwX5_isLeaf_2 : List UInt8 := [42, 27, 182, 1, 34, 172, 42, 27, 182, 1, 37, 172, 42, 27, 182, 1, 13, 154, 0, 7, 4, 167, 0, 4]
abbrev dktX5_isLeaf_2 : List UInt8 := dkwX5_isLeaf_2 ++ dktX5_isLeaf_3
def dkwX5_isLeaf_1 : List UInt8 := [170, 0, 0, 0, 0, 0, 106, 0, 0, 0, 0, 0, 0, 0, 5, 0, 0, 0, 39, 0, 0, 0, 45, 0, 0, 0, 51, 0, 0, 0, 65, 0, 0, 0, 71, 0, 0, 0, 82]
abbrev dktX5_isLeaf_1 : List UInt8 := dkwX5_isLeaf_1 ++ dktX5_isLeaf_2
def dkwX5_isLeaf_0 : List UInt8 := [28]
abbrev dktX5_isLeaf_0 : List UInt8 := dkwX5_isLeaf_0 ++ dktX5_isLeaf_1
theorem dksX5_isLeaf_0 : cX5_isLeaf.data.toList.drop 0 = dktX5_isLeaf_0 := by decide +kernel
theorem dksX5_isLeaf_1 : cX5_isLeaf.data.toList.drop 1 = dktX5_isLeaf_1 := dk_seg dksX5_isLeaf_0 1 rfl rfl
theorem dksX5_isLeaf_2 : cX5_isLeaf.data.toList.drop 40 = dktX5_isLeaf_2 := dk_seg dksX5_isLeaf_1 39 rfl rfl
theorem dksX5_isLeaf_3 : cX5_isLeaf.data.toList.drop 64 = dktX5_isLeaf_3 := dk_seg dksX5_isLeaf_2 24 rfl rfl
theorem dksX5_isLeaf_4 : cX5_isLeaf.data.toList.drop 87 = dktX5_isLeaf_4 := dk_seg dksX5_isLeaf_3 23 rfl rfl
theorem dksX5_isLeaf_5 : cX5_isLeaf.data.toList.drop 110 = dktX5_isLeaf_5 := dk_seg dksX5_isLeaf_4 23 rfl rfl
theorem dksX5_isLeaf_6 : cX5_isLeaf.data.toList.drop 134 = dktX5_isLeaf_6 := dk_seg dksX5_isLeaf_5 24 rfl rfl
theorem dksX5_isLeaf_7 : cX5_isLeaf.data.toList.drop 158 = dktX5_isLeaf_7 := dk_seg dksX5_isLeaf_6 24 rfl rfl
theorem dksX5_isLeaf_8 : cX5_isLeaf.data.toList.drop 182 = dktX5_isLeaf_8 := dk_seg dksX5_isLeaf_7 24 rfl rfl
theorem dksX5_isLeaf_9 : cX5_isLeaf.data.toList.drop 204 = dktX5_isLeaf_9 := dk_seg dksX5_isLeaf_8 22 rfl rfl
theorem dX5_isLeaf_0 : decode cX5_isLeaf 0 = .ok (.iload_n 2, 1) := dk_28 (dk_at dksX5_isLeaf_0 0 rfl rfl)
theorem dX5_isLeaf_1 : decode cX5_isLeaf 1 = .ok (.tableswitch 106 0 5 #[39, 45, 51, 65, 71, 82], 39) := by decide +kernel
theorem dX5_isLeaf_40 : decode cX5_isLeaf 40 = .ok (.aload_n 0, 1) := dk_42 (dk_at dksX5_isLeaf_2 0 rfl rfl)
theorem dX5_isLeaf_41 : decode cX5_isLeaf 41 = .ok (.iload_n 1, 1) := dk_27 (dk_at dksX5_isLeaf_2 1 rfl rfl)
theorem dX5_isLeaf_42 : decode cX5_isLeaf 42 = .ok (.invokevirtual 290, 3) := dk_182 1 34 (dk_at dksX5_isLeaf_2 2 rfl rfl)
theorem dX5_isLeaf_45 : decode cX5_isLeaf 45 = .ok (.ireturn, 1) := dk_172 (dk_at dksX5_isLeaf_2 5 rfl rfl)
theorem dX5_isLeaf_46 : decode cX5_isLeaf 46 = .ok (.aload_n 0, 1) := dk_42 (dk_at dksX5_isLeaf_2 6 rfl rfl)
theorem dX5_isLeaf_47 : decode cX5_isLeaf 47 = .ok (.iload_n 1, 1) := dk_27 (dk_at dksX5_isLeaf_2 7 rfl rfl)
theorem dX5_isLeaf_48 : decode cX5_isLeaf 48 = .ok (.invokevirtual 293, 3) := dk_182 1 37 (dk_at dksX5_isLeaf_2 8 rfl rfl)
theorem dX5_isLeaf_51 : decode cX5_isLeaf 51 = .ok (.ireturn, 1) := dk_172 (dk_at dksX5_isLeaf_2 11 rfl rfl)
theorem dX5_isLeaf_52 : decode cX5_isLeaf 52 = .ok (.aload_n 0, 1) := dk_42 (dk_at dksX5_isLeaf_2 12 rfl rfl)
theorem dX5_isLeaf_53 : decode cX5_isLeaf 53 = .ok (.iload_n 1, 1) := dk_27 (dk_at dksX5_isLeaf_2 13 rfl rfl)
theorem dX5_isLeaf_54 : decode cX5_isLeaf 54 = .ok (.invokevirtual 269, 3) := dk_182 1 13 (dk_at dksX5_isLeaf_2 14 rfl rfl)
theorem dX5_isLeaf_57 : decode cX5_isLeaf 57 = .ok (.ifCond .ne 7, 3) := dk_154 0 7 (dk_at dksX5_isLeaf_2 17 rfl rfl)
theorem dX5_isLeaf_60 : decode cX5_isLeaf 60 = .ok (.iconst 1, 1) := dk_4 (dk_at dksX5_isLeaf_2 20 rfl rfl)
theorem dX5_isLeaf_61 : decode cX5_isLeaf 61 = .ok (.goto 4, 3) := dk_167 0 4 (dk_at dksX5_isLeaf_2 21 rfl rfl)
theorem dX5_isLeaf_64 : decode cX5_isLeaf 64 = .ok (.iconst 0, 1) := dk_3 (dk_at dksX5_isLeaf_3 0 rfl rfl)
theorem dX5_isLeaf_65 : decode cX5_isLeaf 65 = .ok (.ireturn, 1) := dk_172 (dk_at dksX5_isLeaf_3 1 rfl rfl)
theorem dX5_isLeaf_66 : decode cX5_isLeaf 66 = .ok (.aload_n 0, 1) := dk_42 (dk_at dksX5_isLeaf_3 2 rfl rfl)
theorem dX5_isLeaf_67 : decode cX5_isLeaf 67 = .ok (.iload_n 1, 1) := dk_27 (dk_at dksX5_isLeaf_3 3 rfl rfl)
theorem dX5_isLeaf_68 : decode cX5_isLeaf 68 = .ok (.invokevirtual 464, 3) := dk_182 1 208 (dk_at dksX5_isLeaf_3 4 rfl rfl)
theorem dX5_isLeaf_71 : decode cX5_isLeaf 71 = .ok (.ireturn, 1) := dk_172 (dk_at dksX5_isLeaf_3 7 rfl rfl)
theorem dX5_isLeaf_72 : decode cX5_isLeaf 72 = .ok (.aload_n 0, 1) := dk_42 (dk_at dksX5_isLeaf_3 8 rfl rfl)
theorem dX5_isLeaf_73 : decode cX5_isLeaf 73 = .ok (.iload_n 1, 1) := dk_27 (dk_at dksX5_isLeaf_3 9 rfl rfl)
theorem dX5_isLeaf_74 : decode cX5_isLeaf 74 = .ok (.invokevirtual 265, 3) := dk_182 1 9 (dk_at dksX5_isLeaf_3 10 rfl rfl)
theorem dX5_isLeaf_77 : decode cX5_isLeaf 77 = .ok (.iload 4, 2) := dk_21 4 (dk_at dksX5_isLeaf_3 13 rfl rfl)
theorem dX5_isLeaf_79 : decode cX5_isLeaf 79 = .ok (.invokestatic 214, 3) := dk_184 0 214 (dk_at dksX5_isLeaf_3 15 rfl rfl)
theorem dX5_isLeaf_82 : decode cX5_isLeaf 82 = .ok (.ireturn, 1) := dk_172 (dk_at dksX5_isLeaf_3 18 rfl rfl)
theorem dX5_isLeaf_83 : decode cX5_isLeaf 83 = .ok (.aload_n 0, 1) := dk_42 (dk_at dksX5_isLeaf_3 19 rfl rfl)
theorem dX5_isLeaf_84 : decode cX5_isLeaf 84 = .ok (.getfield 33, 3) := dk_180 0 33 (dk_at dksX5_isLeaf_3 20 rfl rfl)
theorem dX5_isLeaf_87 : decode cX5_isLeaf 87 = .ok (.sipush 178, 3) := dk_17 0 178 (dk_at dksX5_isLeaf_4 0 rfl rfl)
theorem dX5_isLeaf_90 : decode cX5_isLeaf 90 = .ok (.iconst 5, 1) := dk_8 (dk_at dksX5_isLeaf_4 3 rfl rfl)
theorem dX5_isLeaf_91 : decode cX5_isLeaf 91 = .ok (.iload_n 1, 1) := dk_27 (dk_at dksX5_isLeaf_4 4 rfl rfl)
theorem dX5_isLeaf_92 : decode cX5_isLeaf 92 = .ok (.imul, 1) := dk_104 (dk_at dksX5_isLeaf_4 5 rfl rfl)
theorem dX5_isLeaf_93 : decode cX5_isLeaf 93 = .ok (.iadd, 1) := dk_96 (dk_at dksX5_isLeaf_4 6 rfl rfl)
theorem dX5_isLeaf_94 : decode cX5_isLeaf 94 = .ok (.iload 4, 2) := dk_21 4 (dk_at dksX5_isLeaf_4 7 rfl rfl)
theorem dX5_isLeaf_96 : decode cX5_isLeaf 96 = .ok (.iadd, 1) := dk_96 (dk_at dksX5_isLeaf_4 9 rfl rfl)
theorem dX5_isLeaf_97 : decode cX5_isLeaf 97 = .ok (.iaload, 1) := dk_46 (dk_at dksX5_isLeaf_4 10 rfl rfl)
theorem dX5_isLeaf_98 : decode cX5_isLeaf 98 = .ok (.ifCond .le 7, 3) := dk_158 0 7 (dk_at dksX5_isLeaf_4 11 rfl rfl)
theorem dX5_isLeaf_101 : decode cX5_isLeaf 101 = .ok (.iconst 1, 1) := dk_4 (dk_at dksX5_isLeaf_4 14 rfl rfl)
theorem dX5_isLeaf_102 : decode cX5_isLeaf 102 = .ok (.goto 4, 3) := dk_167 0 4 (dk_at dksX5_isLeaf_4 15 rfl rfl)
theorem dX5_isLeaf_105 : decode cX5_isLeaf 105 = .ok (.iconst 0, 1) := dk_3 (dk_at dksX5_isLeaf_4 18 rfl rfl)
theorem dX5_isLeaf_106 : decode cX5_isLeaf 106 = .ok (.ireturn, 1) := dk_172 (dk_at dksX5_isLeaf_4 19 rfl rfl)
theorem dX5_isLeaf_107 : decode cX5_isLeaf 107 = .ok (.iload_n 2, 1) := dk_28 (dk_at dksX5_isLeaf_4 20 rfl rfl)
theorem dX5_isLeaf_108 : decode cX5_isLeaf 108 = .ok (.bipush 6, 2) := dk_16 6 (dk_at dksX5_isLeaf_4 21 rfl rfl)
theorem dX5_isLeaf_110 : decode cX5_isLeaf 110 = .ok (.if_icmp .ne 16, 3) := dk_160 0 16 (dk_at dksX5_isLeaf_5 0 rfl rfl)
theorem dX5_isLeaf_113 : decode cX5_isLeaf 113 = .ok (.aload_n 0, 1) := dk_42 (dk_at dksX5_isLeaf_5 3 rfl rfl)
theorem dX5_isLeaf_114 : decode cX5_isLeaf 114 = .ok (.getfield 33, 3) := dk_180 0 33 (dk_at dksX5_isLeaf_5 4 rfl rfl)
theorem dX5_isLeaf_117 : decode cX5_isLeaf 117 = .ok (.sipush 136, 3) := dk_17 0 136 (dk_at dksX5_isLeaf_5 7 rfl rfl)
theorem dX5_isLeaf_120 : decode cX5_isLeaf 120 = .ok (.iload_n 1, 1) := dk_27 (dk_at dksX5_isLeaf_5 10 rfl rfl)
theorem dX5_isLeaf_121 : decode cX5_isLeaf 121 = .ok (.iadd, 1) := dk_96 (dk_at dksX5_isLeaf_5 11 rfl rfl)
theorem dX5_isLeaf_122 : decode cX5_isLeaf 122 = .ok (.iaload, 1) := dk_46 (dk_at dksX5_isLeaf_5 12 rfl rfl)
theorem dX5_isLeaf_123 : decode cX5_isLeaf 123 = .ok (.goto 40, 3) := dk_167 0 40 (dk_at dksX5_isLeaf_5 13 rfl rfl)
theorem dX5_isLeaf_126 : decode cX5_isLeaf 126 = .ok (.iload_n 2, 1) := dk_28 (dk_at dksX5_isLeaf_5 16 rfl rfl)
theorem dX5_isLeaf_127 : decode cX5_isLeaf 127 = .ok (.bipush 7, 2) := dk_16 7 (dk_at dksX5_isLeaf_5 17 rfl rfl)
theorem dX5_isLeaf_129 : decode cX5_isLeaf 129 = .ok (.if_icmp .ne 14, 3) := dk_160 0 14 (dk_at dksX5_isLeaf_5 19 rfl rfl)
theorem dX5_isLeaf_132 : decode cX5_isLeaf 132 = .ok (.aload_n 0, 1) := dk_42 (dk_at dksX5_isLeaf_5 22 rfl rfl)
theorem dX5_isLeaf_133 : decode cX5_isLeaf 133 = .ok (.iload_n 1, 1) := dk_27 (dk_at dksX5_isLeaf_5 23 rfl rfl)
theorem dX5_isLeaf_134 : decode cX5_isLeaf 134 = .ok (.invokevirtual 265, 3) := dk_182 1 9 (dk_at dksX5_isLeaf_6 0 rfl rfl)
theorem dX5_isLeaf_137 : decode cX5_isLeaf 137 = .ok (.invokestatic 284, 3) := dk_184 1 28 (dk_at dksX5_isLeaf_6 3 rfl rfl)
theorem dX5_isLeaf_140 : decode cX5_isLeaf 140 = .ok (.goto 23, 3) := dk_167 0 23 (dk_at dksX5_isLeaf_6 6 rfl rfl)
theorem dX5_isLeaf_143 : decode cX5_isLeaf 143 = .ok (.iload_n 2, 1) := dk_28 (dk_at dksX5_isLeaf_6 9 rfl rfl)
theorem dX5_isLeaf_144 : decode cX5_isLeaf 144 = .ok (.bipush 8, 2) := dk_16 8 (dk_at dksX5_isLeaf_6 10 rfl rfl)
theorem dX5_isLeaf_146 : decode cX5_isLeaf 146 = .ok (.if_icmp .ne 16, 3) := dk_160 0 16 (dk_at dksX5_isLeaf_6 12 rfl rfl)
theorem dX5_isLeaf_149 : decode cX5_isLeaf 149 = .ok (.aload_n 0, 1) := dk_42 (dk_at dksX5_isLeaf_6 15 rfl rfl)
theorem dX5_isLeaf_150 : decode cX5_isLeaf 150 = .ok (.getfield 33, 3) := dk_180 0 33 (dk_at dksX5_isLeaf_6 16 rfl rfl)
theorem dX5_isLeaf_153 : decode cX5_isLeaf 153 = .ok (.sipush 213, 3) := dk_17 0 213 (dk_at dksX5_isLeaf_6 19 rfl rfl)
theorem dX5_isLeaf_156 : decode cX5_isLeaf 156 = .ok (.iload_n 1, 1) := dk_27 (dk_at dksX5_isLeaf_6 22 rfl rfl)
theorem dX5_isLeaf_157 : decode cX5_isLeaf 157 = .ok (.iadd, 1) := dk_96 (dk_at dksX5_isLeaf_6 23 rfl rfl)
theorem dX5_isLeaf_158 : decode cX5_isLeaf 158 = .ok (.iaload, 1) := dk_46 (dk_at dksX5_isLeaf_7 0 rfl rfl)
theorem dX5_isLeaf_159 : decode cX5_isLeaf 159 = .ok (.goto 4, 3) := dk_167 0 4 (dk_at dksX5_isLeaf_7 1 rfl rfl)
theorem dX5_isLeaf_162 : decode cX5_isLeaf 162 = .ok (.iload_n 1, 1) := dk_27 (dk_at dksX5_isLeaf_7 4 rfl rfl)
theorem dX5_isLeaf_163 : decode cX5_isLeaf 163 = .ok (.istore 5, 2) := dk_54 5 (dk_at dksX5_isLeaf_7 5 rfl rfl)
theorem dX5_isLeaf_165 : decode cX5_isLeaf 165 = .ok (.iload_n 3, 1) := dk_29 (dk_at dksX5_isLeaf_7 7 rfl rfl)
theorem dX5_isLeaf_166 : decode cX5_isLeaf 166 = .ok (.bipush 60, 2) := dk_16 60 (dk_at dksX5_isLeaf_7 8 rfl rfl)
theorem dX5_isLeaf_168 : decode cX5_isLeaf 168 = .ok (.if_icmp .ne 18, 3) := dk_160 0 18 (dk_at dksX5_isLeaf_7 10 rfl rfl)
theorem dX5_isLeaf_171 : decode cX5_isLeaf 171 = .ok (.iload 5, 2) := dk_21 5 (dk_at dksX5_isLeaf_7 13 rfl rfl)
theorem dX5_isLeaf_173 : decode cX5_isLeaf 173 = .ok (.iload 4, 2) := dk_21 4 (dk_at dksX5_isLeaf_7 15 rfl rfl)
theorem dX5_isLeaf_175 : decode cX5_isLeaf 175 = .ok (.if_icmp .ge 7, 3) := dk_162 0 7 (dk_at dksX5_isLeaf_7 17 rfl rfl)
theorem dX5_isLeaf_178 : decode cX5_isLeaf 178 = .ok (.iconst 1, 1) := dk_4 (dk_at dksX5_isLeaf_7 20 rfl rfl)
theorem dX5_isLeaf_179 : decode cX5_isLeaf 179 = .ok (.goto 40, 3) := dk_167 0 40 (dk_at dksX5_isLeaf_7 21 rfl rfl)
theorem dX5_isLeaf_182 : decode cX5_isLeaf 182 = .ok (.iconst 0, 1) := dk_3 (dk_at dksX5_isLeaf_8 0 rfl rfl)
theorem dX5_isLeaf_183 : decode cX5_isLeaf 183 = .ok (.goto 36, 3) := dk_167 0 36 (dk_at dksX5_isLeaf_8 1 rfl rfl)
theorem dX5_isLeaf_186 : decode cX5_isLeaf 186 = .ok (.iload_n 3, 1) := dk_29 (dk_at dksX5_isLeaf_8 4 rfl rfl)
theorem dX5_isLeaf_187 : decode cX5_isLeaf 187 = .ok (.bipush 61, 2) := dk_16 61 (dk_at dksX5_isLeaf_8 5 rfl rfl)
theorem dX5_isLeaf_189 : decode cX5_isLeaf 189 = .ok (.if_icmp .ne 18, 3) := dk_160 0 18 (dk_at dksX5_isLeaf_8 7 rfl rfl)
theorem dX5_isLeaf_192 : decode cX5_isLeaf 192 = .ok (.iload 5, 2) := dk_21 5 (dk_at dksX5_isLeaf_8 10 rfl rfl)
theorem dX5_isLeaf_194 : decode cX5_isLeaf 194 = .ok (.iload 4, 2) := dk_21 4 (dk_at dksX5_isLeaf_8 12 rfl rfl)
theorem dX5_isLeaf_196 : decode cX5_isLeaf 196 = .ok (.if_icmp .ne 7, 3) := dk_160 0 7 (dk_at dksX5_isLeaf_8 14 rfl rfl)
theorem dX5_isLeaf_199 : decode cX5_isLeaf 199 = .ok (.iconst 1, 1) := dk_4 (dk_at dksX5_isLeaf_8 17 rfl rfl)
theorem dX5_isLeaf_200 : decode cX5_isLeaf 200 = .ok (.goto 19, 3) := dk_167 0 19 (dk_at dksX5_isLeaf_8 18 rfl rfl)
theorem dX5_isLeaf_203 : decode cX5_isLeaf 203 = .ok (.iconst 0, 1) := dk_3 (dk_at dksX5_isLeaf_8 21 rfl rfl)
theorem dX5_isLeaf_204 : decode cX5_isLeaf 204 = .ok (.goto 15, 3) := dk_167 0 15 (dk_at dksX5_isLeaf_9 0 rfl rfl)
theorem dX5_isLeaf_207 : decode cX5_isLeaf 207 = .ok (.iload 5, 2) := dk_21 5 (dk_at dksX5_isLeaf_9 3 rfl rfl)
theorem dX5_isLeaf_209 : decode cX5_isLeaf 209 = .ok (.iload 4, 2) := dk_21 4 (dk_at dksX5_isLeaf_9 5 rfl rfl)
theorem dX5_isLeaf_211 : decode cX5_isLeaf 211 = .ok (.if_icmp .le 7, 3) := dk_164 0 7 (dk_at dksX5_isLeaf_9 7 rfl rfl)
theorem dX5_isLeaf_214 : decode cX5_isLeaf 214 = .ok (.iconst 1, 1) := dk_4 (dk_at dksX5_isLeaf_9 10 rfl rfl)
theorem dX5_isLeaf_215 : decode cX5_isLeaf 215 = .ok (.goto 4, 3) := dk_167 0 4 (dk_at dksX5_isLeaf_9 11 rfl rfl)
theorem dX5_isLeaf_218 : decode cX5_isLeaf 218 = .ok (.iconst 0, 1) := dk_3 (dk_at dksX5_isLeaf_9 14 rfl rfl)
theorem dX5_isLeaf_219 : decode cX5_isLeaf 219 = .ok (.ireturn, 1) := dk_172 (dk_at dksX5_isLeaf_9 15 rfl rfl)
abbrev cX5_isSold : ByteArray := prog_26_method_109_code
def yX5_isSold : MethodName := ⟨RX5, "isSold", "(I)Z"⟩
def dkwX5_isSold_3 : List UInt8 := [153, 0, 11, 29, 154, 0, 7, 4, 167, 0, 4, 3, 172]
abbrev dktX5_isSold_3 : List UInt8 := dkwX5_isSold_3 ++ []
def dkwX5_isSold_2 : List UInt8 := [180, 0, 33, 17, 0, 143, 8, 27, 104, 96, 21, 4, 96, 46, 96, 62, 132, 4, 1, 167, 255, 197, 28]
abbrev dktX5_isSold_2 : List UInt8 := dkwX5_isSold_2 ++ dktX5_isSold_3
def dkwX5_isSold_1 : List UInt8 := [180, 0, 33, 16, 47, 8, 27, 104, 96, 21, 4, 96, 46, 158, 0, 7, 4, 167, 0, 4, 3, 61, 29, 42]
abbrev dktX5_isSold_1 : List UInt8 := dkwX5_isSold_1 ++ dktX5_isSold_2
def dkwX5_isSold_0 : List UInt8 := [3, 61, 3, 62, 3, 54, 4, 21, 4, 42, 180, 0, 33, 4, 46, 162, 0, 54, 28, 154, 0, 20, 42]
abbrev dktX5_isSold_0 : List UInt8 := dkwX5_isSold_0 ++ dktX5_isSold_1
theorem dksX5_isSold_0 : cX5_isSold.data.toList.drop 0 = dktX5_isSold_0 := by decide +kernel
theorem dksX5_isSold_1 : cX5_isSold.data.toList.drop 23 = dktX5_isSold_1 := dk_seg dksX5_isSold_0 23 rfl rfl
theorem dksX5_isSold_2 : cX5_isSold.data.toList.drop 47 = dktX5_isSold_2 := dk_seg dksX5_isSold_1 24 rfl rfl
theorem dksX5_isSold_3 : cX5_isSold.data.toList.drop 70 = dktX5_isSold_3 := dk_seg dksX5_isSold_2 23 rfl rfl
theorem dX5_isSold_0 : decode cX5_isSold 0 = .ok (.iconst 0, 1) := dk_3 (dk_at dksX5_isSold_0 0 rfl rfl)
theorem dX5_isSold_1 : decode cX5_isSold 1 = .ok (.istore_n 2, 1) := dk_61 (dk_at dksX5_isSold_0 1 rfl rfl)
theorem dX5_isSold_2 : decode cX5_isSold 2 = .ok (.iconst 0, 1) := dk_3 (dk_at dksX5_isSold_0 2 rfl rfl)
theorem dX5_isSold_3 : decode cX5_isSold 3 = .ok (.istore_n 3, 1) := dk_62 (dk_at dksX5_isSold_0 3 rfl rfl)
theorem dX5_isSold_4 : decode cX5_isSold 4 = .ok (.iconst 0, 1) := dk_3 (dk_at dksX5_isSold_0 4 rfl rfl)
theorem dX5_isSold_5 : decode cX5_isSold 5 = .ok (.istore 4, 2) := dk_54 4 (dk_at dksX5_isSold_0 5 rfl rfl)
theorem dX5_isSold_7 : decode cX5_isSold 7 = .ok (.iload 4, 2) := dk_21 4 (dk_at dksX5_isSold_0 7 rfl rfl)
theorem dX5_isSold_9 : decode cX5_isSold 9 = .ok (.aload_n 0, 1) := dk_42 (dk_at dksX5_isSold_0 9 rfl rfl)
theorem dX5_isSold_10 : decode cX5_isSold 10 = .ok (.getfield 33, 3) := dk_180 0 33 (dk_at dksX5_isSold_0 10 rfl rfl)
theorem dX5_isSold_13 : decode cX5_isSold 13 = .ok (.iconst 1, 1) := dk_4 (dk_at dksX5_isSold_0 13 rfl rfl)
theorem dX5_isSold_14 : decode cX5_isSold 14 = .ok (.iaload, 1) := dk_46 (dk_at dksX5_isSold_0 14 rfl rfl)
theorem dX5_isSold_15 : decode cX5_isSold 15 = .ok (.if_icmp .ge 54, 3) := dk_162 0 54 (dk_at dksX5_isSold_0 15 rfl rfl)
theorem dX5_isSold_18 : decode cX5_isSold 18 = .ok (.iload_n 2, 1) := dk_28 (dk_at dksX5_isSold_0 18 rfl rfl)
theorem dX5_isSold_19 : decode cX5_isSold 19 = .ok (.ifCond .ne 20, 3) := dk_154 0 20 (dk_at dksX5_isSold_0 19 rfl rfl)
theorem dX5_isSold_22 : decode cX5_isSold 22 = .ok (.aload_n 0, 1) := dk_42 (dk_at dksX5_isSold_0 22 rfl rfl)
theorem dX5_isSold_23 : decode cX5_isSold 23 = .ok (.getfield 33, 3) := dk_180 0 33 (dk_at dksX5_isSold_1 0 rfl rfl)
theorem dX5_isSold_26 : decode cX5_isSold 26 = .ok (.bipush 47, 2) := dk_16 47 (dk_at dksX5_isSold_1 3 rfl rfl)
theorem dX5_isSold_28 : decode cX5_isSold 28 = .ok (.iconst 5, 1) := dk_8 (dk_at dksX5_isSold_1 5 rfl rfl)
theorem dX5_isSold_29 : decode cX5_isSold 29 = .ok (.iload_n 1, 1) := dk_27 (dk_at dksX5_isSold_1 6 rfl rfl)
theorem dX5_isSold_30 : decode cX5_isSold 30 = .ok (.imul, 1) := dk_104 (dk_at dksX5_isSold_1 7 rfl rfl)
theorem dX5_isSold_31 : decode cX5_isSold 31 = .ok (.iadd, 1) := dk_96 (dk_at dksX5_isSold_1 8 rfl rfl)
theorem dX5_isSold_32 : decode cX5_isSold 32 = .ok (.iload 4, 2) := dk_21 4 (dk_at dksX5_isSold_1 9 rfl rfl)
theorem dX5_isSold_34 : decode cX5_isSold 34 = .ok (.iadd, 1) := dk_96 (dk_at dksX5_isSold_1 11 rfl rfl)
theorem dX5_isSold_35 : decode cX5_isSold 35 = .ok (.iaload, 1) := dk_46 (dk_at dksX5_isSold_1 12 rfl rfl)
theorem dX5_isSold_36 : decode cX5_isSold 36 = .ok (.ifCond .le 7, 3) := dk_158 0 7 (dk_at dksX5_isSold_1 13 rfl rfl)
theorem dX5_isSold_39 : decode cX5_isSold 39 = .ok (.iconst 1, 1) := dk_4 (dk_at dksX5_isSold_1 16 rfl rfl)
theorem dX5_isSold_40 : decode cX5_isSold 40 = .ok (.goto 4, 3) := dk_167 0 4 (dk_at dksX5_isSold_1 17 rfl rfl)
theorem dX5_isSold_43 : decode cX5_isSold 43 = .ok (.iconst 0, 1) := dk_3 (dk_at dksX5_isSold_1 20 rfl rfl)
theorem dX5_isSold_44 : decode cX5_isSold 44 = .ok (.istore_n 2, 1) := dk_61 (dk_at dksX5_isSold_1 21 rfl rfl)
theorem dX5_isSold_45 : decode cX5_isSold 45 = .ok (.iload_n 3, 1) := dk_29 (dk_at dksX5_isSold_1 22 rfl rfl)
theorem dX5_isSold_46 : decode cX5_isSold 46 = .ok (.aload_n 0, 1) := dk_42 (dk_at dksX5_isSold_1 23 rfl rfl)
theorem dX5_isSold_47 : decode cX5_isSold 47 = .ok (.getfield 33, 3) := dk_180 0 33 (dk_at dksX5_isSold_2 0 rfl rfl)
theorem dX5_isSold_50 : decode cX5_isSold 50 = .ok (.sipush 143, 3) := dk_17 0 143 (dk_at dksX5_isSold_2 3 rfl rfl)
theorem dX5_isSold_53 : decode cX5_isSold 53 = .ok (.iconst 5, 1) := dk_8 (dk_at dksX5_isSold_2 6 rfl rfl)
theorem dX5_isSold_54 : decode cX5_isSold 54 = .ok (.iload_n 1, 1) := dk_27 (dk_at dksX5_isSold_2 7 rfl rfl)
theorem dX5_isSold_55 : decode cX5_isSold 55 = .ok (.imul, 1) := dk_104 (dk_at dksX5_isSold_2 8 rfl rfl)
theorem dX5_isSold_56 : decode cX5_isSold 56 = .ok (.iadd, 1) := dk_96 (dk_at dksX5_isSold_2 9 rfl rfl)
theorem dX5_isSold_57 : decode cX5_isSold 57 = .ok (.iload 4, 2) := dk_21 4 (dk_at dksX5_isSold_2 10 rfl rfl)
theorem dX5_isSold_59 : decode cX5_isSold 59 = .ok (.iadd, 1) := dk_96 (dk_at dksX5_isSold_2 12 rfl rfl)
theorem dX5_isSold_60 : decode cX5_isSold 60 = .ok (.iaload, 1) := dk_46 (dk_at dksX5_isSold_2 13 rfl rfl)
theorem dX5_isSold_61 : decode cX5_isSold 61 = .ok (.iadd, 1) := dk_96 (dk_at dksX5_isSold_2 14 rfl rfl)
theorem dX5_isSold_62 : decode cX5_isSold 62 = .ok (.istore_n 3, 1) := dk_62 (dk_at dksX5_isSold_2 15 rfl rfl)
theorem dX5_isSold_63 : decode cX5_isSold 63 = .ok (.iinc 4 1, 3) := dk_132 4 1 (dk_at dksX5_isSold_2 16 rfl rfl)
theorem dX5_isSold_66 : decode cX5_isSold 66 = .ok (.goto (-59), 3) := dk_167 255 197 (dk_at dksX5_isSold_2 19 rfl rfl)
theorem dX5_isSold_69 : decode cX5_isSold 69 = .ok (.iload_n 2, 1) := dk_28 (dk_at dksX5_isSold_2 22 rfl rfl)
theorem dX5_isSold_70 : decode cX5_isSold 70 = .ok (.ifCond .eq 11, 3) := dk_153 0 11 (dk_at dksX5_isSold_3 0 rfl rfl)
theorem dX5_isSold_73 : decode cX5_isSold 73 = .ok (.iload_n 3, 1) := dk_29 (dk_at dksX5_isSold_3 3 rfl rfl)
theorem dX5_isSold_74 : decode cX5_isSold 74 = .ok (.ifCond .ne 7, 3) := dk_154 0 7 (dk_at dksX5_isSold_3 4 rfl rfl)
theorem dX5_isSold_77 : decode cX5_isSold 77 = .ok (.iconst 1, 1) := dk_4 (dk_at dksX5_isSold_3 7 rfl rfl)
theorem dX5_isSold_78 : decode cX5_isSold 78 = .ok (.goto 4, 3) := dk_167 0 4 (dk_at dksX5_isSold_3 8 rfl rfl)
theorem dX5_isSold_81 : decode cX5_isSold 81 = .ok (.iconst 0, 1) := dk_3 (dk_at dksX5_isSold_3 11 rfl rfl)
theorem dX5_isSold_82 : decode cX5_isSold 82 = .ok (.ireturn, 1) := dk_172 (dk_at dksX5_isSold_3 12 rfl rfl)
abbrev cX5_image : ByteArray := prog_26_method_113_code
def yX5_image : MethodName := ⟨RX5, "image", "(I)Z"⟩
def dkwX5_image_3 : List UInt8 := [180, 0, 43, 28, 47, 80, 132, 2, 1, 167, 255, 230, 42, 180, 0, 93, 27, 4, 84, 4, 172]
abbrev dktX5_image_3 : List UInt8 := dkwX5_image_3 ++ []
def dkwX5_image_2 : List UInt8 := [167, 255, 228, 3, 61, 28, 16, 12, 162, 0, 26, 42, 180, 0, 90, 16, 12, 27, 104, 28, 96, 42]
abbrev dktX5_image_2 : List UInt8 := dkwX5_image_2 ++ dktX5_image_3
def dkwX5_image_1 : List UInt8 := [162, 0, 27, 42, 180, 0, 87, 17, 1, 201, 27, 104, 28, 96, 42, 180, 0, 33, 28, 46, 79, 132, 2, 1]
abbrev dktX5_image_1 : List UInt8 := dkwX5_image_1 ++ dktX5_image_2
def dkwX5_image_0 : List UInt8 := [42, 3, 181, 0, 1, 27, 3, 4, 184, 0, 189, 154, 0, 5, 3, 172, 3, 61, 28, 17, 1, 201]
abbrev dktX5_image_0 : List UInt8 := dkwX5_image_0 ++ dktX5_image_1
theorem dksX5_image_0 : cX5_image.data.toList.drop 0 = dktX5_image_0 := by decide +kernel
theorem dksX5_image_1 : cX5_image.data.toList.drop 22 = dktX5_image_1 := dk_seg dksX5_image_0 22 rfl rfl
theorem dksX5_image_2 : cX5_image.data.toList.drop 46 = dktX5_image_2 := dk_seg dksX5_image_1 24 rfl rfl
theorem dksX5_image_3 : cX5_image.data.toList.drop 68 = dktX5_image_3 := dk_seg dksX5_image_2 22 rfl rfl
theorem dX5_image_0 : decode cX5_image 0 = .ok (.aload_n 0, 1) := dk_42 (dk_at dksX5_image_0 0 rfl rfl)
theorem dX5_image_1 : decode cX5_image 1 = .ok (.iconst 0, 1) := dk_3 (dk_at dksX5_image_0 1 rfl rfl)
theorem dX5_image_2 : decode cX5_image 2 = .ok (.putfield 1, 3) := dk_181 0 1 (dk_at dksX5_image_0 2 rfl rfl)
theorem dX5_image_5 : decode cX5_image 5 = .ok (.iload_n 1, 1) := dk_27 (dk_at dksX5_image_0 5 rfl rfl)
theorem dX5_image_6 : decode cX5_image 6 = .ok (.iconst 0, 1) := dk_3 (dk_at dksX5_image_0 6 rfl rfl)
theorem dX5_image_7 : decode cX5_image 7 = .ok (.iconst 1, 1) := dk_4 (dk_at dksX5_image_0 7 rfl rfl)
theorem dX5_image_8 : decode cX5_image 8 = .ok (.invokestatic 189, 3) := dk_184 0 189 (dk_at dksX5_image_0 8 rfl rfl)
theorem dX5_image_11 : decode cX5_image 11 = .ok (.ifCond .ne 5, 3) := dk_154 0 5 (dk_at dksX5_image_0 11 rfl rfl)
theorem dX5_image_14 : decode cX5_image 14 = .ok (.iconst 0, 1) := dk_3 (dk_at dksX5_image_0 14 rfl rfl)
theorem dX5_image_15 : decode cX5_image 15 = .ok (.ireturn, 1) := dk_172 (dk_at dksX5_image_0 15 rfl rfl)
theorem dX5_image_16 : decode cX5_image 16 = .ok (.iconst 0, 1) := dk_3 (dk_at dksX5_image_0 16 rfl rfl)
theorem dX5_image_17 : decode cX5_image 17 = .ok (.istore_n 2, 1) := dk_61 (dk_at dksX5_image_0 17 rfl rfl)
theorem dX5_image_18 : decode cX5_image 18 = .ok (.iload_n 2, 1) := dk_28 (dk_at dksX5_image_0 18 rfl rfl)
theorem dX5_image_19 : decode cX5_image 19 = .ok (.sipush 457, 3) := dk_17 1 201 (dk_at dksX5_image_0 19 rfl rfl)
theorem dX5_image_22 : decode cX5_image 22 = .ok (.if_icmp .ge 27, 3) := dk_162 0 27 (dk_at dksX5_image_1 0 rfl rfl)
theorem dX5_image_25 : decode cX5_image 25 = .ok (.aload_n 0, 1) := dk_42 (dk_at dksX5_image_1 3 rfl rfl)
theorem dX5_image_26 : decode cX5_image 26 = .ok (.getfield 87, 3) := dk_180 0 87 (dk_at dksX5_image_1 4 rfl rfl)
theorem dX5_image_29 : decode cX5_image 29 = .ok (.sipush 457, 3) := dk_17 1 201 (dk_at dksX5_image_1 7 rfl rfl)
theorem dX5_image_32 : decode cX5_image 32 = .ok (.iload_n 1, 1) := dk_27 (dk_at dksX5_image_1 10 rfl rfl)
theorem dX5_image_33 : decode cX5_image 33 = .ok (.imul, 1) := dk_104 (dk_at dksX5_image_1 11 rfl rfl)
theorem dX5_image_34 : decode cX5_image 34 = .ok (.iload_n 2, 1) := dk_28 (dk_at dksX5_image_1 12 rfl rfl)
theorem dX5_image_35 : decode cX5_image 35 = .ok (.iadd, 1) := dk_96 (dk_at dksX5_image_1 13 rfl rfl)
theorem dX5_image_36 : decode cX5_image 36 = .ok (.aload_n 0, 1) := dk_42 (dk_at dksX5_image_1 14 rfl rfl)
theorem dX5_image_37 : decode cX5_image 37 = .ok (.getfield 33, 3) := dk_180 0 33 (dk_at dksX5_image_1 15 rfl rfl)
theorem dX5_image_40 : decode cX5_image 40 = .ok (.iload_n 2, 1) := dk_28 (dk_at dksX5_image_1 18 rfl rfl)
theorem dX5_image_41 : decode cX5_image 41 = .ok (.iaload, 1) := dk_46 (dk_at dksX5_image_1 19 rfl rfl)
theorem dX5_image_42 : decode cX5_image 42 = .ok (.iastore, 1) := dk_79 (dk_at dksX5_image_1 20 rfl rfl)
theorem dX5_image_43 : decode cX5_image 43 = .ok (.iinc 2 1, 3) := dk_132 2 1 (dk_at dksX5_image_1 21 rfl rfl)
theorem dX5_image_46 : decode cX5_image 46 = .ok (.goto (-28), 3) := dk_167 255 228 (dk_at dksX5_image_2 0 rfl rfl)
theorem dX5_image_49 : decode cX5_image 49 = .ok (.iconst 0, 1) := dk_3 (dk_at dksX5_image_2 3 rfl rfl)
theorem dX5_image_50 : decode cX5_image 50 = .ok (.istore_n 2, 1) := dk_61 (dk_at dksX5_image_2 4 rfl rfl)
theorem dX5_image_51 : decode cX5_image 51 = .ok (.iload_n 2, 1) := dk_28 (dk_at dksX5_image_2 5 rfl rfl)
theorem dX5_image_52 : decode cX5_image 52 = .ok (.bipush 12, 2) := dk_16 12 (dk_at dksX5_image_2 6 rfl rfl)
theorem dX5_image_54 : decode cX5_image 54 = .ok (.if_icmp .ge 26, 3) := dk_162 0 26 (dk_at dksX5_image_2 8 rfl rfl)
theorem dX5_image_57 : decode cX5_image 57 = .ok (.aload_n 0, 1) := dk_42 (dk_at dksX5_image_2 11 rfl rfl)
theorem dX5_image_58 : decode cX5_image 58 = .ok (.getfield 90, 3) := dk_180 0 90 (dk_at dksX5_image_2 12 rfl rfl)
theorem dX5_image_61 : decode cX5_image 61 = .ok (.bipush 12, 2) := dk_16 12 (dk_at dksX5_image_2 15 rfl rfl)
theorem dX5_image_63 : decode cX5_image 63 = .ok (.iload_n 1, 1) := dk_27 (dk_at dksX5_image_2 17 rfl rfl)
theorem dX5_image_64 : decode cX5_image 64 = .ok (.imul, 1) := dk_104 (dk_at dksX5_image_2 18 rfl rfl)
theorem dX5_image_65 : decode cX5_image 65 = .ok (.iload_n 2, 1) := dk_28 (dk_at dksX5_image_2 19 rfl rfl)
theorem dX5_image_66 : decode cX5_image 66 = .ok (.iadd, 1) := dk_96 (dk_at dksX5_image_2 20 rfl rfl)
theorem dX5_image_67 : decode cX5_image 67 = .ok (.aload_n 0, 1) := dk_42 (dk_at dksX5_image_2 21 rfl rfl)
theorem dX5_image_68 : decode cX5_image 68 = .ok (.getfield 43, 3) := dk_180 0 43 (dk_at dksX5_image_3 0 rfl rfl)
theorem dX5_image_71 : decode cX5_image 71 = .ok (.iload_n 2, 1) := dk_28 (dk_at dksX5_image_3 3 rfl rfl)
theorem dX5_image_72 : decode cX5_image 72 = .ok (.laload, 1) := dk_47 (dk_at dksX5_image_3 4 rfl rfl)
theorem dX5_image_73 : decode cX5_image 73 = .ok (.lastore, 1) := dk_80 (dk_at dksX5_image_3 5 rfl rfl)
theorem dX5_image_74 : decode cX5_image 74 = .ok (.iinc 2 1, 3) := dk_132 2 1 (dk_at dksX5_image_3 6 rfl rfl)
theorem dX5_image_77 : decode cX5_image 77 = .ok (.goto (-26), 3) := dk_167 255 230 (dk_at dksX5_image_3 9 rfl rfl)
theorem dX5_image_80 : decode cX5_image 80 = .ok (.aload_n 0, 1) := dk_42 (dk_at dksX5_image_3 12 rfl rfl)
theorem dX5_image_81 : decode cX5_image 81 = .ok (.getfield 93, 3) := dk_180 0 93 (dk_at dksX5_image_3 13 rfl rfl)
theorem dX5_image_84 : decode cX5_image 84 = .ok (.iload_n 1, 1) := dk_27 (dk_at dksX5_image_3 16 rfl rfl)
theorem dX5_image_85 : decode cX5_image 85 = .ok (.iconst 1, 1) := dk_4 (dk_at dksX5_image_3 17 rfl rfl)
theorem dX5_image_86 : decode cX5_image 86 = .ok (.bastore, 1) := dk_84 (dk_at dksX5_image_3 18 rfl rfl)
theorem dX5_image_87 : decode cX5_image 87 = .ok (.iconst 1, 1) := dk_4 (dk_at dksX5_image_3 19 rfl rfl)
theorem dX5_image_88 : decode cX5_image 88 = .ok (.ireturn, 1) := dk_172 (dk_at dksX5_image_3 20 rfl rfl)
abbrev cX5_restore : ByteArray := prog_26_method_114_code
def yX5_restore : MethodName := ⟨RX5, "restore", "(I)Z"⟩
def dkwX5_restore_3 : List UInt8 := [180, 0, 90, 16, 12, 27, 104, 28, 96, 47, 80, 132, 2, 1, 167, 255, 230, 42, 3, 181, 1, 6, 4, 172]
abbrev dktX5_restore_3 : List UInt8 := dkwX5_restore_3 ++ []
def dkwX5_restore_2 : List UInt8 := [28, 96, 46, 79, 132, 2, 1, 167, 255, 228, 3, 61, 28, 16, 12, 162, 0, 26, 42, 180, 0, 43, 28, 42]
abbrev dktX5_restore_2 : List UInt8 := dkwX5_restore_2 ++ dktX5_restore_3
def dkwX5_restore_1 : List UInt8 := [172, 3, 61, 28, 17, 1, 201, 162, 0, 27, 42, 180, 0, 33, 28, 42, 180, 0, 87, 17, 1, 201, 27, 104]
abbrev dktX5_restore_1 : List UInt8 := dkwX5_restore_1 ++ dktX5_restore_2
def dkwX5_restore_0 : List UInt8 := [42, 3, 181, 0, 1, 27, 3, 4, 184, 0, 189, 153, 0, 12, 42, 180, 0, 93, 27, 51, 154, 0, 5, 3]
abbrev dktX5_restore_0 : List UInt8 := dkwX5_restore_0 ++ dktX5_restore_1
theorem dksX5_restore_0 : cX5_restore.data.toList.drop 0 = dktX5_restore_0 := by decide +kernel
theorem dksX5_restore_1 : cX5_restore.data.toList.drop 24 = dktX5_restore_1 := dk_seg dksX5_restore_0 24 rfl rfl
theorem dksX5_restore_2 : cX5_restore.data.toList.drop 48 = dktX5_restore_2 := dk_seg dksX5_restore_1 24 rfl rfl
theorem dksX5_restore_3 : cX5_restore.data.toList.drop 72 = dktX5_restore_3 := dk_seg dksX5_restore_2 24 rfl rfl
theorem dX5_restore_0 : decode cX5_restore 0 = .ok (.aload_n 0, 1) := dk_42 (dk_at dksX5_restore_0 0 rfl rfl)
theorem dX5_restore_1 : decode cX5_restore 1 = .ok (.iconst 0, 1) := dk_3 (dk_at dksX5_restore_0 1 rfl rfl)
theorem dX5_restore_2 : decode cX5_restore 2 = .ok (.putfield 1, 3) := dk_181 0 1 (dk_at dksX5_restore_0 2 rfl rfl)
theorem dX5_restore_5 : decode cX5_restore 5 = .ok (.iload_n 1, 1) := dk_27 (dk_at dksX5_restore_0 5 rfl rfl)
theorem dX5_restore_6 : decode cX5_restore 6 = .ok (.iconst 0, 1) := dk_3 (dk_at dksX5_restore_0 6 rfl rfl)
theorem dX5_restore_7 : decode cX5_restore 7 = .ok (.iconst 1, 1) := dk_4 (dk_at dksX5_restore_0 7 rfl rfl)
theorem dX5_restore_8 : decode cX5_restore 8 = .ok (.invokestatic 189, 3) := dk_184 0 189 (dk_at dksX5_restore_0 8 rfl rfl)
theorem dX5_restore_11 : decode cX5_restore 11 = .ok (.ifCond .eq 12, 3) := dk_153 0 12 (dk_at dksX5_restore_0 11 rfl rfl)
theorem dX5_restore_14 : decode cX5_restore 14 = .ok (.aload_n 0, 1) := dk_42 (dk_at dksX5_restore_0 14 rfl rfl)
theorem dX5_restore_15 : decode cX5_restore 15 = .ok (.getfield 93, 3) := dk_180 0 93 (dk_at dksX5_restore_0 15 rfl rfl)
theorem dX5_restore_18 : decode cX5_restore 18 = .ok (.iload_n 1, 1) := dk_27 (dk_at dksX5_restore_0 18 rfl rfl)
theorem dX5_restore_19 : decode cX5_restore 19 = .ok (.baload, 1) := dk_51 (dk_at dksX5_restore_0 19 rfl rfl)
theorem dX5_restore_20 : decode cX5_restore 20 = .ok (.ifCond .ne 5, 3) := dk_154 0 5 (dk_at dksX5_restore_0 20 rfl rfl)
theorem dX5_restore_23 : decode cX5_restore 23 = .ok (.iconst 0, 1) := dk_3 (dk_at dksX5_restore_0 23 rfl rfl)
theorem dX5_restore_24 : decode cX5_restore 24 = .ok (.ireturn, 1) := dk_172 (dk_at dksX5_restore_1 0 rfl rfl)
theorem dX5_restore_25 : decode cX5_restore 25 = .ok (.iconst 0, 1) := dk_3 (dk_at dksX5_restore_1 1 rfl rfl)
theorem dX5_restore_26 : decode cX5_restore 26 = .ok (.istore_n 2, 1) := dk_61 (dk_at dksX5_restore_1 2 rfl rfl)
theorem dX5_restore_27 : decode cX5_restore 27 = .ok (.iload_n 2, 1) := dk_28 (dk_at dksX5_restore_1 3 rfl rfl)
theorem dX5_restore_28 : decode cX5_restore 28 = .ok (.sipush 457, 3) := dk_17 1 201 (dk_at dksX5_restore_1 4 rfl rfl)
theorem dX5_restore_31 : decode cX5_restore 31 = .ok (.if_icmp .ge 27, 3) := dk_162 0 27 (dk_at dksX5_restore_1 7 rfl rfl)
theorem dX5_restore_34 : decode cX5_restore 34 = .ok (.aload_n 0, 1) := dk_42 (dk_at dksX5_restore_1 10 rfl rfl)
theorem dX5_restore_35 : decode cX5_restore 35 = .ok (.getfield 33, 3) := dk_180 0 33 (dk_at dksX5_restore_1 11 rfl rfl)
theorem dX5_restore_38 : decode cX5_restore 38 = .ok (.iload_n 2, 1) := dk_28 (dk_at dksX5_restore_1 14 rfl rfl)
theorem dX5_restore_39 : decode cX5_restore 39 = .ok (.aload_n 0, 1) := dk_42 (dk_at dksX5_restore_1 15 rfl rfl)
theorem dX5_restore_40 : decode cX5_restore 40 = .ok (.getfield 87, 3) := dk_180 0 87 (dk_at dksX5_restore_1 16 rfl rfl)
theorem dX5_restore_43 : decode cX5_restore 43 = .ok (.sipush 457, 3) := dk_17 1 201 (dk_at dksX5_restore_1 19 rfl rfl)
theorem dX5_restore_46 : decode cX5_restore 46 = .ok (.iload_n 1, 1) := dk_27 (dk_at dksX5_restore_1 22 rfl rfl)
theorem dX5_restore_47 : decode cX5_restore 47 = .ok (.imul, 1) := dk_104 (dk_at dksX5_restore_1 23 rfl rfl)
theorem dX5_restore_48 : decode cX5_restore 48 = .ok (.iload_n 2, 1) := dk_28 (dk_at dksX5_restore_2 0 rfl rfl)
theorem dX5_restore_49 : decode cX5_restore 49 = .ok (.iadd, 1) := dk_96 (dk_at dksX5_restore_2 1 rfl rfl)
theorem dX5_restore_50 : decode cX5_restore 50 = .ok (.iaload, 1) := dk_46 (dk_at dksX5_restore_2 2 rfl rfl)
theorem dX5_restore_51 : decode cX5_restore 51 = .ok (.iastore, 1) := dk_79 (dk_at dksX5_restore_2 3 rfl rfl)
theorem dX5_restore_52 : decode cX5_restore 52 = .ok (.iinc 2 1, 3) := dk_132 2 1 (dk_at dksX5_restore_2 4 rfl rfl)
theorem dX5_restore_55 : decode cX5_restore 55 = .ok (.goto (-28), 3) := dk_167 255 228 (dk_at dksX5_restore_2 7 rfl rfl)
theorem dX5_restore_58 : decode cX5_restore 58 = .ok (.iconst 0, 1) := dk_3 (dk_at dksX5_restore_2 10 rfl rfl)
theorem dX5_restore_59 : decode cX5_restore 59 = .ok (.istore_n 2, 1) := dk_61 (dk_at dksX5_restore_2 11 rfl rfl)
theorem dX5_restore_60 : decode cX5_restore 60 = .ok (.iload_n 2, 1) := dk_28 (dk_at dksX5_restore_2 12 rfl rfl)
theorem dX5_restore_61 : decode cX5_restore 61 = .ok (.bipush 12, 2) := dk_16 12 (dk_at dksX5_restore_2 13 rfl rfl)
theorem dX5_restore_63 : decode cX5_restore 63 = .ok (.if_icmp .ge 26, 3) := dk_162 0 26 (dk_at dksX5_restore_2 15 rfl rfl)
theorem dX5_restore_66 : decode cX5_restore 66 = .ok (.aload_n 0, 1) := dk_42 (dk_at dksX5_restore_2 18 rfl rfl)
theorem dX5_restore_67 : decode cX5_restore 67 = .ok (.getfield 43, 3) := dk_180 0 43 (dk_at dksX5_restore_2 19 rfl rfl)
theorem dX5_restore_70 : decode cX5_restore 70 = .ok (.iload_n 2, 1) := dk_28 (dk_at dksX5_restore_2 22 rfl rfl)
theorem dX5_restore_71 : decode cX5_restore 71 = .ok (.aload_n 0, 1) := dk_42 (dk_at dksX5_restore_2 23 rfl rfl)
theorem dX5_restore_72 : decode cX5_restore 72 = .ok (.getfield 90, 3) := dk_180 0 90 (dk_at dksX5_restore_3 0 rfl rfl)
theorem dX5_restore_75 : decode cX5_restore 75 = .ok (.bipush 12, 2) := dk_16 12 (dk_at dksX5_restore_3 3 rfl rfl)
theorem dX5_restore_77 : decode cX5_restore 77 = .ok (.iload_n 1, 1) := dk_27 (dk_at dksX5_restore_3 5 rfl rfl)
theorem dX5_restore_78 : decode cX5_restore 78 = .ok (.imul, 1) := dk_104 (dk_at dksX5_restore_3 6 rfl rfl)
theorem dX5_restore_79 : decode cX5_restore 79 = .ok (.iload_n 2, 1) := dk_28 (dk_at dksX5_restore_3 7 rfl rfl)
theorem dX5_restore_80 : decode cX5_restore 80 = .ok (.iadd, 1) := dk_96 (dk_at dksX5_restore_3 8 rfl rfl)
theorem dX5_restore_81 : decode cX5_restore 81 = .ok (.laload, 1) := dk_47 (dk_at dksX5_restore_3 9 rfl rfl)
theorem dX5_restore_82 : decode cX5_restore 82 = .ok (.lastore, 1) := dk_80 (dk_at dksX5_restore_3 10 rfl rfl)
theorem dX5_restore_83 : decode cX5_restore 83 = .ok (.iinc 2 1, 3) := dk_132 2 1 (dk_at dksX5_restore_3 11 rfl rfl)
theorem dX5_restore_86 : decode cX5_restore 86 = .ok (.goto (-26), 3) := dk_167 255 230 (dk_at dksX5_restore_3 14 rfl rfl)
theorem dX5_restore_89 : decode cX5_restore 89 = .ok (.aload_n 0, 1) := dk_42 (dk_at dksX5_restore_3 17 rfl rfl)
theorem dX5_restore_90 : decode cX5_restore 90 = .ok (.iconst 0, 1) := dk_3 (dk_at dksX5_restore_3 18 rfl rfl)
theorem dX5_restore_91 : decode cX5_restore 91 = .ok (.putfield 262, 3) := dk_181 1 6 (dk_at dksX5_restore_3 19 rfl rfl)
theorem dX5_restore_94 : decode cX5_restore 94 = .ok (.iconst 1, 1) := dk_4 (dk_at dksX5_restore_3 22 rfl rfl)
theorem dX5_restore_95 : decode cX5_restore 95 = .ok (.ireturn, 1) := dk_172 (dk_at dksX5_restore_3 23 rfl rfl)
abbrev cX5_count : ByteArray := prog_26_method_115_code
def yX5_count : MethodName := ⟨RX5, "count", "(I)I"⟩
def dkwX5_count_1 : List UInt8 := [153, 0, 12, 42, 180, 0, 33, 27, 46, 167, 0, 4, 2, 172]
abbrev dktX5_count_1 : List UInt8 := dkwX5_count_1 ++ []
def dkwX5_count_0 : List UInt8 := [42, 3, 181, 0, 1, 27, 8, 160, 0, 10, 42, 180, 0, 7, 167, 0, 22, 27, 3, 7, 184, 0, 189]
abbrev dktX5_count_0 : List UInt8 := dkwX5_count_0 ++ dktX5_count_1
theorem dksX5_count_0 : cX5_count.data.toList.drop 0 = dktX5_count_0 := by decide +kernel
theorem dksX5_count_1 : cX5_count.data.toList.drop 23 = dktX5_count_1 := dk_seg dksX5_count_0 23 rfl rfl
theorem dX5_count_0 : decode cX5_count 0 = .ok (.aload_n 0, 1) := dk_42 (dk_at dksX5_count_0 0 rfl rfl)
theorem dX5_count_1 : decode cX5_count 1 = .ok (.iconst 0, 1) := dk_3 (dk_at dksX5_count_0 1 rfl rfl)
theorem dX5_count_2 : decode cX5_count 2 = .ok (.putfield 1, 3) := dk_181 0 1 (dk_at dksX5_count_0 2 rfl rfl)
theorem dX5_count_5 : decode cX5_count 5 = .ok (.iload_n 1, 1) := dk_27 (dk_at dksX5_count_0 5 rfl rfl)
theorem dX5_count_6 : decode cX5_count 6 = .ok (.iconst 5, 1) := dk_8 (dk_at dksX5_count_0 6 rfl rfl)
theorem dX5_count_7 : decode cX5_count 7 = .ok (.if_icmp .ne 10, 3) := dk_160 0 10 (dk_at dksX5_count_0 7 rfl rfl)
theorem dX5_count_10 : decode cX5_count 10 = .ok (.aload_n 0, 1) := dk_42 (dk_at dksX5_count_0 10 rfl rfl)
theorem dX5_count_11 : decode cX5_count 11 = .ok (.getfield 7, 3) := dk_180 0 7 (dk_at dksX5_count_0 11 rfl rfl)
theorem dX5_count_14 : decode cX5_count 14 = .ok (.goto 22, 3) := dk_167 0 22 (dk_at dksX5_count_0 14 rfl rfl)
theorem dX5_count_17 : decode cX5_count 17 = .ok (.iload_n 1, 1) := dk_27 (dk_at dksX5_count_0 17 rfl rfl)
theorem dX5_count_18 : decode cX5_count 18 = .ok (.iconst 0, 1) := dk_3 (dk_at dksX5_count_0 18 rfl rfl)
theorem dX5_count_19 : decode cX5_count 19 = .ok (.iconst 4, 1) := dk_7 (dk_at dksX5_count_0 19 rfl rfl)
theorem dX5_count_20 : decode cX5_count 20 = .ok (.invokestatic 189, 3) := dk_184 0 189 (dk_at dksX5_count_0 20 rfl rfl)
theorem dX5_count_23 : decode cX5_count 23 = .ok (.ifCond .eq 12, 3) := dk_153 0 12 (dk_at dksX5_count_1 0 rfl rfl)
theorem dX5_count_26 : decode cX5_count 26 = .ok (.aload_n 0, 1) := dk_42 (dk_at dksX5_count_1 3 rfl rfl)
theorem dX5_count_27 : decode cX5_count 27 = .ok (.getfield 33, 3) := dk_180 0 33 (dk_at dksX5_count_1 4 rfl rfl)
theorem dX5_count_30 : decode cX5_count 30 = .ok (.iload_n 1, 1) := dk_27 (dk_at dksX5_count_1 7 rfl rfl)
theorem dX5_count_31 : decode cX5_count 31 = .ok (.iaload, 1) := dk_46 (dk_at dksX5_count_1 8 rfl rfl)
theorem dX5_count_32 : decode cX5_count 32 = .ok (.goto 4, 3) := dk_167 0 4 (dk_at dksX5_count_1 9 rfl rfl)
theorem dX5_count_35 : decode cX5_count 35 = .ok (.iconst (-1), 1) := dk_2 (dk_at dksX5_count_1 12 rfl rfl)
theorem dX5_count_36 : decode cX5_count 36 = .ok (.ireturn, 1) := dk_172 (dk_at dksX5_count_1 13 rfl rfl)
