set_option maxRecDepth 100000
abbrev cX1_init : ByteArray := prog_11_method_1_code
def yX1_init : MethodName := ⟨RX1, "<init>", "()V"⟩
def dkwX1_init_1 : List UInt8 := [17, 1, 146, 188, 9, 181, 0, 19, 42, 17, 1, 146, 188, 11, 181, 0, 22, 177]
abbrev dktX1_init_1 : List UInt8 := dkwX1_init_1 ++ []
def dkwX1_init_0 : List UInt8 := [42, 183, 0, 3, 42, 17, 7, 208, 188, 8, 181, 0, 11, 42, 17, 1, 146, 188, 9, 181, 0, 15, 42]
abbrev dktX1_init_0 : List UInt8 := dkwX1_init_0 ++ dktX1_init_1
theorem dksX1_init_0 : cX1_init.data.toList.drop 0 = dktX1_init_0 := by decide +kernel
theorem dksX1_init_1 : cX1_init.data.toList.drop 23 = dktX1_init_1 := dk_seg dksX1_init_0 23 rfl rfl
theorem dX1_init_0 : decode cX1_init 0 = .ok (.aload_n 0, 1) := dk_42 (dk_at dksX1_init_0 0 rfl rfl)
theorem dX1_init_1 : decode cX1_init 1 = .ok (.invokespecial 3, 3) := dk_183 0 3 (dk_at dksX1_init_0 1 rfl rfl)
theorem dX1_init_4 : decode cX1_init 4 = .ok (.aload_n 0, 1) := dk_42 (dk_at dksX1_init_0 4 rfl rfl)
theorem dX1_init_5 : decode cX1_init 5 = .ok (.sipush 2000, 3) := dk_17 7 208 (dk_at dksX1_init_0 5 rfl rfl)
theorem dX1_init_8 : decode cX1_init 8 = .ok (.newarray .byte, 2) := dk_188_8 (dk_at dksX1_init_0 8 rfl rfl)
theorem dX1_init_10 : decode cX1_init 10 = .ok (.putfield 11, 3) := dk_181 0 11 (dk_at dksX1_init_0 10 rfl rfl)
theorem dX1_init_13 : decode cX1_init 13 = .ok (.aload_n 0, 1) := dk_42 (dk_at dksX1_init_0 13 rfl rfl)
theorem dX1_init_14 : decode cX1_init 14 = .ok (.sipush 402, 3) := dk_17 1 146 (dk_at dksX1_init_0 14 rfl rfl)
theorem dX1_init_17 : decode cX1_init 17 = .ok (.newarray .short, 2) := dk_188_9 (dk_at dksX1_init_0 17 rfl rfl)
theorem dX1_init_19 : decode cX1_init 19 = .ok (.putfield 15, 3) := dk_181 0 15 (dk_at dksX1_init_0 19 rfl rfl)
theorem dX1_init_22 : decode cX1_init 22 = .ok (.aload_n 0, 1) := dk_42 (dk_at dksX1_init_0 22 rfl rfl)
theorem dX1_init_23 : decode cX1_init 23 = .ok (.sipush 402, 3) := dk_17 1 146 (dk_at dksX1_init_1 0 rfl rfl)
theorem dX1_init_26 : decode cX1_init 26 = .ok (.newarray .short, 2) := dk_188_9 (dk_at dksX1_init_1 3 rfl rfl)
theorem dX1_init_28 : decode cX1_init 28 = .ok (.putfield 19, 3) := dk_181 0 19 (dk_at dksX1_init_1 5 rfl rfl)
theorem dX1_init_31 : decode cX1_init 31 = .ok (.aload_n 0, 1) := dk_42 (dk_at dksX1_init_1 8 rfl rfl)
theorem dX1_init_32 : decode cX1_init 32 = .ok (.sipush 402, 3) := dk_17 1 146 (dk_at dksX1_init_1 9 rfl rfl)
theorem dX1_init_35 : decode cX1_init 35 = .ok (.newarray .long, 2) := dk_188_11 (dk_at dksX1_init_1 12 rfl rfl)
theorem dX1_init_37 : decode cX1_init 37 = .ok (.putfield 22, 3) := dk_181 0 22 (dk_at dksX1_init_1 14 rfl rfl)
theorem dX1_init_40 : decode cX1_init 40 = .ok (.return_, 1) := dk_177 (dk_at dksX1_init_1 17 rfl rfl)
abbrev cX1_feed : ByteArray := prog_11_method_2_code
def yX1_feed : MethodName := ⟨RX1, "feed", "(IIIII)I"⟩
def dkwX1_feed_2 : List UInt8 := [172]
abbrev dktX1_feed_2 : List UInt8 := dkwX1_feed_2 ++ []
def dkwX1_feed_1 : List UInt8 := [182, 0, 30, 42, 29, 182, 0, 30, 42, 21, 4, 182, 0, 30, 42, 21, 5, 182, 0, 30, 42, 180, 0, 26]
abbrev dktX1_feed_1 : List UInt8 := dkwX1_feed_1 ++ dktX1_feed_2
def dkwX1_feed_0 : List UInt8 := [42, 180, 0, 26, 16, 20, 96, 17, 7, 208, 164, 0, 5, 2, 172, 42, 27, 182, 0, 30, 42, 28]
abbrev dktX1_feed_0 : List UInt8 := dkwX1_feed_0 ++ dktX1_feed_1
theorem dksX1_feed_0 : cX1_feed.data.toList.drop 0 = dktX1_feed_0 := by decide +kernel
theorem dksX1_feed_1 : cX1_feed.data.toList.drop 22 = dktX1_feed_1 := dk_seg dksX1_feed_0 22 rfl rfl
theorem dksX1_feed_2 : cX1_feed.data.toList.drop 46 = dktX1_feed_2 := dk_seg dksX1_feed_1 24 rfl rfl
theorem dX1_feed_0 : decode cX1_feed 0 = .ok (.aload_n 0, 1) := dk_42 (dk_at dksX1_feed_0 0 rfl rfl)
theorem dX1_feed_1 : decode cX1_feed 1 = .ok (.getfield 26, 3) := dk_180 0 26 (dk_at dksX1_feed_0 1 rfl rfl)
theorem dX1_feed_4 : decode cX1_feed 4 = .ok (.bipush 20, 2) := dk_16 20 (dk_at dksX1_feed_0 4 rfl rfl)
theorem dX1_feed_6 : decode cX1_feed 6 = .ok (.iadd, 1) := dk_96 (dk_at dksX1_feed_0 6 rfl rfl)
theorem dX1_feed_7 : decode cX1_feed 7 = .ok (.sipush 2000, 3) := dk_17 7 208 (dk_at dksX1_feed_0 7 rfl rfl)
theorem dX1_feed_10 : decode cX1_feed 10 = .ok (.if_icmp .le 5, 3) := dk_164 0 5 (dk_at dksX1_feed_0 10 rfl rfl)
theorem dX1_feed_13 : decode cX1_feed 13 = .ok (.iconst (-1), 1) := dk_2 (dk_at dksX1_feed_0 13 rfl rfl)
theorem dX1_feed_14 : decode cX1_feed 14 = .ok (.ireturn, 1) := dk_172 (dk_at dksX1_feed_0 14 rfl rfl)
theorem dX1_feed_15 : decode cX1_feed 15 = .ok (.aload_n 0, 1) := dk_42 (dk_at dksX1_feed_0 15 rfl rfl)
theorem dX1_feed_16 : decode cX1_feed 16 = .ok (.iload_n 1, 1) := dk_27 (dk_at dksX1_feed_0 16 rfl rfl)
theorem dX1_feed_17 : decode cX1_feed 17 = .ok (.invokevirtual 30, 3) := dk_182 0 30 (dk_at dksX1_feed_0 17 rfl rfl)
theorem dX1_feed_20 : decode cX1_feed 20 = .ok (.aload_n 0, 1) := dk_42 (dk_at dksX1_feed_0 20 rfl rfl)
theorem dX1_feed_21 : decode cX1_feed 21 = .ok (.iload_n 2, 1) := dk_28 (dk_at dksX1_feed_0 21 rfl rfl)
theorem dX1_feed_22 : decode cX1_feed 22 = .ok (.invokevirtual 30, 3) := dk_182 0 30 (dk_at dksX1_feed_1 0 rfl rfl)
theorem dX1_feed_25 : decode cX1_feed 25 = .ok (.aload_n 0, 1) := dk_42 (dk_at dksX1_feed_1 3 rfl rfl)
theorem dX1_feed_26 : decode cX1_feed 26 = .ok (.iload_n 3, 1) := dk_29 (dk_at dksX1_feed_1 4 rfl rfl)
theorem dX1_feed_27 : decode cX1_feed 27 = .ok (.invokevirtual 30, 3) := dk_182 0 30 (dk_at dksX1_feed_1 5 rfl rfl)
theorem dX1_feed_30 : decode cX1_feed 30 = .ok (.aload_n 0, 1) := dk_42 (dk_at dksX1_feed_1 8 rfl rfl)
theorem dX1_feed_31 : decode cX1_feed 31 = .ok (.iload 4, 2) := dk_21 4 (dk_at dksX1_feed_1 9 rfl rfl)
theorem dX1_feed_33 : decode cX1_feed 33 = .ok (.invokevirtual 30, 3) := dk_182 0 30 (dk_at dksX1_feed_1 11 rfl rfl)
theorem dX1_feed_36 : decode cX1_feed 36 = .ok (.aload_n 0, 1) := dk_42 (dk_at dksX1_feed_1 14 rfl rfl)
theorem dX1_feed_37 : decode cX1_feed 37 = .ok (.iload 5, 2) := dk_21 5 (dk_at dksX1_feed_1 15 rfl rfl)
theorem dX1_feed_39 : decode cX1_feed 39 = .ok (.invokevirtual 30, 3) := dk_182 0 30 (dk_at dksX1_feed_1 17 rfl rfl)
theorem dX1_feed_42 : decode cX1_feed 42 = .ok (.aload_n 0, 1) := dk_42 (dk_at dksX1_feed_1 20 rfl rfl)
theorem dX1_feed_43 : decode cX1_feed 43 = .ok (.getfield 26, 3) := dk_180 0 26 (dk_at dksX1_feed_1 21 rfl rfl)
theorem dX1_feed_46 : decode cX1_feed 46 = .ok (.ireturn, 1) := dk_172 (dk_at dksX1_feed_2 0 rfl rfl)
abbrev cX1_put : ByteArray := prog_11_method_3_code
def yX1_put : MethodName := ⟨RX1, "put", "(I)V"⟩
def dkwX1_put_1 : List UInt8 := [180, 0, 26, 4, 96, 181, 0, 26, 132, 2, 248, 167, 255, 226, 177]
abbrev dktX1_put_1 : List UInt8 := dkwX1_put_1 ++ []
def dkwX1_put_0 : List UInt8 := [16, 24, 61, 28, 155, 0, 32, 42, 180, 0, 11, 42, 180, 0, 26, 27, 28, 124, 145, 84, 42, 89]
abbrev dktX1_put_0 : List UInt8 := dkwX1_put_0 ++ dktX1_put_1
theorem dksX1_put_0 : cX1_put.data.toList.drop 0 = dktX1_put_0 := by decide +kernel
theorem dksX1_put_1 : cX1_put.data.toList.drop 22 = dktX1_put_1 := dk_seg dksX1_put_0 22 rfl rfl
theorem dX1_put_0 : decode cX1_put 0 = .ok (.bipush 24, 2) := dk_16 24 (dk_at dksX1_put_0 0 rfl rfl)
theorem dX1_put_2 : decode cX1_put 2 = .ok (.istore_n 2, 1) := dk_61 (dk_at dksX1_put_0 2 rfl rfl)
theorem dX1_put_3 : decode cX1_put 3 = .ok (.iload_n 2, 1) := dk_28 (dk_at dksX1_put_0 3 rfl rfl)
theorem dX1_put_4 : decode cX1_put 4 = .ok (.ifCond .lt 32, 3) := dk_155 0 32 (dk_at dksX1_put_0 4 rfl rfl)
theorem dX1_put_7 : decode cX1_put 7 = .ok (.aload_n 0, 1) := dk_42 (dk_at dksX1_put_0 7 rfl rfl)
theorem dX1_put_8 : decode cX1_put 8 = .ok (.getfield 11, 3) := dk_180 0 11 (dk_at dksX1_put_0 8 rfl rfl)
theorem dX1_put_11 : decode cX1_put 11 = .ok (.aload_n 0, 1) := dk_42 (dk_at dksX1_put_0 11 rfl rfl)
theorem dX1_put_12 : decode cX1_put 12 = .ok (.getfield 26, 3) := dk_180 0 26 (dk_at dksX1_put_0 12 rfl rfl)
theorem dX1_put_15 : decode cX1_put 15 = .ok (.iload_n 1, 1) := dk_27 (dk_at dksX1_put_0 15 rfl rfl)
theorem dX1_put_16 : decode cX1_put 16 = .ok (.iload_n 2, 1) := dk_28 (dk_at dksX1_put_0 16 rfl rfl)
theorem dX1_put_17 : decode cX1_put 17 = .ok (.iushr, 1) := dk_124 (dk_at dksX1_put_0 17 rfl rfl)
theorem dX1_put_18 : decode cX1_put 18 = .ok (.i2b, 1) := dk_145 (dk_at dksX1_put_0 18 rfl rfl)
theorem dX1_put_19 : decode cX1_put 19 = .ok (.bastore, 1) := dk_84 (dk_at dksX1_put_0 19 rfl rfl)
theorem dX1_put_20 : decode cX1_put 20 = .ok (.aload_n 0, 1) := dk_42 (dk_at dksX1_put_0 20 rfl rfl)
theorem dX1_put_21 : decode cX1_put 21 = .ok (.dup, 1) := dk_89 (dk_at dksX1_put_0 21 rfl rfl)
theorem dX1_put_22 : decode cX1_put 22 = .ok (.getfield 26, 3) := dk_180 0 26 (dk_at dksX1_put_1 0 rfl rfl)
theorem dX1_put_25 : decode cX1_put 25 = .ok (.iconst 1, 1) := dk_4 (dk_at dksX1_put_1 3 rfl rfl)
theorem dX1_put_26 : decode cX1_put 26 = .ok (.iadd, 1) := dk_96 (dk_at dksX1_put_1 4 rfl rfl)
theorem dX1_put_27 : decode cX1_put 27 = .ok (.putfield 26, 3) := dk_181 0 26 (dk_at dksX1_put_1 5 rfl rfl)
theorem dX1_put_30 : decode cX1_put 30 = .ok (.iinc 2 (-8), 3) := dk_132 2 248 (dk_at dksX1_put_1 8 rfl rfl)
theorem dX1_put_33 : decode cX1_put 33 = .ok (.goto (-30), 3) := dk_167 255 226 (dk_at dksX1_put_1 11 rfl rfl)
theorem dX1_put_36 : decode cX1_put 36 = .ok (.return_, 1) := dk_177 (dk_at dksX1_put_1 14 rfl rfl)
abbrev cX1_back : ByteArray := prog_11_method_4_code
def yX1_back : MethodName := ⟨RX1, "back", "(I)I"⟩
def dkwX1_back_1 : List UInt8 := [42, 180, 0, 26, 172]
abbrev dktX1_back_1 : List UInt8 := dkwX1_back_1 ++ []
def dkwX1_back_0 : List UInt8 := [27, 3, 42, 180, 0, 26, 184, 0, 34, 154, 0, 5, 2, 172, 42, 89, 180, 0, 26, 27, 100, 181, 0, 26]
abbrev dktX1_back_0 : List UInt8 := dkwX1_back_0 ++ dktX1_back_1
theorem dksX1_back_0 : cX1_back.data.toList.drop 0 = dktX1_back_0 := by decide +kernel
theorem dksX1_back_1 : cX1_back.data.toList.drop 24 = dktX1_back_1 := dk_seg dksX1_back_0 24 rfl rfl
theorem dX1_back_0 : decode cX1_back 0 = .ok (.iload_n 1, 1) := dk_27 (dk_at dksX1_back_0 0 rfl rfl)
theorem dX1_back_1 : decode cX1_back 1 = .ok (.iconst 0, 1) := dk_3 (dk_at dksX1_back_0 1 rfl rfl)
theorem dX1_back_2 : decode cX1_back 2 = .ok (.aload_n 0, 1) := dk_42 (dk_at dksX1_back_0 2 rfl rfl)
theorem dX1_back_3 : decode cX1_back 3 = .ok (.getfield 26, 3) := dk_180 0 26 (dk_at dksX1_back_0 3 rfl rfl)
theorem dX1_back_6 : decode cX1_back 6 = .ok (.invokestatic 34, 3) := dk_184 0 34 (dk_at dksX1_back_0 6 rfl rfl)
theorem dX1_back_9 : decode cX1_back 9 = .ok (.ifCond .ne 5, 3) := dk_154 0 5 (dk_at dksX1_back_0 9 rfl rfl)
theorem dX1_back_12 : decode cX1_back 12 = .ok (.iconst (-1), 1) := dk_2 (dk_at dksX1_back_0 12 rfl rfl)
theorem dX1_back_13 : decode cX1_back 13 = .ok (.ireturn, 1) := dk_172 (dk_at dksX1_back_0 13 rfl rfl)
theorem dX1_back_14 : decode cX1_back 14 = .ok (.aload_n 0, 1) := dk_42 (dk_at dksX1_back_0 14 rfl rfl)
theorem dX1_back_15 : decode cX1_back 15 = .ok (.dup, 1) := dk_89 (dk_at dksX1_back_0 15 rfl rfl)
theorem dX1_back_16 : decode cX1_back 16 = .ok (.getfield 26, 3) := dk_180 0 26 (dk_at dksX1_back_0 16 rfl rfl)
theorem dX1_back_19 : decode cX1_back 19 = .ok (.iload_n 1, 1) := dk_27 (dk_at dksX1_back_0 19 rfl rfl)
theorem dX1_back_20 : decode cX1_back 20 = .ok (.isub, 1) := dk_100 (dk_at dksX1_back_0 20 rfl rfl)
theorem dX1_back_21 : decode cX1_back 21 = .ok (.putfield 26, 3) := dk_181 0 26 (dk_at dksX1_back_0 21 rfl rfl)
theorem dX1_back_24 : decode cX1_back 24 = .ok (.aload_n 0, 1) := dk_42 (dk_at dksX1_back_1 0 rfl rfl)
theorem dX1_back_25 : decode cX1_back 25 = .ok (.getfield 26, 3) := dk_180 0 26 (dk_at dksX1_back_1 1 rfl rfl)
theorem dX1_back_28 : decode cX1_back 28 = .ok (.ireturn, 1) := dk_172 (dk_at dksX1_back_1 4 rfl rfl)
abbrev cX1_cut : ByteArray := prog_11_method_9_code
def yX1_cut : MethodName := ⟨RX1, "cut", "()V"⟩
def dkwX1_cut_6 : List UInt8 := [27, 182, 0, 59, 60, 167, 255, 121, 42, 3, 181, 0, 26, 177]
abbrev dktX1_cut_6 : List UInt8 := dkwX1_cut_6 ++ []
def dkwX1_cut_5 : List UInt8 := [167, 0, 28, 42, 180, 0, 11, 27, 51, 184, 0, 53, 153, 0, 11, 42, 27, 182, 0, 56, 167, 0, 8, 42]
abbrev dktX1_cut_5 : List UInt8 := dkwX1_cut_5 ++ dktX1_cut_6
def dkwX1_cut_4 : List UInt8 := [182, 0, 41, 167, 0, 52, 42, 180, 0, 11, 27, 51, 184, 0, 45, 153, 0, 11, 42, 27, 182, 0, 49]
abbrev dktX1_cut_4 : List UInt8 := dkwX1_cut_4 ++ dktX1_cut_5
def dkwX1_cut_3 : List UInt8 := [160, 0, 9, 132, 1, 1, 167, 255, 201, 27, 42, 180, 0, 26, 161, 0, 16, 42, 3, 42, 180, 0, 26, 9]
abbrev dktX1_cut_3 : List UInt8 := dkwX1_cut_3 ++ dktX1_cut_4
def dkwX1_cut_2 : List UInt8 := [159, 0, 25, 42, 180, 0, 11, 27, 51, 16, 13, 159, 0, 14, 42, 180, 0, 11, 27, 51, 16, 32]
abbrev dktX1_cut_2 : List UInt8 := dkwX1_cut_2 ++ dktX1_cut_3
def dkwX1_cut_1 : List UInt8 := [162, 0, 53, 42, 180, 0, 11, 27, 51, 16, 9, 159, 0, 36, 42, 180, 0, 11, 27, 51, 16, 10]
abbrev dktX1_cut_1 : List UInt8 := dkwX1_cut_1 ++ dktX1_cut_2
def dkwX1_cut_0 : List UInt8 := [42, 3, 181, 0, 38, 3, 60, 42, 180, 0, 38, 17, 1, 144, 163, 0, 131, 27, 42, 180, 0, 26]
abbrev dktX1_cut_0 : List UInt8 := dkwX1_cut_0 ++ dktX1_cut_1
theorem dksX1_cut_0 : cX1_cut.data.toList.drop 0 = dktX1_cut_0 := by decide +kernel
theorem dksX1_cut_1 : cX1_cut.data.toList.drop 22 = dktX1_cut_1 := dk_seg dksX1_cut_0 22 rfl rfl
theorem dksX1_cut_2 : cX1_cut.data.toList.drop 44 = dktX1_cut_2 := dk_seg dksX1_cut_1 22 rfl rfl
theorem dksX1_cut_3 : cX1_cut.data.toList.drop 66 = dktX1_cut_3 := dk_seg dksX1_cut_2 22 rfl rfl
theorem dksX1_cut_4 : cX1_cut.data.toList.drop 90 = dktX1_cut_4 := dk_seg dksX1_cut_3 24 rfl rfl
theorem dksX1_cut_5 : cX1_cut.data.toList.drop 113 = dktX1_cut_5 := dk_seg dksX1_cut_4 23 rfl rfl
theorem dksX1_cut_6 : cX1_cut.data.toList.drop 137 = dktX1_cut_6 := dk_seg dksX1_cut_5 24 rfl rfl
theorem dX1_cut_0 : decode cX1_cut 0 = .ok (.aload_n 0, 1) := dk_42 (dk_at dksX1_cut_0 0 rfl rfl)
theorem dX1_cut_1 : decode cX1_cut 1 = .ok (.iconst 0, 1) := dk_3 (dk_at dksX1_cut_0 1 rfl rfl)
theorem dX1_cut_2 : decode cX1_cut 2 = .ok (.putfield 38, 3) := dk_181 0 38 (dk_at dksX1_cut_0 2 rfl rfl)
theorem dX1_cut_5 : decode cX1_cut 5 = .ok (.iconst 0, 1) := dk_3 (dk_at dksX1_cut_0 5 rfl rfl)
theorem dX1_cut_6 : decode cX1_cut 6 = .ok (.istore_n 1, 1) := dk_60 (dk_at dksX1_cut_0 6 rfl rfl)
theorem dX1_cut_7 : decode cX1_cut 7 = .ok (.aload_n 0, 1) := dk_42 (dk_at dksX1_cut_0 7 rfl rfl)
theorem dX1_cut_8 : decode cX1_cut 8 = .ok (.getfield 38, 3) := dk_180 0 38 (dk_at dksX1_cut_0 8 rfl rfl)
theorem dX1_cut_11 : decode cX1_cut 11 = .ok (.sipush 400, 3) := dk_17 1 144 (dk_at dksX1_cut_0 11 rfl rfl)
theorem dX1_cut_14 : decode cX1_cut 14 = .ok (.if_icmp .gt 131, 3) := dk_163 0 131 (dk_at dksX1_cut_0 14 rfl rfl)
theorem dX1_cut_17 : decode cX1_cut 17 = .ok (.iload_n 1, 1) := dk_27 (dk_at dksX1_cut_0 17 rfl rfl)
theorem dX1_cut_18 : decode cX1_cut 18 = .ok (.aload_n 0, 1) := dk_42 (dk_at dksX1_cut_0 18 rfl rfl)
theorem dX1_cut_19 : decode cX1_cut 19 = .ok (.getfield 26, 3) := dk_180 0 26 (dk_at dksX1_cut_0 19 rfl rfl)
theorem dX1_cut_22 : decode cX1_cut 22 = .ok (.if_icmp .ge 53, 3) := dk_162 0 53 (dk_at dksX1_cut_1 0 rfl rfl)
theorem dX1_cut_25 : decode cX1_cut 25 = .ok (.aload_n 0, 1) := dk_42 (dk_at dksX1_cut_1 3 rfl rfl)
theorem dX1_cut_26 : decode cX1_cut 26 = .ok (.getfield 11, 3) := dk_180 0 11 (dk_at dksX1_cut_1 4 rfl rfl)
theorem dX1_cut_29 : decode cX1_cut 29 = .ok (.iload_n 1, 1) := dk_27 (dk_at dksX1_cut_1 7 rfl rfl)
theorem dX1_cut_30 : decode cX1_cut 30 = .ok (.baload, 1) := dk_51 (dk_at dksX1_cut_1 8 rfl rfl)
theorem dX1_cut_31 : decode cX1_cut 31 = .ok (.bipush 9, 2) := dk_16 9 (dk_at dksX1_cut_1 9 rfl rfl)
theorem dX1_cut_33 : decode cX1_cut 33 = .ok (.if_icmp .eq 36, 3) := dk_159 0 36 (dk_at dksX1_cut_1 11 rfl rfl)
theorem dX1_cut_36 : decode cX1_cut 36 = .ok (.aload_n 0, 1) := dk_42 (dk_at dksX1_cut_1 14 rfl rfl)
theorem dX1_cut_37 : decode cX1_cut 37 = .ok (.getfield 11, 3) := dk_180 0 11 (dk_at dksX1_cut_1 15 rfl rfl)
theorem dX1_cut_40 : decode cX1_cut 40 = .ok (.iload_n 1, 1) := dk_27 (dk_at dksX1_cut_1 18 rfl rfl)
theorem dX1_cut_41 : decode cX1_cut 41 = .ok (.baload, 1) := dk_51 (dk_at dksX1_cut_1 19 rfl rfl)
theorem dX1_cut_42 : decode cX1_cut 42 = .ok (.bipush 10, 2) := dk_16 10 (dk_at dksX1_cut_1 20 rfl rfl)
theorem dX1_cut_44 : decode cX1_cut 44 = .ok (.if_icmp .eq 25, 3) := dk_159 0 25 (dk_at dksX1_cut_2 0 rfl rfl)
theorem dX1_cut_47 : decode cX1_cut 47 = .ok (.aload_n 0, 1) := dk_42 (dk_at dksX1_cut_2 3 rfl rfl)
theorem dX1_cut_48 : decode cX1_cut 48 = .ok (.getfield 11, 3) := dk_180 0 11 (dk_at dksX1_cut_2 4 rfl rfl)
theorem dX1_cut_51 : decode cX1_cut 51 = .ok (.iload_n 1, 1) := dk_27 (dk_at dksX1_cut_2 7 rfl rfl)
theorem dX1_cut_52 : decode cX1_cut 52 = .ok (.baload, 1) := dk_51 (dk_at dksX1_cut_2 8 rfl rfl)
theorem dX1_cut_53 : decode cX1_cut 53 = .ok (.bipush 13, 2) := dk_16 13 (dk_at dksX1_cut_2 9 rfl rfl)
theorem dX1_cut_55 : decode cX1_cut 55 = .ok (.if_icmp .eq 14, 3) := dk_159 0 14 (dk_at dksX1_cut_2 11 rfl rfl)
theorem dX1_cut_58 : decode cX1_cut 58 = .ok (.aload_n 0, 1) := dk_42 (dk_at dksX1_cut_2 14 rfl rfl)
theorem dX1_cut_59 : decode cX1_cut 59 = .ok (.getfield 11, 3) := dk_180 0 11 (dk_at dksX1_cut_2 15 rfl rfl)
theorem dX1_cut_62 : decode cX1_cut 62 = .ok (.iload_n 1, 1) := dk_27 (dk_at dksX1_cut_2 18 rfl rfl)
theorem dX1_cut_63 : decode cX1_cut 63 = .ok (.baload, 1) := dk_51 (dk_at dksX1_cut_2 19 rfl rfl)
theorem dX1_cut_64 : decode cX1_cut 64 = .ok (.bipush 32, 2) := dk_16 32 (dk_at dksX1_cut_2 20 rfl rfl)
theorem dX1_cut_66 : decode cX1_cut 66 = .ok (.if_icmp .ne 9, 3) := dk_160 0 9 (dk_at dksX1_cut_3 0 rfl rfl)
theorem dX1_cut_69 : decode cX1_cut 69 = .ok (.iinc 1 1, 3) := dk_132 1 1 (dk_at dksX1_cut_3 3 rfl rfl)
theorem dX1_cut_72 : decode cX1_cut 72 = .ok (.goto (-55), 3) := dk_167 255 201 (dk_at dksX1_cut_3 6 rfl rfl)
theorem dX1_cut_75 : decode cX1_cut 75 = .ok (.iload_n 1, 1) := dk_27 (dk_at dksX1_cut_3 9 rfl rfl)
theorem dX1_cut_76 : decode cX1_cut 76 = .ok (.aload_n 0, 1) := dk_42 (dk_at dksX1_cut_3 10 rfl rfl)
theorem dX1_cut_77 : decode cX1_cut 77 = .ok (.getfield 26, 3) := dk_180 0 26 (dk_at dksX1_cut_3 11 rfl rfl)
theorem dX1_cut_80 : decode cX1_cut 80 = .ok (.if_icmp .lt 16, 3) := dk_161 0 16 (dk_at dksX1_cut_3 14 rfl rfl)
theorem dX1_cut_83 : decode cX1_cut 83 = .ok (.aload_n 0, 1) := dk_42 (dk_at dksX1_cut_3 17 rfl rfl)
theorem dX1_cut_84 : decode cX1_cut 84 = .ok (.iconst 0, 1) := dk_3 (dk_at dksX1_cut_3 18 rfl rfl)
theorem dX1_cut_85 : decode cX1_cut 85 = .ok (.aload_n 0, 1) := dk_42 (dk_at dksX1_cut_3 19 rfl rfl)
theorem dX1_cut_86 : decode cX1_cut 86 = .ok (.getfield 26, 3) := dk_180 0 26 (dk_at dksX1_cut_3 20 rfl rfl)
theorem dX1_cut_89 : decode cX1_cut 89 = .ok (.lconst 0, 1) := dk_9 (dk_at dksX1_cut_3 23 rfl rfl)
theorem dX1_cut_90 : decode cX1_cut 90 = .ok (.invokevirtual 41, 3) := dk_182 0 41 (dk_at dksX1_cut_4 0 rfl rfl)
theorem dX1_cut_93 : decode cX1_cut 93 = .ok (.goto 52, 3) := dk_167 0 52 (dk_at dksX1_cut_4 3 rfl rfl)
theorem dX1_cut_96 : decode cX1_cut 96 = .ok (.aload_n 0, 1) := dk_42 (dk_at dksX1_cut_4 6 rfl rfl)
theorem dX1_cut_97 : decode cX1_cut 97 = .ok (.getfield 11, 3) := dk_180 0 11 (dk_at dksX1_cut_4 7 rfl rfl)
theorem dX1_cut_100 : decode cX1_cut 100 = .ok (.iload_n 1, 1) := dk_27 (dk_at dksX1_cut_4 10 rfl rfl)
theorem dX1_cut_101 : decode cX1_cut 101 = .ok (.baload, 1) := dk_51 (dk_at dksX1_cut_4 11 rfl rfl)
theorem dX1_cut_102 : decode cX1_cut 102 = .ok (.invokestatic 45, 3) := dk_184 0 45 (dk_at dksX1_cut_4 12 rfl rfl)
theorem dX1_cut_105 : decode cX1_cut 105 = .ok (.ifCond .eq 11, 3) := dk_153 0 11 (dk_at dksX1_cut_4 15 rfl rfl)
theorem dX1_cut_108 : decode cX1_cut 108 = .ok (.aload_n 0, 1) := dk_42 (dk_at dksX1_cut_4 18 rfl rfl)
theorem dX1_cut_109 : decode cX1_cut 109 = .ok (.iload_n 1, 1) := dk_27 (dk_at dksX1_cut_4 19 rfl rfl)
theorem dX1_cut_110 : decode cX1_cut 110 = .ok (.invokevirtual 49, 3) := dk_182 0 49 (dk_at dksX1_cut_4 20 rfl rfl)
theorem dX1_cut_113 : decode cX1_cut 113 = .ok (.goto 28, 3) := dk_167 0 28 (dk_at dksX1_cut_5 0 rfl rfl)
theorem dX1_cut_116 : decode cX1_cut 116 = .ok (.aload_n 0, 1) := dk_42 (dk_at dksX1_cut_5 3 rfl rfl)
theorem dX1_cut_117 : decode cX1_cut 117 = .ok (.getfield 11, 3) := dk_180 0 11 (dk_at dksX1_cut_5 4 rfl rfl)
theorem dX1_cut_120 : decode cX1_cut 120 = .ok (.iload_n 1, 1) := dk_27 (dk_at dksX1_cut_5 7 rfl rfl)
theorem dX1_cut_121 : decode cX1_cut 121 = .ok (.baload, 1) := dk_51 (dk_at dksX1_cut_5 8 rfl rfl)
theorem dX1_cut_122 : decode cX1_cut 122 = .ok (.invokestatic 53, 3) := dk_184 0 53 (dk_at dksX1_cut_5 9 rfl rfl)
theorem dX1_cut_125 : decode cX1_cut 125 = .ok (.ifCond .eq 11, 3) := dk_153 0 11 (dk_at dksX1_cut_5 12 rfl rfl)
theorem dX1_cut_128 : decode cX1_cut 128 = .ok (.aload_n 0, 1) := dk_42 (dk_at dksX1_cut_5 15 rfl rfl)
theorem dX1_cut_129 : decode cX1_cut 129 = .ok (.iload_n 1, 1) := dk_27 (dk_at dksX1_cut_5 16 rfl rfl)
theorem dX1_cut_130 : decode cX1_cut 130 = .ok (.invokevirtual 56, 3) := dk_182 0 56 (dk_at dksX1_cut_5 17 rfl rfl)
theorem dX1_cut_133 : decode cX1_cut 133 = .ok (.goto 8, 3) := dk_167 0 8 (dk_at dksX1_cut_5 20 rfl rfl)
theorem dX1_cut_136 : decode cX1_cut 136 = .ok (.aload_n 0, 1) := dk_42 (dk_at dksX1_cut_5 23 rfl rfl)
theorem dX1_cut_137 : decode cX1_cut 137 = .ok (.iload_n 1, 1) := dk_27 (dk_at dksX1_cut_6 0 rfl rfl)
theorem dX1_cut_138 : decode cX1_cut 138 = .ok (.invokevirtual 59, 3) := dk_182 0 59 (dk_at dksX1_cut_6 1 rfl rfl)
theorem dX1_cut_141 : decode cX1_cut 141 = .ok (.istore_n 1, 1) := dk_60 (dk_at dksX1_cut_6 4 rfl rfl)
theorem dX1_cut_142 : decode cX1_cut 142 = .ok (.goto (-135), 3) := dk_167 255 121 (dk_at dksX1_cut_6 5 rfl rfl)
theorem dX1_cut_145 : decode cX1_cut 145 = .ok (.aload_n 0, 1) := dk_42 (dk_at dksX1_cut_6 8 rfl rfl)
theorem dX1_cut_146 : decode cX1_cut 146 = .ok (.iconst 0, 1) := dk_3 (dk_at dksX1_cut_6 9 rfl rfl)
theorem dX1_cut_147 : decode cX1_cut 147 = .ok (.putfield 26, 3) := dk_181 0 26 (dk_at dksX1_cut_6 10 rfl rfl)
theorem dX1_cut_150 : decode cX1_cut 150 = .ok (.return_, 1) := dk_177 (dk_at dksX1_cut_6 13 rfl rfl)
abbrev cX1_add : ByteArray := prog_11_method_8_code
def yX1_add : MethodName := ⟨RX1, "add", "(IIJ)V"⟩
def dkwX1_add_1 : List UInt8 := [180, 0, 22, 42, 180, 0, 38, 33, 80, 42, 89, 180, 0, 38, 4, 96, 181, 0, 38, 177]
abbrev dktX1_add_1 : List UInt8 := dkwX1_add_1 ++ []
def dkwX1_add_0 : List UInt8 := [42, 180, 0, 15, 42, 180, 0, 38, 27, 147, 86, 42, 180, 0, 19, 42, 180, 0, 38, 28, 147, 86, 42]
abbrev dktX1_add_0 : List UInt8 := dkwX1_add_0 ++ dktX1_add_1
theorem dksX1_add_0 : cX1_add.data.toList.drop 0 = dktX1_add_0 := by decide +kernel
theorem dksX1_add_1 : cX1_add.data.toList.drop 23 = dktX1_add_1 := dk_seg dksX1_add_0 23 rfl rfl
theorem dX1_add_0 : decode cX1_add 0 = .ok (.aload_n 0, 1) := dk_42 (dk_at dksX1_add_0 0 rfl rfl)
theorem dX1_add_1 : decode cX1_add 1 = .ok (.getfield 15, 3) := dk_180 0 15 (dk_at dksX1_add_0 1 rfl rfl)
theorem dX1_add_4 : decode cX1_add 4 = .ok (.aload_n 0, 1) := dk_42 (dk_at dksX1_add_0 4 rfl rfl)
theorem dX1_add_5 : decode cX1_add 5 = .ok (.getfield 38, 3) := dk_180 0 38 (dk_at dksX1_add_0 5 rfl rfl)
theorem dX1_add_8 : decode cX1_add 8 = .ok (.iload_n 1, 1) := dk_27 (dk_at dksX1_add_0 8 rfl rfl)
theorem dX1_add_9 : decode cX1_add 9 = .ok (.i2s, 1) := dk_147 (dk_at dksX1_add_0 9 rfl rfl)
theorem dX1_add_10 : decode cX1_add 10 = .ok (.sastore, 1) := dk_86 (dk_at dksX1_add_0 10 rfl rfl)
theorem dX1_add_11 : decode cX1_add 11 = .ok (.aload_n 0, 1) := dk_42 (dk_at dksX1_add_0 11 rfl rfl)
theorem dX1_add_12 : decode cX1_add 12 = .ok (.getfield 19, 3) := dk_180 0 19 (dk_at dksX1_add_0 12 rfl rfl)
theorem dX1_add_15 : decode cX1_add 15 = .ok (.aload_n 0, 1) := dk_42 (dk_at dksX1_add_0 15 rfl rfl)
theorem dX1_add_16 : decode cX1_add 16 = .ok (.getfield 38, 3) := dk_180 0 38 (dk_at dksX1_add_0 16 rfl rfl)
theorem dX1_add_19 : decode cX1_add 19 = .ok (.iload_n 2, 1) := dk_28 (dk_at dksX1_add_0 19 rfl rfl)
theorem dX1_add_20 : decode cX1_add 20 = .ok (.i2s, 1) := dk_147 (dk_at dksX1_add_0 20 rfl rfl)
theorem dX1_add_21 : decode cX1_add 21 = .ok (.sastore, 1) := dk_86 (dk_at dksX1_add_0 21 rfl rfl)
theorem dX1_add_22 : decode cX1_add 22 = .ok (.aload_n 0, 1) := dk_42 (dk_at dksX1_add_0 22 rfl rfl)
theorem dX1_add_23 : decode cX1_add 23 = .ok (.getfield 22, 3) := dk_180 0 22 (dk_at dksX1_add_1 0 rfl rfl)
theorem dX1_add_26 : decode cX1_add 26 = .ok (.aload_n 0, 1) := dk_42 (dk_at dksX1_add_1 3 rfl rfl)
theorem dX1_add_27 : decode cX1_add 27 = .ok (.getfield 38, 3) := dk_180 0 38 (dk_at dksX1_add_1 4 rfl rfl)
theorem dX1_add_30 : decode cX1_add 30 = .ok (.lload_n 3, 1) := dk_33 (dk_at dksX1_add_1 7 rfl rfl)
theorem dX1_add_31 : decode cX1_add 31 = .ok (.lastore, 1) := dk_80 (dk_at dksX1_add_1 8 rfl rfl)
theorem dX1_add_32 : decode cX1_add 32 = .ok (.aload_n 0, 1) := dk_42 (dk_at dksX1_add_1 9 rfl rfl)
theorem dX1_add_33 : decode cX1_add 33 = .ok (.dup, 1) := dk_89 (dk_at dksX1_add_1 10 rfl rfl)
theorem dX1_add_34 : decode cX1_add 34 = .ok (.getfield 38, 3) := dk_180 0 38 (dk_at dksX1_add_1 11 rfl rfl)
theorem dX1_add_37 : decode cX1_add 37 = .ok (.iconst 1, 1) := dk_4 (dk_at dksX1_add_1 14 rfl rfl)
theorem dX1_add_38 : decode cX1_add 38 = .ok (.iadd, 1) := dk_96 (dk_at dksX1_add_1 15 rfl rfl)
theorem dX1_add_39 : decode cX1_add 39 = .ok (.putfield 38, 3) := dk_181 0 38 (dk_at dksX1_add_1 16 rfl rfl)
theorem dX1_add_42 : decode cX1_add 42 = .ok (.return_, 1) := dk_177 (dk_at dksX1_add_1 19 rfl rfl)
abbrev cX1_isLetter : ByteArray := prog_11_method_6_code
def yX1_isLetter : MethodName := ⟨RX1, "isLetter", "(I)Z"⟩
def dkwX1_isLetter_0 : List UInt8 := [26, 16, 97, 161, 0, 13, 26, 16, 122, 163, 0, 7, 4, 167, 0, 4, 3, 172]
abbrev dktX1_isLetter_0 : List UInt8 := dkwX1_isLetter_0 ++ []
theorem dksX1_isLetter_0 : cX1_isLetter.data.toList.drop 0 = dktX1_isLetter_0 := by decide +kernel
theorem dX1_isLetter_0 : decode cX1_isLetter 0 = .ok (.iload_n 0, 1) := dk_26 (dk_at dksX1_isLetter_0 0 rfl rfl)
theorem dX1_isLetter_1 : decode cX1_isLetter 1 = .ok (.bipush 97, 2) := dk_16 97 (dk_at dksX1_isLetter_0 1 rfl rfl)
theorem dX1_isLetter_3 : decode cX1_isLetter 3 = .ok (.if_icmp .lt 13, 3) := dk_161 0 13 (dk_at dksX1_isLetter_0 3 rfl rfl)
theorem dX1_isLetter_6 : decode cX1_isLetter 6 = .ok (.iload_n 0, 1) := dk_26 (dk_at dksX1_isLetter_0 6 rfl rfl)
theorem dX1_isLetter_7 : decode cX1_isLetter 7 = .ok (.bipush 122, 2) := dk_16 122 (dk_at dksX1_isLetter_0 7 rfl rfl)
theorem dX1_isLetter_9 : decode cX1_isLetter 9 = .ok (.if_icmp .gt 7, 3) := dk_163 0 7 (dk_at dksX1_isLetter_0 9 rfl rfl)
theorem dX1_isLetter_12 : decode cX1_isLetter 12 = .ok (.iconst 1, 1) := dk_4 (dk_at dksX1_isLetter_0 12 rfl rfl)
theorem dX1_isLetter_13 : decode cX1_isLetter 13 = .ok (.goto 4, 3) := dk_167 0 4 (dk_at dksX1_isLetter_0 13 rfl rfl)
theorem dX1_isLetter_16 : decode cX1_isLetter 16 = .ok (.iconst 0, 1) := dk_3 (dk_at dksX1_isLetter_0 16 rfl rfl)
theorem dX1_isLetter_17 : decode cX1_isLetter 17 = .ok (.ireturn, 1) := dk_172 (dk_at dksX1_isLetter_0 17 rfl rfl)
abbrev cX1_word : ByteArray := prog_11_method_12_code
def yX1_word : MethodName := ⟨RX1, "word", "(I)I"⟩
def dkwX1_word_5 : List UInt8 := [33, 182, 0, 41, 28, 172]
abbrev dktX1_word_5 : List UInt8 := dkwX1_word_5 ++ []
def dkwX1_word_4 : List UInt8 := [182, 0, 73, 153, 0, 11, 17, 0, 200, 21, 6, 96, 54, 5, 132, 6, 1, 167, 255, 215, 42, 21, 5, 27]
abbrev dktX1_word_4 : List UInt8 := dkwX1_word_4 ++ dktX1_word_5
def dkwX1_word_3 : List UInt8 := [178, 0, 69, 190, 162, 0, 38, 21, 5, 4, 160, 0, 32, 42, 178, 0, 69, 21, 6, 50, 27, 28]
abbrev dktX1_word_3 : List UInt8 := dkwX1_word_3 ++ dktX1_word_4
def dkwX1_word_2 : List UInt8 := [167, 255, 214, 28, 27, 100, 16, 8, 164, 0, 7, 6, 167, 0, 4, 4, 54, 5, 3, 54, 6, 21, 6]
abbrev dktX1_word_2 : List UInt8 := dkwX1_word_2 ++ dktX1_word_3
def dkwX1_word_1 : List UInt8 := [20, 0, 65, 105, 42, 180, 0, 11, 28, 51, 133, 97, 20, 0, 67, 101, 10, 97, 66, 132, 2, 1]
abbrev dktX1_word_1 : List UInt8 := dkwX1_word_1 ++ dktX1_word_2
def dkwX1_word_0 : List UInt8 := [27, 61, 9, 66, 42, 28, 182, 0, 62, 184, 0, 45, 153, 0, 37, 28, 27, 16, 8, 96, 162, 0, 23, 33]
abbrev dktX1_word_0 : List UInt8 := dkwX1_word_0 ++ dktX1_word_1
theorem dksX1_word_0 : cX1_word.data.toList.drop 0 = dktX1_word_0 := by decide +kernel
theorem dksX1_word_1 : cX1_word.data.toList.drop 24 = dktX1_word_1 := dk_seg dksX1_word_0 24 rfl rfl
theorem dksX1_word_2 : cX1_word.data.toList.drop 46 = dktX1_word_2 := dk_seg dksX1_word_1 22 rfl rfl
theorem dksX1_word_3 : cX1_word.data.toList.drop 69 = dktX1_word_3 := dk_seg dksX1_word_2 23 rfl rfl
theorem dksX1_word_4 : cX1_word.data.toList.drop 91 = dktX1_word_4 := dk_seg dksX1_word_3 22 rfl rfl
theorem dksX1_word_5 : cX1_word.data.toList.drop 115 = dktX1_word_5 := dk_seg dksX1_word_4 24 rfl rfl
theorem dX1_word_0 : decode cX1_word 0 = .ok (.iload_n 1, 1) := dk_27 (dk_at dksX1_word_0 0 rfl rfl)
theorem dX1_word_1 : decode cX1_word 1 = .ok (.istore_n 2, 1) := dk_61 (dk_at dksX1_word_0 1 rfl rfl)
theorem dX1_word_2 : decode cX1_word 2 = .ok (.lconst 0, 1) := dk_9 (dk_at dksX1_word_0 2 rfl rfl)
theorem dX1_word_3 : decode cX1_word 3 = .ok (.lstore_n 3, 1) := dk_66 (dk_at dksX1_word_0 3 rfl rfl)
theorem dX1_word_4 : decode cX1_word 4 = .ok (.aload_n 0, 1) := dk_42 (dk_at dksX1_word_0 4 rfl rfl)
theorem dX1_word_5 : decode cX1_word 5 = .ok (.iload_n 2, 1) := dk_28 (dk_at dksX1_word_0 5 rfl rfl)
theorem dX1_word_6 : decode cX1_word 6 = .ok (.invokevirtual 62, 3) := dk_182 0 62 (dk_at dksX1_word_0 6 rfl rfl)
theorem dX1_word_9 : decode cX1_word 9 = .ok (.invokestatic 45, 3) := dk_184 0 45 (dk_at dksX1_word_0 9 rfl rfl)
theorem dX1_word_12 : decode cX1_word 12 = .ok (.ifCond .eq 37, 3) := dk_153 0 37 (dk_at dksX1_word_0 12 rfl rfl)
theorem dX1_word_15 : decode cX1_word 15 = .ok (.iload_n 2, 1) := dk_28 (dk_at dksX1_word_0 15 rfl rfl)
theorem dX1_word_16 : decode cX1_word 16 = .ok (.iload_n 1, 1) := dk_27 (dk_at dksX1_word_0 16 rfl rfl)
theorem dX1_word_17 : decode cX1_word 17 = .ok (.bipush 8, 2) := dk_16 8 (dk_at dksX1_word_0 17 rfl rfl)
theorem dX1_word_19 : decode cX1_word 19 = .ok (.iadd, 1) := dk_96 (dk_at dksX1_word_0 19 rfl rfl)
theorem dX1_word_20 : decode cX1_word 20 = .ok (.if_icmp .ge 23, 3) := dk_162 0 23 (dk_at dksX1_word_0 20 rfl rfl)
theorem dX1_word_23 : decode cX1_word 23 = .ok (.lload_n 3, 1) := dk_33 (dk_at dksX1_word_0 23 rfl rfl)
theorem dX1_word_24 : decode cX1_word 24 = .ok (.ldc2_w 65, 3) := dk_20 0 65 (dk_at dksX1_word_1 0 rfl rfl)
theorem dX1_word_27 : decode cX1_word 27 = .ok (.lmul, 1) := dk_105 (dk_at dksX1_word_1 3 rfl rfl)
theorem dX1_word_28 : decode cX1_word 28 = .ok (.aload_n 0, 1) := dk_42 (dk_at dksX1_word_1 4 rfl rfl)
theorem dX1_word_29 : decode cX1_word 29 = .ok (.getfield 11, 3) := dk_180 0 11 (dk_at dksX1_word_1 5 rfl rfl)
theorem dX1_word_32 : decode cX1_word 32 = .ok (.iload_n 2, 1) := dk_28 (dk_at dksX1_word_1 8 rfl rfl)
theorem dX1_word_33 : decode cX1_word 33 = .ok (.baload, 1) := dk_51 (dk_at dksX1_word_1 9 rfl rfl)
theorem dX1_word_34 : decode cX1_word 34 = .ok (.i2l, 1) := dk_133 (dk_at dksX1_word_1 10 rfl rfl)
theorem dX1_word_35 : decode cX1_word 35 = .ok (.ladd, 1) := dk_97 (dk_at dksX1_word_1 11 rfl rfl)
theorem dX1_word_36 : decode cX1_word 36 = .ok (.ldc2_w 67, 3) := dk_20 0 67 (dk_at dksX1_word_1 12 rfl rfl)
theorem dX1_word_39 : decode cX1_word 39 = .ok (.lsub, 1) := dk_101 (dk_at dksX1_word_1 15 rfl rfl)
theorem dX1_word_40 : decode cX1_word 40 = .ok (.lconst 1, 1) := dk_10 (dk_at dksX1_word_1 16 rfl rfl)
theorem dX1_word_41 : decode cX1_word 41 = .ok (.ladd, 1) := dk_97 (dk_at dksX1_word_1 17 rfl rfl)
theorem dX1_word_42 : decode cX1_word 42 = .ok (.lstore_n 3, 1) := dk_66 (dk_at dksX1_word_1 18 rfl rfl)
theorem dX1_word_43 : decode cX1_word 43 = .ok (.iinc 2 1, 3) := dk_132 2 1 (dk_at dksX1_word_1 19 rfl rfl)
theorem dX1_word_46 : decode cX1_word 46 = .ok (.goto (-42), 3) := dk_167 255 214 (dk_at dksX1_word_2 0 rfl rfl)
theorem dX1_word_49 : decode cX1_word 49 = .ok (.iload_n 2, 1) := dk_28 (dk_at dksX1_word_2 3 rfl rfl)
theorem dX1_word_50 : decode cX1_word 50 = .ok (.iload_n 1, 1) := dk_27 (dk_at dksX1_word_2 4 rfl rfl)
theorem dX1_word_51 : decode cX1_word 51 = .ok (.isub, 1) := dk_100 (dk_at dksX1_word_2 5 rfl rfl)
theorem dX1_word_52 : decode cX1_word 52 = .ok (.bipush 8, 2) := dk_16 8 (dk_at dksX1_word_2 6 rfl rfl)
theorem dX1_word_54 : decode cX1_word 54 = .ok (.if_icmp .le 7, 3) := dk_164 0 7 (dk_at dksX1_word_2 8 rfl rfl)
theorem dX1_word_57 : decode cX1_word 57 = .ok (.iconst 3, 1) := dk_6 (dk_at dksX1_word_2 11 rfl rfl)
theorem dX1_word_58 : decode cX1_word 58 = .ok (.goto 4, 3) := dk_167 0 4 (dk_at dksX1_word_2 12 rfl rfl)
theorem dX1_word_61 : decode cX1_word 61 = .ok (.iconst 1, 1) := dk_4 (dk_at dksX1_word_2 15 rfl rfl)
theorem dX1_word_62 : decode cX1_word 62 = .ok (.istore 5, 2) := dk_54 5 (dk_at dksX1_word_2 16 rfl rfl)
theorem dX1_word_64 : decode cX1_word 64 = .ok (.iconst 0, 1) := dk_3 (dk_at dksX1_word_2 18 rfl rfl)
theorem dX1_word_65 : decode cX1_word 65 = .ok (.istore 6, 2) := dk_54 6 (dk_at dksX1_word_2 19 rfl rfl)
theorem dX1_word_67 : decode cX1_word 67 = .ok (.iload 6, 2) := dk_21 6 (dk_at dksX1_word_2 21 rfl rfl)
theorem dX1_word_69 : decode cX1_word 69 = .ok (.getstatic 69, 3) := dk_178 0 69 (dk_at dksX1_word_3 0 rfl rfl)
theorem dX1_word_72 : decode cX1_word 72 = .ok (.arraylength, 1) := dk_190 (dk_at dksX1_word_3 3 rfl rfl)
theorem dX1_word_73 : decode cX1_word 73 = .ok (.if_icmp .ge 38, 3) := dk_162 0 38 (dk_at dksX1_word_3 4 rfl rfl)
theorem dX1_word_76 : decode cX1_word 76 = .ok (.iload 5, 2) := dk_21 5 (dk_at dksX1_word_3 7 rfl rfl)
theorem dX1_word_78 : decode cX1_word 78 = .ok (.iconst 1, 1) := dk_4 (dk_at dksX1_word_3 9 rfl rfl)
theorem dX1_word_79 : decode cX1_word 79 = .ok (.if_icmp .ne 32, 3) := dk_160 0 32 (dk_at dksX1_word_3 10 rfl rfl)
theorem dX1_word_82 : decode cX1_word 82 = .ok (.aload_n 0, 1) := dk_42 (dk_at dksX1_word_3 13 rfl rfl)
theorem dX1_word_83 : decode cX1_word 83 = .ok (.getstatic 69, 3) := dk_178 0 69 (dk_at dksX1_word_3 14 rfl rfl)
theorem dX1_word_86 : decode cX1_word 86 = .ok (.iload 6, 2) := dk_21 6 (dk_at dksX1_word_3 17 rfl rfl)
theorem dX1_word_88 : decode cX1_word 88 = .ok (.aaload, 1) := dk_50 (dk_at dksX1_word_3 19 rfl rfl)
theorem dX1_word_89 : decode cX1_word 89 = .ok (.iload_n 1, 1) := dk_27 (dk_at dksX1_word_3 20 rfl rfl)
theorem dX1_word_90 : decode cX1_word 90 = .ok (.iload_n 2, 1) := dk_28 (dk_at dksX1_word_3 21 rfl rfl)
theorem dX1_word_91 : decode cX1_word 91 = .ok (.invokevirtual 73, 3) := dk_182 0 73 (dk_at dksX1_word_4 0 rfl rfl)
theorem dX1_word_94 : decode cX1_word 94 = .ok (.ifCond .eq 11, 3) := dk_153 0 11 (dk_at dksX1_word_4 3 rfl rfl)
theorem dX1_word_97 : decode cX1_word 97 = .ok (.sipush 200, 3) := dk_17 0 200 (dk_at dksX1_word_4 6 rfl rfl)
theorem dX1_word_100 : decode cX1_word 100 = .ok (.iload 6, 2) := dk_21 6 (dk_at dksX1_word_4 9 rfl rfl)
theorem dX1_word_102 : decode cX1_word 102 = .ok (.iadd, 1) := dk_96 (dk_at dksX1_word_4 11 rfl rfl)
theorem dX1_word_103 : decode cX1_word 103 = .ok (.istore 5, 2) := dk_54 5 (dk_at dksX1_word_4 12 rfl rfl)
theorem dX1_word_105 : decode cX1_word 105 = .ok (.iinc 6 1, 3) := dk_132 6 1 (dk_at dksX1_word_4 14 rfl rfl)
theorem dX1_word_108 : decode cX1_word 108 = .ok (.goto (-41), 3) := dk_167 255 215 (dk_at dksX1_word_4 17 rfl rfl)
theorem dX1_word_111 : decode cX1_word 111 = .ok (.aload_n 0, 1) := dk_42 (dk_at dksX1_word_4 20 rfl rfl)
theorem dX1_word_112 : decode cX1_word 112 = .ok (.iload 5, 2) := dk_21 5 (dk_at dksX1_word_4 21 rfl rfl)
theorem dX1_word_114 : decode cX1_word 114 = .ok (.iload_n 1, 1) := dk_27 (dk_at dksX1_word_4 23 rfl rfl)
theorem dX1_word_115 : decode cX1_word 115 = .ok (.lload_n 3, 1) := dk_33 (dk_at dksX1_word_5 0 rfl rfl)
theorem dX1_word_116 : decode cX1_word 116 = .ok (.invokevirtual 41, 3) := dk_182 0 41 (dk_at dksX1_word_5 1 rfl rfl)
theorem dX1_word_119 : decode cX1_word 119 = .ok (.iload_n 2, 1) := dk_28 (dk_at dksX1_word_5 4 rfl rfl)
theorem dX1_word_120 : decode cX1_word 120 = .ok (.ireturn, 1) := dk_172 (dk_at dksX1_word_5 5 rfl rfl)
abbrev cX1_byteAt : ByteArray := prog_11_method_5_code
def yX1_byteAt : MethodName := ⟨RX1, "byteAt", "(I)I"⟩
def dkwX1_byteAt_0 : List UInt8 := [27, 42, 180, 0, 26, 162, 0, 12, 42, 180, 0, 11, 27, 51, 167, 0, 4, 3, 172]
abbrev dktX1_byteAt_0 : List UInt8 := dkwX1_byteAt_0 ++ []
theorem dksX1_byteAt_0 : cX1_byteAt.data.toList.drop 0 = dktX1_byteAt_0 := by decide +kernel
theorem dX1_byteAt_0 : decode cX1_byteAt 0 = .ok (.iload_n 1, 1) := dk_27 (dk_at dksX1_byteAt_0 0 rfl rfl)
theorem dX1_byteAt_1 : decode cX1_byteAt 1 = .ok (.aload_n 0, 1) := dk_42 (dk_at dksX1_byteAt_0 1 rfl rfl)
theorem dX1_byteAt_2 : decode cX1_byteAt 2 = .ok (.getfield 26, 3) := dk_180 0 26 (dk_at dksX1_byteAt_0 2 rfl rfl)
theorem dX1_byteAt_5 : decode cX1_byteAt 5 = .ok (.if_icmp .ge 12, 3) := dk_162 0 12 (dk_at dksX1_byteAt_0 5 rfl rfl)
theorem dX1_byteAt_8 : decode cX1_byteAt 8 = .ok (.aload_n 0, 1) := dk_42 (dk_at dksX1_byteAt_0 8 rfl rfl)
theorem dX1_byteAt_9 : decode cX1_byteAt 9 = .ok (.getfield 11, 3) := dk_180 0 11 (dk_at dksX1_byteAt_0 9 rfl rfl)
theorem dX1_byteAt_12 : decode cX1_byteAt 12 = .ok (.iload_n 1, 1) := dk_27 (dk_at dksX1_byteAt_0 12 rfl rfl)
theorem dX1_byteAt_13 : decode cX1_byteAt 13 = .ok (.baload, 1) := dk_51 (dk_at dksX1_byteAt_0 13 rfl rfl)
theorem dX1_byteAt_14 : decode cX1_byteAt 14 = .ok (.goto 4, 3) := dk_167 0 4 (dk_at dksX1_byteAt_0 14 rfl rfl)
theorem dX1_byteAt_17 : decode cX1_byteAt 17 = .ok (.iconst 0, 1) := dk_3 (dk_at dksX1_byteAt_0 17 rfl rfl)
theorem dX1_byteAt_18 : decode cX1_byteAt 18 = .ok (.ireturn, 1) := dk_172 (dk_at dksX1_byteAt_0 18 rfl rfl)
abbrev cX1_is : ByteArray := prog_11_method_13_code
def yX1_is : MethodName := ⟨RX1, "is", "(Ljava/lang/String;II)Z"⟩
def dkwX1_is_2 : List UInt8 := [96, 51, 160, 0, 7, 4, 167, 0, 4, 3, 54, 4, 132, 5, 1, 167, 255, 214, 21, 4, 172]
abbrev dktX1_is_2 : List UInt8 := dkwX1_is_2 ++ []
def dkwX1_is_1 : List UInt8 := [182, 0, 77, 162, 0, 39, 21, 4, 153, 0, 34, 43, 21, 5, 182, 0, 83, 42, 180, 0, 11, 28, 21, 5]
abbrev dktX1_is_1 : List UInt8 := dkwX1_is_1 ++ dktX1_is_2
def dkwX1_is_0 : List UInt8 := [43, 182, 0, 77, 29, 28, 100, 160, 0, 7, 4, 167, 0, 4, 3, 54, 4, 3, 54, 5, 21, 5, 43]
abbrev dktX1_is_0 : List UInt8 := dkwX1_is_0 ++ dktX1_is_1
theorem dksX1_is_0 : cX1_is.data.toList.drop 0 = dktX1_is_0 := by decide +kernel
theorem dksX1_is_1 : cX1_is.data.toList.drop 23 = dktX1_is_1 := dk_seg dksX1_is_0 23 rfl rfl
theorem dksX1_is_2 : cX1_is.data.toList.drop 47 = dktX1_is_2 := dk_seg dksX1_is_1 24 rfl rfl
theorem dX1_is_0 : decode cX1_is 0 = .ok (.aload_n 1, 1) := dk_43 (dk_at dksX1_is_0 0 rfl rfl)
theorem dX1_is_1 : decode cX1_is 1 = .ok (.invokevirtual 77, 3) := dk_182 0 77 (dk_at dksX1_is_0 1 rfl rfl)
theorem dX1_is_4 : decode cX1_is 4 = .ok (.iload_n 3, 1) := dk_29 (dk_at dksX1_is_0 4 rfl rfl)
theorem dX1_is_5 : decode cX1_is 5 = .ok (.iload_n 2, 1) := dk_28 (dk_at dksX1_is_0 5 rfl rfl)
theorem dX1_is_6 : decode cX1_is 6 = .ok (.isub, 1) := dk_100 (dk_at dksX1_is_0 6 rfl rfl)
theorem dX1_is_7 : decode cX1_is 7 = .ok (.if_icmp .ne 7, 3) := dk_160 0 7 (dk_at dksX1_is_0 7 rfl rfl)
theorem dX1_is_10 : decode cX1_is 10 = .ok (.iconst 1, 1) := dk_4 (dk_at dksX1_is_0 10 rfl rfl)
theorem dX1_is_11 : decode cX1_is 11 = .ok (.goto 4, 3) := dk_167 0 4 (dk_at dksX1_is_0 11 rfl rfl)
theorem dX1_is_14 : decode cX1_is 14 = .ok (.iconst 0, 1) := dk_3 (dk_at dksX1_is_0 14 rfl rfl)
theorem dX1_is_15 : decode cX1_is 15 = .ok (.istore 4, 2) := dk_54 4 (dk_at dksX1_is_0 15 rfl rfl)
theorem dX1_is_17 : decode cX1_is 17 = .ok (.iconst 0, 1) := dk_3 (dk_at dksX1_is_0 17 rfl rfl)
theorem dX1_is_18 : decode cX1_is 18 = .ok (.istore 5, 2) := dk_54 5 (dk_at dksX1_is_0 18 rfl rfl)
theorem dX1_is_20 : decode cX1_is 20 = .ok (.iload 5, 2) := dk_21 5 (dk_at dksX1_is_0 20 rfl rfl)
theorem dX1_is_22 : decode cX1_is 22 = .ok (.aload_n 1, 1) := dk_43 (dk_at dksX1_is_0 22 rfl rfl)
theorem dX1_is_23 : decode cX1_is 23 = .ok (.invokevirtual 77, 3) := dk_182 0 77 (dk_at dksX1_is_1 0 rfl rfl)
theorem dX1_is_26 : decode cX1_is 26 = .ok (.if_icmp .ge 39, 3) := dk_162 0 39 (dk_at dksX1_is_1 3 rfl rfl)
theorem dX1_is_29 : decode cX1_is 29 = .ok (.iload 4, 2) := dk_21 4 (dk_at dksX1_is_1 6 rfl rfl)
theorem dX1_is_31 : decode cX1_is 31 = .ok (.ifCond .eq 34, 3) := dk_153 0 34 (dk_at dksX1_is_1 8 rfl rfl)
theorem dX1_is_34 : decode cX1_is 34 = .ok (.aload_n 1, 1) := dk_43 (dk_at dksX1_is_1 11 rfl rfl)
theorem dX1_is_35 : decode cX1_is 35 = .ok (.iload 5, 2) := dk_21 5 (dk_at dksX1_is_1 12 rfl rfl)
theorem dX1_is_37 : decode cX1_is 37 = .ok (.invokevirtual 83, 3) := dk_182 0 83 (dk_at dksX1_is_1 14 rfl rfl)
theorem dX1_is_40 : decode cX1_is 40 = .ok (.aload_n 0, 1) := dk_42 (dk_at dksX1_is_1 17 rfl rfl)
theorem dX1_is_41 : decode cX1_is 41 = .ok (.getfield 11, 3) := dk_180 0 11 (dk_at dksX1_is_1 18 rfl rfl)
theorem dX1_is_44 : decode cX1_is 44 = .ok (.iload_n 2, 1) := dk_28 (dk_at dksX1_is_1 21 rfl rfl)
theorem dX1_is_45 : decode cX1_is 45 = .ok (.iload 5, 2) := dk_21 5 (dk_at dksX1_is_1 22 rfl rfl)
theorem dX1_is_47 : decode cX1_is 47 = .ok (.iadd, 1) := dk_96 (dk_at dksX1_is_2 0 rfl rfl)
theorem dX1_is_48 : decode cX1_is 48 = .ok (.baload, 1) := dk_51 (dk_at dksX1_is_2 1 rfl rfl)
theorem dX1_is_49 : decode cX1_is 49 = .ok (.if_icmp .ne 7, 3) := dk_160 0 7 (dk_at dksX1_is_2 2 rfl rfl)
theorem dX1_is_52 : decode cX1_is 52 = .ok (.iconst 1, 1) := dk_4 (dk_at dksX1_is_2 5 rfl rfl)
theorem dX1_is_53 : decode cX1_is 53 = .ok (.goto 4, 3) := dk_167 0 4 (dk_at dksX1_is_2 6 rfl rfl)
theorem dX1_is_56 : decode cX1_is 56 = .ok (.iconst 0, 1) := dk_3 (dk_at dksX1_is_2 9 rfl rfl)
theorem dX1_is_57 : decode cX1_is 57 = .ok (.istore 4, 2) := dk_54 4 (dk_at dksX1_is_2 10 rfl rfl)
theorem dX1_is_59 : decode cX1_is 59 = .ok (.iinc 5 1, 3) := dk_132 5 1 (dk_at dksX1_is_2 12 rfl rfl)
theorem dX1_is_62 : decode cX1_is 62 = .ok (.goto (-42), 3) := dk_167 255 214 (dk_at dksX1_is_2 15 rfl rfl)
theorem dX1_is_65 : decode cX1_is 65 = .ok (.iload 4, 2) := dk_21 4 (dk_at dksX1_is_2 18 rfl rfl)
theorem dX1_is_67 : decode cX1_is 67 = .ok (.ireturn, 1) := dk_172 (dk_at dksX1_is_2 20 rfl rfl)
abbrev cX1_isDigit : ByteArray := prog_11_method_7_code
def yX1_isDigit : MethodName := ⟨RX1, "isDigit", "(I)Z"⟩
def dkwX1_isDigit_0 : List UInt8 := [26, 16, 48, 161, 0, 13, 26, 16, 57, 163, 0, 7, 4, 167, 0, 4, 3, 172]
abbrev dktX1_isDigit_0 : List UInt8 := dkwX1_isDigit_0 ++ []
theorem dksX1_isDigit_0 : cX1_isDigit.data.toList.drop 0 = dktX1_isDigit_0 := by decide +kernel
theorem dX1_isDigit_0 : decode cX1_isDigit 0 = .ok (.iload_n 0, 1) := dk_26 (dk_at dksX1_isDigit_0 0 rfl rfl)
theorem dX1_isDigit_1 : decode cX1_isDigit 1 = .ok (.bipush 48, 2) := dk_16 48 (dk_at dksX1_isDigit_0 1 rfl rfl)
theorem dX1_isDigit_3 : decode cX1_isDigit 3 = .ok (.if_icmp .lt 13, 3) := dk_161 0 13 (dk_at dksX1_isDigit_0 3 rfl rfl)
theorem dX1_isDigit_6 : decode cX1_isDigit 6 = .ok (.iload_n 0, 1) := dk_26 (dk_at dksX1_isDigit_0 6 rfl rfl)
theorem dX1_isDigit_7 : decode cX1_isDigit 7 = .ok (.bipush 57, 2) := dk_16 57 (dk_at dksX1_isDigit_0 7 rfl rfl)
theorem dX1_isDigit_9 : decode cX1_isDigit 9 = .ok (.if_icmp .gt 7, 3) := dk_163 0 7 (dk_at dksX1_isDigit_0 9 rfl rfl)
theorem dX1_isDigit_12 : decode cX1_isDigit 12 = .ok (.iconst 1, 1) := dk_4 (dk_at dksX1_isDigit_0 12 rfl rfl)
theorem dX1_isDigit_13 : decode cX1_isDigit 13 = .ok (.goto 4, 3) := dk_167 0 4 (dk_at dksX1_isDigit_0 13 rfl rfl)
theorem dX1_isDigit_16 : decode cX1_isDigit 16 = .ok (.iconst 0, 1) := dk_3 (dk_at dksX1_isDigit_0 16 rfl rfl)
theorem dX1_isDigit_17 : decode cX1_isDigit 17 = .ok (.ireturn, 1) := dk_172 (dk_at dksX1_isDigit_0 17 rfl rfl)
abbrev cX1_number : ByteArray := prog_11_method_11_code
def yX1_number : MethodName := ⟨RX1, "number", "(I)I"⟩
def dkwX1_number_2 : List UInt8 := [164, 0, 7, 6, 167, 0, 4, 5, 27, 29, 133, 182, 0, 41, 28, 172]
abbrev dktX1_number_2 : List UInt8 := dkwX1_number_2 ++ []
def dkwX1_number_1 : List UInt8 := [29, 104, 42, 180, 0, 11, 28, 51, 96, 16, 48, 100, 62, 132, 2, 1, 167, 255, 220, 42, 28, 27, 100, 7]
abbrev dktX1_number_1 : List UInt8 := dkwX1_number_1 ++ dktX1_number_2
def dkwX1_number_0 : List UInt8 := [27, 61, 3, 62, 42, 28, 182, 0, 62, 184, 0, 53, 153, 0, 31, 28, 27, 7, 96, 162, 0, 18, 16, 10]
abbrev dktX1_number_0 : List UInt8 := dkwX1_number_0 ++ dktX1_number_1
theorem dksX1_number_0 : cX1_number.data.toList.drop 0 = dktX1_number_0 := by decide +kernel
theorem dksX1_number_1 : cX1_number.data.toList.drop 24 = dktX1_number_1 := dk_seg dksX1_number_0 24 rfl rfl
theorem dksX1_number_2 : cX1_number.data.toList.drop 48 = dktX1_number_2 := dk_seg dksX1_number_1 24 rfl rfl
theorem dX1_number_0 : decode cX1_number 0 = .ok (.iload_n 1, 1) := dk_27 (dk_at dksX1_number_0 0 rfl rfl)
theorem dX1_number_1 : decode cX1_number 1 = .ok (.istore_n 2, 1) := dk_61 (dk_at dksX1_number_0 1 rfl rfl)
theorem dX1_number_2 : decode cX1_number 2 = .ok (.iconst 0, 1) := dk_3 (dk_at dksX1_number_0 2 rfl rfl)
theorem dX1_number_3 : decode cX1_number 3 = .ok (.istore_n 3, 1) := dk_62 (dk_at dksX1_number_0 3 rfl rfl)
theorem dX1_number_4 : decode cX1_number 4 = .ok (.aload_n 0, 1) := dk_42 (dk_at dksX1_number_0 4 rfl rfl)
theorem dX1_number_5 : decode cX1_number 5 = .ok (.iload_n 2, 1) := dk_28 (dk_at dksX1_number_0 5 rfl rfl)
theorem dX1_number_6 : decode cX1_number 6 = .ok (.invokevirtual 62, 3) := dk_182 0 62 (dk_at dksX1_number_0 6 rfl rfl)
theorem dX1_number_9 : decode cX1_number 9 = .ok (.invokestatic 53, 3) := dk_184 0 53 (dk_at dksX1_number_0 9 rfl rfl)
theorem dX1_number_12 : decode cX1_number 12 = .ok (.ifCond .eq 31, 3) := dk_153 0 31 (dk_at dksX1_number_0 12 rfl rfl)
theorem dX1_number_15 : decode cX1_number 15 = .ok (.iload_n 2, 1) := dk_28 (dk_at dksX1_number_0 15 rfl rfl)
theorem dX1_number_16 : decode cX1_number 16 = .ok (.iload_n 1, 1) := dk_27 (dk_at dksX1_number_0 16 rfl rfl)
theorem dX1_number_17 : decode cX1_number 17 = .ok (.iconst 4, 1) := dk_7 (dk_at dksX1_number_0 17 rfl rfl)
theorem dX1_number_18 : decode cX1_number 18 = .ok (.iadd, 1) := dk_96 (dk_at dksX1_number_0 18 rfl rfl)
theorem dX1_number_19 : decode cX1_number 19 = .ok (.if_icmp .ge 18, 3) := dk_162 0 18 (dk_at dksX1_number_0 19 rfl rfl)
theorem dX1_number_22 : decode cX1_number 22 = .ok (.bipush 10, 2) := dk_16 10 (dk_at dksX1_number_0 22 rfl rfl)
theorem dX1_number_24 : decode cX1_number 24 = .ok (.iload_n 3, 1) := dk_29 (dk_at dksX1_number_1 0 rfl rfl)
theorem dX1_number_25 : decode cX1_number 25 = .ok (.imul, 1) := dk_104 (dk_at dksX1_number_1 1 rfl rfl)
theorem dX1_number_26 : decode cX1_number 26 = .ok (.aload_n 0, 1) := dk_42 (dk_at dksX1_number_1 2 rfl rfl)
theorem dX1_number_27 : decode cX1_number 27 = .ok (.getfield 11, 3) := dk_180 0 11 (dk_at dksX1_number_1 3 rfl rfl)
theorem dX1_number_30 : decode cX1_number 30 = .ok (.iload_n 2, 1) := dk_28 (dk_at dksX1_number_1 6 rfl rfl)
theorem dX1_number_31 : decode cX1_number 31 = .ok (.baload, 1) := dk_51 (dk_at dksX1_number_1 7 rfl rfl)
theorem dX1_number_32 : decode cX1_number 32 = .ok (.iadd, 1) := dk_96 (dk_at dksX1_number_1 8 rfl rfl)
theorem dX1_number_33 : decode cX1_number 33 = .ok (.bipush 48, 2) := dk_16 48 (dk_at dksX1_number_1 9 rfl rfl)
theorem dX1_number_35 : decode cX1_number 35 = .ok (.isub, 1) := dk_100 (dk_at dksX1_number_1 11 rfl rfl)
theorem dX1_number_36 : decode cX1_number 36 = .ok (.istore_n 3, 1) := dk_62 (dk_at dksX1_number_1 12 rfl rfl)
theorem dX1_number_37 : decode cX1_number 37 = .ok (.iinc 2 1, 3) := dk_132 2 1 (dk_at dksX1_number_1 13 rfl rfl)
theorem dX1_number_40 : decode cX1_number 40 = .ok (.goto (-36), 3) := dk_167 255 220 (dk_at dksX1_number_1 16 rfl rfl)
theorem dX1_number_43 : decode cX1_number 43 = .ok (.aload_n 0, 1) := dk_42 (dk_at dksX1_number_1 19 rfl rfl)
theorem dX1_number_44 : decode cX1_number 44 = .ok (.iload_n 2, 1) := dk_28 (dk_at dksX1_number_1 20 rfl rfl)
theorem dX1_number_45 : decode cX1_number 45 = .ok (.iload_n 1, 1) := dk_27 (dk_at dksX1_number_1 21 rfl rfl)
theorem dX1_number_46 : decode cX1_number 46 = .ok (.isub, 1) := dk_100 (dk_at dksX1_number_1 22 rfl rfl)
theorem dX1_number_47 : decode cX1_number 47 = .ok (.iconst 4, 1) := dk_7 (dk_at dksX1_number_1 23 rfl rfl)
theorem dX1_number_48 : decode cX1_number 48 = .ok (.if_icmp .le 7, 3) := dk_164 0 7 (dk_at dksX1_number_2 0 rfl rfl)
theorem dX1_number_51 : decode cX1_number 51 = .ok (.iconst 3, 1) := dk_6 (dk_at dksX1_number_2 3 rfl rfl)
theorem dX1_number_52 : decode cX1_number 52 = .ok (.goto 4, 3) := dk_167 0 4 (dk_at dksX1_number_2 4 rfl rfl)
theorem dX1_number_55 : decode cX1_number 55 = .ok (.iconst 2, 1) := dk_5 (dk_at dksX1_number_2 7 rfl rfl)
theorem dX1_number_56 : decode cX1_number 56 = .ok (.iload_n 1, 1) := dk_27 (dk_at dksX1_number_2 8 rfl rfl)
theorem dX1_number_57 : decode cX1_number 57 = .ok (.iload_n 3, 1) := dk_29 (dk_at dksX1_number_2 9 rfl rfl)
theorem dX1_number_58 : decode cX1_number 58 = .ok (.i2l, 1) := dk_133 (dk_at dksX1_number_2 10 rfl rfl)
theorem dX1_number_59 : decode cX1_number 59 = .ok (.invokevirtual 41, 3) := dk_182 0 41 (dk_at dksX1_number_2 11 rfl rfl)
theorem dX1_number_62 : decode cX1_number 62 = .ok (.iload_n 2, 1) := dk_28 (dk_at dksX1_number_2 14 rfl rfl)
theorem dX1_number_63 : decode cX1_number 63 = .ok (.ireturn, 1) := dk_172 (dk_at dksX1_number_2 15 rfl rfl)
abbrev cX1_sign : ByteArray := prog_11_method_10_code
def yX1_sign : MethodName := ⟨RX1, "sign", "(I)I"⟩
def dkwX1_sign_6 : List UInt8 := [6, 27, 9, 182, 0, 41, 27, 4, 96, 172]
abbrev dktX1_sign_6 : List UInt8 := dkwX1_sign_6 ++ []
def dkwX1_sign_5 : List UInt8 := [159, 0, 9, 28, 16, 41, 160, 0, 7, 4, 167, 0, 4, 3, 62, 42, 29, 153, 0, 7, 28, 167, 0, 4]
abbrev dktX1_sign_5 : List UInt8 := dkwX1_sign_5 ++ dktX1_sign_6
def dkwX1_sign_4 : List UInt8 := [159, 0, 33, 28, 16, 42, 159, 0, 27, 28, 16, 47, 159, 0, 21, 28, 16, 60, 159, 0, 15, 28, 16, 40]
abbrev dktX1_sign_4 : List UInt8 := dkwX1_sign_4 ++ dktX1_sign_5
def dkwX1_sign_3 : List UInt8 := [172, 28, 16, 59, 159, 0, 51, 28, 16, 61, 159, 0, 45, 28, 16, 43, 159, 0, 39, 28, 16, 45]
abbrev dktX1_sign_3 : List UInt8 := dkwX1_sign_3 ++ dktX1_sign_4
def dkwX1_sign_2 : List UInt8 := [167, 0, 16, 28, 16, 33, 160, 0, 8, 16, 110, 167, 0, 5, 16, 109, 27, 9, 182, 0, 41, 27, 5, 96]
abbrev dktX1_sign_2 : List UInt8 := dkwX1_sign_2 ++ dktX1_sign_3
def dkwX1_sign_1 : List UInt8 := [159, 0, 15, 28, 16, 33, 159, 0, 9, 28, 16, 60, 160, 0, 37, 42, 28, 16, 61, 160, 0, 8, 16, 101]
abbrev dktX1_sign_1 : List UInt8 := dkwX1_sign_1 ++ dktX1_sign_2
def dkwX1_sign_0 : List UInt8 := [42, 180, 0, 11, 27, 51, 61, 42, 27, 4, 96, 182, 0, 62, 16, 61, 160, 0, 55, 28, 16, 61]
abbrev dktX1_sign_0 : List UInt8 := dkwX1_sign_0 ++ dktX1_sign_1
theorem dksX1_sign_0 : cX1_sign.data.toList.drop 0 = dktX1_sign_0 := by decide +kernel
theorem dksX1_sign_1 : cX1_sign.data.toList.drop 22 = dktX1_sign_1 := dk_seg dksX1_sign_0 22 rfl rfl
theorem dksX1_sign_2 : cX1_sign.data.toList.drop 46 = dktX1_sign_2 := dk_seg dksX1_sign_1 24 rfl rfl
theorem dksX1_sign_3 : cX1_sign.data.toList.drop 70 = dktX1_sign_3 := dk_seg dksX1_sign_2 24 rfl rfl
theorem dksX1_sign_4 : cX1_sign.data.toList.drop 92 = dktX1_sign_4 := dk_seg dksX1_sign_3 22 rfl rfl
theorem dksX1_sign_5 : cX1_sign.data.toList.drop 116 = dktX1_sign_5 := dk_seg dksX1_sign_4 24 rfl rfl
theorem dksX1_sign_6 : cX1_sign.data.toList.drop 140 = dktX1_sign_6 := dk_seg dksX1_sign_5 24 rfl rfl
theorem dX1_sign_0 : decode cX1_sign 0 = .ok (.aload_n 0, 1) := dk_42 (dk_at dksX1_sign_0 0 rfl rfl)
theorem dX1_sign_1 : decode cX1_sign 1 = .ok (.getfield 11, 3) := dk_180 0 11 (dk_at dksX1_sign_0 1 rfl rfl)
theorem dX1_sign_4 : decode cX1_sign 4 = .ok (.iload_n 1, 1) := dk_27 (dk_at dksX1_sign_0 4 rfl rfl)
theorem dX1_sign_5 : decode cX1_sign 5 = .ok (.baload, 1) := dk_51 (dk_at dksX1_sign_0 5 rfl rfl)
theorem dX1_sign_6 : decode cX1_sign 6 = .ok (.istore_n 2, 1) := dk_61 (dk_at dksX1_sign_0 6 rfl rfl)
theorem dX1_sign_7 : decode cX1_sign 7 = .ok (.aload_n 0, 1) := dk_42 (dk_at dksX1_sign_0 7 rfl rfl)
theorem dX1_sign_8 : decode cX1_sign 8 = .ok (.iload_n 1, 1) := dk_27 (dk_at dksX1_sign_0 8 rfl rfl)
theorem dX1_sign_9 : decode cX1_sign 9 = .ok (.iconst 1, 1) := dk_4 (dk_at dksX1_sign_0 9 rfl rfl)
theorem dX1_sign_10 : decode cX1_sign 10 = .ok (.iadd, 1) := dk_96 (dk_at dksX1_sign_0 10 rfl rfl)
theorem dX1_sign_11 : decode cX1_sign 11 = .ok (.invokevirtual 62, 3) := dk_182 0 62 (dk_at dksX1_sign_0 11 rfl rfl)
theorem dX1_sign_14 : decode cX1_sign 14 = .ok (.bipush 61, 2) := dk_16 61 (dk_at dksX1_sign_0 14 rfl rfl)
theorem dX1_sign_16 : decode cX1_sign 16 = .ok (.if_icmp .ne 55, 3) := dk_160 0 55 (dk_at dksX1_sign_0 16 rfl rfl)
theorem dX1_sign_19 : decode cX1_sign 19 = .ok (.iload_n 2, 1) := dk_28 (dk_at dksX1_sign_0 19 rfl rfl)
theorem dX1_sign_20 : decode cX1_sign 20 = .ok (.bipush 61, 2) := dk_16 61 (dk_at dksX1_sign_0 20 rfl rfl)
theorem dX1_sign_22 : decode cX1_sign 22 = .ok (.if_icmp .eq 15, 3) := dk_159 0 15 (dk_at dksX1_sign_1 0 rfl rfl)
theorem dX1_sign_25 : decode cX1_sign 25 = .ok (.iload_n 2, 1) := dk_28 (dk_at dksX1_sign_1 3 rfl rfl)
theorem dX1_sign_26 : decode cX1_sign 26 = .ok (.bipush 33, 2) := dk_16 33 (dk_at dksX1_sign_1 4 rfl rfl)
theorem dX1_sign_28 : decode cX1_sign 28 = .ok (.if_icmp .eq 9, 3) := dk_159 0 9 (dk_at dksX1_sign_1 6 rfl rfl)
theorem dX1_sign_31 : decode cX1_sign 31 = .ok (.iload_n 2, 1) := dk_28 (dk_at dksX1_sign_1 9 rfl rfl)
theorem dX1_sign_32 : decode cX1_sign 32 = .ok (.bipush 60, 2) := dk_16 60 (dk_at dksX1_sign_1 10 rfl rfl)
theorem dX1_sign_34 : decode cX1_sign 34 = .ok (.if_icmp .ne 37, 3) := dk_160 0 37 (dk_at dksX1_sign_1 12 rfl rfl)
theorem dX1_sign_37 : decode cX1_sign 37 = .ok (.aload_n 0, 1) := dk_42 (dk_at dksX1_sign_1 15 rfl rfl)
theorem dX1_sign_38 : decode cX1_sign 38 = .ok (.iload_n 2, 1) := dk_28 (dk_at dksX1_sign_1 16 rfl rfl)
theorem dX1_sign_39 : decode cX1_sign 39 = .ok (.bipush 61, 2) := dk_16 61 (dk_at dksX1_sign_1 17 rfl rfl)
theorem dX1_sign_41 : decode cX1_sign 41 = .ok (.if_icmp .ne 8, 3) := dk_160 0 8 (dk_at dksX1_sign_1 19 rfl rfl)
theorem dX1_sign_44 : decode cX1_sign 44 = .ok (.bipush 101, 2) := dk_16 101 (dk_at dksX1_sign_1 22 rfl rfl)
theorem dX1_sign_46 : decode cX1_sign 46 = .ok (.goto 16, 3) := dk_167 0 16 (dk_at dksX1_sign_2 0 rfl rfl)
theorem dX1_sign_49 : decode cX1_sign 49 = .ok (.iload_n 2, 1) := dk_28 (dk_at dksX1_sign_2 3 rfl rfl)
theorem dX1_sign_50 : decode cX1_sign 50 = .ok (.bipush 33, 2) := dk_16 33 (dk_at dksX1_sign_2 4 rfl rfl)
theorem dX1_sign_52 : decode cX1_sign 52 = .ok (.if_icmp .ne 8, 3) := dk_160 0 8 (dk_at dksX1_sign_2 6 rfl rfl)
theorem dX1_sign_55 : decode cX1_sign 55 = .ok (.bipush 110, 2) := dk_16 110 (dk_at dksX1_sign_2 9 rfl rfl)
theorem dX1_sign_57 : decode cX1_sign 57 = .ok (.goto 5, 3) := dk_167 0 5 (dk_at dksX1_sign_2 11 rfl rfl)
theorem dX1_sign_60 : decode cX1_sign 60 = .ok (.bipush 109, 2) := dk_16 109 (dk_at dksX1_sign_2 14 rfl rfl)
theorem dX1_sign_62 : decode cX1_sign 62 = .ok (.iload_n 1, 1) := dk_27 (dk_at dksX1_sign_2 16 rfl rfl)
theorem dX1_sign_63 : decode cX1_sign 63 = .ok (.lconst 0, 1) := dk_9 (dk_at dksX1_sign_2 17 rfl rfl)
theorem dX1_sign_64 : decode cX1_sign 64 = .ok (.invokevirtual 41, 3) := dk_182 0 41 (dk_at dksX1_sign_2 18 rfl rfl)
theorem dX1_sign_67 : decode cX1_sign 67 = .ok (.iload_n 1, 1) := dk_27 (dk_at dksX1_sign_2 21 rfl rfl)
theorem dX1_sign_68 : decode cX1_sign 68 = .ok (.iconst 2, 1) := dk_5 (dk_at dksX1_sign_2 22 rfl rfl)
theorem dX1_sign_69 : decode cX1_sign 69 = .ok (.iadd, 1) := dk_96 (dk_at dksX1_sign_2 23 rfl rfl)
theorem dX1_sign_70 : decode cX1_sign 70 = .ok (.ireturn, 1) := dk_172 (dk_at dksX1_sign_3 0 rfl rfl)
theorem dX1_sign_71 : decode cX1_sign 71 = .ok (.iload_n 2, 1) := dk_28 (dk_at dksX1_sign_3 1 rfl rfl)
theorem dX1_sign_72 : decode cX1_sign 72 = .ok (.bipush 59, 2) := dk_16 59 (dk_at dksX1_sign_3 2 rfl rfl)
theorem dX1_sign_74 : decode cX1_sign 74 = .ok (.if_icmp .eq 51, 3) := dk_159 0 51 (dk_at dksX1_sign_3 4 rfl rfl)
theorem dX1_sign_77 : decode cX1_sign 77 = .ok (.iload_n 2, 1) := dk_28 (dk_at dksX1_sign_3 7 rfl rfl)
theorem dX1_sign_78 : decode cX1_sign 78 = .ok (.bipush 61, 2) := dk_16 61 (dk_at dksX1_sign_3 8 rfl rfl)
theorem dX1_sign_80 : decode cX1_sign 80 = .ok (.if_icmp .eq 45, 3) := dk_159 0 45 (dk_at dksX1_sign_3 10 rfl rfl)
theorem dX1_sign_83 : decode cX1_sign 83 = .ok (.iload_n 2, 1) := dk_28 (dk_at dksX1_sign_3 13 rfl rfl)
theorem dX1_sign_84 : decode cX1_sign 84 = .ok (.bipush 43, 2) := dk_16 43 (dk_at dksX1_sign_3 14 rfl rfl)
theorem dX1_sign_86 : decode cX1_sign 86 = .ok (.if_icmp .eq 39, 3) := dk_159 0 39 (dk_at dksX1_sign_3 16 rfl rfl)
theorem dX1_sign_89 : decode cX1_sign 89 = .ok (.iload_n 2, 1) := dk_28 (dk_at dksX1_sign_3 19 rfl rfl)
theorem dX1_sign_90 : decode cX1_sign 90 = .ok (.bipush 45, 2) := dk_16 45 (dk_at dksX1_sign_3 20 rfl rfl)
theorem dX1_sign_92 : decode cX1_sign 92 = .ok (.if_icmp .eq 33, 3) := dk_159 0 33 (dk_at dksX1_sign_4 0 rfl rfl)
theorem dX1_sign_95 : decode cX1_sign 95 = .ok (.iload_n 2, 1) := dk_28 (dk_at dksX1_sign_4 3 rfl rfl)
theorem dX1_sign_96 : decode cX1_sign 96 = .ok (.bipush 42, 2) := dk_16 42 (dk_at dksX1_sign_4 4 rfl rfl)
theorem dX1_sign_98 : decode cX1_sign 98 = .ok (.if_icmp .eq 27, 3) := dk_159 0 27 (dk_at dksX1_sign_4 6 rfl rfl)
theorem dX1_sign_101 : decode cX1_sign 101 = .ok (.iload_n 2, 1) := dk_28 (dk_at dksX1_sign_4 9 rfl rfl)
theorem dX1_sign_102 : decode cX1_sign 102 = .ok (.bipush 47, 2) := dk_16 47 (dk_at dksX1_sign_4 10 rfl rfl)
theorem dX1_sign_104 : decode cX1_sign 104 = .ok (.if_icmp .eq 21, 3) := dk_159 0 21 (dk_at dksX1_sign_4 12 rfl rfl)
theorem dX1_sign_107 : decode cX1_sign 107 = .ok (.iload_n 2, 1) := dk_28 (dk_at dksX1_sign_4 15 rfl rfl)
theorem dX1_sign_108 : decode cX1_sign 108 = .ok (.bipush 60, 2) := dk_16 60 (dk_at dksX1_sign_4 16 rfl rfl)
theorem dX1_sign_110 : decode cX1_sign 110 = .ok (.if_icmp .eq 15, 3) := dk_159 0 15 (dk_at dksX1_sign_4 18 rfl rfl)
theorem dX1_sign_113 : decode cX1_sign 113 = .ok (.iload_n 2, 1) := dk_28 (dk_at dksX1_sign_4 21 rfl rfl)
theorem dX1_sign_114 : decode cX1_sign 114 = .ok (.bipush 40, 2) := dk_16 40 (dk_at dksX1_sign_4 22 rfl rfl)
theorem dX1_sign_116 : decode cX1_sign 116 = .ok (.if_icmp .eq 9, 3) := dk_159 0 9 (dk_at dksX1_sign_5 0 rfl rfl)
theorem dX1_sign_119 : decode cX1_sign 119 = .ok (.iload_n 2, 1) := dk_28 (dk_at dksX1_sign_5 3 rfl rfl)
theorem dX1_sign_120 : decode cX1_sign 120 = .ok (.bipush 41, 2) := dk_16 41 (dk_at dksX1_sign_5 4 rfl rfl)
theorem dX1_sign_122 : decode cX1_sign 122 = .ok (.if_icmp .ne 7, 3) := dk_160 0 7 (dk_at dksX1_sign_5 6 rfl rfl)
theorem dX1_sign_125 : decode cX1_sign 125 = .ok (.iconst 1, 1) := dk_4 (dk_at dksX1_sign_5 9 rfl rfl)
theorem dX1_sign_126 : decode cX1_sign 126 = .ok (.goto 4, 3) := dk_167 0 4 (dk_at dksX1_sign_5 10 rfl rfl)
theorem dX1_sign_129 : decode cX1_sign 129 = .ok (.iconst 0, 1) := dk_3 (dk_at dksX1_sign_5 13 rfl rfl)
theorem dX1_sign_130 : decode cX1_sign 130 = .ok (.istore_n 3, 1) := dk_62 (dk_at dksX1_sign_5 14 rfl rfl)
theorem dX1_sign_131 : decode cX1_sign 131 = .ok (.aload_n 0, 1) := dk_42 (dk_at dksX1_sign_5 15 rfl rfl)
theorem dX1_sign_132 : decode cX1_sign 132 = .ok (.iload_n 3, 1) := dk_29 (dk_at dksX1_sign_5 16 rfl rfl)
theorem dX1_sign_133 : decode cX1_sign 133 = .ok (.ifCond .eq 7, 3) := dk_153 0 7 (dk_at dksX1_sign_5 17 rfl rfl)
theorem dX1_sign_136 : decode cX1_sign 136 = .ok (.iload_n 2, 1) := dk_28 (dk_at dksX1_sign_5 20 rfl rfl)
theorem dX1_sign_137 : decode cX1_sign 137 = .ok (.goto 4, 3) := dk_167 0 4 (dk_at dksX1_sign_5 21 rfl rfl)
theorem dX1_sign_140 : decode cX1_sign 140 = .ok (.iconst 3, 1) := dk_6 (dk_at dksX1_sign_6 0 rfl rfl)
theorem dX1_sign_141 : decode cX1_sign 141 = .ok (.iload_n 1, 1) := dk_27 (dk_at dksX1_sign_6 1 rfl rfl)
theorem dX1_sign_142 : decode cX1_sign 142 = .ok (.lconst 0, 1) := dk_9 (dk_at dksX1_sign_6 2 rfl rfl)
theorem dX1_sign_143 : decode cX1_sign 143 = .ok (.invokevirtual 41, 3) := dk_182 0 41 (dk_at dksX1_sign_6 3 rfl rfl)
theorem dX1_sign_146 : decode cX1_sign 146 = .ok (.iload_n 1, 1) := dk_27 (dk_at dksX1_sign_6 6 rfl rfl)
theorem dX1_sign_147 : decode cX1_sign 147 = .ok (.iconst 1, 1) := dk_4 (dk_at dksX1_sign_6 7 rfl rfl)
theorem dX1_sign_148 : decode cX1_sign 148 = .ok (.iadd, 1) := dk_96 (dk_at dksX1_sign_6 8 rfl rfl)
theorem dX1_sign_149 : decode cX1_sign 149 = .ok (.ireturn, 1) := dk_172 (dk_at dksX1_sign_6 9 rfl rfl)
abbrev cX2_init : ByteArray := prog_10_method_1_code
def yX2_init : MethodName := ⟨RX2, "<init>", "(LStiltTown$Scanner;)V"⟩
def dkwX2_init_1 : List UInt8 := [181, 0, 19, 177]
abbrev dktX2_init_1 : List UInt8 := dkwX2_init_1 ++ []
def dkwX2_init_0 : List UInt8 := [42, 183, 0, 3, 42, 16, 28, 188, 11, 181, 0, 9, 42, 16, 28, 188, 10, 181, 0, 15, 42, 43]
abbrev dktX2_init_0 : List UInt8 := dkwX2_init_0 ++ dktX2_init_1
theorem dksX2_init_0 : cX2_init.data.toList.drop 0 = dktX2_init_0 := by decide +kernel
theorem dksX2_init_1 : cX2_init.data.toList.drop 22 = dktX2_init_1 := dk_seg dksX2_init_0 22 rfl rfl
theorem dX2_init_0 : decode cX2_init 0 = .ok (.aload_n 0, 1) := dk_42 (dk_at dksX2_init_0 0 rfl rfl)
theorem dX2_init_1 : decode cX2_init 1 = .ok (.invokespecial 3, 3) := dk_183 0 3 (dk_at dksX2_init_0 1 rfl rfl)
theorem dX2_init_4 : decode cX2_init 4 = .ok (.aload_n 0, 1) := dk_42 (dk_at dksX2_init_0 4 rfl rfl)
theorem dX2_init_5 : decode cX2_init 5 = .ok (.bipush 28, 2) := dk_16 28 (dk_at dksX2_init_0 5 rfl rfl)
theorem dX2_init_7 : decode cX2_init 7 = .ok (.newarray .long, 2) := dk_188_11 (dk_at dksX2_init_0 7 rfl rfl)
theorem dX2_init_9 : decode cX2_init 9 = .ok (.putfield 9, 3) := dk_181 0 9 (dk_at dksX2_init_0 9 rfl rfl)
theorem dX2_init_12 : decode cX2_init 12 = .ok (.aload_n 0, 1) := dk_42 (dk_at dksX2_init_0 12 rfl rfl)
theorem dX2_init_13 : decode cX2_init 13 = .ok (.bipush 28, 2) := dk_16 28 (dk_at dksX2_init_0 13 rfl rfl)
theorem dX2_init_15 : decode cX2_init 15 = .ok (.newarray .int, 2) := dk_188_10 (dk_at dksX2_init_0 15 rfl rfl)
theorem dX2_init_17 : decode cX2_init 17 = .ok (.putfield 15, 3) := dk_181 0 15 (dk_at dksX2_init_0 17 rfl rfl)
theorem dX2_init_20 : decode cX2_init 20 = .ok (.aload_n 0, 1) := dk_42 (dk_at dksX2_init_0 20 rfl rfl)
theorem dX2_init_21 : decode cX2_init 21 = .ok (.aload_n 1, 1) := dk_43 (dk_at dksX2_init_0 21 rfl rfl)
theorem dX2_init_22 : decode cX2_init 22 = .ok (.putfield 19, 3) := dk_181 0 19 (dk_at dksX2_init_1 0 rfl rfl)
theorem dX2_init_25 : decode cX2_init 25 = .ok (.return_, 1) := dk_177 (dk_at dksX2_init_1 3 rfl rfl)
abbrev cX2_read : ByteArray := prog_10_method_9_code
def yX2_read : MethodName := ⟨RX2, "read", "()LStiltTown$Town;"⟩
def dkwX2_read_3 : List UInt8 := [180, 0, 82, 176]
abbrev dktX2_read_3 : List UInt8 := dkwX2_read_3 ++ []
def dkwX2_read_2 : List UInt8 := [180, 0, 41, 153, 0, 19, 187, 0, 33, 89, 42, 180, 0, 41, 42, 180, 0, 44, 183, 0, 38, 191, 42]
abbrev dktX2_read_2 : List UInt8 := dkwX2_read_2 ++ dktX2_read_3
def dkwX2_read_1 : List UInt8 := [89, 183, 0, 81, 181, 0, 82, 42, 3, 182, 0, 51, 154, 0, 10, 42, 182, 0, 86, 167, 255, 244, 42]
abbrev dktX2_read_1 : List UInt8 := dkwX2_read_1 ++ dktX2_read_2
def dkwX2_read_0 : List UInt8 := [42, 3, 181, 0, 29, 42, 3, 181, 0, 73, 42, 3, 181, 0, 41, 42, 3, 181, 0, 76, 42, 187, 0, 79]
abbrev dktX2_read_0 : List UInt8 := dkwX2_read_0 ++ dktX2_read_1
theorem dksX2_read_0 : cX2_read.data.toList.drop 0 = dktX2_read_0 := by decide +kernel
theorem dksX2_read_1 : cX2_read.data.toList.drop 24 = dktX2_read_1 := dk_seg dksX2_read_0 24 rfl rfl
theorem dksX2_read_2 : cX2_read.data.toList.drop 47 = dktX2_read_2 := dk_seg dksX2_read_1 23 rfl rfl
theorem dksX2_read_3 : cX2_read.data.toList.drop 70 = dktX2_read_3 := dk_seg dksX2_read_2 23 rfl rfl
theorem dX2_read_0 : decode cX2_read 0 = .ok (.aload_n 0, 1) := dk_42 (dk_at dksX2_read_0 0 rfl rfl)
theorem dX2_read_1 : decode cX2_read 1 = .ok (.iconst 0, 1) := dk_3 (dk_at dksX2_read_0 1 rfl rfl)
theorem dX2_read_2 : decode cX2_read 2 = .ok (.putfield 29, 3) := dk_181 0 29 (dk_at dksX2_read_0 2 rfl rfl)
theorem dX2_read_5 : decode cX2_read 5 = .ok (.aload_n 0, 1) := dk_42 (dk_at dksX2_read_0 5 rfl rfl)
theorem dX2_read_6 : decode cX2_read 6 = .ok (.iconst 0, 1) := dk_3 (dk_at dksX2_read_0 6 rfl rfl)
theorem dX2_read_7 : decode cX2_read 7 = .ok (.putfield 73, 3) := dk_181 0 73 (dk_at dksX2_read_0 7 rfl rfl)
theorem dX2_read_10 : decode cX2_read 10 = .ok (.aload_n 0, 1) := dk_42 (dk_at dksX2_read_0 10 rfl rfl)
theorem dX2_read_11 : decode cX2_read 11 = .ok (.iconst 0, 1) := dk_3 (dk_at dksX2_read_0 11 rfl rfl)
theorem dX2_read_12 : decode cX2_read 12 = .ok (.putfield 41, 3) := dk_181 0 41 (dk_at dksX2_read_0 12 rfl rfl)
theorem dX2_read_15 : decode cX2_read 15 = .ok (.aload_n 0, 1) := dk_42 (dk_at dksX2_read_0 15 rfl rfl)
theorem dX2_read_16 : decode cX2_read 16 = .ok (.iconst 0, 1) := dk_3 (dk_at dksX2_read_0 16 rfl rfl)
theorem dX2_read_17 : decode cX2_read 17 = .ok (.putfield 76, 3) := dk_181 0 76 (dk_at dksX2_read_0 17 rfl rfl)
theorem dX2_read_20 : decode cX2_read 20 = .ok (.aload_n 0, 1) := dk_42 (dk_at dksX2_read_0 20 rfl rfl)
theorem dX2_read_21 : decode cX2_read 21 = .ok (.new 79, 3) := dk_187 0 79 (dk_at dksX2_read_0 21 rfl rfl)
theorem dX2_read_24 : decode cX2_read 24 = .ok (.dup, 1) := dk_89 (dk_at dksX2_read_1 0 rfl rfl)
theorem dX2_read_25 : decode cX2_read 25 = .ok (.invokespecial 81, 3) := dk_183 0 81 (dk_at dksX2_read_1 1 rfl rfl)
theorem dX2_read_28 : decode cX2_read 28 = .ok (.putfield 82, 3) := dk_181 0 82 (dk_at dksX2_read_1 4 rfl rfl)
theorem dX2_read_31 : decode cX2_read 31 = .ok (.aload_n 0, 1) := dk_42 (dk_at dksX2_read_1 7 rfl rfl)
theorem dX2_read_32 : decode cX2_read 32 = .ok (.iconst 0, 1) := dk_3 (dk_at dksX2_read_1 8 rfl rfl)
theorem dX2_read_33 : decode cX2_read 33 = .ok (.invokevirtual 51, 3) := dk_182 0 51 (dk_at dksX2_read_1 9 rfl rfl)
theorem dX2_read_36 : decode cX2_read 36 = .ok (.ifCond .ne 10, 3) := dk_154 0 10 (dk_at dksX2_read_1 12 rfl rfl)
theorem dX2_read_39 : decode cX2_read 39 = .ok (.aload_n 0, 1) := dk_42 (dk_at dksX2_read_1 15 rfl rfl)
theorem dX2_read_40 : decode cX2_read 40 = .ok (.invokevirtual 86, 3) := dk_182 0 86 (dk_at dksX2_read_1 16 rfl rfl)
theorem dX2_read_43 : decode cX2_read 43 = .ok (.goto (-12), 3) := dk_167 255 244 (dk_at dksX2_read_1 19 rfl rfl)
theorem dX2_read_46 : decode cX2_read 46 = .ok (.aload_n 0, 1) := dk_42 (dk_at dksX2_read_1 22 rfl rfl)
theorem dX2_read_47 : decode cX2_read 47 = .ok (.getfield 41, 3) := dk_180 0 41 (dk_at dksX2_read_2 0 rfl rfl)
theorem dX2_read_50 : decode cX2_read 50 = .ok (.ifCond .eq 19, 3) := dk_153 0 19 (dk_at dksX2_read_2 3 rfl rfl)
theorem dX2_read_53 : decode cX2_read 53 = .ok (.new 33, 3) := dk_187 0 33 (dk_at dksX2_read_2 6 rfl rfl)
theorem dX2_read_56 : decode cX2_read 56 = .ok (.dup, 1) := dk_89 (dk_at dksX2_read_2 9 rfl rfl)
theorem dX2_read_57 : decode cX2_read 57 = .ok (.aload_n 0, 1) := dk_42 (dk_at dksX2_read_2 10 rfl rfl)
theorem dX2_read_58 : decode cX2_read 58 = .ok (.getfield 41, 3) := dk_180 0 41 (dk_at dksX2_read_2 11 rfl rfl)
theorem dX2_read_61 : decode cX2_read 61 = .ok (.aload_n 0, 1) := dk_42 (dk_at dksX2_read_2 14 rfl rfl)
theorem dX2_read_62 : decode cX2_read 62 = .ok (.getfield 44, 3) := dk_180 0 44 (dk_at dksX2_read_2 15 rfl rfl)
theorem dX2_read_65 : decode cX2_read 65 = .ok (.invokespecial 38, 3) := dk_183 0 38 (dk_at dksX2_read_2 18 rfl rfl)
theorem dX2_read_68 : decode cX2_read 68 = .ok (.athrow, 1) := dk_191 (dk_at dksX2_read_2 21 rfl rfl)
theorem dX2_read_69 : decode cX2_read 69 = .ok (.aload_n 0, 1) := dk_42 (dk_at dksX2_read_2 22 rfl rfl)
theorem dX2_read_70 : decode cX2_read 70 = .ok (.getfield 82, 3) := dk_180 0 82 (dk_at dksX2_read_3 0 rfl rfl)
theorem dX2_read_73 : decode cX2_read 73 = .ok (.areturn, 1) := dk_176 (dk_at dksX2_read_3 3 rfl rfl)
abbrev cX2_is : ByteArray := prog_10_method_3_code
def yX2_is : MethodName := ⟨RX2, "is", "(I)Z"⟩
def dkwX2_is_0 : List UInt8 := [42, 180, 0, 19, 180, 0, 23, 42, 180, 0, 29, 53, 27, 160, 0, 7, 4, 167, 0, 4, 3, 172]
abbrev dktX2_is_0 : List UInt8 := dkwX2_is_0 ++ []
theorem dksX2_is_0 : cX2_is.data.toList.drop 0 = dktX2_is_0 := by decide +kernel
theorem dX2_is_0 : decode cX2_is 0 = .ok (.aload_n 0, 1) := dk_42 (dk_at dksX2_is_0 0 rfl rfl)
theorem dX2_is_1 : decode cX2_is 1 = .ok (.getfield 19, 3) := dk_180 0 19 (dk_at dksX2_is_0 1 rfl rfl)
theorem dX2_is_4 : decode cX2_is 4 = .ok (.getfield 23, 3) := dk_180 0 23 (dk_at dksX2_is_0 4 rfl rfl)
theorem dX2_is_7 : decode cX2_is 7 = .ok (.aload_n 0, 1) := dk_42 (dk_at dksX2_is_0 7 rfl rfl)
theorem dX2_is_8 : decode cX2_is 8 = .ok (.getfield 29, 3) := dk_180 0 29 (dk_at dksX2_is_0 8 rfl rfl)
theorem dX2_is_11 : decode cX2_is 11 = .ok (.saload, 1) := dk_53 (dk_at dksX2_is_0 11 rfl rfl)
theorem dX2_is_12 : decode cX2_is 12 = .ok (.iload_n 1, 1) := dk_27 (dk_at dksX2_is_0 12 rfl rfl)
theorem dX2_is_13 : decode cX2_is 13 = .ok (.if_icmp .ne 7, 3) := dk_160 0 7 (dk_at dksX2_is_0 13 rfl rfl)
theorem dX2_is_16 : decode cX2_is 16 = .ok (.iconst 1, 1) := dk_4 (dk_at dksX2_is_0 16 rfl rfl)
theorem dX2_is_17 : decode cX2_is 17 = .ok (.goto 4, 3) := dk_167 0 4 (dk_at dksX2_is_0 17 rfl rfl)
theorem dX2_is_20 : decode cX2_is 20 = .ok (.iconst 0, 1) := dk_3 (dk_at dksX2_is_0 20 rfl rfl)
theorem dX2_is_21 : decode cX2_is 21 = .ok (.ireturn, 1) := dk_172 (dk_at dksX2_is_0 21 rfl rfl)
abbrev cX2_tell : ByteArray := prog_10_method_14_code
def yX2_tell : MethodName := ⟨RX2, "tell", "()V"⟩
def dkwX2_tell_18 : List UInt8 := [167, 0, 7, 42, 182, 0, 169, 42, 16, 59, 182, 0, 59, 87, 177]
abbrev dktX2_tell_18 : List UInt8 := dkwX2_tell_18 ++ []
def dkwX2_tell_17 : List UInt8 := [167, 0, 29, 42, 182, 0, 55, 87, 42, 180, 0, 82, 42, 4, 16, 99, 182, 0, 112, 181, 0, 166]
abbrev dktX2_tell_17 : List UInt8 := dkwX2_tell_17 ++ dktX2_tell_18
def dkwX2_tell_16 : List UInt8 := [87, 167, 0, 51, 42, 182, 0, 55, 87, 42, 180, 0, 82, 42, 4, 16, 9, 182, 0, 112, 181, 0, 163]
abbrev dktX2_tell_16 : List UInt8 := dkwX2_tell_16 ++ dktX2_tell_17
def dkwX2_tell_15 : List UInt8 := [180, 0, 82, 180, 0, 157, 187, 0, 160, 89, 27, 42, 3, 16, 99, 182, 0, 112, 183, 0, 162, 182, 0, 121]
abbrev dktX2_tell_15 : List UInt8 := dkwX2_tell_15 ++ dktX2_tell_16
def dkwX2_tell_14 : List UInt8 := [180, 0, 82, 180, 0, 157, 182, 0, 100, 16, 8, 182, 0, 105, 42, 4, 16, 60, 182, 0, 112, 60, 42]
abbrev dktX2_tell_14 : List UInt8 := dkwX2_tell_14 ++ dktX2_tell_15
def dkwX2_tell_13 : List UInt8 := [180, 0, 153, 27, 4, 84, 42, 180, 0, 82, 89, 180, 0, 150, 4, 96, 181, 0, 150, 167, 0, 104, 42, 42]
abbrev dktX2_tell_13 : List UInt8 := dkwX2_tell_13 ++ dktX2_tell_14
def dkwX2_tell_12 : List UInt8 := [180, 0, 150, 7, 182, 0, 105, 42, 3, 182, 0, 134, 60, 27, 2, 159, 0, 13, 42, 180, 0, 82]
abbrev dktX2_tell_12 : List UInt8 := dkwX2_tell_12 ++ dktX2_tell_13
def dkwX2_tell_11 : List UInt8 := [180, 0, 144, 182, 0, 100, 16, 12, 182, 0, 105, 42, 182, 0, 147, 167, 0, 153, 42, 42, 180, 0, 82]
abbrev dktX2_tell_11 : List UInt8 := dkwX2_tell_11 ++ dktX2_tell_12
def dkwX2_tell_10 : List UInt8 := [184, 0, 140, 42, 180, 0, 82, 89, 180, 0, 131, 4, 96, 181, 0, 131, 167, 0, 176, 42, 42, 180, 0, 82]
abbrev dktX2_tell_10 : List UInt8 := dkwX2_tell_10 ++ dktX2_tell_11
def dkwX2_tell_9 : List UInt8 := [182, 0, 134, 61, 27, 2, 159, 0, 20, 28, 2, 159, 0, 15, 42, 180, 0, 82, 180, 0, 137, 27, 28]
abbrev dktX2_tell_9 : List UInt8 := dkwX2_tell_9 ++ dktX2_tell_10
def dkwX2_tell_8 : List UInt8 := [42, 42, 180, 0, 82, 180, 0, 131, 16, 12, 182, 0, 105, 42, 3, 182, 0, 134, 60, 42, 16, 100]
abbrev dktX2_tell_8 : List UInt8 := dkwX2_tell_8 ++ dktX2_tell_9
def dkwX2_tell_7 : List UInt8 := [42, 3, 16, 99, 182, 0, 112, 79, 42, 180, 0, 82, 89, 180, 0, 125, 4, 96, 181, 0, 125, 167, 0, 240]
abbrev dktX2_tell_7 : List UInt8 := dkwX2_tell_7 ++ dktX2_tell_8
def dkwX2_tell_6 : List UInt8 := [180, 0, 82, 180, 0, 125, 96, 182, 0, 108, 42, 180, 0, 82, 180, 0, 128, 42, 180, 0, 82, 180, 0, 125]
abbrev dktX2_tell_6 : List UInt8 := dkwX2_tell_6 ++ dktX2_tell_7
def dkwX2_tell_5 : List UInt8 := [182, 0, 121, 87, 167, 1, 49, 42, 42, 180, 0, 82, 180, 0, 125, 16, 12, 182, 0, 105, 42, 16, 100, 42]
abbrev dktX2_tell_5 : List UInt8 := dkwX2_tell_5 ++ dktX2_tell_6
def dkwX2_tell_4 : List UInt8 := [180, 0, 82, 180, 0, 96, 187, 0, 116, 89, 27, 28, 42, 4, 16, 9, 182, 0, 112, 183, 0, 118]
abbrev dktX2_tell_4 : List UInt8 := dkwX2_tell_4 ++ dktX2_tell_5
def dkwX2_tell_3 : List UInt8 := [182, 0, 100, 182, 0, 108, 42, 3, 16, 40, 182, 0, 112, 60, 42, 3, 16, 99, 182, 0, 112, 61, 42]
abbrev dktX2_tell_3 : List UInt8 := dkwX2_tell_3 ++ dktX2_tell_4
def dkwX2_tell_2 : List UInt8 := [42, 42, 180, 0, 82, 180, 0, 96, 182, 0, 100, 16, 16, 182, 0, 105, 42, 42, 180, 0, 82, 180, 0, 96]
abbrev dktX2_tell_2 : List UInt8 := dkwX2_tell_2 ++ dktX2_tell_3
def dkwX2_tell_1 : List UInt8 := [170, 0, 0, 0, 0, 0, 1, 170, 0, 0, 0, 200, 0, 0, 0, 208, 0, 0, 0, 52, 0, 0, 0, 128, 0, 0, 0, 193, 0, 0, 1, 1, 0, 0, 1, 170, 0, 0, 1, 24, 0, 0, 1, 73, 0, 0, 1, 126, 0, 0, 1, 148]
abbrev dktX2_tell_1 : List UInt8 := dkwX2_tell_1 ++ dktX2_tell_2
def dkwX2_tell_0 : List UInt8 := [42, 182, 0, 93]
abbrev dktX2_tell_0 : List UInt8 := dkwX2_tell_0 ++ dktX2_tell_1
theorem dksX2_tell_0 : cX2_tell.data.toList.drop 0 = dktX2_tell_0 := by decide +kernel
theorem dksX2_tell_1 : cX2_tell.data.toList.drop 4 = dktX2_tell_1 := dk_seg dksX2_tell_0 4 rfl rfl
theorem dksX2_tell_2 : cX2_tell.data.toList.drop 56 = dktX2_tell_2 := dk_seg dksX2_tell_1 52 rfl rfl
theorem dksX2_tell_3 : cX2_tell.data.toList.drop 80 = dktX2_tell_3 := dk_seg dksX2_tell_2 24 rfl rfl
theorem dksX2_tell_4 : cX2_tell.data.toList.drop 103 = dktX2_tell_4 := dk_seg dksX2_tell_3 23 rfl rfl
theorem dksX2_tell_5 : cX2_tell.data.toList.drop 125 = dktX2_tell_5 := dk_seg dksX2_tell_4 22 rfl rfl
theorem dksX2_tell_6 : cX2_tell.data.toList.drop 149 = dktX2_tell_6 := dk_seg dksX2_tell_5 24 rfl rfl
theorem dksX2_tell_7 : cX2_tell.data.toList.drop 173 = dktX2_tell_7 := dk_seg dksX2_tell_6 24 rfl rfl
theorem dksX2_tell_8 : cX2_tell.data.toList.drop 197 = dktX2_tell_8 := dk_seg dksX2_tell_7 24 rfl rfl
theorem dksX2_tell_9 : cX2_tell.data.toList.drop 219 = dktX2_tell_9 := dk_seg dksX2_tell_8 22 rfl rfl
theorem dksX2_tell_10 : cX2_tell.data.toList.drop 242 = dktX2_tell_10 := dk_seg dksX2_tell_9 23 rfl rfl
theorem dksX2_tell_11 : cX2_tell.data.toList.drop 266 = dktX2_tell_11 := dk_seg dksX2_tell_10 24 rfl rfl
theorem dksX2_tell_12 : cX2_tell.data.toList.drop 289 = dktX2_tell_12 := dk_seg dksX2_tell_11 23 rfl rfl
theorem dksX2_tell_13 : cX2_tell.data.toList.drop 311 = dktX2_tell_13 := dk_seg dksX2_tell_12 22 rfl rfl
theorem dksX2_tell_14 : cX2_tell.data.toList.drop 335 = dktX2_tell_14 := dk_seg dksX2_tell_13 24 rfl rfl
theorem dksX2_tell_15 : cX2_tell.data.toList.drop 358 = dktX2_tell_15 := dk_seg dksX2_tell_14 23 rfl rfl
theorem dksX2_tell_16 : cX2_tell.data.toList.drop 382 = dktX2_tell_16 := dk_seg dksX2_tell_15 24 rfl rfl
theorem dksX2_tell_17 : cX2_tell.data.toList.drop 405 = dktX2_tell_17 := dk_seg dksX2_tell_16 23 rfl rfl
theorem dksX2_tell_18 : cX2_tell.data.toList.drop 427 = dktX2_tell_18 := dk_seg dksX2_tell_17 22 rfl rfl
theorem dX2_tell_0 : decode cX2_tell 0 = .ok (.aload_n 0, 1) := dk_42 (dk_at dksX2_tell_0 0 rfl rfl)
theorem dX2_tell_1 : decode cX2_tell 1 = .ok (.invokevirtual 93, 3) := dk_182 0 93 (dk_at dksX2_tell_0 1 rfl rfl)
theorem dX2_tell_4 : decode cX2_tell 4 = .ok (.tableswitch 426 200 208 #[52, 128, 193, 257, 426, 280, 329, 382, 404], 52) := by decide +kernel
theorem dX2_tell_56 : decode cX2_tell 56 = .ok (.aload_n 0, 1) := dk_42 (dk_at dksX2_tell_2 0 rfl rfl)
theorem dX2_tell_57 : decode cX2_tell 57 = .ok (.aload_n 0, 1) := dk_42 (dk_at dksX2_tell_2 1 rfl rfl)
theorem dX2_tell_58 : decode cX2_tell 58 = .ok (.getfield 82, 3) := dk_180 0 82 (dk_at dksX2_tell_2 2 rfl rfl)
theorem dX2_tell_61 : decode cX2_tell 61 = .ok (.getfield 96, 3) := dk_180 0 96 (dk_at dksX2_tell_2 5 rfl rfl)
theorem dX2_tell_64 : decode cX2_tell 64 = .ok (.invokevirtual 100, 3) := dk_182 0 100 (dk_at dksX2_tell_2 8 rfl rfl)
theorem dX2_tell_67 : decode cX2_tell 67 = .ok (.bipush 16, 2) := dk_16 16 (dk_at dksX2_tell_2 11 rfl rfl)
theorem dX2_tell_69 : decode cX2_tell 69 = .ok (.invokevirtual 105, 3) := dk_182 0 105 (dk_at dksX2_tell_2 13 rfl rfl)
theorem dX2_tell_72 : decode cX2_tell 72 = .ok (.aload_n 0, 1) := dk_42 (dk_at dksX2_tell_2 16 rfl rfl)
theorem dX2_tell_73 : decode cX2_tell 73 = .ok (.aload_n 0, 1) := dk_42 (dk_at dksX2_tell_2 17 rfl rfl)
theorem dX2_tell_74 : decode cX2_tell 74 = .ok (.getfield 82, 3) := dk_180 0 82 (dk_at dksX2_tell_2 18 rfl rfl)
theorem dX2_tell_77 : decode cX2_tell 77 = .ok (.getfield 96, 3) := dk_180 0 96 (dk_at dksX2_tell_2 21 rfl rfl)
theorem dX2_tell_80 : decode cX2_tell 80 = .ok (.invokevirtual 100, 3) := dk_182 0 100 (dk_at dksX2_tell_3 0 rfl rfl)
theorem dX2_tell_83 : decode cX2_tell 83 = .ok (.invokevirtual 108, 3) := dk_182 0 108 (dk_at dksX2_tell_3 3 rfl rfl)
theorem dX2_tell_86 : decode cX2_tell 86 = .ok (.aload_n 0, 1) := dk_42 (dk_at dksX2_tell_3 6 rfl rfl)
theorem dX2_tell_87 : decode cX2_tell 87 = .ok (.iconst 0, 1) := dk_3 (dk_at dksX2_tell_3 7 rfl rfl)
theorem dX2_tell_88 : decode cX2_tell 88 = .ok (.bipush 40, 2) := dk_16 40 (dk_at dksX2_tell_3 8 rfl rfl)
theorem dX2_tell_90 : decode cX2_tell 90 = .ok (.invokevirtual 112, 3) := dk_182 0 112 (dk_at dksX2_tell_3 10 rfl rfl)
theorem dX2_tell_93 : decode cX2_tell 93 = .ok (.istore_n 1, 1) := dk_60 (dk_at dksX2_tell_3 13 rfl rfl)
theorem dX2_tell_94 : decode cX2_tell 94 = .ok (.aload_n 0, 1) := dk_42 (dk_at dksX2_tell_3 14 rfl rfl)
theorem dX2_tell_95 : decode cX2_tell 95 = .ok (.iconst 0, 1) := dk_3 (dk_at dksX2_tell_3 15 rfl rfl)
theorem dX2_tell_96 : decode cX2_tell 96 = .ok (.bipush 99, 2) := dk_16 99 (dk_at dksX2_tell_3 16 rfl rfl)
theorem dX2_tell_98 : decode cX2_tell 98 = .ok (.invokevirtual 112, 3) := dk_182 0 112 (dk_at dksX2_tell_3 18 rfl rfl)
theorem dX2_tell_101 : decode cX2_tell 101 = .ok (.istore_n 2, 1) := dk_61 (dk_at dksX2_tell_3 21 rfl rfl)
theorem dX2_tell_102 : decode cX2_tell 102 = .ok (.aload_n 0, 1) := dk_42 (dk_at dksX2_tell_3 22 rfl rfl)
theorem dX2_tell_103 : decode cX2_tell 103 = .ok (.getfield 82, 3) := dk_180 0 82 (dk_at dksX2_tell_4 0 rfl rfl)
theorem dX2_tell_106 : decode cX2_tell 106 = .ok (.getfield 96, 3) := dk_180 0 96 (dk_at dksX2_tell_4 3 rfl rfl)
theorem dX2_tell_109 : decode cX2_tell 109 = .ok (.new 116, 3) := dk_187 0 116 (dk_at dksX2_tell_4 6 rfl rfl)
theorem dX2_tell_112 : decode cX2_tell 112 = .ok (.dup, 1) := dk_89 (dk_at dksX2_tell_4 9 rfl rfl)
theorem dX2_tell_113 : decode cX2_tell 113 = .ok (.iload_n 1, 1) := dk_27 (dk_at dksX2_tell_4 10 rfl rfl)
theorem dX2_tell_114 : decode cX2_tell 114 = .ok (.iload_n 2, 1) := dk_28 (dk_at dksX2_tell_4 11 rfl rfl)
theorem dX2_tell_115 : decode cX2_tell 115 = .ok (.aload_n 0, 1) := dk_42 (dk_at dksX2_tell_4 12 rfl rfl)
theorem dX2_tell_116 : decode cX2_tell 116 = .ok (.iconst 1, 1) := dk_4 (dk_at dksX2_tell_4 13 rfl rfl)
theorem dX2_tell_117 : decode cX2_tell 117 = .ok (.bipush 9, 2) := dk_16 9 (dk_at dksX2_tell_4 14 rfl rfl)
theorem dX2_tell_119 : decode cX2_tell 119 = .ok (.invokevirtual 112, 3) := dk_182 0 112 (dk_at dksX2_tell_4 16 rfl rfl)
theorem dX2_tell_122 : decode cX2_tell 122 = .ok (.invokespecial 118, 3) := dk_183 0 118 (dk_at dksX2_tell_4 19 rfl rfl)
theorem dX2_tell_125 : decode cX2_tell 125 = .ok (.invokevirtual 121, 3) := dk_182 0 121 (dk_at dksX2_tell_5 0 rfl rfl)
theorem dX2_tell_128 : decode cX2_tell 128 = .ok (.pop, 1) := dk_87 (dk_at dksX2_tell_5 3 rfl rfl)
theorem dX2_tell_129 : decode cX2_tell 129 = .ok (.goto 305, 3) := dk_167 1 49 (dk_at dksX2_tell_5 4 rfl rfl)
theorem dX2_tell_132 : decode cX2_tell 132 = .ok (.aload_n 0, 1) := dk_42 (dk_at dksX2_tell_5 7 rfl rfl)
theorem dX2_tell_133 : decode cX2_tell 133 = .ok (.aload_n 0, 1) := dk_42 (dk_at dksX2_tell_5 8 rfl rfl)
theorem dX2_tell_134 : decode cX2_tell 134 = .ok (.getfield 82, 3) := dk_180 0 82 (dk_at dksX2_tell_5 9 rfl rfl)
theorem dX2_tell_137 : decode cX2_tell 137 = .ok (.getfield 125, 3) := dk_180 0 125 (dk_at dksX2_tell_5 12 rfl rfl)
theorem dX2_tell_140 : decode cX2_tell 140 = .ok (.bipush 12, 2) := dk_16 12 (dk_at dksX2_tell_5 15 rfl rfl)
theorem dX2_tell_142 : decode cX2_tell 142 = .ok (.invokevirtual 105, 3) := dk_182 0 105 (dk_at dksX2_tell_5 17 rfl rfl)
theorem dX2_tell_145 : decode cX2_tell 145 = .ok (.aload_n 0, 1) := dk_42 (dk_at dksX2_tell_5 20 rfl rfl)
theorem dX2_tell_146 : decode cX2_tell 146 = .ok (.bipush 100, 2) := dk_16 100 (dk_at dksX2_tell_5 21 rfl rfl)
theorem dX2_tell_148 : decode cX2_tell 148 = .ok (.aload_n 0, 1) := dk_42 (dk_at dksX2_tell_5 23 rfl rfl)
theorem dX2_tell_149 : decode cX2_tell 149 = .ok (.getfield 82, 3) := dk_180 0 82 (dk_at dksX2_tell_6 0 rfl rfl)
theorem dX2_tell_152 : decode cX2_tell 152 = .ok (.getfield 125, 3) := dk_180 0 125 (dk_at dksX2_tell_6 3 rfl rfl)
theorem dX2_tell_155 : decode cX2_tell 155 = .ok (.iadd, 1) := dk_96 (dk_at dksX2_tell_6 6 rfl rfl)
theorem dX2_tell_156 : decode cX2_tell 156 = .ok (.invokevirtual 108, 3) := dk_182 0 108 (dk_at dksX2_tell_6 7 rfl rfl)
theorem dX2_tell_159 : decode cX2_tell 159 = .ok (.aload_n 0, 1) := dk_42 (dk_at dksX2_tell_6 10 rfl rfl)
theorem dX2_tell_160 : decode cX2_tell 160 = .ok (.getfield 82, 3) := dk_180 0 82 (dk_at dksX2_tell_6 11 rfl rfl)
theorem dX2_tell_163 : decode cX2_tell 163 = .ok (.getfield 128, 3) := dk_180 0 128 (dk_at dksX2_tell_6 14 rfl rfl)
theorem dX2_tell_166 : decode cX2_tell 166 = .ok (.aload_n 0, 1) := dk_42 (dk_at dksX2_tell_6 17 rfl rfl)
theorem dX2_tell_167 : decode cX2_tell 167 = .ok (.getfield 82, 3) := dk_180 0 82 (dk_at dksX2_tell_6 18 rfl rfl)
theorem dX2_tell_170 : decode cX2_tell 170 = .ok (.getfield 125, 3) := dk_180 0 125 (dk_at dksX2_tell_6 21 rfl rfl)
theorem dX2_tell_173 : decode cX2_tell 173 = .ok (.aload_n 0, 1) := dk_42 (dk_at dksX2_tell_7 0 rfl rfl)
theorem dX2_tell_174 : decode cX2_tell 174 = .ok (.iconst 0, 1) := dk_3 (dk_at dksX2_tell_7 1 rfl rfl)
theorem dX2_tell_175 : decode cX2_tell 175 = .ok (.bipush 99, 2) := dk_16 99 (dk_at dksX2_tell_7 2 rfl rfl)
theorem dX2_tell_177 : decode cX2_tell 177 = .ok (.invokevirtual 112, 3) := dk_182 0 112 (dk_at dksX2_tell_7 4 rfl rfl)
theorem dX2_tell_180 : decode cX2_tell 180 = .ok (.iastore, 1) := dk_79 (dk_at dksX2_tell_7 7 rfl rfl)
theorem dX2_tell_181 : decode cX2_tell 181 = .ok (.aload_n 0, 1) := dk_42 (dk_at dksX2_tell_7 8 rfl rfl)
theorem dX2_tell_182 : decode cX2_tell 182 = .ok (.getfield 82, 3) := dk_180 0 82 (dk_at dksX2_tell_7 9 rfl rfl)
theorem dX2_tell_185 : decode cX2_tell 185 = .ok (.dup, 1) := dk_89 (dk_at dksX2_tell_7 12 rfl rfl)
theorem dX2_tell_186 : decode cX2_tell 186 = .ok (.getfield 125, 3) := dk_180 0 125 (dk_at dksX2_tell_7 13 rfl rfl)
theorem dX2_tell_189 : decode cX2_tell 189 = .ok (.iconst 1, 1) := dk_4 (dk_at dksX2_tell_7 16 rfl rfl)
theorem dX2_tell_190 : decode cX2_tell 190 = .ok (.iadd, 1) := dk_96 (dk_at dksX2_tell_7 17 rfl rfl)
theorem dX2_tell_191 : decode cX2_tell 191 = .ok (.putfield 125, 3) := dk_181 0 125 (dk_at dksX2_tell_7 18 rfl rfl)
theorem dX2_tell_194 : decode cX2_tell 194 = .ok (.goto 240, 3) := dk_167 0 240 (dk_at dksX2_tell_7 21 rfl rfl)
theorem dX2_tell_197 : decode cX2_tell 197 = .ok (.aload_n 0, 1) := dk_42 (dk_at dksX2_tell_8 0 rfl rfl)
theorem dX2_tell_198 : decode cX2_tell 198 = .ok (.aload_n 0, 1) := dk_42 (dk_at dksX2_tell_8 1 rfl rfl)
theorem dX2_tell_199 : decode cX2_tell 199 = .ok (.getfield 82, 3) := dk_180 0 82 (dk_at dksX2_tell_8 2 rfl rfl)
theorem dX2_tell_202 : decode cX2_tell 202 = .ok (.getfield 131, 3) := dk_180 0 131 (dk_at dksX2_tell_8 5 rfl rfl)
theorem dX2_tell_205 : decode cX2_tell 205 = .ok (.bipush 12, 2) := dk_16 12 (dk_at dksX2_tell_8 8 rfl rfl)
theorem dX2_tell_207 : decode cX2_tell 207 = .ok (.invokevirtual 105, 3) := dk_182 0 105 (dk_at dksX2_tell_8 10 rfl rfl)
theorem dX2_tell_210 : decode cX2_tell 210 = .ok (.aload_n 0, 1) := dk_42 (dk_at dksX2_tell_8 13 rfl rfl)
theorem dX2_tell_211 : decode cX2_tell 211 = .ok (.iconst 0, 1) := dk_3 (dk_at dksX2_tell_8 14 rfl rfl)
theorem dX2_tell_212 : decode cX2_tell 212 = .ok (.invokevirtual 134, 3) := dk_182 0 134 (dk_at dksX2_tell_8 15 rfl rfl)
theorem dX2_tell_215 : decode cX2_tell 215 = .ok (.istore_n 1, 1) := dk_60 (dk_at dksX2_tell_8 18 rfl rfl)
theorem dX2_tell_216 : decode cX2_tell 216 = .ok (.aload_n 0, 1) := dk_42 (dk_at dksX2_tell_8 19 rfl rfl)
theorem dX2_tell_217 : decode cX2_tell 217 = .ok (.bipush 100, 2) := dk_16 100 (dk_at dksX2_tell_8 20 rfl rfl)
theorem dX2_tell_219 : decode cX2_tell 219 = .ok (.invokevirtual 134, 3) := dk_182 0 134 (dk_at dksX2_tell_9 0 rfl rfl)
theorem dX2_tell_222 : decode cX2_tell 222 = .ok (.istore_n 2, 1) := dk_61 (dk_at dksX2_tell_9 3 rfl rfl)
theorem dX2_tell_223 : decode cX2_tell 223 = .ok (.iload_n 1, 1) := dk_27 (dk_at dksX2_tell_9 4 rfl rfl)
theorem dX2_tell_224 : decode cX2_tell 224 = .ok (.iconst (-1), 1) := dk_2 (dk_at dksX2_tell_9 5 rfl rfl)
theorem dX2_tell_225 : decode cX2_tell 225 = .ok (.if_icmp .eq 20, 3) := dk_159 0 20 (dk_at dksX2_tell_9 6 rfl rfl)
theorem dX2_tell_228 : decode cX2_tell 228 = .ok (.iload_n 2, 1) := dk_28 (dk_at dksX2_tell_9 9 rfl rfl)
theorem dX2_tell_229 : decode cX2_tell 229 = .ok (.iconst (-1), 1) := dk_2 (dk_at dksX2_tell_9 10 rfl rfl)
theorem dX2_tell_230 : decode cX2_tell 230 = .ok (.if_icmp .eq 15, 3) := dk_159 0 15 (dk_at dksX2_tell_9 11 rfl rfl)
theorem dX2_tell_233 : decode cX2_tell 233 = .ok (.aload_n 0, 1) := dk_42 (dk_at dksX2_tell_9 14 rfl rfl)
theorem dX2_tell_234 : decode cX2_tell 234 = .ok (.getfield 82, 3) := dk_180 0 82 (dk_at dksX2_tell_9 15 rfl rfl)
theorem dX2_tell_237 : decode cX2_tell 237 = .ok (.getfield 137, 3) := dk_180 0 137 (dk_at dksX2_tell_9 18 rfl rfl)
theorem dX2_tell_240 : decode cX2_tell 240 = .ok (.iload_n 1, 1) := dk_27 (dk_at dksX2_tell_9 21 rfl rfl)
theorem dX2_tell_241 : decode cX2_tell 241 = .ok (.iload_n 2, 1) := dk_28 (dk_at dksX2_tell_9 22 rfl rfl)
theorem dX2_tell_242 : decode cX2_tell 242 = .ok (.invokestatic 140, 3) := dk_184 0 140 (dk_at dksX2_tell_10 0 rfl rfl)
theorem dX2_tell_245 : decode cX2_tell 245 = .ok (.aload_n 0, 1) := dk_42 (dk_at dksX2_tell_10 3 rfl rfl)
theorem dX2_tell_246 : decode cX2_tell 246 = .ok (.getfield 82, 3) := dk_180 0 82 (dk_at dksX2_tell_10 4 rfl rfl)
theorem dX2_tell_249 : decode cX2_tell 249 = .ok (.dup, 1) := dk_89 (dk_at dksX2_tell_10 7 rfl rfl)
theorem dX2_tell_250 : decode cX2_tell 250 = .ok (.getfield 131, 3) := dk_180 0 131 (dk_at dksX2_tell_10 8 rfl rfl)
theorem dX2_tell_253 : decode cX2_tell 253 = .ok (.iconst 1, 1) := dk_4 (dk_at dksX2_tell_10 11 rfl rfl)
theorem dX2_tell_254 : decode cX2_tell 254 = .ok (.iadd, 1) := dk_96 (dk_at dksX2_tell_10 12 rfl rfl)
theorem dX2_tell_255 : decode cX2_tell 255 = .ok (.putfield 131, 3) := dk_181 0 131 (dk_at dksX2_tell_10 13 rfl rfl)
theorem dX2_tell_258 : decode cX2_tell 258 = .ok (.goto 176, 3) := dk_167 0 176 (dk_at dksX2_tell_10 16 rfl rfl)
theorem dX2_tell_261 : decode cX2_tell 261 = .ok (.aload_n 0, 1) := dk_42 (dk_at dksX2_tell_10 19 rfl rfl)
theorem dX2_tell_262 : decode cX2_tell 262 = .ok (.aload_n 0, 1) := dk_42 (dk_at dksX2_tell_10 20 rfl rfl)
theorem dX2_tell_263 : decode cX2_tell 263 = .ok (.getfield 82, 3) := dk_180 0 82 (dk_at dksX2_tell_10 21 rfl rfl)
theorem dX2_tell_266 : decode cX2_tell 266 = .ok (.getfield 144, 3) := dk_180 0 144 (dk_at dksX2_tell_11 0 rfl rfl)
theorem dX2_tell_269 : decode cX2_tell 269 = .ok (.invokevirtual 100, 3) := dk_182 0 100 (dk_at dksX2_tell_11 3 rfl rfl)
theorem dX2_tell_272 : decode cX2_tell 272 = .ok (.bipush 12, 2) := dk_16 12 (dk_at dksX2_tell_11 6 rfl rfl)
theorem dX2_tell_274 : decode cX2_tell 274 = .ok (.invokevirtual 105, 3) := dk_182 0 105 (dk_at dksX2_tell_11 8 rfl rfl)
theorem dX2_tell_277 : decode cX2_tell 277 = .ok (.aload_n 0, 1) := dk_42 (dk_at dksX2_tell_11 11 rfl rfl)
theorem dX2_tell_278 : decode cX2_tell 278 = .ok (.invokevirtual 147, 3) := dk_182 0 147 (dk_at dksX2_tell_11 12 rfl rfl)
theorem dX2_tell_281 : decode cX2_tell 281 = .ok (.goto 153, 3) := dk_167 0 153 (dk_at dksX2_tell_11 15 rfl rfl)
theorem dX2_tell_284 : decode cX2_tell 284 = .ok (.aload_n 0, 1) := dk_42 (dk_at dksX2_tell_11 18 rfl rfl)
theorem dX2_tell_285 : decode cX2_tell 285 = .ok (.aload_n 0, 1) := dk_42 (dk_at dksX2_tell_11 19 rfl rfl)
theorem dX2_tell_286 : decode cX2_tell 286 = .ok (.getfield 82, 3) := dk_180 0 82 (dk_at dksX2_tell_11 20 rfl rfl)
theorem dX2_tell_289 : decode cX2_tell 289 = .ok (.getfield 150, 3) := dk_180 0 150 (dk_at dksX2_tell_12 0 rfl rfl)
theorem dX2_tell_292 : decode cX2_tell 292 = .ok (.iconst 4, 1) := dk_7 (dk_at dksX2_tell_12 3 rfl rfl)
theorem dX2_tell_293 : decode cX2_tell 293 = .ok (.invokevirtual 105, 3) := dk_182 0 105 (dk_at dksX2_tell_12 4 rfl rfl)
theorem dX2_tell_296 : decode cX2_tell 296 = .ok (.aload_n 0, 1) := dk_42 (dk_at dksX2_tell_12 7 rfl rfl)
theorem dX2_tell_297 : decode cX2_tell 297 = .ok (.iconst 0, 1) := dk_3 (dk_at dksX2_tell_12 8 rfl rfl)
theorem dX2_tell_298 : decode cX2_tell 298 = .ok (.invokevirtual 134, 3) := dk_182 0 134 (dk_at dksX2_tell_12 9 rfl rfl)
theorem dX2_tell_301 : decode cX2_tell 301 = .ok (.istore_n 1, 1) := dk_60 (dk_at dksX2_tell_12 12 rfl rfl)
theorem dX2_tell_302 : decode cX2_tell 302 = .ok (.iload_n 1, 1) := dk_27 (dk_at dksX2_tell_12 13 rfl rfl)
theorem dX2_tell_303 : decode cX2_tell 303 = .ok (.iconst (-1), 1) := dk_2 (dk_at dksX2_tell_12 14 rfl rfl)
theorem dX2_tell_304 : decode cX2_tell 304 = .ok (.if_icmp .eq 13, 3) := dk_159 0 13 (dk_at dksX2_tell_12 15 rfl rfl)
theorem dX2_tell_307 : decode cX2_tell 307 = .ok (.aload_n 0, 1) := dk_42 (dk_at dksX2_tell_12 18 rfl rfl)
theorem dX2_tell_308 : decode cX2_tell 308 = .ok (.getfield 82, 3) := dk_180 0 82 (dk_at dksX2_tell_12 19 rfl rfl)
theorem dX2_tell_311 : decode cX2_tell 311 = .ok (.getfield 153, 3) := dk_180 0 153 (dk_at dksX2_tell_13 0 rfl rfl)
theorem dX2_tell_314 : decode cX2_tell 314 = .ok (.iload_n 1, 1) := dk_27 (dk_at dksX2_tell_13 3 rfl rfl)
theorem dX2_tell_315 : decode cX2_tell 315 = .ok (.iconst 1, 1) := dk_4 (dk_at dksX2_tell_13 4 rfl rfl)
theorem dX2_tell_316 : decode cX2_tell 316 = .ok (.bastore, 1) := dk_84 (dk_at dksX2_tell_13 5 rfl rfl)
theorem dX2_tell_317 : decode cX2_tell 317 = .ok (.aload_n 0, 1) := dk_42 (dk_at dksX2_tell_13 6 rfl rfl)
theorem dX2_tell_318 : decode cX2_tell 318 = .ok (.getfield 82, 3) := dk_180 0 82 (dk_at dksX2_tell_13 7 rfl rfl)
theorem dX2_tell_321 : decode cX2_tell 321 = .ok (.dup, 1) := dk_89 (dk_at dksX2_tell_13 10 rfl rfl)
theorem dX2_tell_322 : decode cX2_tell 322 = .ok (.getfield 150, 3) := dk_180 0 150 (dk_at dksX2_tell_13 11 rfl rfl)
theorem dX2_tell_325 : decode cX2_tell 325 = .ok (.iconst 1, 1) := dk_4 (dk_at dksX2_tell_13 14 rfl rfl)
theorem dX2_tell_326 : decode cX2_tell 326 = .ok (.iadd, 1) := dk_96 (dk_at dksX2_tell_13 15 rfl rfl)
theorem dX2_tell_327 : decode cX2_tell 327 = .ok (.putfield 150, 3) := dk_181 0 150 (dk_at dksX2_tell_13 16 rfl rfl)
theorem dX2_tell_330 : decode cX2_tell 330 = .ok (.goto 104, 3) := dk_167 0 104 (dk_at dksX2_tell_13 19 rfl rfl)
theorem dX2_tell_333 : decode cX2_tell 333 = .ok (.aload_n 0, 1) := dk_42 (dk_at dksX2_tell_13 22 rfl rfl)
theorem dX2_tell_334 : decode cX2_tell 334 = .ok (.aload_n 0, 1) := dk_42 (dk_at dksX2_tell_13 23 rfl rfl)
theorem dX2_tell_335 : decode cX2_tell 335 = .ok (.getfield 82, 3) := dk_180 0 82 (dk_at dksX2_tell_14 0 rfl rfl)
theorem dX2_tell_338 : decode cX2_tell 338 = .ok (.getfield 157, 3) := dk_180 0 157 (dk_at dksX2_tell_14 3 rfl rfl)
theorem dX2_tell_341 : decode cX2_tell 341 = .ok (.invokevirtual 100, 3) := dk_182 0 100 (dk_at dksX2_tell_14 6 rfl rfl)
theorem dX2_tell_344 : decode cX2_tell 344 = .ok (.bipush 8, 2) := dk_16 8 (dk_at dksX2_tell_14 9 rfl rfl)
theorem dX2_tell_346 : decode cX2_tell 346 = .ok (.invokevirtual 105, 3) := dk_182 0 105 (dk_at dksX2_tell_14 11 rfl rfl)
theorem dX2_tell_349 : decode cX2_tell 349 = .ok (.aload_n 0, 1) := dk_42 (dk_at dksX2_tell_14 14 rfl rfl)
theorem dX2_tell_350 : decode cX2_tell 350 = .ok (.iconst 1, 1) := dk_4 (dk_at dksX2_tell_14 15 rfl rfl)
theorem dX2_tell_351 : decode cX2_tell 351 = .ok (.bipush 60, 2) := dk_16 60 (dk_at dksX2_tell_14 16 rfl rfl)
theorem dX2_tell_353 : decode cX2_tell 353 = .ok (.invokevirtual 112, 3) := dk_182 0 112 (dk_at dksX2_tell_14 18 rfl rfl)
theorem dX2_tell_356 : decode cX2_tell 356 = .ok (.istore_n 1, 1) := dk_60 (dk_at dksX2_tell_14 21 rfl rfl)
theorem dX2_tell_357 : decode cX2_tell 357 = .ok (.aload_n 0, 1) := dk_42 (dk_at dksX2_tell_14 22 rfl rfl)
theorem dX2_tell_358 : decode cX2_tell 358 = .ok (.getfield 82, 3) := dk_180 0 82 (dk_at dksX2_tell_15 0 rfl rfl)
theorem dX2_tell_361 : decode cX2_tell 361 = .ok (.getfield 157, 3) := dk_180 0 157 (dk_at dksX2_tell_15 3 rfl rfl)
theorem dX2_tell_364 : decode cX2_tell 364 = .ok (.new 160, 3) := dk_187 0 160 (dk_at dksX2_tell_15 6 rfl rfl)
theorem dX2_tell_367 : decode cX2_tell 367 = .ok (.dup, 1) := dk_89 (dk_at dksX2_tell_15 9 rfl rfl)
theorem dX2_tell_368 : decode cX2_tell 368 = .ok (.iload_n 1, 1) := dk_27 (dk_at dksX2_tell_15 10 rfl rfl)
theorem dX2_tell_369 : decode cX2_tell 369 = .ok (.aload_n 0, 1) := dk_42 (dk_at dksX2_tell_15 11 rfl rfl)
theorem dX2_tell_370 : decode cX2_tell 370 = .ok (.iconst 0, 1) := dk_3 (dk_at dksX2_tell_15 12 rfl rfl)
theorem dX2_tell_371 : decode cX2_tell 371 = .ok (.bipush 99, 2) := dk_16 99 (dk_at dksX2_tell_15 13 rfl rfl)
theorem dX2_tell_373 : decode cX2_tell 373 = .ok (.invokevirtual 112, 3) := dk_182 0 112 (dk_at dksX2_tell_15 15 rfl rfl)
theorem dX2_tell_376 : decode cX2_tell 376 = .ok (.invokespecial 162, 3) := dk_183 0 162 (dk_at dksX2_tell_15 18 rfl rfl)
theorem dX2_tell_379 : decode cX2_tell 379 = .ok (.invokevirtual 121, 3) := dk_182 0 121 (dk_at dksX2_tell_15 21 rfl rfl)
theorem dX2_tell_382 : decode cX2_tell 382 = .ok (.pop, 1) := dk_87 (dk_at dksX2_tell_16 0 rfl rfl)
theorem dX2_tell_383 : decode cX2_tell 383 = .ok (.goto 51, 3) := dk_167 0 51 (dk_at dksX2_tell_16 1 rfl rfl)
theorem dX2_tell_386 : decode cX2_tell 386 = .ok (.aload_n 0, 1) := dk_42 (dk_at dksX2_tell_16 4 rfl rfl)
theorem dX2_tell_387 : decode cX2_tell 387 = .ok (.invokevirtual 55, 3) := dk_182 0 55 (dk_at dksX2_tell_16 5 rfl rfl)
theorem dX2_tell_390 : decode cX2_tell 390 = .ok (.pop, 1) := dk_87 (dk_at dksX2_tell_16 8 rfl rfl)
theorem dX2_tell_391 : decode cX2_tell 391 = .ok (.aload_n 0, 1) := dk_42 (dk_at dksX2_tell_16 9 rfl rfl)
theorem dX2_tell_392 : decode cX2_tell 392 = .ok (.getfield 82, 3) := dk_180 0 82 (dk_at dksX2_tell_16 10 rfl rfl)
theorem dX2_tell_395 : decode cX2_tell 395 = .ok (.aload_n 0, 1) := dk_42 (dk_at dksX2_tell_16 13 rfl rfl)
theorem dX2_tell_396 : decode cX2_tell 396 = .ok (.iconst 1, 1) := dk_4 (dk_at dksX2_tell_16 14 rfl rfl)
theorem dX2_tell_397 : decode cX2_tell 397 = .ok (.bipush 9, 2) := dk_16 9 (dk_at dksX2_tell_16 15 rfl rfl)
theorem dX2_tell_399 : decode cX2_tell 399 = .ok (.invokevirtual 112, 3) := dk_182 0 112 (dk_at dksX2_tell_16 17 rfl rfl)
theorem dX2_tell_402 : decode cX2_tell 402 = .ok (.putfield 163, 3) := dk_181 0 163 (dk_at dksX2_tell_16 20 rfl rfl)
theorem dX2_tell_405 : decode cX2_tell 405 = .ok (.goto 29, 3) := dk_167 0 29 (dk_at dksX2_tell_17 0 rfl rfl)
theorem dX2_tell_408 : decode cX2_tell 408 = .ok (.aload_n 0, 1) := dk_42 (dk_at dksX2_tell_17 3 rfl rfl)
theorem dX2_tell_409 : decode cX2_tell 409 = .ok (.invokevirtual 55, 3) := dk_182 0 55 (dk_at dksX2_tell_17 4 rfl rfl)
theorem dX2_tell_412 : decode cX2_tell 412 = .ok (.pop, 1) := dk_87 (dk_at dksX2_tell_17 7 rfl rfl)
theorem dX2_tell_413 : decode cX2_tell 413 = .ok (.aload_n 0, 1) := dk_42 (dk_at dksX2_tell_17 8 rfl rfl)
theorem dX2_tell_414 : decode cX2_tell 414 = .ok (.getfield 82, 3) := dk_180 0 82 (dk_at dksX2_tell_17 9 rfl rfl)
theorem dX2_tell_417 : decode cX2_tell 417 = .ok (.aload_n 0, 1) := dk_42 (dk_at dksX2_tell_17 12 rfl rfl)
theorem dX2_tell_418 : decode cX2_tell 418 = .ok (.iconst 1, 1) := dk_4 (dk_at dksX2_tell_17 13 rfl rfl)
theorem dX2_tell_419 : decode cX2_tell 419 = .ok (.bipush 99, 2) := dk_16 99 (dk_at dksX2_tell_17 14 rfl rfl)
theorem dX2_tell_421 : decode cX2_tell 421 = .ok (.invokevirtual 112, 3) := dk_182 0 112 (dk_at dksX2_tell_17 16 rfl rfl)
theorem dX2_tell_424 : decode cX2_tell 424 = .ok (.putfield 166, 3) := dk_181 0 166 (dk_at dksX2_tell_17 19 rfl rfl)
theorem dX2_tell_427 : decode cX2_tell 427 = .ok (.goto 7, 3) := dk_167 0 7 (dk_at dksX2_tell_18 0 rfl rfl)
theorem dX2_tell_430 : decode cX2_tell 430 = .ok (.aload_n 0, 1) := dk_42 (dk_at dksX2_tell_18 3 rfl rfl)
theorem dX2_tell_431 : decode cX2_tell 431 = .ok (.invokevirtual 169, 3) := dk_182 0 169 (dk_at dksX2_tell_18 4 rfl rfl)
theorem dX2_tell_434 : decode cX2_tell 434 = .ok (.aload_n 0, 1) := dk_42 (dk_at dksX2_tell_18 7 rfl rfl)
theorem dX2_tell_435 : decode cX2_tell 435 = .ok (.bipush 59, 2) := dk_16 59 (dk_at dksX2_tell_18 8 rfl rfl)
theorem dX2_tell_437 : decode cX2_tell 437 = .ok (.invokevirtual 59, 3) := dk_182 0 59 (dk_at dksX2_tell_18 10 rfl rfl)
theorem dX2_tell_440 : decode cX2_tell 440 = .ok (.pop, 1) := dk_87 (dk_at dksX2_tell_18 13 rfl rfl)
theorem dX2_tell_441 : decode cX2_tell 441 = .ok (.return_, 1) := dk_177 (dk_at dksX2_tell_18 14 rfl rfl)
abbrev cX2_kind : ByteArray := prog_10_method_2_code
def yX2_kind : MethodName := ⟨RX2, "kind", "()I"⟩
def dkwX2_kind_0 : List UInt8 := [42, 180, 0, 19, 180, 0, 23, 42, 180, 0, 29, 53, 172]
abbrev dktX2_kind_0 : List UInt8 := dkwX2_kind_0 ++ []
theorem dksX2_kind_0 : cX2_kind.data.toList.drop 0 = dktX2_kind_0 := by decide +kernel
theorem dX2_kind_0 : decode cX2_kind 0 = .ok (.aload_n 0, 1) := dk_42 (dk_at dksX2_kind_0 0 rfl rfl)
theorem dX2_kind_1 : decode cX2_kind 1 = .ok (.getfield 19, 3) := dk_180 0 19 (dk_at dksX2_kind_0 1 rfl rfl)
theorem dX2_kind_4 : decode cX2_kind 4 = .ok (.getfield 23, 3) := dk_180 0 23 (dk_at dksX2_kind_0 4 rfl rfl)
theorem dX2_kind_7 : decode cX2_kind 7 = .ok (.aload_n 0, 1) := dk_42 (dk_at dksX2_kind_0 7 rfl rfl)
theorem dX2_kind_8 : decode cX2_kind 8 = .ok (.getfield 29, 3) := dk_180 0 29 (dk_at dksX2_kind_0 8 rfl rfl)
theorem dX2_kind_11 : decode cX2_kind 11 = .ok (.saload, 1) := dk_53 (dk_at dksX2_kind_0 11 rfl rfl)
theorem dX2_kind_12 : decode cX2_kind 12 = .ok (.ireturn, 1) := dk_172 (dk_at dksX2_kind_0 12 rfl rfl)
abbrev cX2_room : ByteArray := prog_10_method_10_code
def yX2_room : MethodName := ⟨RX2, "room", "(II)V"⟩
def dkwX2_room_0 : List UInt8 := [27, 28, 160, 0, 9, 42, 5, 182, 0, 47, 191, 42, 182, 0, 55, 87, 177]
abbrev dktX2_room_0 : List UInt8 := dkwX2_room_0 ++ []
theorem dksX2_room_0 : cX2_room.data.toList.drop 0 = dktX2_room_0 := by decide +kernel
theorem dX2_room_0 : decode cX2_room 0 = .ok (.iload_n 1, 1) := dk_27 (dk_at dksX2_room_0 0 rfl rfl)
theorem dX2_room_1 : decode cX2_room 1 = .ok (.iload_n 2, 1) := dk_28 (dk_at dksX2_room_0 1 rfl rfl)
theorem dX2_room_2 : decode cX2_room 2 = .ok (.if_icmp .ne 9, 3) := dk_160 0 9 (dk_at dksX2_room_0 2 rfl rfl)
theorem dX2_room_5 : decode cX2_room 5 = .ok (.aload_n 0, 1) := dk_42 (dk_at dksX2_room_0 5 rfl rfl)
theorem dX2_room_6 : decode cX2_room 6 = .ok (.iconst 2, 1) := dk_5 (dk_at dksX2_room_0 6 rfl rfl)
theorem dX2_room_7 : decode cX2_room 7 = .ok (.invokevirtual 47, 3) := dk_182 0 47 (dk_at dksX2_room_0 7 rfl rfl)
theorem dX2_room_10 : decode cX2_room 10 = .ok (.athrow, 1) := dk_191 (dk_at dksX2_room_0 10 rfl rfl)
theorem dX2_room_11 : decode cX2_room 11 = .ok (.aload_n 0, 1) := dk_42 (dk_at dksX2_room_0 11 rfl rfl)
theorem dX2_room_12 : decode cX2_room 12 = .ok (.invokevirtual 55, 3) := dk_182 0 55 (dk_at dksX2_room_0 12 rfl rfl)
theorem dX2_room_15 : decode cX2_room 15 = .ok (.pop, 1) := dk_87 (dk_at dksX2_room_0 15 rfl rfl)
theorem dX2_room_16 : decode cX2_room 16 = .ok (.return_, 1) := dk_177 (dk_at dksX2_room_0 16 rfl rfl)
abbrev cX2_fault : ByteArray := prog_10_method_4_code
def yX2_fault : MethodName := ⟨RX2, "fault", "(I)LStiltTown$Fault;"⟩
def dkwX2_fault_0 : List UInt8 := [187, 0, 33, 89, 27, 42, 180, 0, 19, 180, 0, 35, 42, 180, 0, 29, 53, 183, 0, 38, 176]
abbrev dktX2_fault_0 : List UInt8 := dkwX2_fault_0 ++ []
theorem dksX2_fault_0 : cX2_fault.data.toList.drop 0 = dktX2_fault_0 := by decide +kernel
theorem dX2_fault_0 : decode cX2_fault 0 = .ok (.new 33, 3) := dk_187 0 33 (dk_at dksX2_fault_0 0 rfl rfl)
theorem dX2_fault_3 : decode cX2_fault 3 = .ok (.dup, 1) := dk_89 (dk_at dksX2_fault_0 3 rfl rfl)
theorem dX2_fault_4 : decode cX2_fault 4 = .ok (.iload_n 1, 1) := dk_27 (dk_at dksX2_fault_0 4 rfl rfl)
theorem dX2_fault_5 : decode cX2_fault 5 = .ok (.aload_n 0, 1) := dk_42 (dk_at dksX2_fault_0 5 rfl rfl)
theorem dX2_fault_6 : decode cX2_fault 6 = .ok (.getfield 19, 3) := dk_180 0 19 (dk_at dksX2_fault_0 6 rfl rfl)
theorem dX2_fault_9 : decode cX2_fault 9 = .ok (.getfield 35, 3) := dk_180 0 35 (dk_at dksX2_fault_0 9 rfl rfl)
theorem dX2_fault_12 : decode cX2_fault 12 = .ok (.aload_n 0, 1) := dk_42 (dk_at dksX2_fault_0 12 rfl rfl)
theorem dX2_fault_13 : decode cX2_fault 13 = .ok (.getfield 29, 3) := dk_180 0 29 (dk_at dksX2_fault_0 13 rfl rfl)
theorem dX2_fault_16 : decode cX2_fault 16 = .ok (.saload, 1) := dk_53 (dk_at dksX2_fault_0 16 rfl rfl)
theorem dX2_fault_17 : decode cX2_fault 17 = .ok (.invokespecial 38, 3) := dk_183 0 38 (dk_at dksX2_fault_0 17 rfl rfl)
theorem dX2_fault_20 : decode cX2_fault 20 = .ok (.areturn, 1) := dk_176 (dk_at dksX2_fault_0 20 rfl rfl)
abbrev cX2_go : ByteArray := prog_10_method_6_code
def yX2_go : MethodName := ⟨RX2, "go", "()I"⟩
def dkwX2_go_1 : List UInt8 := [181, 0, 29, 42, 180, 0, 29, 4, 100, 172]
abbrev dktX2_go_1 : List UInt8 := dkwX2_go_1 ++ []
def dkwX2_go_0 : List UInt8 := [42, 180, 0, 29, 17, 1, 144, 160, 0, 9, 42, 5, 182, 0, 47, 191, 42, 89, 180, 0, 29, 4, 96]
abbrev dktX2_go_0 : List UInt8 := dkwX2_go_0 ++ dktX2_go_1
theorem dksX2_go_0 : cX2_go.data.toList.drop 0 = dktX2_go_0 := by decide +kernel
theorem dksX2_go_1 : cX2_go.data.toList.drop 23 = dktX2_go_1 := dk_seg dksX2_go_0 23 rfl rfl
theorem dX2_go_0 : decode cX2_go 0 = .ok (.aload_n 0, 1) := dk_42 (dk_at dksX2_go_0 0 rfl rfl)
theorem dX2_go_1 : decode cX2_go 1 = .ok (.getfield 29, 3) := dk_180 0 29 (dk_at dksX2_go_0 1 rfl rfl)
theorem dX2_go_4 : decode cX2_go 4 = .ok (.sipush 400, 3) := dk_17 1 144 (dk_at dksX2_go_0 4 rfl rfl)
theorem dX2_go_7 : decode cX2_go 7 = .ok (.if_icmp .ne 9, 3) := dk_160 0 9 (dk_at dksX2_go_0 7 rfl rfl)
theorem dX2_go_10 : decode cX2_go 10 = .ok (.aload_n 0, 1) := dk_42 (dk_at dksX2_go_0 10 rfl rfl)
theorem dX2_go_11 : decode cX2_go 11 = .ok (.iconst 2, 1) := dk_5 (dk_at dksX2_go_0 11 rfl rfl)
theorem dX2_go_12 : decode cX2_go 12 = .ok (.invokevirtual 47, 3) := dk_182 0 47 (dk_at dksX2_go_0 12 rfl rfl)
theorem dX2_go_15 : decode cX2_go 15 = .ok (.athrow, 1) := dk_191 (dk_at dksX2_go_0 15 rfl rfl)
theorem dX2_go_16 : decode cX2_go 16 = .ok (.aload_n 0, 1) := dk_42 (dk_at dksX2_go_0 16 rfl rfl)
theorem dX2_go_17 : decode cX2_go 17 = .ok (.dup, 1) := dk_89 (dk_at dksX2_go_0 17 rfl rfl)
theorem dX2_go_18 : decode cX2_go 18 = .ok (.getfield 29, 3) := dk_180 0 29 (dk_at dksX2_go_0 18 rfl rfl)
theorem dX2_go_21 : decode cX2_go 21 = .ok (.iconst 1, 1) := dk_4 (dk_at dksX2_go_0 21 rfl rfl)
theorem dX2_go_22 : decode cX2_go 22 = .ok (.iadd, 1) := dk_96 (dk_at dksX2_go_0 22 rfl rfl)
theorem dX2_go_23 : decode cX2_go 23 = .ok (.putfield 29, 3) := dk_181 0 29 (dk_at dksX2_go_1 0 rfl rfl)
theorem dX2_go_26 : decode cX2_go 26 = .ok (.aload_n 0, 1) := dk_42 (dk_at dksX2_go_1 3 rfl rfl)
theorem dX2_go_27 : decode cX2_go 27 = .ok (.getfield 29, 3) := dk_180 0 29 (dk_at dksX2_go_1 4 rfl rfl)
theorem dX2_go_30 : decode cX2_go 30 = .ok (.iconst 1, 1) := dk_4 (dk_at dksX2_go_1 7 rfl rfl)
theorem dX2_go_31 : decode cX2_go 31 = .ok (.isub, 1) := dk_100 (dk_at dksX2_go_1 8 rfl rfl)
theorem dX2_go_32 : decode cX2_go 32 = .ok (.ireturn, 1) := dk_172 (dk_at dksX2_go_1 9 rfl rfl)
abbrev cX2_tellName : ByteArray := prog_10_method_12_code
def yX2_tellName : MethodName := ⟨RX2, "tellName", "(I)V"⟩
def dkwX2_tellName_2 : List UInt8 := [180, 0, 15, 42, 180, 0, 76, 27, 79, 42, 89, 180, 0, 76, 4, 96, 181, 0, 76, 177]
abbrev dktX2_tellName_2 : List UInt8 := dkwX2_tellName_2 ++ []
def dkwX2_tellName_1 : List UInt8 := [6, 28, 182, 0, 70, 42, 180, 0, 9, 42, 180, 0, 76, 42, 180, 0, 19, 180, 0, 63, 28, 47, 80, 42]
abbrev dktX2_tellName_1 : List UInt8 := dkwX2_tellName_1 ++ dktX2_tellName_2
def dkwX2_tellName_0 : List UInt8 := [42, 4, 182, 0, 59, 61, 42, 42, 180, 0, 19, 180, 0, 63, 28, 47, 182, 0, 89, 2, 159, 0, 9, 42]
abbrev dktX2_tellName_0 : List UInt8 := dkwX2_tellName_0 ++ dktX2_tellName_1
theorem dksX2_tellName_0 : cX2_tellName.data.toList.drop 0 = dktX2_tellName_0 := by decide +kernel
theorem dksX2_tellName_1 : cX2_tellName.data.toList.drop 24 = dktX2_tellName_1 := dk_seg dksX2_tellName_0 24 rfl rfl
theorem dksX2_tellName_2 : cX2_tellName.data.toList.drop 48 = dktX2_tellName_2 := dk_seg dksX2_tellName_1 24 rfl rfl
theorem dX2_tellName_0 : decode cX2_tellName 0 = .ok (.aload_n 0, 1) := dk_42 (dk_at dksX2_tellName_0 0 rfl rfl)
theorem dX2_tellName_1 : decode cX2_tellName 1 = .ok (.iconst 1, 1) := dk_4 (dk_at dksX2_tellName_0 1 rfl rfl)
theorem dX2_tellName_2 : decode cX2_tellName 2 = .ok (.invokevirtual 59, 3) := dk_182 0 59 (dk_at dksX2_tellName_0 2 rfl rfl)
theorem dX2_tellName_5 : decode cX2_tellName 5 = .ok (.istore_n 2, 1) := dk_61 (dk_at dksX2_tellName_0 5 rfl rfl)
theorem dX2_tellName_6 : decode cX2_tellName 6 = .ok (.aload_n 0, 1) := dk_42 (dk_at dksX2_tellName_0 6 rfl rfl)
theorem dX2_tellName_7 : decode cX2_tellName 7 = .ok (.aload_n 0, 1) := dk_42 (dk_at dksX2_tellName_0 7 rfl rfl)
theorem dX2_tellName_8 : decode cX2_tellName 8 = .ok (.getfield 19, 3) := dk_180 0 19 (dk_at dksX2_tellName_0 8 rfl rfl)
theorem dX2_tellName_11 : decode cX2_tellName 11 = .ok (.getfield 63, 3) := dk_180 0 63 (dk_at dksX2_tellName_0 11 rfl rfl)
theorem dX2_tellName_14 : decode cX2_tellName 14 = .ok (.iload_n 2, 1) := dk_28 (dk_at dksX2_tellName_0 14 rfl rfl)
theorem dX2_tellName_15 : decode cX2_tellName 15 = .ok (.laload, 1) := dk_47 (dk_at dksX2_tellName_0 15 rfl rfl)
theorem dX2_tellName_16 : decode cX2_tellName 16 = .ok (.invokevirtual 89, 3) := dk_182 0 89 (dk_at dksX2_tellName_0 16 rfl rfl)
theorem dX2_tellName_19 : decode cX2_tellName 19 = .ok (.iconst (-1), 1) := dk_2 (dk_at dksX2_tellName_0 19 rfl rfl)
theorem dX2_tellName_20 : decode cX2_tellName 20 = .ok (.if_icmp .eq 9, 3) := dk_159 0 9 (dk_at dksX2_tellName_0 20 rfl rfl)
theorem dX2_tellName_23 : decode cX2_tellName 23 = .ok (.aload_n 0, 1) := dk_42 (dk_at dksX2_tellName_0 23 rfl rfl)
theorem dX2_tellName_24 : decode cX2_tellName 24 = .ok (.iconst 3, 1) := dk_6 (dk_at dksX2_tellName_1 0 rfl rfl)
theorem dX2_tellName_25 : decode cX2_tellName 25 = .ok (.iload_n 2, 1) := dk_28 (dk_at dksX2_tellName_1 1 rfl rfl)
theorem dX2_tellName_26 : decode cX2_tellName 26 = .ok (.invokevirtual 70, 3) := dk_182 0 70 (dk_at dksX2_tellName_1 2 rfl rfl)
theorem dX2_tellName_29 : decode cX2_tellName 29 = .ok (.aload_n 0, 1) := dk_42 (dk_at dksX2_tellName_1 5 rfl rfl)
theorem dX2_tellName_30 : decode cX2_tellName 30 = .ok (.getfield 9, 3) := dk_180 0 9 (dk_at dksX2_tellName_1 6 rfl rfl)
theorem dX2_tellName_33 : decode cX2_tellName 33 = .ok (.aload_n 0, 1) := dk_42 (dk_at dksX2_tellName_1 9 rfl rfl)
theorem dX2_tellName_34 : decode cX2_tellName 34 = .ok (.getfield 76, 3) := dk_180 0 76 (dk_at dksX2_tellName_1 10 rfl rfl)
theorem dX2_tellName_37 : decode cX2_tellName 37 = .ok (.aload_n 0, 1) := dk_42 (dk_at dksX2_tellName_1 13 rfl rfl)
theorem dX2_tellName_38 : decode cX2_tellName 38 = .ok (.getfield 19, 3) := dk_180 0 19 (dk_at dksX2_tellName_1 14 rfl rfl)
theorem dX2_tellName_41 : decode cX2_tellName 41 = .ok (.getfield 63, 3) := dk_180 0 63 (dk_at dksX2_tellName_1 17 rfl rfl)
theorem dX2_tellName_44 : decode cX2_tellName 44 = .ok (.iload_n 2, 1) := dk_28 (dk_at dksX2_tellName_1 20 rfl rfl)
theorem dX2_tellName_45 : decode cX2_tellName 45 = .ok (.laload, 1) := dk_47 (dk_at dksX2_tellName_1 21 rfl rfl)
theorem dX2_tellName_46 : decode cX2_tellName 46 = .ok (.lastore, 1) := dk_80 (dk_at dksX2_tellName_1 22 rfl rfl)
theorem dX2_tellName_47 : decode cX2_tellName 47 = .ok (.aload_n 0, 1) := dk_42 (dk_at dksX2_tellName_1 23 rfl rfl)
theorem dX2_tellName_48 : decode cX2_tellName 48 = .ok (.getfield 15, 3) := dk_180 0 15 (dk_at dksX2_tellName_2 0 rfl rfl)
theorem dX2_tellName_51 : decode cX2_tellName 51 = .ok (.aload_n 0, 1) := dk_42 (dk_at dksX2_tellName_2 3 rfl rfl)
theorem dX2_tellName_52 : decode cX2_tellName 52 = .ok (.getfield 76, 3) := dk_180 0 76 (dk_at dksX2_tellName_2 4 rfl rfl)
theorem dX2_tellName_55 : decode cX2_tellName 55 = .ok (.iload_n 1, 1) := dk_27 (dk_at dksX2_tellName_2 7 rfl rfl)
theorem dX2_tellName_56 : decode cX2_tellName 56 = .ok (.iastore, 1) := dk_79 (dk_at dksX2_tellName_2 8 rfl rfl)
theorem dX2_tellName_57 : decode cX2_tellName 57 = .ok (.aload_n 0, 1) := dk_42 (dk_at dksX2_tellName_2 9 rfl rfl)
theorem dX2_tellName_58 : decode cX2_tellName 58 = .ok (.dup, 1) := dk_89 (dk_at dksX2_tellName_2 10 rfl rfl)
theorem dX2_tellName_59 : decode cX2_tellName 59 = .ok (.getfield 76, 3) := dk_180 0 76 (dk_at dksX2_tellName_2 11 rfl rfl)
theorem dX2_tellName_62 : decode cX2_tellName 62 = .ok (.iconst 1, 1) := dk_4 (dk_at dksX2_tellName_2 14 rfl rfl)
theorem dX2_tellName_63 : decode cX2_tellName 63 = .ok (.iadd, 1) := dk_96 (dk_at dksX2_tellName_2 15 rfl rfl)
theorem dX2_tellName_64 : decode cX2_tellName 64 = .ok (.putfield 76, 3) := dk_181 0 76 (dk_at dksX2_tellName_2 16 rfl rfl)
theorem dX2_tellName_67 : decode cX2_tellName 67 = .ok (.return_, 1) := dk_177 (dk_at dksX2_tellName_2 19 rfl rfl)
abbrev cX2_must : ByteArray := prog_10_method_7_code
def yX2_must : MethodName := ⟨RX2, "must", "(I)I"⟩
def dkwX2_must_0 : List UInt8 := [42, 27, 182, 0, 51, 154, 0, 9, 42, 4, 182, 0, 47, 191, 42, 182, 0, 55, 172]
abbrev dktX2_must_0 : List UInt8 := dkwX2_must_0 ++ []
theorem dksX2_must_0 : cX2_must.data.toList.drop 0 = dktX2_must_0 := by decide +kernel
theorem dX2_must_0 : decode cX2_must 0 = .ok (.aload_n 0, 1) := dk_42 (dk_at dksX2_must_0 0 rfl rfl)
theorem dX2_must_1 : decode cX2_must 1 = .ok (.iload_n 1, 1) := dk_27 (dk_at dksX2_must_0 1 rfl rfl)
theorem dX2_must_2 : decode cX2_must 2 = .ok (.invokevirtual 51, 3) := dk_182 0 51 (dk_at dksX2_must_0 2 rfl rfl)
theorem dX2_must_5 : decode cX2_must 5 = .ok (.ifCond .ne 9, 3) := dk_154 0 9 (dk_at dksX2_must_0 5 rfl rfl)
theorem dX2_must_8 : decode cX2_must 8 = .ok (.aload_n 0, 1) := dk_42 (dk_at dksX2_must_0 8 rfl rfl)
theorem dX2_must_9 : decode cX2_must 9 = .ok (.iconst 1, 1) := dk_4 (dk_at dksX2_must_0 9 rfl rfl)
theorem dX2_must_10 : decode cX2_must 10 = .ok (.invokevirtual 47, 3) := dk_182 0 47 (dk_at dksX2_must_0 10 rfl rfl)
theorem dX2_must_13 : decode cX2_must 13 = .ok (.athrow, 1) := dk_191 (dk_at dksX2_must_0 13 rfl rfl)
theorem dX2_must_14 : decode cX2_must 14 = .ok (.aload_n 0, 1) := dk_42 (dk_at dksX2_must_0 14 rfl rfl)
theorem dX2_must_15 : decode cX2_must 15 = .ok (.invokevirtual 55, 3) := dk_182 0 55 (dk_at dksX2_must_0 15 rfl rfl)
theorem dX2_must_18 : decode cX2_must 18 = .ok (.ireturn, 1) := dk_172 (dk_at dksX2_must_0 18 rfl rfl)
abbrev cX2_find : ByteArray := prog_10_method_11_code
def yX2_find : MethodName := ⟨RX2, "find", "(J)I"⟩
def dkwX2_find_1 : List UInt8 := [180, 0, 15, 29, 46, 172, 132, 3, 1, 167, 255, 227, 2, 172]
abbrev dktX2_find_1 : List UInt8 := dkwX2_find_1 ++ []
def dkwX2_find_0 : List UInt8 := [3, 62, 29, 42, 180, 0, 76, 162, 0, 27, 42, 180, 0, 9, 29, 47, 31, 148, 154, 0, 10, 42]
abbrev dktX2_find_0 : List UInt8 := dkwX2_find_0 ++ dktX2_find_1
theorem dksX2_find_0 : cX2_find.data.toList.drop 0 = dktX2_find_0 := by decide +kernel
theorem dksX2_find_1 : cX2_find.data.toList.drop 22 = dktX2_find_1 := dk_seg dksX2_find_0 22 rfl rfl
theorem dX2_find_0 : decode cX2_find 0 = .ok (.iconst 0, 1) := dk_3 (dk_at dksX2_find_0 0 rfl rfl)
theorem dX2_find_1 : decode cX2_find 1 = .ok (.istore_n 3, 1) := dk_62 (dk_at dksX2_find_0 1 rfl rfl)
theorem dX2_find_2 : decode cX2_find 2 = .ok (.iload_n 3, 1) := dk_29 (dk_at dksX2_find_0 2 rfl rfl)
theorem dX2_find_3 : decode cX2_find 3 = .ok (.aload_n 0, 1) := dk_42 (dk_at dksX2_find_0 3 rfl rfl)
theorem dX2_find_4 : decode cX2_find 4 = .ok (.getfield 76, 3) := dk_180 0 76 (dk_at dksX2_find_0 4 rfl rfl)
theorem dX2_find_7 : decode cX2_find 7 = .ok (.if_icmp .ge 27, 3) := dk_162 0 27 (dk_at dksX2_find_0 7 rfl rfl)
theorem dX2_find_10 : decode cX2_find 10 = .ok (.aload_n 0, 1) := dk_42 (dk_at dksX2_find_0 10 rfl rfl)
theorem dX2_find_11 : decode cX2_find 11 = .ok (.getfield 9, 3) := dk_180 0 9 (dk_at dksX2_find_0 11 rfl rfl)
theorem dX2_find_14 : decode cX2_find 14 = .ok (.iload_n 3, 1) := dk_29 (dk_at dksX2_find_0 14 rfl rfl)
theorem dX2_find_15 : decode cX2_find 15 = .ok (.laload, 1) := dk_47 (dk_at dksX2_find_0 15 rfl rfl)
theorem dX2_find_16 : decode cX2_find 16 = .ok (.lload_n 1, 1) := dk_31 (dk_at dksX2_find_0 16 rfl rfl)
theorem dX2_find_17 : decode cX2_find 17 = .ok (.lcmp, 1) := dk_148 (dk_at dksX2_find_0 17 rfl rfl)
theorem dX2_find_18 : decode cX2_find 18 = .ok (.ifCond .ne 10, 3) := dk_154 0 10 (dk_at dksX2_find_0 18 rfl rfl)
theorem dX2_find_21 : decode cX2_find 21 = .ok (.aload_n 0, 1) := dk_42 (dk_at dksX2_find_0 21 rfl rfl)
theorem dX2_find_22 : decode cX2_find 22 = .ok (.getfield 15, 3) := dk_180 0 15 (dk_at dksX2_find_1 0 rfl rfl)
theorem dX2_find_25 : decode cX2_find 25 = .ok (.iload_n 3, 1) := dk_29 (dk_at dksX2_find_1 3 rfl rfl)
theorem dX2_find_26 : decode cX2_find 26 = .ok (.iaload, 1) := dk_46 (dk_at dksX2_find_1 4 rfl rfl)
theorem dX2_find_27 : decode cX2_find 27 = .ok (.ireturn, 1) := dk_172 (dk_at dksX2_find_1 5 rfl rfl)
theorem dX2_find_28 : decode cX2_find 28 = .ok (.iinc 3 1, 3) := dk_132 3 1 (dk_at dksX2_find_1 6 rfl rfl)
theorem dX2_find_31 : decode cX2_find 31 = .ok (.goto (-29), 3) := dk_167 255 227 (dk_at dksX2_find_1 9 rfl rfl)
theorem dX2_find_34 : decode cX2_find 34 = .ok (.iconst (-1), 1) := dk_2 (dk_at dksX2_find_1 12 rfl rfl)
theorem dX2_find_35 : decode cX2_find 35 = .ok (.ireturn, 1) := dk_172 (dk_at dksX2_find_1 13 rfl rfl)
abbrev cX2_wrong : ByteArray := prog_10_method_5_code
def yX2_wrong : MethodName := ⟨RX2, "wrong", "(II)V"⟩
def dkwX2_wrong_2 : List UInt8 := [181, 0, 41, 42, 29, 181, 0, 44, 177]
abbrev dktX2_wrong_2 : List UInt8 := dkwX2_wrong_2 ++ []
def dkwX2_wrong_1 : List UInt8 := [163, 0, 19, 29, 42, 180, 0, 44, 160, 0, 12, 27, 42, 180, 0, 41, 161, 0, 4, 177, 42, 27]
abbrev dktX2_wrong_1 : List UInt8 := dkwX2_wrong_1 ++ dktX2_wrong_2
def dkwX2_wrong_0 : List UInt8 := [42, 180, 0, 19, 180, 0, 35, 28, 53, 62, 42, 180, 0, 41, 153, 0, 28, 29, 42, 180, 0, 44]
abbrev dktX2_wrong_0 : List UInt8 := dkwX2_wrong_0 ++ dktX2_wrong_1
theorem dksX2_wrong_0 : cX2_wrong.data.toList.drop 0 = dktX2_wrong_0 := by decide +kernel
theorem dksX2_wrong_1 : cX2_wrong.data.toList.drop 22 = dktX2_wrong_1 := dk_seg dksX2_wrong_0 22 rfl rfl
theorem dksX2_wrong_2 : cX2_wrong.data.toList.drop 44 = dktX2_wrong_2 := dk_seg dksX2_wrong_1 22 rfl rfl
theorem dX2_wrong_0 : decode cX2_wrong 0 = .ok (.aload_n 0, 1) := dk_42 (dk_at dksX2_wrong_0 0 rfl rfl)
theorem dX2_wrong_1 : decode cX2_wrong 1 = .ok (.getfield 19, 3) := dk_180 0 19 (dk_at dksX2_wrong_0 1 rfl rfl)
theorem dX2_wrong_4 : decode cX2_wrong 4 = .ok (.getfield 35, 3) := dk_180 0 35 (dk_at dksX2_wrong_0 4 rfl rfl)
theorem dX2_wrong_7 : decode cX2_wrong 7 = .ok (.iload_n 2, 1) := dk_28 (dk_at dksX2_wrong_0 7 rfl rfl)
theorem dX2_wrong_8 : decode cX2_wrong 8 = .ok (.saload, 1) := dk_53 (dk_at dksX2_wrong_0 8 rfl rfl)
theorem dX2_wrong_9 : decode cX2_wrong 9 = .ok (.istore_n 3, 1) := dk_62 (dk_at dksX2_wrong_0 9 rfl rfl)
theorem dX2_wrong_10 : decode cX2_wrong 10 = .ok (.aload_n 0, 1) := dk_42 (dk_at dksX2_wrong_0 10 rfl rfl)
theorem dX2_wrong_11 : decode cX2_wrong 11 = .ok (.getfield 41, 3) := dk_180 0 41 (dk_at dksX2_wrong_0 11 rfl rfl)
theorem dX2_wrong_14 : decode cX2_wrong 14 = .ok (.ifCond .eq 28, 3) := dk_153 0 28 (dk_at dksX2_wrong_0 14 rfl rfl)
theorem dX2_wrong_17 : decode cX2_wrong 17 = .ok (.iload_n 3, 1) := dk_29 (dk_at dksX2_wrong_0 17 rfl rfl)
theorem dX2_wrong_18 : decode cX2_wrong 18 = .ok (.aload_n 0, 1) := dk_42 (dk_at dksX2_wrong_0 18 rfl rfl)
theorem dX2_wrong_19 : decode cX2_wrong 19 = .ok (.getfield 44, 3) := dk_180 0 44 (dk_at dksX2_wrong_0 19 rfl rfl)
theorem dX2_wrong_22 : decode cX2_wrong 22 = .ok (.if_icmp .gt 19, 3) := dk_163 0 19 (dk_at dksX2_wrong_1 0 rfl rfl)
theorem dX2_wrong_25 : decode cX2_wrong 25 = .ok (.iload_n 3, 1) := dk_29 (dk_at dksX2_wrong_1 3 rfl rfl)
theorem dX2_wrong_26 : decode cX2_wrong 26 = .ok (.aload_n 0, 1) := dk_42 (dk_at dksX2_wrong_1 4 rfl rfl)
theorem dX2_wrong_27 : decode cX2_wrong 27 = .ok (.getfield 44, 3) := dk_180 0 44 (dk_at dksX2_wrong_1 5 rfl rfl)
theorem dX2_wrong_30 : decode cX2_wrong 30 = .ok (.if_icmp .ne 12, 3) := dk_160 0 12 (dk_at dksX2_wrong_1 8 rfl rfl)
theorem dX2_wrong_33 : decode cX2_wrong 33 = .ok (.iload_n 1, 1) := dk_27 (dk_at dksX2_wrong_1 11 rfl rfl)
theorem dX2_wrong_34 : decode cX2_wrong 34 = .ok (.aload_n 0, 1) := dk_42 (dk_at dksX2_wrong_1 12 rfl rfl)
theorem dX2_wrong_35 : decode cX2_wrong 35 = .ok (.getfield 41, 3) := dk_180 0 41 (dk_at dksX2_wrong_1 13 rfl rfl)
theorem dX2_wrong_38 : decode cX2_wrong 38 = .ok (.if_icmp .lt 4, 3) := dk_161 0 4 (dk_at dksX2_wrong_1 16 rfl rfl)
theorem dX2_wrong_41 : decode cX2_wrong 41 = .ok (.return_, 1) := dk_177 (dk_at dksX2_wrong_1 19 rfl rfl)
theorem dX2_wrong_42 : decode cX2_wrong 42 = .ok (.aload_n 0, 1) := dk_42 (dk_at dksX2_wrong_1 20 rfl rfl)
theorem dX2_wrong_43 : decode cX2_wrong 43 = .ok (.iload_n 1, 1) := dk_27 (dk_at dksX2_wrong_1 21 rfl rfl)
theorem dX2_wrong_44 : decode cX2_wrong 44 = .ok (.putfield 41, 3) := dk_181 0 41 (dk_at dksX2_wrong_2 0 rfl rfl)
theorem dX2_wrong_47 : decode cX2_wrong 47 = .ok (.aload_n 0, 1) := dk_42 (dk_at dksX2_wrong_2 3 rfl rfl)
theorem dX2_wrong_48 : decode cX2_wrong 48 = .ok (.iload_n 3, 1) := dk_29 (dk_at dksX2_wrong_2 4 rfl rfl)
theorem dX2_wrong_49 : decode cX2_wrong 49 = .ok (.putfield 44, 3) := dk_181 0 44 (dk_at dksX2_wrong_2 5 rfl rfl)
theorem dX2_wrong_52 : decode cX2_wrong 52 = .ok (.return_, 1) := dk_177 (dk_at dksX2_wrong_2 8 rfl rfl)
abbrev cX2_bounded : ByteArray := prog_10_method_8_code
def yX2_bounded : MethodName := ⟨RX2, "bounded", "(II)I"⟩
def dkwX2_bounded_1 : List UInt8 := [184, 0, 66, 154, 0, 9, 42, 8, 29, 182, 0, 70, 21, 4, 172]
abbrev dktX2_bounded_1 : List UInt8 := dkwX2_bounded_1 ++ []
def dkwX2_bounded_0 : List UInt8 := [42, 5, 182, 0, 59, 62, 42, 180, 0, 19, 180, 0, 63, 29, 47, 136, 54, 4, 21, 4, 27, 28]
abbrev dktX2_bounded_0 : List UInt8 := dkwX2_bounded_0 ++ dktX2_bounded_1
theorem dksX2_bounded_0 : cX2_bounded.data.toList.drop 0 = dktX2_bounded_0 := by decide +kernel
theorem dksX2_bounded_1 : cX2_bounded.data.toList.drop 22 = dktX2_bounded_1 := dk_seg dksX2_bounded_0 22 rfl rfl
theorem dX2_bounded_0 : decode cX2_bounded 0 = .ok (.aload_n 0, 1) := dk_42 (dk_at dksX2_bounded_0 0 rfl rfl)
theorem dX2_bounded_1 : decode cX2_bounded 1 = .ok (.iconst 2, 1) := dk_5 (dk_at dksX2_bounded_0 1 rfl rfl)
theorem dX2_bounded_2 : decode cX2_bounded 2 = .ok (.invokevirtual 59, 3) := dk_182 0 59 (dk_at dksX2_bounded_0 2 rfl rfl)
theorem dX2_bounded_5 : decode cX2_bounded 5 = .ok (.istore_n 3, 1) := dk_62 (dk_at dksX2_bounded_0 5 rfl rfl)
theorem dX2_bounded_6 : decode cX2_bounded 6 = .ok (.aload_n 0, 1) := dk_42 (dk_at dksX2_bounded_0 6 rfl rfl)
theorem dX2_bounded_7 : decode cX2_bounded 7 = .ok (.getfield 19, 3) := dk_180 0 19 (dk_at dksX2_bounded_0 7 rfl rfl)
theorem dX2_bounded_10 : decode cX2_bounded 10 = .ok (.getfield 63, 3) := dk_180 0 63 (dk_at dksX2_bounded_0 10 rfl rfl)
theorem dX2_bounded_13 : decode cX2_bounded 13 = .ok (.iload_n 3, 1) := dk_29 (dk_at dksX2_bounded_0 13 rfl rfl)
theorem dX2_bounded_14 : decode cX2_bounded 14 = .ok (.laload, 1) := dk_47 (dk_at dksX2_bounded_0 14 rfl rfl)
theorem dX2_bounded_15 : decode cX2_bounded 15 = .ok (.l2i, 1) := dk_136 (dk_at dksX2_bounded_0 15 rfl rfl)
theorem dX2_bounded_16 : decode cX2_bounded 16 = .ok (.istore 4, 2) := dk_54 4 (dk_at dksX2_bounded_0 16 rfl rfl)
theorem dX2_bounded_18 : decode cX2_bounded 18 = .ok (.iload 4, 2) := dk_21 4 (dk_at dksX2_bounded_0 18 rfl rfl)
theorem dX2_bounded_20 : decode cX2_bounded 20 = .ok (.iload_n 1, 1) := dk_27 (dk_at dksX2_bounded_0 20 rfl rfl)
theorem dX2_bounded_21 : decode cX2_bounded 21 = .ok (.iload_n 2, 1) := dk_28 (dk_at dksX2_bounded_0 21 rfl rfl)
theorem dX2_bounded_22 : decode cX2_bounded 22 = .ok (.invokestatic 66, 3) := dk_184 0 66 (dk_at dksX2_bounded_1 0 rfl rfl)
theorem dX2_bounded_25 : decode cX2_bounded 25 = .ok (.ifCond .ne 9, 3) := dk_154 0 9 (dk_at dksX2_bounded_1 3 rfl rfl)
theorem dX2_bounded_28 : decode cX2_bounded 28 = .ok (.aload_n 0, 1) := dk_42 (dk_at dksX2_bounded_1 6 rfl rfl)
theorem dX2_bounded_29 : decode cX2_bounded 29 = .ok (.iconst 5, 1) := dk_8 (dk_at dksX2_bounded_1 7 rfl rfl)
theorem dX2_bounded_30 : decode cX2_bounded 30 = .ok (.iload_n 3, 1) := dk_29 (dk_at dksX2_bounded_1 8 rfl rfl)
theorem dX2_bounded_31 : decode cX2_bounded 31 = .ok (.invokevirtual 70, 3) := dk_182 0 70 (dk_at dksX2_bounded_1 9 rfl rfl)
theorem dX2_bounded_34 : decode cX2_bounded 34 = .ok (.iload 4, 2) := dk_21 4 (dk_at dksX2_bounded_1 12 rfl rfl)
theorem dX2_bounded_36 : decode cX2_bounded 36 = .ok (.ireturn, 1) := dk_172 (dk_at dksX2_bounded_1 14 rfl rfl)
abbrev cX2_known : ByteArray := prog_10_method_13_code
def yX2_known : MethodName := ⟨RX2, "known", "(I)I"⟩
def dkwX2_known_2 : List UInt8 := [2, 172]
abbrev dktX2_known_2 : List UInt8 := dkwX2_known_2 ++ []
def dkwX2_known_1 : List UInt8 := [159, 0, 18, 29, 16, 100, 108, 16, 100, 104, 27, 160, 0, 7, 29, 27, 100, 172, 42, 7, 28, 182, 0, 70]
abbrev dktX2_known_1 : List UInt8 := dkwX2_known_1 ++ dktX2_known_2
def dkwX2_known_0 : List UInt8 := [42, 4, 182, 0, 59, 61, 42, 42, 180, 0, 19, 180, 0, 63, 28, 47, 182, 0, 89, 62, 29, 2]
abbrev dktX2_known_0 : List UInt8 := dkwX2_known_0 ++ dktX2_known_1
theorem dksX2_known_0 : cX2_known.data.toList.drop 0 = dktX2_known_0 := by decide +kernel
theorem dksX2_known_1 : cX2_known.data.toList.drop 22 = dktX2_known_1 := dk_seg dksX2_known_0 22 rfl rfl
theorem dksX2_known_2 : cX2_known.data.toList.drop 46 = dktX2_known_2 := dk_seg dksX2_known_1 24 rfl rfl
theorem dX2_known_0 : decode cX2_known 0 = .ok (.aload_n 0, 1) := dk_42 (dk_at dksX2_known_0 0 rfl rfl)
theorem dX2_known_1 : decode cX2_known 1 = .ok (.iconst 1, 1) := dk_4 (dk_at dksX2_known_0 1 rfl rfl)
theorem dX2_known_2 : decode cX2_known 2 = .ok (.invokevirtual 59, 3) := dk_182 0 59 (dk_at dksX2_known_0 2 rfl rfl)
theorem dX2_known_5 : decode cX2_known 5 = .ok (.istore_n 2, 1) := dk_61 (dk_at dksX2_known_0 5 rfl rfl)
theorem dX2_known_6 : decode cX2_known 6 = .ok (.aload_n 0, 1) := dk_42 (dk_at dksX2_known_0 6 rfl rfl)
theorem dX2_known_7 : decode cX2_known 7 = .ok (.aload_n 0, 1) := dk_42 (dk_at dksX2_known_0 7 rfl rfl)
theorem dX2_known_8 : decode cX2_known 8 = .ok (.getfield 19, 3) := dk_180 0 19 (dk_at dksX2_known_0 8 rfl rfl)
theorem dX2_known_11 : decode cX2_known 11 = .ok (.getfield 63, 3) := dk_180 0 63 (dk_at dksX2_known_0 11 rfl rfl)
theorem dX2_known_14 : decode cX2_known 14 = .ok (.iload_n 2, 1) := dk_28 (dk_at dksX2_known_0 14 rfl rfl)
theorem dX2_known_15 : decode cX2_known 15 = .ok (.laload, 1) := dk_47 (dk_at dksX2_known_0 15 rfl rfl)
theorem dX2_known_16 : decode cX2_known 16 = .ok (.invokevirtual 89, 3) := dk_182 0 89 (dk_at dksX2_known_0 16 rfl rfl)
theorem dX2_known_19 : decode cX2_known 19 = .ok (.istore_n 3, 1) := dk_62 (dk_at dksX2_known_0 19 rfl rfl)
theorem dX2_known_20 : decode cX2_known 20 = .ok (.iload_n 3, 1) := dk_29 (dk_at dksX2_known_0 20 rfl rfl)
theorem dX2_known_21 : decode cX2_known 21 = .ok (.iconst (-1), 1) := dk_2 (dk_at dksX2_known_0 21 rfl rfl)
theorem dX2_known_22 : decode cX2_known 22 = .ok (.if_icmp .eq 18, 3) := dk_159 0 18 (dk_at dksX2_known_1 0 rfl rfl)
theorem dX2_known_25 : decode cX2_known 25 = .ok (.iload_n 3, 1) := dk_29 (dk_at dksX2_known_1 3 rfl rfl)
theorem dX2_known_26 : decode cX2_known 26 = .ok (.bipush 100, 2) := dk_16 100 (dk_at dksX2_known_1 4 rfl rfl)
theorem dX2_known_28 : decode cX2_known 28 = .ok (.idiv, 1) := dk_108 (dk_at dksX2_known_1 6 rfl rfl)
theorem dX2_known_29 : decode cX2_known 29 = .ok (.bipush 100, 2) := dk_16 100 (dk_at dksX2_known_1 7 rfl rfl)
theorem dX2_known_31 : decode cX2_known 31 = .ok (.imul, 1) := dk_104 (dk_at dksX2_known_1 9 rfl rfl)
theorem dX2_known_32 : decode cX2_known 32 = .ok (.iload_n 1, 1) := dk_27 (dk_at dksX2_known_1 10 rfl rfl)
theorem dX2_known_33 : decode cX2_known 33 = .ok (.if_icmp .ne 7, 3) := dk_160 0 7 (dk_at dksX2_known_1 11 rfl rfl)
theorem dX2_known_36 : decode cX2_known 36 = .ok (.iload_n 3, 1) := dk_29 (dk_at dksX2_known_1 14 rfl rfl)
theorem dX2_known_37 : decode cX2_known 37 = .ok (.iload_n 1, 1) := dk_27 (dk_at dksX2_known_1 15 rfl rfl)
theorem dX2_known_38 : decode cX2_known 38 = .ok (.isub, 1) := dk_100 (dk_at dksX2_known_1 16 rfl rfl)
theorem dX2_known_39 : decode cX2_known 39 = .ok (.ireturn, 1) := dk_172 (dk_at dksX2_known_1 17 rfl rfl)
theorem dX2_known_40 : decode cX2_known 40 = .ok (.aload_n 0, 1) := dk_42 (dk_at dksX2_known_1 18 rfl rfl)
theorem dX2_known_41 : decode cX2_known 41 = .ok (.iconst 4, 1) := dk_7 (dk_at dksX2_known_1 19 rfl rfl)
theorem dX2_known_42 : decode cX2_known 42 = .ok (.iload_n 2, 1) := dk_28 (dk_at dksX2_known_1 20 rfl rfl)
theorem dX2_known_43 : decode cX2_known 43 = .ok (.invokevirtual 70, 3) := dk_182 0 70 (dk_at dksX2_known_1 21 rfl rfl)
theorem dX2_known_46 : decode cX2_known 46 = .ok (.iconst (-1), 1) := dk_2 (dk_at dksX2_known_2 0 rfl rfl)
theorem dX2_known_47 : decode cX2_known 47 = .ok (.ireturn, 1) := dk_172 (dk_at dksX2_known_2 1 rfl rfl)
abbrev cX2_tellStair : ByteArray := prog_10_method_18_code
def yX2_tellStair : MethodName := ⟨RX2, "tellStair", "()V"⟩
def dkwX2_tellStair_3 : List UInt8 := [182, 0, 112, 183, 0, 205, 182, 0, 121, 87, 177]
abbrev dktX2_tellStair_3 : List UInt8 := dkwX2_tellStair_3 ++ []
def dkwX2_tellStair_2 : List UInt8 := [8, 28, 182, 0, 70, 42, 180, 0, 82, 180, 0, 144, 187, 0, 203, 89, 27, 29, 42, 3, 16, 99]
abbrev dktX2_tellStair_2 : List UInt8 := dkwX2_tellStair_2 ++ dktX2_tellStair_3
def dkwX2_tellStair_1 : List UInt8 := [182, 0, 55, 87, 167, 0, 9, 42, 3, 182, 0, 134, 62, 27, 2, 159, 0, 14, 27, 29, 160, 0, 9, 42]
abbrev dktX2_tellStair_1 : List UInt8 := dkwX2_tellStair_1 ++ dktX2_tellStair_2
def dkwX2_tellStair_0 : List UInt8 := [42, 3, 182, 0, 134, 60, 42, 180, 0, 29, 61, 2, 62, 42, 17, 0, 204, 182, 0, 51, 153, 0, 11, 42]
abbrev dktX2_tellStair_0 : List UInt8 := dkwX2_tellStair_0 ++ dktX2_tellStair_1
theorem dksX2_tellStair_0 : cX2_tellStair.data.toList.drop 0 = dktX2_tellStair_0 := by decide +kernel
theorem dksX2_tellStair_1 : cX2_tellStair.data.toList.drop 24 = dktX2_tellStair_1 := dk_seg dksX2_tellStair_0 24 rfl rfl
theorem dksX2_tellStair_2 : cX2_tellStair.data.toList.drop 48 = dktX2_tellStair_2 := dk_seg dksX2_tellStair_1 24 rfl rfl
theorem dksX2_tellStair_3 : cX2_tellStair.data.toList.drop 70 = dktX2_tellStair_3 := dk_seg dksX2_tellStair_2 22 rfl rfl
theorem dX2_tellStair_0 : decode cX2_tellStair 0 = .ok (.aload_n 0, 1) := dk_42 (dk_at dksX2_tellStair_0 0 rfl rfl)
theorem dX2_tellStair_1 : decode cX2_tellStair 1 = .ok (.iconst 0, 1) := dk_3 (dk_at dksX2_tellStair_0 1 rfl rfl)
theorem dX2_tellStair_2 : decode cX2_tellStair 2 = .ok (.invokevirtual 134, 3) := dk_182 0 134 (dk_at dksX2_tellStair_0 2 rfl rfl)
theorem dX2_tellStair_5 : decode cX2_tellStair 5 = .ok (.istore_n 1, 1) := dk_60 (dk_at dksX2_tellStair_0 5 rfl rfl)
theorem dX2_tellStair_6 : decode cX2_tellStair 6 = .ok (.aload_n 0, 1) := dk_42 (dk_at dksX2_tellStair_0 6 rfl rfl)
theorem dX2_tellStair_7 : decode cX2_tellStair 7 = .ok (.getfield 29, 3) := dk_180 0 29 (dk_at dksX2_tellStair_0 7 rfl rfl)
theorem dX2_tellStair_10 : decode cX2_tellStair 10 = .ok (.istore_n 2, 1) := dk_61 (dk_at dksX2_tellStair_0 10 rfl rfl)
theorem dX2_tellStair_11 : decode cX2_tellStair 11 = .ok (.iconst (-1), 1) := dk_2 (dk_at dksX2_tellStair_0 11 rfl rfl)
theorem dX2_tellStair_12 : decode cX2_tellStair 12 = .ok (.istore_n 3, 1) := dk_62 (dk_at dksX2_tellStair_0 12 rfl rfl)
theorem dX2_tellStair_13 : decode cX2_tellStair 13 = .ok (.aload_n 0, 1) := dk_42 (dk_at dksX2_tellStair_0 13 rfl rfl)
theorem dX2_tellStair_14 : decode cX2_tellStair 14 = .ok (.sipush 204, 3) := dk_17 0 204 (dk_at dksX2_tellStair_0 14 rfl rfl)
theorem dX2_tellStair_17 : decode cX2_tellStair 17 = .ok (.invokevirtual 51, 3) := dk_182 0 51 (dk_at dksX2_tellStair_0 17 rfl rfl)
theorem dX2_tellStair_20 : decode cX2_tellStair 20 = .ok (.ifCond .eq 11, 3) := dk_153 0 11 (dk_at dksX2_tellStair_0 20 rfl rfl)
theorem dX2_tellStair_23 : decode cX2_tellStair 23 = .ok (.aload_n 0, 1) := dk_42 (dk_at dksX2_tellStair_0 23 rfl rfl)
theorem dX2_tellStair_24 : decode cX2_tellStair 24 = .ok (.invokevirtual 55, 3) := dk_182 0 55 (dk_at dksX2_tellStair_1 0 rfl rfl)
theorem dX2_tellStair_27 : decode cX2_tellStair 27 = .ok (.pop, 1) := dk_87 (dk_at dksX2_tellStair_1 3 rfl rfl)
theorem dX2_tellStair_28 : decode cX2_tellStair 28 = .ok (.goto 9, 3) := dk_167 0 9 (dk_at dksX2_tellStair_1 4 rfl rfl)
theorem dX2_tellStair_31 : decode cX2_tellStair 31 = .ok (.aload_n 0, 1) := dk_42 (dk_at dksX2_tellStair_1 7 rfl rfl)
theorem dX2_tellStair_32 : decode cX2_tellStair 32 = .ok (.iconst 0, 1) := dk_3 (dk_at dksX2_tellStair_1 8 rfl rfl)
theorem dX2_tellStair_33 : decode cX2_tellStair 33 = .ok (.invokevirtual 134, 3) := dk_182 0 134 (dk_at dksX2_tellStair_1 9 rfl rfl)
theorem dX2_tellStair_36 : decode cX2_tellStair 36 = .ok (.istore_n 3, 1) := dk_62 (dk_at dksX2_tellStair_1 12 rfl rfl)
theorem dX2_tellStair_37 : decode cX2_tellStair 37 = .ok (.iload_n 1, 1) := dk_27 (dk_at dksX2_tellStair_1 13 rfl rfl)
theorem dX2_tellStair_38 : decode cX2_tellStair 38 = .ok (.iconst (-1), 1) := dk_2 (dk_at dksX2_tellStair_1 14 rfl rfl)
theorem dX2_tellStair_39 : decode cX2_tellStair 39 = .ok (.if_icmp .eq 14, 3) := dk_159 0 14 (dk_at dksX2_tellStair_1 15 rfl rfl)
theorem dX2_tellStair_42 : decode cX2_tellStair 42 = .ok (.iload_n 1, 1) := dk_27 (dk_at dksX2_tellStair_1 18 rfl rfl)
theorem dX2_tellStair_43 : decode cX2_tellStair 43 = .ok (.iload_n 3, 1) := dk_29 (dk_at dksX2_tellStair_1 19 rfl rfl)
theorem dX2_tellStair_44 : decode cX2_tellStair 44 = .ok (.if_icmp .ne 9, 3) := dk_160 0 9 (dk_at dksX2_tellStair_1 20 rfl rfl)
theorem dX2_tellStair_47 : decode cX2_tellStair 47 = .ok (.aload_n 0, 1) := dk_42 (dk_at dksX2_tellStair_1 23 rfl rfl)
theorem dX2_tellStair_48 : decode cX2_tellStair 48 = .ok (.iconst 5, 1) := dk_8 (dk_at dksX2_tellStair_2 0 rfl rfl)
theorem dX2_tellStair_49 : decode cX2_tellStair 49 = .ok (.iload_n 2, 1) := dk_28 (dk_at dksX2_tellStair_2 1 rfl rfl)
theorem dX2_tellStair_50 : decode cX2_tellStair 50 = .ok (.invokevirtual 70, 3) := dk_182 0 70 (dk_at dksX2_tellStair_2 2 rfl rfl)
theorem dX2_tellStair_53 : decode cX2_tellStair 53 = .ok (.aload_n 0, 1) := dk_42 (dk_at dksX2_tellStair_2 5 rfl rfl)
theorem dX2_tellStair_54 : decode cX2_tellStair 54 = .ok (.getfield 82, 3) := dk_180 0 82 (dk_at dksX2_tellStair_2 6 rfl rfl)
theorem dX2_tellStair_57 : decode cX2_tellStair 57 = .ok (.getfield 144, 3) := dk_180 0 144 (dk_at dksX2_tellStair_2 9 rfl rfl)
theorem dX2_tellStair_60 : decode cX2_tellStair 60 = .ok (.new 203, 3) := dk_187 0 203 (dk_at dksX2_tellStair_2 12 rfl rfl)
theorem dX2_tellStair_63 : decode cX2_tellStair 63 = .ok (.dup, 1) := dk_89 (dk_at dksX2_tellStair_2 15 rfl rfl)
theorem dX2_tellStair_64 : decode cX2_tellStair 64 = .ok (.iload_n 1, 1) := dk_27 (dk_at dksX2_tellStair_2 16 rfl rfl)
theorem dX2_tellStair_65 : decode cX2_tellStair 65 = .ok (.iload_n 3, 1) := dk_29 (dk_at dksX2_tellStair_2 17 rfl rfl)
theorem dX2_tellStair_66 : decode cX2_tellStair 66 = .ok (.aload_n 0, 1) := dk_42 (dk_at dksX2_tellStair_2 18 rfl rfl)
theorem dX2_tellStair_67 : decode cX2_tellStair 67 = .ok (.iconst 0, 1) := dk_3 (dk_at dksX2_tellStair_2 19 rfl rfl)
theorem dX2_tellStair_68 : decode cX2_tellStair 68 = .ok (.bipush 99, 2) := dk_16 99 (dk_at dksX2_tellStair_2 20 rfl rfl)
theorem dX2_tellStair_70 : decode cX2_tellStair 70 = .ok (.invokevirtual 112, 3) := dk_182 0 112 (dk_at dksX2_tellStair_3 0 rfl rfl)
theorem dX2_tellStair_73 : decode cX2_tellStair 73 = .ok (.invokespecial 205, 3) := dk_183 0 205 (dk_at dksX2_tellStair_3 3 rfl rfl)
theorem dX2_tellStair_76 : decode cX2_tellStair 76 = .ok (.invokevirtual 121, 3) := dk_182 0 121 (dk_at dksX2_tellStair_3 6 rfl rfl)
theorem dX2_tellStair_79 : decode cX2_tellStair 79 = .ok (.pop, 1) := dk_87 (dk_at dksX2_tellStair_3 9 rfl rfl)
theorem dX2_tellStair_80 : decode cX2_tellStair 80 = .ok (.return_, 1) := dk_177 (dk_at dksX2_tellStair_3 10 rfl rfl)
abbrev cX2_tellLaw : ByteArray := prog_10_method_15_code
def yX2_tellLaw : MethodName := ⟨RX2, "tellLaw", "()V"⟩
def dkwX2_tellLaw_5 : List UInt8 := [167, 0, 9, 42, 4, 182, 0, 47, 191, 177]
abbrev dktX2_tellLaw_5 : List UInt8 := dkwX2_tellLaw_5 ++ []
def dkwX2_tellLaw_4 : List UInt8 := [180, 0, 82, 180, 0, 186, 182, 0, 189, 167, 0, 23, 42, 42, 180, 0, 82, 180, 0, 193, 182, 0, 189]
abbrev dktX2_tellLaw_4 : List UInt8 := dkwX2_tellLaw_4 ++ dktX2_tellLaw_5
def dkwX2_tellLaw_3 : List UInt8 := [181, 0, 180, 167, 0, 51, 42, 180, 0, 82, 42, 182, 0, 172, 181, 0, 183, 167, 0, 37, 42, 42]
abbrev dktX2_tellLaw_3 : List UInt8 := dkwX2_tellLaw_3 ++ dktX2_tellLaw_4
def dkwX2_tellLaw_2 : List UInt8 := [42, 180, 0, 82, 42, 182, 0, 172, 181, 0, 176, 167, 0, 65, 42, 180, 0, 82, 42, 182, 0, 172]
abbrev dktX2_tellLaw_2 : List UInt8 := dkwX2_tellLaw_2 ++ dktX2_tellLaw_3
def dkwX2_tellLaw_1 : List UInt8 := [170, 0, 0, 0, 0, 0, 0, 106, 0, 0, 0, 209, 0, 0, 0, 213, 0, 0, 0, 36, 0, 0, 0, 50, 0, 0, 0, 64, 0, 0, 0, 78, 0, 0, 0, 92]
abbrev dktX2_tellLaw_1 : List UInt8 := dkwX2_tellLaw_1 ++ dktX2_tellLaw_2
def dkwX2_tellLaw_0 : List UInt8 := [42, 182, 0, 93]
abbrev dktX2_tellLaw_0 : List UInt8 := dkwX2_tellLaw_0 ++ dktX2_tellLaw_1
theorem dksX2_tellLaw_0 : cX2_tellLaw.data.toList.drop 0 = dktX2_tellLaw_0 := by decide +kernel
theorem dksX2_tellLaw_1 : cX2_tellLaw.data.toList.drop 4 = dktX2_tellLaw_1 := dk_seg dksX2_tellLaw_0 4 rfl rfl
theorem dksX2_tellLaw_2 : cX2_tellLaw.data.toList.drop 40 = dktX2_tellLaw_2 := dk_seg dksX2_tellLaw_1 36 rfl rfl
theorem dksX2_tellLaw_3 : cX2_tellLaw.data.toList.drop 62 = dktX2_tellLaw_3 := dk_seg dksX2_tellLaw_2 22 rfl rfl
theorem dksX2_tellLaw_4 : cX2_tellLaw.data.toList.drop 84 = dktX2_tellLaw_4 := dk_seg dksX2_tellLaw_3 22 rfl rfl
theorem dksX2_tellLaw_5 : cX2_tellLaw.data.toList.drop 107 = dktX2_tellLaw_5 := dk_seg dksX2_tellLaw_4 23 rfl rfl
theorem dX2_tellLaw_0 : decode cX2_tellLaw 0 = .ok (.aload_n 0, 1) := dk_42 (dk_at dksX2_tellLaw_0 0 rfl rfl)
theorem dX2_tellLaw_1 : decode cX2_tellLaw 1 = .ok (.invokevirtual 93, 3) := dk_182 0 93 (dk_at dksX2_tellLaw_0 1 rfl rfl)
theorem dX2_tellLaw_4 : decode cX2_tellLaw 4 = .ok (.tableswitch 106 209 213 #[36, 50, 64, 78, 92], 36) := by decide +kernel
theorem dX2_tellLaw_40 : decode cX2_tellLaw 40 = .ok (.aload_n 0, 1) := dk_42 (dk_at dksX2_tellLaw_2 0 rfl rfl)
theorem dX2_tellLaw_41 : decode cX2_tellLaw 41 = .ok (.getfield 82, 3) := dk_180 0 82 (dk_at dksX2_tellLaw_2 1 rfl rfl)
theorem dX2_tellLaw_44 : decode cX2_tellLaw 44 = .ok (.aload_n 0, 1) := dk_42 (dk_at dksX2_tellLaw_2 4 rfl rfl)
theorem dX2_tellLaw_45 : decode cX2_tellLaw 45 = .ok (.invokevirtual 172, 3) := dk_182 0 172 (dk_at dksX2_tellLaw_2 5 rfl rfl)
theorem dX2_tellLaw_48 : decode cX2_tellLaw 48 = .ok (.putfield 176, 3) := dk_181 0 176 (dk_at dksX2_tellLaw_2 8 rfl rfl)
theorem dX2_tellLaw_51 : decode cX2_tellLaw 51 = .ok (.goto 65, 3) := dk_167 0 65 (dk_at dksX2_tellLaw_2 11 rfl rfl)
theorem dX2_tellLaw_54 : decode cX2_tellLaw 54 = .ok (.aload_n 0, 1) := dk_42 (dk_at dksX2_tellLaw_2 14 rfl rfl)
theorem dX2_tellLaw_55 : decode cX2_tellLaw 55 = .ok (.getfield 82, 3) := dk_180 0 82 (dk_at dksX2_tellLaw_2 15 rfl rfl)
theorem dX2_tellLaw_58 : decode cX2_tellLaw 58 = .ok (.aload_n 0, 1) := dk_42 (dk_at dksX2_tellLaw_2 18 rfl rfl)
theorem dX2_tellLaw_59 : decode cX2_tellLaw 59 = .ok (.invokevirtual 172, 3) := dk_182 0 172 (dk_at dksX2_tellLaw_2 19 rfl rfl)
theorem dX2_tellLaw_62 : decode cX2_tellLaw 62 = .ok (.putfield 180, 3) := dk_181 0 180 (dk_at dksX2_tellLaw_3 0 rfl rfl)
theorem dX2_tellLaw_65 : decode cX2_tellLaw 65 = .ok (.goto 51, 3) := dk_167 0 51 (dk_at dksX2_tellLaw_3 3 rfl rfl)
theorem dX2_tellLaw_68 : decode cX2_tellLaw 68 = .ok (.aload_n 0, 1) := dk_42 (dk_at dksX2_tellLaw_3 6 rfl rfl)
theorem dX2_tellLaw_69 : decode cX2_tellLaw 69 = .ok (.getfield 82, 3) := dk_180 0 82 (dk_at dksX2_tellLaw_3 7 rfl rfl)
theorem dX2_tellLaw_72 : decode cX2_tellLaw 72 = .ok (.aload_n 0, 1) := dk_42 (dk_at dksX2_tellLaw_3 10 rfl rfl)
theorem dX2_tellLaw_73 : decode cX2_tellLaw 73 = .ok (.invokevirtual 172, 3) := dk_182 0 172 (dk_at dksX2_tellLaw_3 11 rfl rfl)
theorem dX2_tellLaw_76 : decode cX2_tellLaw 76 = .ok (.putfield 183, 3) := dk_181 0 183 (dk_at dksX2_tellLaw_3 14 rfl rfl)
theorem dX2_tellLaw_79 : decode cX2_tellLaw 79 = .ok (.goto 37, 3) := dk_167 0 37 (dk_at dksX2_tellLaw_3 17 rfl rfl)
theorem dX2_tellLaw_82 : decode cX2_tellLaw 82 = .ok (.aload_n 0, 1) := dk_42 (dk_at dksX2_tellLaw_3 20 rfl rfl)
theorem dX2_tellLaw_83 : decode cX2_tellLaw 83 = .ok (.aload_n 0, 1) := dk_42 (dk_at dksX2_tellLaw_3 21 rfl rfl)
theorem dX2_tellLaw_84 : decode cX2_tellLaw 84 = .ok (.getfield 82, 3) := dk_180 0 82 (dk_at dksX2_tellLaw_4 0 rfl rfl)
theorem dX2_tellLaw_87 : decode cX2_tellLaw 87 = .ok (.getfield 186, 3) := dk_180 0 186 (dk_at dksX2_tellLaw_4 3 rfl rfl)
theorem dX2_tellLaw_90 : decode cX2_tellLaw 90 = .ok (.invokevirtual 189, 3) := dk_182 0 189 (dk_at dksX2_tellLaw_4 6 rfl rfl)
theorem dX2_tellLaw_93 : decode cX2_tellLaw 93 = .ok (.goto 23, 3) := dk_167 0 23 (dk_at dksX2_tellLaw_4 9 rfl rfl)
theorem dX2_tellLaw_96 : decode cX2_tellLaw 96 = .ok (.aload_n 0, 1) := dk_42 (dk_at dksX2_tellLaw_4 12 rfl rfl)
theorem dX2_tellLaw_97 : decode cX2_tellLaw 97 = .ok (.aload_n 0, 1) := dk_42 (dk_at dksX2_tellLaw_4 13 rfl rfl)
theorem dX2_tellLaw_98 : decode cX2_tellLaw 98 = .ok (.getfield 82, 3) := dk_180 0 82 (dk_at dksX2_tellLaw_4 14 rfl rfl)
theorem dX2_tellLaw_101 : decode cX2_tellLaw 101 = .ok (.getfield 193, 3) := dk_180 0 193 (dk_at dksX2_tellLaw_4 17 rfl rfl)
theorem dX2_tellLaw_104 : decode cX2_tellLaw 104 = .ok (.invokevirtual 189, 3) := dk_182 0 189 (dk_at dksX2_tellLaw_4 20 rfl rfl)
theorem dX2_tellLaw_107 : decode cX2_tellLaw 107 = .ok (.goto 9, 3) := dk_167 0 9 (dk_at dksX2_tellLaw_5 0 rfl rfl)
theorem dX2_tellLaw_110 : decode cX2_tellLaw 110 = .ok (.aload_n 0, 1) := dk_42 (dk_at dksX2_tellLaw_5 3 rfl rfl)
theorem dX2_tellLaw_111 : decode cX2_tellLaw 111 = .ok (.iconst 1, 1) := dk_4 (dk_at dksX2_tellLaw_5 4 rfl rfl)
theorem dX2_tellLaw_112 : decode cX2_tellLaw 112 = .ok (.invokevirtual 47, 3) := dk_182 0 47 (dk_at dksX2_tellLaw_5 5 rfl rfl)
theorem dX2_tellLaw_115 : decode cX2_tellLaw 115 = .ok (.athrow, 1) := dk_191 (dk_at dksX2_tellLaw_5 8 rfl rfl)
theorem dX2_tellLaw_116 : decode cX2_tellLaw 116 = .ok (.return_, 1) := dk_177 (dk_at dksX2_tellLaw_5 9 rfl rfl)
abbrev cX2_term : ByteArray := prog_10_method_16_code
def yX2_term : MethodName := ⟨RX2, "term", "()LStiltTown$Term;"⟩
def dkwX2_term_0 : List UInt8 := [42, 182, 0, 55, 87, 42, 16, 61, 182, 0, 59, 87, 42, 182, 0, 196, 176]
abbrev dktX2_term_0 : List UInt8 := dkwX2_term_0 ++ []
theorem dksX2_term_0 : cX2_term.data.toList.drop 0 = dktX2_term_0 := by decide +kernel
theorem dX2_term_0 : decode cX2_term 0 = .ok (.aload_n 0, 1) := dk_42 (dk_at dksX2_term_0 0 rfl rfl)
theorem dX2_term_1 : decode cX2_term 1 = .ok (.invokevirtual 55, 3) := dk_182 0 55 (dk_at dksX2_term_0 1 rfl rfl)
theorem dX2_term_4 : decode cX2_term 4 = .ok (.pop, 1) := dk_87 (dk_at dksX2_term_0 4 rfl rfl)
theorem dX2_term_5 : decode cX2_term 5 = .ok (.aload_n 0, 1) := dk_42 (dk_at dksX2_term_0 5 rfl rfl)
theorem dX2_term_6 : decode cX2_term 6 = .ok (.bipush 61, 2) := dk_16 61 (dk_at dksX2_term_0 6 rfl rfl)
theorem dX2_term_8 : decode cX2_term 8 = .ok (.invokevirtual 59, 3) := dk_182 0 59 (dk_at dksX2_term_0 8 rfl rfl)
theorem dX2_term_11 : decode cX2_term 11 = .ok (.pop, 1) := dk_87 (dk_at dksX2_term_0 11 rfl rfl)
theorem dX2_term_12 : decode cX2_term 12 = .ok (.aload_n 0, 1) := dk_42 (dk_at dksX2_term_0 12 rfl rfl)
theorem dX2_term_13 : decode cX2_term 13 = .ok (.invokevirtual 196, 3) := dk_182 0 196 (dk_at dksX2_term_0 13 rfl rfl)
theorem dX2_term_16 : decode cX2_term 16 = .ok (.areturn, 1) := dk_176 (dk_at dksX2_term_0 16 rfl rfl)
abbrev cX2_sum : ByteArray := prog_10_method_22_code
def yX2_sum : MethodName := ⟨RX2, "sum", "()LStiltTown$Term;"⟩
def dkwX2_sum_2 : List UInt8 := [167, 255, 214, 43, 176]
abbrev dktX2_sum_2 : List UInt8 := dkwX2_sum_2 ++ []
def dkwX2_sum_1 : List UInt8 := [182, 0, 93, 61, 42, 182, 0, 55, 87, 187, 0, 231, 89, 28, 43, 42, 182, 0, 228, 183, 0, 233, 76]
abbrev dktX2_sum_1 : List UInt8 := dkwX2_sum_1 ++ dktX2_sum_2
def dkwX2_sum_0 : List UInt8 := [42, 182, 0, 228, 76, 42, 16, 43, 182, 0, 51, 154, 0, 12, 42, 16, 45, 182, 0, 51, 153, 0, 30, 42]
abbrev dktX2_sum_0 : List UInt8 := dkwX2_sum_0 ++ dktX2_sum_1
theorem dksX2_sum_0 : cX2_sum.data.toList.drop 0 = dktX2_sum_0 := by decide +kernel
theorem dksX2_sum_1 : cX2_sum.data.toList.drop 24 = dktX2_sum_1 := dk_seg dksX2_sum_0 24 rfl rfl
theorem dksX2_sum_2 : cX2_sum.data.toList.drop 47 = dktX2_sum_2 := dk_seg dksX2_sum_1 23 rfl rfl
theorem dX2_sum_0 : decode cX2_sum 0 = .ok (.aload_n 0, 1) := dk_42 (dk_at dksX2_sum_0 0 rfl rfl)
theorem dX2_sum_1 : decode cX2_sum 1 = .ok (.invokevirtual 228, 3) := dk_182 0 228 (dk_at dksX2_sum_0 1 rfl rfl)
theorem dX2_sum_4 : decode cX2_sum 4 = .ok (.astore_n 1, 1) := dk_76 (dk_at dksX2_sum_0 4 rfl rfl)
theorem dX2_sum_5 : decode cX2_sum 5 = .ok (.aload_n 0, 1) := dk_42 (dk_at dksX2_sum_0 5 rfl rfl)
theorem dX2_sum_6 : decode cX2_sum 6 = .ok (.bipush 43, 2) := dk_16 43 (dk_at dksX2_sum_0 6 rfl rfl)
theorem dX2_sum_8 : decode cX2_sum 8 = .ok (.invokevirtual 51, 3) := dk_182 0 51 (dk_at dksX2_sum_0 8 rfl rfl)
theorem dX2_sum_11 : decode cX2_sum 11 = .ok (.ifCond .ne 12, 3) := dk_154 0 12 (dk_at dksX2_sum_0 11 rfl rfl)
theorem dX2_sum_14 : decode cX2_sum 14 = .ok (.aload_n 0, 1) := dk_42 (dk_at dksX2_sum_0 14 rfl rfl)
theorem dX2_sum_15 : decode cX2_sum 15 = .ok (.bipush 45, 2) := dk_16 45 (dk_at dksX2_sum_0 15 rfl rfl)
theorem dX2_sum_17 : decode cX2_sum 17 = .ok (.invokevirtual 51, 3) := dk_182 0 51 (dk_at dksX2_sum_0 17 rfl rfl)
theorem dX2_sum_20 : decode cX2_sum 20 = .ok (.ifCond .eq 30, 3) := dk_153 0 30 (dk_at dksX2_sum_0 20 rfl rfl)
theorem dX2_sum_23 : decode cX2_sum 23 = .ok (.aload_n 0, 1) := dk_42 (dk_at dksX2_sum_0 23 rfl rfl)
theorem dX2_sum_24 : decode cX2_sum 24 = .ok (.invokevirtual 93, 3) := dk_182 0 93 (dk_at dksX2_sum_1 0 rfl rfl)
theorem dX2_sum_27 : decode cX2_sum 27 = .ok (.istore_n 2, 1) := dk_61 (dk_at dksX2_sum_1 3 rfl rfl)
theorem dX2_sum_28 : decode cX2_sum 28 = .ok (.aload_n 0, 1) := dk_42 (dk_at dksX2_sum_1 4 rfl rfl)
theorem dX2_sum_29 : decode cX2_sum 29 = .ok (.invokevirtual 55, 3) := dk_182 0 55 (dk_at dksX2_sum_1 5 rfl rfl)
theorem dX2_sum_32 : decode cX2_sum 32 = .ok (.pop, 1) := dk_87 (dk_at dksX2_sum_1 8 rfl rfl)
theorem dX2_sum_33 : decode cX2_sum 33 = .ok (.new 231, 3) := dk_187 0 231 (dk_at dksX2_sum_1 9 rfl rfl)
theorem dX2_sum_36 : decode cX2_sum 36 = .ok (.dup, 1) := dk_89 (dk_at dksX2_sum_1 12 rfl rfl)
theorem dX2_sum_37 : decode cX2_sum 37 = .ok (.iload_n 2, 1) := dk_28 (dk_at dksX2_sum_1 13 rfl rfl)
theorem dX2_sum_38 : decode cX2_sum 38 = .ok (.aload_n 1, 1) := dk_43 (dk_at dksX2_sum_1 14 rfl rfl)
theorem dX2_sum_39 : decode cX2_sum 39 = .ok (.aload_n 0, 1) := dk_42 (dk_at dksX2_sum_1 15 rfl rfl)
theorem dX2_sum_40 : decode cX2_sum 40 = .ok (.invokevirtual 228, 3) := dk_182 0 228 (dk_at dksX2_sum_1 16 rfl rfl)
theorem dX2_sum_43 : decode cX2_sum 43 = .ok (.invokespecial 233, 3) := dk_183 0 233 (dk_at dksX2_sum_1 19 rfl rfl)
theorem dX2_sum_46 : decode cX2_sum 46 = .ok (.astore_n 1, 1) := dk_76 (dk_at dksX2_sum_1 22 rfl rfl)
theorem dX2_sum_47 : decode cX2_sum 47 = .ok (.goto (-42), 3) := dk_167 255 214 (dk_at dksX2_sum_2 0 rfl rfl)
theorem dX2_sum_50 : decode cX2_sum 50 = .ok (.aload_n 1, 1) := dk_43 (dk_at dksX2_sum_2 3 rfl rfl)
theorem dX2_sum_51 : decode cX2_sum 51 = .ok (.areturn, 1) := dk_176 (dk_at dksX2_sum_2 4 rfl rfl)
abbrev cX2_product : ByteArray := prog_10_method_23_code
def yX2_product : MethodName := ⟨RX2, "product", "()LStiltTown$Term;"⟩
def dkwX2_product_2 : List UInt8 := [167, 255, 214, 43, 176]
abbrev dktX2_product_2 : List UInt8 := dkwX2_product_2 ++ []
def dkwX2_product_1 : List UInt8 := [182, 0, 93, 61, 42, 182, 0, 55, 87, 187, 0, 231, 89, 28, 43, 42, 182, 0, 234, 183, 0, 233, 76]
abbrev dktX2_product_1 : List UInt8 := dkwX2_product_1 ++ dktX2_product_2
def dkwX2_product_0 : List UInt8 := [42, 182, 0, 234, 76, 42, 16, 42, 182, 0, 51, 154, 0, 12, 42, 16, 47, 182, 0, 51, 153, 0, 30, 42]
abbrev dktX2_product_0 : List UInt8 := dkwX2_product_0 ++ dktX2_product_1
theorem dksX2_product_0 : cX2_product.data.toList.drop 0 = dktX2_product_0 := by decide +kernel
theorem dksX2_product_1 : cX2_product.data.toList.drop 24 = dktX2_product_1 := dk_seg dksX2_product_0 24 rfl rfl
theorem dksX2_product_2 : cX2_product.data.toList.drop 47 = dktX2_product_2 := dk_seg dksX2_product_1 23 rfl rfl
theorem dX2_product_0 : decode cX2_product 0 = .ok (.aload_n 0, 1) := dk_42 (dk_at dksX2_product_0 0 rfl rfl)
theorem dX2_product_1 : decode cX2_product 1 = .ok (.invokevirtual 234, 3) := dk_182 0 234 (dk_at dksX2_product_0 1 rfl rfl)
theorem dX2_product_4 : decode cX2_product 4 = .ok (.astore_n 1, 1) := dk_76 (dk_at dksX2_product_0 4 rfl rfl)
theorem dX2_product_5 : decode cX2_product 5 = .ok (.aload_n 0, 1) := dk_42 (dk_at dksX2_product_0 5 rfl rfl)
theorem dX2_product_6 : decode cX2_product 6 = .ok (.bipush 42, 2) := dk_16 42 (dk_at dksX2_product_0 6 rfl rfl)
theorem dX2_product_8 : decode cX2_product 8 = .ok (.invokevirtual 51, 3) := dk_182 0 51 (dk_at dksX2_product_0 8 rfl rfl)
theorem dX2_product_11 : decode cX2_product 11 = .ok (.ifCond .ne 12, 3) := dk_154 0 12 (dk_at dksX2_product_0 11 rfl rfl)
theorem dX2_product_14 : decode cX2_product 14 = .ok (.aload_n 0, 1) := dk_42 (dk_at dksX2_product_0 14 rfl rfl)
theorem dX2_product_15 : decode cX2_product 15 = .ok (.bipush 47, 2) := dk_16 47 (dk_at dksX2_product_0 15 rfl rfl)
theorem dX2_product_17 : decode cX2_product 17 = .ok (.invokevirtual 51, 3) := dk_182 0 51 (dk_at dksX2_product_0 17 rfl rfl)
theorem dX2_product_20 : decode cX2_product 20 = .ok (.ifCond .eq 30, 3) := dk_153 0 30 (dk_at dksX2_product_0 20 rfl rfl)
theorem dX2_product_23 : decode cX2_product 23 = .ok (.aload_n 0, 1) := dk_42 (dk_at dksX2_product_0 23 rfl rfl)
theorem dX2_product_24 : decode cX2_product 24 = .ok (.invokevirtual 93, 3) := dk_182 0 93 (dk_at dksX2_product_1 0 rfl rfl)
theorem dX2_product_27 : decode cX2_product 27 = .ok (.istore_n 2, 1) := dk_61 (dk_at dksX2_product_1 3 rfl rfl)
theorem dX2_product_28 : decode cX2_product 28 = .ok (.aload_n 0, 1) := dk_42 (dk_at dksX2_product_1 4 rfl rfl)
theorem dX2_product_29 : decode cX2_product 29 = .ok (.invokevirtual 55, 3) := dk_182 0 55 (dk_at dksX2_product_1 5 rfl rfl)
theorem dX2_product_32 : decode cX2_product 32 = .ok (.pop, 1) := dk_87 (dk_at dksX2_product_1 8 rfl rfl)
theorem dX2_product_33 : decode cX2_product 33 = .ok (.new 231, 3) := dk_187 0 231 (dk_at dksX2_product_1 9 rfl rfl)
theorem dX2_product_36 : decode cX2_product 36 = .ok (.dup, 1) := dk_89 (dk_at dksX2_product_1 12 rfl rfl)
theorem dX2_product_37 : decode cX2_product 37 = .ok (.iload_n 2, 1) := dk_28 (dk_at dksX2_product_1 13 rfl rfl)
theorem dX2_product_38 : decode cX2_product 38 = .ok (.aload_n 1, 1) := dk_43 (dk_at dksX2_product_1 14 rfl rfl)
theorem dX2_product_39 : decode cX2_product 39 = .ok (.aload_n 0, 1) := dk_42 (dk_at dksX2_product_1 15 rfl rfl)
theorem dX2_product_40 : decode cX2_product 40 = .ok (.invokevirtual 234, 3) := dk_182 0 234 (dk_at dksX2_product_1 16 rfl rfl)
theorem dX2_product_43 : decode cX2_product 43 = .ok (.invokespecial 233, 3) := dk_183 0 233 (dk_at dksX2_product_1 19 rfl rfl)
theorem dX2_product_46 : decode cX2_product 46 = .ok (.astore_n 1, 1) := dk_76 (dk_at dksX2_product_1 22 rfl rfl)
theorem dX2_product_47 : decode cX2_product 47 = .ok (.goto (-42), 3) := dk_167 255 214 (dk_at dksX2_product_2 0 rfl rfl)
theorem dX2_product_50 : decode cX2_product 50 = .ok (.aload_n 1, 1) := dk_43 (dk_at dksX2_product_2 3 rfl rfl)
theorem dX2_product_51 : decode cX2_product 51 = .ok (.areturn, 1) := dk_176 (dk_at dksX2_product_2 4 rfl rfl)
abbrev cX2_unit : ByteArray := prog_10_method_24_code
def yX2_unit : MethodName := ⟨RX2, "unit", "()LStiltTown$Term;"⟩
def dkwX2_unit_6 : List UInt8 := [182, 0, 196, 76, 42, 16, 41, 182, 0, 59, 87, 42, 89, 180, 0, 73, 4, 100, 181, 0, 73, 43, 176]
abbrev dktX2_unit_6 : List UInt8 := dkwX2_unit_6 ++ []
def dkwX2_unit_5 : List UInt8 := [42, 5, 182, 0, 47, 191, 42, 89, 180, 0, 73, 4, 96, 181, 0, 73, 42, 182, 0, 55, 87, 42]
abbrev dktX2_unit_5 : List UInt8 := dkwX2_unit_5 ++ dktX2_unit_6
def dkwX2_unit_4 : List UInt8 := [42, 16, 40, 182, 0, 51, 154, 0, 9, 42, 4, 182, 0, 47, 191, 42, 180, 0, 73, 16, 6, 160, 0, 9]
abbrev dktX2_unit_4 : List UInt8 := dkwX2_unit_4 ++ dktX2_unit_5
def dkwX2_unit_3 : List UInt8 := [17, 0, 211, 182, 0, 51, 153, 0, 18, 42, 182, 0, 55, 87, 187, 0, 241, 89, 16, 8, 183, 0, 243, 176]
abbrev dktX2_unit_3 : List UInt8 := dkwX2_unit_3 ++ dktX2_unit_4
def dkwX2_unit_2 : List UInt8 := [89, 42, 180, 0, 19, 180, 0, 23, 42, 182, 0, 55, 53, 17, 0, 218, 100, 183, 0, 243, 176, 42]
abbrev dktX2_unit_2 : List UInt8 := dkwX2_unit_2 ++ dktX2_unit_3
def dkwX2_unit_1 : List UInt8 := [136, 183, 0, 239, 176, 42, 182, 0, 93, 17, 0, 218, 17, 0, 225, 184, 0, 66, 153, 0, 27, 187, 0, 241]
abbrev dktX2_unit_1 : List UInt8 := dkwX2_unit_1 ++ dktX2_unit_2
def dkwX2_unit_0 : List UInt8 := [42, 5, 182, 0, 51, 153, 0, 24, 187, 0, 237, 89, 42, 180, 0, 19, 180, 0, 63, 42, 182, 0, 55, 47]
abbrev dktX2_unit_0 : List UInt8 := dkwX2_unit_0 ++ dktX2_unit_1
theorem dksX2_unit_0 : cX2_unit.data.toList.drop 0 = dktX2_unit_0 := by decide +kernel
theorem dksX2_unit_1 : cX2_unit.data.toList.drop 24 = dktX2_unit_1 := dk_seg dksX2_unit_0 24 rfl rfl
theorem dksX2_unit_2 : cX2_unit.data.toList.drop 48 = dktX2_unit_2 := dk_seg dksX2_unit_1 24 rfl rfl
theorem dksX2_unit_3 : cX2_unit.data.toList.drop 70 = dktX2_unit_3 := dk_seg dksX2_unit_2 22 rfl rfl
theorem dksX2_unit_4 : cX2_unit.data.toList.drop 94 = dktX2_unit_4 := dk_seg dksX2_unit_3 24 rfl rfl
theorem dksX2_unit_5 : cX2_unit.data.toList.drop 118 = dktX2_unit_5 := dk_seg dksX2_unit_4 24 rfl rfl
theorem dksX2_unit_6 : cX2_unit.data.toList.drop 140 = dktX2_unit_6 := dk_seg dksX2_unit_5 22 rfl rfl
theorem dX2_unit_0 : decode cX2_unit 0 = .ok (.aload_n 0, 1) := dk_42 (dk_at dksX2_unit_0 0 rfl rfl)
theorem dX2_unit_1 : decode cX2_unit 1 = .ok (.iconst 2, 1) := dk_5 (dk_at dksX2_unit_0 1 rfl rfl)
theorem dX2_unit_2 : decode cX2_unit 2 = .ok (.invokevirtual 51, 3) := dk_182 0 51 (dk_at dksX2_unit_0 2 rfl rfl)
theorem dX2_unit_5 : decode cX2_unit 5 = .ok (.ifCond .eq 24, 3) := dk_153 0 24 (dk_at dksX2_unit_0 5 rfl rfl)
theorem dX2_unit_8 : decode cX2_unit 8 = .ok (.new 237, 3) := dk_187 0 237 (dk_at dksX2_unit_0 8 rfl rfl)
theorem dX2_unit_11 : decode cX2_unit 11 = .ok (.dup, 1) := dk_89 (dk_at dksX2_unit_0 11 rfl rfl)
theorem dX2_unit_12 : decode cX2_unit 12 = .ok (.aload_n 0, 1) := dk_42 (dk_at dksX2_unit_0 12 rfl rfl)
theorem dX2_unit_13 : decode cX2_unit 13 = .ok (.getfield 19, 3) := dk_180 0 19 (dk_at dksX2_unit_0 13 rfl rfl)
theorem dX2_unit_16 : decode cX2_unit 16 = .ok (.getfield 63, 3) := dk_180 0 63 (dk_at dksX2_unit_0 16 rfl rfl)
theorem dX2_unit_19 : decode cX2_unit 19 = .ok (.aload_n 0, 1) := dk_42 (dk_at dksX2_unit_0 19 rfl rfl)
theorem dX2_unit_20 : decode cX2_unit 20 = .ok (.invokevirtual 55, 3) := dk_182 0 55 (dk_at dksX2_unit_0 20 rfl rfl)
theorem dX2_unit_23 : decode cX2_unit 23 = .ok (.laload, 1) := dk_47 (dk_at dksX2_unit_0 23 rfl rfl)
theorem dX2_unit_24 : decode cX2_unit 24 = .ok (.l2i, 1) := dk_136 (dk_at dksX2_unit_1 0 rfl rfl)
theorem dX2_unit_25 : decode cX2_unit 25 = .ok (.invokespecial 239, 3) := dk_183 0 239 (dk_at dksX2_unit_1 1 rfl rfl)
theorem dX2_unit_28 : decode cX2_unit 28 = .ok (.areturn, 1) := dk_176 (dk_at dksX2_unit_1 4 rfl rfl)
theorem dX2_unit_29 : decode cX2_unit 29 = .ok (.aload_n 0, 1) := dk_42 (dk_at dksX2_unit_1 5 rfl rfl)
theorem dX2_unit_30 : decode cX2_unit 30 = .ok (.invokevirtual 93, 3) := dk_182 0 93 (dk_at dksX2_unit_1 6 rfl rfl)
theorem dX2_unit_33 : decode cX2_unit 33 = .ok (.sipush 218, 3) := dk_17 0 218 (dk_at dksX2_unit_1 9 rfl rfl)
theorem dX2_unit_36 : decode cX2_unit 36 = .ok (.sipush 225, 3) := dk_17 0 225 (dk_at dksX2_unit_1 12 rfl rfl)
theorem dX2_unit_39 : decode cX2_unit 39 = .ok (.invokestatic 66, 3) := dk_184 0 66 (dk_at dksX2_unit_1 15 rfl rfl)
theorem dX2_unit_42 : decode cX2_unit 42 = .ok (.ifCond .eq 27, 3) := dk_153 0 27 (dk_at dksX2_unit_1 18 rfl rfl)
theorem dX2_unit_45 : decode cX2_unit 45 = .ok (.new 241, 3) := dk_187 0 241 (dk_at dksX2_unit_1 21 rfl rfl)
theorem dX2_unit_48 : decode cX2_unit 48 = .ok (.dup, 1) := dk_89 (dk_at dksX2_unit_2 0 rfl rfl)
theorem dX2_unit_49 : decode cX2_unit 49 = .ok (.aload_n 0, 1) := dk_42 (dk_at dksX2_unit_2 1 rfl rfl)
theorem dX2_unit_50 : decode cX2_unit 50 = .ok (.getfield 19, 3) := dk_180 0 19 (dk_at dksX2_unit_2 2 rfl rfl)
theorem dX2_unit_53 : decode cX2_unit 53 = .ok (.getfield 23, 3) := dk_180 0 23 (dk_at dksX2_unit_2 5 rfl rfl)
theorem dX2_unit_56 : decode cX2_unit 56 = .ok (.aload_n 0, 1) := dk_42 (dk_at dksX2_unit_2 8 rfl rfl)
theorem dX2_unit_57 : decode cX2_unit 57 = .ok (.invokevirtual 55, 3) := dk_182 0 55 (dk_at dksX2_unit_2 9 rfl rfl)
theorem dX2_unit_60 : decode cX2_unit 60 = .ok (.saload, 1) := dk_53 (dk_at dksX2_unit_2 12 rfl rfl)
theorem dX2_unit_61 : decode cX2_unit 61 = .ok (.sipush 218, 3) := dk_17 0 218 (dk_at dksX2_unit_2 13 rfl rfl)
theorem dX2_unit_64 : decode cX2_unit 64 = .ok (.isub, 1) := dk_100 (dk_at dksX2_unit_2 16 rfl rfl)
theorem dX2_unit_65 : decode cX2_unit 65 = .ok (.invokespecial 243, 3) := dk_183 0 243 (dk_at dksX2_unit_2 17 rfl rfl)
theorem dX2_unit_68 : decode cX2_unit 68 = .ok (.areturn, 1) := dk_176 (dk_at dksX2_unit_2 20 rfl rfl)
theorem dX2_unit_69 : decode cX2_unit 69 = .ok (.aload_n 0, 1) := dk_42 (dk_at dksX2_unit_2 21 rfl rfl)
theorem dX2_unit_70 : decode cX2_unit 70 = .ok (.sipush 211, 3) := dk_17 0 211 (dk_at dksX2_unit_3 0 rfl rfl)
theorem dX2_unit_73 : decode cX2_unit 73 = .ok (.invokevirtual 51, 3) := dk_182 0 51 (dk_at dksX2_unit_3 3 rfl rfl)
theorem dX2_unit_76 : decode cX2_unit 76 = .ok (.ifCond .eq 18, 3) := dk_153 0 18 (dk_at dksX2_unit_3 6 rfl rfl)
theorem dX2_unit_79 : decode cX2_unit 79 = .ok (.aload_n 0, 1) := dk_42 (dk_at dksX2_unit_3 9 rfl rfl)
theorem dX2_unit_80 : decode cX2_unit 80 = .ok (.invokevirtual 55, 3) := dk_182 0 55 (dk_at dksX2_unit_3 10 rfl rfl)
theorem dX2_unit_83 : decode cX2_unit 83 = .ok (.pop, 1) := dk_87 (dk_at dksX2_unit_3 13 rfl rfl)
theorem dX2_unit_84 : decode cX2_unit 84 = .ok (.new 241, 3) := dk_187 0 241 (dk_at dksX2_unit_3 14 rfl rfl)
theorem dX2_unit_87 : decode cX2_unit 87 = .ok (.dup, 1) := dk_89 (dk_at dksX2_unit_3 17 rfl rfl)
theorem dX2_unit_88 : decode cX2_unit 88 = .ok (.bipush 8, 2) := dk_16 8 (dk_at dksX2_unit_3 18 rfl rfl)
theorem dX2_unit_90 : decode cX2_unit 90 = .ok (.invokespecial 243, 3) := dk_183 0 243 (dk_at dksX2_unit_3 20 rfl rfl)
theorem dX2_unit_93 : decode cX2_unit 93 = .ok (.areturn, 1) := dk_176 (dk_at dksX2_unit_3 23 rfl rfl)
theorem dX2_unit_94 : decode cX2_unit 94 = .ok (.aload_n 0, 1) := dk_42 (dk_at dksX2_unit_4 0 rfl rfl)
theorem dX2_unit_95 : decode cX2_unit 95 = .ok (.bipush 40, 2) := dk_16 40 (dk_at dksX2_unit_4 1 rfl rfl)
theorem dX2_unit_97 : decode cX2_unit 97 = .ok (.invokevirtual 51, 3) := dk_182 0 51 (dk_at dksX2_unit_4 3 rfl rfl)
theorem dX2_unit_100 : decode cX2_unit 100 = .ok (.ifCond .ne 9, 3) := dk_154 0 9 (dk_at dksX2_unit_4 6 rfl rfl)
theorem dX2_unit_103 : decode cX2_unit 103 = .ok (.aload_n 0, 1) := dk_42 (dk_at dksX2_unit_4 9 rfl rfl)
theorem dX2_unit_104 : decode cX2_unit 104 = .ok (.iconst 1, 1) := dk_4 (dk_at dksX2_unit_4 10 rfl rfl)
theorem dX2_unit_105 : decode cX2_unit 105 = .ok (.invokevirtual 47, 3) := dk_182 0 47 (dk_at dksX2_unit_4 11 rfl rfl)
theorem dX2_unit_108 : decode cX2_unit 108 = .ok (.athrow, 1) := dk_191 (dk_at dksX2_unit_4 14 rfl rfl)
theorem dX2_unit_109 : decode cX2_unit 109 = .ok (.aload_n 0, 1) := dk_42 (dk_at dksX2_unit_4 15 rfl rfl)
theorem dX2_unit_110 : decode cX2_unit 110 = .ok (.getfield 73, 3) := dk_180 0 73 (dk_at dksX2_unit_4 16 rfl rfl)
theorem dX2_unit_113 : decode cX2_unit 113 = .ok (.bipush 6, 2) := dk_16 6 (dk_at dksX2_unit_4 19 rfl rfl)
theorem dX2_unit_115 : decode cX2_unit 115 = .ok (.if_icmp .ne 9, 3) := dk_160 0 9 (dk_at dksX2_unit_4 21 rfl rfl)
theorem dX2_unit_118 : decode cX2_unit 118 = .ok (.aload_n 0, 1) := dk_42 (dk_at dksX2_unit_5 0 rfl rfl)
theorem dX2_unit_119 : decode cX2_unit 119 = .ok (.iconst 2, 1) := dk_5 (dk_at dksX2_unit_5 1 rfl rfl)
theorem dX2_unit_120 : decode cX2_unit 120 = .ok (.invokevirtual 47, 3) := dk_182 0 47 (dk_at dksX2_unit_5 2 rfl rfl)
theorem dX2_unit_123 : decode cX2_unit 123 = .ok (.athrow, 1) := dk_191 (dk_at dksX2_unit_5 5 rfl rfl)
theorem dX2_unit_124 : decode cX2_unit 124 = .ok (.aload_n 0, 1) := dk_42 (dk_at dksX2_unit_5 6 rfl rfl)
theorem dX2_unit_125 : decode cX2_unit 125 = .ok (.dup, 1) := dk_89 (dk_at dksX2_unit_5 7 rfl rfl)
theorem dX2_unit_126 : decode cX2_unit 126 = .ok (.getfield 73, 3) := dk_180 0 73 (dk_at dksX2_unit_5 8 rfl rfl)
theorem dX2_unit_129 : decode cX2_unit 129 = .ok (.iconst 1, 1) := dk_4 (dk_at dksX2_unit_5 11 rfl rfl)
theorem dX2_unit_130 : decode cX2_unit 130 = .ok (.iadd, 1) := dk_96 (dk_at dksX2_unit_5 12 rfl rfl)
theorem dX2_unit_131 : decode cX2_unit 131 = .ok (.putfield 73, 3) := dk_181 0 73 (dk_at dksX2_unit_5 13 rfl rfl)
theorem dX2_unit_134 : decode cX2_unit 134 = .ok (.aload_n 0, 1) := dk_42 (dk_at dksX2_unit_5 16 rfl rfl)
theorem dX2_unit_135 : decode cX2_unit 135 = .ok (.invokevirtual 55, 3) := dk_182 0 55 (dk_at dksX2_unit_5 17 rfl rfl)
theorem dX2_unit_138 : decode cX2_unit 138 = .ok (.pop, 1) := dk_87 (dk_at dksX2_unit_5 20 rfl rfl)
theorem dX2_unit_139 : decode cX2_unit 139 = .ok (.aload_n 0, 1) := dk_42 (dk_at dksX2_unit_5 21 rfl rfl)
theorem dX2_unit_140 : decode cX2_unit 140 = .ok (.invokevirtual 196, 3) := dk_182 0 196 (dk_at dksX2_unit_6 0 rfl rfl)
theorem dX2_unit_143 : decode cX2_unit 143 = .ok (.astore_n 1, 1) := dk_76 (dk_at dksX2_unit_6 3 rfl rfl)
theorem dX2_unit_144 : decode cX2_unit 144 = .ok (.aload_n 0, 1) := dk_42 (dk_at dksX2_unit_6 4 rfl rfl)
theorem dX2_unit_145 : decode cX2_unit 145 = .ok (.bipush 41, 2) := dk_16 41 (dk_at dksX2_unit_6 5 rfl rfl)
theorem dX2_unit_147 : decode cX2_unit 147 = .ok (.invokevirtual 59, 3) := dk_182 0 59 (dk_at dksX2_unit_6 7 rfl rfl)
theorem dX2_unit_150 : decode cX2_unit 150 = .ok (.pop, 1) := dk_87 (dk_at dksX2_unit_6 10 rfl rfl)
theorem dX2_unit_151 : decode cX2_unit 151 = .ok (.aload_n 0, 1) := dk_42 (dk_at dksX2_unit_6 11 rfl rfl)
theorem dX2_unit_152 : decode cX2_unit 152 = .ok (.dup, 1) := dk_89 (dk_at dksX2_unit_6 12 rfl rfl)
theorem dX2_unit_153 : decode cX2_unit 153 = .ok (.getfield 73, 3) := dk_180 0 73 (dk_at dksX2_unit_6 13 rfl rfl)
theorem dX2_unit_156 : decode cX2_unit 156 = .ok (.iconst 1, 1) := dk_4 (dk_at dksX2_unit_6 16 rfl rfl)
theorem dX2_unit_157 : decode cX2_unit 157 = .ok (.isub, 1) := dk_100 (dk_at dksX2_unit_6 17 rfl rfl)
theorem dX2_unit_158 : decode cX2_unit 158 = .ok (.putfield 73, 3) := dk_181 0 73 (dk_at dksX2_unit_6 18 rfl rfl)
theorem dX2_unit_161 : decode cX2_unit 161 = .ok (.aload_n 1, 1) := dk_43 (dk_at dksX2_unit_6 21 rfl rfl)
theorem dX2_unit_162 : decode cX2_unit 162 = .ok (.areturn, 1) := dk_176 (dk_at dksX2_unit_6 22 rfl rfl)
abbrev cX2_tellRule : ByteArray := prog_10_method_17_code
def yX2_tellRule : MethodName := ⟨RX2, "tellRule", "(Ljava/util/ArrayList;)V"⟩
def dkwX2_tellRule_1 : List UInt8 := [182, 0, 121, 87, 177]
abbrev dktX2_tellRule_1 : List UInt8 := dkwX2_tellRule_1 ++ []
def dkwX2_tellRule_0 : List UInt8 := [42, 43, 182, 0, 100, 7, 182, 0, 105, 42, 17, 0, 214, 182, 0, 59, 87, 43, 42, 182, 0, 199]
abbrev dktX2_tellRule_0 : List UInt8 := dkwX2_tellRule_0 ++ dktX2_tellRule_1
theorem dksX2_tellRule_0 : cX2_tellRule.data.toList.drop 0 = dktX2_tellRule_0 := by decide +kernel
theorem dksX2_tellRule_1 : cX2_tellRule.data.toList.drop 22 = dktX2_tellRule_1 := dk_seg dksX2_tellRule_0 22 rfl rfl
theorem dX2_tellRule_0 : decode cX2_tellRule 0 = .ok (.aload_n 0, 1) := dk_42 (dk_at dksX2_tellRule_0 0 rfl rfl)
theorem dX2_tellRule_1 : decode cX2_tellRule 1 = .ok (.aload_n 1, 1) := dk_43 (dk_at dksX2_tellRule_0 1 rfl rfl)
theorem dX2_tellRule_2 : decode cX2_tellRule 2 = .ok (.invokevirtual 100, 3) := dk_182 0 100 (dk_at dksX2_tellRule_0 2 rfl rfl)
theorem dX2_tellRule_5 : decode cX2_tellRule 5 = .ok (.iconst 4, 1) := dk_7 (dk_at dksX2_tellRule_0 5 rfl rfl)
theorem dX2_tellRule_6 : decode cX2_tellRule 6 = .ok (.invokevirtual 105, 3) := dk_182 0 105 (dk_at dksX2_tellRule_0 6 rfl rfl)
theorem dX2_tellRule_9 : decode cX2_tellRule 9 = .ok (.aload_n 0, 1) := dk_42 (dk_at dksX2_tellRule_0 9 rfl rfl)
theorem dX2_tellRule_10 : decode cX2_tellRule 10 = .ok (.sipush 214, 3) := dk_17 0 214 (dk_at dksX2_tellRule_0 10 rfl rfl)
theorem dX2_tellRule_13 : decode cX2_tellRule 13 = .ok (.invokevirtual 59, 3) := dk_182 0 59 (dk_at dksX2_tellRule_0 13 rfl rfl)
theorem dX2_tellRule_16 : decode cX2_tellRule 16 = .ok (.pop, 1) := dk_87 (dk_at dksX2_tellRule_0 16 rfl rfl)
theorem dX2_tellRule_17 : decode cX2_tellRule 17 = .ok (.aload_n 1, 1) := dk_43 (dk_at dksX2_tellRule_0 17 rfl rfl)
theorem dX2_tellRule_18 : decode cX2_tellRule 18 = .ok (.aload_n 0, 1) := dk_42 (dk_at dksX2_tellRule_0 18 rfl rfl)
theorem dX2_tellRule_19 : decode cX2_tellRule 19 = .ok (.invokevirtual 199, 3) := dk_182 0 199 (dk_at dksX2_tellRule_0 19 rfl rfl)
theorem dX2_tellRule_22 : decode cX2_tellRule 22 = .ok (.invokevirtual 121, 3) := dk_182 0 121 (dk_at dksX2_tellRule_1 0 rfl rfl)
theorem dX2_tellRule_25 : decode cX2_tellRule 25 = .ok (.pop, 1) := dk_87 (dk_at dksX2_tellRule_1 3 rfl rfl)
theorem dX2_tellRule_26 : decode cX2_tellRule 26 = .ok (.return_, 1) := dk_177 (dk_at dksX2_tellRule_1 4 rfl rfl)
abbrev cX2_condition : ByteArray := prog_10_method_19_code
def yX2_condition : MethodName := ⟨RX2, "condition", "()LStiltTown$Test;"⟩
def dkwX2_condition_2 : List UInt8 := [3, 43, 183, 0, 212, 176]
abbrev dktX2_condition_2 : List UInt8 := dkwX2_condition_2 ++ []
def dkwX2_condition_1 : List UInt8 := [153, 0, 20, 42, 182, 0, 55, 87, 43, 42, 182, 0, 207, 182, 0, 121, 87, 167, 255, 232, 187, 0, 210, 89]
abbrev dktX2_condition_1 : List UInt8 := dkwX2_condition_1 ++ dktX2_condition_2
def dkwX2_condition_0 : List UInt8 := [187, 0, 101, 89, 183, 0, 206, 76, 43, 42, 182, 0, 207, 182, 0, 121, 87, 42, 17, 0, 215, 182, 0, 51]
abbrev dktX2_condition_0 : List UInt8 := dkwX2_condition_0 ++ dktX2_condition_1
theorem dksX2_condition_0 : cX2_condition.data.toList.drop 0 = dktX2_condition_0 := by decide +kernel
theorem dksX2_condition_1 : cX2_condition.data.toList.drop 24 = dktX2_condition_1 := dk_seg dksX2_condition_0 24 rfl rfl
theorem dksX2_condition_2 : cX2_condition.data.toList.drop 48 = dktX2_condition_2 := dk_seg dksX2_condition_1 24 rfl rfl
theorem dX2_condition_0 : decode cX2_condition 0 = .ok (.new 101, 3) := dk_187 0 101 (dk_at dksX2_condition_0 0 rfl rfl)
theorem dX2_condition_3 : decode cX2_condition 3 = .ok (.dup, 1) := dk_89 (dk_at dksX2_condition_0 3 rfl rfl)
theorem dX2_condition_4 : decode cX2_condition 4 = .ok (.invokespecial 206, 3) := dk_183 0 206 (dk_at dksX2_condition_0 4 rfl rfl)
theorem dX2_condition_7 : decode cX2_condition 7 = .ok (.astore_n 1, 1) := dk_76 (dk_at dksX2_condition_0 7 rfl rfl)
theorem dX2_condition_8 : decode cX2_condition 8 = .ok (.aload_n 1, 1) := dk_43 (dk_at dksX2_condition_0 8 rfl rfl)
theorem dX2_condition_9 : decode cX2_condition 9 = .ok (.aload_n 0, 1) := dk_42 (dk_at dksX2_condition_0 9 rfl rfl)
theorem dX2_condition_10 : decode cX2_condition 10 = .ok (.invokevirtual 207, 3) := dk_182 0 207 (dk_at dksX2_condition_0 10 rfl rfl)
theorem dX2_condition_13 : decode cX2_condition 13 = .ok (.invokevirtual 121, 3) := dk_182 0 121 (dk_at dksX2_condition_0 13 rfl rfl)
theorem dX2_condition_16 : decode cX2_condition 16 = .ok (.pop, 1) := dk_87 (dk_at dksX2_condition_0 16 rfl rfl)
theorem dX2_condition_17 : decode cX2_condition 17 = .ok (.aload_n 0, 1) := dk_42 (dk_at dksX2_condition_0 17 rfl rfl)
theorem dX2_condition_18 : decode cX2_condition 18 = .ok (.sipush 215, 3) := dk_17 0 215 (dk_at dksX2_condition_0 18 rfl rfl)
theorem dX2_condition_21 : decode cX2_condition 21 = .ok (.invokevirtual 51, 3) := dk_182 0 51 (dk_at dksX2_condition_0 21 rfl rfl)
theorem dX2_condition_24 : decode cX2_condition 24 = .ok (.ifCond .eq 20, 3) := dk_153 0 20 (dk_at dksX2_condition_1 0 rfl rfl)
theorem dX2_condition_27 : decode cX2_condition 27 = .ok (.aload_n 0, 1) := dk_42 (dk_at dksX2_condition_1 3 rfl rfl)
theorem dX2_condition_28 : decode cX2_condition 28 = .ok (.invokevirtual 55, 3) := dk_182 0 55 (dk_at dksX2_condition_1 4 rfl rfl)
theorem dX2_condition_31 : decode cX2_condition 31 = .ok (.pop, 1) := dk_87 (dk_at dksX2_condition_1 7 rfl rfl)
theorem dX2_condition_32 : decode cX2_condition 32 = .ok (.aload_n 1, 1) := dk_43 (dk_at dksX2_condition_1 8 rfl rfl)
theorem dX2_condition_33 : decode cX2_condition 33 = .ok (.aload_n 0, 1) := dk_42 (dk_at dksX2_condition_1 9 rfl rfl)
theorem dX2_condition_34 : decode cX2_condition 34 = .ok (.invokevirtual 207, 3) := dk_182 0 207 (dk_at dksX2_condition_1 10 rfl rfl)
theorem dX2_condition_37 : decode cX2_condition 37 = .ok (.invokevirtual 121, 3) := dk_182 0 121 (dk_at dksX2_condition_1 13 rfl rfl)
theorem dX2_condition_40 : decode cX2_condition 40 = .ok (.pop, 1) := dk_87 (dk_at dksX2_condition_1 16 rfl rfl)
theorem dX2_condition_41 : decode cX2_condition 41 = .ok (.goto (-24), 3) := dk_167 255 232 (dk_at dksX2_condition_1 17 rfl rfl)
theorem dX2_condition_44 : decode cX2_condition 44 = .ok (.new 210, 3) := dk_187 0 210 (dk_at dksX2_condition_1 20 rfl rfl)
theorem dX2_condition_47 : decode cX2_condition 47 = .ok (.dup, 1) := dk_89 (dk_at dksX2_condition_1 23 rfl rfl)
theorem dX2_condition_48 : decode cX2_condition 48 = .ok (.iconst 0, 1) := dk_3 (dk_at dksX2_condition_2 0 rfl rfl)
theorem dX2_condition_49 : decode cX2_condition 49 = .ok (.aload_n 1, 1) := dk_43 (dk_at dksX2_condition_2 1 rfl rfl)
theorem dX2_condition_50 : decode cX2_condition 50 = .ok (.invokespecial 212, 3) := dk_183 0 212 (dk_at dksX2_condition_2 2 rfl rfl)
theorem dX2_condition_53 : decode cX2_condition 53 = .ok (.areturn, 1) := dk_176 (dk_at dksX2_condition_2 5 rfl rfl)
abbrev cX2_all : ByteArray := prog_10_method_20_code
def yX2_all : MethodName := ⟨RX2, "all", "()LStiltTown$Test;"⟩
def dkwX2_all_2 : List UInt8 := [4, 43, 183, 0, 212, 176]
abbrev dktX2_all_2 : List UInt8 := dkwX2_all_2 ++ []
def dkwX2_all_1 : List UInt8 := [153, 0, 20, 42, 182, 0, 55, 87, 43, 42, 182, 0, 215, 182, 0, 121, 87, 167, 255, 232, 187, 0, 210, 89]
abbrev dktX2_all_1 : List UInt8 := dkwX2_all_1 ++ dktX2_all_2
def dkwX2_all_0 : List UInt8 := [187, 0, 101, 89, 183, 0, 206, 76, 43, 42, 182, 0, 215, 182, 0, 121, 87, 42, 17, 0, 216, 182, 0, 51]
abbrev dktX2_all_0 : List UInt8 := dkwX2_all_0 ++ dktX2_all_1
theorem dksX2_all_0 : cX2_all.data.toList.drop 0 = dktX2_all_0 := by decide +kernel
theorem dksX2_all_1 : cX2_all.data.toList.drop 24 = dktX2_all_1 := dk_seg dksX2_all_0 24 rfl rfl
theorem dksX2_all_2 : cX2_all.data.toList.drop 48 = dktX2_all_2 := dk_seg dksX2_all_1 24 rfl rfl
theorem dX2_all_0 : decode cX2_all 0 = .ok (.new 101, 3) := dk_187 0 101 (dk_at dksX2_all_0 0 rfl rfl)
theorem dX2_all_3 : decode cX2_all 3 = .ok (.dup, 1) := dk_89 (dk_at dksX2_all_0 3 rfl rfl)
theorem dX2_all_4 : decode cX2_all 4 = .ok (.invokespecial 206, 3) := dk_183 0 206 (dk_at dksX2_all_0 4 rfl rfl)
theorem dX2_all_7 : decode cX2_all 7 = .ok (.astore_n 1, 1) := dk_76 (dk_at dksX2_all_0 7 rfl rfl)
theorem dX2_all_8 : decode cX2_all 8 = .ok (.aload_n 1, 1) := dk_43 (dk_at dksX2_all_0 8 rfl rfl)
theorem dX2_all_9 : decode cX2_all 9 = .ok (.aload_n 0, 1) := dk_42 (dk_at dksX2_all_0 9 rfl rfl)
theorem dX2_all_10 : decode cX2_all 10 = .ok (.invokevirtual 215, 3) := dk_182 0 215 (dk_at dksX2_all_0 10 rfl rfl)
theorem dX2_all_13 : decode cX2_all 13 = .ok (.invokevirtual 121, 3) := dk_182 0 121 (dk_at dksX2_all_0 13 rfl rfl)
theorem dX2_all_16 : decode cX2_all 16 = .ok (.pop, 1) := dk_87 (dk_at dksX2_all_0 16 rfl rfl)
theorem dX2_all_17 : decode cX2_all 17 = .ok (.aload_n 0, 1) := dk_42 (dk_at dksX2_all_0 17 rfl rfl)
theorem dX2_all_18 : decode cX2_all 18 = .ok (.sipush 216, 3) := dk_17 0 216 (dk_at dksX2_all_0 18 rfl rfl)
theorem dX2_all_21 : decode cX2_all 21 = .ok (.invokevirtual 51, 3) := dk_182 0 51 (dk_at dksX2_all_0 21 rfl rfl)
theorem dX2_all_24 : decode cX2_all 24 = .ok (.ifCond .eq 20, 3) := dk_153 0 20 (dk_at dksX2_all_1 0 rfl rfl)
theorem dX2_all_27 : decode cX2_all 27 = .ok (.aload_n 0, 1) := dk_42 (dk_at dksX2_all_1 3 rfl rfl)
theorem dX2_all_28 : decode cX2_all 28 = .ok (.invokevirtual 55, 3) := dk_182 0 55 (dk_at dksX2_all_1 4 rfl rfl)
theorem dX2_all_31 : decode cX2_all 31 = .ok (.pop, 1) := dk_87 (dk_at dksX2_all_1 7 rfl rfl)
theorem dX2_all_32 : decode cX2_all 32 = .ok (.aload_n 1, 1) := dk_43 (dk_at dksX2_all_1 8 rfl rfl)
theorem dX2_all_33 : decode cX2_all 33 = .ok (.aload_n 0, 1) := dk_42 (dk_at dksX2_all_1 9 rfl rfl)
theorem dX2_all_34 : decode cX2_all 34 = .ok (.invokevirtual 215, 3) := dk_182 0 215 (dk_at dksX2_all_1 10 rfl rfl)
theorem dX2_all_37 : decode cX2_all 37 = .ok (.invokevirtual 121, 3) := dk_182 0 121 (dk_at dksX2_all_1 13 rfl rfl)
theorem dX2_all_40 : decode cX2_all 40 = .ok (.pop, 1) := dk_87 (dk_at dksX2_all_1 16 rfl rfl)
theorem dX2_all_41 : decode cX2_all 41 = .ok (.goto (-24), 3) := dk_167 255 232 (dk_at dksX2_all_1 17 rfl rfl)
theorem dX2_all_44 : decode cX2_all 44 = .ok (.new 210, 3) := dk_187 0 210 (dk_at dksX2_all_1 20 rfl rfl)
theorem dX2_all_47 : decode cX2_all 47 = .ok (.dup, 1) := dk_89 (dk_at dksX2_all_1 23 rfl rfl)
theorem dX2_all_48 : decode cX2_all 48 = .ok (.iconst 1, 1) := dk_4 (dk_at dksX2_all_2 0 rfl rfl)
theorem dX2_all_49 : decode cX2_all 49 = .ok (.aload_n 1, 1) := dk_43 (dk_at dksX2_all_2 1 rfl rfl)
theorem dX2_all_50 : decode cX2_all 50 = .ok (.invokespecial 212, 3) := dk_183 0 212 (dk_at dksX2_all_2 2 rfl rfl)
theorem dX2_all_53 : decode cX2_all 53 = .ok (.areturn, 1) := dk_176 (dk_at dksX2_all_2 5 rfl rfl)
abbrev cX2_literal : ByteArray := prog_10_method_21_code
def yX2_literal : MethodName := ⟨RX2, "literal", "()LStiltTown$Test;"⟩
def dkwX2_literal_6 : List UInt8 := [25, 4, 176]
abbrev dktX2_literal_6 : List UInt8 := dkwX2_literal_6 ++ []
def dkwX2_literal_5 : List UInt8 := [182, 0, 196, 183, 0, 220, 58, 4, 27, 153, 0, 15, 187, 0, 223, 89, 25, 4, 183, 0, 225, 167, 0, 5]
abbrev dktX2_literal_5 : List UInt8 := dkwX2_literal_5 ++ dktX2_literal_6
def dkwX2_literal_4 : List UInt8 := [29, 154, 0, 9, 42, 4, 182, 0, 47, 191, 42, 182, 0, 55, 87, 187, 0, 218, 89, 29, 44, 42]
abbrev dktX2_literal_4 : List UInt8 := dkwX2_literal_4 ++ dktX2_literal_5
def dkwX2_literal_3 : List UInt8 := [153, 0, 8, 16, 60, 167, 0, 18, 42, 16, 109, 182, 0, 51, 153, 0, 8, 16, 109, 167, 0, 4, 3, 62]
abbrev dktX2_literal_3 : List UInt8 := dkwX2_literal_3 ++ dktX2_literal_4
def dkwX2_literal_2 : List UInt8 := [167, 0, 46, 42, 16, 110, 182, 0, 51, 153, 0, 8, 16, 33, 167, 0, 32, 42, 16, 60, 182, 0, 51]
abbrev dktX2_literal_2 : List UInt8 := dkwX2_literal_2 ++ dktX2_literal_3
def dkwX2_literal_1 : List UInt8 := [167, 0, 4, 3, 60, 167, 255, 231, 42, 182, 0, 196, 77, 42, 16, 101, 182, 0, 51, 153, 0, 8, 16, 61]
abbrev dktX2_literal_1 : List UInt8 := dkwX2_literal_1 ++ dktX2_literal_2
def dkwX2_literal_0 : List UInt8 := [3, 60, 42, 17, 0, 217, 182, 0, 51, 153, 0, 21, 42, 182, 0, 55, 87, 27, 154, 0, 7, 4]
abbrev dktX2_literal_0 : List UInt8 := dkwX2_literal_0 ++ dktX2_literal_1
theorem dksX2_literal_0 : cX2_literal.data.toList.drop 0 = dktX2_literal_0 := by decide +kernel
theorem dksX2_literal_1 : cX2_literal.data.toList.drop 22 = dktX2_literal_1 := dk_seg dksX2_literal_0 22 rfl rfl
theorem dksX2_literal_2 : cX2_literal.data.toList.drop 46 = dktX2_literal_2 := dk_seg dksX2_literal_1 24 rfl rfl
theorem dksX2_literal_3 : cX2_literal.data.toList.drop 69 = dktX2_literal_3 := dk_seg dksX2_literal_2 23 rfl rfl
theorem dksX2_literal_4 : cX2_literal.data.toList.drop 93 = dktX2_literal_4 := dk_seg dksX2_literal_3 24 rfl rfl
theorem dksX2_literal_5 : cX2_literal.data.toList.drop 115 = dktX2_literal_5 := dk_seg dksX2_literal_4 22 rfl rfl
theorem dksX2_literal_6 : cX2_literal.data.toList.drop 139 = dktX2_literal_6 := dk_seg dksX2_literal_5 24 rfl rfl
theorem dX2_literal_0 : decode cX2_literal 0 = .ok (.iconst 0, 1) := dk_3 (dk_at dksX2_literal_0 0 rfl rfl)
theorem dX2_literal_1 : decode cX2_literal 1 = .ok (.istore_n 1, 1) := dk_60 (dk_at dksX2_literal_0 1 rfl rfl)
theorem dX2_literal_2 : decode cX2_literal 2 = .ok (.aload_n 0, 1) := dk_42 (dk_at dksX2_literal_0 2 rfl rfl)
theorem dX2_literal_3 : decode cX2_literal 3 = .ok (.sipush 217, 3) := dk_17 0 217 (dk_at dksX2_literal_0 3 rfl rfl)
theorem dX2_literal_6 : decode cX2_literal 6 = .ok (.invokevirtual 51, 3) := dk_182 0 51 (dk_at dksX2_literal_0 6 rfl rfl)
theorem dX2_literal_9 : decode cX2_literal 9 = .ok (.ifCond .eq 21, 3) := dk_153 0 21 (dk_at dksX2_literal_0 9 rfl rfl)
theorem dX2_literal_12 : decode cX2_literal 12 = .ok (.aload_n 0, 1) := dk_42 (dk_at dksX2_literal_0 12 rfl rfl)
theorem dX2_literal_13 : decode cX2_literal 13 = .ok (.invokevirtual 55, 3) := dk_182 0 55 (dk_at dksX2_literal_0 13 rfl rfl)
theorem dX2_literal_16 : decode cX2_literal 16 = .ok (.pop, 1) := dk_87 (dk_at dksX2_literal_0 16 rfl rfl)
theorem dX2_literal_17 : decode cX2_literal 17 = .ok (.iload_n 1, 1) := dk_27 (dk_at dksX2_literal_0 17 rfl rfl)
theorem dX2_literal_18 : decode cX2_literal 18 = .ok (.ifCond .ne 7, 3) := dk_154 0 7 (dk_at dksX2_literal_0 18 rfl rfl)
theorem dX2_literal_21 : decode cX2_literal 21 = .ok (.iconst 1, 1) := dk_4 (dk_at dksX2_literal_0 21 rfl rfl)
theorem dX2_literal_22 : decode cX2_literal 22 = .ok (.goto 4, 3) := dk_167 0 4 (dk_at dksX2_literal_1 0 rfl rfl)
theorem dX2_literal_25 : decode cX2_literal 25 = .ok (.iconst 0, 1) := dk_3 (dk_at dksX2_literal_1 3 rfl rfl)
theorem dX2_literal_26 : decode cX2_literal 26 = .ok (.istore_n 1, 1) := dk_60 (dk_at dksX2_literal_1 4 rfl rfl)
theorem dX2_literal_27 : decode cX2_literal 27 = .ok (.goto (-25), 3) := dk_167 255 231 (dk_at dksX2_literal_1 5 rfl rfl)
theorem dX2_literal_30 : decode cX2_literal 30 = .ok (.aload_n 0, 1) := dk_42 (dk_at dksX2_literal_1 8 rfl rfl)
theorem dX2_literal_31 : decode cX2_literal 31 = .ok (.invokevirtual 196, 3) := dk_182 0 196 (dk_at dksX2_literal_1 9 rfl rfl)
theorem dX2_literal_34 : decode cX2_literal 34 = .ok (.astore_n 2, 1) := dk_77 (dk_at dksX2_literal_1 12 rfl rfl)
theorem dX2_literal_35 : decode cX2_literal 35 = .ok (.aload_n 0, 1) := dk_42 (dk_at dksX2_literal_1 13 rfl rfl)
theorem dX2_literal_36 : decode cX2_literal 36 = .ok (.bipush 101, 2) := dk_16 101 (dk_at dksX2_literal_1 14 rfl rfl)
theorem dX2_literal_38 : decode cX2_literal 38 = .ok (.invokevirtual 51, 3) := dk_182 0 51 (dk_at dksX2_literal_1 16 rfl rfl)
theorem dX2_literal_41 : decode cX2_literal 41 = .ok (.ifCond .eq 8, 3) := dk_153 0 8 (dk_at dksX2_literal_1 19 rfl rfl)
theorem dX2_literal_44 : decode cX2_literal 44 = .ok (.bipush 61, 2) := dk_16 61 (dk_at dksX2_literal_1 22 rfl rfl)
theorem dX2_literal_46 : decode cX2_literal 46 = .ok (.goto 46, 3) := dk_167 0 46 (dk_at dksX2_literal_2 0 rfl rfl)
theorem dX2_literal_49 : decode cX2_literal 49 = .ok (.aload_n 0, 1) := dk_42 (dk_at dksX2_literal_2 3 rfl rfl)
theorem dX2_literal_50 : decode cX2_literal 50 = .ok (.bipush 110, 2) := dk_16 110 (dk_at dksX2_literal_2 4 rfl rfl)
theorem dX2_literal_52 : decode cX2_literal 52 = .ok (.invokevirtual 51, 3) := dk_182 0 51 (dk_at dksX2_literal_2 6 rfl rfl)
theorem dX2_literal_55 : decode cX2_literal 55 = .ok (.ifCond .eq 8, 3) := dk_153 0 8 (dk_at dksX2_literal_2 9 rfl rfl)
theorem dX2_literal_58 : decode cX2_literal 58 = .ok (.bipush 33, 2) := dk_16 33 (dk_at dksX2_literal_2 12 rfl rfl)
theorem dX2_literal_60 : decode cX2_literal 60 = .ok (.goto 32, 3) := dk_167 0 32 (dk_at dksX2_literal_2 14 rfl rfl)
theorem dX2_literal_63 : decode cX2_literal 63 = .ok (.aload_n 0, 1) := dk_42 (dk_at dksX2_literal_2 17 rfl rfl)
theorem dX2_literal_64 : decode cX2_literal 64 = .ok (.bipush 60, 2) := dk_16 60 (dk_at dksX2_literal_2 18 rfl rfl)
theorem dX2_literal_66 : decode cX2_literal 66 = .ok (.invokevirtual 51, 3) := dk_182 0 51 (dk_at dksX2_literal_2 20 rfl rfl)
theorem dX2_literal_69 : decode cX2_literal 69 = .ok (.ifCond .eq 8, 3) := dk_153 0 8 (dk_at dksX2_literal_3 0 rfl rfl)
theorem dX2_literal_72 : decode cX2_literal 72 = .ok (.bipush 60, 2) := dk_16 60 (dk_at dksX2_literal_3 3 rfl rfl)
theorem dX2_literal_74 : decode cX2_literal 74 = .ok (.goto 18, 3) := dk_167 0 18 (dk_at dksX2_literal_3 5 rfl rfl)
theorem dX2_literal_77 : decode cX2_literal 77 = .ok (.aload_n 0, 1) := dk_42 (dk_at dksX2_literal_3 8 rfl rfl)
theorem dX2_literal_78 : decode cX2_literal 78 = .ok (.bipush 109, 2) := dk_16 109 (dk_at dksX2_literal_3 9 rfl rfl)
theorem dX2_literal_80 : decode cX2_literal 80 = .ok (.invokevirtual 51, 3) := dk_182 0 51 (dk_at dksX2_literal_3 11 rfl rfl)
theorem dX2_literal_83 : decode cX2_literal 83 = .ok (.ifCond .eq 8, 3) := dk_153 0 8 (dk_at dksX2_literal_3 14 rfl rfl)
theorem dX2_literal_86 : decode cX2_literal 86 = .ok (.bipush 109, 2) := dk_16 109 (dk_at dksX2_literal_3 17 rfl rfl)
theorem dX2_literal_88 : decode cX2_literal 88 = .ok (.goto 4, 3) := dk_167 0 4 (dk_at dksX2_literal_3 19 rfl rfl)
theorem dX2_literal_91 : decode cX2_literal 91 = .ok (.iconst 0, 1) := dk_3 (dk_at dksX2_literal_3 22 rfl rfl)
theorem dX2_literal_92 : decode cX2_literal 92 = .ok (.istore_n 3, 1) := dk_62 (dk_at dksX2_literal_3 23 rfl rfl)
theorem dX2_literal_93 : decode cX2_literal 93 = .ok (.iload_n 3, 1) := dk_29 (dk_at dksX2_literal_4 0 rfl rfl)
theorem dX2_literal_94 : decode cX2_literal 94 = .ok (.ifCond .ne 9, 3) := dk_154 0 9 (dk_at dksX2_literal_4 1 rfl rfl)
theorem dX2_literal_97 : decode cX2_literal 97 = .ok (.aload_n 0, 1) := dk_42 (dk_at dksX2_literal_4 4 rfl rfl)
theorem dX2_literal_98 : decode cX2_literal 98 = .ok (.iconst 1, 1) := dk_4 (dk_at dksX2_literal_4 5 rfl rfl)
theorem dX2_literal_99 : decode cX2_literal 99 = .ok (.invokevirtual 47, 3) := dk_182 0 47 (dk_at dksX2_literal_4 6 rfl rfl)
theorem dX2_literal_102 : decode cX2_literal 102 = .ok (.athrow, 1) := dk_191 (dk_at dksX2_literal_4 9 rfl rfl)
theorem dX2_literal_103 : decode cX2_literal 103 = .ok (.aload_n 0, 1) := dk_42 (dk_at dksX2_literal_4 10 rfl rfl)
theorem dX2_literal_104 : decode cX2_literal 104 = .ok (.invokevirtual 55, 3) := dk_182 0 55 (dk_at dksX2_literal_4 11 rfl rfl)
theorem dX2_literal_107 : decode cX2_literal 107 = .ok (.pop, 1) := dk_87 (dk_at dksX2_literal_4 14 rfl rfl)
theorem dX2_literal_108 : decode cX2_literal 108 = .ok (.new 218, 3) := dk_187 0 218 (dk_at dksX2_literal_4 15 rfl rfl)
theorem dX2_literal_111 : decode cX2_literal 111 = .ok (.dup, 1) := dk_89 (dk_at dksX2_literal_4 18 rfl rfl)
theorem dX2_literal_112 : decode cX2_literal 112 = .ok (.iload_n 3, 1) := dk_29 (dk_at dksX2_literal_4 19 rfl rfl)
theorem dX2_literal_113 : decode cX2_literal 113 = .ok (.aload_n 2, 1) := dk_44 (dk_at dksX2_literal_4 20 rfl rfl)
theorem dX2_literal_114 : decode cX2_literal 114 = .ok (.aload_n 0, 1) := dk_42 (dk_at dksX2_literal_4 21 rfl rfl)
theorem dX2_literal_115 : decode cX2_literal 115 = .ok (.invokevirtual 196, 3) := dk_182 0 196 (dk_at dksX2_literal_5 0 rfl rfl)
theorem dX2_literal_118 : decode cX2_literal 118 = .ok (.invokespecial 220, 3) := dk_183 0 220 (dk_at dksX2_literal_5 3 rfl rfl)
theorem dX2_literal_121 : decode cX2_literal 121 = .ok (.astore 4, 2) := dk_58 4 (dk_at dksX2_literal_5 6 rfl rfl)
theorem dX2_literal_123 : decode cX2_literal 123 = .ok (.iload_n 1, 1) := dk_27 (dk_at dksX2_literal_5 8 rfl rfl)
theorem dX2_literal_124 : decode cX2_literal 124 = .ok (.ifCond .eq 15, 3) := dk_153 0 15 (dk_at dksX2_literal_5 9 rfl rfl)
theorem dX2_literal_127 : decode cX2_literal 127 = .ok (.new 223, 3) := dk_187 0 223 (dk_at dksX2_literal_5 12 rfl rfl)
theorem dX2_literal_130 : decode cX2_literal 130 = .ok (.dup, 1) := dk_89 (dk_at dksX2_literal_5 15 rfl rfl)
theorem dX2_literal_131 : decode cX2_literal 131 = .ok (.aload 4, 2) := dk_25 4 (dk_at dksX2_literal_5 16 rfl rfl)
theorem dX2_literal_133 : decode cX2_literal 133 = .ok (.invokespecial 225, 3) := dk_183 0 225 (dk_at dksX2_literal_5 18 rfl rfl)
theorem dX2_literal_136 : decode cX2_literal 136 = .ok (.goto 5, 3) := dk_167 0 5 (dk_at dksX2_literal_5 21 rfl rfl)
theorem dX2_literal_139 : decode cX2_literal 139 = .ok (.aload 4, 2) := dk_25 4 (dk_at dksX2_literal_6 0 rfl rfl)
theorem dX2_literal_141 : decode cX2_literal 141 = .ok (.areturn, 1) := dk_176 (dk_at dksX2_literal_6 2 rfl rfl)
abbrev cX3_init : ByteArray := prog_17_method_1_code
def yX3_init : MethodName := ⟨RX3, "<init>", "()V"⟩
def dkwX3_init_6 : List UInt8 := [180, 0, 34, 27, 2, 79, 132, 1, 1, 167, 255, 240, 177]
abbrev dktX3_init_6 : List UInt8 := dkwX3_init_6 ++ []
def dkwX3_init_5 : List UInt8 := [181, 0, 60, 42, 187, 0, 48, 89, 3, 183, 0, 50, 181, 0, 63, 3, 60, 27, 16, 16, 162, 0, 16, 42]
abbrev dktX3_init_5 : List UInt8 := dkwX3_init_5 ++ dktX3_init_6
def dkwX3_init_4 : List UInt8 := [181, 0, 45, 42, 187, 0, 48, 89, 3, 183, 0, 50, 181, 0, 53, 42, 187, 0, 57, 89, 4, 183, 0, 59]
abbrev dktX3_init_4 : List UInt8 := dkwX3_init_4 ++ dktX3_init_5
def dkwX3_init_3 : List UInt8 := [16, 16, 188, 10, 181, 0, 34, 42, 16, 16, 188, 4, 181, 0, 37, 42, 5, 181, 0, 41, 42, 16, 10]
abbrev dktX3_init_3 : List UInt8 := dkwX3_init_3 ++ dktX3_init_4
def dkwX3_init_2 : List UInt8 := [181, 0, 24, 42, 187, 0, 9, 89, 183, 0, 11, 181, 0, 27, 42, 16, 12, 188, 10, 181, 0, 30, 42]
abbrev dktX3_init_2 : List UInt8 := dkwX3_init_2 ++ dktX3_init_3
def dkwX3_init_1 : List UInt8 := [181, 0, 18, 42, 187, 0, 9, 89, 183, 0, 11, 181, 0, 21, 42, 187, 0, 9, 89, 183, 0, 11]
abbrev dktX3_init_1 : List UInt8 := dkwX3_init_1 ++ dktX3_init_2
def dkwX3_init_0 : List UInt8 := [42, 183, 0, 3, 42, 187, 0, 9, 89, 183, 0, 11, 181, 0, 12, 42, 187, 0, 9, 89, 183, 0, 11]
abbrev dktX3_init_0 : List UInt8 := dkwX3_init_0 ++ dktX3_init_1
theorem dksX3_init_0 : cX3_init.data.toList.drop 0 = dktX3_init_0 := by decide +kernel
theorem dksX3_init_1 : cX3_init.data.toList.drop 23 = dktX3_init_1 := dk_seg dksX3_init_0 23 rfl rfl
theorem dksX3_init_2 : cX3_init.data.toList.drop 45 = dktX3_init_2 := dk_seg dksX3_init_1 22 rfl rfl
theorem dksX3_init_3 : cX3_init.data.toList.drop 68 = dktX3_init_3 := dk_seg dksX3_init_2 23 rfl rfl
theorem dksX3_init_4 : cX3_init.data.toList.drop 91 = dktX3_init_4 := dk_seg dksX3_init_3 23 rfl rfl
theorem dksX3_init_5 : cX3_init.data.toList.drop 115 = dktX3_init_5 := dk_seg dksX3_init_4 24 rfl rfl
theorem dksX3_init_6 : cX3_init.data.toList.drop 139 = dktX3_init_6 := dk_seg dksX3_init_5 24 rfl rfl
theorem dX3_init_0 : decode cX3_init 0 = .ok (.aload_n 0, 1) := dk_42 (dk_at dksX3_init_0 0 rfl rfl)
theorem dX3_init_1 : decode cX3_init 1 = .ok (.invokespecial 3, 3) := dk_183 0 3 (dk_at dksX3_init_0 1 rfl rfl)
theorem dX3_init_4 : decode cX3_init 4 = .ok (.aload_n 0, 1) := dk_42 (dk_at dksX3_init_0 4 rfl rfl)
theorem dX3_init_5 : decode cX3_init 5 = .ok (.new 9, 3) := dk_187 0 9 (dk_at dksX3_init_0 5 rfl rfl)
theorem dX3_init_8 : decode cX3_init 8 = .ok (.dup, 1) := dk_89 (dk_at dksX3_init_0 8 rfl rfl)
theorem dX3_init_9 : decode cX3_init 9 = .ok (.invokespecial 11, 3) := dk_183 0 11 (dk_at dksX3_init_0 9 rfl rfl)
theorem dX3_init_12 : decode cX3_init 12 = .ok (.putfield 12, 3) := dk_181 0 12 (dk_at dksX3_init_0 12 rfl rfl)
theorem dX3_init_15 : decode cX3_init 15 = .ok (.aload_n 0, 1) := dk_42 (dk_at dksX3_init_0 15 rfl rfl)
theorem dX3_init_16 : decode cX3_init 16 = .ok (.new 9, 3) := dk_187 0 9 (dk_at dksX3_init_0 16 rfl rfl)
theorem dX3_init_19 : decode cX3_init 19 = .ok (.dup, 1) := dk_89 (dk_at dksX3_init_0 19 rfl rfl)
theorem dX3_init_20 : decode cX3_init 20 = .ok (.invokespecial 11, 3) := dk_183 0 11 (dk_at dksX3_init_0 20 rfl rfl)
theorem dX3_init_23 : decode cX3_init 23 = .ok (.putfield 18, 3) := dk_181 0 18 (dk_at dksX3_init_1 0 rfl rfl)
theorem dX3_init_26 : decode cX3_init 26 = .ok (.aload_n 0, 1) := dk_42 (dk_at dksX3_init_1 3 rfl rfl)
theorem dX3_init_27 : decode cX3_init 27 = .ok (.new 9, 3) := dk_187 0 9 (dk_at dksX3_init_1 4 rfl rfl)
theorem dX3_init_30 : decode cX3_init 30 = .ok (.dup, 1) := dk_89 (dk_at dksX3_init_1 7 rfl rfl)
theorem dX3_init_31 : decode cX3_init 31 = .ok (.invokespecial 11, 3) := dk_183 0 11 (dk_at dksX3_init_1 8 rfl rfl)
theorem dX3_init_34 : decode cX3_init 34 = .ok (.putfield 21, 3) := dk_181 0 21 (dk_at dksX3_init_1 11 rfl rfl)
theorem dX3_init_37 : decode cX3_init 37 = .ok (.aload_n 0, 1) := dk_42 (dk_at dksX3_init_1 14 rfl rfl)
theorem dX3_init_38 : decode cX3_init 38 = .ok (.new 9, 3) := dk_187 0 9 (dk_at dksX3_init_1 15 rfl rfl)
theorem dX3_init_41 : decode cX3_init 41 = .ok (.dup, 1) := dk_89 (dk_at dksX3_init_1 18 rfl rfl)
theorem dX3_init_42 : decode cX3_init 42 = .ok (.invokespecial 11, 3) := dk_183 0 11 (dk_at dksX3_init_1 19 rfl rfl)
theorem dX3_init_45 : decode cX3_init 45 = .ok (.putfield 24, 3) := dk_181 0 24 (dk_at dksX3_init_2 0 rfl rfl)
theorem dX3_init_48 : decode cX3_init 48 = .ok (.aload_n 0, 1) := dk_42 (dk_at dksX3_init_2 3 rfl rfl)
theorem dX3_init_49 : decode cX3_init 49 = .ok (.new 9, 3) := dk_187 0 9 (dk_at dksX3_init_2 4 rfl rfl)
theorem dX3_init_52 : decode cX3_init 52 = .ok (.dup, 1) := dk_89 (dk_at dksX3_init_2 7 rfl rfl)
theorem dX3_init_53 : decode cX3_init 53 = .ok (.invokespecial 11, 3) := dk_183 0 11 (dk_at dksX3_init_2 8 rfl rfl)
theorem dX3_init_56 : decode cX3_init 56 = .ok (.putfield 27, 3) := dk_181 0 27 (dk_at dksX3_init_2 11 rfl rfl)
theorem dX3_init_59 : decode cX3_init 59 = .ok (.aload_n 0, 1) := dk_42 (dk_at dksX3_init_2 14 rfl rfl)
theorem dX3_init_60 : decode cX3_init 60 = .ok (.bipush 12, 2) := dk_16 12 (dk_at dksX3_init_2 15 rfl rfl)
theorem dX3_init_62 : decode cX3_init 62 = .ok (.newarray .int, 2) := dk_188_10 (dk_at dksX3_init_2 17 rfl rfl)
theorem dX3_init_64 : decode cX3_init 64 = .ok (.putfield 30, 3) := dk_181 0 30 (dk_at dksX3_init_2 19 rfl rfl)
theorem dX3_init_67 : decode cX3_init 67 = .ok (.aload_n 0, 1) := dk_42 (dk_at dksX3_init_2 22 rfl rfl)
theorem dX3_init_68 : decode cX3_init 68 = .ok (.bipush 16, 2) := dk_16 16 (dk_at dksX3_init_3 0 rfl rfl)
theorem dX3_init_70 : decode cX3_init 70 = .ok (.newarray .int, 2) := dk_188_10 (dk_at dksX3_init_3 2 rfl rfl)
theorem dX3_init_72 : decode cX3_init 72 = .ok (.putfield 34, 3) := dk_181 0 34 (dk_at dksX3_init_3 4 rfl rfl)
theorem dX3_init_75 : decode cX3_init 75 = .ok (.aload_n 0, 1) := dk_42 (dk_at dksX3_init_3 7 rfl rfl)
theorem dX3_init_76 : decode cX3_init 76 = .ok (.bipush 16, 2) := dk_16 16 (dk_at dksX3_init_3 8 rfl rfl)
theorem dX3_init_78 : decode cX3_init 78 = .ok (.newarray .boolean, 2) := dk_188_4 (dk_at dksX3_init_3 10 rfl rfl)
theorem dX3_init_80 : decode cX3_init 80 = .ok (.putfield 37, 3) := dk_181 0 37 (dk_at dksX3_init_3 12 rfl rfl)
theorem dX3_init_83 : decode cX3_init 83 = .ok (.aload_n 0, 1) := dk_42 (dk_at dksX3_init_3 15 rfl rfl)
theorem dX3_init_84 : decode cX3_init 84 = .ok (.iconst 2, 1) := dk_5 (dk_at dksX3_init_3 16 rfl rfl)
theorem dX3_init_85 : decode cX3_init 85 = .ok (.putfield 41, 3) := dk_181 0 41 (dk_at dksX3_init_3 17 rfl rfl)
theorem dX3_init_88 : decode cX3_init 88 = .ok (.aload_n 0, 1) := dk_42 (dk_at dksX3_init_3 20 rfl rfl)
theorem dX3_init_89 : decode cX3_init 89 = .ok (.bipush 10, 2) := dk_16 10 (dk_at dksX3_init_3 21 rfl rfl)
theorem dX3_init_91 : decode cX3_init 91 = .ok (.putfield 45, 3) := dk_181 0 45 (dk_at dksX3_init_4 0 rfl rfl)
theorem dX3_init_94 : decode cX3_init 94 = .ok (.aload_n 0, 1) := dk_42 (dk_at dksX3_init_4 3 rfl rfl)
theorem dX3_init_95 : decode cX3_init 95 = .ok (.new 48, 3) := dk_187 0 48 (dk_at dksX3_init_4 4 rfl rfl)
theorem dX3_init_98 : decode cX3_init 98 = .ok (.dup, 1) := dk_89 (dk_at dksX3_init_4 7 rfl rfl)
theorem dX3_init_99 : decode cX3_init 99 = .ok (.iconst 0, 1) := dk_3 (dk_at dksX3_init_4 8 rfl rfl)
theorem dX3_init_100 : decode cX3_init 100 = .ok (.invokespecial 50, 3) := dk_183 0 50 (dk_at dksX3_init_4 9 rfl rfl)
theorem dX3_init_103 : decode cX3_init 103 = .ok (.putfield 53, 3) := dk_181 0 53 (dk_at dksX3_init_4 12 rfl rfl)
theorem dX3_init_106 : decode cX3_init 106 = .ok (.aload_n 0, 1) := dk_42 (dk_at dksX3_init_4 15 rfl rfl)
theorem dX3_init_107 : decode cX3_init 107 = .ok (.new 57, 3) := dk_187 0 57 (dk_at dksX3_init_4 16 rfl rfl)
theorem dX3_init_110 : decode cX3_init 110 = .ok (.dup, 1) := dk_89 (dk_at dksX3_init_4 19 rfl rfl)
theorem dX3_init_111 : decode cX3_init 111 = .ok (.iconst 1, 1) := dk_4 (dk_at dksX3_init_4 20 rfl rfl)
theorem dX3_init_112 : decode cX3_init 112 = .ok (.invokespecial 59, 3) := dk_183 0 59 (dk_at dksX3_init_4 21 rfl rfl)
theorem dX3_init_115 : decode cX3_init 115 = .ok (.putfield 60, 3) := dk_181 0 60 (dk_at dksX3_init_5 0 rfl rfl)
theorem dX3_init_118 : decode cX3_init 118 = .ok (.aload_n 0, 1) := dk_42 (dk_at dksX3_init_5 3 rfl rfl)
theorem dX3_init_119 : decode cX3_init 119 = .ok (.new 48, 3) := dk_187 0 48 (dk_at dksX3_init_5 4 rfl rfl)
theorem dX3_init_122 : decode cX3_init 122 = .ok (.dup, 1) := dk_89 (dk_at dksX3_init_5 7 rfl rfl)
theorem dX3_init_123 : decode cX3_init 123 = .ok (.iconst 0, 1) := dk_3 (dk_at dksX3_init_5 8 rfl rfl)
theorem dX3_init_124 : decode cX3_init 124 = .ok (.invokespecial 50, 3) := dk_183 0 50 (dk_at dksX3_init_5 9 rfl rfl)
theorem dX3_init_127 : decode cX3_init 127 = .ok (.putfield 63, 3) := dk_181 0 63 (dk_at dksX3_init_5 12 rfl rfl)
theorem dX3_init_130 : decode cX3_init 130 = .ok (.iconst 0, 1) := dk_3 (dk_at dksX3_init_5 15 rfl rfl)
theorem dX3_init_131 : decode cX3_init 131 = .ok (.istore_n 1, 1) := dk_60 (dk_at dksX3_init_5 16 rfl rfl)
theorem dX3_init_132 : decode cX3_init 132 = .ok (.iload_n 1, 1) := dk_27 (dk_at dksX3_init_5 17 rfl rfl)
theorem dX3_init_133 : decode cX3_init 133 = .ok (.bipush 16, 2) := dk_16 16 (dk_at dksX3_init_5 18 rfl rfl)
theorem dX3_init_135 : decode cX3_init 135 = .ok (.if_icmp .ge 16, 3) := dk_162 0 16 (dk_at dksX3_init_5 20 rfl rfl)
theorem dX3_init_138 : decode cX3_init 138 = .ok (.aload_n 0, 1) := dk_42 (dk_at dksX3_init_5 23 rfl rfl)
theorem dX3_init_139 : decode cX3_init 139 = .ok (.getfield 34, 3) := dk_180 0 34 (dk_at dksX3_init_6 0 rfl rfl)
theorem dX3_init_142 : decode cX3_init 142 = .ok (.iload_n 1, 1) := dk_27 (dk_at dksX3_init_6 3 rfl rfl)
theorem dX3_init_143 : decode cX3_init 143 = .ok (.iconst (-1), 1) := dk_2 (dk_at dksX3_init_6 4 rfl rfl)
theorem dX3_init_144 : decode cX3_init 144 = .ok (.iastore, 1) := dk_79 (dk_at dksX3_init_6 5 rfl rfl)
theorem dX3_init_145 : decode cX3_init 145 = .ok (.iinc 1 1, 3) := dk_132 1 1 (dk_at dksX3_init_6 6 rfl rfl)
theorem dX3_init_148 : decode cX3_init 148 = .ok (.goto (-16), 3) := dk_167 255 240 (dk_at dksX3_init_6 9 rfl rfl)
theorem dX3_init_151 : decode cX3_init 151 = .ok (.return_, 1) := dk_177 (dk_at dksX3_init_6 12 rfl rfl)
abbrev cJ0_init : ByteArray := prog_37_method_1_code
def yJ0_init : MethodName := ⟨RJ0, "<init>", "()V"⟩
theorem dJ0_init_0 : decode cJ0_init 0 = .ok (.aload_n 0, 1) := by decide +kernel
theorem dJ0_init_1 : decode cJ0_init 1 = .ok (.invokespecial 1, 3) := by decide +kernel
theorem dJ0_init_4 : decode cJ0_init 4 = .ok (.return_, 1) := by decide +kernel
abbrev cJ1_init : ByteArray := prog_38_method_1_code
def yJ1_init : MethodName := ⟨RJ1, "<init>", "()V"⟩
def dkwJ1_init_0 : List UInt8 := [42, 183, 0, 1, 42, 3, 181, 0, 7, 177]
abbrev dktJ1_init_0 : List UInt8 := dkwJ1_init_0 ++ []
theorem dksJ1_init_0 : cJ1_init.data.toList.drop 0 = dktJ1_init_0 := by decide +kernel
theorem dJ1_init_0 : decode cJ1_init 0 = .ok (.aload_n 0, 1) := dk_42 (dk_at dksJ1_init_0 0 rfl rfl)
theorem dJ1_init_1 : decode cJ1_init 1 = .ok (.invokespecial 1, 3) := dk_183 0 1 (dk_at dksJ1_init_0 1 rfl rfl)
theorem dJ1_init_4 : decode cJ1_init 4 = .ok (.aload_n 0, 1) := dk_42 (dk_at dksJ1_init_0 4 rfl rfl)
theorem dJ1_init_5 : decode cJ1_init 5 = .ok (.iconst 0, 1) := dk_3 (dk_at dksJ1_init_0 5 rfl rfl)
theorem dJ1_init_6 : decode cJ1_init 6 = .ok (.putfield 7, 3) := dk_181 0 7 (dk_at dksJ1_init_0 6 rfl rfl)
theorem dJ1_init_9 : decode cJ1_init 9 = .ok (.return_, 1) := dk_177 (dk_at dksJ1_init_0 9 rfl rfl)
abbrev cJ2_init : ByteArray := prog_39_method_2_code
def yJ2_init : MethodName := ⟨RJ2, "<init>", "()V"⟩
def dkwJ2_init_0 : List UInt8 := [42, 183, 0, 1, 42, 178, 0, 39, 181, 0, 9, 177]
abbrev dktJ2_init_0 : List UInt8 := dkwJ2_init_0 ++ []
theorem dksJ2_init_0 : cJ2_init.data.toList.drop 0 = dktJ2_init_0 := by decide +kernel
theorem dJ2_init_0 : decode cJ2_init 0 = .ok (.aload_n 0, 1) := dk_42 (dk_at dksJ2_init_0 0 rfl rfl)
theorem dJ2_init_1 : decode cJ2_init 1 = .ok (.invokespecial 1, 3) := dk_183 0 1 (dk_at dksJ2_init_0 1 rfl rfl)
theorem dJ2_init_4 : decode cJ2_init 4 = .ok (.aload_n 0, 1) := dk_42 (dk_at dksJ2_init_0 4 rfl rfl)
theorem dJ2_init_5 : decode cJ2_init 5 = .ok (.getstatic 39, 3) := dk_178 0 39 (dk_at dksJ2_init_0 5 rfl rfl)
theorem dJ2_init_8 : decode cJ2_init 8 = .ok (.putfield 9, 3) := dk_181 0 9 (dk_at dksJ2_init_0 8 rfl rfl)
theorem dJ2_init_11 : decode cJ2_init 11 = .ok (.return_, 1) := dk_177 (dk_at dksJ2_init_0 11 rfl rfl)
abbrev cJ2_size : ByteArray := prog_39_method_8_code
def yJ2_size : MethodName := ⟨RJ2, "size", "()I"⟩
theorem dJ2_size_0 : decode cJ2_size 0 = .ok (.aload_n 0, 1) := by decide +kernel
theorem dJ2_size_1 : decode cJ2_size 1 = .ok (.getfield 48, 3) := by decide +kernel
theorem dJ2_size_4 : decode cJ2_size 4 = .ok (.ireturn, 1) := by decide +kernel
abbrev cJ2_add : ByteArray := prog_39_method_25_code
def yJ2_add : MethodName := ⟨RJ2, "add", "(Ljava/lang/Object;)Z"⟩
def dkwJ2_add_1 : List UInt8 := [172]
abbrev dktJ2_add_1 : List UInt8 := dkwJ2_add_1 ++ []
def dkwJ2_add_0 : List UInt8 := [42, 89, 180, 0, 63, 4, 96, 181, 0, 63, 42, 43, 42, 180, 0, 9, 42, 180, 0, 48, 182, 0, 131, 4]
abbrev dktJ2_add_0 : List UInt8 := dkwJ2_add_0 ++ dktJ2_add_1
theorem dksJ2_add_0 : cJ2_add.data.toList.drop 0 = dktJ2_add_0 := by decide +kernel
theorem dksJ2_add_1 : cJ2_add.data.toList.drop 24 = dktJ2_add_1 := dk_seg dksJ2_add_0 24 rfl rfl
theorem dJ2_add_0 : decode cJ2_add 0 = .ok (.aload_n 0, 1) := dk_42 (dk_at dksJ2_add_0 0 rfl rfl)
theorem dJ2_add_1 : decode cJ2_add 1 = .ok (.dup, 1) := dk_89 (dk_at dksJ2_add_0 1 rfl rfl)
theorem dJ2_add_2 : decode cJ2_add 2 = .ok (.getfield 63, 3) := dk_180 0 63 (dk_at dksJ2_add_0 2 rfl rfl)
theorem dJ2_add_5 : decode cJ2_add 5 = .ok (.iconst 1, 1) := dk_4 (dk_at dksJ2_add_0 5 rfl rfl)
theorem dJ2_add_6 : decode cJ2_add 6 = .ok (.iadd, 1) := dk_96 (dk_at dksJ2_add_0 6 rfl rfl)
theorem dJ2_add_7 : decode cJ2_add 7 = .ok (.putfield 63, 3) := dk_181 0 63 (dk_at dksJ2_add_0 7 rfl rfl)
theorem dJ2_add_10 : decode cJ2_add 10 = .ok (.aload_n 0, 1) := dk_42 (dk_at dksJ2_add_0 10 rfl rfl)
theorem dJ2_add_11 : decode cJ2_add 11 = .ok (.aload_n 1, 1) := dk_43 (dk_at dksJ2_add_0 11 rfl rfl)
theorem dJ2_add_12 : decode cJ2_add 12 = .ok (.aload_n 0, 1) := dk_42 (dk_at dksJ2_add_0 12 rfl rfl)
theorem dJ2_add_13 : decode cJ2_add 13 = .ok (.getfield 9, 3) := dk_180 0 9 (dk_at dksJ2_add_0 13 rfl rfl)
theorem dJ2_add_16 : decode cJ2_add 16 = .ok (.aload_n 0, 1) := dk_42 (dk_at dksJ2_add_0 16 rfl rfl)
theorem dJ2_add_17 : decode cJ2_add 17 = .ok (.getfield 48, 3) := dk_180 0 48 (dk_at dksJ2_add_0 17 rfl rfl)
theorem dJ2_add_20 : decode cJ2_add 20 = .ok (.invokevirtual 131, 3) := dk_182 0 131 (dk_at dksJ2_add_0 20 rfl rfl)
theorem dJ2_add_23 : decode cJ2_add 23 = .ok (.iconst 1, 1) := dk_4 (dk_at dksJ2_add_0 23 rfl rfl)
theorem dJ2_add_24 : decode cJ2_add 24 = .ok (.ireturn, 1) := dk_172 (dk_at dksJ2_add_1 0 rfl rfl)
abbrev cJ2_add_2 : ByteArray := prog_39_method_24_code
def yJ2_add_2 : MethodName := ⟨RJ2, "add", "(Ljava/lang/Object;[Ljava/lang/Object;I)V"⟩
def dkwJ2_add_2_0 : List UInt8 := [29, 44, 190, 160, 0, 8, 42, 182, 0, 129, 77, 44, 29, 43, 83, 42, 29, 4, 96, 181, 0, 48, 177]
abbrev dktJ2_add_2_0 : List UInt8 := dkwJ2_add_2_0 ++ []
theorem dksJ2_add_2_0 : cJ2_add_2.data.toList.drop 0 = dktJ2_add_2_0 := by decide +kernel
theorem dJ2_add_2_0 : decode cJ2_add_2 0 = .ok (.iload_n 3, 1) := dk_29 (dk_at dksJ2_add_2_0 0 rfl rfl)
theorem dJ2_add_2_1 : decode cJ2_add_2 1 = .ok (.aload_n 2, 1) := dk_44 (dk_at dksJ2_add_2_0 1 rfl rfl)
theorem dJ2_add_2_2 : decode cJ2_add_2 2 = .ok (.arraylength, 1) := dk_190 (dk_at dksJ2_add_2_0 2 rfl rfl)
theorem dJ2_add_2_3 : decode cJ2_add_2 3 = .ok (.if_icmp .ne 8, 3) := dk_160 0 8 (dk_at dksJ2_add_2_0 3 rfl rfl)
theorem dJ2_add_2_6 : decode cJ2_add_2 6 = .ok (.aload_n 0, 1) := dk_42 (dk_at dksJ2_add_2_0 6 rfl rfl)
theorem dJ2_add_2_7 : decode cJ2_add_2 7 = .ok (.invokevirtual 129, 3) := dk_182 0 129 (dk_at dksJ2_add_2_0 7 rfl rfl)
theorem dJ2_add_2_10 : decode cJ2_add_2 10 = .ok (.astore_n 2, 1) := dk_77 (dk_at dksJ2_add_2_0 10 rfl rfl)
theorem dJ2_add_2_11 : decode cJ2_add_2 11 = .ok (.aload_n 2, 1) := dk_44 (dk_at dksJ2_add_2_0 11 rfl rfl)
theorem dJ2_add_2_12 : decode cJ2_add_2 12 = .ok (.iload_n 3, 1) := dk_29 (dk_at dksJ2_add_2_0 12 rfl rfl)
theorem dJ2_add_2_13 : decode cJ2_add_2 13 = .ok (.aload_n 1, 1) := dk_43 (dk_at dksJ2_add_2_0 13 rfl rfl)
theorem dJ2_add_2_14 : decode cJ2_add_2 14 = .ok (.aastore, 1) := dk_83 (dk_at dksJ2_add_2_0 14 rfl rfl)
theorem dJ2_add_2_15 : decode cJ2_add_2 15 = .ok (.aload_n 0, 1) := dk_42 (dk_at dksJ2_add_2_0 15 rfl rfl)
theorem dJ2_add_2_16 : decode cJ2_add_2 16 = .ok (.iload_n 3, 1) := dk_29 (dk_at dksJ2_add_2_0 16 rfl rfl)
theorem dJ2_add_2_17 : decode cJ2_add_2 17 = .ok (.iconst 1, 1) := dk_4 (dk_at dksJ2_add_2_0 17 rfl rfl)
theorem dJ2_add_2_18 : decode cJ2_add_2 18 = .ok (.iadd, 1) := dk_96 (dk_at dksJ2_add_2_0 18 rfl rfl)
theorem dJ2_add_2_19 : decode cJ2_add_2 19 = .ok (.putfield 48, 3) := dk_181 0 48 (dk_at dksJ2_add_2_0 19 rfl rfl)
theorem dJ2_add_2_22 : decode cJ2_add_2 22 = .ok (.return_, 1) := dk_177 (dk_at dksJ2_add_2_0 22 rfl rfl)
abbrev cJ2_grow : ByteArray := prog_39_method_7_code
def yJ2_grow : MethodName := ⟨RJ2, "grow", "()[Ljava/lang/Object;"⟩
def dkwJ2_grow_0 : List UInt8 := [42, 42, 180, 0, 48, 4, 96, 182, 0, 69, 176]
abbrev dktJ2_grow_0 : List UInt8 := dkwJ2_grow_0 ++ []
theorem dksJ2_grow_0 : cJ2_grow.data.toList.drop 0 = dktJ2_grow_0 := by decide +kernel
theorem dJ2_grow_0 : decode cJ2_grow 0 = .ok (.aload_n 0, 1) := dk_42 (dk_at dksJ2_grow_0 0 rfl rfl)
theorem dJ2_grow_1 : decode cJ2_grow 1 = .ok (.aload_n 0, 1) := dk_42 (dk_at dksJ2_grow_0 1 rfl rfl)
theorem dJ2_grow_2 : decode cJ2_grow 2 = .ok (.getfield 48, 3) := dk_180 0 48 (dk_at dksJ2_grow_0 2 rfl rfl)
theorem dJ2_grow_5 : decode cJ2_grow 5 = .ok (.iconst 1, 1) := dk_4 (dk_at dksJ2_grow_0 5 rfl rfl)
theorem dJ2_grow_6 : decode cJ2_grow 6 = .ok (.iadd, 1) := dk_96 (dk_at dksJ2_grow_0 6 rfl rfl)
theorem dJ2_grow_7 : decode cJ2_grow 7 = .ok (.invokevirtual 69, 3) := dk_182 0 69 (dk_at dksJ2_grow_0 7 rfl rfl)
theorem dJ2_grow_10 : decode cJ2_grow 10 = .ok (.areturn, 1) := dk_176 (dk_at dksJ2_grow_0 10 rfl rfl)
abbrev cJ2_grow_2 : ByteArray := prog_39_method_6_code
def yJ2_grow_2 : MethodName := ⟨RJ2, "grow", "(I)[Ljava/lang/Object;"⟩
def dkwJ2_grow_2_2 : List UInt8 := [27, 184, 0, 79, 189, 0, 7, 90, 181, 0, 9, 176]
abbrev dktJ2_grow_2_2 : List UInt8 := dkwJ2_grow_2_2 ++ []
def dkwJ2_grow_2_1 : List UInt8 := [28, 4, 122, 184, 0, 73, 62, 42, 42, 180, 0, 9, 29, 184, 0, 66, 90, 181, 0, 9, 176, 42, 16, 10]
abbrev dktJ2_grow_2_1 : List UInt8 := dkwJ2_grow_2_1 ++ dktJ2_grow_2_2
def dkwJ2_grow_2_0 : List UInt8 := [42, 180, 0, 9, 190, 61, 28, 157, 0, 13, 42, 180, 0, 9, 178, 0, 39, 165, 0, 28, 28, 27, 28, 100]
abbrev dktJ2_grow_2_0 : List UInt8 := dkwJ2_grow_2_0 ++ dktJ2_grow_2_1
theorem dksJ2_grow_2_0 : cJ2_grow_2.data.toList.drop 0 = dktJ2_grow_2_0 := by decide +kernel
theorem dksJ2_grow_2_1 : cJ2_grow_2.data.toList.drop 24 = dktJ2_grow_2_1 := dk_seg dksJ2_grow_2_0 24 rfl rfl
theorem dksJ2_grow_2_2 : cJ2_grow_2.data.toList.drop 48 = dktJ2_grow_2_2 := dk_seg dksJ2_grow_2_1 24 rfl rfl
theorem dJ2_grow_2_0 : decode cJ2_grow_2 0 = .ok (.aload_n 0, 1) := dk_42 (dk_at dksJ2_grow_2_0 0 rfl rfl)
theorem dJ2_grow_2_1 : decode cJ2_grow_2 1 = .ok (.getfield 9, 3) := dk_180 0 9 (dk_at dksJ2_grow_2_0 1 rfl rfl)
theorem dJ2_grow_2_4 : decode cJ2_grow_2 4 = .ok (.arraylength, 1) := dk_190 (dk_at dksJ2_grow_2_0 4 rfl rfl)
theorem dJ2_grow_2_5 : decode cJ2_grow_2 5 = .ok (.istore_n 2, 1) := dk_61 (dk_at dksJ2_grow_2_0 5 rfl rfl)
theorem dJ2_grow_2_6 : decode cJ2_grow_2 6 = .ok (.iload_n 2, 1) := dk_28 (dk_at dksJ2_grow_2_0 6 rfl rfl)
theorem dJ2_grow_2_7 : decode cJ2_grow_2 7 = .ok (.ifCond .gt 13, 3) := dk_157 0 13 (dk_at dksJ2_grow_2_0 7 rfl rfl)
theorem dJ2_grow_2_10 : decode cJ2_grow_2 10 = .ok (.aload_n 0, 1) := dk_42 (dk_at dksJ2_grow_2_0 10 rfl rfl)
theorem dJ2_grow_2_11 : decode cJ2_grow_2 11 = .ok (.getfield 9, 3) := dk_180 0 9 (dk_at dksJ2_grow_2_0 11 rfl rfl)
theorem dJ2_grow_2_14 : decode cJ2_grow_2 14 = .ok (.getstatic 39, 3) := dk_178 0 39 (dk_at dksJ2_grow_2_0 14 rfl rfl)
theorem dJ2_grow_2_17 : decode cJ2_grow_2 17 = .ok (.if_acmp .eq 28, 3) := dk_165 0 28 (dk_at dksJ2_grow_2_0 17 rfl rfl)
theorem dJ2_grow_2_20 : decode cJ2_grow_2 20 = .ok (.iload_n 2, 1) := dk_28 (dk_at dksJ2_grow_2_0 20 rfl rfl)
theorem dJ2_grow_2_21 : decode cJ2_grow_2 21 = .ok (.iload_n 1, 1) := dk_27 (dk_at dksJ2_grow_2_0 21 rfl rfl)
theorem dJ2_grow_2_22 : decode cJ2_grow_2 22 = .ok (.iload_n 2, 1) := dk_28 (dk_at dksJ2_grow_2_0 22 rfl rfl)
theorem dJ2_grow_2_23 : decode cJ2_grow_2 23 = .ok (.isub, 1) := dk_100 (dk_at dksJ2_grow_2_0 23 rfl rfl)
theorem dJ2_grow_2_24 : decode cJ2_grow_2 24 = .ok (.iload_n 2, 1) := dk_28 (dk_at dksJ2_grow_2_1 0 rfl rfl)
theorem dJ2_grow_2_25 : decode cJ2_grow_2 25 = .ok (.iconst 1, 1) := dk_4 (dk_at dksJ2_grow_2_1 1 rfl rfl)
theorem dJ2_grow_2_26 : decode cJ2_grow_2 26 = .ok (.ishr, 1) := dk_122 (dk_at dksJ2_grow_2_1 2 rfl rfl)
theorem dJ2_grow_2_27 : decode cJ2_grow_2 27 = .ok (.invokestatic 73, 3) := dk_184 0 73 (dk_at dksJ2_grow_2_1 3 rfl rfl)
theorem dJ2_grow_2_30 : decode cJ2_grow_2 30 = .ok (.istore_n 3, 1) := dk_62 (dk_at dksJ2_grow_2_1 6 rfl rfl)
theorem dJ2_grow_2_31 : decode cJ2_grow_2 31 = .ok (.aload_n 0, 1) := dk_42 (dk_at dksJ2_grow_2_1 7 rfl rfl)
theorem dJ2_grow_2_32 : decode cJ2_grow_2 32 = .ok (.aload_n 0, 1) := dk_42 (dk_at dksJ2_grow_2_1 8 rfl rfl)
theorem dJ2_grow_2_33 : decode cJ2_grow_2 33 = .ok (.getfield 9, 3) := dk_180 0 9 (dk_at dksJ2_grow_2_1 9 rfl rfl)
theorem dJ2_grow_2_36 : decode cJ2_grow_2 36 = .ok (.iload_n 3, 1) := dk_29 (dk_at dksJ2_grow_2_1 12 rfl rfl)
theorem dJ2_grow_2_37 : decode cJ2_grow_2 37 = .ok (.invokestatic 66, 3) := dk_184 0 66 (dk_at dksJ2_grow_2_1 13 rfl rfl)
theorem dJ2_grow_2_40 : decode cJ2_grow_2 40 = .ok (.dup_x1, 1) := dk_90 (dk_at dksJ2_grow_2_1 16 rfl rfl)
theorem dJ2_grow_2_41 : decode cJ2_grow_2 41 = .ok (.putfield 9, 3) := dk_181 0 9 (dk_at dksJ2_grow_2_1 17 rfl rfl)
theorem dJ2_grow_2_44 : decode cJ2_grow_2 44 = .ok (.areturn, 1) := dk_176 (dk_at dksJ2_grow_2_1 20 rfl rfl)
theorem dJ2_grow_2_45 : decode cJ2_grow_2 45 = .ok (.aload_n 0, 1) := dk_42 (dk_at dksJ2_grow_2_1 21 rfl rfl)
theorem dJ2_grow_2_46 : decode cJ2_grow_2 46 = .ok (.bipush 10, 2) := dk_16 10 (dk_at dksJ2_grow_2_1 22 rfl rfl)
theorem dJ2_grow_2_48 : decode cJ2_grow_2 48 = .ok (.iload_n 1, 1) := dk_27 (dk_at dksJ2_grow_2_2 0 rfl rfl)
theorem dJ2_grow_2_49 : decode cJ2_grow_2 49 = .ok (.invokestatic 79, 3) := dk_184 0 79 (dk_at dksJ2_grow_2_2 1 rfl rfl)
theorem dJ2_grow_2_52 : decode cJ2_grow_2 52 = .ok (.anewarray 7, 3) := dk_189 0 7 (dk_at dksJ2_grow_2_2 4 rfl rfl)
theorem dJ2_grow_2_55 : decode cJ2_grow_2 55 = .ok (.dup_x1, 1) := dk_90 (dk_at dksJ2_grow_2_2 7 rfl rfl)
theorem dJ2_grow_2_56 : decode cJ2_grow_2 56 = .ok (.putfield 9, 3) := dk_181 0 9 (dk_at dksJ2_grow_2_2 8 rfl rfl)
theorem dJ2_grow_2_59 : decode cJ2_grow_2 59 = .ok (.areturn, 1) := dk_176 (dk_at dksJ2_grow_2_2 11 rfl rfl)
abbrev cJ2_get : ByteArray := prog_39_method_20_code
def yJ2_get : MethodName := ⟨RJ2, "get", "(I)Ljava/lang/Object;"⟩
def dkwJ2_get_0 : List UInt8 := [27, 42, 180, 0, 48, 184, 0, 118, 87, 42, 27, 182, 0, 123, 176]
abbrev dktJ2_get_0 : List UInt8 := dkwJ2_get_0 ++ []
theorem dksJ2_get_0 : cJ2_get.data.toList.drop 0 = dktJ2_get_0 := by decide +kernel
theorem dJ2_get_0 : decode cJ2_get 0 = .ok (.iload_n 1, 1) := dk_27 (dk_at dksJ2_get_0 0 rfl rfl)
theorem dJ2_get_1 : decode cJ2_get 1 = .ok (.aload_n 0, 1) := dk_42 (dk_at dksJ2_get_0 1 rfl rfl)
theorem dJ2_get_2 : decode cJ2_get 2 = .ok (.getfield 48, 3) := dk_180 0 48 (dk_at dksJ2_get_0 2 rfl rfl)
theorem dJ2_get_5 : decode cJ2_get 5 = .ok (.invokestatic 118, 3) := dk_184 0 118 (dk_at dksJ2_get_0 5 rfl rfl)
theorem dJ2_get_8 : decode cJ2_get 8 = .ok (.pop, 1) := dk_87 (dk_at dksJ2_get_0 8 rfl rfl)
theorem dJ2_get_9 : decode cJ2_get 9 = .ok (.aload_n 0, 1) := dk_42 (dk_at dksJ2_get_0 9 rfl rfl)
theorem dJ2_get_10 : decode cJ2_get 10 = .ok (.iload_n 1, 1) := dk_27 (dk_at dksJ2_get_0 10 rfl rfl)
theorem dJ2_get_11 : decode cJ2_get 11 = .ok (.invokevirtual 123, 3) := dk_182 0 123 (dk_at dksJ2_get_0 11 rfl rfl)
theorem dJ2_get_14 : decode cJ2_get 14 = .ok (.areturn, 1) := dk_176 (dk_at dksJ2_get_0 14 rfl rfl)
abbrev cJ2_elementData : ByteArray := prog_39_method_18_code
def yJ2_elementData : MethodName := ⟨RJ2, "elementData", "(I)Ljava/lang/Object;"⟩
def dkwJ2_elementData_0 : List UInt8 := [42, 180, 0, 9, 27, 50, 176]
abbrev dktJ2_elementData_0 : List UInt8 := dkwJ2_elementData_0 ++ []
theorem dksJ2_elementData_0 : cJ2_elementData.data.toList.drop 0 = dktJ2_elementData_0 := by decide +kernel
theorem dJ2_elementData_0 : decode cJ2_elementData 0 = .ok (.aload_n 0, 1) := dk_42 (dk_at dksJ2_elementData_0 0 rfl rfl)
theorem dJ2_elementData_1 : decode cJ2_elementData 1 = .ok (.getfield 9, 3) := dk_180 0 9 (dk_at dksJ2_elementData_0 1 rfl rfl)
theorem dJ2_elementData_4 : decode cJ2_elementData 4 = .ok (.iload_n 1, 1) := dk_27 (dk_at dksJ2_elementData_0 4 rfl rfl)
theorem dJ2_elementData_5 : decode cJ2_elementData 5 = .ok (.aaload, 1) := dk_50 (dk_at dksJ2_elementData_0 5 rfl rfl)
theorem dJ2_elementData_6 : decode cJ2_elementData 6 = .ok (.areturn, 1) := dk_176 (dk_at dksJ2_elementData_0 6 rfl rfl)
abbrev cJ2_clear : ByteArray := prog_39_method_40_code
def yJ2_clear : MethodName := ⟨RJ2, "clear", "()V"⟩
def dkwJ2_clear_1 : List UInt8 := [181, 0, 48, 62, 29, 28, 162, 0, 13, 43, 29, 1, 83, 132, 3, 1, 167, 255, 244, 177]
abbrev dktJ2_clear_1 : List UInt8 := dkwJ2_clear_1 ++ []
def dkwJ2_clear_0 : List UInt8 := [42, 89, 180, 0, 63, 4, 96, 181, 0, 63, 42, 180, 0, 9, 76, 42, 180, 0, 48, 61, 42, 3, 90]
abbrev dktJ2_clear_0 : List UInt8 := dkwJ2_clear_0 ++ dktJ2_clear_1
theorem dksJ2_clear_0 : cJ2_clear.data.toList.drop 0 = dktJ2_clear_0 := by decide +kernel
theorem dksJ2_clear_1 : cJ2_clear.data.toList.drop 23 = dktJ2_clear_1 := dk_seg dksJ2_clear_0 23 rfl rfl
theorem dJ2_clear_0 : decode cJ2_clear 0 = .ok (.aload_n 0, 1) := dk_42 (dk_at dksJ2_clear_0 0 rfl rfl)
theorem dJ2_clear_1 : decode cJ2_clear 1 = .ok (.dup, 1) := dk_89 (dk_at dksJ2_clear_0 1 rfl rfl)
theorem dJ2_clear_2 : decode cJ2_clear 2 = .ok (.getfield 63, 3) := dk_180 0 63 (dk_at dksJ2_clear_0 2 rfl rfl)
theorem dJ2_clear_5 : decode cJ2_clear 5 = .ok (.iconst 1, 1) := dk_4 (dk_at dksJ2_clear_0 5 rfl rfl)
theorem dJ2_clear_6 : decode cJ2_clear 6 = .ok (.iadd, 1) := dk_96 (dk_at dksJ2_clear_0 6 rfl rfl)
theorem dJ2_clear_7 : decode cJ2_clear 7 = .ok (.putfield 63, 3) := dk_181 0 63 (dk_at dksJ2_clear_0 7 rfl rfl)
theorem dJ2_clear_10 : decode cJ2_clear 10 = .ok (.aload_n 0, 1) := dk_42 (dk_at dksJ2_clear_0 10 rfl rfl)
theorem dJ2_clear_11 : decode cJ2_clear 11 = .ok (.getfield 9, 3) := dk_180 0 9 (dk_at dksJ2_clear_0 11 rfl rfl)
theorem dJ2_clear_14 : decode cJ2_clear 14 = .ok (.astore_n 1, 1) := dk_76 (dk_at dksJ2_clear_0 14 rfl rfl)
theorem dJ2_clear_15 : decode cJ2_clear 15 = .ok (.aload_n 0, 1) := dk_42 (dk_at dksJ2_clear_0 15 rfl rfl)
theorem dJ2_clear_16 : decode cJ2_clear 16 = .ok (.getfield 48, 3) := dk_180 0 48 (dk_at dksJ2_clear_0 16 rfl rfl)
theorem dJ2_clear_19 : decode cJ2_clear 19 = .ok (.istore_n 2, 1) := dk_61 (dk_at dksJ2_clear_0 19 rfl rfl)
theorem dJ2_clear_20 : decode cJ2_clear 20 = .ok (.aload_n 0, 1) := dk_42 (dk_at dksJ2_clear_0 20 rfl rfl)
theorem dJ2_clear_21 : decode cJ2_clear 21 = .ok (.iconst 0, 1) := dk_3 (dk_at dksJ2_clear_0 21 rfl rfl)
theorem dJ2_clear_22 : decode cJ2_clear 22 = .ok (.dup_x1, 1) := dk_90 (dk_at dksJ2_clear_0 22 rfl rfl)
theorem dJ2_clear_23 : decode cJ2_clear 23 = .ok (.putfield 48, 3) := dk_181 0 48 (dk_at dksJ2_clear_1 0 rfl rfl)
theorem dJ2_clear_26 : decode cJ2_clear 26 = .ok (.istore_n 3, 1) := dk_62 (dk_at dksJ2_clear_1 3 rfl rfl)
theorem dJ2_clear_27 : decode cJ2_clear 27 = .ok (.iload_n 3, 1) := dk_29 (dk_at dksJ2_clear_1 4 rfl rfl)
theorem dJ2_clear_28 : decode cJ2_clear 28 = .ok (.iload_n 2, 1) := dk_28 (dk_at dksJ2_clear_1 5 rfl rfl)
theorem dJ2_clear_29 : decode cJ2_clear 29 = .ok (.if_icmp .ge 13, 3) := dk_162 0 13 (dk_at dksJ2_clear_1 6 rfl rfl)
theorem dJ2_clear_32 : decode cJ2_clear 32 = .ok (.aload_n 1, 1) := dk_43 (dk_at dksJ2_clear_1 9 rfl rfl)
theorem dJ2_clear_33 : decode cJ2_clear 33 = .ok (.iload_n 3, 1) := dk_29 (dk_at dksJ2_clear_1 10 rfl rfl)
theorem dJ2_clear_34 : decode cJ2_clear 34 = .ok (.aconst_null, 1) := dk_1 (dk_at dksJ2_clear_1 11 rfl rfl)
theorem dJ2_clear_35 : decode cJ2_clear 35 = .ok (.aastore, 1) := dk_83 (dk_at dksJ2_clear_1 12 rfl rfl)
theorem dJ2_clear_36 : decode cJ2_clear 36 = .ok (.iinc 3 1, 3) := dk_132 3 1 (dk_at dksJ2_clear_1 13 rfl rfl)
theorem dJ2_clear_39 : decode cJ2_clear 39 = .ok (.goto (-12), 3) := dk_167 255 244 (dk_at dksJ2_clear_1 16 rfl rfl)
theorem dJ2_clear_42 : decode cJ2_clear 42 = .ok (.return_, 1) := dk_177 (dk_at dksJ2_clear_1 19 rfl rfl)
abbrev cJ2_isEmpty : ByteArray := prog_39_method_9_code
def yJ2_isEmpty : MethodName := ⟨RJ2, "isEmpty", "()Z"⟩
def dkwJ2_isEmpty_0 : List UInt8 := [42, 180, 0, 48, 154, 0, 7, 4, 167, 0, 4, 3, 172]
abbrev dktJ2_isEmpty_0 : List UInt8 := dkwJ2_isEmpty_0 ++ []
theorem dksJ2_isEmpty_0 : cJ2_isEmpty.data.toList.drop 0 = dktJ2_isEmpty_0 := by decide +kernel
theorem dJ2_isEmpty_0 : decode cJ2_isEmpty 0 = .ok (.aload_n 0, 1) := dk_42 (dk_at dksJ2_isEmpty_0 0 rfl rfl)
theorem dJ2_isEmpty_1 : decode cJ2_isEmpty 1 = .ok (.getfield 48, 3) := dk_180 0 48 (dk_at dksJ2_isEmpty_0 1 rfl rfl)
theorem dJ2_isEmpty_4 : decode cJ2_isEmpty 4 = .ok (.ifCond .ne 7, 3) := dk_154 0 7 (dk_at dksJ2_isEmpty_0 4 rfl rfl)
theorem dJ2_isEmpty_7 : decode cJ2_isEmpty 7 = .ok (.iconst 1, 1) := dk_4 (dk_at dksJ2_isEmpty_0 7 rfl rfl)
theorem dJ2_isEmpty_8 : decode cJ2_isEmpty 8 = .ok (.goto 4, 3) := dk_167 0 4 (dk_at dksJ2_isEmpty_0 8 rfl rfl)
theorem dJ2_isEmpty_11 : decode cJ2_isEmpty 11 = .ok (.iconst 0, 1) := dk_3 (dk_at dksJ2_isEmpty_0 11 rfl rfl)
theorem dJ2_isEmpty_12 : decode cJ2_isEmpty 12 = .ok (.ireturn, 1) := dk_172 (dk_at dksJ2_isEmpty_0 12 rfl rfl)
abbrev cJ2_addAll : ByteArray := prog_39_method_41_code
def yJ2_addAll : MethodName := ⟨RJ2, "addAll", "(Ljava/util/Collection;)Z"⟩
def dkwJ2_addAll_3 : List UInt8 := [181, 0, 48, 4, 172]
abbrev dktJ2_addAll_3 : List UInt8 := dkwJ2_addAll_3 ++ []
def dkwJ2_addAll_2 : List UInt8 := [21, 5, 29, 96, 182, 0, 69, 58, 4, 44, 3, 25, 4, 21, 5, 29, 184, 0, 112, 42, 21, 5, 29, 96]
abbrev dktJ2_addAll_2 : List UInt8 := dkwJ2_addAll_2 ++ dktJ2_addAll_3
def dkwJ2_addAll_1 : List UInt8 := [3, 172, 29, 42, 180, 0, 9, 89, 58, 4, 190, 42, 180, 0, 48, 89, 54, 5, 100, 164, 0, 13, 42]
abbrev dktJ2_addAll_1 : List UInt8 := dkwJ2_addAll_1 ++ dktJ2_addAll_2
def dkwJ2_addAll_0 : List UInt8 := [43, 185, 0, 42, 1, 0, 77, 42, 89, 180, 0, 63, 4, 96, 181, 0, 63, 44, 190, 62, 29, 154, 0, 5]
abbrev dktJ2_addAll_0 : List UInt8 := dkwJ2_addAll_0 ++ dktJ2_addAll_1
theorem dksJ2_addAll_0 : cJ2_addAll.data.toList.drop 0 = dktJ2_addAll_0 := by decide +kernel
theorem dksJ2_addAll_1 : cJ2_addAll.data.toList.drop 24 = dktJ2_addAll_1 := dk_seg dksJ2_addAll_0 24 rfl rfl
theorem dksJ2_addAll_2 : cJ2_addAll.data.toList.drop 47 = dktJ2_addAll_2 := dk_seg dksJ2_addAll_1 23 rfl rfl
theorem dksJ2_addAll_3 : cJ2_addAll.data.toList.drop 71 = dktJ2_addAll_3 := dk_seg dksJ2_addAll_2 24 rfl rfl
theorem dJ2_addAll_0 : decode cJ2_addAll 0 = .ok (.aload_n 1, 1) := dk_43 (dk_at dksJ2_addAll_0 0 rfl rfl)
theorem dJ2_addAll_1 : decode cJ2_addAll 1 = .ok (.invokeinterface 42 1, 5) := by decide +kernel
theorem dJ2_addAll_6 : decode cJ2_addAll 6 = .ok (.astore_n 2, 1) := dk_77 (dk_at dksJ2_addAll_0 6 rfl rfl)
theorem dJ2_addAll_7 : decode cJ2_addAll 7 = .ok (.aload_n 0, 1) := dk_42 (dk_at dksJ2_addAll_0 7 rfl rfl)
theorem dJ2_addAll_8 : decode cJ2_addAll 8 = .ok (.dup, 1) := dk_89 (dk_at dksJ2_addAll_0 8 rfl rfl)
theorem dJ2_addAll_9 : decode cJ2_addAll 9 = .ok (.getfield 63, 3) := dk_180 0 63 (dk_at dksJ2_addAll_0 9 rfl rfl)
theorem dJ2_addAll_12 : decode cJ2_addAll 12 = .ok (.iconst 1, 1) := dk_4 (dk_at dksJ2_addAll_0 12 rfl rfl)
theorem dJ2_addAll_13 : decode cJ2_addAll 13 = .ok (.iadd, 1) := dk_96 (dk_at dksJ2_addAll_0 13 rfl rfl)
theorem dJ2_addAll_14 : decode cJ2_addAll 14 = .ok (.putfield 63, 3) := dk_181 0 63 (dk_at dksJ2_addAll_0 14 rfl rfl)
theorem dJ2_addAll_17 : decode cJ2_addAll 17 = .ok (.aload_n 2, 1) := dk_44 (dk_at dksJ2_addAll_0 17 rfl rfl)
theorem dJ2_addAll_18 : decode cJ2_addAll 18 = .ok (.arraylength, 1) := dk_190 (dk_at dksJ2_addAll_0 18 rfl rfl)
theorem dJ2_addAll_19 : decode cJ2_addAll 19 = .ok (.istore_n 3, 1) := dk_62 (dk_at dksJ2_addAll_0 19 rfl rfl)
theorem dJ2_addAll_20 : decode cJ2_addAll 20 = .ok (.iload_n 3, 1) := dk_29 (dk_at dksJ2_addAll_0 20 rfl rfl)
theorem dJ2_addAll_21 : decode cJ2_addAll 21 = .ok (.ifCond .ne 5, 3) := dk_154 0 5 (dk_at dksJ2_addAll_0 21 rfl rfl)
theorem dJ2_addAll_24 : decode cJ2_addAll 24 = .ok (.iconst 0, 1) := dk_3 (dk_at dksJ2_addAll_1 0 rfl rfl)
theorem dJ2_addAll_25 : decode cJ2_addAll 25 = .ok (.ireturn, 1) := dk_172 (dk_at dksJ2_addAll_1 1 rfl rfl)
theorem dJ2_addAll_26 : decode cJ2_addAll 26 = .ok (.iload_n 3, 1) := dk_29 (dk_at dksJ2_addAll_1 2 rfl rfl)
theorem dJ2_addAll_27 : decode cJ2_addAll 27 = .ok (.aload_n 0, 1) := dk_42 (dk_at dksJ2_addAll_1 3 rfl rfl)
theorem dJ2_addAll_28 : decode cJ2_addAll 28 = .ok (.getfield 9, 3) := dk_180 0 9 (dk_at dksJ2_addAll_1 4 rfl rfl)
theorem dJ2_addAll_31 : decode cJ2_addAll 31 = .ok (.dup, 1) := dk_89 (dk_at dksJ2_addAll_1 7 rfl rfl)
theorem dJ2_addAll_32 : decode cJ2_addAll 32 = .ok (.astore 4, 2) := dk_58 4 (dk_at dksJ2_addAll_1 8 rfl rfl)
theorem dJ2_addAll_34 : decode cJ2_addAll 34 = .ok (.arraylength, 1) := dk_190 (dk_at dksJ2_addAll_1 10 rfl rfl)
theorem dJ2_addAll_35 : decode cJ2_addAll 35 = .ok (.aload_n 0, 1) := dk_42 (dk_at dksJ2_addAll_1 11 rfl rfl)
theorem dJ2_addAll_36 : decode cJ2_addAll 36 = .ok (.getfield 48, 3) := dk_180 0 48 (dk_at dksJ2_addAll_1 12 rfl rfl)
theorem dJ2_addAll_39 : decode cJ2_addAll 39 = .ok (.dup, 1) := dk_89 (dk_at dksJ2_addAll_1 15 rfl rfl)
theorem dJ2_addAll_40 : decode cJ2_addAll 40 = .ok (.istore 5, 2) := dk_54 5 (dk_at dksJ2_addAll_1 16 rfl rfl)
theorem dJ2_addAll_42 : decode cJ2_addAll 42 = .ok (.isub, 1) := dk_100 (dk_at dksJ2_addAll_1 18 rfl rfl)
theorem dJ2_addAll_43 : decode cJ2_addAll 43 = .ok (.if_icmp .le 13, 3) := dk_164 0 13 (dk_at dksJ2_addAll_1 19 rfl rfl)
theorem dJ2_addAll_46 : decode cJ2_addAll 46 = .ok (.aload_n 0, 1) := dk_42 (dk_at dksJ2_addAll_1 22 rfl rfl)
theorem dJ2_addAll_47 : decode cJ2_addAll 47 = .ok (.iload 5, 2) := dk_21 5 (dk_at dksJ2_addAll_2 0 rfl rfl)
theorem dJ2_addAll_49 : decode cJ2_addAll 49 = .ok (.iload_n 3, 1) := dk_29 (dk_at dksJ2_addAll_2 2 rfl rfl)
theorem dJ2_addAll_50 : decode cJ2_addAll 50 = .ok (.iadd, 1) := dk_96 (dk_at dksJ2_addAll_2 3 rfl rfl)
theorem dJ2_addAll_51 : decode cJ2_addAll 51 = .ok (.invokevirtual 69, 3) := dk_182 0 69 (dk_at dksJ2_addAll_2 4 rfl rfl)
theorem dJ2_addAll_54 : decode cJ2_addAll 54 = .ok (.astore 4, 2) := dk_58 4 (dk_at dksJ2_addAll_2 7 rfl rfl)
theorem dJ2_addAll_56 : decode cJ2_addAll 56 = .ok (.aload_n 2, 1) := dk_44 (dk_at dksJ2_addAll_2 9 rfl rfl)
theorem dJ2_addAll_57 : decode cJ2_addAll 57 = .ok (.iconst 0, 1) := dk_3 (dk_at dksJ2_addAll_2 10 rfl rfl)
theorem dJ2_addAll_58 : decode cJ2_addAll 58 = .ok (.aload 4, 2) := dk_25 4 (dk_at dksJ2_addAll_2 11 rfl rfl)
theorem dJ2_addAll_60 : decode cJ2_addAll 60 = .ok (.iload 5, 2) := dk_21 5 (dk_at dksJ2_addAll_2 13 rfl rfl)
theorem dJ2_addAll_62 : decode cJ2_addAll 62 = .ok (.iload_n 3, 1) := dk_29 (dk_at dksJ2_addAll_2 15 rfl rfl)
theorem dJ2_addAll_63 : decode cJ2_addAll 63 = .ok (.invokestatic 112, 3) := dk_184 0 112 (dk_at dksJ2_addAll_2 16 rfl rfl)
theorem dJ2_addAll_66 : decode cJ2_addAll 66 = .ok (.aload_n 0, 1) := dk_42 (dk_at dksJ2_addAll_2 19 rfl rfl)
theorem dJ2_addAll_67 : decode cJ2_addAll 67 = .ok (.iload 5, 2) := dk_21 5 (dk_at dksJ2_addAll_2 20 rfl rfl)
theorem dJ2_addAll_69 : decode cJ2_addAll 69 = .ok (.iload_n 3, 1) := dk_29 (dk_at dksJ2_addAll_2 22 rfl rfl)
theorem dJ2_addAll_70 : decode cJ2_addAll 70 = .ok (.iadd, 1) := dk_96 (dk_at dksJ2_addAll_2 23 rfl rfl)
theorem dJ2_addAll_71 : decode cJ2_addAll 71 = .ok (.putfield 48, 3) := dk_181 0 48 (dk_at dksJ2_addAll_3 0 rfl rfl)
theorem dJ2_addAll_74 : decode cJ2_addAll 74 = .ok (.iconst 1, 1) := dk_4 (dk_at dksJ2_addAll_3 3 rfl rfl)
theorem dJ2_addAll_75 : decode cJ2_addAll 75 = .ok (.ireturn, 1) := dk_172 (dk_at dksJ2_addAll_3 4 rfl rfl)
abbrev cJ2_toArray : ByteArray := prog_39_method_16_code
def yJ2_toArray : MethodName := ⟨RJ2, "toArray", "()[Ljava/lang/Object;"⟩
def dkwJ2_toArray_0 : List UInt8 := [42, 180, 0, 9, 42, 180, 0, 48, 184, 0, 66, 176]
abbrev dktJ2_toArray_0 : List UInt8 := dkwJ2_toArray_0 ++ []
theorem dksJ2_toArray_0 : cJ2_toArray.data.toList.drop 0 = dktJ2_toArray_0 := by decide +kernel
theorem dJ2_toArray_0 : decode cJ2_toArray 0 = .ok (.aload_n 0, 1) := dk_42 (dk_at dksJ2_toArray_0 0 rfl rfl)
theorem dJ2_toArray_1 : decode cJ2_toArray 1 = .ok (.getfield 9, 3) := dk_180 0 9 (dk_at dksJ2_toArray_0 1 rfl rfl)
theorem dJ2_toArray_4 : decode cJ2_toArray 4 = .ok (.aload_n 0, 1) := dk_42 (dk_at dksJ2_toArray_0 4 rfl rfl)
theorem dJ2_toArray_5 : decode cJ2_toArray 5 = .ok (.getfield 48, 3) := dk_180 0 48 (dk_at dksJ2_toArray_0 5 rfl rfl)
theorem dJ2_toArray_8 : decode cJ2_toArray 8 = .ok (.invokestatic 66, 3) := dk_184 0 66 (dk_at dksJ2_toArray_0 8 rfl rfl)
theorem dJ2_toArray_11 : decode cJ2_toArray 11 = .ok (.areturn, 1) := dk_176 (dk_at dksJ2_toArray_0 11 rfl rfl)
abbrev cJ3_init : ByteArray := prog_30_method_1_code
def yJ3_init : MethodName := ⟨RJ3, "<init>", "()V"⟩
theorem dJ3_init_0 : decode cJ3_init 0 = .ok (.aload_n 0, 1) := by decide +kernel
theorem dJ3_init_1 : decode cJ3_init 1 = .ok (.invokespecial 1, 3) := by decide +kernel
theorem dJ3_init_4 : decode cJ3_init 4 = .ok (.return_, 1) := by decide +kernel
abbrev cX4_init : ByteArray := prog_19_method_1_code
def yX4_init : MethodName := ⟨RX4, "<init>", "(I)V"⟩
def dkwX4_init_0 : List UInt8 := [42, 183, 0, 1, 42, 27, 181, 0, 7, 177]
abbrev dktX4_init_0 : List UInt8 := dkwX4_init_0 ++ []
theorem dksX4_init_0 : cX4_init.data.toList.drop 0 = dktX4_init_0 := by decide +kernel
theorem dX4_init_0 : decode cX4_init 0 = .ok (.aload_n 0, 1) := dk_42 (dk_at dksX4_init_0 0 rfl rfl)
theorem dX4_init_1 : decode cX4_init 1 = .ok (.invokespecial 1, 3) := dk_183 0 1 (dk_at dksX4_init_0 1 rfl rfl)
theorem dX4_init_4 : decode cX4_init 4 = .ok (.aload_n 0, 1) := dk_42 (dk_at dksX4_init_0 4 rfl rfl)
theorem dX4_init_5 : decode cX4_init 5 = .ok (.iload_n 1, 1) := dk_27 (dk_at dksX4_init_0 5 rfl rfl)
theorem dX4_init_6 : decode cX4_init 6 = .ok (.putfield 7, 3) := dk_181 0 7 (dk_at dksX4_init_0 6 rfl rfl)
theorem dX4_init_9 : decode cX4_init 9 = .ok (.return_, 1) := dk_177 (dk_at dksX4_init_0 9 rfl rfl)
abbrev cX4_value : ByteArray := prog_19_method_2_code
def yX4_value : MethodName := ⟨RX4, "value", "(LStiltTown$View;)I"⟩
theorem dX4_value_0 : decode cX4_value 0 = .ok (.aload_n 0, 1) := by decide +kernel
theorem dX4_value_1 : decode cX4_value 1 = .ok (.getfield 7, 3) := by decide +kernel
theorem dX4_value_4 : decode cX4_value 4 = .ok (.ireturn, 1) := by decide +kernel
abbrev cX5_init : ByteArray := prog_12_method_1_code
def yX5_init : MethodName := ⟨RX5, "<init>", "(I)V"⟩
def dkwX5_init_0 : List UInt8 := [42, 183, 0, 1, 42, 27, 181, 0, 7, 177]
abbrev dktX5_init_0 : List UInt8 := dkwX5_init_0 ++ []
theorem dksX5_init_0 : cX5_init.data.toList.drop 0 = dktX5_init_0 := by decide +kernel
theorem dX5_init_0 : decode cX5_init 0 = .ok (.aload_n 0, 1) := dk_42 (dk_at dksX5_init_0 0 rfl rfl)
theorem dX5_init_1 : decode cX5_init 1 = .ok (.invokespecial 1, 3) := dk_183 0 1 (dk_at dksX5_init_0 1 rfl rfl)
theorem dX5_init_4 : decode cX5_init 4 = .ok (.aload_n 0, 1) := dk_42 (dk_at dksX5_init_0 4 rfl rfl)
theorem dX5_init_5 : decode cX5_init 5 = .ok (.iload_n 1, 1) := dk_27 (dk_at dksX5_init_0 5 rfl rfl)
theorem dX5_init_6 : decode cX5_init 6 = .ok (.putfield 7, 3) := dk_181 0 7 (dk_at dksX5_init_0 6 rfl rfl)
theorem dX5_init_9 : decode cX5_init 9 = .ok (.return_, 1) := dk_177 (dk_at dksX5_init_0 9 rfl rfl)
abbrev cX5_value : ByteArray := prog_12_method_2_code
def yX5_value : MethodName := ⟨RX5, "value", "(LStiltTown$View;)I"⟩
def dkwX5_value_0 : List UInt8 := [43, 180, 0, 13, 42, 180, 0, 7, 46, 172]
abbrev dktX5_value_0 : List UInt8 := dkwX5_value_0 ++ []
theorem dksX5_value_0 : cX5_value.data.toList.drop 0 = dktX5_value_0 := by decide +kernel
theorem dX5_value_0 : decode cX5_value 0 = .ok (.aload_n 1, 1) := dk_43 (dk_at dksX5_value_0 0 rfl rfl)
theorem dX5_value_1 : decode cX5_value 1 = .ok (.getfield 13, 3) := dk_180 0 13 (dk_at dksX5_value_0 1 rfl rfl)
theorem dX5_value_4 : decode cX5_value 4 = .ok (.aload_n 0, 1) := dk_42 (dk_at dksX5_value_0 4 rfl rfl)
theorem dX5_value_5 : decode cX5_value 5 = .ok (.getfield 7, 3) := dk_180 0 7 (dk_at dksX5_value_0 5 rfl rfl)
theorem dX5_value_8 : decode cX5_value 8 = .ok (.iaload, 1) := dk_46 (dk_at dksX5_value_0 8 rfl rfl)
theorem dX5_value_9 : decode cX5_value 9 = .ok (.ireturn, 1) := dk_172 (dk_at dksX5_value_0 9 rfl rfl)
abbrev cX6_init : ByteArray := prog_14_method_1_code
def yX6_init : MethodName := ⟨RX6, "<init>", "()V"⟩
def dkwX6_init_2 : List UInt8 := [181, 0, 28, 177]
abbrev dktX6_init_2 : List UInt8 := dkwX6_init_2 ++ []
def dkwX6_init_1 : List UInt8 := [188, 10, 181, 0, 18, 42, 187, 0, 21, 89, 183, 0, 23, 181, 0, 24, 42, 187, 0, 21, 89, 183, 0, 23]
abbrev dktX6_init_1 : List UInt8 := dkwX6_init_1 ++ dktX6_init_2
def dkwX6_init_0 : List UInt8 := [42, 183, 0, 3, 42, 16, 16, 188, 10, 181, 0, 9, 42, 16, 16, 188, 10, 181, 0, 15, 42, 16, 8]
abbrev dktX6_init_0 : List UInt8 := dkwX6_init_0 ++ dktX6_init_1
theorem dksX6_init_0 : cX6_init.data.toList.drop 0 = dktX6_init_0 := by decide +kernel
theorem dksX6_init_1 : cX6_init.data.toList.drop 23 = dktX6_init_1 := dk_seg dksX6_init_0 23 rfl rfl
theorem dksX6_init_2 : cX6_init.data.toList.drop 47 = dktX6_init_2 := dk_seg dksX6_init_1 24 rfl rfl
theorem dX6_init_0 : decode cX6_init 0 = .ok (.aload_n 0, 1) := dk_42 (dk_at dksX6_init_0 0 rfl rfl)
theorem dX6_init_1 : decode cX6_init 1 = .ok (.invokespecial 3, 3) := dk_183 0 3 (dk_at dksX6_init_0 1 rfl rfl)
theorem dX6_init_4 : decode cX6_init 4 = .ok (.aload_n 0, 1) := dk_42 (dk_at dksX6_init_0 4 rfl rfl)
theorem dX6_init_5 : decode cX6_init 5 = .ok (.bipush 16, 2) := dk_16 16 (dk_at dksX6_init_0 5 rfl rfl)
theorem dX6_init_7 : decode cX6_init 7 = .ok (.newarray .int, 2) := dk_188_10 (dk_at dksX6_init_0 7 rfl rfl)
theorem dX6_init_9 : decode cX6_init 9 = .ok (.putfield 9, 3) := dk_181 0 9 (dk_at dksX6_init_0 9 rfl rfl)
theorem dX6_init_12 : decode cX6_init 12 = .ok (.aload_n 0, 1) := dk_42 (dk_at dksX6_init_0 12 rfl rfl)
theorem dX6_init_13 : decode cX6_init 13 = .ok (.bipush 16, 2) := dk_16 16 (dk_at dksX6_init_0 13 rfl rfl)
theorem dX6_init_15 : decode cX6_init 15 = .ok (.newarray .int, 2) := dk_188_10 (dk_at dksX6_init_0 15 rfl rfl)
theorem dX6_init_17 : decode cX6_init 17 = .ok (.putfield 15, 3) := dk_181 0 15 (dk_at dksX6_init_0 17 rfl rfl)
theorem dX6_init_20 : decode cX6_init 20 = .ok (.aload_n 0, 1) := dk_42 (dk_at dksX6_init_0 20 rfl rfl)
theorem dX6_init_21 : decode cX6_init 21 = .ok (.bipush 8, 2) := dk_16 8 (dk_at dksX6_init_0 21 rfl rfl)
theorem dX6_init_23 : decode cX6_init 23 = .ok (.newarray .int, 2) := dk_188_10 (dk_at dksX6_init_1 0 rfl rfl)
theorem dX6_init_25 : decode cX6_init 25 = .ok (.putfield 18, 3) := dk_181 0 18 (dk_at dksX6_init_1 2 rfl rfl)
theorem dX6_init_28 : decode cX6_init 28 = .ok (.aload_n 0, 1) := dk_42 (dk_at dksX6_init_1 5 rfl rfl)
theorem dX6_init_29 : decode cX6_init 29 = .ok (.new 21, 3) := dk_187 0 21 (dk_at dksX6_init_1 6 rfl rfl)
theorem dX6_init_32 : decode cX6_init 32 = .ok (.dup, 1) := dk_89 (dk_at dksX6_init_1 9 rfl rfl)
theorem dX6_init_33 : decode cX6_init 33 = .ok (.invokespecial 23, 3) := dk_183 0 23 (dk_at dksX6_init_1 10 rfl rfl)
theorem dX6_init_36 : decode cX6_init 36 = .ok (.putfield 24, 3) := dk_181 0 24 (dk_at dksX6_init_1 13 rfl rfl)
theorem dX6_init_39 : decode cX6_init 39 = .ok (.aload_n 0, 1) := dk_42 (dk_at dksX6_init_1 16 rfl rfl)
theorem dX6_init_40 : decode cX6_init 40 = .ok (.new 21, 3) := dk_187 0 21 (dk_at dksX6_init_1 17 rfl rfl)
theorem dX6_init_43 : decode cX6_init 43 = .ok (.dup, 1) := dk_89 (dk_at dksX6_init_1 20 rfl rfl)
theorem dX6_init_44 : decode cX6_init 44 = .ok (.invokespecial 23, 3) := dk_183 0 23 (dk_at dksX6_init_1 21 rfl rfl)
theorem dX6_init_47 : decode cX6_init 47 = .ok (.putfield 28, 3) := dk_181 0 28 (dk_at dksX6_init_2 0 rfl rfl)
theorem dX6_init_50 : decode cX6_init 50 = .ok (.return_, 1) := dk_177 (dk_at dksX6_init_2 3 rfl rfl)
abbrev cX6_twin : ByteArray := prog_14_method_2_code
def yX6_twin : MethodName := ⟨RX6, "twin", "()LStiltTown$State;"⟩
def dkwX6_twin_3 : List UInt8 := [87, 43, 180, 0, 28, 42, 180, 0, 28, 182, 0, 42, 87, 43, 176]
abbrev dktX6_twin_3 : List UInt8 := dkwX6_twin_3 ++ []
def dkwX6_twin_2 : List UInt8 := [16, 8, 184, 0, 32, 43, 42, 180, 0, 38, 181, 0, 38, 43, 180, 0, 24, 42, 180, 0, 24, 182, 0, 42]
abbrev dktX6_twin_2 : List UInt8 := dkwX6_twin_2 ++ dktX6_twin_3
def dkwX6_twin_1 : List UInt8 := [180, 0, 15, 3, 43, 180, 0, 15, 3, 16, 16, 184, 0, 32, 42, 180, 0, 18, 3, 43, 180, 0, 18, 3]
abbrev dktX6_twin_1 : List UInt8 := dkwX6_twin_1 ++ dktX6_twin_2
def dkwX6_twin_0 : List UInt8 := [187, 0, 10, 89, 183, 0, 31, 76, 42, 180, 0, 9, 3, 43, 180, 0, 9, 3, 16, 16, 184, 0, 32, 42]
abbrev dktX6_twin_0 : List UInt8 := dkwX6_twin_0 ++ dktX6_twin_1
theorem dksX6_twin_0 : cX6_twin.data.toList.drop 0 = dktX6_twin_0 := by decide +kernel
theorem dksX6_twin_1 : cX6_twin.data.toList.drop 24 = dktX6_twin_1 := dk_seg dksX6_twin_0 24 rfl rfl
theorem dksX6_twin_2 : cX6_twin.data.toList.drop 48 = dktX6_twin_2 := dk_seg dksX6_twin_1 24 rfl rfl
theorem dksX6_twin_3 : cX6_twin.data.toList.drop 72 = dktX6_twin_3 := dk_seg dksX6_twin_2 24 rfl rfl
theorem dX6_twin_0 : decode cX6_twin 0 = .ok (.new 10, 3) := dk_187 0 10 (dk_at dksX6_twin_0 0 rfl rfl)
theorem dX6_twin_3 : decode cX6_twin 3 = .ok (.dup, 1) := dk_89 (dk_at dksX6_twin_0 3 rfl rfl)
theorem dX6_twin_4 : decode cX6_twin 4 = .ok (.invokespecial 31, 3) := dk_183 0 31 (dk_at dksX6_twin_0 4 rfl rfl)
theorem dX6_twin_7 : decode cX6_twin 7 = .ok (.astore_n 1, 1) := dk_76 (dk_at dksX6_twin_0 7 rfl rfl)
theorem dX6_twin_8 : decode cX6_twin 8 = .ok (.aload_n 0, 1) := dk_42 (dk_at dksX6_twin_0 8 rfl rfl)
theorem dX6_twin_9 : decode cX6_twin 9 = .ok (.getfield 9, 3) := dk_180 0 9 (dk_at dksX6_twin_0 9 rfl rfl)
theorem dX6_twin_12 : decode cX6_twin 12 = .ok (.iconst 0, 1) := dk_3 (dk_at dksX6_twin_0 12 rfl rfl)
theorem dX6_twin_13 : decode cX6_twin 13 = .ok (.aload_n 1, 1) := dk_43 (dk_at dksX6_twin_0 13 rfl rfl)
theorem dX6_twin_14 : decode cX6_twin 14 = .ok (.getfield 9, 3) := dk_180 0 9 (dk_at dksX6_twin_0 14 rfl rfl)
theorem dX6_twin_17 : decode cX6_twin 17 = .ok (.iconst 0, 1) := dk_3 (dk_at dksX6_twin_0 17 rfl rfl)
theorem dX6_twin_18 : decode cX6_twin 18 = .ok (.bipush 16, 2) := dk_16 16 (dk_at dksX6_twin_0 18 rfl rfl)
theorem dX6_twin_20 : decode cX6_twin 20 = .ok (.invokestatic 32, 3) := dk_184 0 32 (dk_at dksX6_twin_0 20 rfl rfl)
theorem dX6_twin_23 : decode cX6_twin 23 = .ok (.aload_n 0, 1) := dk_42 (dk_at dksX6_twin_0 23 rfl rfl)
theorem dX6_twin_24 : decode cX6_twin 24 = .ok (.getfield 15, 3) := dk_180 0 15 (dk_at dksX6_twin_1 0 rfl rfl)
theorem dX6_twin_27 : decode cX6_twin 27 = .ok (.iconst 0, 1) := dk_3 (dk_at dksX6_twin_1 3 rfl rfl)
theorem dX6_twin_28 : decode cX6_twin 28 = .ok (.aload_n 1, 1) := dk_43 (dk_at dksX6_twin_1 4 rfl rfl)
theorem dX6_twin_29 : decode cX6_twin 29 = .ok (.getfield 15, 3) := dk_180 0 15 (dk_at dksX6_twin_1 5 rfl rfl)
theorem dX6_twin_32 : decode cX6_twin 32 = .ok (.iconst 0, 1) := dk_3 (dk_at dksX6_twin_1 8 rfl rfl)
theorem dX6_twin_33 : decode cX6_twin 33 = .ok (.bipush 16, 2) := dk_16 16 (dk_at dksX6_twin_1 9 rfl rfl)
theorem dX6_twin_35 : decode cX6_twin 35 = .ok (.invokestatic 32, 3) := dk_184 0 32 (dk_at dksX6_twin_1 11 rfl rfl)
theorem dX6_twin_38 : decode cX6_twin 38 = .ok (.aload_n 0, 1) := dk_42 (dk_at dksX6_twin_1 14 rfl rfl)
theorem dX6_twin_39 : decode cX6_twin 39 = .ok (.getfield 18, 3) := dk_180 0 18 (dk_at dksX6_twin_1 15 rfl rfl)
theorem dX6_twin_42 : decode cX6_twin 42 = .ok (.iconst 0, 1) := dk_3 (dk_at dksX6_twin_1 18 rfl rfl)
theorem dX6_twin_43 : decode cX6_twin 43 = .ok (.aload_n 1, 1) := dk_43 (dk_at dksX6_twin_1 19 rfl rfl)
theorem dX6_twin_44 : decode cX6_twin 44 = .ok (.getfield 18, 3) := dk_180 0 18 (dk_at dksX6_twin_1 20 rfl rfl)
theorem dX6_twin_47 : decode cX6_twin 47 = .ok (.iconst 0, 1) := dk_3 (dk_at dksX6_twin_1 23 rfl rfl)
theorem dX6_twin_48 : decode cX6_twin 48 = .ok (.bipush 8, 2) := dk_16 8 (dk_at dksX6_twin_2 0 rfl rfl)
theorem dX6_twin_50 : decode cX6_twin 50 = .ok (.invokestatic 32, 3) := dk_184 0 32 (dk_at dksX6_twin_2 2 rfl rfl)
theorem dX6_twin_53 : decode cX6_twin 53 = .ok (.aload_n 1, 1) := dk_43 (dk_at dksX6_twin_2 5 rfl rfl)
theorem dX6_twin_54 : decode cX6_twin 54 = .ok (.aload_n 0, 1) := dk_42 (dk_at dksX6_twin_2 6 rfl rfl)
theorem dX6_twin_55 : decode cX6_twin 55 = .ok (.getfield 38, 3) := dk_180 0 38 (dk_at dksX6_twin_2 7 rfl rfl)
theorem dX6_twin_58 : decode cX6_twin 58 = .ok (.putfield 38, 3) := dk_181 0 38 (dk_at dksX6_twin_2 10 rfl rfl)
theorem dX6_twin_61 : decode cX6_twin 61 = .ok (.aload_n 1, 1) := dk_43 (dk_at dksX6_twin_2 13 rfl rfl)
theorem dX6_twin_62 : decode cX6_twin 62 = .ok (.getfield 24, 3) := dk_180 0 24 (dk_at dksX6_twin_2 14 rfl rfl)
theorem dX6_twin_65 : decode cX6_twin 65 = .ok (.aload_n 0, 1) := dk_42 (dk_at dksX6_twin_2 17 rfl rfl)
theorem dX6_twin_66 : decode cX6_twin 66 = .ok (.getfield 24, 3) := dk_180 0 24 (dk_at dksX6_twin_2 18 rfl rfl)
theorem dX6_twin_69 : decode cX6_twin 69 = .ok (.invokevirtual 42, 3) := dk_182 0 42 (dk_at dksX6_twin_2 21 rfl rfl)
theorem dX6_twin_72 : decode cX6_twin 72 = .ok (.pop, 1) := dk_87 (dk_at dksX6_twin_3 0 rfl rfl)
theorem dX6_twin_73 : decode cX6_twin 73 = .ok (.aload_n 1, 1) := dk_43 (dk_at dksX6_twin_3 1 rfl rfl)
theorem dX6_twin_74 : decode cX6_twin 74 = .ok (.getfield 28, 3) := dk_180 0 28 (dk_at dksX6_twin_3 2 rfl rfl)
theorem dX6_twin_77 : decode cX6_twin 77 = .ok (.aload_n 0, 1) := dk_42 (dk_at dksX6_twin_3 5 rfl rfl)
theorem dX6_twin_78 : decode cX6_twin 78 = .ok (.getfield 28, 3) := dk_180 0 28 (dk_at dksX6_twin_3 6 rfl rfl)
theorem dX6_twin_81 : decode cX6_twin 81 = .ok (.invokevirtual 42, 3) := dk_182 0 42 (dk_at dksX6_twin_3 9 rfl rfl)
theorem dX6_twin_84 : decode cX6_twin 84 = .ok (.pop, 1) := dk_87 (dk_at dksX6_twin_3 12 rfl rfl)
theorem dX6_twin_85 : decode cX6_twin 85 = .ok (.aload_n 1, 1) := dk_43 (dk_at dksX6_twin_3 13 rfl rfl)
theorem dX6_twin_86 : decode cX6_twin 86 = .ok (.areturn, 1) := dk_176 (dk_at dksX6_twin_3 14 rfl rfl)
abbrev cX7_init : ByteArray := prog_18_method_1_code
def yX7_init : MethodName := ⟨RX7, "<init>", "()V"⟩
def dkwX7_init_0 : List UInt8 := [42, 183, 0, 1, 42, 16, 9, 188, 10, 181, 0, 7, 177]
abbrev dktX7_init_0 : List UInt8 := dkwX7_init_0 ++ []
theorem dksX7_init_0 : cX7_init.data.toList.drop 0 = dktX7_init_0 := by decide +kernel
theorem dX7_init_0 : decode cX7_init 0 = .ok (.aload_n 0, 1) := dk_42 (dk_at dksX7_init_0 0 rfl rfl)
theorem dX7_init_1 : decode cX7_init 1 = .ok (.invokespecial 1, 3) := dk_183 0 1 (dk_at dksX7_init_0 1 rfl rfl)
theorem dX7_init_4 : decode cX7_init 4 = .ok (.aload_n 0, 1) := dk_42 (dk_at dksX7_init_0 4 rfl rfl)
theorem dX7_init_5 : decode cX7_init 5 = .ok (.bipush 9, 2) := dk_16 9 (dk_at dksX7_init_0 5 rfl rfl)
theorem dX7_init_7 : decode cX7_init 7 = .ok (.newarray .int, 2) := dk_188_10 (dk_at dksX7_init_0 7 rfl rfl)
theorem dX7_init_9 : decode cX7_init 9 = .ok (.putfield 7, 3) := dk_181 0 7 (dk_at dksX7_init_0 9 rfl rfl)
theorem dX7_init_12 : decode cX7_init 12 = .ok (.return_, 1) := dk_177 (dk_at dksX7_init_0 12 rfl rfl)
abbrev cX7_clear : ByteArray := prog_18_method_2_code
def yX7_clear : MethodName := ⟨RX7, "clear", "()V"⟩
def dkwX7_clear_1 : List UInt8 := [177]
abbrev dktX7_clear_1 : List UInt8 := dkwX7_clear_1 ++ []
def dkwX7_clear_0 : List UInt8 := [3, 60, 27, 42, 180, 0, 7, 190, 162, 0, 16, 42, 180, 0, 7, 27, 3, 79, 132, 1, 1, 167, 255, 237]
abbrev dktX7_clear_0 : List UInt8 := dkwX7_clear_0 ++ dktX7_clear_1
theorem dksX7_clear_0 : cX7_clear.data.toList.drop 0 = dktX7_clear_0 := by decide +kernel
theorem dksX7_clear_1 : cX7_clear.data.toList.drop 24 = dktX7_clear_1 := dk_seg dksX7_clear_0 24 rfl rfl
theorem dX7_clear_0 : decode cX7_clear 0 = .ok (.iconst 0, 1) := dk_3 (dk_at dksX7_clear_0 0 rfl rfl)
theorem dX7_clear_1 : decode cX7_clear 1 = .ok (.istore_n 1, 1) := dk_60 (dk_at dksX7_clear_0 1 rfl rfl)
theorem dX7_clear_2 : decode cX7_clear 2 = .ok (.iload_n 1, 1) := dk_27 (dk_at dksX7_clear_0 2 rfl rfl)
theorem dX7_clear_3 : decode cX7_clear 3 = .ok (.aload_n 0, 1) := dk_42 (dk_at dksX7_clear_0 3 rfl rfl)
theorem dX7_clear_4 : decode cX7_clear 4 = .ok (.getfield 7, 3) := dk_180 0 7 (dk_at dksX7_clear_0 4 rfl rfl)
theorem dX7_clear_7 : decode cX7_clear 7 = .ok (.arraylength, 1) := dk_190 (dk_at dksX7_clear_0 7 rfl rfl)
theorem dX7_clear_8 : decode cX7_clear 8 = .ok (.if_icmp .ge 16, 3) := dk_162 0 16 (dk_at dksX7_clear_0 8 rfl rfl)
theorem dX7_clear_11 : decode cX7_clear 11 = .ok (.aload_n 0, 1) := dk_42 (dk_at dksX7_clear_0 11 rfl rfl)
theorem dX7_clear_12 : decode cX7_clear 12 = .ok (.getfield 7, 3) := dk_180 0 7 (dk_at dksX7_clear_0 12 rfl rfl)
theorem dX7_clear_15 : decode cX7_clear 15 = .ok (.iload_n 1, 1) := dk_27 (dk_at dksX7_clear_0 15 rfl rfl)
theorem dX7_clear_16 : decode cX7_clear 16 = .ok (.iconst 0, 1) := dk_3 (dk_at dksX7_clear_0 16 rfl rfl)
theorem dX7_clear_17 : decode cX7_clear 17 = .ok (.iastore, 1) := dk_79 (dk_at dksX7_clear_0 17 rfl rfl)
theorem dX7_clear_18 : decode cX7_clear 18 = .ok (.iinc 1 1, 3) := dk_132 1 1 (dk_at dksX7_clear_0 18 rfl rfl)
theorem dX7_clear_21 : decode cX7_clear 21 = .ok (.goto (-19), 3) := dk_167 255 237 (dk_at dksX7_clear_0 21 rfl rfl)
theorem dX7_clear_24 : decode cX7_clear 24 = .ok (.return_, 1) := dk_177 (dk_at dksX7_clear_1 0 rfl rfl)
abbrev cX7_says : ByteArray := prog_18_method_3_code
def yX7_says : MethodName := ⟨RX7, "says", "(LStiltTown$Term;I)I"⟩
def dkwX7_says_1 : List UInt8 := [29, 28, 184, 0, 23, 172]
abbrev dktX7_says_1 : List UInt8 := dkwX7_says_1 ++ []
def dkwX7_says_0 : List UInt8 := [42, 3, 181, 0, 13, 43, 42, 185, 0, 17, 2, 0, 62, 42, 180, 0, 13, 153, 0, 7, 3, 167, 0, 8]
abbrev dktX7_says_0 : List UInt8 := dkwX7_says_0 ++ dktX7_says_1
theorem dksX7_says_0 : cX7_says.data.toList.drop 0 = dktX7_says_0 := by decide +kernel
theorem dksX7_says_1 : cX7_says.data.toList.drop 24 = dktX7_says_1 := dk_seg dksX7_says_0 24 rfl rfl
theorem dX7_says_0 : decode cX7_says 0 = .ok (.aload_n 0, 1) := dk_42 (dk_at dksX7_says_0 0 rfl rfl)
theorem dX7_says_1 : decode cX7_says 1 = .ok (.iconst 0, 1) := dk_3 (dk_at dksX7_says_0 1 rfl rfl)
theorem dX7_says_2 : decode cX7_says 2 = .ok (.putfield 13, 3) := dk_181 0 13 (dk_at dksX7_says_0 2 rfl rfl)
theorem dX7_says_5 : decode cX7_says 5 = .ok (.aload_n 1, 1) := dk_43 (dk_at dksX7_says_0 5 rfl rfl)
theorem dX7_says_6 : decode cX7_says 6 = .ok (.aload_n 0, 1) := dk_42 (dk_at dksX7_says_0 6 rfl rfl)
theorem dX7_says_7 : decode cX7_says 7 = .ok (.invokeinterface 17 2, 5) := by decide +kernel
theorem dX7_says_12 : decode cX7_says 12 = .ok (.istore_n 3, 1) := dk_62 (dk_at dksX7_says_0 12 rfl rfl)
theorem dX7_says_13 : decode cX7_says 13 = .ok (.aload_n 0, 1) := dk_42 (dk_at dksX7_says_0 13 rfl rfl)
theorem dX7_says_14 : decode cX7_says 14 = .ok (.getfield 13, 3) := dk_180 0 13 (dk_at dksX7_says_0 14 rfl rfl)
theorem dX7_says_17 : decode cX7_says 17 = .ok (.ifCond .eq 7, 3) := dk_153 0 7 (dk_at dksX7_says_0 17 rfl rfl)
theorem dX7_says_20 : decode cX7_says 20 = .ok (.iconst 0, 1) := dk_3 (dk_at dksX7_says_0 20 rfl rfl)
theorem dX7_says_21 : decode cX7_says 21 = .ok (.goto 8, 3) := dk_167 0 8 (dk_at dksX7_says_0 21 rfl rfl)
theorem dX7_says_24 : decode cX7_says 24 = .ok (.iload_n 3, 1) := dk_29 (dk_at dksX7_says_1 0 rfl rfl)
theorem dX7_says_25 : decode cX7_says 25 = .ok (.iload_n 2, 1) := dk_28 (dk_at dksX7_says_1 1 rfl rfl)
theorem dX7_says_26 : decode cX7_says 26 = .ok (.invokestatic 23, 3) := dk_184 0 23 (dk_at dksX7_says_1 2 rfl rfl)
theorem dX7_says_29 : decode cX7_says 29 = .ok (.ireturn, 1) := dk_172 (dk_at dksX7_says_1 5 rfl rfl)
abbrev cX8_init : ByteArray := prog_5_method_1_code
def yX8_init : MethodName := ⟨RX8, "<init>", "()V"⟩
def dkwX8_init_0 : List UInt8 := [42, 183, 0, 3, 42, 16, 16, 188, 10, 181, 0, 9, 42, 16, 8, 188, 10, 181, 0, 15, 177]
abbrev dktX8_init_0 : List UInt8 := dkwX8_init_0 ++ []
theorem dksX8_init_0 : cX8_init.data.toList.drop 0 = dktX8_init_0 := by decide +kernel
theorem dX8_init_0 : decode cX8_init 0 = .ok (.aload_n 0, 1) := dk_42 (dk_at dksX8_init_0 0 rfl rfl)
theorem dX8_init_1 : decode cX8_init 1 = .ok (.invokespecial 3, 3) := dk_183 0 3 (dk_at dksX8_init_0 1 rfl rfl)
theorem dX8_init_4 : decode cX8_init 4 = .ok (.aload_n 0, 1) := dk_42 (dk_at dksX8_init_0 4 rfl rfl)
theorem dX8_init_5 : decode cX8_init 5 = .ok (.bipush 16, 2) := dk_16 16 (dk_at dksX8_init_0 5 rfl rfl)
theorem dX8_init_7 : decode cX8_init 7 = .ok (.newarray .int, 2) := dk_188_10 (dk_at dksX8_init_0 7 rfl rfl)
theorem dX8_init_9 : decode cX8_init 9 = .ok (.putfield 9, 3) := dk_181 0 9 (dk_at dksX8_init_0 9 rfl rfl)
theorem dX8_init_12 : decode cX8_init 12 = .ok (.aload_n 0, 1) := dk_42 (dk_at dksX8_init_0 12 rfl rfl)
theorem dX8_init_13 : decode cX8_init 13 = .ok (.bipush 8, 2) := dk_16 8 (dk_at dksX8_init_0 13 rfl rfl)
theorem dX8_init_15 : decode cX8_init 15 = .ok (.newarray .int, 2) := dk_188_10 (dk_at dksX8_init_0 15 rfl rfl)
theorem dX8_init_17 : decode cX8_init 17 = .ok (.putfield 15, 3) := dk_181 0 15 (dk_at dksX8_init_0 17 rfl rfl)
theorem dX8_init_20 : decode cX8_init 20 = .ok (.return_, 1) := dk_177 (dk_at dksX8_init_0 20 rfl rfl)
abbrev cX8_keep : ByteArray := prog_5_method_2_code
def yX8_keep : MethodName := ⟨RX8, "keep", "(LStiltTown$State;)V"⟩
def dkwX8_keep_1 : List UInt8 := [3, 16, 8, 184, 0, 21, 177]
abbrev dktX8_keep_1 : List UInt8 := dkwX8_keep_1 ++ []
def dkwX8_keep_0 : List UInt8 := [43, 180, 0, 18, 3, 42, 180, 0, 9, 3, 16, 16, 184, 0, 21, 43, 180, 0, 27, 3, 42, 180, 0, 15]
abbrev dktX8_keep_0 : List UInt8 := dkwX8_keep_0 ++ dktX8_keep_1
theorem dksX8_keep_0 : cX8_keep.data.toList.drop 0 = dktX8_keep_0 := by decide +kernel
theorem dksX8_keep_1 : cX8_keep.data.toList.drop 24 = dktX8_keep_1 := dk_seg dksX8_keep_0 24 rfl rfl
theorem dX8_keep_0 : decode cX8_keep 0 = .ok (.aload_n 1, 1) := dk_43 (dk_at dksX8_keep_0 0 rfl rfl)
theorem dX8_keep_1 : decode cX8_keep 1 = .ok (.getfield 18, 3) := dk_180 0 18 (dk_at dksX8_keep_0 1 rfl rfl)
theorem dX8_keep_4 : decode cX8_keep 4 = .ok (.iconst 0, 1) := dk_3 (dk_at dksX8_keep_0 4 rfl rfl)
theorem dX8_keep_5 : decode cX8_keep 5 = .ok (.aload_n 0, 1) := dk_42 (dk_at dksX8_keep_0 5 rfl rfl)
theorem dX8_keep_6 : decode cX8_keep 6 = .ok (.getfield 9, 3) := dk_180 0 9 (dk_at dksX8_keep_0 6 rfl rfl)
theorem dX8_keep_9 : decode cX8_keep 9 = .ok (.iconst 0, 1) := dk_3 (dk_at dksX8_keep_0 9 rfl rfl)
theorem dX8_keep_10 : decode cX8_keep 10 = .ok (.bipush 16, 2) := dk_16 16 (dk_at dksX8_keep_0 10 rfl rfl)
theorem dX8_keep_12 : decode cX8_keep 12 = .ok (.invokestatic 21, 3) := dk_184 0 21 (dk_at dksX8_keep_0 12 rfl rfl)
theorem dX8_keep_15 : decode cX8_keep 15 = .ok (.aload_n 1, 1) := dk_43 (dk_at dksX8_keep_0 15 rfl rfl)
theorem dX8_keep_16 : decode cX8_keep 16 = .ok (.getfield 27, 3) := dk_180 0 27 (dk_at dksX8_keep_0 16 rfl rfl)
theorem dX8_keep_19 : decode cX8_keep 19 = .ok (.iconst 0, 1) := dk_3 (dk_at dksX8_keep_0 19 rfl rfl)
theorem dX8_keep_20 : decode cX8_keep 20 = .ok (.aload_n 0, 1) := dk_42 (dk_at dksX8_keep_0 20 rfl rfl)
theorem dX8_keep_21 : decode cX8_keep 21 = .ok (.getfield 15, 3) := dk_180 0 15 (dk_at dksX8_keep_0 21 rfl rfl)
theorem dX8_keep_24 : decode cX8_keep 24 = .ok (.iconst 0, 1) := dk_3 (dk_at dksX8_keep_1 0 rfl rfl)
theorem dX8_keep_25 : decode cX8_keep 25 = .ok (.bipush 8, 2) := dk_16 8 (dk_at dksX8_keep_1 1 rfl rfl)
theorem dX8_keep_27 : decode cX8_keep 27 = .ok (.invokestatic 21, 3) := dk_184 0 21 (dk_at dksX8_keep_1 3 rfl rfl)
theorem dX8_keep_30 : decode cX8_keep 30 = .ok (.return_, 1) := dk_177 (dk_at dksX8_keep_1 6 rfl rfl)
abbrev cX8_back : ByteArray := prog_5_method_3_code
def yX8_back : MethodName := ⟨RX8, "back", "(LStiltTown$State;)V"⟩
def dkwX8_back_1 : List UInt8 := [3, 16, 8, 184, 0, 21, 177]
abbrev dktX8_back_1 : List UInt8 := dkwX8_back_1 ++ []
def dkwX8_back_0 : List UInt8 := [42, 180, 0, 9, 3, 43, 180, 0, 18, 3, 16, 16, 184, 0, 21, 42, 180, 0, 15, 3, 43, 180, 0, 27]
abbrev dktX8_back_0 : List UInt8 := dkwX8_back_0 ++ dktX8_back_1
theorem dksX8_back_0 : cX8_back.data.toList.drop 0 = dktX8_back_0 := by decide +kernel
theorem dksX8_back_1 : cX8_back.data.toList.drop 24 = dktX8_back_1 := dk_seg dksX8_back_0 24 rfl rfl
theorem dX8_back_0 : decode cX8_back 0 = .ok (.aload_n 0, 1) := dk_42 (dk_at dksX8_back_0 0 rfl rfl)
theorem dX8_back_1 : decode cX8_back 1 = .ok (.getfield 9, 3) := dk_180 0 9 (dk_at dksX8_back_0 1 rfl rfl)
theorem dX8_back_4 : decode cX8_back 4 = .ok (.iconst 0, 1) := dk_3 (dk_at dksX8_back_0 4 rfl rfl)
theorem dX8_back_5 : decode cX8_back 5 = .ok (.aload_n 1, 1) := dk_43 (dk_at dksX8_back_0 5 rfl rfl)
theorem dX8_back_6 : decode cX8_back 6 = .ok (.getfield 18, 3) := dk_180 0 18 (dk_at dksX8_back_0 6 rfl rfl)
theorem dX8_back_9 : decode cX8_back 9 = .ok (.iconst 0, 1) := dk_3 (dk_at dksX8_back_0 9 rfl rfl)
theorem dX8_back_10 : decode cX8_back 10 = .ok (.bipush 16, 2) := dk_16 16 (dk_at dksX8_back_0 10 rfl rfl)
theorem dX8_back_12 : decode cX8_back 12 = .ok (.invokestatic 21, 3) := dk_184 0 21 (dk_at dksX8_back_0 12 rfl rfl)
theorem dX8_back_15 : decode cX8_back 15 = .ok (.aload_n 0, 1) := dk_42 (dk_at dksX8_back_0 15 rfl rfl)
theorem dX8_back_16 : decode cX8_back 16 = .ok (.getfield 15, 3) := dk_180 0 15 (dk_at dksX8_back_0 16 rfl rfl)
theorem dX8_back_19 : decode cX8_back 19 = .ok (.iconst 0, 1) := dk_3 (dk_at dksX8_back_0 19 rfl rfl)
theorem dX8_back_20 : decode cX8_back 20 = .ok (.aload_n 1, 1) := dk_43 (dk_at dksX8_back_0 20 rfl rfl)
theorem dX8_back_21 : decode cX8_back 21 = .ok (.getfield 27, 3) := dk_180 0 27 (dk_at dksX8_back_0 21 rfl rfl)
theorem dX8_back_24 : decode cX8_back 24 = .ok (.iconst 0, 1) := dk_3 (dk_at dksX8_back_1 0 rfl rfl)
theorem dX8_back_25 : decode cX8_back 25 = .ok (.bipush 8, 2) := dk_16 8 (dk_at dksX8_back_1 1 rfl rfl)
theorem dX8_back_27 : decode cX8_back 27 = .ok (.invokestatic 21, 3) := dk_184 0 21 (dk_at dksX8_back_1 3 rfl rfl)
theorem dX8_back_30 : decode cX8_back 30 = .ok (.return_, 1) := dk_177 (dk_at dksX8_back_1 6 rfl rfl)
abbrev cJ4_length : ByteArray := prog_32_method_54_code
def yJ4_length : MethodName := ⟨RJ4, "length", "()I"⟩
def dkwJ4_length_0 : List UInt8 := [42, 180, 0, 9, 190, 42, 182, 1, 79, 122, 172]
abbrev dktJ4_length_0 : List UInt8 := dkwJ4_length_0 ++ []
theorem dksJ4_length_0 : cJ4_length.data.toList.drop 0 = dktJ4_length_0 := by decide +kernel
theorem dJ4_length_0 : decode cJ4_length 0 = .ok (.aload_n 0, 1) := dk_42 (dk_at dksJ4_length_0 0 rfl rfl)
theorem dJ4_length_1 : decode cJ4_length 1 = .ok (.getfield 9, 3) := dk_180 0 9 (dk_at dksJ4_length_0 1 rfl rfl)
theorem dJ4_length_4 : decode cJ4_length 4 = .ok (.arraylength, 1) := dk_190 (dk_at dksJ4_length_0 4 rfl rfl)
theorem dJ4_length_5 : decode cJ4_length 5 = .ok (.aload_n 0, 1) := dk_42 (dk_at dksJ4_length_0 5 rfl rfl)
theorem dJ4_length_6 : decode cJ4_length 6 = .ok (.invokevirtual 335, 3) := dk_182 1 79 (dk_at dksJ4_length_0 6 rfl rfl)
theorem dJ4_length_9 : decode cJ4_length 9 = .ok (.ishr, 1) := dk_122 (dk_at dksJ4_length_0 9 rfl rfl)
theorem dJ4_length_10 : decode cJ4_length 10 = .ok (.ireturn, 1) := dk_172 (dk_at dksJ4_length_0 10 rfl rfl)
abbrev cJ4_coder : ByteArray := prog_32_method_152_code
def yJ4_coder : MethodName := ⟨RJ4, "coder", "()B"⟩
def dkwJ4_coder_0 : List UInt8 := [178, 0, 38, 153, 0, 10, 42, 180, 0, 15, 167, 0, 4, 4, 172]
abbrev dktJ4_coder_0 : List UInt8 := dkwJ4_coder_0 ++ []
theorem dksJ4_coder_0 : cJ4_coder.data.toList.drop 0 = dktJ4_coder_0 := by decide +kernel
theorem dJ4_coder_0 : decode cJ4_coder 0 = .ok (.getstatic 38, 3) := dk_178 0 38 (dk_at dksJ4_coder_0 0 rfl rfl)
theorem dJ4_coder_3 : decode cJ4_coder 3 = .ok (.ifCond .eq 10, 3) := dk_153 0 10 (dk_at dksJ4_coder_0 3 rfl rfl)
theorem dJ4_coder_6 : decode cJ4_coder 6 = .ok (.aload_n 0, 1) := dk_42 (dk_at dksJ4_coder_0 6 rfl rfl)
theorem dJ4_coder_7 : decode cJ4_coder 7 = .ok (.getfield 15, 3) := dk_180 0 15 (dk_at dksJ4_coder_0 7 rfl rfl)
theorem dJ4_coder_10 : decode cJ4_coder 10 = .ok (.goto 4, 3) := dk_167 0 4 (dk_at dksJ4_coder_0 10 rfl rfl)
theorem dJ4_coder_13 : decode cJ4_coder 13 = .ok (.iconst 1, 1) := dk_4 (dk_at dksJ4_coder_0 13 rfl rfl)
theorem dJ4_coder_14 : decode cJ4_coder 14 = .ok (.ireturn, 1) := dk_172 (dk_at dksJ4_coder_0 14 rfl rfl)
abbrev cJ4_charAt : ByteArray := prog_32_method_56_code
def yJ4_charAt : MethodName := ⟨RJ4, "charAt", "(I)C"⟩
def dkwJ4_charAt_1 : List UInt8 := [172]
abbrev dktJ4_charAt_1 : List UInt8 := dkwJ4_charAt_1 ++ []
def dkwJ4_charAt_0 : List UInt8 := [42, 182, 1, 236, 153, 0, 12, 42, 180, 0, 9, 27, 184, 1, 239, 172, 42, 180, 0, 9, 27, 184, 1, 242]
abbrev dktJ4_charAt_0 : List UInt8 := dkwJ4_charAt_0 ++ dktJ4_charAt_1
theorem dksJ4_charAt_0 : cJ4_charAt.data.toList.drop 0 = dktJ4_charAt_0 := by decide +kernel
theorem dksJ4_charAt_1 : cJ4_charAt.data.toList.drop 24 = dktJ4_charAt_1 := dk_seg dksJ4_charAt_0 24 rfl rfl
theorem dJ4_charAt_0 : decode cJ4_charAt 0 = .ok (.aload_n 0, 1) := dk_42 (dk_at dksJ4_charAt_0 0 rfl rfl)
theorem dJ4_charAt_1 : decode cJ4_charAt 1 = .ok (.invokevirtual 492, 3) := dk_182 1 236 (dk_at dksJ4_charAt_0 1 rfl rfl)
theorem dJ4_charAt_4 : decode cJ4_charAt 4 = .ok (.ifCond .eq 12, 3) := dk_153 0 12 (dk_at dksJ4_charAt_0 4 rfl rfl)
theorem dJ4_charAt_7 : decode cJ4_charAt 7 = .ok (.aload_n 0, 1) := dk_42 (dk_at dksJ4_charAt_0 7 rfl rfl)
theorem dJ4_charAt_8 : decode cJ4_charAt 8 = .ok (.getfield 9, 3) := dk_180 0 9 (dk_at dksJ4_charAt_0 8 rfl rfl)
theorem dJ4_charAt_11 : decode cJ4_charAt 11 = .ok (.iload_n 1, 1) := dk_27 (dk_at dksJ4_charAt_0 11 rfl rfl)
theorem dJ4_charAt_12 : decode cJ4_charAt 12 = .ok (.invokestatic 495, 3) := dk_184 1 239 (dk_at dksJ4_charAt_0 12 rfl rfl)
theorem dJ4_charAt_15 : decode cJ4_charAt 15 = .ok (.ireturn, 1) := dk_172 (dk_at dksJ4_charAt_0 15 rfl rfl)
theorem dJ4_charAt_16 : decode cJ4_charAt 16 = .ok (.aload_n 0, 1) := dk_42 (dk_at dksJ4_charAt_0 16 rfl rfl)
theorem dJ4_charAt_17 : decode cJ4_charAt 17 = .ok (.getfield 9, 3) := dk_180 0 9 (dk_at dksJ4_charAt_0 17 rfl rfl)
theorem dJ4_charAt_20 : decode cJ4_charAt 20 = .ok (.iload_n 1, 1) := dk_27 (dk_at dksJ4_charAt_0 20 rfl rfl)
theorem dJ4_charAt_21 : decode cJ4_charAt 21 = .ok (.invokestatic 498, 3) := dk_184 1 242 (dk_at dksJ4_charAt_0 21 rfl rfl)
theorem dJ4_charAt_24 : decode cJ4_charAt 24 = .ok (.ireturn, 1) := dk_172 (dk_at dksJ4_charAt_1 0 rfl rfl)
abbrev cJ4_isLatin1 : ByteArray := prog_32_method_154_code
def yJ4_isLatin1 : MethodName := ⟨RJ4, "isLatin1", "()Z"⟩
def dkwJ4_isLatin1_0 : List UInt8 := [178, 0, 38, 153, 0, 14, 42, 180, 0, 15, 154, 0, 7, 4, 167, 0, 4, 3, 172]
abbrev dktJ4_isLatin1_0 : List UInt8 := dkwJ4_isLatin1_0 ++ []
theorem dksJ4_isLatin1_0 : cJ4_isLatin1.data.toList.drop 0 = dktJ4_isLatin1_0 := by decide +kernel
theorem dJ4_isLatin1_0 : decode cJ4_isLatin1 0 = .ok (.getstatic 38, 3) := dk_178 0 38 (dk_at dksJ4_isLatin1_0 0 rfl rfl)
theorem dJ4_isLatin1_3 : decode cJ4_isLatin1 3 = .ok (.ifCond .eq 14, 3) := dk_153 0 14 (dk_at dksJ4_isLatin1_0 3 rfl rfl)
theorem dJ4_isLatin1_6 : decode cJ4_isLatin1 6 = .ok (.aload_n 0, 1) := dk_42 (dk_at dksJ4_isLatin1_0 6 rfl rfl)
theorem dJ4_isLatin1_7 : decode cJ4_isLatin1 7 = .ok (.getfield 15, 3) := dk_180 0 15 (dk_at dksJ4_isLatin1_0 7 rfl rfl)
theorem dJ4_isLatin1_10 : decode cJ4_isLatin1 10 = .ok (.ifCond .ne 7, 3) := dk_154 0 7 (dk_at dksJ4_isLatin1_0 10 rfl rfl)
theorem dJ4_isLatin1_13 : decode cJ4_isLatin1 13 = .ok (.iconst 1, 1) := dk_4 (dk_at dksJ4_isLatin1_0 13 rfl rfl)
theorem dJ4_isLatin1_14 : decode cJ4_isLatin1 14 = .ok (.goto 4, 3) := dk_167 0 4 (dk_at dksJ4_isLatin1_0 14 rfl rfl)
theorem dJ4_isLatin1_17 : decode cJ4_isLatin1 17 = .ok (.iconst 0, 1) := dk_3 (dk_at dksJ4_isLatin1_0 17 rfl rfl)
theorem dJ4_isLatin1_18 : decode cJ4_isLatin1 18 = .ok (.ireturn, 1) := dk_172 (dk_at dksJ4_isLatin1_0 18 rfl rfl)
abbrev cJ4_checkIndex : ByteArray := prog_32_method_155_code
def yJ4_checkIndex : MethodName := ⟨RJ4, "checkIndex", "(II)V"⟩
def dkwJ4_checkIndex_0 : List UInt8 := [26, 27, 178, 4, 29, 184, 4, 35, 87, 177]
abbrev dktJ4_checkIndex_0 : List UInt8 := dkwJ4_checkIndex_0 ++ []
theorem dksJ4_checkIndex_0 : cJ4_checkIndex.data.toList.drop 0 = dktJ4_checkIndex_0 := by decide +kernel
theorem dJ4_checkIndex_0 : decode cJ4_checkIndex 0 = .ok (.iload_n 0, 1) := dk_26 (dk_at dksJ4_checkIndex_0 0 rfl rfl)
theorem dJ4_checkIndex_1 : decode cJ4_checkIndex 1 = .ok (.iload_n 1, 1) := dk_27 (dk_at dksJ4_checkIndex_0 1 rfl rfl)
theorem dJ4_checkIndex_2 : decode cJ4_checkIndex 2 = .ok (.getstatic 1053, 3) := dk_178 4 29 (dk_at dksJ4_checkIndex_0 2 rfl rfl)
theorem dJ4_checkIndex_5 : decode cJ4_checkIndex 5 = .ok (.invokestatic 1059, 3) := dk_184 4 35 (dk_at dksJ4_checkIndex_0 5 rfl rfl)
theorem dJ4_checkIndex_8 : decode cJ4_checkIndex 8 = .ok (.pop, 1) := dk_87 (dk_at dksJ4_checkIndex_0 8 rfl rfl)
theorem dJ4_checkIndex_9 : decode cJ4_checkIndex 9 = .ok (.return_, 1) := dk_177 (dk_at dksJ4_checkIndex_0 9 rfl rfl)
abbrev cJ5_charAt : ByteArray := prog_33_method_2_code
def yJ5_charAt : MethodName := ⟨RJ5, "charAt", "([BI)C"⟩
def dkwJ5_charAt_0 : List UInt8 := [27, 42, 190, 184, 0, 9, 42, 27, 51, 17, 0, 255, 126, 146, 172]
abbrev dktJ5_charAt_0 : List UInt8 := dkwJ5_charAt_0 ++ []
theorem dksJ5_charAt_0 : cJ5_charAt.data.toList.drop 0 = dktJ5_charAt_0 := by decide +kernel
theorem dJ5_charAt_0 : decode cJ5_charAt 0 = .ok (.iload_n 1, 1) := dk_27 (dk_at dksJ5_charAt_0 0 rfl rfl)
theorem dJ5_charAt_1 : decode cJ5_charAt 1 = .ok (.aload_n 0, 1) := dk_42 (dk_at dksJ5_charAt_0 1 rfl rfl)
theorem dJ5_charAt_2 : decode cJ5_charAt 2 = .ok (.arraylength, 1) := dk_190 (dk_at dksJ5_charAt_0 2 rfl rfl)
theorem dJ5_charAt_3 : decode cJ5_charAt 3 = .ok (.invokestatic 9, 3) := dk_184 0 9 (dk_at dksJ5_charAt_0 3 rfl rfl)
theorem dJ5_charAt_6 : decode cJ5_charAt 6 = .ok (.aload_n 0, 1) := dk_42 (dk_at dksJ5_charAt_0 6 rfl rfl)
theorem dJ5_charAt_7 : decode cJ5_charAt 7 = .ok (.iload_n 1, 1) := dk_27 (dk_at dksJ5_charAt_0 7 rfl rfl)
theorem dJ5_charAt_8 : decode cJ5_charAt 8 = .ok (.baload, 1) := dk_51 (dk_at dksJ5_charAt_0 8 rfl rfl)
theorem dJ5_charAt_9 : decode cJ5_charAt 9 = .ok (.sipush 255, 3) := dk_17 0 255 (dk_at dksJ5_charAt_0 9 rfl rfl)
theorem dJ5_charAt_12 : decode cJ5_charAt 12 = .ok (.iand, 1) := dk_126 (dk_at dksJ5_charAt_0 12 rfl rfl)
theorem dJ5_charAt_13 : decode cJ5_charAt 13 = .ok (.i2c, 1) := dk_146 (dk_at dksJ5_charAt_0 13 rfl rfl)
theorem dJ5_charAt_14 : decode cJ5_charAt 14 = .ok (.ireturn, 1) := dk_172 (dk_at dksJ5_charAt_0 14 rfl rfl)
abbrev cJ6_checkIndex : ByteArray := prog_47_method_11_code
def yJ6_checkIndex : MethodName := ⟨RJ6, "checkIndex", "(IILjava/util/function/BiFunction;)I"⟩
def dkwJ6_checkIndex_0 : List UInt8 := [26, 155, 0, 8, 26, 27, 161, 0, 10, 44, 26, 27, 184, 0, 95, 191, 26, 172]
abbrev dktJ6_checkIndex_0 : List UInt8 := dkwJ6_checkIndex_0 ++ []
theorem dksJ6_checkIndex_0 : cJ6_checkIndex.data.toList.drop 0 = dktJ6_checkIndex_0 := by decide +kernel
theorem dJ6_checkIndex_0 : decode cJ6_checkIndex 0 = .ok (.iload_n 0, 1) := dk_26 (dk_at dksJ6_checkIndex_0 0 rfl rfl)
theorem dJ6_checkIndex_1 : decode cJ6_checkIndex 1 = .ok (.ifCond .lt 8, 3) := dk_155 0 8 (dk_at dksJ6_checkIndex_0 1 rfl rfl)
theorem dJ6_checkIndex_4 : decode cJ6_checkIndex 4 = .ok (.iload_n 0, 1) := dk_26 (dk_at dksJ6_checkIndex_0 4 rfl rfl)
theorem dJ6_checkIndex_5 : decode cJ6_checkIndex 5 = .ok (.iload_n 1, 1) := dk_27 (dk_at dksJ6_checkIndex_0 5 rfl rfl)
theorem dJ6_checkIndex_6 : decode cJ6_checkIndex 6 = .ok (.if_icmp .lt 10, 3) := dk_161 0 10 (dk_at dksJ6_checkIndex_0 6 rfl rfl)
theorem dJ6_checkIndex_9 : decode cJ6_checkIndex 9 = .ok (.aload_n 2, 1) := dk_44 (dk_at dksJ6_checkIndex_0 9 rfl rfl)
theorem dJ6_checkIndex_10 : decode cJ6_checkIndex 10 = .ok (.iload_n 0, 1) := dk_26 (dk_at dksJ6_checkIndex_0 10 rfl rfl)
theorem dJ6_checkIndex_11 : decode cJ6_checkIndex 11 = .ok (.iload_n 1, 1) := dk_27 (dk_at dksJ6_checkIndex_0 11 rfl rfl)
theorem dJ6_checkIndex_12 : decode cJ6_checkIndex 12 = .ok (.invokestatic 95, 3) := dk_184 0 95 (dk_at dksJ6_checkIndex_0 12 rfl rfl)
theorem dJ6_checkIndex_15 : decode cJ6_checkIndex 15 = .ok (.athrow, 1) := dk_191 (dk_at dksJ6_checkIndex_0 15 rfl rfl)
theorem dJ6_checkIndex_16 : decode cJ6_checkIndex 16 = .ok (.iload_n 0, 1) := dk_26 (dk_at dksJ6_checkIndex_0 16 rfl rfl)
theorem dJ6_checkIndex_17 : decode cJ6_checkIndex 17 = .ok (.ireturn, 1) := dk_172 (dk_at dksJ6_checkIndex_0 17 rfl rfl)
abbrev cJ7_charAt : ByteArray := prog_34_method_83_code
def yJ7_charAt : MethodName := ⟨RJ7, "charAt", "([BI)C"⟩
def dkwJ7_charAt_0 : List UInt8 := [27, 42, 184, 0, 67, 42, 27, 184, 0, 71, 172]
abbrev dktJ7_charAt_0 : List UInt8 := dkwJ7_charAt_0 ++ []
theorem dksJ7_charAt_0 : cJ7_charAt.data.toList.drop 0 = dktJ7_charAt_0 := by decide +kernel
theorem dJ7_charAt_0 : decode cJ7_charAt 0 = .ok (.iload_n 1, 1) := dk_27 (dk_at dksJ7_charAt_0 0 rfl rfl)
theorem dJ7_charAt_1 : decode cJ7_charAt 1 = .ok (.aload_n 0, 1) := dk_42 (dk_at dksJ7_charAt_0 1 rfl rfl)
theorem dJ7_charAt_2 : decode cJ7_charAt 2 = .ok (.invokestatic 67, 3) := dk_184 0 67 (dk_at dksJ7_charAt_0 2 rfl rfl)
theorem dJ7_charAt_5 : decode cJ7_charAt 5 = .ok (.aload_n 0, 1) := dk_42 (dk_at dksJ7_charAt_0 5 rfl rfl)
theorem dJ7_charAt_6 : decode cJ7_charAt 6 = .ok (.iload_n 1, 1) := dk_27 (dk_at dksJ7_charAt_0 6 rfl rfl)
theorem dJ7_charAt_7 : decode cJ7_charAt 7 = .ok (.invokestatic 71, 3) := dk_184 0 71 (dk_at dksJ7_charAt_0 7 rfl rfl)
theorem dJ7_charAt_10 : decode cJ7_charAt 10 = .ok (.ireturn, 1) := dk_172 (dk_at dksJ7_charAt_0 10 rfl rfl)
abbrev cJ7_checkIndex : ByteArray := prog_34_method_91_code
def yJ7_checkIndex : MethodName := ⟨RJ7, "checkIndex", "(I[B)V"⟩
def dkwJ7_checkIndex_0 : List UInt8 := [26, 43, 184, 0, 48, 184, 1, 158, 177]
abbrev dktJ7_checkIndex_0 : List UInt8 := dkwJ7_checkIndex_0 ++ []
theorem dksJ7_checkIndex_0 : cJ7_checkIndex.data.toList.drop 0 = dktJ7_checkIndex_0 := by decide +kernel
theorem dJ7_checkIndex_0 : decode cJ7_checkIndex 0 = .ok (.iload_n 0, 1) := dk_26 (dk_at dksJ7_checkIndex_0 0 rfl rfl)
theorem dJ7_checkIndex_1 : decode cJ7_checkIndex 1 = .ok (.aload_n 1, 1) := dk_43 (dk_at dksJ7_checkIndex_0 1 rfl rfl)
theorem dJ7_checkIndex_2 : decode cJ7_checkIndex 2 = .ok (.invokestatic 48, 3) := dk_184 0 48 (dk_at dksJ7_checkIndex_0 2 rfl rfl)
theorem dJ7_checkIndex_5 : decode cJ7_checkIndex 5 = .ok (.invokestatic 414, 3) := dk_184 1 158 (dk_at dksJ7_checkIndex_0 5 rfl rfl)
theorem dJ7_checkIndex_8 : decode cJ7_checkIndex 8 = .ok (.return_, 1) := dk_177 (dk_at dksJ7_checkIndex_0 8 rfl rfl)
abbrev cJ7_length : ByteArray := prog_34_method_6_code
def yJ7_length : MethodName := ⟨RJ7, "length", "([B)I"⟩
def dkwJ7_length_0 : List UInt8 := [42, 190, 4, 122, 172]
abbrev dktJ7_length_0 : List UInt8 := dkwJ7_length_0 ++ []
theorem dksJ7_length_0 : cJ7_length.data.toList.drop 0 = dktJ7_length_0 := by decide +kernel
theorem dJ7_length_0 : decode cJ7_length 0 = .ok (.aload_n 0, 1) := dk_42 (dk_at dksJ7_length_0 0 rfl rfl)
theorem dJ7_length_1 : decode cJ7_length 1 = .ok (.arraylength, 1) := dk_190 (dk_at dksJ7_length_0 1 rfl rfl)
theorem dJ7_length_2 : decode cJ7_length 2 = .ok (.iconst 1, 1) := dk_4 (dk_at dksJ7_length_0 2 rfl rfl)
theorem dJ7_length_3 : decode cJ7_length 3 = .ok (.ishr, 1) := dk_122 (dk_at dksJ7_length_0 3 rfl rfl)
theorem dJ7_length_4 : decode cJ7_length 4 = .ok (.ireturn, 1) := dk_172 (dk_at dksJ7_length_0 4 rfl rfl)
abbrev cJ7_getChar : ByteArray := prog_34_method_5_code
def yJ7_getChar : MethodName := ⟨RJ7, "getChar", "([BI)C"⟩
def dkwJ7_getChar_2 : List UInt8 := [51, 17, 0, 255, 126, 178, 0, 63, 120, 128, 146, 172]
abbrev dktJ7_getChar_2 : List UInt8 := dkwJ7_getChar_2 ++ []
def dkwJ7_getChar_1 : List UInt8 := [183, 0, 56, 191, 27, 4, 120, 60, 42, 27, 132, 1, 1, 51, 17, 0, 255, 126, 178, 0, 59, 120, 42, 27]
abbrev dktJ7_getChar_1 : List UInt8 := dkwJ7_getChar_1 ++ dktJ7_getChar_2
def dkwJ7_getChar_0 : List UInt8 := [178, 0, 44, 154, 0, 25, 27, 155, 0, 11, 27, 42, 184, 0, 48, 161, 0, 13, 187, 0, 52, 89, 18, 54]
abbrev dktJ7_getChar_0 : List UInt8 := dkwJ7_getChar_0 ++ dktJ7_getChar_1
theorem dksJ7_getChar_0 : cJ7_getChar.data.toList.drop 0 = dktJ7_getChar_0 := by decide +kernel
theorem dksJ7_getChar_1 : cJ7_getChar.data.toList.drop 24 = dktJ7_getChar_1 := dk_seg dksJ7_getChar_0 24 rfl rfl
theorem dksJ7_getChar_2 : cJ7_getChar.data.toList.drop 48 = dktJ7_getChar_2 := dk_seg dksJ7_getChar_1 24 rfl rfl
theorem dJ7_getChar_0 : decode cJ7_getChar 0 = .ok (.getstatic 44, 3) := dk_178 0 44 (dk_at dksJ7_getChar_0 0 rfl rfl)
theorem dJ7_getChar_3 : decode cJ7_getChar 3 = .ok (.ifCond .ne 25, 3) := dk_154 0 25 (dk_at dksJ7_getChar_0 3 rfl rfl)
theorem dJ7_getChar_6 : decode cJ7_getChar 6 = .ok (.iload_n 1, 1) := dk_27 (dk_at dksJ7_getChar_0 6 rfl rfl)
theorem dJ7_getChar_7 : decode cJ7_getChar 7 = .ok (.ifCond .lt 11, 3) := dk_155 0 11 (dk_at dksJ7_getChar_0 7 rfl rfl)
theorem dJ7_getChar_10 : decode cJ7_getChar 10 = .ok (.iload_n 1, 1) := dk_27 (dk_at dksJ7_getChar_0 10 rfl rfl)
theorem dJ7_getChar_11 : decode cJ7_getChar 11 = .ok (.aload_n 0, 1) := dk_42 (dk_at dksJ7_getChar_0 11 rfl rfl)
theorem dJ7_getChar_12 : decode cJ7_getChar 12 = .ok (.invokestatic 48, 3) := dk_184 0 48 (dk_at dksJ7_getChar_0 12 rfl rfl)
theorem dJ7_getChar_15 : decode cJ7_getChar 15 = .ok (.if_icmp .lt 13, 3) := dk_161 0 13 (dk_at dksJ7_getChar_0 15 rfl rfl)
theorem dJ7_getChar_18 : decode cJ7_getChar 18 = .ok (.new 52, 3) := dk_187 0 52 (dk_at dksJ7_getChar_0 18 rfl rfl)
theorem dJ7_getChar_21 : decode cJ7_getChar 21 = .ok (.dup, 1) := dk_89 (dk_at dksJ7_getChar_0 21 rfl rfl)
theorem dJ7_getChar_22 : decode cJ7_getChar 22 = .ok (.ldc 54, 2) := dk_18 54 (dk_at dksJ7_getChar_0 22 rfl rfl)
theorem dJ7_getChar_24 : decode cJ7_getChar 24 = .ok (.invokespecial 56, 3) := dk_183 0 56 (dk_at dksJ7_getChar_1 0 rfl rfl)
theorem dJ7_getChar_27 : decode cJ7_getChar 27 = .ok (.athrow, 1) := dk_191 (dk_at dksJ7_getChar_1 3 rfl rfl)
theorem dJ7_getChar_28 : decode cJ7_getChar 28 = .ok (.iload_n 1, 1) := dk_27 (dk_at dksJ7_getChar_1 4 rfl rfl)
theorem dJ7_getChar_29 : decode cJ7_getChar 29 = .ok (.iconst 1, 1) := dk_4 (dk_at dksJ7_getChar_1 5 rfl rfl)
theorem dJ7_getChar_30 : decode cJ7_getChar 30 = .ok (.ishl, 1) := dk_120 (dk_at dksJ7_getChar_1 6 rfl rfl)
theorem dJ7_getChar_31 : decode cJ7_getChar 31 = .ok (.istore_n 1, 1) := dk_60 (dk_at dksJ7_getChar_1 7 rfl rfl)
theorem dJ7_getChar_32 : decode cJ7_getChar 32 = .ok (.aload_n 0, 1) := dk_42 (dk_at dksJ7_getChar_1 8 rfl rfl)
theorem dJ7_getChar_33 : decode cJ7_getChar 33 = .ok (.iload_n 1, 1) := dk_27 (dk_at dksJ7_getChar_1 9 rfl rfl)
theorem dJ7_getChar_34 : decode cJ7_getChar 34 = .ok (.iinc 1 1, 3) := dk_132 1 1 (dk_at dksJ7_getChar_1 10 rfl rfl)
theorem dJ7_getChar_37 : decode cJ7_getChar 37 = .ok (.baload, 1) := dk_51 (dk_at dksJ7_getChar_1 13 rfl rfl)
theorem dJ7_getChar_38 : decode cJ7_getChar 38 = .ok (.sipush 255, 3) := dk_17 0 255 (dk_at dksJ7_getChar_1 14 rfl rfl)
theorem dJ7_getChar_41 : decode cJ7_getChar 41 = .ok (.iand, 1) := dk_126 (dk_at dksJ7_getChar_1 17 rfl rfl)
theorem dJ7_getChar_42 : decode cJ7_getChar 42 = .ok (.getstatic 59, 3) := dk_178 0 59 (dk_at dksJ7_getChar_1 18 rfl rfl)
theorem dJ7_getChar_45 : decode cJ7_getChar 45 = .ok (.ishl, 1) := dk_120 (dk_at dksJ7_getChar_1 21 rfl rfl)
theorem dJ7_getChar_46 : decode cJ7_getChar 46 = .ok (.aload_n 0, 1) := dk_42 (dk_at dksJ7_getChar_1 22 rfl rfl)
theorem dJ7_getChar_47 : decode cJ7_getChar 47 = .ok (.iload_n 1, 1) := dk_27 (dk_at dksJ7_getChar_1 23 rfl rfl)
theorem dJ7_getChar_48 : decode cJ7_getChar 48 = .ok (.baload, 1) := dk_51 (dk_at dksJ7_getChar_2 0 rfl rfl)
theorem dJ7_getChar_49 : decode cJ7_getChar 49 = .ok (.sipush 255, 3) := dk_17 0 255 (dk_at dksJ7_getChar_2 1 rfl rfl)
theorem dJ7_getChar_52 : decode cJ7_getChar 52 = .ok (.iand, 1) := dk_126 (dk_at dksJ7_getChar_2 4 rfl rfl)
theorem dJ7_getChar_53 : decode cJ7_getChar 53 = .ok (.getstatic 63, 3) := dk_178 0 63 (dk_at dksJ7_getChar_2 5 rfl rfl)
theorem dJ7_getChar_56 : decode cJ7_getChar 56 = .ok (.ishl, 1) := dk_120 (dk_at dksJ7_getChar_2 8 rfl rfl)
theorem dJ7_getChar_57 : decode cJ7_getChar 57 = .ok (.ior, 1) := dk_128 (dk_at dksJ7_getChar_2 9 rfl rfl)
theorem dJ7_getChar_58 : decode cJ7_getChar 58 = .ok (.i2c, 1) := dk_146 (dk_at dksJ7_getChar_2 10 rfl rfl)
theorem dJ7_getChar_59 : decode cJ7_getChar 59 = .ok (.ireturn, 1) := dk_172 (dk_at dksJ7_getChar_2 11 rfl rfl)
abbrev cJ8_init : ByteArray := prog_36_method_1_code
def yJ8_init : MethodName := ⟨RJ8, "<init>", "()V"⟩
def dkwJ8_init_1 : List UInt8 := [182, 0, 27, 87, 177]
abbrev dktJ8_init_1 : List UInt8 := dkwJ8_init_1 ++ []
def dkwJ8_init_0 : List UInt8 := [42, 183, 0, 1, 42, 42, 181, 0, 7, 42, 178, 0, 13, 181, 0, 17, 42, 178, 0, 20, 181, 0, 24, 42]
abbrev dktJ8_init_0 : List UInt8 := dkwJ8_init_0 ++ dktJ8_init_1
theorem dksJ8_init_0 : cJ8_init.data.toList.drop 0 = dktJ8_init_0 := by decide +kernel
theorem dksJ8_init_1 : cJ8_init.data.toList.drop 24 = dktJ8_init_1 := dk_seg dksJ8_init_0 24 rfl rfl
theorem dJ8_init_0 : decode cJ8_init 0 = .ok (.aload_n 0, 1) := dk_42 (dk_at dksJ8_init_0 0 rfl rfl)
theorem dJ8_init_1 : decode cJ8_init 1 = .ok (.invokespecial 1, 3) := dk_183 0 1 (dk_at dksJ8_init_0 1 rfl rfl)
theorem dJ8_init_4 : decode cJ8_init 4 = .ok (.aload_n 0, 1) := dk_42 (dk_at dksJ8_init_0 4 rfl rfl)
theorem dJ8_init_5 : decode cJ8_init 5 = .ok (.aload_n 0, 1) := dk_42 (dk_at dksJ8_init_0 5 rfl rfl)
theorem dJ8_init_6 : decode cJ8_init 6 = .ok (.putfield 7, 3) := dk_181 0 7 (dk_at dksJ8_init_0 6 rfl rfl)
theorem dJ8_init_9 : decode cJ8_init 9 = .ok (.aload_n 0, 1) := dk_42 (dk_at dksJ8_init_0 9 rfl rfl)
theorem dJ8_init_10 : decode cJ8_init 10 = .ok (.getstatic 13, 3) := dk_178 0 13 (dk_at dksJ8_init_0 10 rfl rfl)
theorem dJ8_init_13 : decode cJ8_init 13 = .ok (.putfield 17, 3) := dk_181 0 17 (dk_at dksJ8_init_0 13 rfl rfl)
theorem dJ8_init_16 : decode cJ8_init 16 = .ok (.aload_n 0, 1) := dk_42 (dk_at dksJ8_init_0 16 rfl rfl)
theorem dJ8_init_17 : decode cJ8_init 17 = .ok (.getstatic 20, 3) := dk_178 0 20 (dk_at dksJ8_init_0 17 rfl rfl)
theorem dJ8_init_20 : decode cJ8_init 20 = .ok (.putfield 24, 3) := dk_181 0 24 (dk_at dksJ8_init_0 20 rfl rfl)
theorem dJ8_init_23 : decode cJ8_init 23 = .ok (.aload_n 0, 1) := dk_42 (dk_at dksJ8_init_0 23 rfl rfl)
theorem dJ8_init_24 : decode cJ8_init 24 = .ok (.invokevirtual 27, 3) := dk_182 0 27 (dk_at dksJ8_init_1 0 rfl rfl)
theorem dJ8_init_27 : decode cJ8_init 27 = .ok (.pop, 1) := dk_87 (dk_at dksJ8_init_1 3 rfl rfl)
theorem dJ8_init_28 : decode cJ8_init 28 = .ok (.return_, 1) := dk_177 (dk_at dksJ8_init_1 4 rfl rfl)
abbrev cJ8_init_2 : ByteArray := prog_36_method_5_code
def yJ8_init_2 : MethodName := ⟨RJ8, "<init>", "(Ljava/lang/String;Ljava/lang/Throwable;ZZ)V"⟩
def dkwJ8_init_2_2 : List UInt8 := [44, 181, 0, 7, 29, 154, 0, 8, 42, 1, 181, 0, 24, 177]
abbrev dktJ8_init_2_2 : List UInt8 := dkwJ8_init_2_2 ++ []
def dkwJ8_init_2_1 : List UInt8 := [21, 4, 153, 0, 11, 42, 182, 0, 27, 87, 167, 0, 8, 42, 1, 181, 0, 17, 42, 43, 181, 0, 31, 42]
abbrev dktJ8_init_2_1 : List UInt8 := dkwJ8_init_2_1 ++ dktJ8_init_2_2
def dkwJ8_init_2_0 : List UInt8 := [42, 183, 0, 1, 42, 42, 181, 0, 7, 42, 178, 0, 13, 181, 0, 17, 42, 178, 0, 20, 181, 0, 24]
abbrev dktJ8_init_2_0 : List UInt8 := dkwJ8_init_2_0 ++ dktJ8_init_2_1
theorem dksJ8_init_2_0 : cJ8_init_2.data.toList.drop 0 = dktJ8_init_2_0 := by decide +kernel
theorem dksJ8_init_2_1 : cJ8_init_2.data.toList.drop 23 = dktJ8_init_2_1 := dk_seg dksJ8_init_2_0 23 rfl rfl
theorem dksJ8_init_2_2 : cJ8_init_2.data.toList.drop 47 = dktJ8_init_2_2 := dk_seg dksJ8_init_2_1 24 rfl rfl
theorem dJ8_init_2_0 : decode cJ8_init_2 0 = .ok (.aload_n 0, 1) := dk_42 (dk_at dksJ8_init_2_0 0 rfl rfl)
theorem dJ8_init_2_1 : decode cJ8_init_2 1 = .ok (.invokespecial 1, 3) := dk_183 0 1 (dk_at dksJ8_init_2_0 1 rfl rfl)
theorem dJ8_init_2_4 : decode cJ8_init_2 4 = .ok (.aload_n 0, 1) := dk_42 (dk_at dksJ8_init_2_0 4 rfl rfl)
theorem dJ8_init_2_5 : decode cJ8_init_2 5 = .ok (.aload_n 0, 1) := dk_42 (dk_at dksJ8_init_2_0 5 rfl rfl)
theorem dJ8_init_2_6 : decode cJ8_init_2 6 = .ok (.putfield 7, 3) := dk_181 0 7 (dk_at dksJ8_init_2_0 6 rfl rfl)
theorem dJ8_init_2_9 : decode cJ8_init_2 9 = .ok (.aload_n 0, 1) := dk_42 (dk_at dksJ8_init_2_0 9 rfl rfl)
theorem dJ8_init_2_10 : decode cJ8_init_2 10 = .ok (.getstatic 13, 3) := dk_178 0 13 (dk_at dksJ8_init_2_0 10 rfl rfl)
theorem dJ8_init_2_13 : decode cJ8_init_2 13 = .ok (.putfield 17, 3) := dk_181 0 17 (dk_at dksJ8_init_2_0 13 rfl rfl)
theorem dJ8_init_2_16 : decode cJ8_init_2 16 = .ok (.aload_n 0, 1) := dk_42 (dk_at dksJ8_init_2_0 16 rfl rfl)
theorem dJ8_init_2_17 : decode cJ8_init_2 17 = .ok (.getstatic 20, 3) := dk_178 0 20 (dk_at dksJ8_init_2_0 17 rfl rfl)
theorem dJ8_init_2_20 : decode cJ8_init_2 20 = .ok (.putfield 24, 3) := dk_181 0 24 (dk_at dksJ8_init_2_0 20 rfl rfl)
theorem dJ8_init_2_23 : decode cJ8_init_2 23 = .ok (.iload 4, 2) := dk_21 4 (dk_at dksJ8_init_2_1 0 rfl rfl)
theorem dJ8_init_2_25 : decode cJ8_init_2 25 = .ok (.ifCond .eq 11, 3) := dk_153 0 11 (dk_at dksJ8_init_2_1 2 rfl rfl)
theorem dJ8_init_2_28 : decode cJ8_init_2 28 = .ok (.aload_n 0, 1) := dk_42 (dk_at dksJ8_init_2_1 5 rfl rfl)
theorem dJ8_init_2_29 : decode cJ8_init_2 29 = .ok (.invokevirtual 27, 3) := dk_182 0 27 (dk_at dksJ8_init_2_1 6 rfl rfl)
theorem dJ8_init_2_32 : decode cJ8_init_2 32 = .ok (.pop, 1) := dk_87 (dk_at dksJ8_init_2_1 9 rfl rfl)
theorem dJ8_init_2_33 : decode cJ8_init_2 33 = .ok (.goto 8, 3) := dk_167 0 8 (dk_at dksJ8_init_2_1 10 rfl rfl)
theorem dJ8_init_2_36 : decode cJ8_init_2 36 = .ok (.aload_n 0, 1) := dk_42 (dk_at dksJ8_init_2_1 13 rfl rfl)
theorem dJ8_init_2_37 : decode cJ8_init_2 37 = .ok (.aconst_null, 1) := dk_1 (dk_at dksJ8_init_2_1 14 rfl rfl)
theorem dJ8_init_2_38 : decode cJ8_init_2 38 = .ok (.putfield 17, 3) := dk_181 0 17 (dk_at dksJ8_init_2_1 15 rfl rfl)
theorem dJ8_init_2_41 : decode cJ8_init_2 41 = .ok (.aload_n 0, 1) := dk_42 (dk_at dksJ8_init_2_1 18 rfl rfl)
theorem dJ8_init_2_42 : decode cJ8_init_2 42 = .ok (.aload_n 1, 1) := dk_43 (dk_at dksJ8_init_2_1 19 rfl rfl)
theorem dJ8_init_2_43 : decode cJ8_init_2 43 = .ok (.putfield 31, 3) := dk_181 0 31 (dk_at dksJ8_init_2_1 20 rfl rfl)
theorem dJ8_init_2_46 : decode cJ8_init_2 46 = .ok (.aload_n 0, 1) := dk_42 (dk_at dksJ8_init_2_1 23 rfl rfl)
theorem dJ8_init_2_47 : decode cJ8_init_2 47 = .ok (.aload_n 2, 1) := dk_44 (dk_at dksJ8_init_2_2 0 rfl rfl)
theorem dJ8_init_2_48 : decode cJ8_init_2 48 = .ok (.putfield 7, 3) := dk_181 0 7 (dk_at dksJ8_init_2_2 1 rfl rfl)
theorem dJ8_init_2_51 : decode cJ8_init_2 51 = .ok (.iload_n 3, 1) := dk_29 (dk_at dksJ8_init_2_2 4 rfl rfl)
theorem dJ8_init_2_52 : decode cJ8_init_2 52 = .ok (.ifCond .ne 8, 3) := dk_154 0 8 (dk_at dksJ8_init_2_2 5 rfl rfl)
theorem dJ8_init_2_55 : decode cJ8_init_2 55 = .ok (.aload_n 0, 1) := dk_42 (dk_at dksJ8_init_2_2 8 rfl rfl)
theorem dJ8_init_2_56 : decode cJ8_init_2 56 = .ok (.aconst_null, 1) := dk_1 (dk_at dksJ8_init_2_2 9 rfl rfl)
theorem dJ8_init_2_57 : decode cJ8_init_2 57 = .ok (.putfield 24, 3) := dk_181 0 24 (dk_at dksJ8_init_2_2 10 rfl rfl)
theorem dJ8_init_2_60 : decode cJ8_init_2 60 = .ok (.return_, 1) := dk_177 (dk_at dksJ8_init_2_2 13 rfl rfl)
abbrev cJ9_init : ByteArray := prog_26_method_5_code
def yJ9_init : MethodName := ⟨RJ9, "<init>", "(Ljava/lang/String;Ljava/lang/Throwable;ZZ)V"⟩
def dkwJ9_init_0 : List UInt8 := [42, 43, 44, 29, 21, 4, 183, 0, 16, 177]
abbrev dktJ9_init_0 : List UInt8 := dkwJ9_init_0 ++ []
theorem dksJ9_init_0 : cJ9_init.data.toList.drop 0 = dktJ9_init_0 := by decide +kernel
theorem dJ9_init_0 : decode cJ9_init 0 = .ok (.aload_n 0, 1) := dk_42 (dk_at dksJ9_init_0 0 rfl rfl)
theorem dJ9_init_1 : decode cJ9_init 1 = .ok (.aload_n 1, 1) := dk_43 (dk_at dksJ9_init_0 1 rfl rfl)
theorem dJ9_init_2 : decode cJ9_init 2 = .ok (.aload_n 2, 1) := dk_44 (dk_at dksJ9_init_0 2 rfl rfl)
theorem dJ9_init_3 : decode cJ9_init 3 = .ok (.iload_n 3, 1) := dk_29 (dk_at dksJ9_init_0 3 rfl rfl)
theorem dJ9_init_4 : decode cJ9_init 4 = .ok (.iload 4, 2) := dk_21 4 (dk_at dksJ9_init_0 4 rfl rfl)
theorem dJ9_init_6 : decode cJ9_init 6 = .ok (.invokespecial 16, 3) := dk_183 0 16 (dk_at dksJ9_init_0 6 rfl rfl)
theorem dJ9_init_9 : decode cJ9_init 9 = .ok (.return_, 1) := dk_177 (dk_at dksJ9_init_0 9 rfl rfl)
abbrev cJ10_init : ByteArray := prog_31_method_5_code
def yJ10_init : MethodName := ⟨RJ10, "<init>", "(Ljava/lang/String;Ljava/lang/Throwable;ZZ)V"⟩
def dkwJ10_init_0 : List UInt8 := [42, 43, 44, 29, 21, 4, 183, 0, 16, 177]
abbrev dktJ10_init_0 : List UInt8 := dkwJ10_init_0 ++ []
theorem dksJ10_init_0 : cJ10_init.data.toList.drop 0 = dktJ10_init_0 := by decide +kernel
theorem dJ10_init_0 : decode cJ10_init 0 = .ok (.aload_n 0, 1) := dk_42 (dk_at dksJ10_init_0 0 rfl rfl)
theorem dJ10_init_1 : decode cJ10_init 1 = .ok (.aload_n 1, 1) := dk_43 (dk_at dksJ10_init_0 1 rfl rfl)
theorem dJ10_init_2 : decode cJ10_init 2 = .ok (.aload_n 2, 1) := dk_44 (dk_at dksJ10_init_0 2 rfl rfl)
theorem dJ10_init_3 : decode cJ10_init 3 = .ok (.iload_n 3, 1) := dk_29 (dk_at dksJ10_init_0 3 rfl rfl)
theorem dJ10_init_4 : decode cJ10_init 4 = .ok (.iload 4, 2) := dk_21 4 (dk_at dksJ10_init_0 4 rfl rfl)
theorem dJ10_init_6 : decode cJ10_init 6 = .ok (.invokespecial 16, 3) := dk_183 0 16 (dk_at dksJ10_init_0 6 rfl rfl)
theorem dJ10_init_9 : decode cJ10_init 9 = .ok (.return_, 1) := dk_177 (dk_at dksJ10_init_0 9 rfl rfl)
abbrev cX10_init : ByteArray := prog_3_method_1_code
def yX10_init : MethodName := ⟨RX10, "<init>", "(II)V"⟩
def dkwX10_init_0 : List UInt8 := [42, 1, 1, 3, 3, 183, 0, 1, 42, 27, 181, 0, 7, 42, 28, 181, 0, 13, 177]
abbrev dktX10_init_0 : List UInt8 := dkwX10_init_0 ++ []
theorem dksX10_init_0 : cX10_init.data.toList.drop 0 = dktX10_init_0 := by decide +kernel
theorem dX10_init_0 : decode cX10_init 0 = .ok (.aload_n 0, 1) := dk_42 (dk_at dksX10_init_0 0 rfl rfl)
theorem dX10_init_1 : decode cX10_init 1 = .ok (.aconst_null, 1) := dk_1 (dk_at dksX10_init_0 1 rfl rfl)
theorem dX10_init_2 : decode cX10_init 2 = .ok (.aconst_null, 1) := dk_1 (dk_at dksX10_init_0 2 rfl rfl)
theorem dX10_init_3 : decode cX10_init 3 = .ok (.iconst 0, 1) := dk_3 (dk_at dksX10_init_0 3 rfl rfl)
theorem dX10_init_4 : decode cX10_init 4 = .ok (.iconst 0, 1) := dk_3 (dk_at dksX10_init_0 4 rfl rfl)
theorem dX10_init_5 : decode cX10_init 5 = .ok (.invokespecial 1, 3) := dk_183 0 1 (dk_at dksX10_init_0 5 rfl rfl)
theorem dX10_init_8 : decode cX10_init 8 = .ok (.aload_n 0, 1) := dk_42 (dk_at dksX10_init_0 8 rfl rfl)
theorem dX10_init_9 : decode cX10_init 9 = .ok (.iload_n 1, 1) := dk_27 (dk_at dksX10_init_0 9 rfl rfl)
theorem dX10_init_10 : decode cX10_init 10 = .ok (.putfield 7, 3) := dk_181 0 7 (dk_at dksX10_init_0 10 rfl rfl)
theorem dX10_init_13 : decode cX10_init 13 = .ok (.aload_n 0, 1) := dk_42 (dk_at dksX10_init_0 13 rfl rfl)
theorem dX10_init_14 : decode cX10_init 14 = .ok (.iload_n 2, 1) := dk_28 (dk_at dksX10_init_0 14 rfl rfl)
theorem dX10_init_15 : decode cX10_init 15 = .ok (.putfield 13, 3) := dk_181 0 13 (dk_at dksX10_init_0 15 rfl rfl)
theorem dX10_init_18 : decode cX10_init 18 = .ok (.return_, 1) := dk_177 (dk_at dksX10_init_0 18 rfl rfl)
abbrev cX11_init : ByteArray := prog_4_method_1_code
def yX11_init : MethodName := ⟨RX11, "<init>", "(III)V"⟩
def dkwX11_init_0 : List UInt8 := [42, 183, 0, 1, 42, 27, 181, 0, 7, 42, 28, 181, 0, 13, 42, 29, 181, 0, 16, 177]
abbrev dktX11_init_0 : List UInt8 := dkwX11_init_0 ++ []
theorem dksX11_init_0 : cX11_init.data.toList.drop 0 = dktX11_init_0 := by decide +kernel
theorem dX11_init_0 : decode cX11_init 0 = .ok (.aload_n 0, 1) := dk_42 (dk_at dksX11_init_0 0 rfl rfl)
theorem dX11_init_1 : decode cX11_init 1 = .ok (.invokespecial 1, 3) := dk_183 0 1 (dk_at dksX11_init_0 1 rfl rfl)
theorem dX11_init_4 : decode cX11_init 4 = .ok (.aload_n 0, 1) := dk_42 (dk_at dksX11_init_0 4 rfl rfl)
theorem dX11_init_5 : decode cX11_init 5 = .ok (.iload_n 1, 1) := dk_27 (dk_at dksX11_init_0 5 rfl rfl)
theorem dX11_init_6 : decode cX11_init 6 = .ok (.putfield 7, 3) := dk_181 0 7 (dk_at dksX11_init_0 6 rfl rfl)
theorem dX11_init_9 : decode cX11_init 9 = .ok (.aload_n 0, 1) := dk_42 (dk_at dksX11_init_0 9 rfl rfl)
theorem dX11_init_10 : decode cX11_init 10 = .ok (.iload_n 2, 1) := dk_28 (dk_at dksX11_init_0 10 rfl rfl)
theorem dX11_init_11 : decode cX11_init 11 = .ok (.putfield 13, 3) := dk_181 0 13 (dk_at dksX11_init_0 11 rfl rfl)
theorem dX11_init_14 : decode cX11_init 14 = .ok (.aload_n 0, 1) := dk_42 (dk_at dksX11_init_0 14 rfl rfl)
theorem dX11_init_15 : decode cX11_init 15 = .ok (.iload_n 3, 1) := dk_29 (dk_at dksX11_init_0 15 rfl rfl)
theorem dX11_init_16 : decode cX11_init 16 = .ok (.putfield 16, 3) := dk_181 0 16 (dk_at dksX11_init_0 16 rfl rfl)
theorem dX11_init_19 : decode cX11_init 19 = .ok (.return_, 1) := dk_177 (dk_at dksX11_init_0 19 rfl rfl)
abbrev cJ11_newLength : ByteArray := prog_46_method_27_code
def yJ11_newLength : MethodName := ⟨RJ11, "newLength", "(III)I"⟩
def dkwJ11_newLength_1 : List UInt8 := [184, 0, 201, 172]
abbrev dktJ11_newLength_1 : List UInt8 := dkwJ11_newLength_1 ++ []
def dkwJ11_newLength_0 : List UInt8 := [26, 27, 28, 184, 0, 194, 96, 62, 3, 29, 162, 0, 11, 29, 18, 200, 163, 0, 5, 29, 172, 26, 27]
abbrev dktJ11_newLength_0 : List UInt8 := dkwJ11_newLength_0 ++ dktJ11_newLength_1
theorem dksJ11_newLength_0 : cJ11_newLength.data.toList.drop 0 = dktJ11_newLength_0 := by decide +kernel
theorem dksJ11_newLength_1 : cJ11_newLength.data.toList.drop 23 = dktJ11_newLength_1 := dk_seg dksJ11_newLength_0 23 rfl rfl
theorem dJ11_newLength_0 : decode cJ11_newLength 0 = .ok (.iload_n 0, 1) := dk_26 (dk_at dksJ11_newLength_0 0 rfl rfl)
theorem dJ11_newLength_1 : decode cJ11_newLength 1 = .ok (.iload_n 1, 1) := dk_27 (dk_at dksJ11_newLength_0 1 rfl rfl)
theorem dJ11_newLength_2 : decode cJ11_newLength 2 = .ok (.iload_n 2, 1) := dk_28 (dk_at dksJ11_newLength_0 2 rfl rfl)
theorem dJ11_newLength_3 : decode cJ11_newLength 3 = .ok (.invokestatic 194, 3) := dk_184 0 194 (dk_at dksJ11_newLength_0 3 rfl rfl)
theorem dJ11_newLength_6 : decode cJ11_newLength 6 = .ok (.iadd, 1) := dk_96 (dk_at dksJ11_newLength_0 6 rfl rfl)
theorem dJ11_newLength_7 : decode cJ11_newLength 7 = .ok (.istore_n 3, 1) := dk_62 (dk_at dksJ11_newLength_0 7 rfl rfl)
theorem dJ11_newLength_8 : decode cJ11_newLength 8 = .ok (.iconst 0, 1) := dk_3 (dk_at dksJ11_newLength_0 8 rfl rfl)
theorem dJ11_newLength_9 : decode cJ11_newLength 9 = .ok (.iload_n 3, 1) := dk_29 (dk_at dksJ11_newLength_0 9 rfl rfl)
theorem dJ11_newLength_10 : decode cJ11_newLength 10 = .ok (.if_icmp .ge 11, 3) := dk_162 0 11 (dk_at dksJ11_newLength_0 10 rfl rfl)
theorem dJ11_newLength_13 : decode cJ11_newLength 13 = .ok (.iload_n 3, 1) := dk_29 (dk_at dksJ11_newLength_0 13 rfl rfl)
theorem dJ11_newLength_14 : decode cJ11_newLength 14 = .ok (.ldc 200, 2) := dk_18 200 (dk_at dksJ11_newLength_0 14 rfl rfl)
theorem dJ11_newLength_16 : decode cJ11_newLength 16 = .ok (.if_icmp .gt 5, 3) := dk_163 0 5 (dk_at dksJ11_newLength_0 16 rfl rfl)
theorem dJ11_newLength_19 : decode cJ11_newLength 19 = .ok (.iload_n 3, 1) := dk_29 (dk_at dksJ11_newLength_0 19 rfl rfl)
theorem dJ11_newLength_20 : decode cJ11_newLength 20 = .ok (.ireturn, 1) := dk_172 (dk_at dksJ11_newLength_0 20 rfl rfl)
theorem dJ11_newLength_21 : decode cJ11_newLength 21 = .ok (.iload_n 0, 1) := dk_26 (dk_at dksJ11_newLength_0 21 rfl rfl)
theorem dJ11_newLength_22 : decode cJ11_newLength 22 = .ok (.iload_n 1, 1) := dk_27 (dk_at dksJ11_newLength_0 22 rfl rfl)
theorem dJ11_newLength_23 : decode cJ11_newLength 23 = .ok (.invokestatic 201, 3) := dk_184 0 201 (dk_at dksJ11_newLength_1 0 rfl rfl)
theorem dJ11_newLength_26 : decode cJ11_newLength 26 = .ok (.ireturn, 1) := dk_172 (dk_at dksJ11_newLength_1 3 rfl rfl)
abbrev cJ11_hugeLength : ByteArray := prog_46_method_28_code
def yJ11_hugeLength : MethodName := ⟨RJ11, "hugeLength", "(II)I"⟩
def dkwJ11_hugeLength_2 : List UInt8 := [191, 28, 18, 200, 163, 0, 6, 18, 200, 172, 28, 172]
abbrev dktJ11_hugeLength_2 : List UInt8 := dkwJ11_hugeLength_2 ++ []
def dkwJ11_hugeLength_1 : List UInt8 := [26, 182, 0, 98, 18, 208, 182, 0, 94, 27, 182, 0, 98, 18, 210, 182, 0, 94, 182, 0, 101, 183, 0, 212]
abbrev dktJ11_hugeLength_1 : List UInt8 := dkwJ11_hugeLength_1 ++ dktJ11_hugeLength_2
def dkwJ11_hugeLength_0 : List UInt8 := [26, 27, 96, 61, 28, 156, 0, 44, 187, 0, 204, 89, 187, 0, 89, 89, 183, 0, 91, 18, 206, 182, 0, 94]
abbrev dktJ11_hugeLength_0 : List UInt8 := dkwJ11_hugeLength_0 ++ dktJ11_hugeLength_1
theorem dksJ11_hugeLength_0 : cJ11_hugeLength.data.toList.drop 0 = dktJ11_hugeLength_0 := by decide +kernel
theorem dksJ11_hugeLength_1 : cJ11_hugeLength.data.toList.drop 24 = dktJ11_hugeLength_1 := dk_seg dksJ11_hugeLength_0 24 rfl rfl
theorem dksJ11_hugeLength_2 : cJ11_hugeLength.data.toList.drop 48 = dktJ11_hugeLength_2 := dk_seg dksJ11_hugeLength_1 24 rfl rfl
theorem dJ11_hugeLength_0 : decode cJ11_hugeLength 0 = .ok (.iload_n 0, 1) := dk_26 (dk_at dksJ11_hugeLength_0 0 rfl rfl)
theorem dJ11_hugeLength_1 : decode cJ11_hugeLength 1 = .ok (.iload_n 1, 1) := dk_27 (dk_at dksJ11_hugeLength_0 1 rfl rfl)
theorem dJ11_hugeLength_2 : decode cJ11_hugeLength 2 = .ok (.iadd, 1) := dk_96 (dk_at dksJ11_hugeLength_0 2 rfl rfl)
theorem dJ11_hugeLength_3 : decode cJ11_hugeLength 3 = .ok (.istore_n 2, 1) := dk_61 (dk_at dksJ11_hugeLength_0 3 rfl rfl)
theorem dJ11_hugeLength_4 : decode cJ11_hugeLength 4 = .ok (.iload_n 2, 1) := dk_28 (dk_at dksJ11_hugeLength_0 4 rfl rfl)
theorem dJ11_hugeLength_5 : decode cJ11_hugeLength 5 = .ok (.ifCond .ge 44, 3) := dk_156 0 44 (dk_at dksJ11_hugeLength_0 5 rfl rfl)
theorem dJ11_hugeLength_8 : decode cJ11_hugeLength 8 = .ok (.new 204, 3) := dk_187 0 204 (dk_at dksJ11_hugeLength_0 8 rfl rfl)
theorem dJ11_hugeLength_11 : decode cJ11_hugeLength 11 = .ok (.dup, 1) := dk_89 (dk_at dksJ11_hugeLength_0 11 rfl rfl)
theorem dJ11_hugeLength_12 : decode cJ11_hugeLength 12 = .ok (.new 89, 3) := dk_187 0 89 (dk_at dksJ11_hugeLength_0 12 rfl rfl)
theorem dJ11_hugeLength_15 : decode cJ11_hugeLength 15 = .ok (.dup, 1) := dk_89 (dk_at dksJ11_hugeLength_0 15 rfl rfl)
theorem dJ11_hugeLength_16 : decode cJ11_hugeLength 16 = .ok (.invokespecial 91, 3) := dk_183 0 91 (dk_at dksJ11_hugeLength_0 16 rfl rfl)
theorem dJ11_hugeLength_19 : decode cJ11_hugeLength 19 = .ok (.ldc 206, 2) := dk_18 206 (dk_at dksJ11_hugeLength_0 19 rfl rfl)
theorem dJ11_hugeLength_21 : decode cJ11_hugeLength 21 = .ok (.invokevirtual 94, 3) := dk_182 0 94 (dk_at dksJ11_hugeLength_0 21 rfl rfl)
theorem dJ11_hugeLength_24 : decode cJ11_hugeLength 24 = .ok (.iload_n 0, 1) := dk_26 (dk_at dksJ11_hugeLength_1 0 rfl rfl)
theorem dJ11_hugeLength_25 : decode cJ11_hugeLength 25 = .ok (.invokevirtual 98, 3) := dk_182 0 98 (dk_at dksJ11_hugeLength_1 1 rfl rfl)
theorem dJ11_hugeLength_28 : decode cJ11_hugeLength 28 = .ok (.ldc 208, 2) := dk_18 208 (dk_at dksJ11_hugeLength_1 4 rfl rfl)
theorem dJ11_hugeLength_30 : decode cJ11_hugeLength 30 = .ok (.invokevirtual 94, 3) := dk_182 0 94 (dk_at dksJ11_hugeLength_1 6 rfl rfl)
theorem dJ11_hugeLength_33 : decode cJ11_hugeLength 33 = .ok (.iload_n 1, 1) := dk_27 (dk_at dksJ11_hugeLength_1 9 rfl rfl)
theorem dJ11_hugeLength_34 : decode cJ11_hugeLength 34 = .ok (.invokevirtual 98, 3) := dk_182 0 98 (dk_at dksJ11_hugeLength_1 10 rfl rfl)
theorem dJ11_hugeLength_37 : decode cJ11_hugeLength 37 = .ok (.ldc 210, 2) := dk_18 210 (dk_at dksJ11_hugeLength_1 13 rfl rfl)
theorem dJ11_hugeLength_39 : decode cJ11_hugeLength 39 = .ok (.invokevirtual 94, 3) := dk_182 0 94 (dk_at dksJ11_hugeLength_1 15 rfl rfl)
theorem dJ11_hugeLength_42 : decode cJ11_hugeLength 42 = .ok (.invokevirtual 101, 3) := dk_182 0 101 (dk_at dksJ11_hugeLength_1 18 rfl rfl)
theorem dJ11_hugeLength_45 : decode cJ11_hugeLength 45 = .ok (.invokespecial 212, 3) := dk_183 0 212 (dk_at dksJ11_hugeLength_1 21 rfl rfl)
theorem dJ11_hugeLength_48 : decode cJ11_hugeLength 48 = .ok (.athrow, 1) := dk_191 (dk_at dksJ11_hugeLength_2 0 rfl rfl)
theorem dJ11_hugeLength_49 : decode cJ11_hugeLength 49 = .ok (.iload_n 2, 1) := dk_28 (dk_at dksJ11_hugeLength_2 1 rfl rfl)
theorem dJ11_hugeLength_50 : decode cJ11_hugeLength 50 = .ok (.ldc 200, 2) := dk_18 200 (dk_at dksJ11_hugeLength_2 2 rfl rfl)
theorem dJ11_hugeLength_52 : decode cJ11_hugeLength 52 = .ok (.if_icmp .gt 6, 3) := dk_163 0 6 (dk_at dksJ11_hugeLength_2 4 rfl rfl)
theorem dJ11_hugeLength_55 : decode cJ11_hugeLength 55 = .ok (.ldc 200, 2) := dk_18 200 (dk_at dksJ11_hugeLength_2 7 rfl rfl)
theorem dJ11_hugeLength_57 : decode cJ11_hugeLength 57 = .ok (.ireturn, 1) := dk_172 (dk_at dksJ11_hugeLength_2 9 rfl rfl)
theorem dJ11_hugeLength_58 : decode cJ11_hugeLength 58 = .ok (.iload_n 2, 1) := dk_28 (dk_at dksJ11_hugeLength_2 10 rfl rfl)
theorem dJ11_hugeLength_59 : decode cJ11_hugeLength 59 = .ok (.ireturn, 1) := dk_172 (dk_at dksJ11_hugeLength_2 11 rfl rfl)
abbrev cJ12_max : ByteArray := prog_29_method_65_code
def yJ12_max : MethodName := ⟨RJ12, "max", "(II)I"⟩
def dkwJ12_max_0 : List UInt8 := [26, 27, 161, 0, 7, 26, 167, 0, 4, 27, 172]
abbrev dktJ12_max_0 : List UInt8 := dkwJ12_max_0 ++ []
theorem dksJ12_max_0 : cJ12_max.data.toList.drop 0 = dktJ12_max_0 := by decide +kernel
theorem dJ12_max_0 : decode cJ12_max 0 = .ok (.iload_n 0, 1) := dk_26 (dk_at dksJ12_max_0 0 rfl rfl)
theorem dJ12_max_1 : decode cJ12_max 1 = .ok (.iload_n 1, 1) := dk_27 (dk_at dksJ12_max_0 1 rfl rfl)
theorem dJ12_max_2 : decode cJ12_max 2 = .ok (.if_icmp .lt 7, 3) := dk_161 0 7 (dk_at dksJ12_max_0 2 rfl rfl)
theorem dJ12_max_5 : decode cJ12_max 5 = .ok (.iload_n 0, 1) := dk_26 (dk_at dksJ12_max_0 5 rfl rfl)
theorem dJ12_max_6 : decode cJ12_max 6 = .ok (.goto 4, 3) := dk_167 0 4 (dk_at dksJ12_max_0 6 rfl rfl)
theorem dJ12_max_9 : decode cJ12_max 9 = .ok (.iload_n 1, 1) := dk_27 (dk_at dksJ12_max_0 9 rfl rfl)
theorem dJ12_max_10 : decode cJ12_max 10 = .ok (.ireturn, 1) := dk_172 (dk_at dksJ12_max_0 10 rfl rfl)
abbrev cJ12_min : ByteArray := prog_29_method_69_code
def yJ12_min : MethodName := ⟨RJ12, "min", "(II)I"⟩
def dkwJ12_min_0 : List UInt8 := [26, 27, 163, 0, 7, 26, 167, 0, 4, 27, 172]
abbrev dktJ12_min_0 : List UInt8 := dkwJ12_min_0 ++ []
theorem dksJ12_min_0 : cJ12_min.data.toList.drop 0 = dktJ12_min_0 := by decide +kernel
theorem dJ12_min_0 : decode cJ12_min 0 = .ok (.iload_n 0, 1) := dk_26 (dk_at dksJ12_min_0 0 rfl rfl)
theorem dJ12_min_1 : decode cJ12_min 1 = .ok (.iload_n 1, 1) := dk_27 (dk_at dksJ12_min_0 1 rfl rfl)
theorem dJ12_min_2 : decode cJ12_min 2 = .ok (.if_icmp .gt 7, 3) := dk_163 0 7 (dk_at dksJ12_min_0 2 rfl rfl)
theorem dJ12_min_5 : decode cJ12_min 5 = .ok (.iload_n 0, 1) := dk_26 (dk_at dksJ12_min_0 5 rfl rfl)
theorem dJ12_min_6 : decode cJ12_min 6 = .ok (.goto 4, 3) := dk_167 0 4 (dk_at dksJ12_min_0 6 rfl rfl)
theorem dJ12_min_9 : decode cJ12_min 9 = .ok (.iload_n 1, 1) := dk_27 (dk_at dksJ12_min_0 9 rfl rfl)
theorem dJ12_min_10 : decode cJ12_min 10 = .ok (.ireturn, 1) := dk_172 (dk_at dksJ12_min_0 10 rfl rfl)
abbrev cJ12_abs : ByteArray := prog_29_method_59_code
def yJ12_abs : MethodName := ⟨RJ12, "abs", "(I)I"⟩
def dkwJ12_abs_0 : List UInt8 := [26, 156, 0, 8, 26, 116, 167, 0, 4, 26, 172]
abbrev dktJ12_abs_0 : List UInt8 := dkwJ12_abs_0 ++ []
theorem dksJ12_abs_0 : cJ12_abs.data.toList.drop 0 = dktJ12_abs_0 := by decide +kernel
theorem dJ12_abs_0 : decode cJ12_abs 0 = .ok (.iload_n 0, 1) := dk_26 (dk_at dksJ12_abs_0 0 rfl rfl)
theorem dJ12_abs_1 : decode cJ12_abs 1 = .ok (.ifCond .ge 8, 3) := dk_156 0 8 (dk_at dksJ12_abs_0 1 rfl rfl)
theorem dJ12_abs_4 : decode cJ12_abs 4 = .ok (.iload_n 0, 1) := dk_26 (dk_at dksJ12_abs_0 4 rfl rfl)
theorem dJ12_abs_5 : decode cJ12_abs 5 = .ok (.ineg, 1) := dk_116 (dk_at dksJ12_abs_0 5 rfl rfl)
theorem dJ12_abs_6 : decode cJ12_abs 6 = .ok (.goto 4, 3) := dk_167 0 4 (dk_at dksJ12_abs_0 6 rfl rfl)
theorem dJ12_abs_9 : decode cJ12_abs 9 = .ok (.iload_n 0, 1) := dk_26 (dk_at dksJ12_abs_0 9 rfl rfl)
theorem dJ12_abs_10 : decode cJ12_abs 10 = .ok (.ireturn, 1) := dk_172 (dk_at dksJ12_abs_0 10 rfl rfl)
abbrev cJ13_copyOf : ByteArray := prog_40_method_119_code
def yJ13_copyOf : MethodName := ⟨RJ13, "copyOf", "([Ljava/lang/Object;I)[Ljava/lang/Object;"⟩
def dkwJ13_copyOf_0 : List UInt8 := [42, 27, 42, 182, 0, 86, 184, 1, 44, 176]
abbrev dktJ13_copyOf_0 : List UInt8 := dkwJ13_copyOf_0 ++ []
theorem dksJ13_copyOf_0 : cJ13_copyOf.data.toList.drop 0 = dktJ13_copyOf_0 := by decide +kernel
theorem dJ13_copyOf_0 : decode cJ13_copyOf 0 = .ok (.aload_n 0, 1) := dk_42 (dk_at dksJ13_copyOf_0 0 rfl rfl)
theorem dJ13_copyOf_1 : decode cJ13_copyOf 1 = .ok (.iload_n 1, 1) := dk_27 (dk_at dksJ13_copyOf_0 1 rfl rfl)
theorem dJ13_copyOf_2 : decode cJ13_copyOf 2 = .ok (.aload_n 0, 1) := dk_42 (dk_at dksJ13_copyOf_0 2 rfl rfl)
theorem dJ13_copyOf_3 : decode cJ13_copyOf 3 = .ok (.invokevirtual 86, 3) := dk_182 0 86 (dk_at dksJ13_copyOf_0 3 rfl rfl)
theorem dJ13_copyOf_6 : decode cJ13_copyOf 6 = .ok (.invokestatic 300, 3) := dk_184 1 44 (dk_at dksJ13_copyOf_0 6 rfl rfl)
theorem dJ13_copyOf_9 : decode cJ13_copyOf 9 = .ok (.areturn, 1) := dk_176 (dk_at dksJ13_copyOf_0 9 rfl rfl)
abbrev cJ13_copyOf_2 : ByteArray := prog_40_method_120_code
def yJ13_copyOf_2 : MethodName := ⟨RJ13, "copyOf", "([Ljava/lang/Object;ILjava/lang/Class;)[Ljava/lang/Object;"⟩
def dkwJ13_copyOf_2_1 : List UInt8 := [78, 42, 3, 45, 3, 42, 190, 27, 184, 1, 48, 184, 0, 150, 45, 176]
abbrev dktJ13_copyOf_2_1 : List UInt8 := dkwJ13_copyOf_2_1 ++ []
def dkwJ13_copyOf_2_0 : List UInt8 := [44, 18, 110, 166, 0, 10, 27, 189, 0, 2, 167, 0, 14, 44, 182, 0, 90, 27, 184, 0, 95, 192, 0, 110]
abbrev dktJ13_copyOf_2_0 : List UInt8 := dkwJ13_copyOf_2_0 ++ dktJ13_copyOf_2_1
theorem dksJ13_copyOf_2_0 : cJ13_copyOf_2.data.toList.drop 0 = dktJ13_copyOf_2_0 := by decide +kernel
theorem dksJ13_copyOf_2_1 : cJ13_copyOf_2.data.toList.drop 24 = dktJ13_copyOf_2_1 := dk_seg dksJ13_copyOf_2_0 24 rfl rfl
theorem dJ13_copyOf_2_0 : decode cJ13_copyOf_2 0 = .ok (.aload_n 2, 1) := dk_44 (dk_at dksJ13_copyOf_2_0 0 rfl rfl)
theorem dJ13_copyOf_2_1 : decode cJ13_copyOf_2 1 = .ok (.ldc 110, 2) := dk_18 110 (dk_at dksJ13_copyOf_2_0 1 rfl rfl)
theorem dJ13_copyOf_2_3 : decode cJ13_copyOf_2 3 = .ok (.if_acmp .ne 10, 3) := dk_166 0 10 (dk_at dksJ13_copyOf_2_0 3 rfl rfl)
theorem dJ13_copyOf_2_6 : decode cJ13_copyOf_2 6 = .ok (.iload_n 1, 1) := dk_27 (dk_at dksJ13_copyOf_2_0 6 rfl rfl)
theorem dJ13_copyOf_2_7 : decode cJ13_copyOf_2 7 = .ok (.anewarray 2, 3) := dk_189 0 2 (dk_at dksJ13_copyOf_2_0 7 rfl rfl)
theorem dJ13_copyOf_2_10 : decode cJ13_copyOf_2 10 = .ok (.goto 14, 3) := dk_167 0 14 (dk_at dksJ13_copyOf_2_0 10 rfl rfl)
theorem dJ13_copyOf_2_13 : decode cJ13_copyOf_2 13 = .ok (.aload_n 2, 1) := dk_44 (dk_at dksJ13_copyOf_2_0 13 rfl rfl)
theorem dJ13_copyOf_2_14 : decode cJ13_copyOf_2 14 = .ok (.invokevirtual 90, 3) := dk_182 0 90 (dk_at dksJ13_copyOf_2_0 14 rfl rfl)
theorem dJ13_copyOf_2_17 : decode cJ13_copyOf_2 17 = .ok (.iload_n 1, 1) := dk_27 (dk_at dksJ13_copyOf_2_0 17 rfl rfl)
theorem dJ13_copyOf_2_18 : decode cJ13_copyOf_2 18 = .ok (.invokestatic 95, 3) := dk_184 0 95 (dk_at dksJ13_copyOf_2_0 18 rfl rfl)
theorem dJ13_copyOf_2_21 : decode cJ13_copyOf_2 21 = .ok (.checkcast 110, 3) := dk_192 0 110 (dk_at dksJ13_copyOf_2_0 21 rfl rfl)
theorem dJ13_copyOf_2_24 : decode cJ13_copyOf_2 24 = .ok (.astore_n 3, 1) := dk_78 (dk_at dksJ13_copyOf_2_1 0 rfl rfl)
theorem dJ13_copyOf_2_25 : decode cJ13_copyOf_2 25 = .ok (.aload_n 0, 1) := dk_42 (dk_at dksJ13_copyOf_2_1 1 rfl rfl)
theorem dJ13_copyOf_2_26 : decode cJ13_copyOf_2 26 = .ok (.iconst 0, 1) := dk_3 (dk_at dksJ13_copyOf_2_1 2 rfl rfl)
theorem dJ13_copyOf_2_27 : decode cJ13_copyOf_2 27 = .ok (.aload_n 3, 1) := dk_45 (dk_at dksJ13_copyOf_2_1 3 rfl rfl)
theorem dJ13_copyOf_2_28 : decode cJ13_copyOf_2 28 = .ok (.iconst 0, 1) := dk_3 (dk_at dksJ13_copyOf_2_1 4 rfl rfl)
theorem dJ13_copyOf_2_29 : decode cJ13_copyOf_2 29 = .ok (.aload_n 0, 1) := dk_42 (dk_at dksJ13_copyOf_2_1 5 rfl rfl)
theorem dJ13_copyOf_2_30 : decode cJ13_copyOf_2 30 = .ok (.arraylength, 1) := dk_190 (dk_at dksJ13_copyOf_2_1 6 rfl rfl)
theorem dJ13_copyOf_2_31 : decode cJ13_copyOf_2 31 = .ok (.iload_n 1, 1) := dk_27 (dk_at dksJ13_copyOf_2_1 7 rfl rfl)
theorem dJ13_copyOf_2_32 : decode cJ13_copyOf_2 32 = .ok (.invokestatic 304, 3) := dk_184 1 48 (dk_at dksJ13_copyOf_2_1 8 rfl rfl)
theorem dJ13_copyOf_2_35 : decode cJ13_copyOf_2 35 = .ok (.invokestatic 150, 3) := dk_184 0 150 (dk_at dksJ13_copyOf_2_1 11 rfl rfl)
theorem dJ13_copyOf_2_38 : decode cJ13_copyOf_2 38 = .ok (.aload_n 3, 1) := dk_45 (dk_at dksJ13_copyOf_2_1 14 rfl rfl)
theorem dJ13_copyOf_2_39 : decode cJ13_copyOf_2 39 = .ok (.areturn, 1) := dk_176 (dk_at dksJ13_copyOf_2_1 15 rfl rfl)
abbrev cX12_init : ByteArray := prog_13_method_1_code
def yX12_init : MethodName := ⟨RX12, "<init>", "(III)V"⟩
def dkwX12_init_0 : List UInt8 := [42, 183, 0, 1, 42, 27, 181, 0, 7, 42, 28, 181, 0, 13, 42, 29, 181, 0, 16, 177]
abbrev dktX12_init_0 : List UInt8 := dkwX12_init_0 ++ []
theorem dksX12_init_0 : cX12_init.data.toList.drop 0 = dktX12_init_0 := by decide +kernel
theorem dX12_init_0 : decode cX12_init 0 = .ok (.aload_n 0, 1) := dk_42 (dk_at dksX12_init_0 0 rfl rfl)
theorem dX12_init_1 : decode cX12_init 1 = .ok (.invokespecial 1, 3) := dk_183 0 1 (dk_at dksX12_init_0 1 rfl rfl)
theorem dX12_init_4 : decode cX12_init 4 = .ok (.aload_n 0, 1) := dk_42 (dk_at dksX12_init_0 4 rfl rfl)
theorem dX12_init_5 : decode cX12_init 5 = .ok (.iload_n 1, 1) := dk_27 (dk_at dksX12_init_0 5 rfl rfl)
theorem dX12_init_6 : decode cX12_init 6 = .ok (.putfield 7, 3) := dk_181 0 7 (dk_at dksX12_init_0 6 rfl rfl)
theorem dX12_init_9 : decode cX12_init 9 = .ok (.aload_n 0, 1) := dk_42 (dk_at dksX12_init_0 9 rfl rfl)
theorem dX12_init_10 : decode cX12_init 10 = .ok (.iload_n 2, 1) := dk_28 (dk_at dksX12_init_0 10 rfl rfl)
theorem dX12_init_11 : decode cX12_init 11 = .ok (.putfield 13, 3) := dk_181 0 13 (dk_at dksX12_init_0 11 rfl rfl)
theorem dX12_init_14 : decode cX12_init 14 = .ok (.aload_n 0, 1) := dk_42 (dk_at dksX12_init_0 14 rfl rfl)
theorem dX12_init_15 : decode cX12_init 15 = .ok (.iload_n 3, 1) := dk_29 (dk_at dksX12_init_0 15 rfl rfl)
theorem dX12_init_16 : decode cX12_init 16 = .ok (.putfield 16, 3) := dk_181 0 16 (dk_at dksX12_init_0 16 rfl rfl)
theorem dX12_init_19 : decode cX12_init 19 = .ok (.return_, 1) := dk_177 (dk_at dksX12_init_0 19 rfl rfl)
abbrev cX12_isOf : ByteArray := prog_13_method_2_code
def yX12_isOf : MethodName := ⟨RX12, "isOf", "(I)Z"⟩
def dkwX12_isOf_0 : List UInt8 := [42, 180, 0, 7, 27, 159, 0, 11, 42, 180, 0, 13, 27, 160, 0, 7, 4, 167, 0, 4, 3, 172]
abbrev dktX12_isOf_0 : List UInt8 := dkwX12_isOf_0 ++ []
theorem dksX12_isOf_0 : cX12_isOf.data.toList.drop 0 = dktX12_isOf_0 := by decide +kernel
theorem dX12_isOf_0 : decode cX12_isOf 0 = .ok (.aload_n 0, 1) := dk_42 (dk_at dksX12_isOf_0 0 rfl rfl)
theorem dX12_isOf_1 : decode cX12_isOf 1 = .ok (.getfield 7, 3) := dk_180 0 7 (dk_at dksX12_isOf_0 1 rfl rfl)
theorem dX12_isOf_4 : decode cX12_isOf 4 = .ok (.iload_n 1, 1) := dk_27 (dk_at dksX12_isOf_0 4 rfl rfl)
theorem dX12_isOf_5 : decode cX12_isOf 5 = .ok (.if_icmp .eq 11, 3) := dk_159 0 11 (dk_at dksX12_isOf_0 5 rfl rfl)
theorem dX12_isOf_8 : decode cX12_isOf 8 = .ok (.aload_n 0, 1) := dk_42 (dk_at dksX12_isOf_0 8 rfl rfl)
theorem dX12_isOf_9 : decode cX12_isOf 9 = .ok (.getfield 13, 3) := dk_180 0 13 (dk_at dksX12_isOf_0 9 rfl rfl)
theorem dX12_isOf_12 : decode cX12_isOf 12 = .ok (.iload_n 1, 1) := dk_27 (dk_at dksX12_isOf_0 12 rfl rfl)
theorem dX12_isOf_13 : decode cX12_isOf 13 = .ok (.if_icmp .ne 7, 3) := dk_160 0 7 (dk_at dksX12_isOf_0 13 rfl rfl)
theorem dX12_isOf_16 : decode cX12_isOf 16 = .ok (.iconst 1, 1) := dk_4 (dk_at dksX12_isOf_0 16 rfl rfl)
theorem dX12_isOf_17 : decode cX12_isOf 17 = .ok (.goto 4, 3) := dk_167 0 4 (dk_at dksX12_isOf_0 17 rfl rfl)
theorem dX12_isOf_20 : decode cX12_isOf 20 = .ok (.iconst 0, 1) := dk_3 (dk_at dksX12_isOf_0 20 rfl rfl)
theorem dX12_isOf_21 : decode cX12_isOf 21 = .ok (.ireturn, 1) := dk_172 (dk_at dksX12_isOf_0 21 rfl rfl)
abbrev cX12_other : ByteArray := prog_13_method_3_code
def yX12_other : MethodName := ⟨RX12, "other", "(I)I"⟩
def dkwX12_other_0 : List UInt8 := [42, 180, 0, 7, 27, 160, 0, 10, 42, 180, 0, 13, 167, 0, 7, 42, 180, 0, 7, 172]
abbrev dktX12_other_0 : List UInt8 := dkwX12_other_0 ++ []
theorem dksX12_other_0 : cX12_other.data.toList.drop 0 = dktX12_other_0 := by decide +kernel
theorem dX12_other_0 : decode cX12_other 0 = .ok (.aload_n 0, 1) := dk_42 (dk_at dksX12_other_0 0 rfl rfl)
theorem dX12_other_1 : decode cX12_other 1 = .ok (.getfield 7, 3) := dk_180 0 7 (dk_at dksX12_other_0 1 rfl rfl)
theorem dX12_other_4 : decode cX12_other 4 = .ok (.iload_n 1, 1) := dk_27 (dk_at dksX12_other_0 4 rfl rfl)
theorem dX12_other_5 : decode cX12_other 5 = .ok (.if_icmp .ne 10, 3) := dk_160 0 10 (dk_at dksX12_other_0 5 rfl rfl)
theorem dX12_other_8 : decode cX12_other 8 = .ok (.aload_n 0, 1) := dk_42 (dk_at dksX12_other_0 8 rfl rfl)
theorem dX12_other_9 : decode cX12_other 9 = .ok (.getfield 13, 3) := dk_180 0 13 (dk_at dksX12_other_0 9 rfl rfl)
theorem dX12_other_12 : decode cX12_other 12 = .ok (.goto 7, 3) := dk_167 0 7 (dk_at dksX12_other_0 12 rfl rfl)
theorem dX12_other_15 : decode cX12_other 15 = .ok (.aload_n 0, 1) := dk_42 (dk_at dksX12_other_0 15 rfl rfl)
theorem dX12_other_16 : decode cX12_other 16 = .ok (.getfield 7, 3) := dk_180 0 7 (dk_at dksX12_other_0 16 rfl rfl)
theorem dX12_other_19 : decode cX12_other 19 = .ok (.ireturn, 1) := dk_172 (dk_at dksX12_other_0 19 rfl rfl)
abbrev cX13_init : ByteArray := prog_20_method_1_code
def yX13_init : MethodName := ⟨RX13, "<init>", "(II)V"⟩
def dkwX13_init_0 : List UInt8 := [42, 183, 0, 1, 42, 27, 181, 0, 7, 42, 28, 181, 0, 13, 177]
abbrev dktX13_init_0 : List UInt8 := dkwX13_init_0 ++ []
theorem dksX13_init_0 : cX13_init.data.toList.drop 0 = dktX13_init_0 := by decide +kernel
theorem dX13_init_0 : decode cX13_init 0 = .ok (.aload_n 0, 1) := dk_42 (dk_at dksX13_init_0 0 rfl rfl)
theorem dX13_init_1 : decode cX13_init 1 = .ok (.invokespecial 1, 3) := dk_183 0 1 (dk_at dksX13_init_0 1 rfl rfl)
theorem dX13_init_4 : decode cX13_init 4 = .ok (.aload_n 0, 1) := dk_42 (dk_at dksX13_init_0 4 rfl rfl)
theorem dX13_init_5 : decode cX13_init 5 = .ok (.iload_n 1, 1) := dk_27 (dk_at dksX13_init_0 5 rfl rfl)
theorem dX13_init_6 : decode cX13_init 6 = .ok (.putfield 7, 3) := dk_181 0 7 (dk_at dksX13_init_0 6 rfl rfl)
theorem dX13_init_9 : decode cX13_init 9 = .ok (.aload_n 0, 1) := dk_42 (dk_at dksX13_init_0 9 rfl rfl)
theorem dX13_init_10 : decode cX13_init 10 = .ok (.iload_n 2, 1) := dk_28 (dk_at dksX13_init_0 10 rfl rfl)
theorem dX13_init_11 : decode cX13_init 11 = .ok (.putfield 13, 3) := dk_181 0 13 (dk_at dksX13_init_0 11 rfl rfl)
theorem dX13_init_14 : decode cX13_init 14 = .ok (.return_, 1) := dk_177 (dk_at dksX13_init_0 14 rfl rfl)
abbrev cX14_init : ByteArray := prog_9_method_1_code
def yX14_init : MethodName := ⟨RX14, "<init>", "(ILStiltTown$Term;LStiltTown$Term;)V"⟩
def dkwX14_init_0 : List UInt8 := [42, 183, 0, 1, 42, 27, 181, 0, 7, 42, 44, 181, 0, 13, 42, 45, 181, 0, 17, 177]
abbrev dktX14_init_0 : List UInt8 := dkwX14_init_0 ++ []
theorem dksX14_init_0 : cX14_init.data.toList.drop 0 = dktX14_init_0 := by decide +kernel
theorem dX14_init_0 : decode cX14_init 0 = .ok (.aload_n 0, 1) := dk_42 (dk_at dksX14_init_0 0 rfl rfl)
theorem dX14_init_1 : decode cX14_init 1 = .ok (.invokespecial 1, 3) := dk_183 0 1 (dk_at dksX14_init_0 1 rfl rfl)
theorem dX14_init_4 : decode cX14_init 4 = .ok (.aload_n 0, 1) := dk_42 (dk_at dksX14_init_0 4 rfl rfl)
theorem dX14_init_5 : decode cX14_init 5 = .ok (.iload_n 1, 1) := dk_27 (dk_at dksX14_init_0 5 rfl rfl)
theorem dX14_init_6 : decode cX14_init 6 = .ok (.putfield 7, 3) := dk_181 0 7 (dk_at dksX14_init_0 6 rfl rfl)
theorem dX14_init_9 : decode cX14_init 9 = .ok (.aload_n 0, 1) := dk_42 (dk_at dksX14_init_0 9 rfl rfl)
theorem dX14_init_10 : decode cX14_init 10 = .ok (.aload_n 2, 1) := dk_44 (dk_at dksX14_init_0 10 rfl rfl)
theorem dX14_init_11 : decode cX14_init 11 = .ok (.putfield 13, 3) := dk_181 0 13 (dk_at dksX14_init_0 11 rfl rfl)
theorem dX14_init_14 : decode cX14_init 14 = .ok (.aload_n 0, 1) := dk_42 (dk_at dksX14_init_0 14 rfl rfl)
theorem dX14_init_15 : decode cX14_init 15 = .ok (.aload_n 3, 1) := dk_45 (dk_at dksX14_init_0 15 rfl rfl)
theorem dX14_init_16 : decode cX14_init 16 = .ok (.putfield 17, 3) := dk_181 0 17 (dk_at dksX14_init_0 16 rfl rfl)
theorem dX14_init_19 : decode cX14_init 19 = .ok (.return_, 1) := dk_177 (dk_at dksX14_init_0 19 rfl rfl)
abbrev cX14_value : ByteArray := prog_9_method_2_code
def yX14_value : MethodName := ⟨RX14, "value", "(LStiltTown$View;)I"⟩
def dkwX14_value_4 : List UInt8 := [2, 160, 0, 8, 28, 116, 167, 0, 6, 28, 29, 108, 172]
abbrev dktX14_value_4 : List UInt8 := dkwX14_value_4 ++ []
def dkwX14_value_3 : List UInt8 := [28, 29, 96, 172, 28, 29, 100, 172, 28, 29, 104, 172, 29, 154, 0, 10, 43, 4, 181, 0, 26, 3, 172, 29]
abbrev dktX14_value_3 : List UInt8 := dkwX14_value_3 ++ dktX14_value_4
def dkwX14_value_2 : List UInt8 := [170, 0, 0, 0, 0, 42, 0, 0, 0, 42, 0, 0, 0, 45, 0, 0, 0, 38, 0, 0, 0, 30, 0, 0, 0, 42, 0, 0, 0, 34]
abbrev dktX14_value_2 : List UInt8 := dkwX14_value_2 ++ dktX14_value_3
def dkwX14_value_1 : List UInt8 := [180, 0, 7]
abbrev dktX14_value_1 : List UInt8 := dkwX14_value_1 ++ dktX14_value_2
def dkwX14_value_0 : List UInt8 := [42, 180, 0, 13, 43, 185, 0, 20, 2, 0, 61, 42, 180, 0, 17, 43, 185, 0, 20, 2, 0, 62, 42]
abbrev dktX14_value_0 : List UInt8 := dkwX14_value_0 ++ dktX14_value_1
theorem dksX14_value_0 : cX14_value.data.toList.drop 0 = dktX14_value_0 := by decide +kernel
theorem dksX14_value_1 : cX14_value.data.toList.drop 23 = dktX14_value_1 := dk_seg dksX14_value_0 23 rfl rfl
theorem dksX14_value_2 : cX14_value.data.toList.drop 26 = dktX14_value_2 := dk_seg dksX14_value_1 3 rfl rfl
theorem dksX14_value_3 : cX14_value.data.toList.drop 56 = dktX14_value_3 := dk_seg dksX14_value_2 30 rfl rfl
theorem dksX14_value_4 : cX14_value.data.toList.drop 80 = dktX14_value_4 := dk_seg dksX14_value_3 24 rfl rfl
theorem dX14_value_0 : decode cX14_value 0 = .ok (.aload_n 0, 1) := dk_42 (dk_at dksX14_value_0 0 rfl rfl)
theorem dX14_value_1 : decode cX14_value 1 = .ok (.getfield 13, 3) := dk_180 0 13 (dk_at dksX14_value_0 1 rfl rfl)
theorem dX14_value_4 : decode cX14_value 4 = .ok (.aload_n 1, 1) := dk_43 (dk_at dksX14_value_0 4 rfl rfl)
theorem dX14_value_5 : decode cX14_value 5 = .ok (.invokeinterface 20 2, 5) := by decide +kernel
theorem dX14_value_10 : decode cX14_value 10 = .ok (.istore_n 2, 1) := dk_61 (dk_at dksX14_value_0 10 rfl rfl)
theorem dX14_value_11 : decode cX14_value 11 = .ok (.aload_n 0, 1) := dk_42 (dk_at dksX14_value_0 11 rfl rfl)
theorem dX14_value_12 : decode cX14_value 12 = .ok (.getfield 17, 3) := dk_180 0 17 (dk_at dksX14_value_0 12 rfl rfl)
theorem dX14_value_15 : decode cX14_value 15 = .ok (.aload_n 1, 1) := dk_43 (dk_at dksX14_value_0 15 rfl rfl)
theorem dX14_value_16 : decode cX14_value 16 = .ok (.invokeinterface 20 2, 5) := by decide +kernel
theorem dX14_value_21 : decode cX14_value 21 = .ok (.istore_n 3, 1) := dk_62 (dk_at dksX14_value_0 21 rfl rfl)
theorem dX14_value_22 : decode cX14_value 22 = .ok (.aload_n 0, 1) := dk_42 (dk_at dksX14_value_0 22 rfl rfl)
theorem dX14_value_23 : decode cX14_value 23 = .ok (.getfield 7, 3) := dk_180 0 7 (dk_at dksX14_value_1 0 rfl rfl)
theorem dX14_value_26 : decode cX14_value 26 = .ok (.tableswitch 42 42 45 #[38, 30, 42, 34], 30) := by decide +kernel
theorem dX14_value_56 : decode cX14_value 56 = .ok (.iload_n 2, 1) := dk_28 (dk_at dksX14_value_3 0 rfl rfl)
theorem dX14_value_57 : decode cX14_value 57 = .ok (.iload_n 3, 1) := dk_29 (dk_at dksX14_value_3 1 rfl rfl)
theorem dX14_value_58 : decode cX14_value 58 = .ok (.iadd, 1) := dk_96 (dk_at dksX14_value_3 2 rfl rfl)
theorem dX14_value_59 : decode cX14_value 59 = .ok (.ireturn, 1) := dk_172 (dk_at dksX14_value_3 3 rfl rfl)
theorem dX14_value_60 : decode cX14_value 60 = .ok (.iload_n 2, 1) := dk_28 (dk_at dksX14_value_3 4 rfl rfl)
theorem dX14_value_61 : decode cX14_value 61 = .ok (.iload_n 3, 1) := dk_29 (dk_at dksX14_value_3 5 rfl rfl)
theorem dX14_value_62 : decode cX14_value 62 = .ok (.isub, 1) := dk_100 (dk_at dksX14_value_3 6 rfl rfl)
theorem dX14_value_63 : decode cX14_value 63 = .ok (.ireturn, 1) := dk_172 (dk_at dksX14_value_3 7 rfl rfl)
theorem dX14_value_64 : decode cX14_value 64 = .ok (.iload_n 2, 1) := dk_28 (dk_at dksX14_value_3 8 rfl rfl)
theorem dX14_value_65 : decode cX14_value 65 = .ok (.iload_n 3, 1) := dk_29 (dk_at dksX14_value_3 9 rfl rfl)
theorem dX14_value_66 : decode cX14_value 66 = .ok (.imul, 1) := dk_104 (dk_at dksX14_value_3 10 rfl rfl)
theorem dX14_value_67 : decode cX14_value 67 = .ok (.ireturn, 1) := dk_172 (dk_at dksX14_value_3 11 rfl rfl)
theorem dX14_value_68 : decode cX14_value 68 = .ok (.iload_n 3, 1) := dk_29 (dk_at dksX14_value_3 12 rfl rfl)
theorem dX14_value_69 : decode cX14_value 69 = .ok (.ifCond .ne 10, 3) := dk_154 0 10 (dk_at dksX14_value_3 13 rfl rfl)
theorem dX14_value_72 : decode cX14_value 72 = .ok (.aload_n 1, 1) := dk_43 (dk_at dksX14_value_3 16 rfl rfl)
theorem dX14_value_73 : decode cX14_value 73 = .ok (.iconst 1, 1) := dk_4 (dk_at dksX14_value_3 17 rfl rfl)
theorem dX14_value_74 : decode cX14_value 74 = .ok (.putfield 26, 3) := dk_181 0 26 (dk_at dksX14_value_3 18 rfl rfl)
theorem dX14_value_77 : decode cX14_value 77 = .ok (.iconst 0, 1) := dk_3 (dk_at dksX14_value_3 21 rfl rfl)
theorem dX14_value_78 : decode cX14_value 78 = .ok (.ireturn, 1) := dk_172 (dk_at dksX14_value_3 22 rfl rfl)
theorem dX14_value_79 : decode cX14_value 79 = .ok (.iload_n 3, 1) := dk_29 (dk_at dksX14_value_3 23 rfl rfl)
theorem dX14_value_80 : decode cX14_value 80 = .ok (.iconst (-1), 1) := dk_2 (dk_at dksX14_value_4 0 rfl rfl)
theorem dX14_value_81 : decode cX14_value 81 = .ok (.if_icmp .ne 8, 3) := dk_160 0 8 (dk_at dksX14_value_4 1 rfl rfl)
theorem dX14_value_84 : decode cX14_value 84 = .ok (.iload_n 2, 1) := dk_28 (dk_at dksX14_value_4 4 rfl rfl)
theorem dX14_value_85 : decode cX14_value 85 = .ok (.ineg, 1) := dk_116 (dk_at dksX14_value_4 5 rfl rfl)
theorem dX14_value_86 : decode cX14_value 86 = .ok (.goto 6, 3) := dk_167 0 6 (dk_at dksX14_value_4 6 rfl rfl)
theorem dX14_value_89 : decode cX14_value 89 = .ok (.iload_n 2, 1) := dk_28 (dk_at dksX14_value_4 9 rfl rfl)
theorem dX14_value_90 : decode cX14_value 90 = .ok (.iload_n 3, 1) := dk_29 (dk_at dksX14_value_4 10 rfl rfl)
theorem dX14_value_91 : decode cX14_value 91 = .ok (.idiv, 1) := dk_108 (dk_at dksX14_value_4 11 rfl rfl)
theorem dX14_value_92 : decode cX14_value 92 = .ok (.ireturn, 1) := dk_172 (dk_at dksX14_value_4 12 rfl rfl)
abbrev cX15_init : ByteArray := prog_2_method_1_code
def yX15_init : MethodName := ⟨RX15, "<init>", "(ILStiltTown$Term;LStiltTown$Term;)V"⟩
def dkwX15_init_0 : List UInt8 := [42, 183, 0, 1, 42, 27, 181, 0, 7, 42, 44, 181, 0, 13, 42, 45, 181, 0, 17, 177]
abbrev dktX15_init_0 : List UInt8 := dkwX15_init_0 ++ []
theorem dksX15_init_0 : cX15_init.data.toList.drop 0 = dktX15_init_0 := by decide +kernel
theorem dX15_init_0 : decode cX15_init 0 = .ok (.aload_n 0, 1) := dk_42 (dk_at dksX15_init_0 0 rfl rfl)
theorem dX15_init_1 : decode cX15_init 1 = .ok (.invokespecial 1, 3) := dk_183 0 1 (dk_at dksX15_init_0 1 rfl rfl)
theorem dX15_init_4 : decode cX15_init 4 = .ok (.aload_n 0, 1) := dk_42 (dk_at dksX15_init_0 4 rfl rfl)
theorem dX15_init_5 : decode cX15_init 5 = .ok (.iload_n 1, 1) := dk_27 (dk_at dksX15_init_0 5 rfl rfl)
theorem dX15_init_6 : decode cX15_init 6 = .ok (.putfield 7, 3) := dk_181 0 7 (dk_at dksX15_init_0 6 rfl rfl)
theorem dX15_init_9 : decode cX15_init 9 = .ok (.aload_n 0, 1) := dk_42 (dk_at dksX15_init_0 9 rfl rfl)
theorem dX15_init_10 : decode cX15_init 10 = .ok (.aload_n 2, 1) := dk_44 (dk_at dksX15_init_0 10 rfl rfl)
theorem dX15_init_11 : decode cX15_init 11 = .ok (.putfield 13, 3) := dk_181 0 13 (dk_at dksX15_init_0 11 rfl rfl)
theorem dX15_init_14 : decode cX15_init 14 = .ok (.aload_n 0, 1) := dk_42 (dk_at dksX15_init_0 14 rfl rfl)
theorem dX15_init_15 : decode cX15_init 15 = .ok (.aload_n 3, 1) := dk_45 (dk_at dksX15_init_0 15 rfl rfl)
theorem dX15_init_16 : decode cX15_init 16 = .ok (.putfield 17, 3) := dk_181 0 17 (dk_at dksX15_init_0 16 rfl rfl)
theorem dX15_init_19 : decode cX15_init 19 = .ok (.return_, 1) := dk_177 (dk_at dksX15_init_0 19 rfl rfl)
abbrev cX15_holds : ByteArray := prog_2_method_2_code
def yX15_holds : MethodName := ⟨RX15, "holds", "(LStiltTown$View;)Z"⟩
def dkwX15_holds_4 : List UInt8 := [162, 0, 7, 4, 167, 0, 4, 3, 172, 28, 29, 163, 0, 7, 4, 167, 0, 4, 3, 172]
abbrev dktX15_holds_4 : List UInt8 := dkwX15_holds_4 ++ []
def dkwX15_holds_3 : List UInt8 := [28, 29, 160, 0, 7, 4, 167, 0, 4, 3, 172, 28, 29, 159, 0, 7, 4, 167, 0, 4, 3, 172, 28, 29]
abbrev dktX15_holds_3 : List UInt8 := dkwX15_holds_3 ++ dktX15_holds_4
def dkwX15_holds_2 : List UInt8 := [171, 0, 0, 0, 0, 0, 0, 69, 0, 0, 0, 3, 0, 0, 0, 33, 0, 0, 0, 47, 0, 0, 0, 60, 0, 0, 0, 58, 0, 0, 0, 61, 0, 0, 0, 36]
abbrev dktX15_holds_2 : List UInt8 := dkwX15_holds_2 ++ dktX15_holds_3
def dkwX15_holds_1 : List UInt8 := [185, 0, 26, 2, 0, 62, 43, 180, 0, 20, 153, 0, 5, 3, 172, 42, 180, 0, 7]
abbrev dktX15_holds_1 : List UInt8 := dkwX15_holds_1 ++ dktX15_holds_2
def dkwX15_holds_0 : List UInt8 := [43, 3, 181, 0, 20, 42, 180, 0, 13, 43, 185, 0, 26, 2, 0, 61, 42, 180, 0, 17, 43]
abbrev dktX15_holds_0 : List UInt8 := dkwX15_holds_0 ++ dktX15_holds_1
theorem dksX15_holds_0 : cX15_holds.data.toList.drop 0 = dktX15_holds_0 := by decide +kernel
theorem dksX15_holds_1 : cX15_holds.data.toList.drop 21 = dktX15_holds_1 := dk_seg dksX15_holds_0 21 rfl rfl
theorem dksX15_holds_2 : cX15_holds.data.toList.drop 40 = dktX15_holds_2 := dk_seg dksX15_holds_1 19 rfl rfl
theorem dksX15_holds_3 : cX15_holds.data.toList.drop 76 = dktX15_holds_3 := dk_seg dksX15_holds_2 36 rfl rfl
theorem dksX15_holds_4 : cX15_holds.data.toList.drop 100 = dktX15_holds_4 := dk_seg dksX15_holds_3 24 rfl rfl
theorem dX15_holds_0 : decode cX15_holds 0 = .ok (.aload_n 1, 1) := dk_43 (dk_at dksX15_holds_0 0 rfl rfl)
theorem dX15_holds_1 : decode cX15_holds 1 = .ok (.iconst 0, 1) := dk_3 (dk_at dksX15_holds_0 1 rfl rfl)
theorem dX15_holds_2 : decode cX15_holds 2 = .ok (.putfield 20, 3) := dk_181 0 20 (dk_at dksX15_holds_0 2 rfl rfl)
theorem dX15_holds_5 : decode cX15_holds 5 = .ok (.aload_n 0, 1) := dk_42 (dk_at dksX15_holds_0 5 rfl rfl)
theorem dX15_holds_6 : decode cX15_holds 6 = .ok (.getfield 13, 3) := dk_180 0 13 (dk_at dksX15_holds_0 6 rfl rfl)
theorem dX15_holds_9 : decode cX15_holds 9 = .ok (.aload_n 1, 1) := dk_43 (dk_at dksX15_holds_0 9 rfl rfl)
theorem dX15_holds_10 : decode cX15_holds 10 = .ok (.invokeinterface 26 2, 5) := by decide +kernel
theorem dX15_holds_15 : decode cX15_holds 15 = .ok (.istore_n 2, 1) := dk_61 (dk_at dksX15_holds_0 15 rfl rfl)
theorem dX15_holds_16 : decode cX15_holds 16 = .ok (.aload_n 0, 1) := dk_42 (dk_at dksX15_holds_0 16 rfl rfl)
theorem dX15_holds_17 : decode cX15_holds 17 = .ok (.getfield 17, 3) := dk_180 0 17 (dk_at dksX15_holds_0 17 rfl rfl)
theorem dX15_holds_20 : decode cX15_holds 20 = .ok (.aload_n 1, 1) := dk_43 (dk_at dksX15_holds_0 20 rfl rfl)
theorem dX15_holds_21 : decode cX15_holds 21 = .ok (.invokeinterface 26 2, 5) := by decide +kernel
theorem dX15_holds_26 : decode cX15_holds 26 = .ok (.istore_n 3, 1) := dk_62 (dk_at dksX15_holds_1 5 rfl rfl)
theorem dX15_holds_27 : decode cX15_holds 27 = .ok (.aload_n 1, 1) := dk_43 (dk_at dksX15_holds_1 6 rfl rfl)
theorem dX15_holds_28 : decode cX15_holds 28 = .ok (.getfield 20, 3) := dk_180 0 20 (dk_at dksX15_holds_1 7 rfl rfl)
theorem dX15_holds_31 : decode cX15_holds 31 = .ok (.ifCond .eq 5, 3) := dk_153 0 5 (dk_at dksX15_holds_1 10 rfl rfl)
theorem dX15_holds_34 : decode cX15_holds 34 = .ok (.iconst 0, 1) := dk_3 (dk_at dksX15_holds_1 13 rfl rfl)
theorem dX15_holds_35 : decode cX15_holds 35 = .ok (.ireturn, 1) := dk_172 (dk_at dksX15_holds_1 14 rfl rfl)
theorem dX15_holds_36 : decode cX15_holds 36 = .ok (.aload_n 0, 1) := dk_42 (dk_at dksX15_holds_1 15 rfl rfl)
theorem dX15_holds_37 : decode cX15_holds 37 = .ok (.getfield 7, 3) := dk_180 0 7 (dk_at dksX15_holds_1 16 rfl rfl)
theorem dX15_holds_40 : decode cX15_holds 40 = .ok (.lookupswitch 69 #[(33, 47), (60, 58), (61, 36)], 36) := by decide +kernel
theorem dX15_holds_76 : decode cX15_holds 76 = .ok (.iload_n 2, 1) := dk_28 (dk_at dksX15_holds_3 0 rfl rfl)
theorem dX15_holds_77 : decode cX15_holds 77 = .ok (.iload_n 3, 1) := dk_29 (dk_at dksX15_holds_3 1 rfl rfl)
theorem dX15_holds_78 : decode cX15_holds 78 = .ok (.if_icmp .ne 7, 3) := dk_160 0 7 (dk_at dksX15_holds_3 2 rfl rfl)
theorem dX15_holds_81 : decode cX15_holds 81 = .ok (.iconst 1, 1) := dk_4 (dk_at dksX15_holds_3 5 rfl rfl)
theorem dX15_holds_82 : decode cX15_holds 82 = .ok (.goto 4, 3) := dk_167 0 4 (dk_at dksX15_holds_3 6 rfl rfl)
theorem dX15_holds_85 : decode cX15_holds 85 = .ok (.iconst 0, 1) := dk_3 (dk_at dksX15_holds_3 9 rfl rfl)
theorem dX15_holds_86 : decode cX15_holds 86 = .ok (.ireturn, 1) := dk_172 (dk_at dksX15_holds_3 10 rfl rfl)
theorem dX15_holds_87 : decode cX15_holds 87 = .ok (.iload_n 2, 1) := dk_28 (dk_at dksX15_holds_3 11 rfl rfl)
theorem dX15_holds_88 : decode cX15_holds 88 = .ok (.iload_n 3, 1) := dk_29 (dk_at dksX15_holds_3 12 rfl rfl)
theorem dX15_holds_89 : decode cX15_holds 89 = .ok (.if_icmp .eq 7, 3) := dk_159 0 7 (dk_at dksX15_holds_3 13 rfl rfl)
theorem dX15_holds_92 : decode cX15_holds 92 = .ok (.iconst 1, 1) := dk_4 (dk_at dksX15_holds_3 16 rfl rfl)
theorem dX15_holds_93 : decode cX15_holds 93 = .ok (.goto 4, 3) := dk_167 0 4 (dk_at dksX15_holds_3 17 rfl rfl)
theorem dX15_holds_96 : decode cX15_holds 96 = .ok (.iconst 0, 1) := dk_3 (dk_at dksX15_holds_3 20 rfl rfl)
theorem dX15_holds_97 : decode cX15_holds 97 = .ok (.ireturn, 1) := dk_172 (dk_at dksX15_holds_3 21 rfl rfl)
theorem dX15_holds_98 : decode cX15_holds 98 = .ok (.iload_n 2, 1) := dk_28 (dk_at dksX15_holds_3 22 rfl rfl)
theorem dX15_holds_99 : decode cX15_holds 99 = .ok (.iload_n 3, 1) := dk_29 (dk_at dksX15_holds_3 23 rfl rfl)
theorem dX15_holds_100 : decode cX15_holds 100 = .ok (.if_icmp .ge 7, 3) := dk_162 0 7 (dk_at dksX15_holds_4 0 rfl rfl)
theorem dX15_holds_103 : decode cX15_holds 103 = .ok (.iconst 1, 1) := dk_4 (dk_at dksX15_holds_4 3 rfl rfl)
theorem dX15_holds_104 : decode cX15_holds 104 = .ok (.goto 4, 3) := dk_167 0 4 (dk_at dksX15_holds_4 4 rfl rfl)
theorem dX15_holds_107 : decode cX15_holds 107 = .ok (.iconst 0, 1) := dk_3 (dk_at dksX15_holds_4 7 rfl rfl)
theorem dX15_holds_108 : decode cX15_holds 108 = .ok (.ireturn, 1) := dk_172 (dk_at dksX15_holds_4 8 rfl rfl)
theorem dX15_holds_109 : decode cX15_holds 109 = .ok (.iload_n 2, 1) := dk_28 (dk_at dksX15_holds_4 9 rfl rfl)
theorem dX15_holds_110 : decode cX15_holds 110 = .ok (.iload_n 3, 1) := dk_29 (dk_at dksX15_holds_4 10 rfl rfl)
theorem dX15_holds_111 : decode cX15_holds 111 = .ok (.if_icmp .gt 7, 3) := dk_163 0 7 (dk_at dksX15_holds_4 11 rfl rfl)
theorem dX15_holds_114 : decode cX15_holds 114 = .ok (.iconst 1, 1) := dk_4 (dk_at dksX15_holds_4 14 rfl rfl)
theorem dX15_holds_115 : decode cX15_holds 115 = .ok (.goto 4, 3) := dk_167 0 4 (dk_at dksX15_holds_4 15 rfl rfl)
theorem dX15_holds_118 : decode cX15_holds 118 = .ok (.iconst 0, 1) := dk_3 (dk_at dksX15_holds_4 18 rfl rfl)
theorem dX15_holds_119 : decode cX15_holds 119 = .ok (.ireturn, 1) := dk_172 (dk_at dksX15_holds_4 19 rfl rfl)
abbrev cX16_init : ByteArray := prog_8_method_1_code
def yX16_init : MethodName := ⟨RX16, "<init>", "(LStiltTown$Test;)V"⟩
def dkwX16_init_0 : List UInt8 := [42, 183, 0, 1, 42, 43, 181, 0, 7, 177]
abbrev dktX16_init_0 : List UInt8 := dkwX16_init_0 ++ []
theorem dksX16_init_0 : cX16_init.data.toList.drop 0 = dktX16_init_0 := by decide +kernel
theorem dX16_init_0 : decode cX16_init 0 = .ok (.aload_n 0, 1) := dk_42 (dk_at dksX16_init_0 0 rfl rfl)
theorem dX16_init_1 : decode cX16_init 1 = .ok (.invokespecial 1, 3) := dk_183 0 1 (dk_at dksX16_init_0 1 rfl rfl)
theorem dX16_init_4 : decode cX16_init 4 = .ok (.aload_n 0, 1) := dk_42 (dk_at dksX16_init_0 4 rfl rfl)
theorem dX16_init_5 : decode cX16_init 5 = .ok (.aload_n 1, 1) := dk_43 (dk_at dksX16_init_0 5 rfl rfl)
theorem dX16_init_6 : decode cX16_init 6 = .ok (.putfield 7, 3) := dk_181 0 7 (dk_at dksX16_init_0 6 rfl rfl)
theorem dX16_init_9 : decode cX16_init 9 = .ok (.return_, 1) := dk_177 (dk_at dksX16_init_0 9 rfl rfl)
abbrev cX16_holds : ByteArray := prog_8_method_2_code
def yX16_holds : MethodName := ⟨RX16, "holds", "(LStiltTown$View;)Z"⟩
def dkwX16_holds_0 : List UInt8 := [42, 180, 0, 7, 43, 185, 0, 13, 2, 0, 154, 0, 7, 4, 167, 0, 4, 3, 172]
abbrev dktX16_holds_0 : List UInt8 := dkwX16_holds_0 ++ []
theorem dksX16_holds_0 : cX16_holds.data.toList.drop 0 = dktX16_holds_0 := by decide +kernel
theorem dX16_holds_0 : decode cX16_holds 0 = .ok (.aload_n 0, 1) := dk_42 (dk_at dksX16_holds_0 0 rfl rfl)
theorem dX16_holds_1 : decode cX16_holds 1 = .ok (.getfield 7, 3) := dk_180 0 7 (dk_at dksX16_holds_0 1 rfl rfl)
theorem dX16_holds_4 : decode cX16_holds 4 = .ok (.aload_n 1, 1) := dk_43 (dk_at dksX16_holds_0 4 rfl rfl)
theorem dX16_holds_5 : decode cX16_holds 5 = .ok (.invokeinterface 13 2, 5) := by decide +kernel
theorem dX16_holds_10 : decode cX16_holds 10 = .ok (.ifCond .ne 7, 3) := dk_154 0 7 (dk_at dksX16_holds_0 10 rfl rfl)
theorem dX16_holds_13 : decode cX16_holds 13 = .ok (.iconst 1, 1) := dk_4 (dk_at dksX16_holds_0 13 rfl rfl)
theorem dX16_holds_14 : decode cX16_holds 14 = .ok (.goto 4, 3) := dk_167 0 4 (dk_at dksX16_holds_0 14 rfl rfl)
theorem dX16_holds_17 : decode cX16_holds 17 = .ok (.iconst 0, 1) := dk_3 (dk_at dksX16_holds_0 17 rfl rfl)
theorem dX16_holds_18 : decode cX16_holds 18 = .ok (.ireturn, 1) := dk_172 (dk_at dksX16_holds_0 18 rfl rfl)
abbrev cX17_init : ByteArray := prog_7_method_1_code
def yX17_init : MethodName := ⟨RX17, "<init>", "(ZLjava/util/ArrayList;)V"⟩
def dkwX17_init_0 : List UInt8 := [42, 183, 0, 1, 42, 27, 181, 0, 7, 42, 44, 181, 0, 13, 177]
abbrev dktX17_init_0 : List UInt8 := dkwX17_init_0 ++ []
theorem dksX17_init_0 : cX17_init.data.toList.drop 0 = dktX17_init_0 := by decide +kernel
theorem dX17_init_0 : decode cX17_init 0 = .ok (.aload_n 0, 1) := dk_42 (dk_at dksX17_init_0 0 rfl rfl)
theorem dX17_init_1 : decode cX17_init 1 = .ok (.invokespecial 1, 3) := dk_183 0 1 (dk_at dksX17_init_0 1 rfl rfl)
theorem dX17_init_4 : decode cX17_init 4 = .ok (.aload_n 0, 1) := dk_42 (dk_at dksX17_init_0 4 rfl rfl)
theorem dX17_init_5 : decode cX17_init 5 = .ok (.iload_n 1, 1) := dk_27 (dk_at dksX17_init_0 5 rfl rfl)
theorem dX17_init_6 : decode cX17_init 6 = .ok (.putfield 7, 3) := dk_181 0 7 (dk_at dksX17_init_0 6 rfl rfl)
theorem dX17_init_9 : decode cX17_init 9 = .ok (.aload_n 0, 1) := dk_42 (dk_at dksX17_init_0 9 rfl rfl)
theorem dX17_init_10 : decode cX17_init 10 = .ok (.aload_n 2, 1) := dk_44 (dk_at dksX17_init_0 10 rfl rfl)
theorem dX17_init_11 : decode cX17_init 11 = .ok (.putfield 13, 3) := dk_181 0 13 (dk_at dksX17_init_0 11 rfl rfl)
theorem dX17_init_14 : decode cX17_init 14 = .ok (.return_, 1) := dk_177 (dk_at dksX17_init_0 14 rfl rfl)
abbrev cX17_holds : ByteArray := prog_7_method_2_code
def yX17_holds : MethodName := ⟨RX17, "holds", "(LStiltTown$View;)Z"⟩
def dkwX17_holds_2 : List UInt8 := [167, 0, 4, 3, 172, 132, 2, 1, 167, 255, 203, 42, 180, 0, 7, 172]
abbrev dktX17_holds_2 : List UInt8 := dkwX17_holds_2 ++ []
def dkwX17_holds_1 : List UInt8 := [78, 45, 43, 185, 0, 29, 2, 0, 42, 180, 0, 7, 159, 0, 16, 42, 180, 0, 7, 154, 0, 7, 4]
abbrev dktX17_holds_1 : List UInt8 := dkwX17_holds_1 ++ dktX17_holds_2
def dkwX17_holds_0 : List UInt8 := [3, 61, 28, 42, 180, 0, 13, 182, 0, 17, 162, 0, 48, 42, 180, 0, 13, 28, 182, 0, 23, 192, 0, 27]
abbrev dktX17_holds_0 : List UInt8 := dkwX17_holds_0 ++ dktX17_holds_1
theorem dksX17_holds_0 : cX17_holds.data.toList.drop 0 = dktX17_holds_0 := by decide +kernel
theorem dksX17_holds_1 : cX17_holds.data.toList.drop 24 = dktX17_holds_1 := dk_seg dksX17_holds_0 24 rfl rfl
theorem dksX17_holds_2 : cX17_holds.data.toList.drop 47 = dktX17_holds_2 := dk_seg dksX17_holds_1 23 rfl rfl
theorem dX17_holds_0 : decode cX17_holds 0 = .ok (.iconst 0, 1) := dk_3 (dk_at dksX17_holds_0 0 rfl rfl)
theorem dX17_holds_1 : decode cX17_holds 1 = .ok (.istore_n 2, 1) := dk_61 (dk_at dksX17_holds_0 1 rfl rfl)
theorem dX17_holds_2 : decode cX17_holds 2 = .ok (.iload_n 2, 1) := dk_28 (dk_at dksX17_holds_0 2 rfl rfl)
theorem dX17_holds_3 : decode cX17_holds 3 = .ok (.aload_n 0, 1) := dk_42 (dk_at dksX17_holds_0 3 rfl rfl)
theorem dX17_holds_4 : decode cX17_holds 4 = .ok (.getfield 13, 3) := dk_180 0 13 (dk_at dksX17_holds_0 4 rfl rfl)
theorem dX17_holds_7 : decode cX17_holds 7 = .ok (.invokevirtual 17, 3) := dk_182 0 17 (dk_at dksX17_holds_0 7 rfl rfl)
theorem dX17_holds_10 : decode cX17_holds 10 = .ok (.if_icmp .ge 48, 3) := dk_162 0 48 (dk_at dksX17_holds_0 10 rfl rfl)
theorem dX17_holds_13 : decode cX17_holds 13 = .ok (.aload_n 0, 1) := dk_42 (dk_at dksX17_holds_0 13 rfl rfl)
theorem dX17_holds_14 : decode cX17_holds 14 = .ok (.getfield 13, 3) := dk_180 0 13 (dk_at dksX17_holds_0 14 rfl rfl)
theorem dX17_holds_17 : decode cX17_holds 17 = .ok (.iload_n 2, 1) := dk_28 (dk_at dksX17_holds_0 17 rfl rfl)
theorem dX17_holds_18 : decode cX17_holds 18 = .ok (.invokevirtual 23, 3) := dk_182 0 23 (dk_at dksX17_holds_0 18 rfl rfl)
theorem dX17_holds_21 : decode cX17_holds 21 = .ok (.checkcast 27, 3) := dk_192 0 27 (dk_at dksX17_holds_0 21 rfl rfl)
theorem dX17_holds_24 : decode cX17_holds 24 = .ok (.astore_n 3, 1) := dk_78 (dk_at dksX17_holds_1 0 rfl rfl)
theorem dX17_holds_25 : decode cX17_holds 25 = .ok (.aload_n 3, 1) := dk_45 (dk_at dksX17_holds_1 1 rfl rfl)
theorem dX17_holds_26 : decode cX17_holds 26 = .ok (.aload_n 1, 1) := dk_43 (dk_at dksX17_holds_1 2 rfl rfl)
theorem dX17_holds_27 : decode cX17_holds 27 = .ok (.invokeinterface 29 2, 5) := by decide +kernel
theorem dX17_holds_32 : decode cX17_holds 32 = .ok (.aload_n 0, 1) := dk_42 (dk_at dksX17_holds_1 8 rfl rfl)
theorem dX17_holds_33 : decode cX17_holds 33 = .ok (.getfield 7, 3) := dk_180 0 7 (dk_at dksX17_holds_1 9 rfl rfl)
theorem dX17_holds_36 : decode cX17_holds 36 = .ok (.if_icmp .eq 16, 3) := dk_159 0 16 (dk_at dksX17_holds_1 12 rfl rfl)
theorem dX17_holds_39 : decode cX17_holds 39 = .ok (.aload_n 0, 1) := dk_42 (dk_at dksX17_holds_1 15 rfl rfl)
theorem dX17_holds_40 : decode cX17_holds 40 = .ok (.getfield 7, 3) := dk_180 0 7 (dk_at dksX17_holds_1 16 rfl rfl)
theorem dX17_holds_43 : decode cX17_holds 43 = .ok (.ifCond .ne 7, 3) := dk_154 0 7 (dk_at dksX17_holds_1 19 rfl rfl)
theorem dX17_holds_46 : decode cX17_holds 46 = .ok (.iconst 1, 1) := dk_4 (dk_at dksX17_holds_1 22 rfl rfl)
theorem dX17_holds_47 : decode cX17_holds 47 = .ok (.goto 4, 3) := dk_167 0 4 (dk_at dksX17_holds_2 0 rfl rfl)
theorem dX17_holds_50 : decode cX17_holds 50 = .ok (.iconst 0, 1) := dk_3 (dk_at dksX17_holds_2 3 rfl rfl)
theorem dX17_holds_51 : decode cX17_holds 51 = .ok (.ireturn, 1) := dk_172 (dk_at dksX17_holds_2 4 rfl rfl)
theorem dX17_holds_52 : decode cX17_holds 52 = .ok (.iinc 2 1, 3) := dk_132 2 1 (dk_at dksX17_holds_2 5 rfl rfl)
theorem dX17_holds_55 : decode cX17_holds 55 = .ok (.goto (-53), 3) := dk_167 255 203 (dk_at dksX17_holds_2 8 rfl rfl)
theorem dX17_holds_58 : decode cX17_holds 58 = .ok (.aload_n 0, 1) := dk_42 (dk_at dksX17_holds_2 11 rfl rfl)
theorem dX17_holds_59 : decode cX17_holds 59 = .ok (.getfield 7, 3) := dk_180 0 7 (dk_at dksX17_holds_2 12 rfl rfl)
theorem dX17_holds_62 : decode cX17_holds 62 = .ok (.ireturn, 1) := dk_172 (dk_at dksX17_holds_2 15 rfl rfl)
abbrev cJ14_checkIndex : ByteArray := prog_43_method_17_code
def yJ14_checkIndex : MethodName := ⟨RJ14, "checkIndex", "(II)I"⟩
def dkwJ14_checkIndex_0 : List UInt8 := [26, 27, 1, 184, 0, 105, 172]
abbrev dktJ14_checkIndex_0 : List UInt8 := dkwJ14_checkIndex_0 ++ []
theorem dksJ14_checkIndex_0 : cJ14_checkIndex.data.toList.drop 0 = dktJ14_checkIndex_0 := by decide +kernel
theorem dJ14_checkIndex_0 : decode cJ14_checkIndex 0 = .ok (.iload_n 0, 1) := dk_26 (dk_at dksJ14_checkIndex_0 0 rfl rfl)
theorem dJ14_checkIndex_1 : decode cJ14_checkIndex 1 = .ok (.iload_n 1, 1) := dk_27 (dk_at dksJ14_checkIndex_0 1 rfl rfl)
theorem dJ14_checkIndex_2 : decode cJ14_checkIndex 2 = .ok (.aconst_null, 1) := dk_1 (dk_at dksJ14_checkIndex_0 2 rfl rfl)
theorem dJ14_checkIndex_3 : decode cJ14_checkIndex 3 = .ok (.invokestatic 105, 3) := dk_184 0 105 (dk_at dksJ14_checkIndex_0 3 rfl rfl)
theorem dJ14_checkIndex_6 : decode cJ14_checkIndex 6 = .ok (.ireturn, 1) := dk_172 (dk_at dksJ14_checkIndex_0 6 rfl rfl)
abbrev cJ15_bitCount : ByteArray := prog_27_method_49_code
def yJ15_bitCount : MethodName := ⟨RJ15, "bitCount", "(I)I"⟩
def dkwJ15_bitCount_2 : List UInt8 := [26, 16, 63, 126, 172]
abbrev dktJ15_bitCount_2 : List UInt8 := dkwJ15_bitCount_2 ++ []
def dkwJ15_bitCount_1 : List UInt8 := [26, 26, 7, 124, 96, 19, 1, 11, 126, 59, 26, 26, 16, 8, 124, 96, 59, 26, 26, 16, 16, 124, 96, 59]
abbrev dktJ15_bitCount_1 : List UInt8 := dkwJ15_bitCount_1 ++ dktJ15_bitCount_2
def dkwJ15_bitCount_0 : List UInt8 := [26, 26, 4, 124, 19, 1, 9, 126, 100, 59, 26, 19, 1, 10, 126, 26, 5, 124, 19, 1, 10, 126, 96, 59]
abbrev dktJ15_bitCount_0 : List UInt8 := dkwJ15_bitCount_0 ++ dktJ15_bitCount_1
theorem dksJ15_bitCount_0 : cJ15_bitCount.data.toList.drop 0 = dktJ15_bitCount_0 := by decide +kernel
theorem dksJ15_bitCount_1 : cJ15_bitCount.data.toList.drop 24 = dktJ15_bitCount_1 := dk_seg dksJ15_bitCount_0 24 rfl rfl
theorem dksJ15_bitCount_2 : cJ15_bitCount.data.toList.drop 48 = dktJ15_bitCount_2 := dk_seg dksJ15_bitCount_1 24 rfl rfl
theorem dJ15_bitCount_0 : decode cJ15_bitCount 0 = .ok (.iload_n 0, 1) := dk_26 (dk_at dksJ15_bitCount_0 0 rfl rfl)
theorem dJ15_bitCount_1 : decode cJ15_bitCount 1 = .ok (.iload_n 0, 1) := dk_26 (dk_at dksJ15_bitCount_0 1 rfl rfl)
theorem dJ15_bitCount_2 : decode cJ15_bitCount 2 = .ok (.iconst 1, 1) := dk_4 (dk_at dksJ15_bitCount_0 2 rfl rfl)
theorem dJ15_bitCount_3 : decode cJ15_bitCount 3 = .ok (.iushr, 1) := dk_124 (dk_at dksJ15_bitCount_0 3 rfl rfl)
theorem dJ15_bitCount_4 : decode cJ15_bitCount 4 = .ok (.ldc_w 265, 3) := dk_19 1 9 (dk_at dksJ15_bitCount_0 4 rfl rfl)
theorem dJ15_bitCount_7 : decode cJ15_bitCount 7 = .ok (.iand, 1) := dk_126 (dk_at dksJ15_bitCount_0 7 rfl rfl)
theorem dJ15_bitCount_8 : decode cJ15_bitCount 8 = .ok (.isub, 1) := dk_100 (dk_at dksJ15_bitCount_0 8 rfl rfl)
theorem dJ15_bitCount_9 : decode cJ15_bitCount 9 = .ok (.istore_n 0, 1) := dk_59 (dk_at dksJ15_bitCount_0 9 rfl rfl)
theorem dJ15_bitCount_10 : decode cJ15_bitCount 10 = .ok (.iload_n 0, 1) := dk_26 (dk_at dksJ15_bitCount_0 10 rfl rfl)
theorem dJ15_bitCount_11 : decode cJ15_bitCount 11 = .ok (.ldc_w 266, 3) := dk_19 1 10 (dk_at dksJ15_bitCount_0 11 rfl rfl)
theorem dJ15_bitCount_14 : decode cJ15_bitCount 14 = .ok (.iand, 1) := dk_126 (dk_at dksJ15_bitCount_0 14 rfl rfl)
theorem dJ15_bitCount_15 : decode cJ15_bitCount 15 = .ok (.iload_n 0, 1) := dk_26 (dk_at dksJ15_bitCount_0 15 rfl rfl)
theorem dJ15_bitCount_16 : decode cJ15_bitCount 16 = .ok (.iconst 2, 1) := dk_5 (dk_at dksJ15_bitCount_0 16 rfl rfl)
theorem dJ15_bitCount_17 : decode cJ15_bitCount 17 = .ok (.iushr, 1) := dk_124 (dk_at dksJ15_bitCount_0 17 rfl rfl)
theorem dJ15_bitCount_18 : decode cJ15_bitCount 18 = .ok (.ldc_w 266, 3) := dk_19 1 10 (dk_at dksJ15_bitCount_0 18 rfl rfl)
theorem dJ15_bitCount_21 : decode cJ15_bitCount 21 = .ok (.iand, 1) := dk_126 (dk_at dksJ15_bitCount_0 21 rfl rfl)
theorem dJ15_bitCount_22 : decode cJ15_bitCount 22 = .ok (.iadd, 1) := dk_96 (dk_at dksJ15_bitCount_0 22 rfl rfl)
theorem dJ15_bitCount_23 : decode cJ15_bitCount 23 = .ok (.istore_n 0, 1) := dk_59 (dk_at dksJ15_bitCount_0 23 rfl rfl)
theorem dJ15_bitCount_24 : decode cJ15_bitCount 24 = .ok (.iload_n 0, 1) := dk_26 (dk_at dksJ15_bitCount_1 0 rfl rfl)
theorem dJ15_bitCount_25 : decode cJ15_bitCount 25 = .ok (.iload_n 0, 1) := dk_26 (dk_at dksJ15_bitCount_1 1 rfl rfl)
theorem dJ15_bitCount_26 : decode cJ15_bitCount 26 = .ok (.iconst 4, 1) := dk_7 (dk_at dksJ15_bitCount_1 2 rfl rfl)
theorem dJ15_bitCount_27 : decode cJ15_bitCount 27 = .ok (.iushr, 1) := dk_124 (dk_at dksJ15_bitCount_1 3 rfl rfl)
theorem dJ15_bitCount_28 : decode cJ15_bitCount 28 = .ok (.iadd, 1) := dk_96 (dk_at dksJ15_bitCount_1 4 rfl rfl)
theorem dJ15_bitCount_29 : decode cJ15_bitCount 29 = .ok (.ldc_w 267, 3) := dk_19 1 11 (dk_at dksJ15_bitCount_1 5 rfl rfl)
theorem dJ15_bitCount_32 : decode cJ15_bitCount 32 = .ok (.iand, 1) := dk_126 (dk_at dksJ15_bitCount_1 8 rfl rfl)
theorem dJ15_bitCount_33 : decode cJ15_bitCount 33 = .ok (.istore_n 0, 1) := dk_59 (dk_at dksJ15_bitCount_1 9 rfl rfl)
theorem dJ15_bitCount_34 : decode cJ15_bitCount 34 = .ok (.iload_n 0, 1) := dk_26 (dk_at dksJ15_bitCount_1 10 rfl rfl)
theorem dJ15_bitCount_35 : decode cJ15_bitCount 35 = .ok (.iload_n 0, 1) := dk_26 (dk_at dksJ15_bitCount_1 11 rfl rfl)
theorem dJ15_bitCount_36 : decode cJ15_bitCount 36 = .ok (.bipush 8, 2) := dk_16 8 (dk_at dksJ15_bitCount_1 12 rfl rfl)
theorem dJ15_bitCount_38 : decode cJ15_bitCount 38 = .ok (.iushr, 1) := dk_124 (dk_at dksJ15_bitCount_1 14 rfl rfl)
theorem dJ15_bitCount_39 : decode cJ15_bitCount 39 = .ok (.iadd, 1) := dk_96 (dk_at dksJ15_bitCount_1 15 rfl rfl)
theorem dJ15_bitCount_40 : decode cJ15_bitCount 40 = .ok (.istore_n 0, 1) := dk_59 (dk_at dksJ15_bitCount_1 16 rfl rfl)
theorem dJ15_bitCount_41 : decode cJ15_bitCount 41 = .ok (.iload_n 0, 1) := dk_26 (dk_at dksJ15_bitCount_1 17 rfl rfl)
theorem dJ15_bitCount_42 : decode cJ15_bitCount 42 = .ok (.iload_n 0, 1) := dk_26 (dk_at dksJ15_bitCount_1 18 rfl rfl)
theorem dJ15_bitCount_43 : decode cJ15_bitCount 43 = .ok (.bipush 16, 2) := dk_16 16 (dk_at dksJ15_bitCount_1 19 rfl rfl)
theorem dJ15_bitCount_45 : decode cJ15_bitCount 45 = .ok (.iushr, 1) := dk_124 (dk_at dksJ15_bitCount_1 21 rfl rfl)
theorem dJ15_bitCount_46 : decode cJ15_bitCount 46 = .ok (.iadd, 1) := dk_96 (dk_at dksJ15_bitCount_1 22 rfl rfl)
theorem dJ15_bitCount_47 : decode cJ15_bitCount 47 = .ok (.istore_n 0, 1) := dk_59 (dk_at dksJ15_bitCount_1 23 rfl rfl)
theorem dJ15_bitCount_48 : decode cJ15_bitCount 48 = .ok (.iload_n 0, 1) := dk_26 (dk_at dksJ15_bitCount_2 0 rfl rfl)
theorem dJ15_bitCount_49 : decode cJ15_bitCount 49 = .ok (.bipush 63, 2) := dk_16 63 (dk_at dksJ15_bitCount_2 1 rfl rfl)
theorem dJ15_bitCount_51 : decode cJ15_bitCount 51 = .ok (.iand, 1) := dk_126 (dk_at dksJ15_bitCount_2 3 rfl rfl)
theorem dJ15_bitCount_52 : decode cJ15_bitCount 52 = .ok (.ireturn, 1) := dk_172 (dk_at dksJ15_bitCount_2 4 rfl rfl)
abbrev cX18_init : ByteArray := prog_21_method_1_code
def yX18_init : MethodName := ⟨RX18, "<init>", "(III)V"⟩
def dkwX18_init_0 : List UInt8 := [42, 183, 0, 1, 42, 27, 181, 0, 7, 42, 28, 181, 0, 13, 42, 29, 181, 0, 16, 177]
abbrev dktX18_init_0 : List UInt8 := dkwX18_init_0 ++ []
theorem dksX18_init_0 : cX18_init.data.toList.drop 0 = dktX18_init_0 := by decide +kernel
theorem dX18_init_0 : decode cX18_init 0 = .ok (.aload_n 0, 1) := dk_42 (dk_at dksX18_init_0 0 rfl rfl)
theorem dX18_init_1 : decode cX18_init 1 = .ok (.invokespecial 1, 3) := dk_183 0 1 (dk_at dksX18_init_0 1 rfl rfl)
theorem dX18_init_4 : decode cX18_init 4 = .ok (.aload_n 0, 1) := dk_42 (dk_at dksX18_init_0 4 rfl rfl)
theorem dX18_init_5 : decode cX18_init 5 = .ok (.iload_n 1, 1) := dk_27 (dk_at dksX18_init_0 5 rfl rfl)
theorem dX18_init_6 : decode cX18_init 6 = .ok (.putfield 7, 3) := dk_181 0 7 (dk_at dksX18_init_0 6 rfl rfl)
theorem dX18_init_9 : decode cX18_init 9 = .ok (.aload_n 0, 1) := dk_42 (dk_at dksX18_init_0 9 rfl rfl)
theorem dX18_init_10 : decode cX18_init 10 = .ok (.iload_n 2, 1) := dk_28 (dk_at dksX18_init_0 10 rfl rfl)
theorem dX18_init_11 : decode cX18_init 11 = .ok (.putfield 13, 3) := dk_181 0 13 (dk_at dksX18_init_0 11 rfl rfl)
theorem dX18_init_14 : decode cX18_init 14 = .ok (.aload_n 0, 1) := dk_42 (dk_at dksX18_init_0 14 rfl rfl)
theorem dX18_init_15 : decode cX18_init 15 = .ok (.iload_n 3, 1) := dk_29 (dk_at dksX18_init_0 15 rfl rfl)
theorem dX18_init_16 : decode cX18_init 16 = .ok (.putfield 16, 3) := dk_181 0 16 (dk_at dksX18_init_0 16 rfl rfl)
theorem dX18_init_19 : decode cX18_init 19 = .ok (.return_, 1) := dk_177 (dk_at dksX18_init_0 19 rfl rfl)
abbrev cX19_init : ByteArray := prog_6_method_1_code
def yX19_init : MethodName := ⟨RX19, "<init>", "(IIII)V"⟩
def dkwX19_init_1 : List UInt8 := [181, 0, 19, 177]
abbrev dktX19_init_1 : List UInt8 := dkwX19_init_1 ++ []
def dkwX19_init_0 : List UInt8 := [42, 183, 0, 1, 42, 27, 181, 0, 7, 42, 28, 181, 0, 13, 42, 29, 181, 0, 16, 42, 21, 4]
abbrev dktX19_init_0 : List UInt8 := dkwX19_init_0 ++ dktX19_init_1
theorem dksX19_init_0 : cX19_init.data.toList.drop 0 = dktX19_init_0 := by decide +kernel
theorem dksX19_init_1 : cX19_init.data.toList.drop 22 = dktX19_init_1 := dk_seg dksX19_init_0 22 rfl rfl
theorem dX19_init_0 : decode cX19_init 0 = .ok (.aload_n 0, 1) := dk_42 (dk_at dksX19_init_0 0 rfl rfl)
theorem dX19_init_1 : decode cX19_init 1 = .ok (.invokespecial 1, 3) := dk_183 0 1 (dk_at dksX19_init_0 1 rfl rfl)
theorem dX19_init_4 : decode cX19_init 4 = .ok (.aload_n 0, 1) := dk_42 (dk_at dksX19_init_0 4 rfl rfl)
theorem dX19_init_5 : decode cX19_init 5 = .ok (.iload_n 1, 1) := dk_27 (dk_at dksX19_init_0 5 rfl rfl)
theorem dX19_init_6 : decode cX19_init 6 = .ok (.putfield 7, 3) := dk_181 0 7 (dk_at dksX19_init_0 6 rfl rfl)
theorem dX19_init_9 : decode cX19_init 9 = .ok (.aload_n 0, 1) := dk_42 (dk_at dksX19_init_0 9 rfl rfl)
theorem dX19_init_10 : decode cX19_init 10 = .ok (.iload_n 2, 1) := dk_28 (dk_at dksX19_init_0 10 rfl rfl)
theorem dX19_init_11 : decode cX19_init 11 = .ok (.putfield 13, 3) := dk_181 0 13 (dk_at dksX19_init_0 11 rfl rfl)
theorem dX19_init_14 : decode cX19_init 14 = .ok (.aload_n 0, 1) := dk_42 (dk_at dksX19_init_0 14 rfl rfl)
theorem dX19_init_15 : decode cX19_init 15 = .ok (.iload_n 3, 1) := dk_29 (dk_at dksX19_init_0 15 rfl rfl)
theorem dX19_init_16 : decode cX19_init 16 = .ok (.putfield 16, 3) := dk_181 0 16 (dk_at dksX19_init_0 16 rfl rfl)
theorem dX19_init_19 : decode cX19_init 19 = .ok (.aload_n 0, 1) := dk_42 (dk_at dksX19_init_0 19 rfl rfl)
theorem dX19_init_20 : decode cX19_init 20 = .ok (.iload 4, 2) := dk_21 4 (dk_at dksX19_init_0 20 rfl rfl)
theorem dX19_init_22 : decode cX19_init 22 = .ok (.putfield 19, 3) := dk_181 0 19 (dk_at dksX19_init_1 0 rfl rfl)
theorem dX19_init_25 : decode cX19_init 25 = .ok (.return_, 1) := dk_177 (dk_at dksX19_init_1 3 rfl rfl)
abbrev cJ16_init : ByteArray := object_method_1_code
def yJ16_init : MethodName := ⟨RJ16, "<init>", "()V"⟩
theorem dJ16_init_0 : decode cJ16_init 0 = .ok (.return_, 1) := by decide +kernel
