set_option maxRecDepth 100000
abbrev cX0_undo : ByteArray := prog_1_method_52_code
def yX0_undo : MethodName := ⟨RX0, "undo", "()Z"⟩
def dkwX0_undo_1 : List UInt8 := [180, 0, 166, 50, 42, 180, 0, 48, 182, 1, 111, 4, 172]
abbrev dktX0_undo_1 : List UInt8 := dkwX0_undo_1 ++ []
def dkwX0_undo_0 : List UInt8 := [42, 180, 0, 166, 154, 0, 5, 3, 172, 42, 89, 180, 0, 166, 4, 100, 181, 0, 166, 42, 180, 0, 70, 42]
abbrev dktX0_undo_0 : List UInt8 := dkwX0_undo_0 ++ dktX0_undo_1
theorem dksX0_undo_0 : cX0_undo.data.toList.drop 0 = dktX0_undo_0 := by decide +kernel
theorem dksX0_undo_1 : cX0_undo.data.toList.drop 24 = dktX0_undo_1 := dk_seg dksX0_undo_0 24 rfl rfl
theorem dX0_undo_0 : decode cX0_undo 0 = .ok (.aload_n 0, 1) := dk_42 (dk_at dksX0_undo_0 0 rfl rfl)
theorem dX0_undo_1 : decode cX0_undo 1 = .ok (.getfield 166, 3) := dk_180 0 166 (dk_at dksX0_undo_0 1 rfl rfl)
theorem dX0_undo_4 : decode cX0_undo 4 = .ok (.ifCond .ne 5, 3) := dk_154 0 5 (dk_at dksX0_undo_0 4 rfl rfl)
theorem dX0_undo_7 : decode cX0_undo 7 = .ok (.iconst 0, 1) := dk_3 (dk_at dksX0_undo_0 7 rfl rfl)
theorem dX0_undo_8 : decode cX0_undo 8 = .ok (.ireturn, 1) := dk_172 (dk_at dksX0_undo_0 8 rfl rfl)
theorem dX0_undo_9 : decode cX0_undo 9 = .ok (.aload_n 0, 1) := dk_42 (dk_at dksX0_undo_0 9 rfl rfl)
theorem dX0_undo_10 : decode cX0_undo 10 = .ok (.dup, 1) := dk_89 (dk_at dksX0_undo_0 10 rfl rfl)
theorem dX0_undo_11 : decode cX0_undo 11 = .ok (.getfield 166, 3) := dk_180 0 166 (dk_at dksX0_undo_0 11 rfl rfl)
theorem dX0_undo_14 : decode cX0_undo 14 = .ok (.iconst 1, 1) := dk_4 (dk_at dksX0_undo_0 14 rfl rfl)
theorem dX0_undo_15 : decode cX0_undo 15 = .ok (.isub, 1) := dk_100 (dk_at dksX0_undo_0 15 rfl rfl)
theorem dX0_undo_16 : decode cX0_undo 16 = .ok (.putfield 166, 3) := dk_181 0 166 (dk_at dksX0_undo_0 16 rfl rfl)
theorem dX0_undo_19 : decode cX0_undo 19 = .ok (.aload_n 0, 1) := dk_42 (dk_at dksX0_undo_0 19 rfl rfl)
theorem dX0_undo_20 : decode cX0_undo 20 = .ok (.getfield 70, 3) := dk_180 0 70 (dk_at dksX0_undo_0 20 rfl rfl)
theorem dX0_undo_23 : decode cX0_undo 23 = .ok (.aload_n 0, 1) := dk_42 (dk_at dksX0_undo_0 23 rfl rfl)
theorem dX0_undo_24 : decode cX0_undo 24 = .ok (.getfield 166, 3) := dk_180 0 166 (dk_at dksX0_undo_1 0 rfl rfl)
theorem dX0_undo_27 : decode cX0_undo 27 = .ok (.aaload, 1) := dk_50 (dk_at dksX0_undo_1 3 rfl rfl)
theorem dX0_undo_28 : decode cX0_undo 28 = .ok (.aload_n 0, 1) := dk_42 (dk_at dksX0_undo_1 4 rfl rfl)
theorem dX0_undo_29 : decode cX0_undo 29 = .ok (.getfield 48, 3) := dk_180 0 48 (dk_at dksX0_undo_1 5 rfl rfl)
theorem dX0_undo_32 : decode cX0_undo 32 = .ok (.invokevirtual 367, 3) := dk_182 1 111 (dk_at dksX0_undo_1 8 rfl rfl)
theorem dX0_undo_35 : decode cX0_undo 35 = .ok (.iconst 1, 1) := dk_4 (dk_at dksX0_undo_1 11 rfl rfl)
theorem dX0_undo_36 : decode cX0_undo 36 = .ok (.ireturn, 1) := dk_172 (dk_at dksX0_undo_1 12 rfl rfl)
abbrev cX0_nights : ByteArray := prog_1_method_55_code
def yX0_nights : MethodName := ⟨RX0, "nights", "(I)I"⟩
def dkwX0_nights_8 : List UInt8 := [167, 255, 222, 21, 5, 172]
abbrev dktX0_nights_8 : List UInt8 := dkwX0_nights_8 ++ []
def dkwX0_nights_7 : List UInt8 := [122, 4, 126, 4, 160, 0, 17, 21, 5, 4, 42, 180, 0, 83, 21, 6, 46, 120, 128, 54, 5, 132, 6, 1]
abbrev dktX0_nights_7 : List UInt8 := dkwX0_nights_7 ++ dktX0_nights_8
def dkwX0_nights_6 : List UInt8 := [54, 4, 132, 5, 1, 167, 255, 192, 3, 54, 5, 3, 54, 6, 21, 6, 29, 162, 0, 34, 21, 4, 21, 6]
abbrev dktX0_nights_6 : List UInt8 := dkwX0_nights_6 ++ dktX0_nights_7
def dkwX0_nights_5 : List UInt8 := [167, 0, 25, 21, 4, 153, 0, 16, 21, 5, 184, 1, 21, 21, 4, 184, 1, 21, 162, 0, 7, 21, 5]
abbrev dktX0_nights_5 : List UInt8 := dkwX0_nights_5 ++ dktX0_nights_6
def dkwX0_nights_4 : List UInt8 := [182, 1, 119, 153, 0, 46, 42, 180, 0, 89, 21, 5, 51, 4, 96, 42, 180, 0, 89, 3, 51, 159, 0, 6]
abbrev dktX0_nights_4 : List UInt8 := dkwX0_nights_4 ++ dktX0_nights_5
def dkwX0_nights_3 : List UInt8 := [180, 0, 89, 3, 51, 172, 3, 54, 4, 4, 54, 5, 21, 5, 4, 29, 120, 162, 0, 62, 42, 3, 21, 5]
abbrev dktX0_nights_3 : List UInt8 := dkwX0_nights_3 ++ dktX0_nights_4
def dkwX0_nights_2 : List UInt8 := [62, 29, 155, 0, 14, 42, 180, 0, 89, 3, 51, 16, 99, 160, 0, 6, 16, 254, 172, 27, 154, 0, 10, 42]
abbrev dktX0_nights_2 : List UInt8 := dkwX0_nights_2 ++ dktX0_nights_3
def dkwX0_nights_1 : List UInt8 := [28, 42, 180, 0, 41, 180, 1, 86, 96, 4, 100, 42, 180, 0, 41, 180, 1, 86, 108, 172, 42, 182, 1, 123]
abbrev dktX0_nights_1 : List UInt8 := dkwX0_nights_1 ++ dktX0_nights_2
def dkwX0_nights_0 : List UInt8 := [27, 3, 5, 184, 0, 174, 154, 0, 5, 2, 172, 42, 182, 1, 48, 184, 1, 21, 61, 27, 5, 160, 0, 23]
abbrev dktX0_nights_0 : List UInt8 := dkwX0_nights_0 ++ dktX0_nights_1
theorem dksX0_nights_0 : cX0_nights.data.toList.drop 0 = dktX0_nights_0 := by decide +kernel
theorem dksX0_nights_1 : cX0_nights.data.toList.drop 24 = dktX0_nights_1 := dk_seg dksX0_nights_0 24 rfl rfl
theorem dksX0_nights_2 : cX0_nights.data.toList.drop 48 = dktX0_nights_2 := dk_seg dksX0_nights_1 24 rfl rfl
theorem dksX0_nights_3 : cX0_nights.data.toList.drop 72 = dktX0_nights_3 := dk_seg dksX0_nights_2 24 rfl rfl
theorem dksX0_nights_4 : cX0_nights.data.toList.drop 96 = dktX0_nights_4 := dk_seg dksX0_nights_3 24 rfl rfl
theorem dksX0_nights_5 : cX0_nights.data.toList.drop 120 = dktX0_nights_5 := dk_seg dksX0_nights_4 24 rfl rfl
theorem dksX0_nights_6 : cX0_nights.data.toList.drop 143 = dktX0_nights_6 := dk_seg dksX0_nights_5 23 rfl rfl
theorem dksX0_nights_7 : cX0_nights.data.toList.drop 167 = dktX0_nights_7 := dk_seg dksX0_nights_6 24 rfl rfl
theorem dksX0_nights_8 : cX0_nights.data.toList.drop 191 = dktX0_nights_8 := dk_seg dksX0_nights_7 24 rfl rfl
theorem dX0_nights_0 : decode cX0_nights 0 = .ok (.iload_n 1, 1) := dk_27 (dk_at dksX0_nights_0 0 rfl rfl)
theorem dX0_nights_1 : decode cX0_nights 1 = .ok (.iconst 0, 1) := dk_3 (dk_at dksX0_nights_0 1 rfl rfl)
theorem dX0_nights_2 : decode cX0_nights 2 = .ok (.iconst 2, 1) := dk_5 (dk_at dksX0_nights_0 2 rfl rfl)
theorem dX0_nights_3 : decode cX0_nights 3 = .ok (.invokestatic 174, 3) := dk_184 0 174 (dk_at dksX0_nights_0 3 rfl rfl)
theorem dX0_nights_6 : decode cX0_nights 6 = .ok (.ifCond .ne 5, 3) := dk_154 0 5 (dk_at dksX0_nights_0 6 rfl rfl)
theorem dX0_nights_9 : decode cX0_nights 9 = .ok (.iconst (-1), 1) := dk_2 (dk_at dksX0_nights_0 9 rfl rfl)
theorem dX0_nights_10 : decode cX0_nights 10 = .ok (.ireturn, 1) := dk_172 (dk_at dksX0_nights_0 10 rfl rfl)
theorem dX0_nights_11 : decode cX0_nights 11 = .ok (.aload_n 0, 1) := dk_42 (dk_at dksX0_nights_0 11 rfl rfl)
theorem dX0_nights_12 : decode cX0_nights 12 = .ok (.invokevirtual 304, 3) := dk_182 1 48 (dk_at dksX0_nights_0 12 rfl rfl)
theorem dX0_nights_15 : decode cX0_nights 15 = .ok (.invokestatic 277, 3) := dk_184 1 21 (dk_at dksX0_nights_0 15 rfl rfl)
theorem dX0_nights_18 : decode cX0_nights 18 = .ok (.istore_n 2, 1) := dk_61 (dk_at dksX0_nights_0 18 rfl rfl)
theorem dX0_nights_19 : decode cX0_nights 19 = .ok (.iload_n 1, 1) := dk_27 (dk_at dksX0_nights_0 19 rfl rfl)
theorem dX0_nights_20 : decode cX0_nights 20 = .ok (.iconst 2, 1) := dk_5 (dk_at dksX0_nights_0 20 rfl rfl)
theorem dX0_nights_21 : decode cX0_nights 21 = .ok (.if_icmp .ne 23, 3) := dk_160 0 23 (dk_at dksX0_nights_0 21 rfl rfl)
theorem dX0_nights_24 : decode cX0_nights 24 = .ok (.iload_n 2, 1) := dk_28 (dk_at dksX0_nights_1 0 rfl rfl)
theorem dX0_nights_25 : decode cX0_nights 25 = .ok (.aload_n 0, 1) := dk_42 (dk_at dksX0_nights_1 1 rfl rfl)
theorem dX0_nights_26 : decode cX0_nights 26 = .ok (.getfield 41, 3) := dk_180 0 41 (dk_at dksX0_nights_1 2 rfl rfl)
theorem dX0_nights_29 : decode cX0_nights 29 = .ok (.getfield 342, 3) := dk_180 1 86 (dk_at dksX0_nights_1 5 rfl rfl)
theorem dX0_nights_32 : decode cX0_nights 32 = .ok (.iadd, 1) := dk_96 (dk_at dksX0_nights_1 8 rfl rfl)
theorem dX0_nights_33 : decode cX0_nights 33 = .ok (.iconst 1, 1) := dk_4 (dk_at dksX0_nights_1 9 rfl rfl)
theorem dX0_nights_34 : decode cX0_nights 34 = .ok (.isub, 1) := dk_100 (dk_at dksX0_nights_1 10 rfl rfl)
theorem dX0_nights_35 : decode cX0_nights 35 = .ok (.aload_n 0, 1) := dk_42 (dk_at dksX0_nights_1 11 rfl rfl)
theorem dX0_nights_36 : decode cX0_nights 36 = .ok (.getfield 41, 3) := dk_180 0 41 (dk_at dksX0_nights_1 12 rfl rfl)
theorem dX0_nights_39 : decode cX0_nights 39 = .ok (.getfield 342, 3) := dk_180 1 86 (dk_at dksX0_nights_1 15 rfl rfl)
theorem dX0_nights_42 : decode cX0_nights 42 = .ok (.idiv, 1) := dk_108 (dk_at dksX0_nights_1 18 rfl rfl)
theorem dX0_nights_43 : decode cX0_nights 43 = .ok (.ireturn, 1) := dk_172 (dk_at dksX0_nights_1 19 rfl rfl)
theorem dX0_nights_44 : decode cX0_nights 44 = .ok (.aload_n 0, 1) := dk_42 (dk_at dksX0_nights_1 20 rfl rfl)
theorem dX0_nights_45 : decode cX0_nights 45 = .ok (.invokevirtual 379, 3) := dk_182 1 123 (dk_at dksX0_nights_1 21 rfl rfl)
theorem dX0_nights_48 : decode cX0_nights 48 = .ok (.istore_n 3, 1) := dk_62 (dk_at dksX0_nights_2 0 rfl rfl)
theorem dX0_nights_49 : decode cX0_nights 49 = .ok (.iload_n 3, 1) := dk_29 (dk_at dksX0_nights_2 1 rfl rfl)
theorem dX0_nights_50 : decode cX0_nights 50 = .ok (.ifCond .lt 14, 3) := dk_155 0 14 (dk_at dksX0_nights_2 2 rfl rfl)
theorem dX0_nights_53 : decode cX0_nights 53 = .ok (.aload_n 0, 1) := dk_42 (dk_at dksX0_nights_2 5 rfl rfl)
theorem dX0_nights_54 : decode cX0_nights 54 = .ok (.getfield 89, 3) := dk_180 0 89 (dk_at dksX0_nights_2 6 rfl rfl)
theorem dX0_nights_57 : decode cX0_nights 57 = .ok (.iconst 0, 1) := dk_3 (dk_at dksX0_nights_2 9 rfl rfl)
theorem dX0_nights_58 : decode cX0_nights 58 = .ok (.baload, 1) := dk_51 (dk_at dksX0_nights_2 10 rfl rfl)
theorem dX0_nights_59 : decode cX0_nights 59 = .ok (.bipush 99, 2) := dk_16 99 (dk_at dksX0_nights_2 11 rfl rfl)
theorem dX0_nights_61 : decode cX0_nights 61 = .ok (.if_icmp .ne 6, 3) := dk_160 0 6 (dk_at dksX0_nights_2 13 rfl rfl)
theorem dX0_nights_64 : decode cX0_nights 64 = .ok (.bipush (-2), 2) := dk_16 254 (dk_at dksX0_nights_2 16 rfl rfl)
theorem dX0_nights_66 : decode cX0_nights 66 = .ok (.ireturn, 1) := dk_172 (dk_at dksX0_nights_2 18 rfl rfl)
theorem dX0_nights_67 : decode cX0_nights 67 = .ok (.iload_n 1, 1) := dk_27 (dk_at dksX0_nights_2 19 rfl rfl)
theorem dX0_nights_68 : decode cX0_nights 68 = .ok (.ifCond .ne 10, 3) := dk_154 0 10 (dk_at dksX0_nights_2 20 rfl rfl)
theorem dX0_nights_71 : decode cX0_nights 71 = .ok (.aload_n 0, 1) := dk_42 (dk_at dksX0_nights_2 23 rfl rfl)
theorem dX0_nights_72 : decode cX0_nights 72 = .ok (.getfield 89, 3) := dk_180 0 89 (dk_at dksX0_nights_3 0 rfl rfl)
theorem dX0_nights_75 : decode cX0_nights 75 = .ok (.iconst 0, 1) := dk_3 (dk_at dksX0_nights_3 3 rfl rfl)
theorem dX0_nights_76 : decode cX0_nights 76 = .ok (.baload, 1) := dk_51 (dk_at dksX0_nights_3 4 rfl rfl)
theorem dX0_nights_77 : decode cX0_nights 77 = .ok (.ireturn, 1) := dk_172 (dk_at dksX0_nights_3 5 rfl rfl)
theorem dX0_nights_78 : decode cX0_nights 78 = .ok (.iconst 0, 1) := dk_3 (dk_at dksX0_nights_3 6 rfl rfl)
theorem dX0_nights_79 : decode cX0_nights 79 = .ok (.istore 4, 2) := dk_54 4 (dk_at dksX0_nights_3 7 rfl rfl)
theorem dX0_nights_81 : decode cX0_nights 81 = .ok (.iconst 1, 1) := dk_4 (dk_at dksX0_nights_3 9 rfl rfl)
theorem dX0_nights_82 : decode cX0_nights 82 = .ok (.istore 5, 2) := dk_54 5 (dk_at dksX0_nights_3 10 rfl rfl)
theorem dX0_nights_84 : decode cX0_nights 84 = .ok (.iload 5, 2) := dk_21 5 (dk_at dksX0_nights_3 12 rfl rfl)
theorem dX0_nights_86 : decode cX0_nights 86 = .ok (.iconst 1, 1) := dk_4 (dk_at dksX0_nights_3 14 rfl rfl)
theorem dX0_nights_87 : decode cX0_nights 87 = .ok (.iload_n 3, 1) := dk_29 (dk_at dksX0_nights_3 15 rfl rfl)
theorem dX0_nights_88 : decode cX0_nights 88 = .ok (.ishl, 1) := dk_120 (dk_at dksX0_nights_3 16 rfl rfl)
theorem dX0_nights_89 : decode cX0_nights 89 = .ok (.if_icmp .ge 62, 3) := dk_162 0 62 (dk_at dksX0_nights_3 17 rfl rfl)
theorem dX0_nights_92 : decode cX0_nights 92 = .ok (.aload_n 0, 1) := dk_42 (dk_at dksX0_nights_3 20 rfl rfl)
theorem dX0_nights_93 : decode cX0_nights 93 = .ok (.iconst 0, 1) := dk_3 (dk_at dksX0_nights_3 21 rfl rfl)
theorem dX0_nights_94 : decode cX0_nights 94 = .ok (.iload 5, 2) := dk_21 5 (dk_at dksX0_nights_3 22 rfl rfl)
theorem dX0_nights_96 : decode cX0_nights 96 = .ok (.invokevirtual 375, 3) := dk_182 1 119 (dk_at dksX0_nights_4 0 rfl rfl)
theorem dX0_nights_99 : decode cX0_nights 99 = .ok (.ifCond .eq 46, 3) := dk_153 0 46 (dk_at dksX0_nights_4 3 rfl rfl)
theorem dX0_nights_102 : decode cX0_nights 102 = .ok (.aload_n 0, 1) := dk_42 (dk_at dksX0_nights_4 6 rfl rfl)
theorem dX0_nights_103 : decode cX0_nights 103 = .ok (.getfield 89, 3) := dk_180 0 89 (dk_at dksX0_nights_4 7 rfl rfl)
theorem dX0_nights_106 : decode cX0_nights 106 = .ok (.iload 5, 2) := dk_21 5 (dk_at dksX0_nights_4 10 rfl rfl)
theorem dX0_nights_108 : decode cX0_nights 108 = .ok (.baload, 1) := dk_51 (dk_at dksX0_nights_4 12 rfl rfl)
theorem dX0_nights_109 : decode cX0_nights 109 = .ok (.iconst 1, 1) := dk_4 (dk_at dksX0_nights_4 13 rfl rfl)
theorem dX0_nights_110 : decode cX0_nights 110 = .ok (.iadd, 1) := dk_96 (dk_at dksX0_nights_4 14 rfl rfl)
theorem dX0_nights_111 : decode cX0_nights 111 = .ok (.aload_n 0, 1) := dk_42 (dk_at dksX0_nights_4 15 rfl rfl)
theorem dX0_nights_112 : decode cX0_nights 112 = .ok (.getfield 89, 3) := dk_180 0 89 (dk_at dksX0_nights_4 16 rfl rfl)
theorem dX0_nights_115 : decode cX0_nights 115 = .ok (.iconst 0, 1) := dk_3 (dk_at dksX0_nights_4 19 rfl rfl)
theorem dX0_nights_116 : decode cX0_nights 116 = .ok (.baload, 1) := dk_51 (dk_at dksX0_nights_4 20 rfl rfl)
theorem dX0_nights_117 : decode cX0_nights 117 = .ok (.if_icmp .eq 6, 3) := dk_159 0 6 (dk_at dksX0_nights_4 21 rfl rfl)
theorem dX0_nights_120 : decode cX0_nights 120 = .ok (.goto 25, 3) := dk_167 0 25 (dk_at dksX0_nights_5 0 rfl rfl)
theorem dX0_nights_123 : decode cX0_nights 123 = .ok (.iload 4, 2) := dk_21 4 (dk_at dksX0_nights_5 3 rfl rfl)
theorem dX0_nights_125 : decode cX0_nights 125 = .ok (.ifCond .eq 16, 3) := dk_153 0 16 (dk_at dksX0_nights_5 5 rfl rfl)
theorem dX0_nights_128 : decode cX0_nights 128 = .ok (.iload 5, 2) := dk_21 5 (dk_at dksX0_nights_5 8 rfl rfl)
theorem dX0_nights_130 : decode cX0_nights 130 = .ok (.invokestatic 277, 3) := dk_184 1 21 (dk_at dksX0_nights_5 10 rfl rfl)
theorem dX0_nights_133 : decode cX0_nights 133 = .ok (.iload 4, 2) := dk_21 4 (dk_at dksX0_nights_5 13 rfl rfl)
theorem dX0_nights_135 : decode cX0_nights 135 = .ok (.invokestatic 277, 3) := dk_184 1 21 (dk_at dksX0_nights_5 15 rfl rfl)
theorem dX0_nights_138 : decode cX0_nights 138 = .ok (.if_icmp .ge 7, 3) := dk_162 0 7 (dk_at dksX0_nights_5 18 rfl rfl)
theorem dX0_nights_141 : decode cX0_nights 141 = .ok (.iload 5, 2) := dk_21 5 (dk_at dksX0_nights_5 21 rfl rfl)
theorem dX0_nights_143 : decode cX0_nights 143 = .ok (.istore 4, 2) := dk_54 4 (dk_at dksX0_nights_6 0 rfl rfl)
theorem dX0_nights_145 : decode cX0_nights 145 = .ok (.iinc 5 1, 3) := dk_132 5 1 (dk_at dksX0_nights_6 2 rfl rfl)
theorem dX0_nights_148 : decode cX0_nights 148 = .ok (.goto (-64), 3) := dk_167 255 192 (dk_at dksX0_nights_6 5 rfl rfl)
theorem dX0_nights_151 : decode cX0_nights 151 = .ok (.iconst 0, 1) := dk_3 (dk_at dksX0_nights_6 8 rfl rfl)
theorem dX0_nights_152 : decode cX0_nights 152 = .ok (.istore 5, 2) := dk_54 5 (dk_at dksX0_nights_6 9 rfl rfl)
theorem dX0_nights_154 : decode cX0_nights 154 = .ok (.iconst 0, 1) := dk_3 (dk_at dksX0_nights_6 11 rfl rfl)
theorem dX0_nights_155 : decode cX0_nights 155 = .ok (.istore 6, 2) := dk_54 6 (dk_at dksX0_nights_6 12 rfl rfl)
theorem dX0_nights_157 : decode cX0_nights 157 = .ok (.iload 6, 2) := dk_21 6 (dk_at dksX0_nights_6 14 rfl rfl)
theorem dX0_nights_159 : decode cX0_nights 159 = .ok (.iload_n 3, 1) := dk_29 (dk_at dksX0_nights_6 16 rfl rfl)
theorem dX0_nights_160 : decode cX0_nights 160 = .ok (.if_icmp .ge 34, 3) := dk_162 0 34 (dk_at dksX0_nights_6 17 rfl rfl)
theorem dX0_nights_163 : decode cX0_nights 163 = .ok (.iload 4, 2) := dk_21 4 (dk_at dksX0_nights_6 20 rfl rfl)
theorem dX0_nights_165 : decode cX0_nights 165 = .ok (.iload 6, 2) := dk_21 6 (dk_at dksX0_nights_6 22 rfl rfl)
theorem dX0_nights_167 : decode cX0_nights 167 = .ok (.ishr, 1) := dk_122 (dk_at dksX0_nights_7 0 rfl rfl)
theorem dX0_nights_168 : decode cX0_nights 168 = .ok (.iconst 1, 1) := dk_4 (dk_at dksX0_nights_7 1 rfl rfl)
theorem dX0_nights_169 : decode cX0_nights 169 = .ok (.iand, 1) := dk_126 (dk_at dksX0_nights_7 2 rfl rfl)
theorem dX0_nights_170 : decode cX0_nights 170 = .ok (.iconst 1, 1) := dk_4 (dk_at dksX0_nights_7 3 rfl rfl)
theorem dX0_nights_171 : decode cX0_nights 171 = .ok (.if_icmp .ne 17, 3) := dk_160 0 17 (dk_at dksX0_nights_7 4 rfl rfl)
theorem dX0_nights_174 : decode cX0_nights 174 = .ok (.iload 5, 2) := dk_21 5 (dk_at dksX0_nights_7 7 rfl rfl)
theorem dX0_nights_176 : decode cX0_nights 176 = .ok (.iconst 1, 1) := dk_4 (dk_at dksX0_nights_7 9 rfl rfl)
theorem dX0_nights_177 : decode cX0_nights 177 = .ok (.aload_n 0, 1) := dk_42 (dk_at dksX0_nights_7 10 rfl rfl)
theorem dX0_nights_178 : decode cX0_nights 178 = .ok (.getfield 83, 3) := dk_180 0 83 (dk_at dksX0_nights_7 11 rfl rfl)
theorem dX0_nights_181 : decode cX0_nights 181 = .ok (.iload 6, 2) := dk_21 6 (dk_at dksX0_nights_7 14 rfl rfl)
theorem dX0_nights_183 : decode cX0_nights 183 = .ok (.iaload, 1) := dk_46 (dk_at dksX0_nights_7 16 rfl rfl)
theorem dX0_nights_184 : decode cX0_nights 184 = .ok (.ishl, 1) := dk_120 (dk_at dksX0_nights_7 17 rfl rfl)
theorem dX0_nights_185 : decode cX0_nights 185 = .ok (.ior, 1) := dk_128 (dk_at dksX0_nights_7 18 rfl rfl)
theorem dX0_nights_186 : decode cX0_nights 186 = .ok (.istore 5, 2) := dk_54 5 (dk_at dksX0_nights_7 19 rfl rfl)
theorem dX0_nights_188 : decode cX0_nights 188 = .ok (.iinc 6 1, 3) := dk_132 6 1 (dk_at dksX0_nights_7 21 rfl rfl)
theorem dX0_nights_191 : decode cX0_nights 191 = .ok (.goto (-34), 3) := dk_167 255 222 (dk_at dksX0_nights_8 0 rfl rfl)
theorem dX0_nights_194 : decode cX0_nights 194 = .ok (.iload 5, 2) := dk_21 5 (dk_at dksX0_nights_8 3 rfl rfl)
theorem dX0_nights_196 : decode cX0_nights 196 = .ok (.ireturn, 1) := dk_172 (dk_at dksX0_nights_8 5 rfl rfl)
abbrev cX0_fillNights : ByteArray := prog_1_method_53_code
def yX0_fillNights : MethodName := ⟨RX0, "fillNights", "()I"⟩
def dkwX0_fillNights_13 : List UInt8 := [21, 6, 126, 54, 7, 167, 255, 201, 132, 5, 255, 167, 255, 156, 27, 172]
abbrev dktX0_fillNights_13 : List UInt8 := dkwX0_fillNights_13 ++ []
def dkwX0_fillNights_12 : List UInt8 := [21, 5, 51, 42, 180, 0, 89, 21, 5, 21, 7, 128, 51, 4, 96, 184, 0, 7, 145, 84, 21, 7, 4, 100]
abbrev dktX0_fillNights_12 : List UInt8 := dkwX0_fillNights_12 ++ dktX0_fillNights_13
def dkwX0_fillNights_11 : List UInt8 := [158, 0, 56, 42, 21, 5, 21, 7, 182, 1, 119, 153, 0, 33, 42, 180, 0, 89, 21, 5, 42, 180, 0, 89]
abbrev dktX0_fillNights_11 : List UInt8 := dkwX0_fillNights_11 ++ dktX0_fillNights_12
def dkwX0_fillNights_10 : List UInt8 := [167, 0, 5, 16, 99, 145, 84, 21, 4, 21, 5, 2, 130, 126, 54, 6, 21, 6, 54, 7, 21, 7]
abbrev dktX0_fillNights_10 : List UInt8 := dkwX0_fillNights_10 ++ dktX0_fillNights_11
def dkwX0_fillNights_9 : List UInt8 := [21, 4, 54, 5, 21, 5, 155, 0, 101, 42, 180, 0, 89, 21, 5, 21, 5, 21, 4, 160, 0, 7, 3]
abbrev dktX0_fillNights_9 : List UInt8 := dkwX0_fillNights_9 ++ dktX0_fillNights_10
def dkwX0_fillNights_8 : List UInt8 := [132, 4, 1, 167, 255, 154, 42, 180, 0, 66, 42, 180, 0, 48, 182, 1, 111, 4, 27, 120, 4, 100, 54, 4]
abbrev dktX0_fillNights_8 : List UInt8 := dkwX0_fillNights_8 ++ dktX0_fillNights_9
def dkwX0_fillNights_7 : List UInt8 := [180, 0, 93, 21, 4, 29, 42, 16, 12, 182, 1, 18, 2, 130, 126, 154, 0, 7, 4, 167, 0, 4, 3, 84]
abbrev dktX0_fillNights_7 : List UInt8 := dkwX0_fillNights_7 ++ dktX0_fillNights_8
def dkwX0_fillNights_6 : List UInt8 := [42, 180, 0, 66, 180, 1, 117, 42, 180, 0, 83, 21, 5, 46, 46, 79, 132, 5, 1, 167, 255, 196, 42]
abbrev dktX0_fillNights_6 : List UInt8 := dkwX0_fillNights_6 ++ dktX0_fillNights_7
def dkwX0_fillNights_5 : List UInt8 := [21, 5, 46, 21, 4, 21, 5, 122, 4, 126, 4, 160, 0, 13, 42, 180, 0, 86, 21, 5, 46, 167, 0, 18]
abbrev dktX0_fillNights_5 : List UInt8 := dkwX0_fillNights_5 ++ dktX0_fillNights_6
def dkwX0_fillNights_4 : List UInt8 := [162, 0, 100, 3, 54, 5, 21, 5, 27, 162, 0, 60, 42, 180, 0, 48, 180, 0, 137, 42, 180, 0, 83]
abbrev dktX0_fillNights_4 : List UInt8 := dkwX0_fillNights_4 ++ dktX0_fillNights_5
def dkwX0_fillNights_3 : List UInt8 := [182, 1, 18, 62, 42, 180, 0, 66, 42, 180, 0, 48, 182, 1, 105, 3, 54, 4, 21, 4, 4, 27, 120]
abbrev dktX0_fillNights_3 : List UInt8 := dkwX0_fillNights_3 ++ dktX0_fillNights_4
def dkwX0_fillNights_2 : List UInt8 := [42, 180, 0, 86, 27, 42, 29, 182, 0, 214, 79, 132, 1, 1, 132, 3, 1, 167, 255, 213, 42, 16, 12]
abbrev dktX0_fillNights_2 : List UInt8 := dkwX0_fillNights_2 ++ dktX0_fillNights_3
def dkwX0_fillNights_1 : List UInt8 := [182, 0, 172, 162, 0, 41, 28, 29, 122, 4, 126, 154, 0, 6, 167, 0, 24, 42, 180, 0, 83, 27, 29, 79]
abbrev dktX0_fillNights_1 : List UInt8 := dkwX0_fillNights_1 ++ dktX0_fillNights_2
def dkwX0_fillNights_0 : List UInt8 := [3, 60, 42, 182, 1, 48, 61, 28, 184, 1, 21, 16, 8, 164, 0, 6, 16, 254, 172, 3, 62, 29, 42]
abbrev dktX0_fillNights_0 : List UInt8 := dkwX0_fillNights_0 ++ dktX0_fillNights_1
theorem dksX0_fillNights_0 : cX0_fillNights.data.toList.drop 0 = dktX0_fillNights_0 := by decide +kernel
theorem dksX0_fillNights_1 : cX0_fillNights.data.toList.drop 23 = dktX0_fillNights_1 := dk_seg dksX0_fillNights_0 23 rfl rfl
theorem dksX0_fillNights_2 : cX0_fillNights.data.toList.drop 47 = dktX0_fillNights_2 := dk_seg dksX0_fillNights_1 24 rfl rfl
theorem dksX0_fillNights_3 : cX0_fillNights.data.toList.drop 70 = dktX0_fillNights_3 := dk_seg dksX0_fillNights_2 23 rfl rfl
theorem dksX0_fillNights_4 : cX0_fillNights.data.toList.drop 93 = dktX0_fillNights_4 := dk_seg dksX0_fillNights_3 23 rfl rfl
theorem dksX0_fillNights_5 : cX0_fillNights.data.toList.drop 116 = dktX0_fillNights_5 := dk_seg dksX0_fillNights_4 23 rfl rfl
theorem dksX0_fillNights_6 : cX0_fillNights.data.toList.drop 140 = dktX0_fillNights_6 := dk_seg dksX0_fillNights_5 24 rfl rfl
theorem dksX0_fillNights_7 : cX0_fillNights.data.toList.drop 163 = dktX0_fillNights_7 := dk_seg dksX0_fillNights_6 23 rfl rfl
theorem dksX0_fillNights_8 : cX0_fillNights.data.toList.drop 187 = dktX0_fillNights_8 := dk_seg dksX0_fillNights_7 24 rfl rfl
theorem dksX0_fillNights_9 : cX0_fillNights.data.toList.drop 211 = dktX0_fillNights_9 := dk_seg dksX0_fillNights_8 24 rfl rfl
theorem dksX0_fillNights_10 : cX0_fillNights.data.toList.drop 234 = dktX0_fillNights_10 := dk_seg dksX0_fillNights_9 23 rfl rfl
theorem dksX0_fillNights_11 : cX0_fillNights.data.toList.drop 256 = dktX0_fillNights_11 := dk_seg dksX0_fillNights_10 22 rfl rfl
theorem dksX0_fillNights_12 : cX0_fillNights.data.toList.drop 280 = dktX0_fillNights_12 := dk_seg dksX0_fillNights_11 24 rfl rfl
theorem dksX0_fillNights_13 : cX0_fillNights.data.toList.drop 304 = dktX0_fillNights_13 := dk_seg dksX0_fillNights_12 24 rfl rfl
theorem dX0_fillNights_0 : decode cX0_fillNights 0 = .ok (.iconst 0, 1) := dk_3 (dk_at dksX0_fillNights_0 0 rfl rfl)
theorem dX0_fillNights_1 : decode cX0_fillNights 1 = .ok (.istore_n 1, 1) := dk_60 (dk_at dksX0_fillNights_0 1 rfl rfl)
theorem dX0_fillNights_2 : decode cX0_fillNights 2 = .ok (.aload_n 0, 1) := dk_42 (dk_at dksX0_fillNights_0 2 rfl rfl)
theorem dX0_fillNights_3 : decode cX0_fillNights 3 = .ok (.invokevirtual 304, 3) := dk_182 1 48 (dk_at dksX0_fillNights_0 3 rfl rfl)
theorem dX0_fillNights_6 : decode cX0_fillNights 6 = .ok (.istore_n 2, 1) := dk_61 (dk_at dksX0_fillNights_0 6 rfl rfl)
theorem dX0_fillNights_7 : decode cX0_fillNights 7 = .ok (.iload_n 2, 1) := dk_28 (dk_at dksX0_fillNights_0 7 rfl rfl)
theorem dX0_fillNights_8 : decode cX0_fillNights 8 = .ok (.invokestatic 277, 3) := dk_184 1 21 (dk_at dksX0_fillNights_0 8 rfl rfl)
theorem dX0_fillNights_11 : decode cX0_fillNights 11 = .ok (.bipush 8, 2) := dk_16 8 (dk_at dksX0_fillNights_0 11 rfl rfl)
theorem dX0_fillNights_13 : decode cX0_fillNights 13 = .ok (.if_icmp .le 6, 3) := dk_164 0 6 (dk_at dksX0_fillNights_0 13 rfl rfl)
theorem dX0_fillNights_16 : decode cX0_fillNights 16 = .ok (.bipush (-2), 2) := dk_16 254 (dk_at dksX0_fillNights_0 16 rfl rfl)
theorem dX0_fillNights_18 : decode cX0_fillNights 18 = .ok (.ireturn, 1) := dk_172 (dk_at dksX0_fillNights_0 18 rfl rfl)
theorem dX0_fillNights_19 : decode cX0_fillNights 19 = .ok (.iconst 0, 1) := dk_3 (dk_at dksX0_fillNights_0 19 rfl rfl)
theorem dX0_fillNights_20 : decode cX0_fillNights 20 = .ok (.istore_n 3, 1) := dk_62 (dk_at dksX0_fillNights_0 20 rfl rfl)
theorem dX0_fillNights_21 : decode cX0_fillNights 21 = .ok (.iload_n 3, 1) := dk_29 (dk_at dksX0_fillNights_0 21 rfl rfl)
theorem dX0_fillNights_22 : decode cX0_fillNights 22 = .ok (.aload_n 0, 1) := dk_42 (dk_at dksX0_fillNights_0 22 rfl rfl)
theorem dX0_fillNights_23 : decode cX0_fillNights 23 = .ok (.invokevirtual 172, 3) := dk_182 0 172 (dk_at dksX0_fillNights_1 0 rfl rfl)
theorem dX0_fillNights_26 : decode cX0_fillNights 26 = .ok (.if_icmp .ge 41, 3) := dk_162 0 41 (dk_at dksX0_fillNights_1 3 rfl rfl)
theorem dX0_fillNights_29 : decode cX0_fillNights 29 = .ok (.iload_n 2, 1) := dk_28 (dk_at dksX0_fillNights_1 6 rfl rfl)
theorem dX0_fillNights_30 : decode cX0_fillNights 30 = .ok (.iload_n 3, 1) := dk_29 (dk_at dksX0_fillNights_1 7 rfl rfl)
theorem dX0_fillNights_31 : decode cX0_fillNights 31 = .ok (.ishr, 1) := dk_122 (dk_at dksX0_fillNights_1 8 rfl rfl)
theorem dX0_fillNights_32 : decode cX0_fillNights 32 = .ok (.iconst 1, 1) := dk_4 (dk_at dksX0_fillNights_1 9 rfl rfl)
theorem dX0_fillNights_33 : decode cX0_fillNights 33 = .ok (.iand, 1) := dk_126 (dk_at dksX0_fillNights_1 10 rfl rfl)
theorem dX0_fillNights_34 : decode cX0_fillNights 34 = .ok (.ifCond .ne 6, 3) := dk_154 0 6 (dk_at dksX0_fillNights_1 11 rfl rfl)
theorem dX0_fillNights_37 : decode cX0_fillNights 37 = .ok (.goto 24, 3) := dk_167 0 24 (dk_at dksX0_fillNights_1 14 rfl rfl)
theorem dX0_fillNights_40 : decode cX0_fillNights 40 = .ok (.aload_n 0, 1) := dk_42 (dk_at dksX0_fillNights_1 17 rfl rfl)
theorem dX0_fillNights_41 : decode cX0_fillNights 41 = .ok (.getfield 83, 3) := dk_180 0 83 (dk_at dksX0_fillNights_1 18 rfl rfl)
theorem dX0_fillNights_44 : decode cX0_fillNights 44 = .ok (.iload_n 1, 1) := dk_27 (dk_at dksX0_fillNights_1 21 rfl rfl)
theorem dX0_fillNights_45 : decode cX0_fillNights 45 = .ok (.iload_n 3, 1) := dk_29 (dk_at dksX0_fillNights_1 22 rfl rfl)
theorem dX0_fillNights_46 : decode cX0_fillNights 46 = .ok (.iastore, 1) := dk_79 (dk_at dksX0_fillNights_1 23 rfl rfl)
theorem dX0_fillNights_47 : decode cX0_fillNights 47 = .ok (.aload_n 0, 1) := dk_42 (dk_at dksX0_fillNights_2 0 rfl rfl)
theorem dX0_fillNights_48 : decode cX0_fillNights 48 = .ok (.getfield 86, 3) := dk_180 0 86 (dk_at dksX0_fillNights_2 1 rfl rfl)
theorem dX0_fillNights_51 : decode cX0_fillNights 51 = .ok (.iload_n 1, 1) := dk_27 (dk_at dksX0_fillNights_2 4 rfl rfl)
theorem dX0_fillNights_52 : decode cX0_fillNights 52 = .ok (.aload_n 0, 1) := dk_42 (dk_at dksX0_fillNights_2 5 rfl rfl)
theorem dX0_fillNights_53 : decode cX0_fillNights 53 = .ok (.iload_n 3, 1) := dk_29 (dk_at dksX0_fillNights_2 6 rfl rfl)
theorem dX0_fillNights_54 : decode cX0_fillNights 54 = .ok (.invokevirtual 214, 3) := dk_182 0 214 (dk_at dksX0_fillNights_2 7 rfl rfl)
theorem dX0_fillNights_57 : decode cX0_fillNights 57 = .ok (.iastore, 1) := dk_79 (dk_at dksX0_fillNights_2 10 rfl rfl)
theorem dX0_fillNights_58 : decode cX0_fillNights 58 = .ok (.iinc 1 1, 3) := dk_132 1 1 (dk_at dksX0_fillNights_2 11 rfl rfl)
theorem dX0_fillNights_61 : decode cX0_fillNights 61 = .ok (.iinc 3 1, 3) := dk_132 3 1 (dk_at dksX0_fillNights_2 14 rfl rfl)
theorem dX0_fillNights_64 : decode cX0_fillNights 64 = .ok (.goto (-43), 3) := dk_167 255 213 (dk_at dksX0_fillNights_2 17 rfl rfl)
theorem dX0_fillNights_67 : decode cX0_fillNights 67 = .ok (.aload_n 0, 1) := dk_42 (dk_at dksX0_fillNights_2 20 rfl rfl)
theorem dX0_fillNights_68 : decode cX0_fillNights 68 = .ok (.bipush 12, 2) := dk_16 12 (dk_at dksX0_fillNights_2 21 rfl rfl)
theorem dX0_fillNights_70 : decode cX0_fillNights 70 = .ok (.invokevirtual 274, 3) := dk_182 1 18 (dk_at dksX0_fillNights_3 0 rfl rfl)
theorem dX0_fillNights_73 : decode cX0_fillNights 73 = .ok (.istore_n 3, 1) := dk_62 (dk_at dksX0_fillNights_3 3 rfl rfl)
theorem dX0_fillNights_74 : decode cX0_fillNights 74 = .ok (.aload_n 0, 1) := dk_42 (dk_at dksX0_fillNights_3 4 rfl rfl)
theorem dX0_fillNights_75 : decode cX0_fillNights 75 = .ok (.getfield 66, 3) := dk_180 0 66 (dk_at dksX0_fillNights_3 5 rfl rfl)
theorem dX0_fillNights_78 : decode cX0_fillNights 78 = .ok (.aload_n 0, 1) := dk_42 (dk_at dksX0_fillNights_3 8 rfl rfl)
theorem dX0_fillNights_79 : decode cX0_fillNights 79 = .ok (.getfield 48, 3) := dk_180 0 48 (dk_at dksX0_fillNights_3 9 rfl rfl)
theorem dX0_fillNights_82 : decode cX0_fillNights 82 = .ok (.invokevirtual 361, 3) := dk_182 1 105 (dk_at dksX0_fillNights_3 12 rfl rfl)
theorem dX0_fillNights_85 : decode cX0_fillNights 85 = .ok (.iconst 0, 1) := dk_3 (dk_at dksX0_fillNights_3 15 rfl rfl)
theorem dX0_fillNights_86 : decode cX0_fillNights 86 = .ok (.istore 4, 2) := dk_54 4 (dk_at dksX0_fillNights_3 16 rfl rfl)
theorem dX0_fillNights_88 : decode cX0_fillNights 88 = .ok (.iload 4, 2) := dk_21 4 (dk_at dksX0_fillNights_3 18 rfl rfl)
theorem dX0_fillNights_90 : decode cX0_fillNights 90 = .ok (.iconst 1, 1) := dk_4 (dk_at dksX0_fillNights_3 20 rfl rfl)
theorem dX0_fillNights_91 : decode cX0_fillNights 91 = .ok (.iload_n 1, 1) := dk_27 (dk_at dksX0_fillNights_3 21 rfl rfl)
theorem dX0_fillNights_92 : decode cX0_fillNights 92 = .ok (.ishl, 1) := dk_120 (dk_at dksX0_fillNights_3 22 rfl rfl)
theorem dX0_fillNights_93 : decode cX0_fillNights 93 = .ok (.if_icmp .ge 100, 3) := dk_162 0 100 (dk_at dksX0_fillNights_4 0 rfl rfl)
theorem dX0_fillNights_96 : decode cX0_fillNights 96 = .ok (.iconst 0, 1) := dk_3 (dk_at dksX0_fillNights_4 3 rfl rfl)
theorem dX0_fillNights_97 : decode cX0_fillNights 97 = .ok (.istore 5, 2) := dk_54 5 (dk_at dksX0_fillNights_4 4 rfl rfl)
theorem dX0_fillNights_99 : decode cX0_fillNights 99 = .ok (.iload 5, 2) := dk_21 5 (dk_at dksX0_fillNights_4 6 rfl rfl)
theorem dX0_fillNights_101 : decode cX0_fillNights 101 = .ok (.iload_n 1, 1) := dk_27 (dk_at dksX0_fillNights_4 8 rfl rfl)
theorem dX0_fillNights_102 : decode cX0_fillNights 102 = .ok (.if_icmp .ge 60, 3) := dk_162 0 60 (dk_at dksX0_fillNights_4 9 rfl rfl)
theorem dX0_fillNights_105 : decode cX0_fillNights 105 = .ok (.aload_n 0, 1) := dk_42 (dk_at dksX0_fillNights_4 12 rfl rfl)
theorem dX0_fillNights_106 : decode cX0_fillNights 106 = .ok (.getfield 48, 3) := dk_180 0 48 (dk_at dksX0_fillNights_4 13 rfl rfl)
theorem dX0_fillNights_109 : decode cX0_fillNights 109 = .ok (.getfield 137, 3) := dk_180 0 137 (dk_at dksX0_fillNights_4 16 rfl rfl)
theorem dX0_fillNights_112 : decode cX0_fillNights 112 = .ok (.aload_n 0, 1) := dk_42 (dk_at dksX0_fillNights_4 19 rfl rfl)
theorem dX0_fillNights_113 : decode cX0_fillNights 113 = .ok (.getfield 83, 3) := dk_180 0 83 (dk_at dksX0_fillNights_4 20 rfl rfl)
theorem dX0_fillNights_116 : decode cX0_fillNights 116 = .ok (.iload 5, 2) := dk_21 5 (dk_at dksX0_fillNights_5 0 rfl rfl)
theorem dX0_fillNights_118 : decode cX0_fillNights 118 = .ok (.iaload, 1) := dk_46 (dk_at dksX0_fillNights_5 2 rfl rfl)
theorem dX0_fillNights_119 : decode cX0_fillNights 119 = .ok (.iload 4, 2) := dk_21 4 (dk_at dksX0_fillNights_5 3 rfl rfl)
theorem dX0_fillNights_121 : decode cX0_fillNights 121 = .ok (.iload 5, 2) := dk_21 5 (dk_at dksX0_fillNights_5 5 rfl rfl)
theorem dX0_fillNights_123 : decode cX0_fillNights 123 = .ok (.ishr, 1) := dk_122 (dk_at dksX0_fillNights_5 7 rfl rfl)
theorem dX0_fillNights_124 : decode cX0_fillNights 124 = .ok (.iconst 1, 1) := dk_4 (dk_at dksX0_fillNights_5 8 rfl rfl)
theorem dX0_fillNights_125 : decode cX0_fillNights 125 = .ok (.iand, 1) := dk_126 (dk_at dksX0_fillNights_5 9 rfl rfl)
theorem dX0_fillNights_126 : decode cX0_fillNights 126 = .ok (.iconst 1, 1) := dk_4 (dk_at dksX0_fillNights_5 10 rfl rfl)
theorem dX0_fillNights_127 : decode cX0_fillNights 127 = .ok (.if_icmp .ne 13, 3) := dk_160 0 13 (dk_at dksX0_fillNights_5 11 rfl rfl)
theorem dX0_fillNights_130 : decode cX0_fillNights 130 = .ok (.aload_n 0, 1) := dk_42 (dk_at dksX0_fillNights_5 14 rfl rfl)
theorem dX0_fillNights_131 : decode cX0_fillNights 131 = .ok (.getfield 86, 3) := dk_180 0 86 (dk_at dksX0_fillNights_5 15 rfl rfl)
theorem dX0_fillNights_134 : decode cX0_fillNights 134 = .ok (.iload 5, 2) := dk_21 5 (dk_at dksX0_fillNights_5 18 rfl rfl)
theorem dX0_fillNights_136 : decode cX0_fillNights 136 = .ok (.iaload, 1) := dk_46 (dk_at dksX0_fillNights_5 20 rfl rfl)
theorem dX0_fillNights_137 : decode cX0_fillNights 137 = .ok (.goto 18, 3) := dk_167 0 18 (dk_at dksX0_fillNights_5 21 rfl rfl)
theorem dX0_fillNights_140 : decode cX0_fillNights 140 = .ok (.aload_n 0, 1) := dk_42 (dk_at dksX0_fillNights_6 0 rfl rfl)
theorem dX0_fillNights_141 : decode cX0_fillNights 141 = .ok (.getfield 66, 3) := dk_180 0 66 (dk_at dksX0_fillNights_6 1 rfl rfl)
theorem dX0_fillNights_144 : decode cX0_fillNights 144 = .ok (.getfield 373, 3) := dk_180 1 117 (dk_at dksX0_fillNights_6 4 rfl rfl)
theorem dX0_fillNights_147 : decode cX0_fillNights 147 = .ok (.aload_n 0, 1) := dk_42 (dk_at dksX0_fillNights_6 7 rfl rfl)
theorem dX0_fillNights_148 : decode cX0_fillNights 148 = .ok (.getfield 83, 3) := dk_180 0 83 (dk_at dksX0_fillNights_6 8 rfl rfl)
theorem dX0_fillNights_151 : decode cX0_fillNights 151 = .ok (.iload 5, 2) := dk_21 5 (dk_at dksX0_fillNights_6 11 rfl rfl)
theorem dX0_fillNights_153 : decode cX0_fillNights 153 = .ok (.iaload, 1) := dk_46 (dk_at dksX0_fillNights_6 13 rfl rfl)
theorem dX0_fillNights_154 : decode cX0_fillNights 154 = .ok (.iaload, 1) := dk_46 (dk_at dksX0_fillNights_6 14 rfl rfl)
theorem dX0_fillNights_155 : decode cX0_fillNights 155 = .ok (.iastore, 1) := dk_79 (dk_at dksX0_fillNights_6 15 rfl rfl)
theorem dX0_fillNights_156 : decode cX0_fillNights 156 = .ok (.iinc 5 1, 3) := dk_132 5 1 (dk_at dksX0_fillNights_6 16 rfl rfl)
theorem dX0_fillNights_159 : decode cX0_fillNights 159 = .ok (.goto (-60), 3) := dk_167 255 196 (dk_at dksX0_fillNights_6 19 rfl rfl)
theorem dX0_fillNights_162 : decode cX0_fillNights 162 = .ok (.aload_n 0, 1) := dk_42 (dk_at dksX0_fillNights_6 22 rfl rfl)
theorem dX0_fillNights_163 : decode cX0_fillNights 163 = .ok (.getfield 93, 3) := dk_180 0 93 (dk_at dksX0_fillNights_7 0 rfl rfl)
theorem dX0_fillNights_166 : decode cX0_fillNights 166 = .ok (.iload 4, 2) := dk_21 4 (dk_at dksX0_fillNights_7 3 rfl rfl)
theorem dX0_fillNights_168 : decode cX0_fillNights 168 = .ok (.iload_n 3, 1) := dk_29 (dk_at dksX0_fillNights_7 5 rfl rfl)
theorem dX0_fillNights_169 : decode cX0_fillNights 169 = .ok (.aload_n 0, 1) := dk_42 (dk_at dksX0_fillNights_7 6 rfl rfl)
theorem dX0_fillNights_170 : decode cX0_fillNights 170 = .ok (.bipush 12, 2) := dk_16 12 (dk_at dksX0_fillNights_7 7 rfl rfl)
theorem dX0_fillNights_172 : decode cX0_fillNights 172 = .ok (.invokevirtual 274, 3) := dk_182 1 18 (dk_at dksX0_fillNights_7 9 rfl rfl)
theorem dX0_fillNights_175 : decode cX0_fillNights 175 = .ok (.iconst (-1), 1) := dk_2 (dk_at dksX0_fillNights_7 12 rfl rfl)
theorem dX0_fillNights_176 : decode cX0_fillNights 176 = .ok (.ixor, 1) := dk_130 (dk_at dksX0_fillNights_7 13 rfl rfl)
theorem dX0_fillNights_177 : decode cX0_fillNights 177 = .ok (.iand, 1) := dk_126 (dk_at dksX0_fillNights_7 14 rfl rfl)
theorem dX0_fillNights_178 : decode cX0_fillNights 178 = .ok (.ifCond .ne 7, 3) := dk_154 0 7 (dk_at dksX0_fillNights_7 15 rfl rfl)
theorem dX0_fillNights_181 : decode cX0_fillNights 181 = .ok (.iconst 1, 1) := dk_4 (dk_at dksX0_fillNights_7 18 rfl rfl)
theorem dX0_fillNights_182 : decode cX0_fillNights 182 = .ok (.goto 4, 3) := dk_167 0 4 (dk_at dksX0_fillNights_7 19 rfl rfl)
theorem dX0_fillNights_185 : decode cX0_fillNights 185 = .ok (.iconst 0, 1) := dk_3 (dk_at dksX0_fillNights_7 22 rfl rfl)
theorem dX0_fillNights_186 : decode cX0_fillNights 186 = .ok (.bastore, 1) := dk_84 (dk_at dksX0_fillNights_7 23 rfl rfl)
theorem dX0_fillNights_187 : decode cX0_fillNights 187 = .ok (.iinc 4 1, 3) := dk_132 4 1 (dk_at dksX0_fillNights_8 0 rfl rfl)
theorem dX0_fillNights_190 : decode cX0_fillNights 190 = .ok (.goto (-102), 3) := dk_167 255 154 (dk_at dksX0_fillNights_8 3 rfl rfl)
theorem dX0_fillNights_193 : decode cX0_fillNights 193 = .ok (.aload_n 0, 1) := dk_42 (dk_at dksX0_fillNights_8 6 rfl rfl)
theorem dX0_fillNights_194 : decode cX0_fillNights 194 = .ok (.getfield 66, 3) := dk_180 0 66 (dk_at dksX0_fillNights_8 7 rfl rfl)
theorem dX0_fillNights_197 : decode cX0_fillNights 197 = .ok (.aload_n 0, 1) := dk_42 (dk_at dksX0_fillNights_8 10 rfl rfl)
theorem dX0_fillNights_198 : decode cX0_fillNights 198 = .ok (.getfield 48, 3) := dk_180 0 48 (dk_at dksX0_fillNights_8 11 rfl rfl)
theorem dX0_fillNights_201 : decode cX0_fillNights 201 = .ok (.invokevirtual 367, 3) := dk_182 1 111 (dk_at dksX0_fillNights_8 14 rfl rfl)
theorem dX0_fillNights_204 : decode cX0_fillNights 204 = .ok (.iconst 1, 1) := dk_4 (dk_at dksX0_fillNights_8 17 rfl rfl)
theorem dX0_fillNights_205 : decode cX0_fillNights 205 = .ok (.iload_n 1, 1) := dk_27 (dk_at dksX0_fillNights_8 18 rfl rfl)
theorem dX0_fillNights_206 : decode cX0_fillNights 206 = .ok (.ishl, 1) := dk_120 (dk_at dksX0_fillNights_8 19 rfl rfl)
theorem dX0_fillNights_207 : decode cX0_fillNights 207 = .ok (.iconst 1, 1) := dk_4 (dk_at dksX0_fillNights_8 20 rfl rfl)
theorem dX0_fillNights_208 : decode cX0_fillNights 208 = .ok (.isub, 1) := dk_100 (dk_at dksX0_fillNights_8 21 rfl rfl)
theorem dX0_fillNights_209 : decode cX0_fillNights 209 = .ok (.istore 4, 2) := dk_54 4 (dk_at dksX0_fillNights_8 22 rfl rfl)
theorem dX0_fillNights_211 : decode cX0_fillNights 211 = .ok (.iload 4, 2) := dk_21 4 (dk_at dksX0_fillNights_9 0 rfl rfl)
theorem dX0_fillNights_213 : decode cX0_fillNights 213 = .ok (.istore 5, 2) := dk_54 5 (dk_at dksX0_fillNights_9 2 rfl rfl)
theorem dX0_fillNights_215 : decode cX0_fillNights 215 = .ok (.iload 5, 2) := dk_21 5 (dk_at dksX0_fillNights_9 4 rfl rfl)
theorem dX0_fillNights_217 : decode cX0_fillNights 217 = .ok (.ifCond .lt 101, 3) := dk_155 0 101 (dk_at dksX0_fillNights_9 6 rfl rfl)
theorem dX0_fillNights_220 : decode cX0_fillNights 220 = .ok (.aload_n 0, 1) := dk_42 (dk_at dksX0_fillNights_9 9 rfl rfl)
theorem dX0_fillNights_221 : decode cX0_fillNights 221 = .ok (.getfield 89, 3) := dk_180 0 89 (dk_at dksX0_fillNights_9 10 rfl rfl)
theorem dX0_fillNights_224 : decode cX0_fillNights 224 = .ok (.iload 5, 2) := dk_21 5 (dk_at dksX0_fillNights_9 13 rfl rfl)
theorem dX0_fillNights_226 : decode cX0_fillNights 226 = .ok (.iload 5, 2) := dk_21 5 (dk_at dksX0_fillNights_9 15 rfl rfl)
theorem dX0_fillNights_228 : decode cX0_fillNights 228 = .ok (.iload 4, 2) := dk_21 4 (dk_at dksX0_fillNights_9 17 rfl rfl)
theorem dX0_fillNights_230 : decode cX0_fillNights 230 = .ok (.if_icmp .ne 7, 3) := dk_160 0 7 (dk_at dksX0_fillNights_9 19 rfl rfl)
theorem dX0_fillNights_233 : decode cX0_fillNights 233 = .ok (.iconst 0, 1) := dk_3 (dk_at dksX0_fillNights_9 22 rfl rfl)
theorem dX0_fillNights_234 : decode cX0_fillNights 234 = .ok (.goto 5, 3) := dk_167 0 5 (dk_at dksX0_fillNights_10 0 rfl rfl)
theorem dX0_fillNights_237 : decode cX0_fillNights 237 = .ok (.bipush 99, 2) := dk_16 99 (dk_at dksX0_fillNights_10 3 rfl rfl)
theorem dX0_fillNights_239 : decode cX0_fillNights 239 = .ok (.i2b, 1) := dk_145 (dk_at dksX0_fillNights_10 5 rfl rfl)
theorem dX0_fillNights_240 : decode cX0_fillNights 240 = .ok (.bastore, 1) := dk_84 (dk_at dksX0_fillNights_10 6 rfl rfl)
theorem dX0_fillNights_241 : decode cX0_fillNights 241 = .ok (.iload 4, 2) := dk_21 4 (dk_at dksX0_fillNights_10 7 rfl rfl)
theorem dX0_fillNights_243 : decode cX0_fillNights 243 = .ok (.iload 5, 2) := dk_21 5 (dk_at dksX0_fillNights_10 9 rfl rfl)
theorem dX0_fillNights_245 : decode cX0_fillNights 245 = .ok (.iconst (-1), 1) := dk_2 (dk_at dksX0_fillNights_10 11 rfl rfl)
theorem dX0_fillNights_246 : decode cX0_fillNights 246 = .ok (.ixor, 1) := dk_130 (dk_at dksX0_fillNights_10 12 rfl rfl)
theorem dX0_fillNights_247 : decode cX0_fillNights 247 = .ok (.iand, 1) := dk_126 (dk_at dksX0_fillNights_10 13 rfl rfl)
theorem dX0_fillNights_248 : decode cX0_fillNights 248 = .ok (.istore 6, 2) := dk_54 6 (dk_at dksX0_fillNights_10 14 rfl rfl)
theorem dX0_fillNights_250 : decode cX0_fillNights 250 = .ok (.iload 6, 2) := dk_21 6 (dk_at dksX0_fillNights_10 16 rfl rfl)
theorem dX0_fillNights_252 : decode cX0_fillNights 252 = .ok (.istore 7, 2) := dk_54 7 (dk_at dksX0_fillNights_10 18 rfl rfl)
theorem dX0_fillNights_254 : decode cX0_fillNights 254 = .ok (.iload 7, 2) := dk_21 7 (dk_at dksX0_fillNights_10 20 rfl rfl)
theorem dX0_fillNights_256 : decode cX0_fillNights 256 = .ok (.ifCond .le 56, 3) := dk_158 0 56 (dk_at dksX0_fillNights_11 0 rfl rfl)
theorem dX0_fillNights_259 : decode cX0_fillNights 259 = .ok (.aload_n 0, 1) := dk_42 (dk_at dksX0_fillNights_11 3 rfl rfl)
theorem dX0_fillNights_260 : decode cX0_fillNights 260 = .ok (.iload 5, 2) := dk_21 5 (dk_at dksX0_fillNights_11 4 rfl rfl)
theorem dX0_fillNights_262 : decode cX0_fillNights 262 = .ok (.iload 7, 2) := dk_21 7 (dk_at dksX0_fillNights_11 6 rfl rfl)
theorem dX0_fillNights_264 : decode cX0_fillNights 264 = .ok (.invokevirtual 375, 3) := dk_182 1 119 (dk_at dksX0_fillNights_11 8 rfl rfl)
theorem dX0_fillNights_267 : decode cX0_fillNights 267 = .ok (.ifCond .eq 33, 3) := dk_153 0 33 (dk_at dksX0_fillNights_11 11 rfl rfl)
theorem dX0_fillNights_270 : decode cX0_fillNights 270 = .ok (.aload_n 0, 1) := dk_42 (dk_at dksX0_fillNights_11 14 rfl rfl)
theorem dX0_fillNights_271 : decode cX0_fillNights 271 = .ok (.getfield 89, 3) := dk_180 0 89 (dk_at dksX0_fillNights_11 15 rfl rfl)
theorem dX0_fillNights_274 : decode cX0_fillNights 274 = .ok (.iload 5, 2) := dk_21 5 (dk_at dksX0_fillNights_11 18 rfl rfl)
theorem dX0_fillNights_276 : decode cX0_fillNights 276 = .ok (.aload_n 0, 1) := dk_42 (dk_at dksX0_fillNights_11 20 rfl rfl)
theorem dX0_fillNights_277 : decode cX0_fillNights 277 = .ok (.getfield 89, 3) := dk_180 0 89 (dk_at dksX0_fillNights_11 21 rfl rfl)
theorem dX0_fillNights_280 : decode cX0_fillNights 280 = .ok (.iload 5, 2) := dk_21 5 (dk_at dksX0_fillNights_12 0 rfl rfl)
theorem dX0_fillNights_282 : decode cX0_fillNights 282 = .ok (.baload, 1) := dk_51 (dk_at dksX0_fillNights_12 2 rfl rfl)
theorem dX0_fillNights_283 : decode cX0_fillNights 283 = .ok (.aload_n 0, 1) := dk_42 (dk_at dksX0_fillNights_12 3 rfl rfl)
theorem dX0_fillNights_284 : decode cX0_fillNights 284 = .ok (.getfield 89, 3) := dk_180 0 89 (dk_at dksX0_fillNights_12 4 rfl rfl)
theorem dX0_fillNights_287 : decode cX0_fillNights 287 = .ok (.iload 5, 2) := dk_21 5 (dk_at dksX0_fillNights_12 7 rfl rfl)
theorem dX0_fillNights_289 : decode cX0_fillNights 289 = .ok (.iload 7, 2) := dk_21 7 (dk_at dksX0_fillNights_12 9 rfl rfl)
theorem dX0_fillNights_291 : decode cX0_fillNights 291 = .ok (.ior, 1) := dk_128 (dk_at dksX0_fillNights_12 11 rfl rfl)
theorem dX0_fillNights_292 : decode cX0_fillNights 292 = .ok (.baload, 1) := dk_51 (dk_at dksX0_fillNights_12 12 rfl rfl)
theorem dX0_fillNights_293 : decode cX0_fillNights 293 = .ok (.iconst 1, 1) := dk_4 (dk_at dksX0_fillNights_12 13 rfl rfl)
theorem dX0_fillNights_294 : decode cX0_fillNights 294 = .ok (.iadd, 1) := dk_96 (dk_at dksX0_fillNights_12 14 rfl rfl)
theorem dX0_fillNights_295 : decode cX0_fillNights 295 = .ok (.invokestatic 7, 3) := dk_184 0 7 (dk_at dksX0_fillNights_12 15 rfl rfl)
theorem dX0_fillNights_298 : decode cX0_fillNights 298 = .ok (.i2b, 1) := dk_145 (dk_at dksX0_fillNights_12 18 rfl rfl)
theorem dX0_fillNights_299 : decode cX0_fillNights 299 = .ok (.bastore, 1) := dk_84 (dk_at dksX0_fillNights_12 19 rfl rfl)
theorem dX0_fillNights_300 : decode cX0_fillNights 300 = .ok (.iload 7, 2) := dk_21 7 (dk_at dksX0_fillNights_12 20 rfl rfl)
theorem dX0_fillNights_302 : decode cX0_fillNights 302 = .ok (.iconst 1, 1) := dk_4 (dk_at dksX0_fillNights_12 22 rfl rfl)
theorem dX0_fillNights_303 : decode cX0_fillNights 303 = .ok (.isub, 1) := dk_100 (dk_at dksX0_fillNights_12 23 rfl rfl)
theorem dX0_fillNights_304 : decode cX0_fillNights 304 = .ok (.iload 6, 2) := dk_21 6 (dk_at dksX0_fillNights_13 0 rfl rfl)
theorem dX0_fillNights_306 : decode cX0_fillNights 306 = .ok (.iand, 1) := dk_126 (dk_at dksX0_fillNights_13 2 rfl rfl)
theorem dX0_fillNights_307 : decode cX0_fillNights 307 = .ok (.istore 7, 2) := dk_54 7 (dk_at dksX0_fillNights_13 3 rfl rfl)
theorem dX0_fillNights_309 : decode cX0_fillNights 309 = .ok (.goto (-55), 3) := dk_167 255 201 (dk_at dksX0_fillNights_13 5 rfl rfl)
theorem dX0_fillNights_312 : decode cX0_fillNights 312 = .ok (.iinc 5 (-1), 3) := dk_132 5 255 (dk_at dksX0_fillNights_13 8 rfl rfl)
theorem dX0_fillNights_315 : decode cX0_fillNights 315 = .ok (.goto (-100), 3) := dk_167 255 156 (dk_at dksX0_fillNights_13 11 rfl rfl)
theorem dX0_fillNights_318 : decode cX0_fillNights 318 = .ok (.iload_n 1, 1) := dk_27 (dk_at dksX0_fillNights_13 14 rfl rfl)
theorem dX0_fillNights_319 : decode cX0_fillNights 319 = .ok (.ireturn, 1) := dk_172 (dk_at dksX0_fillNights_13 15 rfl rfl)
abbrev cX0_canAdd : ByteArray := prog_1_method_54_code
def yX0_canAdd : MethodName := ⟨RX0, "canAdd", "(II)Z"⟩
def dkwX0_canAdd_1 : List UInt8 := [153, 0, 20, 42, 180, 0, 89, 27, 28, 128, 51, 16, 99, 162, 0, 7, 4, 167, 0, 4, 3, 172]
abbrev dktX0_canAdd_1 : List UInt8 := dkwX0_canAdd_1 ++ []
def dkwX0_canAdd_0 : List UInt8 := [28, 184, 1, 21, 42, 180, 0, 41, 180, 1, 86, 163, 0, 31, 42, 180, 0, 93, 27, 28, 128, 51]
abbrev dktX0_canAdd_0 : List UInt8 := dkwX0_canAdd_0 ++ dktX0_canAdd_1
theorem dksX0_canAdd_0 : cX0_canAdd.data.toList.drop 0 = dktX0_canAdd_0 := by decide +kernel
theorem dksX0_canAdd_1 : cX0_canAdd.data.toList.drop 22 = dktX0_canAdd_1 := dk_seg dksX0_canAdd_0 22 rfl rfl
theorem dX0_canAdd_0 : decode cX0_canAdd 0 = .ok (.iload_n 2, 1) := dk_28 (dk_at dksX0_canAdd_0 0 rfl rfl)
theorem dX0_canAdd_1 : decode cX0_canAdd 1 = .ok (.invokestatic 277, 3) := dk_184 1 21 (dk_at dksX0_canAdd_0 1 rfl rfl)
theorem dX0_canAdd_4 : decode cX0_canAdd 4 = .ok (.aload_n 0, 1) := dk_42 (dk_at dksX0_canAdd_0 4 rfl rfl)
theorem dX0_canAdd_5 : decode cX0_canAdd 5 = .ok (.getfield 41, 3) := dk_180 0 41 (dk_at dksX0_canAdd_0 5 rfl rfl)
theorem dX0_canAdd_8 : decode cX0_canAdd 8 = .ok (.getfield 342, 3) := dk_180 1 86 (dk_at dksX0_canAdd_0 8 rfl rfl)
theorem dX0_canAdd_11 : decode cX0_canAdd 11 = .ok (.if_icmp .gt 31, 3) := dk_163 0 31 (dk_at dksX0_canAdd_0 11 rfl rfl)
theorem dX0_canAdd_14 : decode cX0_canAdd 14 = .ok (.aload_n 0, 1) := dk_42 (dk_at dksX0_canAdd_0 14 rfl rfl)
theorem dX0_canAdd_15 : decode cX0_canAdd 15 = .ok (.getfield 93, 3) := dk_180 0 93 (dk_at dksX0_canAdd_0 15 rfl rfl)
theorem dX0_canAdd_18 : decode cX0_canAdd 18 = .ok (.iload_n 1, 1) := dk_27 (dk_at dksX0_canAdd_0 18 rfl rfl)
theorem dX0_canAdd_19 : decode cX0_canAdd 19 = .ok (.iload_n 2, 1) := dk_28 (dk_at dksX0_canAdd_0 19 rfl rfl)
theorem dX0_canAdd_20 : decode cX0_canAdd 20 = .ok (.ior, 1) := dk_128 (dk_at dksX0_canAdd_0 20 rfl rfl)
theorem dX0_canAdd_21 : decode cX0_canAdd 21 = .ok (.baload, 1) := dk_51 (dk_at dksX0_canAdd_0 21 rfl rfl)
theorem dX0_canAdd_22 : decode cX0_canAdd 22 = .ok (.ifCond .eq 20, 3) := dk_153 0 20 (dk_at dksX0_canAdd_1 0 rfl rfl)
theorem dX0_canAdd_25 : decode cX0_canAdd 25 = .ok (.aload_n 0, 1) := dk_42 (dk_at dksX0_canAdd_1 3 rfl rfl)
theorem dX0_canAdd_26 : decode cX0_canAdd 26 = .ok (.getfield 89, 3) := dk_180 0 89 (dk_at dksX0_canAdd_1 4 rfl rfl)
theorem dX0_canAdd_29 : decode cX0_canAdd 29 = .ok (.iload_n 1, 1) := dk_27 (dk_at dksX0_canAdd_1 7 rfl rfl)
theorem dX0_canAdd_30 : decode cX0_canAdd 30 = .ok (.iload_n 2, 1) := dk_28 (dk_at dksX0_canAdd_1 8 rfl rfl)
theorem dX0_canAdd_31 : decode cX0_canAdd 31 = .ok (.ior, 1) := dk_128 (dk_at dksX0_canAdd_1 9 rfl rfl)
theorem dX0_canAdd_32 : decode cX0_canAdd 32 = .ok (.baload, 1) := dk_51 (dk_at dksX0_canAdd_1 10 rfl rfl)
theorem dX0_canAdd_33 : decode cX0_canAdd 33 = .ok (.bipush 99, 2) := dk_16 99 (dk_at dksX0_canAdd_1 11 rfl rfl)
theorem dX0_canAdd_35 : decode cX0_canAdd 35 = .ok (.if_icmp .ge 7, 3) := dk_162 0 7 (dk_at dksX0_canAdd_1 13 rfl rfl)
theorem dX0_canAdd_38 : decode cX0_canAdd 38 = .ok (.iconst 1, 1) := dk_4 (dk_at dksX0_canAdd_1 16 rfl rfl)
theorem dX0_canAdd_39 : decode cX0_canAdd 39 = .ok (.goto 4, 3) := dk_167 0 4 (dk_at dksX0_canAdd_1 17 rfl rfl)
theorem dX0_canAdd_42 : decode cX0_canAdd 42 = .ok (.iconst 0, 1) := dk_3 (dk_at dksX0_canAdd_1 20 rfl rfl)
theorem dX0_canAdd_43 : decode cX0_canAdd 43 = .ok (.ireturn, 1) := dk_172 (dk_at dksX0_canAdd_1 21 rfl rfl)
abbrev cX0_looks : ByteArray := prog_1_method_58_code
def yX0_looks : MethodName := ⟨RX0, "looks", "(II)I"⟩
def dkwX0_looks_1 : List UInt8 := [167, 0, 17, 42, 27, 28, 182, 1, 128, 153, 0, 7, 4, 167, 0, 4, 3, 172]
abbrev dktX0_looks_1 : List UInt8 := dkwX0_looks_1 ++ []
def dkwX0_looks_0 : List UInt8 := [42, 27, 182, 0, 210, 153, 0, 16, 42, 28, 182, 0, 210, 153, 0, 8, 27, 28, 160, 0, 7, 2]
abbrev dktX0_looks_0 : List UInt8 := dkwX0_looks_0 ++ dktX0_looks_1
theorem dksX0_looks_0 : cX0_looks.data.toList.drop 0 = dktX0_looks_0 := by decide +kernel
theorem dksX0_looks_1 : cX0_looks.data.toList.drop 22 = dktX0_looks_1 := dk_seg dksX0_looks_0 22 rfl rfl
theorem dX0_looks_0 : decode cX0_looks 0 = .ok (.aload_n 0, 1) := dk_42 (dk_at dksX0_looks_0 0 rfl rfl)
theorem dX0_looks_1 : decode cX0_looks 1 = .ok (.iload_n 1, 1) := dk_27 (dk_at dksX0_looks_0 1 rfl rfl)
theorem dX0_looks_2 : decode cX0_looks 2 = .ok (.invokevirtual 210, 3) := dk_182 0 210 (dk_at dksX0_looks_0 2 rfl rfl)
theorem dX0_looks_5 : decode cX0_looks 5 = .ok (.ifCond .eq 16, 3) := dk_153 0 16 (dk_at dksX0_looks_0 5 rfl rfl)
theorem dX0_looks_8 : decode cX0_looks 8 = .ok (.aload_n 0, 1) := dk_42 (dk_at dksX0_looks_0 8 rfl rfl)
theorem dX0_looks_9 : decode cX0_looks 9 = .ok (.iload_n 2, 1) := dk_28 (dk_at dksX0_looks_0 9 rfl rfl)
theorem dX0_looks_10 : decode cX0_looks 10 = .ok (.invokevirtual 210, 3) := dk_182 0 210 (dk_at dksX0_looks_0 10 rfl rfl)
theorem dX0_looks_13 : decode cX0_looks 13 = .ok (.ifCond .eq 8, 3) := dk_153 0 8 (dk_at dksX0_looks_0 13 rfl rfl)
theorem dX0_looks_16 : decode cX0_looks 16 = .ok (.iload_n 1, 1) := dk_27 (dk_at dksX0_looks_0 16 rfl rfl)
theorem dX0_looks_17 : decode cX0_looks 17 = .ok (.iload_n 2, 1) := dk_28 (dk_at dksX0_looks_0 17 rfl rfl)
theorem dX0_looks_18 : decode cX0_looks 18 = .ok (.if_icmp .ne 7, 3) := dk_160 0 7 (dk_at dksX0_looks_0 18 rfl rfl)
theorem dX0_looks_21 : decode cX0_looks 21 = .ok (.iconst (-1), 1) := dk_2 (dk_at dksX0_looks_0 21 rfl rfl)
theorem dX0_looks_22 : decode cX0_looks 22 = .ok (.goto 17, 3) := dk_167 0 17 (dk_at dksX0_looks_1 0 rfl rfl)
theorem dX0_looks_25 : decode cX0_looks 25 = .ok (.aload_n 0, 1) := dk_42 (dk_at dksX0_looks_1 3 rfl rfl)
theorem dX0_looks_26 : decode cX0_looks 26 = .ok (.iload_n 1, 1) := dk_27 (dk_at dksX0_looks_1 4 rfl rfl)
theorem dX0_looks_27 : decode cX0_looks 27 = .ok (.iload_n 2, 1) := dk_28 (dk_at dksX0_looks_1 5 rfl rfl)
theorem dX0_looks_28 : decode cX0_looks 28 = .ok (.invokevirtual 384, 3) := dk_182 1 128 (dk_at dksX0_looks_1 6 rfl rfl)
theorem dX0_looks_31 : decode cX0_looks 31 = .ok (.ifCond .eq 7, 3) := dk_153 0 7 (dk_at dksX0_looks_1 9 rfl rfl)
theorem dX0_looks_34 : decode cX0_looks 34 = .ok (.iconst 1, 1) := dk_4 (dk_at dksX0_looks_1 12 rfl rfl)
theorem dX0_looks_35 : decode cX0_looks 35 = .ok (.goto 4, 3) := dk_167 0 4 (dk_at dksX0_looks_1 13 rfl rfl)
theorem dX0_looks_38 : decode cX0_looks 38 = .ok (.iconst 0, 1) := dk_3 (dk_at dksX0_looks_1 16 rfl rfl)
theorem dX0_looks_39 : decode cX0_looks 39 = .ok (.ireturn, 1) := dk_172 (dk_at dksX0_looks_1 17 rfl rfl)
abbrev cX0_looksInto : ByteArray := prog_1_method_57_code
def yX0_looksInto : MethodName := ⟨RX0, "looksInto", "(II)Z"⟩
def dkwX0_looksInto_6 : List UInt8 := [161, 0, 5, 3, 172, 132, 4, 1, 167, 255, 153, 4, 172]
abbrev dktX0_looksInto_6 : List UInt8 := dkwX0_looksInto_6 ++ []
def dkwX0_looksInto_5 : List UInt8 := [180, 0, 48, 180, 0, 137, 28, 46, 42, 180, 0, 48, 180, 0, 137, 27, 46, 100, 21, 5, 184, 0, 250, 104]
abbrev dktX0_looksInto_5 : List UInt8 := dkwX0_looksInto_5 ++ dktX0_looksInto_6
def dkwX0_looksInto_4 : List UInt8 := [180, 0, 137, 21, 4, 46, 42, 180, 0, 48, 180, 0, 137, 27, 46, 100, 29, 184, 0, 250, 104, 42]
abbrev dktX0_looksInto_4 : List UInt8 := dkwX0_looksInto_4 ++ dktX0_looksInto_5
def dkwX0_looksInto_3 : List UInt8 := [158, 0, 73, 21, 5, 184, 0, 250, 29, 184, 0, 250, 161, 0, 6, 167, 0, 58, 42, 180, 0, 48]
abbrev dktX0_looksInto_3 : List UInt8 := dkwX0_looksInto_3 ++ dktX0_looksInto_4
def dkwX0_looksInto_2 : List UInt8 := [182, 0, 172, 162, 0, 100, 42, 21, 4, 182, 1, 126, 42, 27, 182, 1, 126, 100, 54, 5, 21, 5, 29, 104]
abbrev dktX0_looksInto_2 : List UInt8 := dkwX0_looksInto_2 ++ dktX0_looksInto_3
def dkwX0_looksInto_1 : List UInt8 := [180, 0, 48, 180, 0, 137, 28, 46, 164, 0, 7, 29, 154, 0, 5, 3, 172, 3, 54, 4, 21, 4, 42]
abbrev dktX0_looksInto_1 : List UInt8 := dkwX0_looksInto_1 ++ dktX0_looksInto_2
def dkwX0_looksInto_0 : List UInt8 := [42, 28, 182, 1, 126, 42, 27, 182, 1, 126, 100, 62, 42, 180, 0, 48, 180, 0, 137, 27, 46, 42]
abbrev dktX0_looksInto_0 : List UInt8 := dkwX0_looksInto_0 ++ dktX0_looksInto_1
theorem dksX0_looksInto_0 : cX0_looksInto.data.toList.drop 0 = dktX0_looksInto_0 := by decide +kernel
theorem dksX0_looksInto_1 : cX0_looksInto.data.toList.drop 22 = dktX0_looksInto_1 := dk_seg dksX0_looksInto_0 22 rfl rfl
theorem dksX0_looksInto_2 : cX0_looksInto.data.toList.drop 45 = dktX0_looksInto_2 := dk_seg dksX0_looksInto_1 23 rfl rfl
theorem dksX0_looksInto_3 : cX0_looksInto.data.toList.drop 69 = dktX0_looksInto_3 := dk_seg dksX0_looksInto_2 24 rfl rfl
theorem dksX0_looksInto_4 : cX0_looksInto.data.toList.drop 91 = dktX0_looksInto_4 := dk_seg dksX0_looksInto_3 22 rfl rfl
theorem dksX0_looksInto_5 : cX0_looksInto.data.toList.drop 113 = dktX0_looksInto_5 := dk_seg dksX0_looksInto_4 22 rfl rfl
theorem dksX0_looksInto_6 : cX0_looksInto.data.toList.drop 137 = dktX0_looksInto_6 := dk_seg dksX0_looksInto_5 24 rfl rfl
theorem dX0_looksInto_0 : decode cX0_looksInto 0 = .ok (.aload_n 0, 1) := dk_42 (dk_at dksX0_looksInto_0 0 rfl rfl)
theorem dX0_looksInto_1 : decode cX0_looksInto 1 = .ok (.iload_n 2, 1) := dk_28 (dk_at dksX0_looksInto_0 1 rfl rfl)
theorem dX0_looksInto_2 : decode cX0_looksInto 2 = .ok (.invokevirtual 382, 3) := dk_182 1 126 (dk_at dksX0_looksInto_0 2 rfl rfl)
theorem dX0_looksInto_5 : decode cX0_looksInto 5 = .ok (.aload_n 0, 1) := dk_42 (dk_at dksX0_looksInto_0 5 rfl rfl)
theorem dX0_looksInto_6 : decode cX0_looksInto 6 = .ok (.iload_n 1, 1) := dk_27 (dk_at dksX0_looksInto_0 6 rfl rfl)
theorem dX0_looksInto_7 : decode cX0_looksInto 7 = .ok (.invokevirtual 382, 3) := dk_182 1 126 (dk_at dksX0_looksInto_0 7 rfl rfl)
theorem dX0_looksInto_10 : decode cX0_looksInto 10 = .ok (.isub, 1) := dk_100 (dk_at dksX0_looksInto_0 10 rfl rfl)
theorem dX0_looksInto_11 : decode cX0_looksInto 11 = .ok (.istore_n 3, 1) := dk_62 (dk_at dksX0_looksInto_0 11 rfl rfl)
theorem dX0_looksInto_12 : decode cX0_looksInto 12 = .ok (.aload_n 0, 1) := dk_42 (dk_at dksX0_looksInto_0 12 rfl rfl)
theorem dX0_looksInto_13 : decode cX0_looksInto 13 = .ok (.getfield 48, 3) := dk_180 0 48 (dk_at dksX0_looksInto_0 13 rfl rfl)
theorem dX0_looksInto_16 : decode cX0_looksInto 16 = .ok (.getfield 137, 3) := dk_180 0 137 (dk_at dksX0_looksInto_0 16 rfl rfl)
theorem dX0_looksInto_19 : decode cX0_looksInto 19 = .ok (.iload_n 1, 1) := dk_27 (dk_at dksX0_looksInto_0 19 rfl rfl)
theorem dX0_looksInto_20 : decode cX0_looksInto 20 = .ok (.iaload, 1) := dk_46 (dk_at dksX0_looksInto_0 20 rfl rfl)
theorem dX0_looksInto_21 : decode cX0_looksInto 21 = .ok (.aload_n 0, 1) := dk_42 (dk_at dksX0_looksInto_0 21 rfl rfl)
theorem dX0_looksInto_22 : decode cX0_looksInto 22 = .ok (.getfield 48, 3) := dk_180 0 48 (dk_at dksX0_looksInto_1 0 rfl rfl)
theorem dX0_looksInto_25 : decode cX0_looksInto 25 = .ok (.getfield 137, 3) := dk_180 0 137 (dk_at dksX0_looksInto_1 3 rfl rfl)
theorem dX0_looksInto_28 : decode cX0_looksInto 28 = .ok (.iload_n 2, 1) := dk_28 (dk_at dksX0_looksInto_1 6 rfl rfl)
theorem dX0_looksInto_29 : decode cX0_looksInto 29 = .ok (.iaload, 1) := dk_46 (dk_at dksX0_looksInto_1 7 rfl rfl)
theorem dX0_looksInto_30 : decode cX0_looksInto 30 = .ok (.if_icmp .le 7, 3) := dk_164 0 7 (dk_at dksX0_looksInto_1 8 rfl rfl)
theorem dX0_looksInto_33 : decode cX0_looksInto 33 = .ok (.iload_n 3, 1) := dk_29 (dk_at dksX0_looksInto_1 11 rfl rfl)
theorem dX0_looksInto_34 : decode cX0_looksInto 34 = .ok (.ifCond .ne 5, 3) := dk_154 0 5 (dk_at dksX0_looksInto_1 12 rfl rfl)
theorem dX0_looksInto_37 : decode cX0_looksInto 37 = .ok (.iconst 0, 1) := dk_3 (dk_at dksX0_looksInto_1 15 rfl rfl)
theorem dX0_looksInto_38 : decode cX0_looksInto 38 = .ok (.ireturn, 1) := dk_172 (dk_at dksX0_looksInto_1 16 rfl rfl)
theorem dX0_looksInto_39 : decode cX0_looksInto 39 = .ok (.iconst 0, 1) := dk_3 (dk_at dksX0_looksInto_1 17 rfl rfl)
theorem dX0_looksInto_40 : decode cX0_looksInto 40 = .ok (.istore 4, 2) := dk_54 4 (dk_at dksX0_looksInto_1 18 rfl rfl)
theorem dX0_looksInto_42 : decode cX0_looksInto 42 = .ok (.iload 4, 2) := dk_21 4 (dk_at dksX0_looksInto_1 20 rfl rfl)
theorem dX0_looksInto_44 : decode cX0_looksInto 44 = .ok (.aload_n 0, 1) := dk_42 (dk_at dksX0_looksInto_1 22 rfl rfl)
theorem dX0_looksInto_45 : decode cX0_looksInto 45 = .ok (.invokevirtual 172, 3) := dk_182 0 172 (dk_at dksX0_looksInto_2 0 rfl rfl)
theorem dX0_looksInto_48 : decode cX0_looksInto 48 = .ok (.if_icmp .ge 100, 3) := dk_162 0 100 (dk_at dksX0_looksInto_2 3 rfl rfl)
theorem dX0_looksInto_51 : decode cX0_looksInto 51 = .ok (.aload_n 0, 1) := dk_42 (dk_at dksX0_looksInto_2 6 rfl rfl)
theorem dX0_looksInto_52 : decode cX0_looksInto 52 = .ok (.iload 4, 2) := dk_21 4 (dk_at dksX0_looksInto_2 7 rfl rfl)
theorem dX0_looksInto_54 : decode cX0_looksInto 54 = .ok (.invokevirtual 382, 3) := dk_182 1 126 (dk_at dksX0_looksInto_2 9 rfl rfl)
theorem dX0_looksInto_57 : decode cX0_looksInto 57 = .ok (.aload_n 0, 1) := dk_42 (dk_at dksX0_looksInto_2 12 rfl rfl)
theorem dX0_looksInto_58 : decode cX0_looksInto 58 = .ok (.iload_n 1, 1) := dk_27 (dk_at dksX0_looksInto_2 13 rfl rfl)
theorem dX0_looksInto_59 : decode cX0_looksInto 59 = .ok (.invokevirtual 382, 3) := dk_182 1 126 (dk_at dksX0_looksInto_2 14 rfl rfl)
theorem dX0_looksInto_62 : decode cX0_looksInto 62 = .ok (.isub, 1) := dk_100 (dk_at dksX0_looksInto_2 17 rfl rfl)
theorem dX0_looksInto_63 : decode cX0_looksInto 63 = .ok (.istore 5, 2) := dk_54 5 (dk_at dksX0_looksInto_2 18 rfl rfl)
theorem dX0_looksInto_65 : decode cX0_looksInto 65 = .ok (.iload 5, 2) := dk_21 5 (dk_at dksX0_looksInto_2 20 rfl rfl)
theorem dX0_looksInto_67 : decode cX0_looksInto 67 = .ok (.iload_n 3, 1) := dk_29 (dk_at dksX0_looksInto_2 22 rfl rfl)
theorem dX0_looksInto_68 : decode cX0_looksInto 68 = .ok (.imul, 1) := dk_104 (dk_at dksX0_looksInto_2 23 rfl rfl)
theorem dX0_looksInto_69 : decode cX0_looksInto 69 = .ok (.ifCond .le 73, 3) := dk_158 0 73 (dk_at dksX0_looksInto_3 0 rfl rfl)
theorem dX0_looksInto_72 : decode cX0_looksInto 72 = .ok (.iload 5, 2) := dk_21 5 (dk_at dksX0_looksInto_3 3 rfl rfl)
theorem dX0_looksInto_74 : decode cX0_looksInto 74 = .ok (.invokestatic 250, 3) := dk_184 0 250 (dk_at dksX0_looksInto_3 5 rfl rfl)
theorem dX0_looksInto_77 : decode cX0_looksInto 77 = .ok (.iload_n 3, 1) := dk_29 (dk_at dksX0_looksInto_3 8 rfl rfl)
theorem dX0_looksInto_78 : decode cX0_looksInto 78 = .ok (.invokestatic 250, 3) := dk_184 0 250 (dk_at dksX0_looksInto_3 9 rfl rfl)
theorem dX0_looksInto_81 : decode cX0_looksInto 81 = .ok (.if_icmp .lt 6, 3) := dk_161 0 6 (dk_at dksX0_looksInto_3 12 rfl rfl)
theorem dX0_looksInto_84 : decode cX0_looksInto 84 = .ok (.goto 58, 3) := dk_167 0 58 (dk_at dksX0_looksInto_3 15 rfl rfl)
theorem dX0_looksInto_87 : decode cX0_looksInto 87 = .ok (.aload_n 0, 1) := dk_42 (dk_at dksX0_looksInto_3 18 rfl rfl)
theorem dX0_looksInto_88 : decode cX0_looksInto 88 = .ok (.getfield 48, 3) := dk_180 0 48 (dk_at dksX0_looksInto_3 19 rfl rfl)
theorem dX0_looksInto_91 : decode cX0_looksInto 91 = .ok (.getfield 137, 3) := dk_180 0 137 (dk_at dksX0_looksInto_4 0 rfl rfl)
theorem dX0_looksInto_94 : decode cX0_looksInto 94 = .ok (.iload 4, 2) := dk_21 4 (dk_at dksX0_looksInto_4 3 rfl rfl)
theorem dX0_looksInto_96 : decode cX0_looksInto 96 = .ok (.iaload, 1) := dk_46 (dk_at dksX0_looksInto_4 5 rfl rfl)
theorem dX0_looksInto_97 : decode cX0_looksInto 97 = .ok (.aload_n 0, 1) := dk_42 (dk_at dksX0_looksInto_4 6 rfl rfl)
theorem dX0_looksInto_98 : decode cX0_looksInto 98 = .ok (.getfield 48, 3) := dk_180 0 48 (dk_at dksX0_looksInto_4 7 rfl rfl)
theorem dX0_looksInto_101 : decode cX0_looksInto 101 = .ok (.getfield 137, 3) := dk_180 0 137 (dk_at dksX0_looksInto_4 10 rfl rfl)
theorem dX0_looksInto_104 : decode cX0_looksInto 104 = .ok (.iload_n 1, 1) := dk_27 (dk_at dksX0_looksInto_4 13 rfl rfl)
theorem dX0_looksInto_105 : decode cX0_looksInto 105 = .ok (.iaload, 1) := dk_46 (dk_at dksX0_looksInto_4 14 rfl rfl)
theorem dX0_looksInto_106 : decode cX0_looksInto 106 = .ok (.isub, 1) := dk_100 (dk_at dksX0_looksInto_4 15 rfl rfl)
theorem dX0_looksInto_107 : decode cX0_looksInto 107 = .ok (.iload_n 3, 1) := dk_29 (dk_at dksX0_looksInto_4 16 rfl rfl)
theorem dX0_looksInto_108 : decode cX0_looksInto 108 = .ok (.invokestatic 250, 3) := dk_184 0 250 (dk_at dksX0_looksInto_4 17 rfl rfl)
theorem dX0_looksInto_111 : decode cX0_looksInto 111 = .ok (.imul, 1) := dk_104 (dk_at dksX0_looksInto_4 20 rfl rfl)
theorem dX0_looksInto_112 : decode cX0_looksInto 112 = .ok (.aload_n 0, 1) := dk_42 (dk_at dksX0_looksInto_4 21 rfl rfl)
theorem dX0_looksInto_113 : decode cX0_looksInto 113 = .ok (.getfield 48, 3) := dk_180 0 48 (dk_at dksX0_looksInto_5 0 rfl rfl)
theorem dX0_looksInto_116 : decode cX0_looksInto 116 = .ok (.getfield 137, 3) := dk_180 0 137 (dk_at dksX0_looksInto_5 3 rfl rfl)
theorem dX0_looksInto_119 : decode cX0_looksInto 119 = .ok (.iload_n 2, 1) := dk_28 (dk_at dksX0_looksInto_5 6 rfl rfl)
theorem dX0_looksInto_120 : decode cX0_looksInto 120 = .ok (.iaload, 1) := dk_46 (dk_at dksX0_looksInto_5 7 rfl rfl)
theorem dX0_looksInto_121 : decode cX0_looksInto 121 = .ok (.aload_n 0, 1) := dk_42 (dk_at dksX0_looksInto_5 8 rfl rfl)
theorem dX0_looksInto_122 : decode cX0_looksInto 122 = .ok (.getfield 48, 3) := dk_180 0 48 (dk_at dksX0_looksInto_5 9 rfl rfl)
theorem dX0_looksInto_125 : decode cX0_looksInto 125 = .ok (.getfield 137, 3) := dk_180 0 137 (dk_at dksX0_looksInto_5 12 rfl rfl)
theorem dX0_looksInto_128 : decode cX0_looksInto 128 = .ok (.iload_n 1, 1) := dk_27 (dk_at dksX0_looksInto_5 15 rfl rfl)
theorem dX0_looksInto_129 : decode cX0_looksInto 129 = .ok (.iaload, 1) := dk_46 (dk_at dksX0_looksInto_5 16 rfl rfl)
theorem dX0_looksInto_130 : decode cX0_looksInto 130 = .ok (.isub, 1) := dk_100 (dk_at dksX0_looksInto_5 17 rfl rfl)
theorem dX0_looksInto_131 : decode cX0_looksInto 131 = .ok (.iload 5, 2) := dk_21 5 (dk_at dksX0_looksInto_5 18 rfl rfl)
theorem dX0_looksInto_133 : decode cX0_looksInto 133 = .ok (.invokestatic 250, 3) := dk_184 0 250 (dk_at dksX0_looksInto_5 20 rfl rfl)
theorem dX0_looksInto_136 : decode cX0_looksInto 136 = .ok (.imul, 1) := dk_104 (dk_at dksX0_looksInto_5 23 rfl rfl)
theorem dX0_looksInto_137 : decode cX0_looksInto 137 = .ok (.if_icmp .lt 5, 3) := dk_161 0 5 (dk_at dksX0_looksInto_6 0 rfl rfl)
theorem dX0_looksInto_140 : decode cX0_looksInto 140 = .ok (.iconst 0, 1) := dk_3 (dk_at dksX0_looksInto_6 3 rfl rfl)
theorem dX0_looksInto_141 : decode cX0_looksInto 141 = .ok (.ireturn, 1) := dk_172 (dk_at dksX0_looksInto_6 4 rfl rfl)
theorem dX0_looksInto_142 : decode cX0_looksInto 142 = .ok (.iinc 4 1, 3) := dk_132 4 1 (dk_at dksX0_looksInto_6 5 rfl rfl)
theorem dX0_looksInto_145 : decode cX0_looksInto 145 = .ok (.goto (-103), 3) := dk_167 255 153 (dk_at dksX0_looksInto_6 8 rfl rfl)
theorem dX0_looksInto_148 : decode cX0_looksInto 148 = .ok (.iconst 1, 1) := dk_4 (dk_at dksX0_looksInto_6 11 rfl rfl)
theorem dX0_looksInto_149 : decode cX0_looksInto 149 = .ok (.ireturn, 1) := dk_172 (dk_at dksX0_looksInto_6 12 rfl rfl)
abbrev cX0_x : ByteArray := prog_1_method_56_code
def yX0_x : MethodName := ⟨RX0, "x", "(I)I"⟩
def dkwX0_x_0 : List UInt8 := [42, 180, 0, 41, 180, 0, 127, 27, 182, 0, 140, 192, 0, 144, 180, 0, 196, 172]
abbrev dktX0_x_0 : List UInt8 := dkwX0_x_0 ++ []
theorem dksX0_x_0 : cX0_x.data.toList.drop 0 = dktX0_x_0 := by decide +kernel
theorem dX0_x_0 : decode cX0_x 0 = .ok (.aload_n 0, 1) := dk_42 (dk_at dksX0_x_0 0 rfl rfl)
theorem dX0_x_1 : decode cX0_x 1 = .ok (.getfield 41, 3) := dk_180 0 41 (dk_at dksX0_x_0 1 rfl rfl)
theorem dX0_x_4 : decode cX0_x 4 = .ok (.getfield 127, 3) := dk_180 0 127 (dk_at dksX0_x_0 4 rfl rfl)
theorem dX0_x_7 : decode cX0_x 7 = .ok (.iload_n 1, 1) := dk_27 (dk_at dksX0_x_0 7 rfl rfl)
theorem dX0_x_8 : decode cX0_x 8 = .ok (.invokevirtual 140, 3) := dk_182 0 140 (dk_at dksX0_x_0 8 rfl rfl)
theorem dX0_x_11 : decode cX0_x 11 = .ok (.checkcast 144, 3) := dk_192 0 144 (dk_at dksX0_x_0 11 rfl rfl)
theorem dX0_x_14 : decode cX0_x 14 = .ok (.getfield 196, 3) := dk_180 0 196 (dk_at dksX0_x_0 14 rfl rfl)
theorem dX0_x_17 : decode cX0_x 17 = .ok (.ireturn, 1) := dk_172 (dk_at dksX0_x_0 17 rfl rfl)
abbrev cX0_light : ByteArray := prog_1_method_59_code
def yX0_light : MethodName := ⟨RX0, "light", "(I)I"⟩
def dkwX0_light_3 : List UInt8 := [21, 4, 156, 0, 8, 16, 254, 167, 0, 5, 16, 253, 126, 61, 132, 3, 1, 167, 255, 182, 28, 172]
abbrev dktX0_light_3 : List UInt8 := dkwX0_light_3 ++ []
def dkwX0_light_2 : List UInt8 := [46, 42, 180, 0, 48, 180, 0, 137, 27, 46, 100, 21, 4, 184, 0, 250, 162, 0, 6, 167, 0, 18, 28]
abbrev dktX0_light_2 : List UInt8 := dkwX0_light_2 ++ dktX0_light_3
def dkwX0_light_1 : List UInt8 := [182, 1, 126, 42, 27, 182, 1, 126, 100, 54, 4, 21, 4, 153, 0, 48, 42, 180, 0, 48, 180, 0, 137, 29]
abbrev dktX0_light_1 : List UInt8 := dkwX0_light_1 ++ dktX0_light_2
def dkwX0_light_0 : List UInt8 := [42, 27, 182, 0, 210, 154, 0, 5, 2, 172, 6, 61, 3, 62, 29, 42, 182, 0, 172, 162, 0, 72, 42, 29]
abbrev dktX0_light_0 : List UInt8 := dkwX0_light_0 ++ dktX0_light_1
theorem dksX0_light_0 : cX0_light.data.toList.drop 0 = dktX0_light_0 := by decide +kernel
theorem dksX0_light_1 : cX0_light.data.toList.drop 24 = dktX0_light_1 := dk_seg dksX0_light_0 24 rfl rfl
theorem dksX0_light_2 : cX0_light.data.toList.drop 48 = dktX0_light_2 := dk_seg dksX0_light_1 24 rfl rfl
theorem dksX0_light_3 : cX0_light.data.toList.drop 71 = dktX0_light_3 := dk_seg dksX0_light_2 23 rfl rfl
theorem dX0_light_0 : decode cX0_light 0 = .ok (.aload_n 0, 1) := dk_42 (dk_at dksX0_light_0 0 rfl rfl)
theorem dX0_light_1 : decode cX0_light 1 = .ok (.iload_n 1, 1) := dk_27 (dk_at dksX0_light_0 1 rfl rfl)
theorem dX0_light_2 : decode cX0_light 2 = .ok (.invokevirtual 210, 3) := dk_182 0 210 (dk_at dksX0_light_0 2 rfl rfl)
theorem dX0_light_5 : decode cX0_light 5 = .ok (.ifCond .ne 5, 3) := dk_154 0 5 (dk_at dksX0_light_0 5 rfl rfl)
theorem dX0_light_8 : decode cX0_light 8 = .ok (.iconst (-1), 1) := dk_2 (dk_at dksX0_light_0 8 rfl rfl)
theorem dX0_light_9 : decode cX0_light 9 = .ok (.ireturn, 1) := dk_172 (dk_at dksX0_light_0 9 rfl rfl)
theorem dX0_light_10 : decode cX0_light 10 = .ok (.iconst 3, 1) := dk_6 (dk_at dksX0_light_0 10 rfl rfl)
theorem dX0_light_11 : decode cX0_light 11 = .ok (.istore_n 2, 1) := dk_61 (dk_at dksX0_light_0 11 rfl rfl)
theorem dX0_light_12 : decode cX0_light 12 = .ok (.iconst 0, 1) := dk_3 (dk_at dksX0_light_0 12 rfl rfl)
theorem dX0_light_13 : decode cX0_light 13 = .ok (.istore_n 3, 1) := dk_62 (dk_at dksX0_light_0 13 rfl rfl)
theorem dX0_light_14 : decode cX0_light 14 = .ok (.iload_n 3, 1) := dk_29 (dk_at dksX0_light_0 14 rfl rfl)
theorem dX0_light_15 : decode cX0_light 15 = .ok (.aload_n 0, 1) := dk_42 (dk_at dksX0_light_0 15 rfl rfl)
theorem dX0_light_16 : decode cX0_light 16 = .ok (.invokevirtual 172, 3) := dk_182 0 172 (dk_at dksX0_light_0 16 rfl rfl)
theorem dX0_light_19 : decode cX0_light 19 = .ok (.if_icmp .ge 72, 3) := dk_162 0 72 (dk_at dksX0_light_0 19 rfl rfl)
theorem dX0_light_22 : decode cX0_light 22 = .ok (.aload_n 0, 1) := dk_42 (dk_at dksX0_light_0 22 rfl rfl)
theorem dX0_light_23 : decode cX0_light 23 = .ok (.iload_n 3, 1) := dk_29 (dk_at dksX0_light_0 23 rfl rfl)
theorem dX0_light_24 : decode cX0_light 24 = .ok (.invokevirtual 382, 3) := dk_182 1 126 (dk_at dksX0_light_1 0 rfl rfl)
theorem dX0_light_27 : decode cX0_light 27 = .ok (.aload_n 0, 1) := dk_42 (dk_at dksX0_light_1 3 rfl rfl)
theorem dX0_light_28 : decode cX0_light 28 = .ok (.iload_n 1, 1) := dk_27 (dk_at dksX0_light_1 4 rfl rfl)
theorem dX0_light_29 : decode cX0_light 29 = .ok (.invokevirtual 382, 3) := dk_182 1 126 (dk_at dksX0_light_1 5 rfl rfl)
theorem dX0_light_32 : decode cX0_light 32 = .ok (.isub, 1) := dk_100 (dk_at dksX0_light_1 8 rfl rfl)
theorem dX0_light_33 : decode cX0_light 33 = .ok (.istore 4, 2) := dk_54 4 (dk_at dksX0_light_1 9 rfl rfl)
theorem dX0_light_35 : decode cX0_light 35 = .ok (.iload 4, 2) := dk_21 4 (dk_at dksX0_light_1 11 rfl rfl)
theorem dX0_light_37 : decode cX0_light 37 = .ok (.ifCond .eq 48, 3) := dk_153 0 48 (dk_at dksX0_light_1 13 rfl rfl)
theorem dX0_light_40 : decode cX0_light 40 = .ok (.aload_n 0, 1) := dk_42 (dk_at dksX0_light_1 16 rfl rfl)
theorem dX0_light_41 : decode cX0_light 41 = .ok (.getfield 48, 3) := dk_180 0 48 (dk_at dksX0_light_1 17 rfl rfl)
theorem dX0_light_44 : decode cX0_light 44 = .ok (.getfield 137, 3) := dk_180 0 137 (dk_at dksX0_light_1 20 rfl rfl)
theorem dX0_light_47 : decode cX0_light 47 = .ok (.iload_n 3, 1) := dk_29 (dk_at dksX0_light_1 23 rfl rfl)
theorem dX0_light_48 : decode cX0_light 48 = .ok (.iaload, 1) := dk_46 (dk_at dksX0_light_2 0 rfl rfl)
theorem dX0_light_49 : decode cX0_light 49 = .ok (.aload_n 0, 1) := dk_42 (dk_at dksX0_light_2 1 rfl rfl)
theorem dX0_light_50 : decode cX0_light 50 = .ok (.getfield 48, 3) := dk_180 0 48 (dk_at dksX0_light_2 2 rfl rfl)
theorem dX0_light_53 : decode cX0_light 53 = .ok (.getfield 137, 3) := dk_180 0 137 (dk_at dksX0_light_2 5 rfl rfl)
theorem dX0_light_56 : decode cX0_light 56 = .ok (.iload_n 1, 1) := dk_27 (dk_at dksX0_light_2 8 rfl rfl)
theorem dX0_light_57 : decode cX0_light 57 = .ok (.iaload, 1) := dk_46 (dk_at dksX0_light_2 9 rfl rfl)
theorem dX0_light_58 : decode cX0_light 58 = .ok (.isub, 1) := dk_100 (dk_at dksX0_light_2 10 rfl rfl)
theorem dX0_light_59 : decode cX0_light 59 = .ok (.iload 4, 2) := dk_21 4 (dk_at dksX0_light_2 11 rfl rfl)
theorem dX0_light_61 : decode cX0_light 61 = .ok (.invokestatic 250, 3) := dk_184 0 250 (dk_at dksX0_light_2 13 rfl rfl)
theorem dX0_light_64 : decode cX0_light 64 = .ok (.if_icmp .ge 6, 3) := dk_162 0 6 (dk_at dksX0_light_2 16 rfl rfl)
theorem dX0_light_67 : decode cX0_light 67 = .ok (.goto 18, 3) := dk_167 0 18 (dk_at dksX0_light_2 19 rfl rfl)
theorem dX0_light_70 : decode cX0_light 70 = .ok (.iload_n 2, 1) := dk_28 (dk_at dksX0_light_2 22 rfl rfl)
theorem dX0_light_71 : decode cX0_light 71 = .ok (.iload 4, 2) := dk_21 4 (dk_at dksX0_light_3 0 rfl rfl)
theorem dX0_light_73 : decode cX0_light 73 = .ok (.ifCond .ge 8, 3) := dk_156 0 8 (dk_at dksX0_light_3 2 rfl rfl)
theorem dX0_light_76 : decode cX0_light 76 = .ok (.bipush (-2), 2) := dk_16 254 (dk_at dksX0_light_3 5 rfl rfl)
theorem dX0_light_78 : decode cX0_light 78 = .ok (.goto 5, 3) := dk_167 0 5 (dk_at dksX0_light_3 7 rfl rfl)
theorem dX0_light_81 : decode cX0_light 81 = .ok (.bipush (-3), 2) := dk_16 253 (dk_at dksX0_light_3 10 rfl rfl)
theorem dX0_light_83 : decode cX0_light 83 = .ok (.iand, 1) := dk_126 (dk_at dksX0_light_3 12 rfl rfl)
theorem dX0_light_84 : decode cX0_light 84 = .ok (.istore_n 2, 1) := dk_61 (dk_at dksX0_light_3 13 rfl rfl)
theorem dX0_light_85 : decode cX0_light 85 = .ok (.iinc 3 1, 3) := dk_132 3 1 (dk_at dksX0_light_3 14 rfl rfl)
theorem dX0_light_88 : decode cX0_light 88 = .ok (.goto (-74), 3) := dk_167 255 182 (dk_at dksX0_light_3 17 rfl rfl)
theorem dX0_light_91 : decode cX0_light 91 = .ok (.iload_n 2, 1) := dk_28 (dk_at dksX0_light_3 20 rfl rfl)
theorem dX0_light_92 : decode cX0_light 92 = .ok (.ireturn, 1) := dk_172 (dk_at dksX0_light_3 21 rfl rfl)
abbrev cX0_sway : ByteArray := prog_1_method_61_code
def yX0_sway : MethodName := ⟨RX0, "sway", "(II)I"⟩
def dkwX0_sway_1 : List UInt8 := [2, 172]
abbrev dktX0_sway_1 : List UInt8 := dkwX0_sway_1 ++ []
def dkwX0_sway_0 : List UInt8 := [42, 27, 182, 0, 210, 153, 0, 19, 28, 184, 1, 131, 153, 0, 12, 42, 27, 28, 182, 1, 33, 167, 0, 4]
abbrev dktX0_sway_0 : List UInt8 := dkwX0_sway_0 ++ dktX0_sway_1
theorem dksX0_sway_0 : cX0_sway.data.toList.drop 0 = dktX0_sway_0 := by decide +kernel
theorem dksX0_sway_1 : cX0_sway.data.toList.drop 24 = dktX0_sway_1 := dk_seg dksX0_sway_0 24 rfl rfl
theorem dX0_sway_0 : decode cX0_sway 0 = .ok (.aload_n 0, 1) := dk_42 (dk_at dksX0_sway_0 0 rfl rfl)
theorem dX0_sway_1 : decode cX0_sway 1 = .ok (.iload_n 1, 1) := dk_27 (dk_at dksX0_sway_0 1 rfl rfl)
theorem dX0_sway_2 : decode cX0_sway 2 = .ok (.invokevirtual 210, 3) := dk_182 0 210 (dk_at dksX0_sway_0 2 rfl rfl)
theorem dX0_sway_5 : decode cX0_sway 5 = .ok (.ifCond .eq 19, 3) := dk_153 0 19 (dk_at dksX0_sway_0 5 rfl rfl)
theorem dX0_sway_8 : decode cX0_sway 8 = .ok (.iload_n 2, 1) := dk_28 (dk_at dksX0_sway_0 8 rfl rfl)
theorem dX0_sway_9 : decode cX0_sway 9 = .ok (.invokestatic 387, 3) := dk_184 1 131 (dk_at dksX0_sway_0 9 rfl rfl)
theorem dX0_sway_12 : decode cX0_sway 12 = .ok (.ifCond .eq 12, 3) := dk_153 0 12 (dk_at dksX0_sway_0 12 rfl rfl)
theorem dX0_sway_15 : decode cX0_sway 15 = .ok (.aload_n 0, 1) := dk_42 (dk_at dksX0_sway_0 15 rfl rfl)
theorem dX0_sway_16 : decode cX0_sway 16 = .ok (.iload_n 1, 1) := dk_27 (dk_at dksX0_sway_0 16 rfl rfl)
theorem dX0_sway_17 : decode cX0_sway 17 = .ok (.iload_n 2, 1) := dk_28 (dk_at dksX0_sway_0 17 rfl rfl)
theorem dX0_sway_18 : decode cX0_sway 18 = .ok (.invokevirtual 289, 3) := dk_182 1 33 (dk_at dksX0_sway_0 18 rfl rfl)
theorem dX0_sway_21 : decode cX0_sway 21 = .ok (.goto 4, 3) := dk_167 0 4 (dk_at dksX0_sway_0 21 rfl rfl)
theorem dX0_sway_24 : decode cX0_sway 24 = .ok (.iconst (-1), 1) := dk_2 (dk_at dksX0_sway_1 0 rfl rfl)
theorem dX0_sway_25 : decode cX0_sway 25 = .ok (.ireturn, 1) := dk_172 (dk_at dksX0_sway_1 1 rfl rfl)
abbrev cX0_isWind : ByteArray := prog_1_method_60_code
def yX0_isWind : MethodName := ⟨RX0, "isWind", "(I)Z"⟩
def dkwX0_isWind_0 : List UInt8 := [26, 3, 16, 99, 184, 0, 174, 172]
abbrev dktX0_isWind_0 : List UInt8 := dkwX0_isWind_0 ++ []
theorem dksX0_isWind_0 : cX0_isWind.data.toList.drop 0 = dktX0_isWind_0 := by decide +kernel
theorem dX0_isWind_0 : decode cX0_isWind 0 = .ok (.iload_n 0, 1) := dk_26 (dk_at dksX0_isWind_0 0 rfl rfl)
theorem dX0_isWind_1 : decode cX0_isWind 1 = .ok (.iconst 0, 1) := dk_3 (dk_at dksX0_isWind_0 1 rfl rfl)
theorem dX0_isWind_2 : decode cX0_isWind 2 = .ok (.bipush 99, 2) := dk_16 99 (dk_at dksX0_isWind_0 2 rfl rfl)
theorem dX0_isWind_4 : decode cX0_isWind 4 = .ok (.invokestatic 174, 3) := dk_184 0 174 (dk_at dksX0_isWind_0 4 rfl rfl)
theorem dX0_isWind_7 : decode cX0_isWind 7 = .ok (.ireturn, 1) := dk_172 (dk_at dksX0_isWind_0 7 rfl rfl)
abbrev cX0_chain : ByteArray := prog_1_method_65_code
def yX0_chain : MethodName := ⟨RX0, "chain", "(III)I"⟩
def dkwX0_chain_5 : List UInt8 := [167, 255, 230, 21, 5, 172]
abbrev dktX0_chain_5 : List UInt8 := dkwX0_chain_5 ++ []
def dkwX0_chain_4 : List UInt8 := [182, 0, 172, 162, 0, 23, 21, 5, 42, 180, 0, 97, 21, 6, 46, 184, 0, 1, 54, 5, 132, 6, 1]
abbrev dktX0_chain_4 : List UInt8 := dkwX0_chain_4 ++ dktX0_chain_5
def dkwX0_chain_3 : List UInt8 := [16, 254, 167, 0, 12, 42, 180, 0, 97, 29, 16, 10, 100, 46, 172, 3, 54, 5, 3, 54, 6, 21, 6, 42]
abbrev dktX0_chain_3 : List UInt8 := dkwX0_chain_3 ++ dktX0_chain_4
def dkwX0_chain_2 : List UInt8 := [154, 0, 6, 21, 4, 172, 29, 4, 164, 0, 31, 42, 180, 0, 97, 29, 16, 10, 100, 46, 2, 160, 0, 8]
abbrev dktX0_chain_2 : List UInt8 := dkwX0_chain_2 ++ dktX0_chain_3
def dkwX0_chain_1 : List UInt8 := [42, 29, 16, 10, 100, 182, 0, 210, 154, 0, 5, 2, 172, 42, 27, 28, 182, 1, 148, 54, 4, 29]
abbrev dktX0_chain_1 : List UInt8 := dkwX0_chain_1 ++ dktX0_chain_2
def dkwX0_chain_0 : List UInt8 := [42, 27, 182, 0, 210, 153, 0, 30, 28, 184, 1, 131, 153, 0, 23, 29, 153, 0, 21, 29, 4, 159, 0, 16]
abbrev dktX0_chain_0 : List UInt8 := dkwX0_chain_0 ++ dktX0_chain_1
theorem dksX0_chain_0 : cX0_chain.data.toList.drop 0 = dktX0_chain_0 := by decide +kernel
theorem dksX0_chain_1 : cX0_chain.data.toList.drop 24 = dktX0_chain_1 := dk_seg dksX0_chain_0 24 rfl rfl
theorem dksX0_chain_2 : cX0_chain.data.toList.drop 46 = dktX0_chain_2 := dk_seg dksX0_chain_1 22 rfl rfl
theorem dksX0_chain_3 : cX0_chain.data.toList.drop 70 = dktX0_chain_3 := dk_seg dksX0_chain_2 24 rfl rfl
theorem dksX0_chain_4 : cX0_chain.data.toList.drop 94 = dktX0_chain_4 := dk_seg dksX0_chain_3 24 rfl rfl
theorem dksX0_chain_5 : cX0_chain.data.toList.drop 117 = dktX0_chain_5 := dk_seg dksX0_chain_4 23 rfl rfl
theorem dX0_chain_0 : decode cX0_chain 0 = .ok (.aload_n 0, 1) := dk_42 (dk_at dksX0_chain_0 0 rfl rfl)
theorem dX0_chain_1 : decode cX0_chain 1 = .ok (.iload_n 1, 1) := dk_27 (dk_at dksX0_chain_0 1 rfl rfl)
theorem dX0_chain_2 : decode cX0_chain 2 = .ok (.invokevirtual 210, 3) := dk_182 0 210 (dk_at dksX0_chain_0 2 rfl rfl)
theorem dX0_chain_5 : decode cX0_chain 5 = .ok (.ifCond .eq 30, 3) := dk_153 0 30 (dk_at dksX0_chain_0 5 rfl rfl)
theorem dX0_chain_8 : decode cX0_chain 8 = .ok (.iload_n 2, 1) := dk_28 (dk_at dksX0_chain_0 8 rfl rfl)
theorem dX0_chain_9 : decode cX0_chain 9 = .ok (.invokestatic 387, 3) := dk_184 1 131 (dk_at dksX0_chain_0 9 rfl rfl)
theorem dX0_chain_12 : decode cX0_chain 12 = .ok (.ifCond .eq 23, 3) := dk_153 0 23 (dk_at dksX0_chain_0 12 rfl rfl)
theorem dX0_chain_15 : decode cX0_chain 15 = .ok (.iload_n 3, 1) := dk_29 (dk_at dksX0_chain_0 15 rfl rfl)
theorem dX0_chain_16 : decode cX0_chain 16 = .ok (.ifCond .eq 21, 3) := dk_153 0 21 (dk_at dksX0_chain_0 16 rfl rfl)
theorem dX0_chain_19 : decode cX0_chain 19 = .ok (.iload_n 3, 1) := dk_29 (dk_at dksX0_chain_0 19 rfl rfl)
theorem dX0_chain_20 : decode cX0_chain 20 = .ok (.iconst 1, 1) := dk_4 (dk_at dksX0_chain_0 20 rfl rfl)
theorem dX0_chain_21 : decode cX0_chain 21 = .ok (.if_icmp .eq 16, 3) := dk_159 0 16 (dk_at dksX0_chain_0 21 rfl rfl)
theorem dX0_chain_24 : decode cX0_chain 24 = .ok (.aload_n 0, 1) := dk_42 (dk_at dksX0_chain_1 0 rfl rfl)
theorem dX0_chain_25 : decode cX0_chain 25 = .ok (.iload_n 3, 1) := dk_29 (dk_at dksX0_chain_1 1 rfl rfl)
theorem dX0_chain_26 : decode cX0_chain 26 = .ok (.bipush 10, 2) := dk_16 10 (dk_at dksX0_chain_1 2 rfl rfl)
theorem dX0_chain_28 : decode cX0_chain 28 = .ok (.isub, 1) := dk_100 (dk_at dksX0_chain_1 4 rfl rfl)
theorem dX0_chain_29 : decode cX0_chain 29 = .ok (.invokevirtual 210, 3) := dk_182 0 210 (dk_at dksX0_chain_1 5 rfl rfl)
theorem dX0_chain_32 : decode cX0_chain 32 = .ok (.ifCond .ne 5, 3) := dk_154 0 5 (dk_at dksX0_chain_1 8 rfl rfl)
theorem dX0_chain_35 : decode cX0_chain 35 = .ok (.iconst (-1), 1) := dk_2 (dk_at dksX0_chain_1 11 rfl rfl)
theorem dX0_chain_36 : decode cX0_chain 36 = .ok (.ireturn, 1) := dk_172 (dk_at dksX0_chain_1 12 rfl rfl)
theorem dX0_chain_37 : decode cX0_chain 37 = .ok (.aload_n 0, 1) := dk_42 (dk_at dksX0_chain_1 13 rfl rfl)
theorem dX0_chain_38 : decode cX0_chain 38 = .ok (.iload_n 1, 1) := dk_27 (dk_at dksX0_chain_1 14 rfl rfl)
theorem dX0_chain_39 : decode cX0_chain 39 = .ok (.iload_n 2, 1) := dk_28 (dk_at dksX0_chain_1 15 rfl rfl)
theorem dX0_chain_40 : decode cX0_chain 40 = .ok (.invokevirtual 404, 3) := dk_182 1 148 (dk_at dksX0_chain_1 16 rfl rfl)
theorem dX0_chain_43 : decode cX0_chain 43 = .ok (.istore 4, 2) := dk_54 4 (dk_at dksX0_chain_1 19 rfl rfl)
theorem dX0_chain_45 : decode cX0_chain 45 = .ok (.iload_n 3, 1) := dk_29 (dk_at dksX0_chain_1 21 rfl rfl)
theorem dX0_chain_46 : decode cX0_chain 46 = .ok (.ifCond .ne 6, 3) := dk_154 0 6 (dk_at dksX0_chain_2 0 rfl rfl)
theorem dX0_chain_49 : decode cX0_chain 49 = .ok (.iload 4, 2) := dk_21 4 (dk_at dksX0_chain_2 3 rfl rfl)
theorem dX0_chain_51 : decode cX0_chain 51 = .ok (.ireturn, 1) := dk_172 (dk_at dksX0_chain_2 5 rfl rfl)
theorem dX0_chain_52 : decode cX0_chain 52 = .ok (.iload_n 3, 1) := dk_29 (dk_at dksX0_chain_2 6 rfl rfl)
theorem dX0_chain_53 : decode cX0_chain 53 = .ok (.iconst 1, 1) := dk_4 (dk_at dksX0_chain_2 7 rfl rfl)
theorem dX0_chain_54 : decode cX0_chain 54 = .ok (.if_icmp .le 31, 3) := dk_164 0 31 (dk_at dksX0_chain_2 8 rfl rfl)
theorem dX0_chain_57 : decode cX0_chain 57 = .ok (.aload_n 0, 1) := dk_42 (dk_at dksX0_chain_2 11 rfl rfl)
theorem dX0_chain_58 : decode cX0_chain 58 = .ok (.getfield 97, 3) := dk_180 0 97 (dk_at dksX0_chain_2 12 rfl rfl)
theorem dX0_chain_61 : decode cX0_chain 61 = .ok (.iload_n 3, 1) := dk_29 (dk_at dksX0_chain_2 15 rfl rfl)
theorem dX0_chain_62 : decode cX0_chain 62 = .ok (.bipush 10, 2) := dk_16 10 (dk_at dksX0_chain_2 16 rfl rfl)
theorem dX0_chain_64 : decode cX0_chain 64 = .ok (.isub, 1) := dk_100 (dk_at dksX0_chain_2 18 rfl rfl)
theorem dX0_chain_65 : decode cX0_chain 65 = .ok (.iaload, 1) := dk_46 (dk_at dksX0_chain_2 19 rfl rfl)
theorem dX0_chain_66 : decode cX0_chain 66 = .ok (.iconst (-1), 1) := dk_2 (dk_at dksX0_chain_2 20 rfl rfl)
theorem dX0_chain_67 : decode cX0_chain 67 = .ok (.if_icmp .ne 8, 3) := dk_160 0 8 (dk_at dksX0_chain_2 21 rfl rfl)
theorem dX0_chain_70 : decode cX0_chain 70 = .ok (.bipush (-2), 2) := dk_16 254 (dk_at dksX0_chain_3 0 rfl rfl)
theorem dX0_chain_72 : decode cX0_chain 72 = .ok (.goto 12, 3) := dk_167 0 12 (dk_at dksX0_chain_3 2 rfl rfl)
theorem dX0_chain_75 : decode cX0_chain 75 = .ok (.aload_n 0, 1) := dk_42 (dk_at dksX0_chain_3 5 rfl rfl)
theorem dX0_chain_76 : decode cX0_chain 76 = .ok (.getfield 97, 3) := dk_180 0 97 (dk_at dksX0_chain_3 6 rfl rfl)
theorem dX0_chain_79 : decode cX0_chain 79 = .ok (.iload_n 3, 1) := dk_29 (dk_at dksX0_chain_3 9 rfl rfl)
theorem dX0_chain_80 : decode cX0_chain 80 = .ok (.bipush 10, 2) := dk_16 10 (dk_at dksX0_chain_3 10 rfl rfl)
theorem dX0_chain_82 : decode cX0_chain 82 = .ok (.isub, 1) := dk_100 (dk_at dksX0_chain_3 12 rfl rfl)
theorem dX0_chain_83 : decode cX0_chain 83 = .ok (.iaload, 1) := dk_46 (dk_at dksX0_chain_3 13 rfl rfl)
theorem dX0_chain_84 : decode cX0_chain 84 = .ok (.ireturn, 1) := dk_172 (dk_at dksX0_chain_3 14 rfl rfl)
theorem dX0_chain_85 : decode cX0_chain 85 = .ok (.iconst 0, 1) := dk_3 (dk_at dksX0_chain_3 15 rfl rfl)
theorem dX0_chain_86 : decode cX0_chain 86 = .ok (.istore 5, 2) := dk_54 5 (dk_at dksX0_chain_3 16 rfl rfl)
theorem dX0_chain_88 : decode cX0_chain 88 = .ok (.iconst 0, 1) := dk_3 (dk_at dksX0_chain_3 18 rfl rfl)
theorem dX0_chain_89 : decode cX0_chain 89 = .ok (.istore 6, 2) := dk_54 6 (dk_at dksX0_chain_3 19 rfl rfl)
theorem dX0_chain_91 : decode cX0_chain 91 = .ok (.iload 6, 2) := dk_21 6 (dk_at dksX0_chain_3 21 rfl rfl)
theorem dX0_chain_93 : decode cX0_chain 93 = .ok (.aload_n 0, 1) := dk_42 (dk_at dksX0_chain_3 23 rfl rfl)
theorem dX0_chain_94 : decode cX0_chain 94 = .ok (.invokevirtual 172, 3) := dk_182 0 172 (dk_at dksX0_chain_4 0 rfl rfl)
theorem dX0_chain_97 : decode cX0_chain 97 = .ok (.if_icmp .ge 23, 3) := dk_162 0 23 (dk_at dksX0_chain_4 3 rfl rfl)
theorem dX0_chain_100 : decode cX0_chain 100 = .ok (.iload 5, 2) := dk_21 5 (dk_at dksX0_chain_4 6 rfl rfl)
theorem dX0_chain_102 : decode cX0_chain 102 = .ok (.aload_n 0, 1) := dk_42 (dk_at dksX0_chain_4 8 rfl rfl)
theorem dX0_chain_103 : decode cX0_chain 103 = .ok (.getfield 97, 3) := dk_180 0 97 (dk_at dksX0_chain_4 9 rfl rfl)
theorem dX0_chain_106 : decode cX0_chain 106 = .ok (.iload 6, 2) := dk_21 6 (dk_at dksX0_chain_4 12 rfl rfl)
theorem dX0_chain_108 : decode cX0_chain 108 = .ok (.iaload, 1) := dk_46 (dk_at dksX0_chain_4 14 rfl rfl)
theorem dX0_chain_109 : decode cX0_chain 109 = .ok (.invokestatic 1, 3) := dk_184 0 1 (dk_at dksX0_chain_4 15 rfl rfl)
theorem dX0_chain_112 : decode cX0_chain 112 = .ok (.istore 5, 2) := dk_54 5 (dk_at dksX0_chain_4 18 rfl rfl)
theorem dX0_chain_114 : decode cX0_chain 114 = .ok (.iinc 6 1, 3) := dk_132 6 1 (dk_at dksX0_chain_4 20 rfl rfl)
theorem dX0_chain_117 : decode cX0_chain 117 = .ok (.goto (-26), 3) := dk_167 255 230 (dk_at dksX0_chain_5 0 rfl rfl)
theorem dX0_chain_120 : decode cX0_chain 120 = .ok (.iload 5, 2) := dk_21 5 (dk_at dksX0_chain_5 3 rfl rfl)
theorem dX0_chain_122 : decode cX0_chain 122 = .ok (.ireturn, 1) := dk_172 (dk_at dksX0_chain_5 5 rfl rfl)
abbrev cX0_chains : ByteArray := prog_1_method_64_code
def yX0_chains : MethodName := ⟨RX0, "chains", "(II)I"⟩
def dkwX0_chains_5 : List UInt8 := [184, 1, 21, 172]
abbrev dktX0_chains_5 : List UInt8 := dkwX0_chains_5 ++ []
def dkwX0_chains_4 : List UInt8 := [21, 5, 79, 29, 4, 21, 6, 120, 128, 62, 132, 6, 1, 167, 255, 202, 132, 5, 1, 167, 255, 184, 29]
abbrev dktX0_chains_4 : List UInt8 := dkwX0_chains_4 ++ dktX0_chains_5
def dkwX0_chains_3 : List UInt8 := [160, 0, 34, 42, 21, 6, 28, 21, 4, 182, 1, 146, 154, 0, 6, 167, 0, 19, 42, 180, 0, 97, 21, 6]
abbrev dktX0_chains_3 : List UInt8 := dkwX0_chains_3 ++ dktX0_chains_4
def dkwX0_chains_2 : List UInt8 := [29, 54, 4, 3, 54, 6, 21, 6, 42, 182, 0, 172, 162, 0, 51, 42, 180, 0, 97, 21, 6, 46, 2]
abbrev dktX0_chains_2 : List UInt8 := dkwX0_chains_2 ++ dktX0_chains_3
def dkwX0_chains_1 : List UInt8 := [2, 79, 132, 3, 1, 167, 255, 229, 4, 27, 120, 62, 3, 54, 4, 4, 54, 5, 21, 4, 29, 159, 0, 72]
abbrev dktX0_chains_1 : List UInt8 := dkwX0_chains_1 ++ dktX0_chains_2
def dkwX0_chains_0 : List UInt8 := [3, 62, 29, 42, 182, 0, 172, 162, 0, 25, 42, 180, 0, 97, 29, 29, 27, 160, 0, 7, 3, 167, 0, 4]
abbrev dktX0_chains_0 : List UInt8 := dkwX0_chains_0 ++ dktX0_chains_1
theorem dksX0_chains_0 : cX0_chains.data.toList.drop 0 = dktX0_chains_0 := by decide +kernel
theorem dksX0_chains_1 : cX0_chains.data.toList.drop 24 = dktX0_chains_1 := dk_seg dksX0_chains_0 24 rfl rfl
theorem dksX0_chains_2 : cX0_chains.data.toList.drop 48 = dktX0_chains_2 := dk_seg dksX0_chains_1 24 rfl rfl
theorem dksX0_chains_3 : cX0_chains.data.toList.drop 71 = dktX0_chains_3 := dk_seg dksX0_chains_2 23 rfl rfl
theorem dksX0_chains_4 : cX0_chains.data.toList.drop 95 = dktX0_chains_4 := dk_seg dksX0_chains_3 24 rfl rfl
theorem dksX0_chains_5 : cX0_chains.data.toList.drop 118 = dktX0_chains_5 := dk_seg dksX0_chains_4 23 rfl rfl
theorem dX0_chains_0 : decode cX0_chains 0 = .ok (.iconst 0, 1) := dk_3 (dk_at dksX0_chains_0 0 rfl rfl)
theorem dX0_chains_1 : decode cX0_chains 1 = .ok (.istore_n 3, 1) := dk_62 (dk_at dksX0_chains_0 1 rfl rfl)
theorem dX0_chains_2 : decode cX0_chains 2 = .ok (.iload_n 3, 1) := dk_29 (dk_at dksX0_chains_0 2 rfl rfl)
theorem dX0_chains_3 : decode cX0_chains 3 = .ok (.aload_n 0, 1) := dk_42 (dk_at dksX0_chains_0 3 rfl rfl)
theorem dX0_chains_4 : decode cX0_chains 4 = .ok (.invokevirtual 172, 3) := dk_182 0 172 (dk_at dksX0_chains_0 4 rfl rfl)
theorem dX0_chains_7 : decode cX0_chains 7 = .ok (.if_icmp .ge 25, 3) := dk_162 0 25 (dk_at dksX0_chains_0 7 rfl rfl)
theorem dX0_chains_10 : decode cX0_chains 10 = .ok (.aload_n 0, 1) := dk_42 (dk_at dksX0_chains_0 10 rfl rfl)
theorem dX0_chains_11 : decode cX0_chains 11 = .ok (.getfield 97, 3) := dk_180 0 97 (dk_at dksX0_chains_0 11 rfl rfl)
theorem dX0_chains_14 : decode cX0_chains 14 = .ok (.iload_n 3, 1) := dk_29 (dk_at dksX0_chains_0 14 rfl rfl)
theorem dX0_chains_15 : decode cX0_chains 15 = .ok (.iload_n 3, 1) := dk_29 (dk_at dksX0_chains_0 15 rfl rfl)
theorem dX0_chains_16 : decode cX0_chains 16 = .ok (.iload_n 1, 1) := dk_27 (dk_at dksX0_chains_0 16 rfl rfl)
theorem dX0_chains_17 : decode cX0_chains 17 = .ok (.if_icmp .ne 7, 3) := dk_160 0 7 (dk_at dksX0_chains_0 17 rfl rfl)
theorem dX0_chains_20 : decode cX0_chains 20 = .ok (.iconst 0, 1) := dk_3 (dk_at dksX0_chains_0 20 rfl rfl)
theorem dX0_chains_21 : decode cX0_chains 21 = .ok (.goto 4, 3) := dk_167 0 4 (dk_at dksX0_chains_0 21 rfl rfl)
theorem dX0_chains_24 : decode cX0_chains 24 = .ok (.iconst (-1), 1) := dk_2 (dk_at dksX0_chains_1 0 rfl rfl)
theorem dX0_chains_25 : decode cX0_chains 25 = .ok (.iastore, 1) := dk_79 (dk_at dksX0_chains_1 1 rfl rfl)
theorem dX0_chains_26 : decode cX0_chains 26 = .ok (.iinc 3 1, 3) := dk_132 3 1 (dk_at dksX0_chains_1 2 rfl rfl)
theorem dX0_chains_29 : decode cX0_chains 29 = .ok (.goto (-27), 3) := dk_167 255 229 (dk_at dksX0_chains_1 5 rfl rfl)
theorem dX0_chains_32 : decode cX0_chains 32 = .ok (.iconst 1, 1) := dk_4 (dk_at dksX0_chains_1 8 rfl rfl)
theorem dX0_chains_33 : decode cX0_chains 33 = .ok (.iload_n 1, 1) := dk_27 (dk_at dksX0_chains_1 9 rfl rfl)
theorem dX0_chains_34 : decode cX0_chains 34 = .ok (.ishl, 1) := dk_120 (dk_at dksX0_chains_1 10 rfl rfl)
theorem dX0_chains_35 : decode cX0_chains 35 = .ok (.istore_n 3, 1) := dk_62 (dk_at dksX0_chains_1 11 rfl rfl)
theorem dX0_chains_36 : decode cX0_chains 36 = .ok (.iconst 0, 1) := dk_3 (dk_at dksX0_chains_1 12 rfl rfl)
theorem dX0_chains_37 : decode cX0_chains 37 = .ok (.istore 4, 2) := dk_54 4 (dk_at dksX0_chains_1 13 rfl rfl)
theorem dX0_chains_39 : decode cX0_chains 39 = .ok (.iconst 1, 1) := dk_4 (dk_at dksX0_chains_1 15 rfl rfl)
theorem dX0_chains_40 : decode cX0_chains 40 = .ok (.istore 5, 2) := dk_54 5 (dk_at dksX0_chains_1 16 rfl rfl)
theorem dX0_chains_42 : decode cX0_chains 42 = .ok (.iload 4, 2) := dk_21 4 (dk_at dksX0_chains_1 18 rfl rfl)
theorem dX0_chains_44 : decode cX0_chains 44 = .ok (.iload_n 3, 1) := dk_29 (dk_at dksX0_chains_1 20 rfl rfl)
theorem dX0_chains_45 : decode cX0_chains 45 = .ok (.if_icmp .eq 72, 3) := dk_159 0 72 (dk_at dksX0_chains_1 21 rfl rfl)
theorem dX0_chains_48 : decode cX0_chains 48 = .ok (.iload_n 3, 1) := dk_29 (dk_at dksX0_chains_2 0 rfl rfl)
theorem dX0_chains_49 : decode cX0_chains 49 = .ok (.istore 4, 2) := dk_54 4 (dk_at dksX0_chains_2 1 rfl rfl)
theorem dX0_chains_51 : decode cX0_chains 51 = .ok (.iconst 0, 1) := dk_3 (dk_at dksX0_chains_2 3 rfl rfl)
theorem dX0_chains_52 : decode cX0_chains 52 = .ok (.istore 6, 2) := dk_54 6 (dk_at dksX0_chains_2 4 rfl rfl)
theorem dX0_chains_54 : decode cX0_chains 54 = .ok (.iload 6, 2) := dk_21 6 (dk_at dksX0_chains_2 6 rfl rfl)
theorem dX0_chains_56 : decode cX0_chains 56 = .ok (.aload_n 0, 1) := dk_42 (dk_at dksX0_chains_2 8 rfl rfl)
theorem dX0_chains_57 : decode cX0_chains 57 = .ok (.invokevirtual 172, 3) := dk_182 0 172 (dk_at dksX0_chains_2 9 rfl rfl)
theorem dX0_chains_60 : decode cX0_chains 60 = .ok (.if_icmp .ge 51, 3) := dk_162 0 51 (dk_at dksX0_chains_2 12 rfl rfl)
theorem dX0_chains_63 : decode cX0_chains 63 = .ok (.aload_n 0, 1) := dk_42 (dk_at dksX0_chains_2 15 rfl rfl)
theorem dX0_chains_64 : decode cX0_chains 64 = .ok (.getfield 97, 3) := dk_180 0 97 (dk_at dksX0_chains_2 16 rfl rfl)
theorem dX0_chains_67 : decode cX0_chains 67 = .ok (.iload 6, 2) := dk_21 6 (dk_at dksX0_chains_2 19 rfl rfl)
theorem dX0_chains_69 : decode cX0_chains 69 = .ok (.iaload, 1) := dk_46 (dk_at dksX0_chains_2 21 rfl rfl)
theorem dX0_chains_70 : decode cX0_chains 70 = .ok (.iconst (-1), 1) := dk_2 (dk_at dksX0_chains_2 22 rfl rfl)
theorem dX0_chains_71 : decode cX0_chains 71 = .ok (.if_icmp .ne 34, 3) := dk_160 0 34 (dk_at dksX0_chains_3 0 rfl rfl)
theorem dX0_chains_74 : decode cX0_chains 74 = .ok (.aload_n 0, 1) := dk_42 (dk_at dksX0_chains_3 3 rfl rfl)
theorem dX0_chains_75 : decode cX0_chains 75 = .ok (.iload 6, 2) := dk_21 6 (dk_at dksX0_chains_3 4 rfl rfl)
theorem dX0_chains_77 : decode cX0_chains 77 = .ok (.iload_n 2, 1) := dk_28 (dk_at dksX0_chains_3 6 rfl rfl)
theorem dX0_chains_78 : decode cX0_chains 78 = .ok (.iload 4, 2) := dk_21 4 (dk_at dksX0_chains_3 7 rfl rfl)
theorem dX0_chains_80 : decode cX0_chains 80 = .ok (.invokevirtual 402, 3) := dk_182 1 146 (dk_at dksX0_chains_3 9 rfl rfl)
theorem dX0_chains_83 : decode cX0_chains 83 = .ok (.ifCond .ne 6, 3) := dk_154 0 6 (dk_at dksX0_chains_3 12 rfl rfl)
theorem dX0_chains_86 : decode cX0_chains 86 = .ok (.goto 19, 3) := dk_167 0 19 (dk_at dksX0_chains_3 15 rfl rfl)
theorem dX0_chains_89 : decode cX0_chains 89 = .ok (.aload_n 0, 1) := dk_42 (dk_at dksX0_chains_3 18 rfl rfl)
theorem dX0_chains_90 : decode cX0_chains 90 = .ok (.getfield 97, 3) := dk_180 0 97 (dk_at dksX0_chains_3 19 rfl rfl)
theorem dX0_chains_93 : decode cX0_chains 93 = .ok (.iload 6, 2) := dk_21 6 (dk_at dksX0_chains_3 22 rfl rfl)
theorem dX0_chains_95 : decode cX0_chains 95 = .ok (.iload 5, 2) := dk_21 5 (dk_at dksX0_chains_4 0 rfl rfl)
theorem dX0_chains_97 : decode cX0_chains 97 = .ok (.iastore, 1) := dk_79 (dk_at dksX0_chains_4 2 rfl rfl)
theorem dX0_chains_98 : decode cX0_chains 98 = .ok (.iload_n 3, 1) := dk_29 (dk_at dksX0_chains_4 3 rfl rfl)
theorem dX0_chains_99 : decode cX0_chains 99 = .ok (.iconst 1, 1) := dk_4 (dk_at dksX0_chains_4 4 rfl rfl)
theorem dX0_chains_100 : decode cX0_chains 100 = .ok (.iload 6, 2) := dk_21 6 (dk_at dksX0_chains_4 5 rfl rfl)
theorem dX0_chains_102 : decode cX0_chains 102 = .ok (.ishl, 1) := dk_120 (dk_at dksX0_chains_4 7 rfl rfl)
theorem dX0_chains_103 : decode cX0_chains 103 = .ok (.ior, 1) := dk_128 (dk_at dksX0_chains_4 8 rfl rfl)
theorem dX0_chains_104 : decode cX0_chains 104 = .ok (.istore_n 3, 1) := dk_62 (dk_at dksX0_chains_4 9 rfl rfl)
theorem dX0_chains_105 : decode cX0_chains 105 = .ok (.iinc 6 1, 3) := dk_132 6 1 (dk_at dksX0_chains_4 10 rfl rfl)
theorem dX0_chains_108 : decode cX0_chains 108 = .ok (.goto (-54), 3) := dk_167 255 202 (dk_at dksX0_chains_4 13 rfl rfl)
theorem dX0_chains_111 : decode cX0_chains 111 = .ok (.iinc 5 1, 3) := dk_132 5 1 (dk_at dksX0_chains_4 16 rfl rfl)
theorem dX0_chains_114 : decode cX0_chains 114 = .ok (.goto (-72), 3) := dk_167 255 184 (dk_at dksX0_chains_4 19 rfl rfl)
theorem dX0_chains_117 : decode cX0_chains 117 = .ok (.iload_n 3, 1) := dk_29 (dk_at dksX0_chains_4 22 rfl rfl)
theorem dX0_chains_118 : decode cX0_chains 118 = .ok (.invokestatic 277, 3) := dk_184 1 21 (dk_at dksX0_chains_5 0 rfl rfl)
theorem dX0_chains_121 : decode cX0_chains 121 = .ok (.ireturn, 1) := dk_172 (dk_at dksX0_chains_5 3 rfl rfl)
abbrev cX0_falls : ByteArray := prog_1_method_63_code
def yX0_falls : MethodName := ⟨RX0, "falls", "(III)Z"⟩
def dkwX0_falls_3 : List UInt8 := [180, 0, 59, 185, 1, 41, 2, 0, 153, 0, 5, 4, 172, 132, 5, 1, 167, 255, 209, 3, 172]
abbrev dktX0_falls_3 : List UInt8 := dkwX0_falls_3 ++ []
def dkwX0_falls_2 : List UInt8 := [182, 0, 131, 162, 0, 38, 42, 180, 0, 41, 180, 1, 143, 21, 5, 182, 0, 140, 192, 1, 39, 42]
abbrev dktX0_falls_2 : List UInt8 := dkwX0_falls_2 ++ dktX0_falls_3
def dkwX0_falls_1 : List UInt8 := [180, 0, 187, 16, 7, 42, 27, 29, 182, 1, 140, 79, 3, 54, 5, 21, 5, 42, 180, 0, 41, 180, 1, 143]
abbrev dktX0_falls_1 : List UInt8 := dkwX0_falls_1 ++ dktX0_falls_2
def dkwX0_falls_0 : List UInt8 := [42, 27, 28, 182, 1, 33, 54, 4, 42, 180, 0, 59, 180, 0, 187, 16, 8, 21, 4, 79, 42, 180, 0, 59]
abbrev dktX0_falls_0 : List UInt8 := dkwX0_falls_0 ++ dktX0_falls_1
theorem dksX0_falls_0 : cX0_falls.data.toList.drop 0 = dktX0_falls_0 := by decide +kernel
theorem dksX0_falls_1 : cX0_falls.data.toList.drop 24 = dktX0_falls_1 := dk_seg dksX0_falls_0 24 rfl rfl
theorem dksX0_falls_2 : cX0_falls.data.toList.drop 48 = dktX0_falls_2 := dk_seg dksX0_falls_1 24 rfl rfl
theorem dksX0_falls_3 : cX0_falls.data.toList.drop 70 = dktX0_falls_3 := dk_seg dksX0_falls_2 22 rfl rfl
theorem dX0_falls_0 : decode cX0_falls 0 = .ok (.aload_n 0, 1) := dk_42 (dk_at dksX0_falls_0 0 rfl rfl)
theorem dX0_falls_1 : decode cX0_falls 1 = .ok (.iload_n 1, 1) := dk_27 (dk_at dksX0_falls_0 1 rfl rfl)
theorem dX0_falls_2 : decode cX0_falls 2 = .ok (.iload_n 2, 1) := dk_28 (dk_at dksX0_falls_0 2 rfl rfl)
theorem dX0_falls_3 : decode cX0_falls 3 = .ok (.invokevirtual 289, 3) := dk_182 1 33 (dk_at dksX0_falls_0 3 rfl rfl)
theorem dX0_falls_6 : decode cX0_falls 6 = .ok (.istore 4, 2) := dk_54 4 (dk_at dksX0_falls_0 6 rfl rfl)
theorem dX0_falls_8 : decode cX0_falls 8 = .ok (.aload_n 0, 1) := dk_42 (dk_at dksX0_falls_0 8 rfl rfl)
theorem dX0_falls_9 : decode cX0_falls 9 = .ok (.getfield 59, 3) := dk_180 0 59 (dk_at dksX0_falls_0 9 rfl rfl)
theorem dX0_falls_12 : decode cX0_falls 12 = .ok (.getfield 187, 3) := dk_180 0 187 (dk_at dksX0_falls_0 12 rfl rfl)
theorem dX0_falls_15 : decode cX0_falls 15 = .ok (.bipush 8, 2) := dk_16 8 (dk_at dksX0_falls_0 15 rfl rfl)
theorem dX0_falls_17 : decode cX0_falls 17 = .ok (.iload 4, 2) := dk_21 4 (dk_at dksX0_falls_0 17 rfl rfl)
theorem dX0_falls_19 : decode cX0_falls 19 = .ok (.iastore, 1) := dk_79 (dk_at dksX0_falls_0 19 rfl rfl)
theorem dX0_falls_20 : decode cX0_falls 20 = .ok (.aload_n 0, 1) := dk_42 (dk_at dksX0_falls_0 20 rfl rfl)
theorem dX0_falls_21 : decode cX0_falls 21 = .ok (.getfield 59, 3) := dk_180 0 59 (dk_at dksX0_falls_0 21 rfl rfl)
theorem dX0_falls_24 : decode cX0_falls 24 = .ok (.getfield 187, 3) := dk_180 0 187 (dk_at dksX0_falls_1 0 rfl rfl)
theorem dX0_falls_27 : decode cX0_falls 27 = .ok (.bipush 7, 2) := dk_16 7 (dk_at dksX0_falls_1 3 rfl rfl)
theorem dX0_falls_29 : decode cX0_falls 29 = .ok (.aload_n 0, 1) := dk_42 (dk_at dksX0_falls_1 5 rfl rfl)
theorem dX0_falls_30 : decode cX0_falls 30 = .ok (.iload_n 1, 1) := dk_27 (dk_at dksX0_falls_1 6 rfl rfl)
theorem dX0_falls_31 : decode cX0_falls 31 = .ok (.iload_n 3, 1) := dk_29 (dk_at dksX0_falls_1 7 rfl rfl)
theorem dX0_falls_32 : decode cX0_falls 32 = .ok (.invokevirtual 396, 3) := dk_182 1 140 (dk_at dksX0_falls_1 8 rfl rfl)
theorem dX0_falls_35 : decode cX0_falls 35 = .ok (.iastore, 1) := dk_79 (dk_at dksX0_falls_1 11 rfl rfl)
theorem dX0_falls_36 : decode cX0_falls 36 = .ok (.iconst 0, 1) := dk_3 (dk_at dksX0_falls_1 12 rfl rfl)
theorem dX0_falls_37 : decode cX0_falls 37 = .ok (.istore 5, 2) := dk_54 5 (dk_at dksX0_falls_1 13 rfl rfl)
theorem dX0_falls_39 : decode cX0_falls 39 = .ok (.iload 5, 2) := dk_21 5 (dk_at dksX0_falls_1 15 rfl rfl)
theorem dX0_falls_41 : decode cX0_falls 41 = .ok (.aload_n 0, 1) := dk_42 (dk_at dksX0_falls_1 17 rfl rfl)
theorem dX0_falls_42 : decode cX0_falls 42 = .ok (.getfield 41, 3) := dk_180 0 41 (dk_at dksX0_falls_1 18 rfl rfl)
theorem dX0_falls_45 : decode cX0_falls 45 = .ok (.getfield 399, 3) := dk_180 1 143 (dk_at dksX0_falls_1 21 rfl rfl)
theorem dX0_falls_48 : decode cX0_falls 48 = .ok (.invokevirtual 131, 3) := dk_182 0 131 (dk_at dksX0_falls_2 0 rfl rfl)
theorem dX0_falls_51 : decode cX0_falls 51 = .ok (.if_icmp .ge 38, 3) := dk_162 0 38 (dk_at dksX0_falls_2 3 rfl rfl)
theorem dX0_falls_54 : decode cX0_falls 54 = .ok (.aload_n 0, 1) := dk_42 (dk_at dksX0_falls_2 6 rfl rfl)
theorem dX0_falls_55 : decode cX0_falls 55 = .ok (.getfield 41, 3) := dk_180 0 41 (dk_at dksX0_falls_2 7 rfl rfl)
theorem dX0_falls_58 : decode cX0_falls 58 = .ok (.getfield 399, 3) := dk_180 1 143 (dk_at dksX0_falls_2 10 rfl rfl)
theorem dX0_falls_61 : decode cX0_falls 61 = .ok (.iload 5, 2) := dk_21 5 (dk_at dksX0_falls_2 13 rfl rfl)
theorem dX0_falls_63 : decode cX0_falls 63 = .ok (.invokevirtual 140, 3) := dk_182 0 140 (dk_at dksX0_falls_2 15 rfl rfl)
theorem dX0_falls_66 : decode cX0_falls 66 = .ok (.checkcast 295, 3) := dk_192 1 39 (dk_at dksX0_falls_2 18 rfl rfl)
theorem dX0_falls_69 : decode cX0_falls 69 = .ok (.aload_n 0, 1) := dk_42 (dk_at dksX0_falls_2 21 rfl rfl)
theorem dX0_falls_70 : decode cX0_falls 70 = .ok (.getfield 59, 3) := dk_180 0 59 (dk_at dksX0_falls_3 0 rfl rfl)
theorem dX0_falls_73 : decode cX0_falls 73 = .ok (.invokeinterface 297 2, 5) := by decide +kernel
theorem dX0_falls_78 : decode cX0_falls 78 = .ok (.ifCond .eq 5, 3) := dk_153 0 5 (dk_at dksX0_falls_3 8 rfl rfl)
theorem dX0_falls_81 : decode cX0_falls 81 = .ok (.iconst 1, 1) := dk_4 (dk_at dksX0_falls_3 11 rfl rfl)
theorem dX0_falls_82 : decode cX0_falls 82 = .ok (.ireturn, 1) := dk_172 (dk_at dksX0_falls_3 12 rfl rfl)
theorem dX0_falls_83 : decode cX0_falls 83 = .ok (.iinc 5 1, 3) := dk_132 5 1 (dk_at dksX0_falls_3 13 rfl rfl)
theorem dX0_falls_86 : decode cX0_falls 86 = .ok (.goto (-47), 3) := dk_167 255 209 (dk_at dksX0_falls_3 16 rfl rfl)
theorem dX0_falls_89 : decode cX0_falls 89 = .ok (.iconst 0, 1) := dk_3 (dk_at dksX0_falls_3 19 rfl rfl)
theorem dX0_falls_90 : decode cX0_falls 90 = .ok (.ireturn, 1) := dk_172 (dk_at dksX0_falls_3 20 rfl rfl)
abbrev cX0_goneBeside : ByteArray := prog_1_method_62_code
def yX0_goneBeside : MethodName := ⟨RX0, "goneBeside", "(II)I"⟩
def dkwX0_goneBeside_3 : List UInt8 := [29, 28, 126, 184, 1, 21, 172]
abbrev dktX0_goneBeside_3 : List UInt8 := dkwX0_goneBeside_3 ++ []
def dkwX0_goneBeside_2 : List UInt8 := [27, 182, 1, 134, 153, 0, 14, 29, 4, 25, 5, 27, 182, 1, 137, 120, 128, 62, 132, 4, 1, 167, 255, 192]
abbrev dktX0_goneBeside_2 : List UInt8 := dkwX0_goneBeside_2 ++ dktX0_goneBeside_3
def dkwX0_goneBeside_1 : List UInt8 := [180, 1, 0, 21, 4, 182, 0, 140, 192, 0, 243, 58, 5, 25, 5, 180, 0, 242, 2, 159, 0, 23, 25, 5]
abbrev dktX0_goneBeside_1 : List UInt8 := dkwX0_goneBeside_1 ++ dktX0_goneBeside_2
def dkwX0_goneBeside_0 : List UInt8 := [3, 62, 3, 54, 4, 21, 4, 42, 180, 0, 41, 180, 1, 0, 182, 0, 131, 162, 0, 55, 42, 180, 0, 41]
abbrev dktX0_goneBeside_0 : List UInt8 := dkwX0_goneBeside_0 ++ dktX0_goneBeside_1
theorem dksX0_goneBeside_0 : cX0_goneBeside.data.toList.drop 0 = dktX0_goneBeside_0 := by decide +kernel
theorem dksX0_goneBeside_1 : cX0_goneBeside.data.toList.drop 24 = dktX0_goneBeside_1 := dk_seg dksX0_goneBeside_0 24 rfl rfl
theorem dksX0_goneBeside_2 : cX0_goneBeside.data.toList.drop 48 = dktX0_goneBeside_2 := dk_seg dksX0_goneBeside_1 24 rfl rfl
theorem dksX0_goneBeside_3 : cX0_goneBeside.data.toList.drop 72 = dktX0_goneBeside_3 := dk_seg dksX0_goneBeside_2 24 rfl rfl
theorem dX0_goneBeside_0 : decode cX0_goneBeside 0 = .ok (.iconst 0, 1) := dk_3 (dk_at dksX0_goneBeside_0 0 rfl rfl)
theorem dX0_goneBeside_1 : decode cX0_goneBeside 1 = .ok (.istore_n 3, 1) := dk_62 (dk_at dksX0_goneBeside_0 1 rfl rfl)
theorem dX0_goneBeside_2 : decode cX0_goneBeside 2 = .ok (.iconst 0, 1) := dk_3 (dk_at dksX0_goneBeside_0 2 rfl rfl)
theorem dX0_goneBeside_3 : decode cX0_goneBeside 3 = .ok (.istore 4, 2) := dk_54 4 (dk_at dksX0_goneBeside_0 3 rfl rfl)
theorem dX0_goneBeside_5 : decode cX0_goneBeside 5 = .ok (.iload 4, 2) := dk_21 4 (dk_at dksX0_goneBeside_0 5 rfl rfl)
theorem dX0_goneBeside_7 : decode cX0_goneBeside 7 = .ok (.aload_n 0, 1) := dk_42 (dk_at dksX0_goneBeside_0 7 rfl rfl)
theorem dX0_goneBeside_8 : decode cX0_goneBeside 8 = .ok (.getfield 41, 3) := dk_180 0 41 (dk_at dksX0_goneBeside_0 8 rfl rfl)
theorem dX0_goneBeside_11 : decode cX0_goneBeside 11 = .ok (.getfield 256, 3) := dk_180 1 0 (dk_at dksX0_goneBeside_0 11 rfl rfl)
theorem dX0_goneBeside_14 : decode cX0_goneBeside 14 = .ok (.invokevirtual 131, 3) := dk_182 0 131 (dk_at dksX0_goneBeside_0 14 rfl rfl)
theorem dX0_goneBeside_17 : decode cX0_goneBeside 17 = .ok (.if_icmp .ge 55, 3) := dk_162 0 55 (dk_at dksX0_goneBeside_0 17 rfl rfl)
theorem dX0_goneBeside_20 : decode cX0_goneBeside 20 = .ok (.aload_n 0, 1) := dk_42 (dk_at dksX0_goneBeside_0 20 rfl rfl)
theorem dX0_goneBeside_21 : decode cX0_goneBeside 21 = .ok (.getfield 41, 3) := dk_180 0 41 (dk_at dksX0_goneBeside_0 21 rfl rfl)
theorem dX0_goneBeside_24 : decode cX0_goneBeside 24 = .ok (.getfield 256, 3) := dk_180 1 0 (dk_at dksX0_goneBeside_1 0 rfl rfl)
theorem dX0_goneBeside_27 : decode cX0_goneBeside 27 = .ok (.iload 4, 2) := dk_21 4 (dk_at dksX0_goneBeside_1 3 rfl rfl)
theorem dX0_goneBeside_29 : decode cX0_goneBeside 29 = .ok (.invokevirtual 140, 3) := dk_182 0 140 (dk_at dksX0_goneBeside_1 5 rfl rfl)
theorem dX0_goneBeside_32 : decode cX0_goneBeside 32 = .ok (.checkcast 243, 3) := dk_192 0 243 (dk_at dksX0_goneBeside_1 8 rfl rfl)
theorem dX0_goneBeside_35 : decode cX0_goneBeside 35 = .ok (.astore 5, 2) := dk_58 5 (dk_at dksX0_goneBeside_1 11 rfl rfl)
theorem dX0_goneBeside_37 : decode cX0_goneBeside 37 = .ok (.aload 5, 2) := dk_25 5 (dk_at dksX0_goneBeside_1 13 rfl rfl)
theorem dX0_goneBeside_39 : decode cX0_goneBeside 39 = .ok (.getfield 242, 3) := dk_180 0 242 (dk_at dksX0_goneBeside_1 15 rfl rfl)
theorem dX0_goneBeside_42 : decode cX0_goneBeside 42 = .ok (.iconst (-1), 1) := dk_2 (dk_at dksX0_goneBeside_1 18 rfl rfl)
theorem dX0_goneBeside_43 : decode cX0_goneBeside 43 = .ok (.if_icmp .eq 23, 3) := dk_159 0 23 (dk_at dksX0_goneBeside_1 19 rfl rfl)
theorem dX0_goneBeside_46 : decode cX0_goneBeside 46 = .ok (.aload 5, 2) := dk_25 5 (dk_at dksX0_goneBeside_1 22 rfl rfl)
theorem dX0_goneBeside_48 : decode cX0_goneBeside 48 = .ok (.iload_n 1, 1) := dk_27 (dk_at dksX0_goneBeside_2 0 rfl rfl)
theorem dX0_goneBeside_49 : decode cX0_goneBeside 49 = .ok (.invokevirtual 390, 3) := dk_182 1 134 (dk_at dksX0_goneBeside_2 1 rfl rfl)
theorem dX0_goneBeside_52 : decode cX0_goneBeside 52 = .ok (.ifCond .eq 14, 3) := dk_153 0 14 (dk_at dksX0_goneBeside_2 4 rfl rfl)
theorem dX0_goneBeside_55 : decode cX0_goneBeside 55 = .ok (.iload_n 3, 1) := dk_29 (dk_at dksX0_goneBeside_2 7 rfl rfl)
theorem dX0_goneBeside_56 : decode cX0_goneBeside 56 = .ok (.iconst 1, 1) := dk_4 (dk_at dksX0_goneBeside_2 8 rfl rfl)
theorem dX0_goneBeside_57 : decode cX0_goneBeside 57 = .ok (.aload 5, 2) := dk_25 5 (dk_at dksX0_goneBeside_2 9 rfl rfl)
theorem dX0_goneBeside_59 : decode cX0_goneBeside 59 = .ok (.iload_n 1, 1) := dk_27 (dk_at dksX0_goneBeside_2 11 rfl rfl)
theorem dX0_goneBeside_60 : decode cX0_goneBeside 60 = .ok (.invokevirtual 393, 3) := dk_182 1 137 (dk_at dksX0_goneBeside_2 12 rfl rfl)
theorem dX0_goneBeside_63 : decode cX0_goneBeside 63 = .ok (.ishl, 1) := dk_120 (dk_at dksX0_goneBeside_2 15 rfl rfl)
theorem dX0_goneBeside_64 : decode cX0_goneBeside 64 = .ok (.ior, 1) := dk_128 (dk_at dksX0_goneBeside_2 16 rfl rfl)
theorem dX0_goneBeside_65 : decode cX0_goneBeside 65 = .ok (.istore_n 3, 1) := dk_62 (dk_at dksX0_goneBeside_2 17 rfl rfl)
theorem dX0_goneBeside_66 : decode cX0_goneBeside 66 = .ok (.iinc 4 1, 3) := dk_132 4 1 (dk_at dksX0_goneBeside_2 18 rfl rfl)
theorem dX0_goneBeside_69 : decode cX0_goneBeside 69 = .ok (.goto (-64), 3) := dk_167 255 192 (dk_at dksX0_goneBeside_2 21 rfl rfl)
theorem dX0_goneBeside_72 : decode cX0_goneBeside 72 = .ok (.iload_n 3, 1) := dk_29 (dk_at dksX0_goneBeside_3 0 rfl rfl)
theorem dX0_goneBeside_73 : decode cX0_goneBeside 73 = .ok (.iload_n 2, 1) := dk_28 (dk_at dksX0_goneBeside_3 1 rfl rfl)
theorem dX0_goneBeside_74 : decode cX0_goneBeside 74 = .ok (.iand, 1) := dk_126 (dk_at dksX0_goneBeside_3 2 rfl rfl)
theorem dX0_goneBeside_75 : decode cX0_goneBeside 75 = .ok (.invokestatic 277, 3) := dk_184 1 21 (dk_at dksX0_goneBeside_3 3 rfl rfl)
theorem dX0_goneBeside_78 : decode cX0_goneBeside 78 = .ok (.ireturn, 1) := dk_172 (dk_at dksX0_goneBeside_3 6 rfl rfl)
abbrev cX0_dread : ByteArray := prog_1_method_66_code
def yX0_dread : MethodName := ⟨RX0, "dread", "(I)I"⟩
def dkwX0_dread_2 : List UInt8 := [21, 5, 62, 132, 4, 1, 167, 255, 220, 28, 172]
abbrev dktX0_dread_2 : List UInt8 := dkwX0_dread_2 ++ []
def dkwX0_dread_1 : List UInt8 := [162, 0, 33, 42, 21, 4, 27, 182, 1, 148, 54, 5, 21, 5, 29, 163, 0, 6, 167, 0, 9, 21, 4, 61]
abbrev dktX0_dread_1 : List UInt8 := dkwX0_dread_1 ++ dktX0_dread_2
def dkwX0_dread_0 : List UInt8 := [27, 184, 1, 131, 154, 0, 5, 2, 172, 16, 254, 61, 3, 62, 3, 54, 4, 21, 4, 42, 182, 0, 172]
abbrev dktX0_dread_0 : List UInt8 := dkwX0_dread_0 ++ dktX0_dread_1
theorem dksX0_dread_0 : cX0_dread.data.toList.drop 0 = dktX0_dread_0 := by decide +kernel
theorem dksX0_dread_1 : cX0_dread.data.toList.drop 23 = dktX0_dread_1 := dk_seg dksX0_dread_0 23 rfl rfl
theorem dksX0_dread_2 : cX0_dread.data.toList.drop 47 = dktX0_dread_2 := dk_seg dksX0_dread_1 24 rfl rfl
theorem dX0_dread_0 : decode cX0_dread 0 = .ok (.iload_n 1, 1) := dk_27 (dk_at dksX0_dread_0 0 rfl rfl)
theorem dX0_dread_1 : decode cX0_dread 1 = .ok (.invokestatic 387, 3) := dk_184 1 131 (dk_at dksX0_dread_0 1 rfl rfl)
theorem dX0_dread_4 : decode cX0_dread 4 = .ok (.ifCond .ne 5, 3) := dk_154 0 5 (dk_at dksX0_dread_0 4 rfl rfl)
theorem dX0_dread_7 : decode cX0_dread 7 = .ok (.iconst (-1), 1) := dk_2 (dk_at dksX0_dread_0 7 rfl rfl)
theorem dX0_dread_8 : decode cX0_dread 8 = .ok (.ireturn, 1) := dk_172 (dk_at dksX0_dread_0 8 rfl rfl)
theorem dX0_dread_9 : decode cX0_dread 9 = .ok (.bipush (-2), 2) := dk_16 254 (dk_at dksX0_dread_0 9 rfl rfl)
theorem dX0_dread_11 : decode cX0_dread 11 = .ok (.istore_n 2, 1) := dk_61 (dk_at dksX0_dread_0 11 rfl rfl)
theorem dX0_dread_12 : decode cX0_dread 12 = .ok (.iconst 0, 1) := dk_3 (dk_at dksX0_dread_0 12 rfl rfl)
theorem dX0_dread_13 : decode cX0_dread 13 = .ok (.istore_n 3, 1) := dk_62 (dk_at dksX0_dread_0 13 rfl rfl)
theorem dX0_dread_14 : decode cX0_dread 14 = .ok (.iconst 0, 1) := dk_3 (dk_at dksX0_dread_0 14 rfl rfl)
theorem dX0_dread_15 : decode cX0_dread 15 = .ok (.istore 4, 2) := dk_54 4 (dk_at dksX0_dread_0 15 rfl rfl)
theorem dX0_dread_17 : decode cX0_dread 17 = .ok (.iload 4, 2) := dk_21 4 (dk_at dksX0_dread_0 17 rfl rfl)
theorem dX0_dread_19 : decode cX0_dread 19 = .ok (.aload_n 0, 1) := dk_42 (dk_at dksX0_dread_0 19 rfl rfl)
theorem dX0_dread_20 : decode cX0_dread 20 = .ok (.invokevirtual 172, 3) := dk_182 0 172 (dk_at dksX0_dread_0 20 rfl rfl)
theorem dX0_dread_23 : decode cX0_dread 23 = .ok (.if_icmp .ge 33, 3) := dk_162 0 33 (dk_at dksX0_dread_1 0 rfl rfl)
theorem dX0_dread_26 : decode cX0_dread 26 = .ok (.aload_n 0, 1) := dk_42 (dk_at dksX0_dread_1 3 rfl rfl)
theorem dX0_dread_27 : decode cX0_dread 27 = .ok (.iload 4, 2) := dk_21 4 (dk_at dksX0_dread_1 4 rfl rfl)
theorem dX0_dread_29 : decode cX0_dread 29 = .ok (.iload_n 1, 1) := dk_27 (dk_at dksX0_dread_1 6 rfl rfl)
theorem dX0_dread_30 : decode cX0_dread 30 = .ok (.invokevirtual 404, 3) := dk_182 1 148 (dk_at dksX0_dread_1 7 rfl rfl)
theorem dX0_dread_33 : decode cX0_dread 33 = .ok (.istore 5, 2) := dk_54 5 (dk_at dksX0_dread_1 10 rfl rfl)
theorem dX0_dread_35 : decode cX0_dread 35 = .ok (.iload 5, 2) := dk_21 5 (dk_at dksX0_dread_1 12 rfl rfl)
theorem dX0_dread_37 : decode cX0_dread 37 = .ok (.iload_n 3, 1) := dk_29 (dk_at dksX0_dread_1 14 rfl rfl)
theorem dX0_dread_38 : decode cX0_dread 38 = .ok (.if_icmp .gt 6, 3) := dk_163 0 6 (dk_at dksX0_dread_1 15 rfl rfl)
theorem dX0_dread_41 : decode cX0_dread 41 = .ok (.goto 9, 3) := dk_167 0 9 (dk_at dksX0_dread_1 18 rfl rfl)
theorem dX0_dread_44 : decode cX0_dread 44 = .ok (.iload 4, 2) := dk_21 4 (dk_at dksX0_dread_1 21 rfl rfl)
theorem dX0_dread_46 : decode cX0_dread 46 = .ok (.istore_n 2, 1) := dk_61 (dk_at dksX0_dread_1 23 rfl rfl)
theorem dX0_dread_47 : decode cX0_dread 47 = .ok (.iload 5, 2) := dk_21 5 (dk_at dksX0_dread_2 0 rfl rfl)
theorem dX0_dread_49 : decode cX0_dread 49 = .ok (.istore_n 3, 1) := dk_62 (dk_at dksX0_dread_2 2 rfl rfl)
theorem dX0_dread_50 : decode cX0_dread 50 = .ok (.iinc 4 1, 3) := dk_132 4 1 (dk_at dksX0_dread_2 3 rfl rfl)
theorem dX0_dread_53 : decode cX0_dread 53 = .ok (.goto (-36), 3) := dk_167 255 220 (dk_at dksX0_dread_2 6 rfl rfl)
theorem dX0_dread_56 : decode cX0_dread 56 = .ok (.iload_n 2, 1) := dk_28 (dk_at dksX0_dread_2 9 rfl rfl)
theorem dX0_dread_57 : decode cX0_dread 57 = .ok (.ireturn, 1) := dk_172 (dk_at dksX0_dread_2 10 rfl rfl)
abbrev cX0_year : ByteArray := prog_1_method_67_code
def yX0_year : MethodName := ⟨RX0, "year", "(I)I"⟩
def dkwX0_year_2 : List UInt8 := [172]
abbrev dktX0_year_2 : List UInt8 := dkwX0_year_2 ++ []
def dkwX0_year_1 : List UInt8 := [42, 180, 0, 74, 42, 180, 0, 169, 27, 79, 42, 89, 180, 0, 169, 4, 96, 181, 0, 169, 42, 180, 0, 169]
abbrev dktX0_year_1 : List UInt8 := dkwX0_year_1 ++ dktX0_year_2
def dkwX0_year_0 : List UInt8 := [42, 180, 0, 169, 42, 180, 0, 74, 190, 159, 0, 13, 27, 3, 16, 99, 184, 0, 174, 154, 0, 5, 2, 172]
abbrev dktX0_year_0 : List UInt8 := dkwX0_year_0 ++ dktX0_year_1
theorem dksX0_year_0 : cX0_year.data.toList.drop 0 = dktX0_year_0 := by decide +kernel
theorem dksX0_year_1 : cX0_year.data.toList.drop 24 = dktX0_year_1 := dk_seg dksX0_year_0 24 rfl rfl
theorem dksX0_year_2 : cX0_year.data.toList.drop 48 = dktX0_year_2 := dk_seg dksX0_year_1 24 rfl rfl
theorem dX0_year_0 : decode cX0_year 0 = .ok (.aload_n 0, 1) := dk_42 (dk_at dksX0_year_0 0 rfl rfl)
theorem dX0_year_1 : decode cX0_year 1 = .ok (.getfield 169, 3) := dk_180 0 169 (dk_at dksX0_year_0 1 rfl rfl)
theorem dX0_year_4 : decode cX0_year 4 = .ok (.aload_n 0, 1) := dk_42 (dk_at dksX0_year_0 4 rfl rfl)
theorem dX0_year_5 : decode cX0_year 5 = .ok (.getfield 74, 3) := dk_180 0 74 (dk_at dksX0_year_0 5 rfl rfl)
theorem dX0_year_8 : decode cX0_year 8 = .ok (.arraylength, 1) := dk_190 (dk_at dksX0_year_0 8 rfl rfl)
theorem dX0_year_9 : decode cX0_year 9 = .ok (.if_icmp .eq 13, 3) := dk_159 0 13 (dk_at dksX0_year_0 9 rfl rfl)
theorem dX0_year_12 : decode cX0_year 12 = .ok (.iload_n 1, 1) := dk_27 (dk_at dksX0_year_0 12 rfl rfl)
theorem dX0_year_13 : decode cX0_year 13 = .ok (.iconst 0, 1) := dk_3 (dk_at dksX0_year_0 13 rfl rfl)
theorem dX0_year_14 : decode cX0_year 14 = .ok (.bipush 99, 2) := dk_16 99 (dk_at dksX0_year_0 14 rfl rfl)
theorem dX0_year_16 : decode cX0_year 16 = .ok (.invokestatic 174, 3) := dk_184 0 174 (dk_at dksX0_year_0 16 rfl rfl)
theorem dX0_year_19 : decode cX0_year 19 = .ok (.ifCond .ne 5, 3) := dk_154 0 5 (dk_at dksX0_year_0 19 rfl rfl)
theorem dX0_year_22 : decode cX0_year 22 = .ok (.iconst (-1), 1) := dk_2 (dk_at dksX0_year_0 22 rfl rfl)
theorem dX0_year_23 : decode cX0_year 23 = .ok (.ireturn, 1) := dk_172 (dk_at dksX0_year_0 23 rfl rfl)
theorem dX0_year_24 : decode cX0_year 24 = .ok (.aload_n 0, 1) := dk_42 (dk_at dksX0_year_1 0 rfl rfl)
theorem dX0_year_25 : decode cX0_year 25 = .ok (.getfield 74, 3) := dk_180 0 74 (dk_at dksX0_year_1 1 rfl rfl)
theorem dX0_year_28 : decode cX0_year 28 = .ok (.aload_n 0, 1) := dk_42 (dk_at dksX0_year_1 4 rfl rfl)
theorem dX0_year_29 : decode cX0_year 29 = .ok (.getfield 169, 3) := dk_180 0 169 (dk_at dksX0_year_1 5 rfl rfl)
theorem dX0_year_32 : decode cX0_year 32 = .ok (.iload_n 1, 1) := dk_27 (dk_at dksX0_year_1 8 rfl rfl)
theorem dX0_year_33 : decode cX0_year 33 = .ok (.iastore, 1) := dk_79 (dk_at dksX0_year_1 9 rfl rfl)
theorem dX0_year_34 : decode cX0_year 34 = .ok (.aload_n 0, 1) := dk_42 (dk_at dksX0_year_1 10 rfl rfl)
theorem dX0_year_35 : decode cX0_year 35 = .ok (.dup, 1) := dk_89 (dk_at dksX0_year_1 11 rfl rfl)
theorem dX0_year_36 : decode cX0_year 36 = .ok (.getfield 169, 3) := dk_180 0 169 (dk_at dksX0_year_1 12 rfl rfl)
theorem dX0_year_39 : decode cX0_year 39 = .ok (.iconst 1, 1) := dk_4 (dk_at dksX0_year_1 15 rfl rfl)
theorem dX0_year_40 : decode cX0_year 40 = .ok (.iadd, 1) := dk_96 (dk_at dksX0_year_1 16 rfl rfl)
theorem dX0_year_41 : decode cX0_year 41 = .ok (.putfield 169, 3) := dk_181 0 169 (dk_at dksX0_year_1 17 rfl rfl)
theorem dX0_year_44 : decode cX0_year 44 = .ok (.aload_n 0, 1) := dk_42 (dk_at dksX0_year_1 20 rfl rfl)
theorem dX0_year_45 : decode cX0_year 45 = .ok (.getfield 169, 3) := dk_180 0 169 (dk_at dksX0_year_1 21 rfl rfl)
theorem dX0_year_48 : decode cX0_year 48 = .ok (.ireturn, 1) := dk_172 (dk_at dksX0_year_2 0 rfl rfl)
abbrev cX0_clear : ByteArray := prog_1_method_68_code
def yX0_clear : MethodName := ⟨RX0, "clear", "()I"⟩
def dkwX0_clear_0 : List UInt8 := [42, 180, 0, 169, 60, 42, 3, 181, 0, 169, 27, 172]
abbrev dktX0_clear_0 : List UInt8 := dkwX0_clear_0 ++ []
theorem dksX0_clear_0 : cX0_clear.data.toList.drop 0 = dktX0_clear_0 := by decide +kernel
theorem dX0_clear_0 : decode cX0_clear 0 = .ok (.aload_n 0, 1) := dk_42 (dk_at dksX0_clear_0 0 rfl rfl)
theorem dX0_clear_1 : decode cX0_clear 1 = .ok (.getfield 169, 3) := dk_180 0 169 (dk_at dksX0_clear_0 1 rfl rfl)
theorem dX0_clear_4 : decode cX0_clear 4 = .ok (.istore_n 1, 1) := dk_60 (dk_at dksX0_clear_0 4 rfl rfl)
theorem dX0_clear_5 : decode cX0_clear 5 = .ok (.aload_n 0, 1) := dk_42 (dk_at dksX0_clear_0 5 rfl rfl)
theorem dX0_clear_6 : decode cX0_clear 6 = .ok (.iconst 0, 1) := dk_3 (dk_at dksX0_clear_0 6 rfl rfl)
theorem dX0_clear_7 : decode cX0_clear 7 = .ok (.putfield 169, 3) := dk_181 0 169 (dk_at dksX0_clear_0 7 rfl rfl)
theorem dX0_clear_10 : decode cX0_clear 10 = .ok (.iload_n 1, 1) := dk_27 (dk_at dksX0_clear_0 10 rfl rfl)
theorem dX0_clear_11 : decode cX0_clear 11 = .ok (.ireturn, 1) := dk_172 (dk_at dksX0_clear_0 11 rfl rfl)
abbrev cX0_posts : ByteArray := prog_1_method_72_code
def yX0_posts : MethodName := ⟨RX0, "posts", "(IIIII)I"⟩
def dkwX0_posts_1 : List UInt8 := [182, 1, 158, 42, 180, 0, 100, 3, 50, 27, 46, 172]
abbrev dktX0_posts_1 : List UInt8 := dkwX0_posts_1 ++ []
def dkwX0_posts_0 : List UInt8 := [27, 28, 29, 21, 4, 21, 5, 184, 1, 154, 154, 0, 5, 2, 172, 42, 28, 29, 21, 4, 21, 5]
abbrev dktX0_posts_0 : List UInt8 := dkwX0_posts_0 ++ dktX0_posts_1
theorem dksX0_posts_0 : cX0_posts.data.toList.drop 0 = dktX0_posts_0 := by decide +kernel
theorem dksX0_posts_1 : cX0_posts.data.toList.drop 22 = dktX0_posts_1 := dk_seg dksX0_posts_0 22 rfl rfl
theorem dX0_posts_0 : decode cX0_posts 0 = .ok (.iload_n 1, 1) := dk_27 (dk_at dksX0_posts_0 0 rfl rfl)
theorem dX0_posts_1 : decode cX0_posts 1 = .ok (.iload_n 2, 1) := dk_28 (dk_at dksX0_posts_0 1 rfl rfl)
theorem dX0_posts_2 : decode cX0_posts 2 = .ok (.iload_n 3, 1) := dk_29 (dk_at dksX0_posts_0 2 rfl rfl)
theorem dX0_posts_3 : decode cX0_posts 3 = .ok (.iload 4, 2) := dk_21 4 (dk_at dksX0_posts_0 3 rfl rfl)
theorem dX0_posts_5 : decode cX0_posts 5 = .ok (.iload 5, 2) := dk_21 5 (dk_at dksX0_posts_0 5 rfl rfl)
theorem dX0_posts_7 : decode cX0_posts 7 = .ok (.invokestatic 410, 3) := dk_184 1 154 (dk_at dksX0_posts_0 7 rfl rfl)
theorem dX0_posts_10 : decode cX0_posts 10 = .ok (.ifCond .ne 5, 3) := dk_154 0 5 (dk_at dksX0_posts_0 10 rfl rfl)
theorem dX0_posts_13 : decode cX0_posts 13 = .ok (.iconst (-1), 1) := dk_2 (dk_at dksX0_posts_0 13 rfl rfl)
theorem dX0_posts_14 : decode cX0_posts 14 = .ok (.ireturn, 1) := dk_172 (dk_at dksX0_posts_0 14 rfl rfl)
theorem dX0_posts_15 : decode cX0_posts 15 = .ok (.aload_n 0, 1) := dk_42 (dk_at dksX0_posts_0 15 rfl rfl)
theorem dX0_posts_16 : decode cX0_posts 16 = .ok (.iload_n 2, 1) := dk_28 (dk_at dksX0_posts_0 16 rfl rfl)
theorem dX0_posts_17 : decode cX0_posts 17 = .ok (.iload_n 3, 1) := dk_29 (dk_at dksX0_posts_0 17 rfl rfl)
theorem dX0_posts_18 : decode cX0_posts 18 = .ok (.iload 4, 2) := dk_21 4 (dk_at dksX0_posts_0 18 rfl rfl)
theorem dX0_posts_20 : decode cX0_posts 20 = .ok (.iload 5, 2) := dk_21 5 (dk_at dksX0_posts_0 20 rfl rfl)
theorem dX0_posts_22 : decode cX0_posts 22 = .ok (.invokevirtual 414, 3) := dk_182 1 158 (dk_at dksX0_posts_1 0 rfl rfl)
theorem dX0_posts_25 : decode cX0_posts 25 = .ok (.aload_n 0, 1) := dk_42 (dk_at dksX0_posts_1 3 rfl rfl)
theorem dX0_posts_26 : decode cX0_posts 26 = .ok (.getfield 100, 3) := dk_180 0 100 (dk_at dksX0_posts_1 4 rfl rfl)
theorem dX0_posts_29 : decode cX0_posts 29 = .ok (.iconst 0, 1) := dk_3 (dk_at dksX0_posts_1 7 rfl rfl)
theorem dX0_posts_30 : decode cX0_posts 30 = .ok (.aaload, 1) := dk_50 (dk_at dksX0_posts_1 8 rfl rfl)
theorem dX0_posts_31 : decode cX0_posts 31 = .ok (.iload_n 1, 1) := dk_27 (dk_at dksX0_posts_1 9 rfl rfl)
theorem dX0_posts_32 : decode cX0_posts 32 = .ok (.iaload, 1) := dk_46 (dk_at dksX0_posts_1 10 rfl rfl)
theorem dX0_posts_33 : decode cX0_posts 33 = .ok (.ireturn, 1) := dk_172 (dk_at dksX0_posts_1 11 rfl rfl)
abbrev cX0_arePosts : ByteArray := prog_1_method_71_code
def yX0_arePosts : MethodName := ⟨RX0, "arePosts", "(IIIII)Z"⟩
def dkwX0_arePosts_2 : List UInt8 := [153, 0, 7, 4, 167, 0, 4, 3, 172]
abbrev dktX0_arePosts_2 : List UInt8 := dkwX0_arePosts_2 ++ []
def dkwX0_arePosts_1 : List UInt8 := [184, 0, 174, 153, 0, 28, 29, 3, 16, 99, 184, 0, 174, 153, 0, 18, 21, 4, 3, 16, 99, 184, 0, 174]
abbrev dktX0_arePosts_1 : List UInt8 := dkwX0_arePosts_1 ++ dktX0_arePosts_2
def dkwX0_arePosts_0 : List UInt8 := [26, 3, 16, 99, 184, 0, 174, 153, 0, 48, 27, 3, 16, 99, 184, 0, 174, 153, 0, 38, 28, 3, 16, 99]
abbrev dktX0_arePosts_0 : List UInt8 := dkwX0_arePosts_0 ++ dktX0_arePosts_1
theorem dksX0_arePosts_0 : cX0_arePosts.data.toList.drop 0 = dktX0_arePosts_0 := by decide +kernel
theorem dksX0_arePosts_1 : cX0_arePosts.data.toList.drop 24 = dktX0_arePosts_1 := dk_seg dksX0_arePosts_0 24 rfl rfl
theorem dksX0_arePosts_2 : cX0_arePosts.data.toList.drop 48 = dktX0_arePosts_2 := dk_seg dksX0_arePosts_1 24 rfl rfl
theorem dX0_arePosts_0 : decode cX0_arePosts 0 = .ok (.iload_n 0, 1) := dk_26 (dk_at dksX0_arePosts_0 0 rfl rfl)
theorem dX0_arePosts_1 : decode cX0_arePosts 1 = .ok (.iconst 0, 1) := dk_3 (dk_at dksX0_arePosts_0 1 rfl rfl)
theorem dX0_arePosts_2 : decode cX0_arePosts 2 = .ok (.bipush 99, 2) := dk_16 99 (dk_at dksX0_arePosts_0 2 rfl rfl)
theorem dX0_arePosts_4 : decode cX0_arePosts 4 = .ok (.invokestatic 174, 3) := dk_184 0 174 (dk_at dksX0_arePosts_0 4 rfl rfl)
theorem dX0_arePosts_7 : decode cX0_arePosts 7 = .ok (.ifCond .eq 48, 3) := dk_153 0 48 (dk_at dksX0_arePosts_0 7 rfl rfl)
theorem dX0_arePosts_10 : decode cX0_arePosts 10 = .ok (.iload_n 1, 1) := dk_27 (dk_at dksX0_arePosts_0 10 rfl rfl)
theorem dX0_arePosts_11 : decode cX0_arePosts 11 = .ok (.iconst 0, 1) := dk_3 (dk_at dksX0_arePosts_0 11 rfl rfl)
theorem dX0_arePosts_12 : decode cX0_arePosts 12 = .ok (.bipush 99, 2) := dk_16 99 (dk_at dksX0_arePosts_0 12 rfl rfl)
theorem dX0_arePosts_14 : decode cX0_arePosts 14 = .ok (.invokestatic 174, 3) := dk_184 0 174 (dk_at dksX0_arePosts_0 14 rfl rfl)
theorem dX0_arePosts_17 : decode cX0_arePosts 17 = .ok (.ifCond .eq 38, 3) := dk_153 0 38 (dk_at dksX0_arePosts_0 17 rfl rfl)
theorem dX0_arePosts_20 : decode cX0_arePosts 20 = .ok (.iload_n 2, 1) := dk_28 (dk_at dksX0_arePosts_0 20 rfl rfl)
theorem dX0_arePosts_21 : decode cX0_arePosts 21 = .ok (.iconst 0, 1) := dk_3 (dk_at dksX0_arePosts_0 21 rfl rfl)
theorem dX0_arePosts_22 : decode cX0_arePosts 22 = .ok (.bipush 99, 2) := dk_16 99 (dk_at dksX0_arePosts_0 22 rfl rfl)
theorem dX0_arePosts_24 : decode cX0_arePosts 24 = .ok (.invokestatic 174, 3) := dk_184 0 174 (dk_at dksX0_arePosts_1 0 rfl rfl)
theorem dX0_arePosts_27 : decode cX0_arePosts 27 = .ok (.ifCond .eq 28, 3) := dk_153 0 28 (dk_at dksX0_arePosts_1 3 rfl rfl)
theorem dX0_arePosts_30 : decode cX0_arePosts 30 = .ok (.iload_n 3, 1) := dk_29 (dk_at dksX0_arePosts_1 6 rfl rfl)
theorem dX0_arePosts_31 : decode cX0_arePosts 31 = .ok (.iconst 0, 1) := dk_3 (dk_at dksX0_arePosts_1 7 rfl rfl)
theorem dX0_arePosts_32 : decode cX0_arePosts 32 = .ok (.bipush 99, 2) := dk_16 99 (dk_at dksX0_arePosts_1 8 rfl rfl)
theorem dX0_arePosts_34 : decode cX0_arePosts 34 = .ok (.invokestatic 174, 3) := dk_184 0 174 (dk_at dksX0_arePosts_1 10 rfl rfl)
theorem dX0_arePosts_37 : decode cX0_arePosts 37 = .ok (.ifCond .eq 18, 3) := dk_153 0 18 (dk_at dksX0_arePosts_1 13 rfl rfl)
theorem dX0_arePosts_40 : decode cX0_arePosts 40 = .ok (.iload 4, 2) := dk_21 4 (dk_at dksX0_arePosts_1 16 rfl rfl)
theorem dX0_arePosts_42 : decode cX0_arePosts 42 = .ok (.iconst 0, 1) := dk_3 (dk_at dksX0_arePosts_1 18 rfl rfl)
theorem dX0_arePosts_43 : decode cX0_arePosts 43 = .ok (.bipush 99, 2) := dk_16 99 (dk_at dksX0_arePosts_1 19 rfl rfl)
theorem dX0_arePosts_45 : decode cX0_arePosts 45 = .ok (.invokestatic 174, 3) := dk_184 0 174 (dk_at dksX0_arePosts_1 21 rfl rfl)
theorem dX0_arePosts_48 : decode cX0_arePosts 48 = .ok (.ifCond .eq 7, 3) := dk_153 0 7 (dk_at dksX0_arePosts_2 0 rfl rfl)
theorem dX0_arePosts_51 : decode cX0_arePosts 51 = .ok (.iconst 1, 1) := dk_4 (dk_at dksX0_arePosts_2 3 rfl rfl)
theorem dX0_arePosts_52 : decode cX0_arePosts 52 = .ok (.goto 4, 3) := dk_167 0 4 (dk_at dksX0_arePosts_2 4 rfl rfl)
theorem dX0_arePosts_55 : decode cX0_arePosts 55 = .ok (.iconst 0, 1) := dk_3 (dk_at dksX0_arePosts_2 7 rfl rfl)
theorem dX0_arePosts_56 : decode cX0_arePosts 56 = .ok (.ireturn, 1) := dk_172 (dk_at dksX0_arePosts_2 8 rfl rfl)
abbrev cX0_fillPosts : ByteArray := prog_1_method_70_code
def yX0_fillPosts : MethodName := ⟨RX0, "fillPosts", "(IIII)V"⟩
def dkwX0_fillPosts_6 : List UInt8 := [132, 7, 1, 167, 255, 187, 132, 6, 1, 167, 255, 152, 132, 5, 255, 167, 255, 138, 177]
abbrev dktX0_fillPosts_6 : List UInt8 := dkwX0_fillPosts_6 ++ []
def dkwX0_fillPosts_5 : List UInt8 := [21, 4, 184, 1, 151, 42, 180, 0, 100, 21, 5, 4, 96, 50, 21, 7, 46, 96, 184, 0, 7, 79]
abbrev dktX0_fillPosts_5 : List UInt8 := dkwX0_fillPosts_5 ++ dktX0_fillPosts_6
def dkwX0_fillPosts_4 : List UInt8 := [180, 0, 100, 21, 5, 50, 21, 6, 42, 180, 0, 100, 21, 5, 50, 21, 6, 46, 21, 6, 21, 7, 28, 29]
abbrev dktX0_fillPosts_4 : List UInt8 := dkwX0_fillPosts_4 ++ dktX0_fillPosts_5
def dkwX0_fillPosts_3 : List UInt8 := [46, 54, 7, 21, 7, 16, 99, 42, 180, 0, 74, 21, 5, 46, 27, 96, 184, 0, 7, 163, 0, 56, 42]
abbrev dktX0_fillPosts_3 : List UInt8 := dkwX0_fillPosts_3 ++ dktX0_fillPosts_4
def dkwX0_fillPosts_2 : List UInt8 := [16, 99, 163, 0, 103, 42, 180, 0, 100, 21, 5, 50, 21, 6, 19, 1, 57, 79, 42, 180, 0, 74, 21, 5]
abbrev dktX0_fillPosts_2 : List UInt8 := dkwX0_fillPosts_2 ++ dktX0_fillPosts_3
def dkwX0_fillPosts_1 : List UInt8 := [132, 5, 1, 167, 255, 233, 42, 180, 0, 169, 4, 100, 54, 5, 21, 5, 155, 0, 119, 3, 54, 6, 21, 6]
abbrev dktX0_fillPosts_1 : List UInt8 := dkwX0_fillPosts_1 ++ dktX0_fillPosts_2
def dkwX0_fillPosts_0 : List UInt8 := [3, 54, 5, 21, 5, 16, 99, 163, 0, 22, 42, 180, 0, 100, 42, 180, 0, 169, 50, 21, 5, 3, 79]
abbrev dktX0_fillPosts_0 : List UInt8 := dkwX0_fillPosts_0 ++ dktX0_fillPosts_1
theorem dksX0_fillPosts_0 : cX0_fillPosts.data.toList.drop 0 = dktX0_fillPosts_0 := by decide +kernel
theorem dksX0_fillPosts_1 : cX0_fillPosts.data.toList.drop 23 = dktX0_fillPosts_1 := dk_seg dksX0_fillPosts_0 23 rfl rfl
theorem dksX0_fillPosts_2 : cX0_fillPosts.data.toList.drop 47 = dktX0_fillPosts_2 := dk_seg dksX0_fillPosts_1 24 rfl rfl
theorem dksX0_fillPosts_3 : cX0_fillPosts.data.toList.drop 71 = dktX0_fillPosts_3 := dk_seg dksX0_fillPosts_2 24 rfl rfl
theorem dksX0_fillPosts_4 : cX0_fillPosts.data.toList.drop 94 = dktX0_fillPosts_4 := dk_seg dksX0_fillPosts_3 23 rfl rfl
theorem dksX0_fillPosts_5 : cX0_fillPosts.data.toList.drop 118 = dktX0_fillPosts_5 := dk_seg dksX0_fillPosts_4 24 rfl rfl
theorem dksX0_fillPosts_6 : cX0_fillPosts.data.toList.drop 140 = dktX0_fillPosts_6 := dk_seg dksX0_fillPosts_5 22 rfl rfl
theorem dX0_fillPosts_0 : decode cX0_fillPosts 0 = .ok (.iconst 0, 1) := dk_3 (dk_at dksX0_fillPosts_0 0 rfl rfl)
theorem dX0_fillPosts_1 : decode cX0_fillPosts 1 = .ok (.istore 5, 2) := dk_54 5 (dk_at dksX0_fillPosts_0 1 rfl rfl)
theorem dX0_fillPosts_3 : decode cX0_fillPosts 3 = .ok (.iload 5, 2) := dk_21 5 (dk_at dksX0_fillPosts_0 3 rfl rfl)
theorem dX0_fillPosts_5 : decode cX0_fillPosts 5 = .ok (.bipush 99, 2) := dk_16 99 (dk_at dksX0_fillPosts_0 5 rfl rfl)
theorem dX0_fillPosts_7 : decode cX0_fillPosts 7 = .ok (.if_icmp .gt 22, 3) := dk_163 0 22 (dk_at dksX0_fillPosts_0 7 rfl rfl)
theorem dX0_fillPosts_10 : decode cX0_fillPosts 10 = .ok (.aload_n 0, 1) := dk_42 (dk_at dksX0_fillPosts_0 10 rfl rfl)
theorem dX0_fillPosts_11 : decode cX0_fillPosts 11 = .ok (.getfield 100, 3) := dk_180 0 100 (dk_at dksX0_fillPosts_0 11 rfl rfl)
theorem dX0_fillPosts_14 : decode cX0_fillPosts 14 = .ok (.aload_n 0, 1) := dk_42 (dk_at dksX0_fillPosts_0 14 rfl rfl)
theorem dX0_fillPosts_15 : decode cX0_fillPosts 15 = .ok (.getfield 169, 3) := dk_180 0 169 (dk_at dksX0_fillPosts_0 15 rfl rfl)
theorem dX0_fillPosts_18 : decode cX0_fillPosts 18 = .ok (.aaload, 1) := dk_50 (dk_at dksX0_fillPosts_0 18 rfl rfl)
theorem dX0_fillPosts_19 : decode cX0_fillPosts 19 = .ok (.iload 5, 2) := dk_21 5 (dk_at dksX0_fillPosts_0 19 rfl rfl)
theorem dX0_fillPosts_21 : decode cX0_fillPosts 21 = .ok (.iconst 0, 1) := dk_3 (dk_at dksX0_fillPosts_0 21 rfl rfl)
theorem dX0_fillPosts_22 : decode cX0_fillPosts 22 = .ok (.iastore, 1) := dk_79 (dk_at dksX0_fillPosts_0 22 rfl rfl)
theorem dX0_fillPosts_23 : decode cX0_fillPosts 23 = .ok (.iinc 5 1, 3) := dk_132 5 1 (dk_at dksX0_fillPosts_1 0 rfl rfl)
theorem dX0_fillPosts_26 : decode cX0_fillPosts 26 = .ok (.goto (-23), 3) := dk_167 255 233 (dk_at dksX0_fillPosts_1 3 rfl rfl)
theorem dX0_fillPosts_29 : decode cX0_fillPosts 29 = .ok (.aload_n 0, 1) := dk_42 (dk_at dksX0_fillPosts_1 6 rfl rfl)
theorem dX0_fillPosts_30 : decode cX0_fillPosts 30 = .ok (.getfield 169, 3) := dk_180 0 169 (dk_at dksX0_fillPosts_1 7 rfl rfl)
theorem dX0_fillPosts_33 : decode cX0_fillPosts 33 = .ok (.iconst 1, 1) := dk_4 (dk_at dksX0_fillPosts_1 10 rfl rfl)
theorem dX0_fillPosts_34 : decode cX0_fillPosts 34 = .ok (.isub, 1) := dk_100 (dk_at dksX0_fillPosts_1 11 rfl rfl)
theorem dX0_fillPosts_35 : decode cX0_fillPosts 35 = .ok (.istore 5, 2) := dk_54 5 (dk_at dksX0_fillPosts_1 12 rfl rfl)
theorem dX0_fillPosts_37 : decode cX0_fillPosts 37 = .ok (.iload 5, 2) := dk_21 5 (dk_at dksX0_fillPosts_1 14 rfl rfl)
theorem dX0_fillPosts_39 : decode cX0_fillPosts 39 = .ok (.ifCond .lt 119, 3) := dk_155 0 119 (dk_at dksX0_fillPosts_1 16 rfl rfl)
theorem dX0_fillPosts_42 : decode cX0_fillPosts 42 = .ok (.iconst 0, 1) := dk_3 (dk_at dksX0_fillPosts_1 19 rfl rfl)
theorem dX0_fillPosts_43 : decode cX0_fillPosts 43 = .ok (.istore 6, 2) := dk_54 6 (dk_at dksX0_fillPosts_1 20 rfl rfl)
theorem dX0_fillPosts_45 : decode cX0_fillPosts 45 = .ok (.iload 6, 2) := dk_21 6 (dk_at dksX0_fillPosts_1 22 rfl rfl)
theorem dX0_fillPosts_47 : decode cX0_fillPosts 47 = .ok (.bipush 99, 2) := dk_16 99 (dk_at dksX0_fillPosts_2 0 rfl rfl)
theorem dX0_fillPosts_49 : decode cX0_fillPosts 49 = .ok (.if_icmp .gt 103, 3) := dk_163 0 103 (dk_at dksX0_fillPosts_2 2 rfl rfl)
theorem dX0_fillPosts_52 : decode cX0_fillPosts 52 = .ok (.aload_n 0, 1) := dk_42 (dk_at dksX0_fillPosts_2 5 rfl rfl)
theorem dX0_fillPosts_53 : decode cX0_fillPosts 53 = .ok (.getfield 100, 3) := dk_180 0 100 (dk_at dksX0_fillPosts_2 6 rfl rfl)
theorem dX0_fillPosts_56 : decode cX0_fillPosts 56 = .ok (.iload 5, 2) := dk_21 5 (dk_at dksX0_fillPosts_2 9 rfl rfl)
theorem dX0_fillPosts_58 : decode cX0_fillPosts 58 = .ok (.aaload, 1) := dk_50 (dk_at dksX0_fillPosts_2 11 rfl rfl)
theorem dX0_fillPosts_59 : decode cX0_fillPosts 59 = .ok (.iload 6, 2) := dk_21 6 (dk_at dksX0_fillPosts_2 12 rfl rfl)
theorem dX0_fillPosts_61 : decode cX0_fillPosts 61 = .ok (.ldc_w 313, 3) := dk_19 1 57 (dk_at dksX0_fillPosts_2 14 rfl rfl)
theorem dX0_fillPosts_64 : decode cX0_fillPosts 64 = .ok (.iastore, 1) := dk_79 (dk_at dksX0_fillPosts_2 17 rfl rfl)
theorem dX0_fillPosts_65 : decode cX0_fillPosts 65 = .ok (.aload_n 0, 1) := dk_42 (dk_at dksX0_fillPosts_2 18 rfl rfl)
theorem dX0_fillPosts_66 : decode cX0_fillPosts 66 = .ok (.getfield 74, 3) := dk_180 0 74 (dk_at dksX0_fillPosts_2 19 rfl rfl)
theorem dX0_fillPosts_69 : decode cX0_fillPosts 69 = .ok (.iload 5, 2) := dk_21 5 (dk_at dksX0_fillPosts_2 22 rfl rfl)
theorem dX0_fillPosts_71 : decode cX0_fillPosts 71 = .ok (.iaload, 1) := dk_46 (dk_at dksX0_fillPosts_3 0 rfl rfl)
theorem dX0_fillPosts_72 : decode cX0_fillPosts 72 = .ok (.istore 7, 2) := dk_54 7 (dk_at dksX0_fillPosts_3 1 rfl rfl)
theorem dX0_fillPosts_74 : decode cX0_fillPosts 74 = .ok (.iload 7, 2) := dk_21 7 (dk_at dksX0_fillPosts_3 3 rfl rfl)
theorem dX0_fillPosts_76 : decode cX0_fillPosts 76 = .ok (.bipush 99, 2) := dk_16 99 (dk_at dksX0_fillPosts_3 5 rfl rfl)
theorem dX0_fillPosts_78 : decode cX0_fillPosts 78 = .ok (.aload_n 0, 1) := dk_42 (dk_at dksX0_fillPosts_3 7 rfl rfl)
theorem dX0_fillPosts_79 : decode cX0_fillPosts 79 = .ok (.getfield 74, 3) := dk_180 0 74 (dk_at dksX0_fillPosts_3 8 rfl rfl)
theorem dX0_fillPosts_82 : decode cX0_fillPosts 82 = .ok (.iload 5, 2) := dk_21 5 (dk_at dksX0_fillPosts_3 11 rfl rfl)
theorem dX0_fillPosts_84 : decode cX0_fillPosts 84 = .ok (.iaload, 1) := dk_46 (dk_at dksX0_fillPosts_3 13 rfl rfl)
theorem dX0_fillPosts_85 : decode cX0_fillPosts 85 = .ok (.iload_n 1, 1) := dk_27 (dk_at dksX0_fillPosts_3 14 rfl rfl)
theorem dX0_fillPosts_86 : decode cX0_fillPosts 86 = .ok (.iadd, 1) := dk_96 (dk_at dksX0_fillPosts_3 15 rfl rfl)
theorem dX0_fillPosts_87 : decode cX0_fillPosts 87 = .ok (.invokestatic 7, 3) := dk_184 0 7 (dk_at dksX0_fillPosts_3 16 rfl rfl)
theorem dX0_fillPosts_90 : decode cX0_fillPosts 90 = .ok (.if_icmp .gt 56, 3) := dk_163 0 56 (dk_at dksX0_fillPosts_3 19 rfl rfl)
theorem dX0_fillPosts_93 : decode cX0_fillPosts 93 = .ok (.aload_n 0, 1) := dk_42 (dk_at dksX0_fillPosts_3 22 rfl rfl)
theorem dX0_fillPosts_94 : decode cX0_fillPosts 94 = .ok (.getfield 100, 3) := dk_180 0 100 (dk_at dksX0_fillPosts_4 0 rfl rfl)
theorem dX0_fillPosts_97 : decode cX0_fillPosts 97 = .ok (.iload 5, 2) := dk_21 5 (dk_at dksX0_fillPosts_4 3 rfl rfl)
theorem dX0_fillPosts_99 : decode cX0_fillPosts 99 = .ok (.aaload, 1) := dk_50 (dk_at dksX0_fillPosts_4 5 rfl rfl)
theorem dX0_fillPosts_100 : decode cX0_fillPosts 100 = .ok (.iload 6, 2) := dk_21 6 (dk_at dksX0_fillPosts_4 6 rfl rfl)
theorem dX0_fillPosts_102 : decode cX0_fillPosts 102 = .ok (.aload_n 0, 1) := dk_42 (dk_at dksX0_fillPosts_4 8 rfl rfl)
theorem dX0_fillPosts_103 : decode cX0_fillPosts 103 = .ok (.getfield 100, 3) := dk_180 0 100 (dk_at dksX0_fillPosts_4 9 rfl rfl)
theorem dX0_fillPosts_106 : decode cX0_fillPosts 106 = .ok (.iload 5, 2) := dk_21 5 (dk_at dksX0_fillPosts_4 12 rfl rfl)
theorem dX0_fillPosts_108 : decode cX0_fillPosts 108 = .ok (.aaload, 1) := dk_50 (dk_at dksX0_fillPosts_4 14 rfl rfl)
theorem dX0_fillPosts_109 : decode cX0_fillPosts 109 = .ok (.iload 6, 2) := dk_21 6 (dk_at dksX0_fillPosts_4 15 rfl rfl)
theorem dX0_fillPosts_111 : decode cX0_fillPosts 111 = .ok (.iaload, 1) := dk_46 (dk_at dksX0_fillPosts_4 17 rfl rfl)
theorem dX0_fillPosts_112 : decode cX0_fillPosts 112 = .ok (.iload 6, 2) := dk_21 6 (dk_at dksX0_fillPosts_4 18 rfl rfl)
theorem dX0_fillPosts_114 : decode cX0_fillPosts 114 = .ok (.iload 7, 2) := dk_21 7 (dk_at dksX0_fillPosts_4 20 rfl rfl)
theorem dX0_fillPosts_116 : decode cX0_fillPosts 116 = .ok (.iload_n 2, 1) := dk_28 (dk_at dksX0_fillPosts_4 22 rfl rfl)
theorem dX0_fillPosts_117 : decode cX0_fillPosts 117 = .ok (.iload_n 3, 1) := dk_29 (dk_at dksX0_fillPosts_4 23 rfl rfl)
theorem dX0_fillPosts_118 : decode cX0_fillPosts 118 = .ok (.iload 4, 2) := dk_21 4 (dk_at dksX0_fillPosts_5 0 rfl rfl)
theorem dX0_fillPosts_120 : decode cX0_fillPosts 120 = .ok (.invokestatic 407, 3) := dk_184 1 151 (dk_at dksX0_fillPosts_5 2 rfl rfl)
theorem dX0_fillPosts_123 : decode cX0_fillPosts 123 = .ok (.aload_n 0, 1) := dk_42 (dk_at dksX0_fillPosts_5 5 rfl rfl)
theorem dX0_fillPosts_124 : decode cX0_fillPosts 124 = .ok (.getfield 100, 3) := dk_180 0 100 (dk_at dksX0_fillPosts_5 6 rfl rfl)
theorem dX0_fillPosts_127 : decode cX0_fillPosts 127 = .ok (.iload 5, 2) := dk_21 5 (dk_at dksX0_fillPosts_5 9 rfl rfl)
theorem dX0_fillPosts_129 : decode cX0_fillPosts 129 = .ok (.iconst 1, 1) := dk_4 (dk_at dksX0_fillPosts_5 11 rfl rfl)
theorem dX0_fillPosts_130 : decode cX0_fillPosts 130 = .ok (.iadd, 1) := dk_96 (dk_at dksX0_fillPosts_5 12 rfl rfl)
theorem dX0_fillPosts_131 : decode cX0_fillPosts 131 = .ok (.aaload, 1) := dk_50 (dk_at dksX0_fillPosts_5 13 rfl rfl)
theorem dX0_fillPosts_132 : decode cX0_fillPosts 132 = .ok (.iload 7, 2) := dk_21 7 (dk_at dksX0_fillPosts_5 14 rfl rfl)
theorem dX0_fillPosts_134 : decode cX0_fillPosts 134 = .ok (.iaload, 1) := dk_46 (dk_at dksX0_fillPosts_5 16 rfl rfl)
theorem dX0_fillPosts_135 : decode cX0_fillPosts 135 = .ok (.iadd, 1) := dk_96 (dk_at dksX0_fillPosts_5 17 rfl rfl)
theorem dX0_fillPosts_136 : decode cX0_fillPosts 136 = .ok (.invokestatic 7, 3) := dk_184 0 7 (dk_at dksX0_fillPosts_5 18 rfl rfl)
theorem dX0_fillPosts_139 : decode cX0_fillPosts 139 = .ok (.iastore, 1) := dk_79 (dk_at dksX0_fillPosts_5 21 rfl rfl)
theorem dX0_fillPosts_140 : decode cX0_fillPosts 140 = .ok (.iinc 7 1, 3) := dk_132 7 1 (dk_at dksX0_fillPosts_6 0 rfl rfl)
theorem dX0_fillPosts_143 : decode cX0_fillPosts 143 = .ok (.goto (-69), 3) := dk_167 255 187 (dk_at dksX0_fillPosts_6 3 rfl rfl)
theorem dX0_fillPosts_146 : decode cX0_fillPosts 146 = .ok (.iinc 6 1, 3) := dk_132 6 1 (dk_at dksX0_fillPosts_6 6 rfl rfl)
theorem dX0_fillPosts_149 : decode cX0_fillPosts 149 = .ok (.goto (-104), 3) := dk_167 255 152 (dk_at dksX0_fillPosts_6 9 rfl rfl)
theorem dX0_fillPosts_152 : decode cX0_fillPosts 152 = .ok (.iinc 5 (-1), 3) := dk_132 5 255 (dk_at dksX0_fillPosts_6 12 rfl rfl)
theorem dX0_fillPosts_155 : decode cX0_fillPosts 155 = .ok (.goto (-118), 3) := dk_167 255 138 (dk_at dksX0_fillPosts_6 15 rfl rfl)
theorem dX0_fillPosts_158 : decode cX0_fillPosts 158 = .ok (.return_, 1) := dk_177 (dk_at dksX0_fillPosts_6 18 rfl rfl)
abbrev cX0_change : ByteArray := prog_1_method_69_code
def yX0_change : MethodName := ⟨RX0, "change", "(IIIII)I"⟩
def dkwX0_change_1 : List UInt8 := [26, 27, 100, 29, 104, 96, 172]
abbrev dktX0_change_1 : List UInt8 := dkwX0_change_1 ++ []
def dkwX0_change_0 : List UInt8 := [26, 27, 160, 0, 7, 3, 167, 0, 24, 21, 4, 27, 26, 164, 0, 11, 27, 26, 100, 28, 104, 167, 0, 8]
abbrev dktX0_change_0 : List UInt8 := dkwX0_change_0 ++ dktX0_change_1
theorem dksX0_change_0 : cX0_change.data.toList.drop 0 = dktX0_change_0 := by decide +kernel
theorem dksX0_change_1 : cX0_change.data.toList.drop 24 = dktX0_change_1 := dk_seg dksX0_change_0 24 rfl rfl
theorem dX0_change_0 : decode cX0_change 0 = .ok (.iload_n 0, 1) := dk_26 (dk_at dksX0_change_0 0 rfl rfl)
theorem dX0_change_1 : decode cX0_change 1 = .ok (.iload_n 1, 1) := dk_27 (dk_at dksX0_change_0 1 rfl rfl)
theorem dX0_change_2 : decode cX0_change 2 = .ok (.if_icmp .ne 7, 3) := dk_160 0 7 (dk_at dksX0_change_0 2 rfl rfl)
theorem dX0_change_5 : decode cX0_change 5 = .ok (.iconst 0, 1) := dk_3 (dk_at dksX0_change_0 5 rfl rfl)
theorem dX0_change_6 : decode cX0_change 6 = .ok (.goto 24, 3) := dk_167 0 24 (dk_at dksX0_change_0 6 rfl rfl)
theorem dX0_change_9 : decode cX0_change 9 = .ok (.iload 4, 2) := dk_21 4 (dk_at dksX0_change_0 9 rfl rfl)
theorem dX0_change_11 : decode cX0_change 11 = .ok (.iload_n 1, 1) := dk_27 (dk_at dksX0_change_0 11 rfl rfl)
theorem dX0_change_12 : decode cX0_change 12 = .ok (.iload_n 0, 1) := dk_26 (dk_at dksX0_change_0 12 rfl rfl)
theorem dX0_change_13 : decode cX0_change 13 = .ok (.if_icmp .le 11, 3) := dk_164 0 11 (dk_at dksX0_change_0 13 rfl rfl)
theorem dX0_change_16 : decode cX0_change 16 = .ok (.iload_n 1, 1) := dk_27 (dk_at dksX0_change_0 16 rfl rfl)
theorem dX0_change_17 : decode cX0_change 17 = .ok (.iload_n 0, 1) := dk_26 (dk_at dksX0_change_0 17 rfl rfl)
theorem dX0_change_18 : decode cX0_change 18 = .ok (.isub, 1) := dk_100 (dk_at dksX0_change_0 18 rfl rfl)
theorem dX0_change_19 : decode cX0_change 19 = .ok (.iload_n 2, 1) := dk_28 (dk_at dksX0_change_0 19 rfl rfl)
theorem dX0_change_20 : decode cX0_change 20 = .ok (.imul, 1) := dk_104 (dk_at dksX0_change_0 20 rfl rfl)
theorem dX0_change_21 : decode cX0_change 21 = .ok (.goto 8, 3) := dk_167 0 8 (dk_at dksX0_change_0 21 rfl rfl)
theorem dX0_change_24 : decode cX0_change 24 = .ok (.iload_n 0, 1) := dk_26 (dk_at dksX0_change_1 0 rfl rfl)
theorem dX0_change_25 : decode cX0_change 25 = .ok (.iload_n 1, 1) := dk_27 (dk_at dksX0_change_1 1 rfl rfl)
theorem dX0_change_26 : decode cX0_change 26 = .ok (.isub, 1) := dk_100 (dk_at dksX0_change_1 2 rfl rfl)
theorem dX0_change_27 : decode cX0_change 27 = .ok (.iload_n 3, 1) := dk_29 (dk_at dksX0_change_1 3 rfl rfl)
theorem dX0_change_28 : decode cX0_change 28 = .ok (.imul, 1) := dk_104 (dk_at dksX0_change_1 4 rfl rfl)
theorem dX0_change_29 : decode cX0_change 29 = .ok (.iadd, 1) := dk_96 (dk_at dksX0_change_1 5 rfl rfl)
theorem dX0_change_30 : decode cX0_change 30 = .ok (.ireturn, 1) := dk_172 (dk_at dksX0_change_1 6 rfl rfl)
abbrev cX0_postAt : ByteArray := prog_1_method_73_code
def yX0_postAt : MethodName := ⟨RX0, "postAt", "(IIIIII)I"⟩
def dkwX0_postAt_5 : List UInt8 := [21, 7, 172]
abbrev dktX0_postAt_5 : List UInt8 := dkwX0_postAt_5 ++ []
def dkwX0_postAt_4 : List UInt8 := [50, 21, 7, 46, 159, 0, 9, 132, 9, 1, 167, 255, 215, 21, 9, 54, 7, 132, 8, 1, 167, 255, 189]
abbrev dktX0_postAt_4 : List UInt8 := dkwX0_postAt_4 ++ dktX0_postAt_5
def dkwX0_postAt_3 : List UInt8 := [21, 5, 184, 1, 151, 42, 180, 0, 100, 21, 8, 4, 96, 50, 21, 9, 46, 96, 42, 180, 0, 100, 21, 8]
abbrev dktX0_postAt_3 : List UInt8 := dkwX0_postAt_3 ++ dktX0_postAt_4
def dkwX0_postAt_2 : List UInt8 := [21, 8, 21, 6, 163, 0, 66, 42, 180, 0, 74, 21, 8, 46, 54, 9, 21, 7, 21, 9, 29, 21, 4]
abbrev dktX0_postAt_2 : List UInt8 := dkwX0_postAt_2 ++ dktX0_postAt_3
def dkwX0_postAt_1 : List UInt8 := [184, 0, 174, 154, 0, 5, 2, 172, 42, 28, 29, 21, 4, 21, 5, 182, 1, 158, 27, 54, 7, 3, 54, 8]
abbrev dktX0_postAt_1 : List UInt8 := dkwX0_postAt_1 ++ dktX0_postAt_2
def dkwX0_postAt_0 : List UInt8 := [27, 28, 29, 21, 4, 21, 5, 184, 1, 154, 153, 0, 18, 21, 6, 3, 42, 180, 0, 169, 4, 100]
abbrev dktX0_postAt_0 : List UInt8 := dkwX0_postAt_0 ++ dktX0_postAt_1
theorem dksX0_postAt_0 : cX0_postAt.data.toList.drop 0 = dktX0_postAt_0 := by decide +kernel
theorem dksX0_postAt_1 : cX0_postAt.data.toList.drop 22 = dktX0_postAt_1 := dk_seg dksX0_postAt_0 22 rfl rfl
theorem dksX0_postAt_2 : cX0_postAt.data.toList.drop 46 = dktX0_postAt_2 := dk_seg dksX0_postAt_1 24 rfl rfl
theorem dksX0_postAt_3 : cX0_postAt.data.toList.drop 69 = dktX0_postAt_3 := dk_seg dksX0_postAt_2 23 rfl rfl
theorem dksX0_postAt_4 : cX0_postAt.data.toList.drop 93 = dktX0_postAt_4 := dk_seg dksX0_postAt_3 24 rfl rfl
theorem dksX0_postAt_5 : cX0_postAt.data.toList.drop 116 = dktX0_postAt_5 := dk_seg dksX0_postAt_4 23 rfl rfl
theorem dX0_postAt_0 : decode cX0_postAt 0 = .ok (.iload_n 1, 1) := dk_27 (dk_at dksX0_postAt_0 0 rfl rfl)
theorem dX0_postAt_1 : decode cX0_postAt 1 = .ok (.iload_n 2, 1) := dk_28 (dk_at dksX0_postAt_0 1 rfl rfl)
theorem dX0_postAt_2 : decode cX0_postAt 2 = .ok (.iload_n 3, 1) := dk_29 (dk_at dksX0_postAt_0 2 rfl rfl)
theorem dX0_postAt_3 : decode cX0_postAt 3 = .ok (.iload 4, 2) := dk_21 4 (dk_at dksX0_postAt_0 3 rfl rfl)
theorem dX0_postAt_5 : decode cX0_postAt 5 = .ok (.iload 5, 2) := dk_21 5 (dk_at dksX0_postAt_0 5 rfl rfl)
theorem dX0_postAt_7 : decode cX0_postAt 7 = .ok (.invokestatic 410, 3) := dk_184 1 154 (dk_at dksX0_postAt_0 7 rfl rfl)
theorem dX0_postAt_10 : decode cX0_postAt 10 = .ok (.ifCond .eq 18, 3) := dk_153 0 18 (dk_at dksX0_postAt_0 10 rfl rfl)
theorem dX0_postAt_13 : decode cX0_postAt 13 = .ok (.iload 6, 2) := dk_21 6 (dk_at dksX0_postAt_0 13 rfl rfl)
theorem dX0_postAt_15 : decode cX0_postAt 15 = .ok (.iconst 0, 1) := dk_3 (dk_at dksX0_postAt_0 15 rfl rfl)
theorem dX0_postAt_16 : decode cX0_postAt 16 = .ok (.aload_n 0, 1) := dk_42 (dk_at dksX0_postAt_0 16 rfl rfl)
theorem dX0_postAt_17 : decode cX0_postAt 17 = .ok (.getfield 169, 3) := dk_180 0 169 (dk_at dksX0_postAt_0 17 rfl rfl)
theorem dX0_postAt_20 : decode cX0_postAt 20 = .ok (.iconst 1, 1) := dk_4 (dk_at dksX0_postAt_0 20 rfl rfl)
theorem dX0_postAt_21 : decode cX0_postAt 21 = .ok (.isub, 1) := dk_100 (dk_at dksX0_postAt_0 21 rfl rfl)
theorem dX0_postAt_22 : decode cX0_postAt 22 = .ok (.invokestatic 174, 3) := dk_184 0 174 (dk_at dksX0_postAt_1 0 rfl rfl)
theorem dX0_postAt_25 : decode cX0_postAt 25 = .ok (.ifCond .ne 5, 3) := dk_154 0 5 (dk_at dksX0_postAt_1 3 rfl rfl)
theorem dX0_postAt_28 : decode cX0_postAt 28 = .ok (.iconst (-1), 1) := dk_2 (dk_at dksX0_postAt_1 6 rfl rfl)
theorem dX0_postAt_29 : decode cX0_postAt 29 = .ok (.ireturn, 1) := dk_172 (dk_at dksX0_postAt_1 7 rfl rfl)
theorem dX0_postAt_30 : decode cX0_postAt 30 = .ok (.aload_n 0, 1) := dk_42 (dk_at dksX0_postAt_1 8 rfl rfl)
theorem dX0_postAt_31 : decode cX0_postAt 31 = .ok (.iload_n 2, 1) := dk_28 (dk_at dksX0_postAt_1 9 rfl rfl)
theorem dX0_postAt_32 : decode cX0_postAt 32 = .ok (.iload_n 3, 1) := dk_29 (dk_at dksX0_postAt_1 10 rfl rfl)
theorem dX0_postAt_33 : decode cX0_postAt 33 = .ok (.iload 4, 2) := dk_21 4 (dk_at dksX0_postAt_1 11 rfl rfl)
theorem dX0_postAt_35 : decode cX0_postAt 35 = .ok (.iload 5, 2) := dk_21 5 (dk_at dksX0_postAt_1 13 rfl rfl)
theorem dX0_postAt_37 : decode cX0_postAt 37 = .ok (.invokevirtual 414, 3) := dk_182 1 158 (dk_at dksX0_postAt_1 15 rfl rfl)
theorem dX0_postAt_40 : decode cX0_postAt 40 = .ok (.iload_n 1, 1) := dk_27 (dk_at dksX0_postAt_1 18 rfl rfl)
theorem dX0_postAt_41 : decode cX0_postAt 41 = .ok (.istore 7, 2) := dk_54 7 (dk_at dksX0_postAt_1 19 rfl rfl)
theorem dX0_postAt_43 : decode cX0_postAt 43 = .ok (.iconst 0, 1) := dk_3 (dk_at dksX0_postAt_1 21 rfl rfl)
theorem dX0_postAt_44 : decode cX0_postAt 44 = .ok (.istore 8, 2) := dk_54 8 (dk_at dksX0_postAt_1 22 rfl rfl)
theorem dX0_postAt_46 : decode cX0_postAt 46 = .ok (.iload 8, 2) := dk_21 8 (dk_at dksX0_postAt_2 0 rfl rfl)
theorem dX0_postAt_48 : decode cX0_postAt 48 = .ok (.iload 6, 2) := dk_21 6 (dk_at dksX0_postAt_2 2 rfl rfl)
theorem dX0_postAt_50 : decode cX0_postAt 50 = .ok (.if_icmp .gt 66, 3) := dk_163 0 66 (dk_at dksX0_postAt_2 4 rfl rfl)
theorem dX0_postAt_53 : decode cX0_postAt 53 = .ok (.aload_n 0, 1) := dk_42 (dk_at dksX0_postAt_2 7 rfl rfl)
theorem dX0_postAt_54 : decode cX0_postAt 54 = .ok (.getfield 74, 3) := dk_180 0 74 (dk_at dksX0_postAt_2 8 rfl rfl)
theorem dX0_postAt_57 : decode cX0_postAt 57 = .ok (.iload 8, 2) := dk_21 8 (dk_at dksX0_postAt_2 11 rfl rfl)
theorem dX0_postAt_59 : decode cX0_postAt 59 = .ok (.iaload, 1) := dk_46 (dk_at dksX0_postAt_2 13 rfl rfl)
theorem dX0_postAt_60 : decode cX0_postAt 60 = .ok (.istore 9, 2) := dk_54 9 (dk_at dksX0_postAt_2 14 rfl rfl)
theorem dX0_postAt_62 : decode cX0_postAt 62 = .ok (.iload 7, 2) := dk_21 7 (dk_at dksX0_postAt_2 16 rfl rfl)
theorem dX0_postAt_64 : decode cX0_postAt 64 = .ok (.iload 9, 2) := dk_21 9 (dk_at dksX0_postAt_2 18 rfl rfl)
theorem dX0_postAt_66 : decode cX0_postAt 66 = .ok (.iload_n 3, 1) := dk_29 (dk_at dksX0_postAt_2 20 rfl rfl)
theorem dX0_postAt_67 : decode cX0_postAt 67 = .ok (.iload 4, 2) := dk_21 4 (dk_at dksX0_postAt_2 21 rfl rfl)
theorem dX0_postAt_69 : decode cX0_postAt 69 = .ok (.iload 5, 2) := dk_21 5 (dk_at dksX0_postAt_3 0 rfl rfl)
theorem dX0_postAt_71 : decode cX0_postAt 71 = .ok (.invokestatic 407, 3) := dk_184 1 151 (dk_at dksX0_postAt_3 2 rfl rfl)
theorem dX0_postAt_74 : decode cX0_postAt 74 = .ok (.aload_n 0, 1) := dk_42 (dk_at dksX0_postAt_3 5 rfl rfl)
theorem dX0_postAt_75 : decode cX0_postAt 75 = .ok (.getfield 100, 3) := dk_180 0 100 (dk_at dksX0_postAt_3 6 rfl rfl)
theorem dX0_postAt_78 : decode cX0_postAt 78 = .ok (.iload 8, 2) := dk_21 8 (dk_at dksX0_postAt_3 9 rfl rfl)
theorem dX0_postAt_80 : decode cX0_postAt 80 = .ok (.iconst 1, 1) := dk_4 (dk_at dksX0_postAt_3 11 rfl rfl)
theorem dX0_postAt_81 : decode cX0_postAt 81 = .ok (.iadd, 1) := dk_96 (dk_at dksX0_postAt_3 12 rfl rfl)
theorem dX0_postAt_82 : decode cX0_postAt 82 = .ok (.aaload, 1) := dk_50 (dk_at dksX0_postAt_3 13 rfl rfl)
theorem dX0_postAt_83 : decode cX0_postAt 83 = .ok (.iload 9, 2) := dk_21 9 (dk_at dksX0_postAt_3 14 rfl rfl)
theorem dX0_postAt_85 : decode cX0_postAt 85 = .ok (.iaload, 1) := dk_46 (dk_at dksX0_postAt_3 16 rfl rfl)
theorem dX0_postAt_86 : decode cX0_postAt 86 = .ok (.iadd, 1) := dk_96 (dk_at dksX0_postAt_3 17 rfl rfl)
theorem dX0_postAt_87 : decode cX0_postAt 87 = .ok (.aload_n 0, 1) := dk_42 (dk_at dksX0_postAt_3 18 rfl rfl)
theorem dX0_postAt_88 : decode cX0_postAt 88 = .ok (.getfield 100, 3) := dk_180 0 100 (dk_at dksX0_postAt_3 19 rfl rfl)
theorem dX0_postAt_91 : decode cX0_postAt 91 = .ok (.iload 8, 2) := dk_21 8 (dk_at dksX0_postAt_3 22 rfl rfl)
theorem dX0_postAt_93 : decode cX0_postAt 93 = .ok (.aaload, 1) := dk_50 (dk_at dksX0_postAt_4 0 rfl rfl)
theorem dX0_postAt_94 : decode cX0_postAt 94 = .ok (.iload 7, 2) := dk_21 7 (dk_at dksX0_postAt_4 1 rfl rfl)
theorem dX0_postAt_96 : decode cX0_postAt 96 = .ok (.iaload, 1) := dk_46 (dk_at dksX0_postAt_4 3 rfl rfl)
theorem dX0_postAt_97 : decode cX0_postAt 97 = .ok (.if_icmp .eq 9, 3) := dk_159 0 9 (dk_at dksX0_postAt_4 4 rfl rfl)
theorem dX0_postAt_100 : decode cX0_postAt 100 = .ok (.iinc 9 1, 3) := dk_132 9 1 (dk_at dksX0_postAt_4 7 rfl rfl)
theorem dX0_postAt_103 : decode cX0_postAt 103 = .ok (.goto (-41), 3) := dk_167 255 215 (dk_at dksX0_postAt_4 10 rfl rfl)
theorem dX0_postAt_106 : decode cX0_postAt 106 = .ok (.iload 9, 2) := dk_21 9 (dk_at dksX0_postAt_4 13 rfl rfl)
theorem dX0_postAt_108 : decode cX0_postAt 108 = .ok (.istore 7, 2) := dk_54 7 (dk_at dksX0_postAt_4 15 rfl rfl)
theorem dX0_postAt_110 : decode cX0_postAt 110 = .ok (.iinc 8 1, 3) := dk_132 8 1 (dk_at dksX0_postAt_4 17 rfl rfl)
theorem dX0_postAt_113 : decode cX0_postAt 113 = .ok (.goto (-67), 3) := dk_167 255 189 (dk_at dksX0_postAt_4 20 rfl rfl)
theorem dX0_postAt_116 : decode cX0_postAt 116 = .ok (.iload 7, 2) := dk_21 7 (dk_at dksX0_postAt_5 0 rfl rfl)
theorem dX0_postAt_118 : decode cX0_postAt 118 = .ok (.ireturn, 1) := dk_172 (dk_at dksX0_postAt_5 2 rfl rfl)
abbrev cX0_vote : ByteArray := prog_1_method_76_code
def yX0_vote : MethodName := ⟨RX0, "vote", "(III)I"⟩
def dkwX0_vote_2 : List UInt8 := [167, 0, 4, 2, 172]
abbrev dktX0_vote_2 : List UInt8 := dkwX0_vote_2 ++ []
def dkwX0_vote_1 : List UInt8 := [29, 182, 0, 210, 153, 0, 21, 42, 187, 1, 168, 89, 3, 27, 28, 29, 183, 1, 170, 182, 1, 172]
abbrev dktX0_vote_1 : List UInt8 := dkwX0_vote_1 ++ dktX0_vote_2
def dkwX0_vote_0 : List UInt8 := [42, 182, 1, 165, 153, 0, 45, 42, 27, 182, 0, 210, 153, 0, 37, 42, 28, 182, 0, 217, 153, 0, 29, 42]
abbrev dktX0_vote_0 : List UInt8 := dkwX0_vote_0 ++ dktX0_vote_1
theorem dksX0_vote_0 : cX0_vote.data.toList.drop 0 = dktX0_vote_0 := by decide +kernel
theorem dksX0_vote_1 : cX0_vote.data.toList.drop 24 = dktX0_vote_1 := dk_seg dksX0_vote_0 24 rfl rfl
theorem dksX0_vote_2 : cX0_vote.data.toList.drop 46 = dktX0_vote_2 := dk_seg dksX0_vote_1 22 rfl rfl
theorem dX0_vote_0 : decode cX0_vote 0 = .ok (.aload_n 0, 1) := dk_42 (dk_at dksX0_vote_0 0 rfl rfl)
theorem dX0_vote_1 : decode cX0_vote 1 = .ok (.invokevirtual 421, 3) := dk_182 1 165 (dk_at dksX0_vote_0 1 rfl rfl)
theorem dX0_vote_4 : decode cX0_vote 4 = .ok (.ifCond .eq 45, 3) := dk_153 0 45 (dk_at dksX0_vote_0 4 rfl rfl)
theorem dX0_vote_7 : decode cX0_vote 7 = .ok (.aload_n 0, 1) := dk_42 (dk_at dksX0_vote_0 7 rfl rfl)
theorem dX0_vote_8 : decode cX0_vote 8 = .ok (.iload_n 1, 1) := dk_27 (dk_at dksX0_vote_0 8 rfl rfl)
theorem dX0_vote_9 : decode cX0_vote 9 = .ok (.invokevirtual 210, 3) := dk_182 0 210 (dk_at dksX0_vote_0 9 rfl rfl)
theorem dX0_vote_12 : decode cX0_vote 12 = .ok (.ifCond .eq 37, 3) := dk_153 0 37 (dk_at dksX0_vote_0 12 rfl rfl)
theorem dX0_vote_15 : decode cX0_vote 15 = .ok (.aload_n 0, 1) := dk_42 (dk_at dksX0_vote_0 15 rfl rfl)
theorem dX0_vote_16 : decode cX0_vote 16 = .ok (.iload_n 2, 1) := dk_28 (dk_at dksX0_vote_0 16 rfl rfl)
theorem dX0_vote_17 : decode cX0_vote 17 = .ok (.invokevirtual 217, 3) := dk_182 0 217 (dk_at dksX0_vote_0 17 rfl rfl)
theorem dX0_vote_20 : decode cX0_vote 20 = .ok (.ifCond .eq 29, 3) := dk_153 0 29 (dk_at dksX0_vote_0 20 rfl rfl)
theorem dX0_vote_23 : decode cX0_vote 23 = .ok (.aload_n 0, 1) := dk_42 (dk_at dksX0_vote_0 23 rfl rfl)
theorem dX0_vote_24 : decode cX0_vote 24 = .ok (.iload_n 3, 1) := dk_29 (dk_at dksX0_vote_1 0 rfl rfl)
theorem dX0_vote_25 : decode cX0_vote 25 = .ok (.invokevirtual 210, 3) := dk_182 0 210 (dk_at dksX0_vote_1 1 rfl rfl)
theorem dX0_vote_28 : decode cX0_vote 28 = .ok (.ifCond .eq 21, 3) := dk_153 0 21 (dk_at dksX0_vote_1 4 rfl rfl)
theorem dX0_vote_31 : decode cX0_vote 31 = .ok (.aload_n 0, 1) := dk_42 (dk_at dksX0_vote_1 7 rfl rfl)
theorem dX0_vote_32 : decode cX0_vote 32 = .ok (.new 424, 3) := dk_187 1 168 (dk_at dksX0_vote_1 8 rfl rfl)
theorem dX0_vote_35 : decode cX0_vote 35 = .ok (.dup, 1) := dk_89 (dk_at dksX0_vote_1 11 rfl rfl)
theorem dX0_vote_36 : decode cX0_vote 36 = .ok (.iconst 0, 1) := dk_3 (dk_at dksX0_vote_1 12 rfl rfl)
theorem dX0_vote_37 : decode cX0_vote 37 = .ok (.iload_n 1, 1) := dk_27 (dk_at dksX0_vote_1 13 rfl rfl)
theorem dX0_vote_38 : decode cX0_vote 38 = .ok (.iload_n 2, 1) := dk_28 (dk_at dksX0_vote_1 14 rfl rfl)
theorem dX0_vote_39 : decode cX0_vote 39 = .ok (.iload_n 3, 1) := dk_29 (dk_at dksX0_vote_1 15 rfl rfl)
theorem dX0_vote_40 : decode cX0_vote 40 = .ok (.invokespecial 426, 3) := dk_183 1 170 (dk_at dksX0_vote_1 16 rfl rfl)
theorem dX0_vote_43 : decode cX0_vote 43 = .ok (.invokevirtual 428, 3) := dk_182 1 172 (dk_at dksX0_vote_1 19 rfl rfl)
theorem dX0_vote_46 : decode cX0_vote 46 = .ok (.goto 4, 3) := dk_167 0 4 (dk_at dksX0_vote_2 0 rfl rfl)
theorem dX0_vote_49 : decode cX0_vote 49 = .ok (.iconst (-1), 1) := dk_2 (dk_at dksX0_vote_2 3 rfl rfl)
theorem dX0_vote_50 : decode cX0_vote 50 = .ok (.ireturn, 1) := dk_172 (dk_at dksX0_vote_2 4 rfl rfl)
abbrev cX0_hasRoom : ByteArray := prog_1_method_75_code
def yX0_hasRoom : MethodName := ⟨RX0, "hasRoom", "()Z"⟩
def dkwX0_hasRoom_0 : List UInt8 := [42, 180, 0, 48, 180, 1, 162, 182, 0, 131, 16, 60, 162, 0, 7, 4, 167, 0, 4, 3, 172]
abbrev dktX0_hasRoom_0 : List UInt8 := dkwX0_hasRoom_0 ++ []
theorem dksX0_hasRoom_0 : cX0_hasRoom.data.toList.drop 0 = dktX0_hasRoom_0 := by decide +kernel
theorem dX0_hasRoom_0 : decode cX0_hasRoom 0 = .ok (.aload_n 0, 1) := dk_42 (dk_at dksX0_hasRoom_0 0 rfl rfl)
theorem dX0_hasRoom_1 : decode cX0_hasRoom 1 = .ok (.getfield 48, 3) := dk_180 0 48 (dk_at dksX0_hasRoom_0 1 rfl rfl)
theorem dX0_hasRoom_4 : decode cX0_hasRoom 4 = .ok (.getfield 418, 3) := dk_180 1 162 (dk_at dksX0_hasRoom_0 4 rfl rfl)
theorem dX0_hasRoom_7 : decode cX0_hasRoom 7 = .ok (.invokevirtual 131, 3) := dk_182 0 131 (dk_at dksX0_hasRoom_0 7 rfl rfl)
theorem dX0_hasRoom_10 : decode cX0_hasRoom 10 = .ok (.bipush 60, 2) := dk_16 60 (dk_at dksX0_hasRoom_0 10 rfl rfl)
theorem dX0_hasRoom_12 : decode cX0_hasRoom 12 = .ok (.if_icmp .ge 7, 3) := dk_162 0 7 (dk_at dksX0_hasRoom_0 12 rfl rfl)
theorem dX0_hasRoom_15 : decode cX0_hasRoom 15 = .ok (.iconst 1, 1) := dk_4 (dk_at dksX0_hasRoom_0 15 rfl rfl)
theorem dX0_hasRoom_16 : decode cX0_hasRoom 16 = .ok (.goto 4, 3) := dk_167 0 4 (dk_at dksX0_hasRoom_0 16 rfl rfl)
theorem dX0_hasRoom_19 : decode cX0_hasRoom 19 = .ok (.iconst 0, 1) := dk_3 (dk_at dksX0_hasRoom_0 19 rfl rfl)
theorem dX0_hasRoom_20 : decode cX0_hasRoom 20 = .ok (.ireturn, 1) := dk_172 (dk_at dksX0_hasRoom_0 20 rfl rfl)
abbrev cX0_writes : ByteArray := prog_1_method_74_code
def yX0_writes : MethodName := ⟨RX0, "writes", "(LStiltTown$Log;)I"⟩
def dkwX0_writes_1 : List UInt8 := [172]
abbrev dktX0_writes_1 : List UInt8 := dkwX0_writes_1 ++ []
def dkwX0_writes_0 : List UInt8 := [42, 180, 0, 48, 180, 1, 162, 43, 182, 1, 75, 87, 42, 180, 0, 48, 180, 1, 162, 182, 0, 131, 4, 100]
abbrev dktX0_writes_0 : List UInt8 := dkwX0_writes_0 ++ dktX0_writes_1
theorem dksX0_writes_0 : cX0_writes.data.toList.drop 0 = dktX0_writes_0 := by decide +kernel
theorem dksX0_writes_1 : cX0_writes.data.toList.drop 24 = dktX0_writes_1 := dk_seg dksX0_writes_0 24 rfl rfl
theorem dX0_writes_0 : decode cX0_writes 0 = .ok (.aload_n 0, 1) := dk_42 (dk_at dksX0_writes_0 0 rfl rfl)
theorem dX0_writes_1 : decode cX0_writes 1 = .ok (.getfield 48, 3) := dk_180 0 48 (dk_at dksX0_writes_0 1 rfl rfl)
theorem dX0_writes_4 : decode cX0_writes 4 = .ok (.getfield 418, 3) := dk_180 1 162 (dk_at dksX0_writes_0 4 rfl rfl)
theorem dX0_writes_7 : decode cX0_writes 7 = .ok (.aload_n 1, 1) := dk_43 (dk_at dksX0_writes_0 7 rfl rfl)
theorem dX0_writes_8 : decode cX0_writes 8 = .ok (.invokevirtual 331, 3) := dk_182 1 75 (dk_at dksX0_writes_0 8 rfl rfl)
theorem dX0_writes_11 : decode cX0_writes 11 = .ok (.pop, 1) := dk_87 (dk_at dksX0_writes_0 11 rfl rfl)
theorem dX0_writes_12 : decode cX0_writes 12 = .ok (.aload_n 0, 1) := dk_42 (dk_at dksX0_writes_0 12 rfl rfl)
theorem dX0_writes_13 : decode cX0_writes 13 = .ok (.getfield 48, 3) := dk_180 0 48 (dk_at dksX0_writes_0 13 rfl rfl)
theorem dX0_writes_16 : decode cX0_writes 16 = .ok (.getfield 418, 3) := dk_180 1 162 (dk_at dksX0_writes_0 16 rfl rfl)
theorem dX0_writes_19 : decode cX0_writes 19 = .ok (.invokevirtual 131, 3) := dk_182 0 131 (dk_at dksX0_writes_0 19 rfl rfl)
theorem dX0_writes_22 : decode cX0_writes 22 = .ok (.iconst 1, 1) := dk_4 (dk_at dksX0_writes_0 22 rfl rfl)
theorem dX0_writes_23 : decode cX0_writes 23 = .ok (.isub, 1) := dk_100 (dk_at dksX0_writes_0 23 rfl rfl)
theorem dX0_writes_24 : decode cX0_writes 24 = .ok (.ireturn, 1) := dk_172 (dk_at dksX0_writes_1 0 rfl rfl)
abbrev cX0_mark : ByteArray := prog_1_method_77_code
def yX0_mark : MethodName := ⟨RX0, "mark", "(III)I"⟩
def dkwX0_mark_2 : List UInt8 := [183, 1, 170, 182, 1, 172, 167, 0, 4, 2, 172]
abbrev dktX0_mark_2 : List UInt8 := dkwX0_mark_2 ++ []
def dkwX0_mark_1 : List UInt8 := [153, 0, 31, 29, 3, 16, 99, 184, 0, 174, 153, 0, 21, 42, 187, 1, 168, 89, 4, 27, 28, 29]
abbrev dktX0_mark_1 : List UInt8 := dkwX0_mark_1 ++ dktX0_mark_2
def dkwX0_mark_0 : List UInt8 := [42, 182, 1, 165, 153, 0, 49, 42, 27, 182, 0, 210, 153, 0, 41, 28, 3, 16, 99, 184, 0, 174]
abbrev dktX0_mark_0 : List UInt8 := dkwX0_mark_0 ++ dktX0_mark_1
theorem dksX0_mark_0 : cX0_mark.data.toList.drop 0 = dktX0_mark_0 := by decide +kernel
theorem dksX0_mark_1 : cX0_mark.data.toList.drop 22 = dktX0_mark_1 := dk_seg dksX0_mark_0 22 rfl rfl
theorem dksX0_mark_2 : cX0_mark.data.toList.drop 44 = dktX0_mark_2 := dk_seg dksX0_mark_1 22 rfl rfl
theorem dX0_mark_0 : decode cX0_mark 0 = .ok (.aload_n 0, 1) := dk_42 (dk_at dksX0_mark_0 0 rfl rfl)
theorem dX0_mark_1 : decode cX0_mark 1 = .ok (.invokevirtual 421, 3) := dk_182 1 165 (dk_at dksX0_mark_0 1 rfl rfl)
theorem dX0_mark_4 : decode cX0_mark 4 = .ok (.ifCond .eq 49, 3) := dk_153 0 49 (dk_at dksX0_mark_0 4 rfl rfl)
theorem dX0_mark_7 : decode cX0_mark 7 = .ok (.aload_n 0, 1) := dk_42 (dk_at dksX0_mark_0 7 rfl rfl)
theorem dX0_mark_8 : decode cX0_mark 8 = .ok (.iload_n 1, 1) := dk_27 (dk_at dksX0_mark_0 8 rfl rfl)
theorem dX0_mark_9 : decode cX0_mark 9 = .ok (.invokevirtual 210, 3) := dk_182 0 210 (dk_at dksX0_mark_0 9 rfl rfl)
theorem dX0_mark_12 : decode cX0_mark 12 = .ok (.ifCond .eq 41, 3) := dk_153 0 41 (dk_at dksX0_mark_0 12 rfl rfl)
theorem dX0_mark_15 : decode cX0_mark 15 = .ok (.iload_n 2, 1) := dk_28 (dk_at dksX0_mark_0 15 rfl rfl)
theorem dX0_mark_16 : decode cX0_mark 16 = .ok (.iconst 0, 1) := dk_3 (dk_at dksX0_mark_0 16 rfl rfl)
theorem dX0_mark_17 : decode cX0_mark 17 = .ok (.bipush 99, 2) := dk_16 99 (dk_at dksX0_mark_0 17 rfl rfl)
theorem dX0_mark_19 : decode cX0_mark 19 = .ok (.invokestatic 174, 3) := dk_184 0 174 (dk_at dksX0_mark_0 19 rfl rfl)
theorem dX0_mark_22 : decode cX0_mark 22 = .ok (.ifCond .eq 31, 3) := dk_153 0 31 (dk_at dksX0_mark_1 0 rfl rfl)
theorem dX0_mark_25 : decode cX0_mark 25 = .ok (.iload_n 3, 1) := dk_29 (dk_at dksX0_mark_1 3 rfl rfl)
theorem dX0_mark_26 : decode cX0_mark 26 = .ok (.iconst 0, 1) := dk_3 (dk_at dksX0_mark_1 4 rfl rfl)
theorem dX0_mark_27 : decode cX0_mark 27 = .ok (.bipush 99, 2) := dk_16 99 (dk_at dksX0_mark_1 5 rfl rfl)
theorem dX0_mark_29 : decode cX0_mark 29 = .ok (.invokestatic 174, 3) := dk_184 0 174 (dk_at dksX0_mark_1 7 rfl rfl)
theorem dX0_mark_32 : decode cX0_mark 32 = .ok (.ifCond .eq 21, 3) := dk_153 0 21 (dk_at dksX0_mark_1 10 rfl rfl)
theorem dX0_mark_35 : decode cX0_mark 35 = .ok (.aload_n 0, 1) := dk_42 (dk_at dksX0_mark_1 13 rfl rfl)
theorem dX0_mark_36 : decode cX0_mark 36 = .ok (.new 424, 3) := dk_187 1 168 (dk_at dksX0_mark_1 14 rfl rfl)
theorem dX0_mark_39 : decode cX0_mark 39 = .ok (.dup, 1) := dk_89 (dk_at dksX0_mark_1 17 rfl rfl)
theorem dX0_mark_40 : decode cX0_mark 40 = .ok (.iconst 1, 1) := dk_4 (dk_at dksX0_mark_1 18 rfl rfl)
theorem dX0_mark_41 : decode cX0_mark 41 = .ok (.iload_n 1, 1) := dk_27 (dk_at dksX0_mark_1 19 rfl rfl)
theorem dX0_mark_42 : decode cX0_mark 42 = .ok (.iload_n 2, 1) := dk_28 (dk_at dksX0_mark_1 20 rfl rfl)
theorem dX0_mark_43 : decode cX0_mark 43 = .ok (.iload_n 3, 1) := dk_29 (dk_at dksX0_mark_1 21 rfl rfl)
theorem dX0_mark_44 : decode cX0_mark 44 = .ok (.invokespecial 426, 3) := dk_183 1 170 (dk_at dksX0_mark_2 0 rfl rfl)
theorem dX0_mark_47 : decode cX0_mark 47 = .ok (.invokevirtual 428, 3) := dk_182 1 172 (dk_at dksX0_mark_2 3 rfl rfl)
theorem dX0_mark_50 : decode cX0_mark 50 = .ok (.goto 4, 3) := dk_167 0 4 (dk_at dksX0_mark_2 6 rfl rfl)
theorem dX0_mark_53 : decode cX0_mark 53 = .ok (.iconst (-1), 1) := dk_2 (dk_at dksX0_mark_2 9 rfl rfl)
theorem dX0_mark_54 : decode cX0_mark 54 = .ok (.ireturn, 1) := dk_172 (dk_at dksX0_mark_2 10 rfl rfl)
abbrev cX0_annul : ByteArray := prog_1_method_78_code
def yX0_annul : MethodName := ⟨RX0, "annul", "(I)I"⟩
def dkwX0_annul_2 : List UInt8 := [42, 187, 1, 168, 89, 5, 27, 3, 3, 183, 1, 170, 182, 1, 172, 167, 0, 4, 2, 172]
abbrev dktX0_annul_2 : List UInt8 := dkwX0_annul_2 ++ []
def dkwX0_annul_1 : List UInt8 := [153, 0, 42, 42, 180, 0, 48, 180, 1, 162, 27, 182, 0, 140, 192, 1, 168, 180, 1, 176, 5, 159, 0, 21]
abbrev dktX0_annul_1 : List UInt8 := dkwX0_annul_1 ++ dktX0_annul_2
def dkwX0_annul_0 : List UInt8 := [42, 182, 1, 165, 153, 0, 62, 27, 3, 42, 180, 0, 48, 180, 1, 162, 182, 0, 131, 4, 100, 184, 0, 174]
abbrev dktX0_annul_0 : List UInt8 := dkwX0_annul_0 ++ dktX0_annul_1
theorem dksX0_annul_0 : cX0_annul.data.toList.drop 0 = dktX0_annul_0 := by decide +kernel
theorem dksX0_annul_1 : cX0_annul.data.toList.drop 24 = dktX0_annul_1 := dk_seg dksX0_annul_0 24 rfl rfl
theorem dksX0_annul_2 : cX0_annul.data.toList.drop 48 = dktX0_annul_2 := dk_seg dksX0_annul_1 24 rfl rfl
theorem dX0_annul_0 : decode cX0_annul 0 = .ok (.aload_n 0, 1) := dk_42 (dk_at dksX0_annul_0 0 rfl rfl)
theorem dX0_annul_1 : decode cX0_annul 1 = .ok (.invokevirtual 421, 3) := dk_182 1 165 (dk_at dksX0_annul_0 1 rfl rfl)
theorem dX0_annul_4 : decode cX0_annul 4 = .ok (.ifCond .eq 62, 3) := dk_153 0 62 (dk_at dksX0_annul_0 4 rfl rfl)
theorem dX0_annul_7 : decode cX0_annul 7 = .ok (.iload_n 1, 1) := dk_27 (dk_at dksX0_annul_0 7 rfl rfl)
theorem dX0_annul_8 : decode cX0_annul 8 = .ok (.iconst 0, 1) := dk_3 (dk_at dksX0_annul_0 8 rfl rfl)
theorem dX0_annul_9 : decode cX0_annul 9 = .ok (.aload_n 0, 1) := dk_42 (dk_at dksX0_annul_0 9 rfl rfl)
theorem dX0_annul_10 : decode cX0_annul 10 = .ok (.getfield 48, 3) := dk_180 0 48 (dk_at dksX0_annul_0 10 rfl rfl)
theorem dX0_annul_13 : decode cX0_annul 13 = .ok (.getfield 418, 3) := dk_180 1 162 (dk_at dksX0_annul_0 13 rfl rfl)
theorem dX0_annul_16 : decode cX0_annul 16 = .ok (.invokevirtual 131, 3) := dk_182 0 131 (dk_at dksX0_annul_0 16 rfl rfl)
theorem dX0_annul_19 : decode cX0_annul 19 = .ok (.iconst 1, 1) := dk_4 (dk_at dksX0_annul_0 19 rfl rfl)
theorem dX0_annul_20 : decode cX0_annul 20 = .ok (.isub, 1) := dk_100 (dk_at dksX0_annul_0 20 rfl rfl)
theorem dX0_annul_21 : decode cX0_annul 21 = .ok (.invokestatic 174, 3) := dk_184 0 174 (dk_at dksX0_annul_0 21 rfl rfl)
theorem dX0_annul_24 : decode cX0_annul 24 = .ok (.ifCond .eq 42, 3) := dk_153 0 42 (dk_at dksX0_annul_1 0 rfl rfl)
theorem dX0_annul_27 : decode cX0_annul 27 = .ok (.aload_n 0, 1) := dk_42 (dk_at dksX0_annul_1 3 rfl rfl)
theorem dX0_annul_28 : decode cX0_annul 28 = .ok (.getfield 48, 3) := dk_180 0 48 (dk_at dksX0_annul_1 4 rfl rfl)
theorem dX0_annul_31 : decode cX0_annul 31 = .ok (.getfield 418, 3) := dk_180 1 162 (dk_at dksX0_annul_1 7 rfl rfl)
theorem dX0_annul_34 : decode cX0_annul 34 = .ok (.iload_n 1, 1) := dk_27 (dk_at dksX0_annul_1 10 rfl rfl)
theorem dX0_annul_35 : decode cX0_annul 35 = .ok (.invokevirtual 140, 3) := dk_182 0 140 (dk_at dksX0_annul_1 11 rfl rfl)
theorem dX0_annul_38 : decode cX0_annul 38 = .ok (.checkcast 424, 3) := dk_192 1 168 (dk_at dksX0_annul_1 14 rfl rfl)
theorem dX0_annul_41 : decode cX0_annul 41 = .ok (.getfield 432, 3) := dk_180 1 176 (dk_at dksX0_annul_1 17 rfl rfl)
theorem dX0_annul_44 : decode cX0_annul 44 = .ok (.iconst 2, 1) := dk_5 (dk_at dksX0_annul_1 20 rfl rfl)
theorem dX0_annul_45 : decode cX0_annul 45 = .ok (.if_icmp .eq 21, 3) := dk_159 0 21 (dk_at dksX0_annul_1 21 rfl rfl)
theorem dX0_annul_48 : decode cX0_annul 48 = .ok (.aload_n 0, 1) := dk_42 (dk_at dksX0_annul_2 0 rfl rfl)
theorem dX0_annul_49 : decode cX0_annul 49 = .ok (.new 424, 3) := dk_187 1 168 (dk_at dksX0_annul_2 1 rfl rfl)
theorem dX0_annul_52 : decode cX0_annul 52 = .ok (.dup, 1) := dk_89 (dk_at dksX0_annul_2 4 rfl rfl)
theorem dX0_annul_53 : decode cX0_annul 53 = .ok (.iconst 2, 1) := dk_5 (dk_at dksX0_annul_2 5 rfl rfl)
theorem dX0_annul_54 : decode cX0_annul 54 = .ok (.iload_n 1, 1) := dk_27 (dk_at dksX0_annul_2 6 rfl rfl)
theorem dX0_annul_55 : decode cX0_annul 55 = .ok (.iconst 0, 1) := dk_3 (dk_at dksX0_annul_2 7 rfl rfl)
theorem dX0_annul_56 : decode cX0_annul 56 = .ok (.iconst 0, 1) := dk_3 (dk_at dksX0_annul_2 8 rfl rfl)
theorem dX0_annul_57 : decode cX0_annul 57 = .ok (.invokespecial 426, 3) := dk_183 1 170 (dk_at dksX0_annul_2 9 rfl rfl)
theorem dX0_annul_60 : decode cX0_annul 60 = .ok (.invokevirtual 428, 3) := dk_182 1 172 (dk_at dksX0_annul_2 12 rfl rfl)
theorem dX0_annul_63 : decode cX0_annul 63 = .ok (.goto 4, 3) := dk_167 0 4 (dk_at dksX0_annul_2 15 rfl rfl)
theorem dX0_annul_66 : decode cX0_annul 66 = .ok (.iconst (-1), 1) := dk_2 (dk_at dksX0_annul_2 18 rfl rfl)
theorem dX0_annul_67 : decode cX0_annul 67 = .ok (.ireturn, 1) := dk_172 (dk_at dksX0_annul_2 19 rfl rfl)
abbrev cX0_votes : ByteArray := prog_1_method_83_code
def yX0_votes : MethodName := ⟨RX0, "votes", "(III)I"⟩
def dkwX0_votes_1 : List UInt8 := [42, 27, 28, 29, 182, 1, 197, 167, 0, 4, 2, 172]
abbrev dktX0_votes_1 : List UInt8 := dkwX0_votes_1 ++ []
def dkwX0_votes_0 : List UInt8 := [42, 27, 182, 0, 217, 153, 0, 29, 42, 28, 182, 0, 210, 153, 0, 21, 42, 29, 182, 1, 194, 153, 0, 13]
abbrev dktX0_votes_0 : List UInt8 := dkwX0_votes_0 ++ dktX0_votes_1
theorem dksX0_votes_0 : cX0_votes.data.toList.drop 0 = dktX0_votes_0 := by decide +kernel
theorem dksX0_votes_1 : cX0_votes.data.toList.drop 24 = dktX0_votes_1 := dk_seg dksX0_votes_0 24 rfl rfl
theorem dX0_votes_0 : decode cX0_votes 0 = .ok (.aload_n 0, 1) := dk_42 (dk_at dksX0_votes_0 0 rfl rfl)
theorem dX0_votes_1 : decode cX0_votes 1 = .ok (.iload_n 1, 1) := dk_27 (dk_at dksX0_votes_0 1 rfl rfl)
theorem dX0_votes_2 : decode cX0_votes 2 = .ok (.invokevirtual 217, 3) := dk_182 0 217 (dk_at dksX0_votes_0 2 rfl rfl)
theorem dX0_votes_5 : decode cX0_votes 5 = .ok (.ifCond .eq 29, 3) := dk_153 0 29 (dk_at dksX0_votes_0 5 rfl rfl)
theorem dX0_votes_8 : decode cX0_votes 8 = .ok (.aload_n 0, 1) := dk_42 (dk_at dksX0_votes_0 8 rfl rfl)
theorem dX0_votes_9 : decode cX0_votes 9 = .ok (.iload_n 2, 1) := dk_28 (dk_at dksX0_votes_0 9 rfl rfl)
theorem dX0_votes_10 : decode cX0_votes 10 = .ok (.invokevirtual 210, 3) := dk_182 0 210 (dk_at dksX0_votes_0 10 rfl rfl)
theorem dX0_votes_13 : decode cX0_votes 13 = .ok (.ifCond .eq 21, 3) := dk_153 0 21 (dk_at dksX0_votes_0 13 rfl rfl)
theorem dX0_votes_16 : decode cX0_votes 16 = .ok (.aload_n 0, 1) := dk_42 (dk_at dksX0_votes_0 16 rfl rfl)
theorem dX0_votes_17 : decode cX0_votes 17 = .ok (.iload_n 3, 1) := dk_29 (dk_at dksX0_votes_0 17 rfl rfl)
theorem dX0_votes_18 : decode cX0_votes 18 = .ok (.invokevirtual 450, 3) := dk_182 1 194 (dk_at dksX0_votes_0 18 rfl rfl)
theorem dX0_votes_21 : decode cX0_votes 21 = .ok (.ifCond .eq 13, 3) := dk_153 0 13 (dk_at dksX0_votes_0 21 rfl rfl)
theorem dX0_votes_24 : decode cX0_votes 24 = .ok (.aload_n 0, 1) := dk_42 (dk_at dksX0_votes_1 0 rfl rfl)
theorem dX0_votes_25 : decode cX0_votes 25 = .ok (.iload_n 1, 1) := dk_27 (dk_at dksX0_votes_1 1 rfl rfl)
theorem dX0_votes_26 : decode cX0_votes 26 = .ok (.iload_n 2, 1) := dk_28 (dk_at dksX0_votes_1 2 rfl rfl)
theorem dX0_votes_27 : decode cX0_votes 27 = .ok (.iload_n 3, 1) := dk_29 (dk_at dksX0_votes_1 3 rfl rfl)
theorem dX0_votes_28 : decode cX0_votes 28 = .ok (.invokevirtual 453, 3) := dk_182 1 197 (dk_at dksX0_votes_1 4 rfl rfl)
theorem dX0_votes_31 : decode cX0_votes 31 = .ok (.goto 4, 3) := dk_167 0 4 (dk_at dksX0_votes_1 7 rfl rfl)
theorem dX0_votes_34 : decode cX0_votes 34 = .ok (.iconst (-1), 1) := dk_2 (dk_at dksX0_votes_1 10 rfl rfl)
theorem dX0_votes_35 : decode cX0_votes 35 = .ok (.ireturn, 1) := dk_172 (dk_at dksX0_votes_1 11 rfl rfl)
abbrev cX0_isKnown : ByteArray := prog_1_method_79_code
def yX0_isKnown : MethodName := ⟨RX0, "isKnown", "(I)Z"⟩
def dkwX0_isKnown_0 : List UInt8 := [27, 3, 42, 180, 0, 48, 180, 1, 162, 182, 0, 131, 184, 0, 174, 172]
abbrev dktX0_isKnown_0 : List UInt8 := dkwX0_isKnown_0 ++ []
theorem dksX0_isKnown_0 : cX0_isKnown.data.toList.drop 0 = dktX0_isKnown_0 := by decide +kernel
theorem dX0_isKnown_0 : decode cX0_isKnown 0 = .ok (.iload_n 1, 1) := dk_27 (dk_at dksX0_isKnown_0 0 rfl rfl)
theorem dX0_isKnown_1 : decode cX0_isKnown 1 = .ok (.iconst 0, 1) := dk_3 (dk_at dksX0_isKnown_0 1 rfl rfl)
theorem dX0_isKnown_2 : decode cX0_isKnown 2 = .ok (.aload_n 0, 1) := dk_42 (dk_at dksX0_isKnown_0 2 rfl rfl)
theorem dX0_isKnown_3 : decode cX0_isKnown 3 = .ok (.getfield 48, 3) := dk_180 0 48 (dk_at dksX0_isKnown_0 3 rfl rfl)
theorem dX0_isKnown_6 : decode cX0_isKnown 6 = .ok (.getfield 418, 3) := dk_180 1 162 (dk_at dksX0_isKnown_0 6 rfl rfl)
theorem dX0_isKnown_9 : decode cX0_isKnown 9 = .ok (.invokevirtual 131, 3) := dk_182 0 131 (dk_at dksX0_isKnown_0 9 rfl rfl)
theorem dX0_isKnown_12 : decode cX0_isKnown 12 = .ok (.invokestatic 174, 3) := dk_184 0 174 (dk_at dksX0_isKnown_0 12 rfl rfl)
theorem dX0_isKnown_15 : decode cX0_isKnown 15 = .ok (.ireturn, 1) := dk_172 (dk_at dksX0_isKnown_0 15 rfl rfl)
abbrev cX0_votesFor : ByteArray := prog_1_method_82_code
def yX0_votesFor : MethodName := ⟨RX0, "votesFor", "(III)I"⟩
def dkwX0_votesFor_1 : List UInt8 := [160, 0, 6, 132, 4, 1, 132, 5, 1, 167, 255, 229, 21, 4, 172]
abbrev dktX0_votesFor_1 : List UInt8 := dkwX0_votesFor_1 ++ []
def dkwX0_votesFor_0 : List UInt8 := [3, 54, 4, 3, 54, 5, 21, 5, 42, 182, 0, 172, 162, 0, 24, 42, 21, 5, 27, 29, 182, 1, 191, 28]
abbrev dktX0_votesFor_0 : List UInt8 := dkwX0_votesFor_0 ++ dktX0_votesFor_1
theorem dksX0_votesFor_0 : cX0_votesFor.data.toList.drop 0 = dktX0_votesFor_0 := by decide +kernel
theorem dksX0_votesFor_1 : cX0_votesFor.data.toList.drop 24 = dktX0_votesFor_1 := dk_seg dksX0_votesFor_0 24 rfl rfl
theorem dX0_votesFor_0 : decode cX0_votesFor 0 = .ok (.iconst 0, 1) := dk_3 (dk_at dksX0_votesFor_0 0 rfl rfl)
theorem dX0_votesFor_1 : decode cX0_votesFor 1 = .ok (.istore 4, 2) := dk_54 4 (dk_at dksX0_votesFor_0 1 rfl rfl)
theorem dX0_votesFor_3 : decode cX0_votesFor 3 = .ok (.iconst 0, 1) := dk_3 (dk_at dksX0_votesFor_0 3 rfl rfl)
theorem dX0_votesFor_4 : decode cX0_votesFor 4 = .ok (.istore 5, 2) := dk_54 5 (dk_at dksX0_votesFor_0 4 rfl rfl)
theorem dX0_votesFor_6 : decode cX0_votesFor 6 = .ok (.iload 5, 2) := dk_21 5 (dk_at dksX0_votesFor_0 6 rfl rfl)
theorem dX0_votesFor_8 : decode cX0_votesFor 8 = .ok (.aload_n 0, 1) := dk_42 (dk_at dksX0_votesFor_0 8 rfl rfl)
theorem dX0_votesFor_9 : decode cX0_votesFor 9 = .ok (.invokevirtual 172, 3) := dk_182 0 172 (dk_at dksX0_votesFor_0 9 rfl rfl)
theorem dX0_votesFor_12 : decode cX0_votesFor 12 = .ok (.if_icmp .ge 24, 3) := dk_162 0 24 (dk_at dksX0_votesFor_0 12 rfl rfl)
theorem dX0_votesFor_15 : decode cX0_votesFor 15 = .ok (.aload_n 0, 1) := dk_42 (dk_at dksX0_votesFor_0 15 rfl rfl)
theorem dX0_votesFor_16 : decode cX0_votesFor 16 = .ok (.iload 5, 2) := dk_21 5 (dk_at dksX0_votesFor_0 16 rfl rfl)
theorem dX0_votesFor_18 : decode cX0_votesFor 18 = .ok (.iload_n 1, 1) := dk_27 (dk_at dksX0_votesFor_0 18 rfl rfl)
theorem dX0_votesFor_19 : decode cX0_votesFor 19 = .ok (.iload_n 3, 1) := dk_29 (dk_at dksX0_votesFor_0 19 rfl rfl)
theorem dX0_votesFor_20 : decode cX0_votesFor 20 = .ok (.invokevirtual 447, 3) := dk_182 1 191 (dk_at dksX0_votesFor_0 20 rfl rfl)
theorem dX0_votesFor_23 : decode cX0_votesFor 23 = .ok (.iload_n 2, 1) := dk_28 (dk_at dksX0_votesFor_0 23 rfl rfl)
theorem dX0_votesFor_24 : decode cX0_votesFor 24 = .ok (.if_icmp .ne 6, 3) := dk_160 0 6 (dk_at dksX0_votesFor_1 0 rfl rfl)
theorem dX0_votesFor_27 : decode cX0_votesFor 27 = .ok (.iinc 4 1, 3) := dk_132 4 1 (dk_at dksX0_votesFor_1 3 rfl rfl)
theorem dX0_votesFor_30 : decode cX0_votesFor 30 = .ok (.iinc 5 1, 3) := dk_132 5 1 (dk_at dksX0_votesFor_1 6 rfl rfl)
theorem dX0_votesFor_33 : decode cX0_votesFor 33 = .ok (.goto (-27), 3) := dk_167 255 229 (dk_at dksX0_votesFor_1 9 rfl rfl)
theorem dX0_votesFor_36 : decode cX0_votesFor 36 = .ok (.iload 4, 2) := dk_21 4 (dk_at dksX0_votesFor_1 12 rfl rfl)
theorem dX0_votesFor_38 : decode cX0_votesFor 38 = .ok (.ireturn, 1) := dk_172 (dk_at dksX0_votesFor_1 14 rfl rfl)
abbrev cX0_voteOf : ByteArray := prog_1_method_81_code
def yX0_voteOf : MethodName := ⟨RX0, "voteOf", "(III)I"⟩
def dkwX0_voteOf_3 : List UInt8 := [132, 4, 255, 167, 255, 189, 2, 172]
abbrev dktX0_voteOf_3 : List UInt8 := dkwX0_voteOf_3 ++ []
def dkwX0_voteOf_2 : List UInt8 := [180, 1, 182, 28, 160, 0, 19, 42, 21, 4, 29, 182, 1, 185, 153, 0, 9, 25, 5, 180, 1, 188, 172]
abbrev dktX0_voteOf_2 : List UInt8 := dkwX0_voteOf_2 ++ dktX0_voteOf_3
def dkwX0_voteOf_1 : List UInt8 := [192, 1, 168, 58, 5, 25, 5, 180, 1, 176, 154, 0, 37, 25, 5, 180, 1, 179, 27, 160, 0, 28, 25, 5]
abbrev dktX0_voteOf_1 : List UInt8 := dkwX0_voteOf_1 ++ dktX0_voteOf_2
def dkwX0_voteOf_0 : List UInt8 := [29, 4, 100, 54, 4, 21, 4, 155, 0, 68, 42, 180, 0, 48, 180, 1, 162, 21, 4, 182, 0, 140]
abbrev dktX0_voteOf_0 : List UInt8 := dkwX0_voteOf_0 ++ dktX0_voteOf_1
theorem dksX0_voteOf_0 : cX0_voteOf.data.toList.drop 0 = dktX0_voteOf_0 := by decide +kernel
theorem dksX0_voteOf_1 : cX0_voteOf.data.toList.drop 22 = dktX0_voteOf_1 := dk_seg dksX0_voteOf_0 22 rfl rfl
theorem dksX0_voteOf_2 : cX0_voteOf.data.toList.drop 46 = dktX0_voteOf_2 := dk_seg dksX0_voteOf_1 24 rfl rfl
theorem dksX0_voteOf_3 : cX0_voteOf.data.toList.drop 69 = dktX0_voteOf_3 := dk_seg dksX0_voteOf_2 23 rfl rfl
theorem dX0_voteOf_0 : decode cX0_voteOf 0 = .ok (.iload_n 3, 1) := dk_29 (dk_at dksX0_voteOf_0 0 rfl rfl)
theorem dX0_voteOf_1 : decode cX0_voteOf 1 = .ok (.iconst 1, 1) := dk_4 (dk_at dksX0_voteOf_0 1 rfl rfl)
theorem dX0_voteOf_2 : decode cX0_voteOf 2 = .ok (.isub, 1) := dk_100 (dk_at dksX0_voteOf_0 2 rfl rfl)
theorem dX0_voteOf_3 : decode cX0_voteOf 3 = .ok (.istore 4, 2) := dk_54 4 (dk_at dksX0_voteOf_0 3 rfl rfl)
theorem dX0_voteOf_5 : decode cX0_voteOf 5 = .ok (.iload 4, 2) := dk_21 4 (dk_at dksX0_voteOf_0 5 rfl rfl)
theorem dX0_voteOf_7 : decode cX0_voteOf 7 = .ok (.ifCond .lt 68, 3) := dk_155 0 68 (dk_at dksX0_voteOf_0 7 rfl rfl)
theorem dX0_voteOf_10 : decode cX0_voteOf 10 = .ok (.aload_n 0, 1) := dk_42 (dk_at dksX0_voteOf_0 10 rfl rfl)
theorem dX0_voteOf_11 : decode cX0_voteOf 11 = .ok (.getfield 48, 3) := dk_180 0 48 (dk_at dksX0_voteOf_0 11 rfl rfl)
theorem dX0_voteOf_14 : decode cX0_voteOf 14 = .ok (.getfield 418, 3) := dk_180 1 162 (dk_at dksX0_voteOf_0 14 rfl rfl)
theorem dX0_voteOf_17 : decode cX0_voteOf 17 = .ok (.iload 4, 2) := dk_21 4 (dk_at dksX0_voteOf_0 17 rfl rfl)
theorem dX0_voteOf_19 : decode cX0_voteOf 19 = .ok (.invokevirtual 140, 3) := dk_182 0 140 (dk_at dksX0_voteOf_0 19 rfl rfl)
theorem dX0_voteOf_22 : decode cX0_voteOf 22 = .ok (.checkcast 424, 3) := dk_192 1 168 (dk_at dksX0_voteOf_1 0 rfl rfl)
theorem dX0_voteOf_25 : decode cX0_voteOf 25 = .ok (.astore 5, 2) := dk_58 5 (dk_at dksX0_voteOf_1 3 rfl rfl)
theorem dX0_voteOf_27 : decode cX0_voteOf 27 = .ok (.aload 5, 2) := dk_25 5 (dk_at dksX0_voteOf_1 5 rfl rfl)
theorem dX0_voteOf_29 : decode cX0_voteOf 29 = .ok (.getfield 432, 3) := dk_180 1 176 (dk_at dksX0_voteOf_1 7 rfl rfl)
theorem dX0_voteOf_32 : decode cX0_voteOf 32 = .ok (.ifCond .ne 37, 3) := dk_154 0 37 (dk_at dksX0_voteOf_1 10 rfl rfl)
theorem dX0_voteOf_35 : decode cX0_voteOf 35 = .ok (.aload 5, 2) := dk_25 5 (dk_at dksX0_voteOf_1 13 rfl rfl)
theorem dX0_voteOf_37 : decode cX0_voteOf 37 = .ok (.getfield 435, 3) := dk_180 1 179 (dk_at dksX0_voteOf_1 15 rfl rfl)
theorem dX0_voteOf_40 : decode cX0_voteOf 40 = .ok (.iload_n 1, 1) := dk_27 (dk_at dksX0_voteOf_1 18 rfl rfl)
theorem dX0_voteOf_41 : decode cX0_voteOf 41 = .ok (.if_icmp .ne 28, 3) := dk_160 0 28 (dk_at dksX0_voteOf_1 19 rfl rfl)
theorem dX0_voteOf_44 : decode cX0_voteOf 44 = .ok (.aload 5, 2) := dk_25 5 (dk_at dksX0_voteOf_1 22 rfl rfl)
theorem dX0_voteOf_46 : decode cX0_voteOf 46 = .ok (.getfield 438, 3) := dk_180 1 182 (dk_at dksX0_voteOf_2 0 rfl rfl)
theorem dX0_voteOf_49 : decode cX0_voteOf 49 = .ok (.iload_n 2, 1) := dk_28 (dk_at dksX0_voteOf_2 3 rfl rfl)
theorem dX0_voteOf_50 : decode cX0_voteOf 50 = .ok (.if_icmp .ne 19, 3) := dk_160 0 19 (dk_at dksX0_voteOf_2 4 rfl rfl)
theorem dX0_voteOf_53 : decode cX0_voteOf 53 = .ok (.aload_n 0, 1) := dk_42 (dk_at dksX0_voteOf_2 7 rfl rfl)
theorem dX0_voteOf_54 : decode cX0_voteOf 54 = .ok (.iload 4, 2) := dk_21 4 (dk_at dksX0_voteOf_2 8 rfl rfl)
theorem dX0_voteOf_56 : decode cX0_voteOf 56 = .ok (.iload_n 3, 1) := dk_29 (dk_at dksX0_voteOf_2 10 rfl rfl)
theorem dX0_voteOf_57 : decode cX0_voteOf 57 = .ok (.invokevirtual 441, 3) := dk_182 1 185 (dk_at dksX0_voteOf_2 11 rfl rfl)
theorem dX0_voteOf_60 : decode cX0_voteOf 60 = .ok (.ifCond .eq 9, 3) := dk_153 0 9 (dk_at dksX0_voteOf_2 14 rfl rfl)
theorem dX0_voteOf_63 : decode cX0_voteOf 63 = .ok (.aload 5, 2) := dk_25 5 (dk_at dksX0_voteOf_2 17 rfl rfl)
theorem dX0_voteOf_65 : decode cX0_voteOf 65 = .ok (.getfield 444, 3) := dk_180 1 188 (dk_at dksX0_voteOf_2 19 rfl rfl)
theorem dX0_voteOf_68 : decode cX0_voteOf 68 = .ok (.ireturn, 1) := dk_172 (dk_at dksX0_voteOf_2 22 rfl rfl)
theorem dX0_voteOf_69 : decode cX0_voteOf 69 = .ok (.iinc 4 (-1), 3) := dk_132 4 255 (dk_at dksX0_voteOf_3 0 rfl rfl)
theorem dX0_voteOf_72 : decode cX0_voteOf 72 = .ok (.goto (-67), 3) := dk_167 255 189 (dk_at dksX0_voteOf_3 3 rfl rfl)
theorem dX0_voteOf_75 : decode cX0_voteOf 75 = .ok (.iconst (-1), 1) := dk_2 (dk_at dksX0_voteOf_3 6 rfl rfl)
theorem dX0_voteOf_76 : decode cX0_voteOf 76 = .ok (.ireturn, 1) := dk_172 (dk_at dksX0_voteOf_3 7 rfl rfl)
abbrev cX0_counts : ByteArray := prog_1_method_80_code
def yX0_counts : MethodName := ⟨RX0, "counts", "(II)Z"⟩
def dkwX0_counts_2 : List UInt8 := [27, 160, 0, 5, 3, 172, 132, 3, 1, 167, 255, 204, 4, 172]
abbrev dktX0_counts_2 : List UInt8 := dkwX0_counts_2 ++ []
def dkwX0_counts_1 : List UInt8 := [180, 1, 176, 5, 160, 0, 26, 42, 180, 0, 48, 180, 1, 162, 29, 182, 0, 140, 192, 1, 168, 180, 1, 179]
abbrev dktX0_counts_1 : List UInt8 := dkwX0_counts_1 ++ dktX0_counts_2
def dkwX0_counts_0 : List UInt8 := [27, 4, 96, 62, 29, 28, 162, 0, 53, 42, 180, 0, 48, 180, 1, 162, 29, 182, 0, 140, 192, 1, 168]
abbrev dktX0_counts_0 : List UInt8 := dkwX0_counts_0 ++ dktX0_counts_1
theorem dksX0_counts_0 : cX0_counts.data.toList.drop 0 = dktX0_counts_0 := by decide +kernel
theorem dksX0_counts_1 : cX0_counts.data.toList.drop 23 = dktX0_counts_1 := dk_seg dksX0_counts_0 23 rfl rfl
theorem dksX0_counts_2 : cX0_counts.data.toList.drop 47 = dktX0_counts_2 := dk_seg dksX0_counts_1 24 rfl rfl
theorem dX0_counts_0 : decode cX0_counts 0 = .ok (.iload_n 1, 1) := dk_27 (dk_at dksX0_counts_0 0 rfl rfl)
theorem dX0_counts_1 : decode cX0_counts 1 = .ok (.iconst 1, 1) := dk_4 (dk_at dksX0_counts_0 1 rfl rfl)
theorem dX0_counts_2 : decode cX0_counts 2 = .ok (.iadd, 1) := dk_96 (dk_at dksX0_counts_0 2 rfl rfl)
theorem dX0_counts_3 : decode cX0_counts 3 = .ok (.istore_n 3, 1) := dk_62 (dk_at dksX0_counts_0 3 rfl rfl)
theorem dX0_counts_4 : decode cX0_counts 4 = .ok (.iload_n 3, 1) := dk_29 (dk_at dksX0_counts_0 4 rfl rfl)
theorem dX0_counts_5 : decode cX0_counts 5 = .ok (.iload_n 2, 1) := dk_28 (dk_at dksX0_counts_0 5 rfl rfl)
theorem dX0_counts_6 : decode cX0_counts 6 = .ok (.if_icmp .ge 53, 3) := dk_162 0 53 (dk_at dksX0_counts_0 6 rfl rfl)
theorem dX0_counts_9 : decode cX0_counts 9 = .ok (.aload_n 0, 1) := dk_42 (dk_at dksX0_counts_0 9 rfl rfl)
theorem dX0_counts_10 : decode cX0_counts 10 = .ok (.getfield 48, 3) := dk_180 0 48 (dk_at dksX0_counts_0 10 rfl rfl)
theorem dX0_counts_13 : decode cX0_counts 13 = .ok (.getfield 418, 3) := dk_180 1 162 (dk_at dksX0_counts_0 13 rfl rfl)
theorem dX0_counts_16 : decode cX0_counts 16 = .ok (.iload_n 3, 1) := dk_29 (dk_at dksX0_counts_0 16 rfl rfl)
theorem dX0_counts_17 : decode cX0_counts 17 = .ok (.invokevirtual 140, 3) := dk_182 0 140 (dk_at dksX0_counts_0 17 rfl rfl)
theorem dX0_counts_20 : decode cX0_counts 20 = .ok (.checkcast 424, 3) := dk_192 1 168 (dk_at dksX0_counts_0 20 rfl rfl)
theorem dX0_counts_23 : decode cX0_counts 23 = .ok (.getfield 432, 3) := dk_180 1 176 (dk_at dksX0_counts_1 0 rfl rfl)
theorem dX0_counts_26 : decode cX0_counts 26 = .ok (.iconst 2, 1) := dk_5 (dk_at dksX0_counts_1 3 rfl rfl)
theorem dX0_counts_27 : decode cX0_counts 27 = .ok (.if_icmp .ne 26, 3) := dk_160 0 26 (dk_at dksX0_counts_1 4 rfl rfl)
theorem dX0_counts_30 : decode cX0_counts 30 = .ok (.aload_n 0, 1) := dk_42 (dk_at dksX0_counts_1 7 rfl rfl)
theorem dX0_counts_31 : decode cX0_counts 31 = .ok (.getfield 48, 3) := dk_180 0 48 (dk_at dksX0_counts_1 8 rfl rfl)
theorem dX0_counts_34 : decode cX0_counts 34 = .ok (.getfield 418, 3) := dk_180 1 162 (dk_at dksX0_counts_1 11 rfl rfl)
theorem dX0_counts_37 : decode cX0_counts 37 = .ok (.iload_n 3, 1) := dk_29 (dk_at dksX0_counts_1 14 rfl rfl)
theorem dX0_counts_38 : decode cX0_counts 38 = .ok (.invokevirtual 140, 3) := dk_182 0 140 (dk_at dksX0_counts_1 15 rfl rfl)
theorem dX0_counts_41 : decode cX0_counts 41 = .ok (.checkcast 424, 3) := dk_192 1 168 (dk_at dksX0_counts_1 18 rfl rfl)
theorem dX0_counts_44 : decode cX0_counts 44 = .ok (.getfield 435, 3) := dk_180 1 179 (dk_at dksX0_counts_1 21 rfl rfl)
theorem dX0_counts_47 : decode cX0_counts 47 = .ok (.iload_n 1, 1) := dk_27 (dk_at dksX0_counts_2 0 rfl rfl)
theorem dX0_counts_48 : decode cX0_counts 48 = .ok (.if_icmp .ne 5, 3) := dk_160 0 5 (dk_at dksX0_counts_2 1 rfl rfl)
theorem dX0_counts_51 : decode cX0_counts 51 = .ok (.iconst 0, 1) := dk_3 (dk_at dksX0_counts_2 4 rfl rfl)
theorem dX0_counts_52 : decode cX0_counts 52 = .ok (.ireturn, 1) := dk_172 (dk_at dksX0_counts_2 5 rfl rfl)
theorem dX0_counts_53 : decode cX0_counts 53 = .ok (.iinc 3 1, 3) := dk_132 3 1 (dk_at dksX0_counts_2 6 rfl rfl)
theorem dX0_counts_56 : decode cX0_counts 56 = .ok (.goto (-52), 3) := dk_167 255 204 (dk_at dksX0_counts_2 9 rfl rfl)
theorem dX0_counts_59 : decode cX0_counts 59 = .ok (.iconst 1, 1) := dk_4 (dk_at dksX0_counts_2 12 rfl rfl)
theorem dX0_counts_60 : decode cX0_counts 60 = .ok (.ireturn, 1) := dk_172 (dk_at dksX0_counts_2 13 rfl rfl)
abbrev cX0_winner : ByteArray := prog_1_method_84_code
def yX0_winner : MethodName := ⟨RX0, "winner", "(II)I"⟩
def dkwX0_winner_4 : List UInt8 := [54, 4, 132, 5, 1, 167, 255, 183, 29, 172]
abbrev dktX0_winner_4 : List UInt8 := dkwX0_winner_4 ++ []
def dkwX0_winner_3 : List UInt8 := [21, 5, 46, 42, 180, 0, 48, 180, 0, 137, 29, 46, 163, 0, 6, 167, 0, 10, 21, 5, 62, 21, 6]
abbrev dktX0_winner_3 : List UInt8 := dkwX0_winner_3 ++ dktX0_winner_4
def dkwX0_winner_2 : List UInt8 := [153, 0, 49, 21, 6, 21, 4, 161, 0, 42, 21, 6, 21, 4, 160, 0, 28, 42, 180, 0, 48, 180, 0, 137]
abbrev dktX0_winner_2 : List UInt8 := dkwX0_winner_2 ++ dktX0_winner_3
def dkwX0_winner_1 : List UInt8 := [3, 54, 5, 21, 5, 42, 182, 0, 172, 162, 0, 70, 42, 27, 21, 5, 28, 182, 1, 197, 54, 6, 21, 6]
abbrev dktX0_winner_1 : List UInt8 := dkwX0_winner_1 ++ dktX0_winner_2
def dkwX0_winner_0 : List UInt8 := [42, 27, 182, 0, 217, 153, 0, 11, 42, 28, 182, 1, 194, 154, 0, 5, 2, 172, 16, 254, 62, 3, 54, 4]
abbrev dktX0_winner_0 : List UInt8 := dkwX0_winner_0 ++ dktX0_winner_1
theorem dksX0_winner_0 : cX0_winner.data.toList.drop 0 = dktX0_winner_0 := by decide +kernel
theorem dksX0_winner_1 : cX0_winner.data.toList.drop 24 = dktX0_winner_1 := dk_seg dksX0_winner_0 24 rfl rfl
theorem dksX0_winner_2 : cX0_winner.data.toList.drop 48 = dktX0_winner_2 := dk_seg dksX0_winner_1 24 rfl rfl
theorem dksX0_winner_3 : cX0_winner.data.toList.drop 72 = dktX0_winner_3 := dk_seg dksX0_winner_2 24 rfl rfl
theorem dksX0_winner_4 : cX0_winner.data.toList.drop 95 = dktX0_winner_4 := dk_seg dksX0_winner_3 23 rfl rfl
theorem dX0_winner_0 : decode cX0_winner 0 = .ok (.aload_n 0, 1) := dk_42 (dk_at dksX0_winner_0 0 rfl rfl)
theorem dX0_winner_1 : decode cX0_winner 1 = .ok (.iload_n 1, 1) := dk_27 (dk_at dksX0_winner_0 1 rfl rfl)
theorem dX0_winner_2 : decode cX0_winner 2 = .ok (.invokevirtual 217, 3) := dk_182 0 217 (dk_at dksX0_winner_0 2 rfl rfl)
theorem dX0_winner_5 : decode cX0_winner 5 = .ok (.ifCond .eq 11, 3) := dk_153 0 11 (dk_at dksX0_winner_0 5 rfl rfl)
theorem dX0_winner_8 : decode cX0_winner 8 = .ok (.aload_n 0, 1) := dk_42 (dk_at dksX0_winner_0 8 rfl rfl)
theorem dX0_winner_9 : decode cX0_winner 9 = .ok (.iload_n 2, 1) := dk_28 (dk_at dksX0_winner_0 9 rfl rfl)
theorem dX0_winner_10 : decode cX0_winner 10 = .ok (.invokevirtual 450, 3) := dk_182 1 194 (dk_at dksX0_winner_0 10 rfl rfl)
theorem dX0_winner_13 : decode cX0_winner 13 = .ok (.ifCond .ne 5, 3) := dk_154 0 5 (dk_at dksX0_winner_0 13 rfl rfl)
theorem dX0_winner_16 : decode cX0_winner 16 = .ok (.iconst (-1), 1) := dk_2 (dk_at dksX0_winner_0 16 rfl rfl)
theorem dX0_winner_17 : decode cX0_winner 17 = .ok (.ireturn, 1) := dk_172 (dk_at dksX0_winner_0 17 rfl rfl)
theorem dX0_winner_18 : decode cX0_winner 18 = .ok (.bipush (-2), 2) := dk_16 254 (dk_at dksX0_winner_0 18 rfl rfl)
theorem dX0_winner_20 : decode cX0_winner 20 = .ok (.istore_n 3, 1) := dk_62 (dk_at dksX0_winner_0 20 rfl rfl)
theorem dX0_winner_21 : decode cX0_winner 21 = .ok (.iconst 0, 1) := dk_3 (dk_at dksX0_winner_0 21 rfl rfl)
theorem dX0_winner_22 : decode cX0_winner 22 = .ok (.istore 4, 2) := dk_54 4 (dk_at dksX0_winner_0 22 rfl rfl)
theorem dX0_winner_24 : decode cX0_winner 24 = .ok (.iconst 0, 1) := dk_3 (dk_at dksX0_winner_1 0 rfl rfl)
theorem dX0_winner_25 : decode cX0_winner 25 = .ok (.istore 5, 2) := dk_54 5 (dk_at dksX0_winner_1 1 rfl rfl)
theorem dX0_winner_27 : decode cX0_winner 27 = .ok (.iload 5, 2) := dk_21 5 (dk_at dksX0_winner_1 3 rfl rfl)
theorem dX0_winner_29 : decode cX0_winner 29 = .ok (.aload_n 0, 1) := dk_42 (dk_at dksX0_winner_1 5 rfl rfl)
theorem dX0_winner_30 : decode cX0_winner 30 = .ok (.invokevirtual 172, 3) := dk_182 0 172 (dk_at dksX0_winner_1 6 rfl rfl)
theorem dX0_winner_33 : decode cX0_winner 33 = .ok (.if_icmp .ge 70, 3) := dk_162 0 70 (dk_at dksX0_winner_1 9 rfl rfl)
theorem dX0_winner_36 : decode cX0_winner 36 = .ok (.aload_n 0, 1) := dk_42 (dk_at dksX0_winner_1 12 rfl rfl)
theorem dX0_winner_37 : decode cX0_winner 37 = .ok (.iload_n 1, 1) := dk_27 (dk_at dksX0_winner_1 13 rfl rfl)
theorem dX0_winner_38 : decode cX0_winner 38 = .ok (.iload 5, 2) := dk_21 5 (dk_at dksX0_winner_1 14 rfl rfl)
theorem dX0_winner_40 : decode cX0_winner 40 = .ok (.iload_n 2, 1) := dk_28 (dk_at dksX0_winner_1 16 rfl rfl)
theorem dX0_winner_41 : decode cX0_winner 41 = .ok (.invokevirtual 453, 3) := dk_182 1 197 (dk_at dksX0_winner_1 17 rfl rfl)
theorem dX0_winner_44 : decode cX0_winner 44 = .ok (.istore 6, 2) := dk_54 6 (dk_at dksX0_winner_1 20 rfl rfl)
theorem dX0_winner_46 : decode cX0_winner 46 = .ok (.iload 6, 2) := dk_21 6 (dk_at dksX0_winner_1 22 rfl rfl)
theorem dX0_winner_48 : decode cX0_winner 48 = .ok (.ifCond .eq 49, 3) := dk_153 0 49 (dk_at dksX0_winner_2 0 rfl rfl)
theorem dX0_winner_51 : decode cX0_winner 51 = .ok (.iload 6, 2) := dk_21 6 (dk_at dksX0_winner_2 3 rfl rfl)
theorem dX0_winner_53 : decode cX0_winner 53 = .ok (.iload 4, 2) := dk_21 4 (dk_at dksX0_winner_2 5 rfl rfl)
theorem dX0_winner_55 : decode cX0_winner 55 = .ok (.if_icmp .lt 42, 3) := dk_161 0 42 (dk_at dksX0_winner_2 7 rfl rfl)
theorem dX0_winner_58 : decode cX0_winner 58 = .ok (.iload 6, 2) := dk_21 6 (dk_at dksX0_winner_2 10 rfl rfl)
theorem dX0_winner_60 : decode cX0_winner 60 = .ok (.iload 4, 2) := dk_21 4 (dk_at dksX0_winner_2 12 rfl rfl)
theorem dX0_winner_62 : decode cX0_winner 62 = .ok (.if_icmp .ne 28, 3) := dk_160 0 28 (dk_at dksX0_winner_2 14 rfl rfl)
theorem dX0_winner_65 : decode cX0_winner 65 = .ok (.aload_n 0, 1) := dk_42 (dk_at dksX0_winner_2 17 rfl rfl)
theorem dX0_winner_66 : decode cX0_winner 66 = .ok (.getfield 48, 3) := dk_180 0 48 (dk_at dksX0_winner_2 18 rfl rfl)
theorem dX0_winner_69 : decode cX0_winner 69 = .ok (.getfield 137, 3) := dk_180 0 137 (dk_at dksX0_winner_2 21 rfl rfl)
theorem dX0_winner_72 : decode cX0_winner 72 = .ok (.iload 5, 2) := dk_21 5 (dk_at dksX0_winner_3 0 rfl rfl)
theorem dX0_winner_74 : decode cX0_winner 74 = .ok (.iaload, 1) := dk_46 (dk_at dksX0_winner_3 2 rfl rfl)
theorem dX0_winner_75 : decode cX0_winner 75 = .ok (.aload_n 0, 1) := dk_42 (dk_at dksX0_winner_3 3 rfl rfl)
theorem dX0_winner_76 : decode cX0_winner 76 = .ok (.getfield 48, 3) := dk_180 0 48 (dk_at dksX0_winner_3 4 rfl rfl)
theorem dX0_winner_79 : decode cX0_winner 79 = .ok (.getfield 137, 3) := dk_180 0 137 (dk_at dksX0_winner_3 7 rfl rfl)
theorem dX0_winner_82 : decode cX0_winner 82 = .ok (.iload_n 3, 1) := dk_29 (dk_at dksX0_winner_3 10 rfl rfl)
theorem dX0_winner_83 : decode cX0_winner 83 = .ok (.iaload, 1) := dk_46 (dk_at dksX0_winner_3 11 rfl rfl)
theorem dX0_winner_84 : decode cX0_winner 84 = .ok (.if_icmp .gt 6, 3) := dk_163 0 6 (dk_at dksX0_winner_3 12 rfl rfl)
theorem dX0_winner_87 : decode cX0_winner 87 = .ok (.goto 10, 3) := dk_167 0 10 (dk_at dksX0_winner_3 15 rfl rfl)
theorem dX0_winner_90 : decode cX0_winner 90 = .ok (.iload 5, 2) := dk_21 5 (dk_at dksX0_winner_3 18 rfl rfl)
theorem dX0_winner_92 : decode cX0_winner 92 = .ok (.istore_n 3, 1) := dk_62 (dk_at dksX0_winner_3 20 rfl rfl)
theorem dX0_winner_93 : decode cX0_winner 93 = .ok (.iload 6, 2) := dk_21 6 (dk_at dksX0_winner_3 21 rfl rfl)
theorem dX0_winner_95 : decode cX0_winner 95 = .ok (.istore 4, 2) := dk_54 4 (dk_at dksX0_winner_4 0 rfl rfl)
theorem dX0_winner_97 : decode cX0_winner 97 = .ok (.iinc 5 1, 3) := dk_132 5 1 (dk_at dksX0_winner_4 2 rfl rfl)
theorem dX0_winner_100 : decode cX0_winner 100 = .ok (.goto (-73), 3) := dk_167 255 183 (dk_at dksX0_winner_4 5 rfl rfl)
theorem dX0_winner_103 : decode cX0_winner 103 = .ok (.iload_n 3, 1) := dk_29 (dk_at dksX0_winner_4 8 rfl rfl)
theorem dX0_winner_104 : decode cX0_winner 104 = .ok (.ireturn, 1) := dk_172 (dk_at dksX0_winner_4 9 rfl rfl)
abbrev cX0_ends : ByteArray := prog_1_method_85_code
def yX0_ends : MethodName := ⟨RX0, "ends", "(IIII)I"⟩
def dkwX0_ends_9 : List UInt8 := [184, 0, 7, 54, 6, 132, 7, 1, 167, 255, 89, 16, 100, 21, 5, 104, 21, 6, 96, 172]
abbrev dktX0_ends_9 : List UInt8 := dkwX0_ends_9 ++ []
def dkwX0_ends_8 : List UInt8 := [25, 8, 180, 1, 188, 21, 9, 100, 184, 0, 1, 54, 5, 21, 6, 25, 8, 180, 1, 188, 21, 9, 96]
abbrev dktX0_ends_8 : List UInt8 := dkwX0_ends_8 ++ dktX0_ends_9
def dkwX0_ends_7 : List UInt8 := [172, 132, 9, 1, 167, 255, 181, 29, 28, 25, 8, 180, 1, 182, 100, 184, 0, 250, 104, 54, 9, 21, 5]
abbrev dktX0_ends_7 : List UInt8 := dkwX0_ends_7 ++ dktX0_ends_8
def dkwX0_ends_6 : List UInt8 := [184, 0, 250, 29, 25, 8, 180, 1, 182, 25, 10, 180, 1, 182, 100, 184, 0, 250, 104, 164, 0, 6, 16, 254]
abbrev dktX0_ends_6 : List UInt8 := dkwX0_ends_6 ++ dktX0_ends_7
def dkwX0_ends_5 : List UInt8 := [42, 21, 9, 27, 21, 4, 182, 1, 200, 153, 0, 39, 25, 8, 180, 1, 188, 25, 10, 180, 1, 188, 100]
abbrev dktX0_ends_5 : List UInt8 := dkwX0_ends_5 ++ dktX0_ends_6
def dkwX0_ends_4 : List UInt8 := [21, 9, 21, 7, 162, 0, 74, 42, 180, 0, 48, 180, 1, 162, 21, 9, 182, 0, 140, 192, 1, 168, 58, 10]
abbrev dktX0_ends_4 : List UInt8 := dkwX0_ends_4 ++ dktX0_ends_5
def dkwX0_ends_3 : List UInt8 := [167, 0, 145, 42, 180, 0, 48, 180, 1, 162, 21, 7, 182, 0, 140, 192, 1, 168, 58, 8, 3, 54, 9]
abbrev dktX0_ends_3 : List UInt8 := dkwX0_ends_3 ++ dktX0_ends_4
def dkwX0_ends_2 : List UInt8 := [3, 54, 7, 21, 7, 21, 4, 162, 0, 166, 42, 21, 7, 27, 21, 4, 182, 1, 200, 154, 0, 6]
abbrev dktX0_ends_2 : List UInt8 := dkwX0_ends_2 ++ dktX0_ends_3
def dkwX0_ends_1 : List UInt8 := [184, 0, 174, 153, 0, 12, 42, 21, 4, 182, 1, 194, 154, 0, 5, 2, 172, 3, 54, 5, 16, 99, 54, 6]
abbrev dktX0_ends_1 : List UInt8 := dkwX0_ends_1 ++ dktX0_ends_2
def dkwX0_ends_0 : List UInt8 := [42, 27, 182, 0, 210, 153, 0, 32, 28, 3, 16, 99, 184, 0, 174, 153, 0, 22, 29, 3, 16, 99]
abbrev dktX0_ends_0 : List UInt8 := dkwX0_ends_0 ++ dktX0_ends_1
theorem dksX0_ends_0 : cX0_ends.data.toList.drop 0 = dktX0_ends_0 := by decide +kernel
theorem dksX0_ends_1 : cX0_ends.data.toList.drop 22 = dktX0_ends_1 := dk_seg dksX0_ends_0 22 rfl rfl
theorem dksX0_ends_2 : cX0_ends.data.toList.drop 46 = dktX0_ends_2 := dk_seg dksX0_ends_1 24 rfl rfl
theorem dksX0_ends_3 : cX0_ends.data.toList.drop 68 = dktX0_ends_3 := dk_seg dksX0_ends_2 22 rfl rfl
theorem dksX0_ends_4 : cX0_ends.data.toList.drop 91 = dktX0_ends_4 := dk_seg dksX0_ends_3 23 rfl rfl
theorem dksX0_ends_5 : cX0_ends.data.toList.drop 115 = dktX0_ends_5 := dk_seg dksX0_ends_4 24 rfl rfl
theorem dksX0_ends_6 : cX0_ends.data.toList.drop 138 = dktX0_ends_6 := dk_seg dksX0_ends_5 23 rfl rfl
theorem dksX0_ends_7 : cX0_ends.data.toList.drop 162 = dktX0_ends_7 := dk_seg dksX0_ends_6 24 rfl rfl
theorem dksX0_ends_8 : cX0_ends.data.toList.drop 185 = dktX0_ends_8 := dk_seg dksX0_ends_7 23 rfl rfl
theorem dksX0_ends_9 : cX0_ends.data.toList.drop 208 = dktX0_ends_9 := dk_seg dksX0_ends_8 23 rfl rfl
theorem dX0_ends_0 : decode cX0_ends 0 = .ok (.aload_n 0, 1) := dk_42 (dk_at dksX0_ends_0 0 rfl rfl)
theorem dX0_ends_1 : decode cX0_ends 1 = .ok (.iload_n 1, 1) := dk_27 (dk_at dksX0_ends_0 1 rfl rfl)
theorem dX0_ends_2 : decode cX0_ends 2 = .ok (.invokevirtual 210, 3) := dk_182 0 210 (dk_at dksX0_ends_0 2 rfl rfl)
theorem dX0_ends_5 : decode cX0_ends 5 = .ok (.ifCond .eq 32, 3) := dk_153 0 32 (dk_at dksX0_ends_0 5 rfl rfl)
theorem dX0_ends_8 : decode cX0_ends 8 = .ok (.iload_n 2, 1) := dk_28 (dk_at dksX0_ends_0 8 rfl rfl)
theorem dX0_ends_9 : decode cX0_ends 9 = .ok (.iconst 0, 1) := dk_3 (dk_at dksX0_ends_0 9 rfl rfl)
theorem dX0_ends_10 : decode cX0_ends 10 = .ok (.bipush 99, 2) := dk_16 99 (dk_at dksX0_ends_0 10 rfl rfl)
theorem dX0_ends_12 : decode cX0_ends 12 = .ok (.invokestatic 174, 3) := dk_184 0 174 (dk_at dksX0_ends_0 12 rfl rfl)
theorem dX0_ends_15 : decode cX0_ends 15 = .ok (.ifCond .eq 22, 3) := dk_153 0 22 (dk_at dksX0_ends_0 15 rfl rfl)
theorem dX0_ends_18 : decode cX0_ends 18 = .ok (.iload_n 3, 1) := dk_29 (dk_at dksX0_ends_0 18 rfl rfl)
theorem dX0_ends_19 : decode cX0_ends 19 = .ok (.iconst 0, 1) := dk_3 (dk_at dksX0_ends_0 19 rfl rfl)
theorem dX0_ends_20 : decode cX0_ends 20 = .ok (.bipush 99, 2) := dk_16 99 (dk_at dksX0_ends_0 20 rfl rfl)
theorem dX0_ends_22 : decode cX0_ends 22 = .ok (.invokestatic 174, 3) := dk_184 0 174 (dk_at dksX0_ends_1 0 rfl rfl)
theorem dX0_ends_25 : decode cX0_ends 25 = .ok (.ifCond .eq 12, 3) := dk_153 0 12 (dk_at dksX0_ends_1 3 rfl rfl)
theorem dX0_ends_28 : decode cX0_ends 28 = .ok (.aload_n 0, 1) := dk_42 (dk_at dksX0_ends_1 6 rfl rfl)
theorem dX0_ends_29 : decode cX0_ends 29 = .ok (.iload 4, 2) := dk_21 4 (dk_at dksX0_ends_1 7 rfl rfl)
theorem dX0_ends_31 : decode cX0_ends 31 = .ok (.invokevirtual 450, 3) := dk_182 1 194 (dk_at dksX0_ends_1 9 rfl rfl)
theorem dX0_ends_34 : decode cX0_ends 34 = .ok (.ifCond .ne 5, 3) := dk_154 0 5 (dk_at dksX0_ends_1 12 rfl rfl)
theorem dX0_ends_37 : decode cX0_ends 37 = .ok (.iconst (-1), 1) := dk_2 (dk_at dksX0_ends_1 15 rfl rfl)
theorem dX0_ends_38 : decode cX0_ends 38 = .ok (.ireturn, 1) := dk_172 (dk_at dksX0_ends_1 16 rfl rfl)
theorem dX0_ends_39 : decode cX0_ends 39 = .ok (.iconst 0, 1) := dk_3 (dk_at dksX0_ends_1 17 rfl rfl)
theorem dX0_ends_40 : decode cX0_ends 40 = .ok (.istore 5, 2) := dk_54 5 (dk_at dksX0_ends_1 18 rfl rfl)
theorem dX0_ends_42 : decode cX0_ends 42 = .ok (.bipush 99, 2) := dk_16 99 (dk_at dksX0_ends_1 20 rfl rfl)
theorem dX0_ends_44 : decode cX0_ends 44 = .ok (.istore 6, 2) := dk_54 6 (dk_at dksX0_ends_1 22 rfl rfl)
theorem dX0_ends_46 : decode cX0_ends 46 = .ok (.iconst 0, 1) := dk_3 (dk_at dksX0_ends_2 0 rfl rfl)
theorem dX0_ends_47 : decode cX0_ends 47 = .ok (.istore 7, 2) := dk_54 7 (dk_at dksX0_ends_2 1 rfl rfl)
theorem dX0_ends_49 : decode cX0_ends 49 = .ok (.iload 7, 2) := dk_21 7 (dk_at dksX0_ends_2 3 rfl rfl)
theorem dX0_ends_51 : decode cX0_ends 51 = .ok (.iload 4, 2) := dk_21 4 (dk_at dksX0_ends_2 5 rfl rfl)
theorem dX0_ends_53 : decode cX0_ends 53 = .ok (.if_icmp .ge 166, 3) := dk_162 0 166 (dk_at dksX0_ends_2 7 rfl rfl)
theorem dX0_ends_56 : decode cX0_ends 56 = .ok (.aload_n 0, 1) := dk_42 (dk_at dksX0_ends_2 10 rfl rfl)
theorem dX0_ends_57 : decode cX0_ends 57 = .ok (.iload 7, 2) := dk_21 7 (dk_at dksX0_ends_2 11 rfl rfl)
theorem dX0_ends_59 : decode cX0_ends 59 = .ok (.iload_n 1, 1) := dk_27 (dk_at dksX0_ends_2 13 rfl rfl)
theorem dX0_ends_60 : decode cX0_ends 60 = .ok (.iload 4, 2) := dk_21 4 (dk_at dksX0_ends_2 14 rfl rfl)
theorem dX0_ends_62 : decode cX0_ends 62 = .ok (.invokevirtual 456, 3) := dk_182 1 200 (dk_at dksX0_ends_2 16 rfl rfl)
theorem dX0_ends_65 : decode cX0_ends 65 = .ok (.ifCond .ne 6, 3) := dk_154 0 6 (dk_at dksX0_ends_2 19 rfl rfl)
theorem dX0_ends_68 : decode cX0_ends 68 = .ok (.goto 145, 3) := dk_167 0 145 (dk_at dksX0_ends_3 0 rfl rfl)
theorem dX0_ends_71 : decode cX0_ends 71 = .ok (.aload_n 0, 1) := dk_42 (dk_at dksX0_ends_3 3 rfl rfl)
theorem dX0_ends_72 : decode cX0_ends 72 = .ok (.getfield 48, 3) := dk_180 0 48 (dk_at dksX0_ends_3 4 rfl rfl)
theorem dX0_ends_75 : decode cX0_ends 75 = .ok (.getfield 418, 3) := dk_180 1 162 (dk_at dksX0_ends_3 7 rfl rfl)
theorem dX0_ends_78 : decode cX0_ends 78 = .ok (.iload 7, 2) := dk_21 7 (dk_at dksX0_ends_3 10 rfl rfl)
theorem dX0_ends_80 : decode cX0_ends 80 = .ok (.invokevirtual 140, 3) := dk_182 0 140 (dk_at dksX0_ends_3 12 rfl rfl)
theorem dX0_ends_83 : decode cX0_ends 83 = .ok (.checkcast 424, 3) := dk_192 1 168 (dk_at dksX0_ends_3 15 rfl rfl)
theorem dX0_ends_86 : decode cX0_ends 86 = .ok (.astore 8, 2) := dk_58 8 (dk_at dksX0_ends_3 18 rfl rfl)
theorem dX0_ends_88 : decode cX0_ends 88 = .ok (.iconst 0, 1) := dk_3 (dk_at dksX0_ends_3 20 rfl rfl)
theorem dX0_ends_89 : decode cX0_ends 89 = .ok (.istore 9, 2) := dk_54 9 (dk_at dksX0_ends_3 21 rfl rfl)
theorem dX0_ends_91 : decode cX0_ends 91 = .ok (.iload 9, 2) := dk_21 9 (dk_at dksX0_ends_4 0 rfl rfl)
theorem dX0_ends_93 : decode cX0_ends 93 = .ok (.iload 7, 2) := dk_21 7 (dk_at dksX0_ends_4 2 rfl rfl)
theorem dX0_ends_95 : decode cX0_ends 95 = .ok (.if_icmp .ge 74, 3) := dk_162 0 74 (dk_at dksX0_ends_4 4 rfl rfl)
theorem dX0_ends_98 : decode cX0_ends 98 = .ok (.aload_n 0, 1) := dk_42 (dk_at dksX0_ends_4 7 rfl rfl)
theorem dX0_ends_99 : decode cX0_ends 99 = .ok (.getfield 48, 3) := dk_180 0 48 (dk_at dksX0_ends_4 8 rfl rfl)
theorem dX0_ends_102 : decode cX0_ends 102 = .ok (.getfield 418, 3) := dk_180 1 162 (dk_at dksX0_ends_4 11 rfl rfl)
theorem dX0_ends_105 : decode cX0_ends 105 = .ok (.iload 9, 2) := dk_21 9 (dk_at dksX0_ends_4 14 rfl rfl)
theorem dX0_ends_107 : decode cX0_ends 107 = .ok (.invokevirtual 140, 3) := dk_182 0 140 (dk_at dksX0_ends_4 16 rfl rfl)
theorem dX0_ends_110 : decode cX0_ends 110 = .ok (.checkcast 424, 3) := dk_192 1 168 (dk_at dksX0_ends_4 19 rfl rfl)
theorem dX0_ends_113 : decode cX0_ends 113 = .ok (.astore 10, 2) := dk_58 10 (dk_at dksX0_ends_4 22 rfl rfl)
theorem dX0_ends_115 : decode cX0_ends 115 = .ok (.aload_n 0, 1) := dk_42 (dk_at dksX0_ends_5 0 rfl rfl)
theorem dX0_ends_116 : decode cX0_ends 116 = .ok (.iload 9, 2) := dk_21 9 (dk_at dksX0_ends_5 1 rfl rfl)
theorem dX0_ends_118 : decode cX0_ends 118 = .ok (.iload_n 1, 1) := dk_27 (dk_at dksX0_ends_5 3 rfl rfl)
theorem dX0_ends_119 : decode cX0_ends 119 = .ok (.iload 4, 2) := dk_21 4 (dk_at dksX0_ends_5 4 rfl rfl)
theorem dX0_ends_121 : decode cX0_ends 121 = .ok (.invokevirtual 456, 3) := dk_182 1 200 (dk_at dksX0_ends_5 6 rfl rfl)
theorem dX0_ends_124 : decode cX0_ends 124 = .ok (.ifCond .eq 39, 3) := dk_153 0 39 (dk_at dksX0_ends_5 9 rfl rfl)
theorem dX0_ends_127 : decode cX0_ends 127 = .ok (.aload 8, 2) := dk_25 8 (dk_at dksX0_ends_5 12 rfl rfl)
theorem dX0_ends_129 : decode cX0_ends 129 = .ok (.getfield 444, 3) := dk_180 1 188 (dk_at dksX0_ends_5 14 rfl rfl)
theorem dX0_ends_132 : decode cX0_ends 132 = .ok (.aload 10, 2) := dk_25 10 (dk_at dksX0_ends_5 17 rfl rfl)
theorem dX0_ends_134 : decode cX0_ends 134 = .ok (.getfield 444, 3) := dk_180 1 188 (dk_at dksX0_ends_5 19 rfl rfl)
theorem dX0_ends_137 : decode cX0_ends 137 = .ok (.isub, 1) := dk_100 (dk_at dksX0_ends_5 22 rfl rfl)
theorem dX0_ends_138 : decode cX0_ends 138 = .ok (.invokestatic 250, 3) := dk_184 0 250 (dk_at dksX0_ends_6 0 rfl rfl)
theorem dX0_ends_141 : decode cX0_ends 141 = .ok (.iload_n 3, 1) := dk_29 (dk_at dksX0_ends_6 3 rfl rfl)
theorem dX0_ends_142 : decode cX0_ends 142 = .ok (.aload 8, 2) := dk_25 8 (dk_at dksX0_ends_6 4 rfl rfl)
theorem dX0_ends_144 : decode cX0_ends 144 = .ok (.getfield 438, 3) := dk_180 1 182 (dk_at dksX0_ends_6 6 rfl rfl)
theorem dX0_ends_147 : decode cX0_ends 147 = .ok (.aload 10, 2) := dk_25 10 (dk_at dksX0_ends_6 9 rfl rfl)
theorem dX0_ends_149 : decode cX0_ends 149 = .ok (.getfield 438, 3) := dk_180 1 182 (dk_at dksX0_ends_6 11 rfl rfl)
theorem dX0_ends_152 : decode cX0_ends 152 = .ok (.isub, 1) := dk_100 (dk_at dksX0_ends_6 14 rfl rfl)
theorem dX0_ends_153 : decode cX0_ends 153 = .ok (.invokestatic 250, 3) := dk_184 0 250 (dk_at dksX0_ends_6 15 rfl rfl)
theorem dX0_ends_156 : decode cX0_ends 156 = .ok (.imul, 1) := dk_104 (dk_at dksX0_ends_6 18 rfl rfl)
theorem dX0_ends_157 : decode cX0_ends 157 = .ok (.if_icmp .le 6, 3) := dk_164 0 6 (dk_at dksX0_ends_6 19 rfl rfl)
theorem dX0_ends_160 : decode cX0_ends 160 = .ok (.bipush (-2), 2) := dk_16 254 (dk_at dksX0_ends_6 22 rfl rfl)
theorem dX0_ends_162 : decode cX0_ends 162 = .ok (.ireturn, 1) := dk_172 (dk_at dksX0_ends_7 0 rfl rfl)
theorem dX0_ends_163 : decode cX0_ends 163 = .ok (.iinc 9 1, 3) := dk_132 9 1 (dk_at dksX0_ends_7 1 rfl rfl)
theorem dX0_ends_166 : decode cX0_ends 166 = .ok (.goto (-75), 3) := dk_167 255 181 (dk_at dksX0_ends_7 4 rfl rfl)
theorem dX0_ends_169 : decode cX0_ends 169 = .ok (.iload_n 3, 1) := dk_29 (dk_at dksX0_ends_7 7 rfl rfl)
theorem dX0_ends_170 : decode cX0_ends 170 = .ok (.iload_n 2, 1) := dk_28 (dk_at dksX0_ends_7 8 rfl rfl)
theorem dX0_ends_171 : decode cX0_ends 171 = .ok (.aload 8, 2) := dk_25 8 (dk_at dksX0_ends_7 9 rfl rfl)
theorem dX0_ends_173 : decode cX0_ends 173 = .ok (.getfield 438, 3) := dk_180 1 182 (dk_at dksX0_ends_7 11 rfl rfl)
theorem dX0_ends_176 : decode cX0_ends 176 = .ok (.isub, 1) := dk_100 (dk_at dksX0_ends_7 14 rfl rfl)
theorem dX0_ends_177 : decode cX0_ends 177 = .ok (.invokestatic 250, 3) := dk_184 0 250 (dk_at dksX0_ends_7 15 rfl rfl)
theorem dX0_ends_180 : decode cX0_ends 180 = .ok (.imul, 1) := dk_104 (dk_at dksX0_ends_7 18 rfl rfl)
theorem dX0_ends_181 : decode cX0_ends 181 = .ok (.istore 9, 2) := dk_54 9 (dk_at dksX0_ends_7 19 rfl rfl)
theorem dX0_ends_183 : decode cX0_ends 183 = .ok (.iload 5, 2) := dk_21 5 (dk_at dksX0_ends_7 21 rfl rfl)
theorem dX0_ends_185 : decode cX0_ends 185 = .ok (.aload 8, 2) := dk_25 8 (dk_at dksX0_ends_8 0 rfl rfl)
theorem dX0_ends_187 : decode cX0_ends 187 = .ok (.getfield 444, 3) := dk_180 1 188 (dk_at dksX0_ends_8 2 rfl rfl)
theorem dX0_ends_190 : decode cX0_ends 190 = .ok (.iload 9, 2) := dk_21 9 (dk_at dksX0_ends_8 5 rfl rfl)
theorem dX0_ends_192 : decode cX0_ends 192 = .ok (.isub, 1) := dk_100 (dk_at dksX0_ends_8 7 rfl rfl)
theorem dX0_ends_193 : decode cX0_ends 193 = .ok (.invokestatic 1, 3) := dk_184 0 1 (dk_at dksX0_ends_8 8 rfl rfl)
theorem dX0_ends_196 : decode cX0_ends 196 = .ok (.istore 5, 2) := dk_54 5 (dk_at dksX0_ends_8 11 rfl rfl)
theorem dX0_ends_198 : decode cX0_ends 198 = .ok (.iload 6, 2) := dk_21 6 (dk_at dksX0_ends_8 13 rfl rfl)
theorem dX0_ends_200 : decode cX0_ends 200 = .ok (.aload 8, 2) := dk_25 8 (dk_at dksX0_ends_8 15 rfl rfl)
theorem dX0_ends_202 : decode cX0_ends 202 = .ok (.getfield 444, 3) := dk_180 1 188 (dk_at dksX0_ends_8 17 rfl rfl)
theorem dX0_ends_205 : decode cX0_ends 205 = .ok (.iload 9, 2) := dk_21 9 (dk_at dksX0_ends_8 20 rfl rfl)
theorem dX0_ends_207 : decode cX0_ends 207 = .ok (.iadd, 1) := dk_96 (dk_at dksX0_ends_8 22 rfl rfl)
theorem dX0_ends_208 : decode cX0_ends 208 = .ok (.invokestatic 7, 3) := dk_184 0 7 (dk_at dksX0_ends_9 0 rfl rfl)
theorem dX0_ends_211 : decode cX0_ends 211 = .ok (.istore 6, 2) := dk_54 6 (dk_at dksX0_ends_9 3 rfl rfl)
theorem dX0_ends_213 : decode cX0_ends 213 = .ok (.iinc 7 1, 3) := dk_132 7 1 (dk_at dksX0_ends_9 5 rfl rfl)
theorem dX0_ends_216 : decode cX0_ends 216 = .ok (.goto (-167), 3) := dk_167 255 89 (dk_at dksX0_ends_9 8 rfl rfl)
theorem dX0_ends_219 : decode cX0_ends 219 = .ok (.bipush 100, 2) := dk_16 100 (dk_at dksX0_ends_9 11 rfl rfl)
theorem dX0_ends_221 : decode cX0_ends 221 = .ok (.iload 5, 2) := dk_21 5 (dk_at dksX0_ends_9 13 rfl rfl)
theorem dX0_ends_223 : decode cX0_ends 223 = .ok (.imul, 1) := dk_104 (dk_at dksX0_ends_9 15 rfl rfl)
theorem dX0_ends_224 : decode cX0_ends 224 = .ok (.iload 6, 2) := dk_21 6 (dk_at dksX0_ends_9 16 rfl rfl)
theorem dX0_ends_226 : decode cX0_ends 226 = .ok (.iadd, 1) := dk_96 (dk_at dksX0_ends_9 18 rfl rfl)
theorem dX0_ends_227 : decode cX0_ends 227 = .ok (.ireturn, 1) := dk_172 (dk_at dksX0_ends_9 19 rfl rfl)
abbrev cX0_isMark : ByteArray := prog_1_method_86_code
def yX0_isMark : MethodName := ⟨RX0, "isMark", "(III)Z"⟩
def dkwX0_isMark_2 : List UInt8 := [167, 0, 4, 3, 172]
abbrev dktX0_isMark_2 : List UInt8 := dkwX0_isMark_2 ++ []
def dkwX0_isMark_1 : List UInt8 := [160, 0, 25, 25, 4, 180, 1, 179, 28, 160, 0, 16, 42, 27, 29, 182, 1, 185, 153, 0, 7, 4]
abbrev dktX0_isMark_1 : List UInt8 := dkwX0_isMark_1 ++ dktX0_isMark_2
def dkwX0_isMark_0 : List UInt8 := [42, 180, 0, 48, 180, 1, 162, 27, 182, 0, 140, 192, 1, 168, 58, 4, 25, 4, 180, 1, 176, 4]
abbrev dktX0_isMark_0 : List UInt8 := dkwX0_isMark_0 ++ dktX0_isMark_1
theorem dksX0_isMark_0 : cX0_isMark.data.toList.drop 0 = dktX0_isMark_0 := by decide +kernel
theorem dksX0_isMark_1 : cX0_isMark.data.toList.drop 22 = dktX0_isMark_1 := dk_seg dksX0_isMark_0 22 rfl rfl
theorem dksX0_isMark_2 : cX0_isMark.data.toList.drop 44 = dktX0_isMark_2 := dk_seg dksX0_isMark_1 22 rfl rfl
theorem dX0_isMark_0 : decode cX0_isMark 0 = .ok (.aload_n 0, 1) := dk_42 (dk_at dksX0_isMark_0 0 rfl rfl)
theorem dX0_isMark_1 : decode cX0_isMark 1 = .ok (.getfield 48, 3) := dk_180 0 48 (dk_at dksX0_isMark_0 1 rfl rfl)
theorem dX0_isMark_4 : decode cX0_isMark 4 = .ok (.getfield 418, 3) := dk_180 1 162 (dk_at dksX0_isMark_0 4 rfl rfl)
theorem dX0_isMark_7 : decode cX0_isMark 7 = .ok (.iload_n 1, 1) := dk_27 (dk_at dksX0_isMark_0 7 rfl rfl)
theorem dX0_isMark_8 : decode cX0_isMark 8 = .ok (.invokevirtual 140, 3) := dk_182 0 140 (dk_at dksX0_isMark_0 8 rfl rfl)
theorem dX0_isMark_11 : decode cX0_isMark 11 = .ok (.checkcast 424, 3) := dk_192 1 168 (dk_at dksX0_isMark_0 11 rfl rfl)
theorem dX0_isMark_14 : decode cX0_isMark 14 = .ok (.astore 4, 2) := dk_58 4 (dk_at dksX0_isMark_0 14 rfl rfl)
theorem dX0_isMark_16 : decode cX0_isMark 16 = .ok (.aload 4, 2) := dk_25 4 (dk_at dksX0_isMark_0 16 rfl rfl)
theorem dX0_isMark_18 : decode cX0_isMark 18 = .ok (.getfield 432, 3) := dk_180 1 176 (dk_at dksX0_isMark_0 18 rfl rfl)
theorem dX0_isMark_21 : decode cX0_isMark 21 = .ok (.iconst 1, 1) := dk_4 (dk_at dksX0_isMark_0 21 rfl rfl)
theorem dX0_isMark_22 : decode cX0_isMark 22 = .ok (.if_icmp .ne 25, 3) := dk_160 0 25 (dk_at dksX0_isMark_1 0 rfl rfl)
theorem dX0_isMark_25 : decode cX0_isMark 25 = .ok (.aload 4, 2) := dk_25 4 (dk_at dksX0_isMark_1 3 rfl rfl)
theorem dX0_isMark_27 : decode cX0_isMark 27 = .ok (.getfield 435, 3) := dk_180 1 179 (dk_at dksX0_isMark_1 5 rfl rfl)
theorem dX0_isMark_30 : decode cX0_isMark 30 = .ok (.iload_n 2, 1) := dk_28 (dk_at dksX0_isMark_1 8 rfl rfl)
theorem dX0_isMark_31 : decode cX0_isMark 31 = .ok (.if_icmp .ne 16, 3) := dk_160 0 16 (dk_at dksX0_isMark_1 9 rfl rfl)
theorem dX0_isMark_34 : decode cX0_isMark 34 = .ok (.aload_n 0, 1) := dk_42 (dk_at dksX0_isMark_1 12 rfl rfl)
theorem dX0_isMark_35 : decode cX0_isMark 35 = .ok (.iload_n 1, 1) := dk_27 (dk_at dksX0_isMark_1 13 rfl rfl)
theorem dX0_isMark_36 : decode cX0_isMark 36 = .ok (.iload_n 3, 1) := dk_29 (dk_at dksX0_isMark_1 14 rfl rfl)
theorem dX0_isMark_37 : decode cX0_isMark 37 = .ok (.invokevirtual 441, 3) := dk_182 1 185 (dk_at dksX0_isMark_1 15 rfl rfl)
theorem dX0_isMark_40 : decode cX0_isMark 40 = .ok (.ifCond .eq 7, 3) := dk_153 0 7 (dk_at dksX0_isMark_1 18 rfl rfl)
theorem dX0_isMark_43 : decode cX0_isMark 43 = .ok (.iconst 1, 1) := dk_4 (dk_at dksX0_isMark_1 21 rfl rfl)
theorem dX0_isMark_44 : decode cX0_isMark 44 = .ok (.goto 4, 3) := dk_167 0 4 (dk_at dksX0_isMark_2 0 rfl rfl)
theorem dX0_isMark_47 : decode cX0_isMark 47 = .ok (.iconst 0, 1) := dk_3 (dk_at dksX0_isMark_2 3 rfl rfl)
theorem dX0_isMark_48 : decode cX0_isMark 48 = .ok (.ireturn, 1) := dk_172 (dk_at dksX0_isMark_2 4 rfl rfl)
abbrev cX0_years : ByteArray := prog_1_method_90_code
def yX0_years : MethodName := ⟨RX0, "years", "(II)I"⟩
def dkwX0_years_2 : List UInt8 := [21, 4, 182, 1, 210, 96, 62, 132, 4, 1, 167, 255, 220, 29, 172]
abbrev dktX0_years_2 : List UInt8 := dkwX0_years_2 ++ []
def dkwX0_years_1 : List UInt8 := [28, 162, 0, 36, 42, 182, 0, 172, 158, 0, 29, 42, 180, 0, 41, 180, 0, 178, 158, 0, 19, 29, 42, 27]
abbrev dktX0_years_1 : List UInt8 := dkwX0_years_1 ++ dktX0_years_2
def dkwX0_years_0 : List UInt8 := [28, 4, 16, 40, 184, 0, 174, 154, 0, 5, 2, 172, 42, 3, 181, 0, 166, 3, 62, 3, 54, 4, 21, 4]
abbrev dktX0_years_0 : List UInt8 := dkwX0_years_0 ++ dktX0_years_1
theorem dksX0_years_0 : cX0_years.data.toList.drop 0 = dktX0_years_0 := by decide +kernel
theorem dksX0_years_1 : cX0_years.data.toList.drop 24 = dktX0_years_1 := dk_seg dksX0_years_0 24 rfl rfl
theorem dksX0_years_2 : cX0_years.data.toList.drop 48 = dktX0_years_2 := dk_seg dksX0_years_1 24 rfl rfl
theorem dX0_years_0 : decode cX0_years 0 = .ok (.iload_n 2, 1) := dk_28 (dk_at dksX0_years_0 0 rfl rfl)
theorem dX0_years_1 : decode cX0_years 1 = .ok (.iconst 1, 1) := dk_4 (dk_at dksX0_years_0 1 rfl rfl)
theorem dX0_years_2 : decode cX0_years 2 = .ok (.bipush 40, 2) := dk_16 40 (dk_at dksX0_years_0 2 rfl rfl)
theorem dX0_years_4 : decode cX0_years 4 = .ok (.invokestatic 174, 3) := dk_184 0 174 (dk_at dksX0_years_0 4 rfl rfl)
theorem dX0_years_7 : decode cX0_years 7 = .ok (.ifCond .ne 5, 3) := dk_154 0 5 (dk_at dksX0_years_0 7 rfl rfl)
theorem dX0_years_10 : decode cX0_years 10 = .ok (.iconst (-1), 1) := dk_2 (dk_at dksX0_years_0 10 rfl rfl)
theorem dX0_years_11 : decode cX0_years 11 = .ok (.ireturn, 1) := dk_172 (dk_at dksX0_years_0 11 rfl rfl)
theorem dX0_years_12 : decode cX0_years 12 = .ok (.aload_n 0, 1) := dk_42 (dk_at dksX0_years_0 12 rfl rfl)
theorem dX0_years_13 : decode cX0_years 13 = .ok (.iconst 0, 1) := dk_3 (dk_at dksX0_years_0 13 rfl rfl)
theorem dX0_years_14 : decode cX0_years 14 = .ok (.putfield 166, 3) := dk_181 0 166 (dk_at dksX0_years_0 14 rfl rfl)
theorem dX0_years_17 : decode cX0_years 17 = .ok (.iconst 0, 1) := dk_3 (dk_at dksX0_years_0 17 rfl rfl)
theorem dX0_years_18 : decode cX0_years 18 = .ok (.istore_n 3, 1) := dk_62 (dk_at dksX0_years_0 18 rfl rfl)
theorem dX0_years_19 : decode cX0_years 19 = .ok (.iconst 0, 1) := dk_3 (dk_at dksX0_years_0 19 rfl rfl)
theorem dX0_years_20 : decode cX0_years 20 = .ok (.istore 4, 2) := dk_54 4 (dk_at dksX0_years_0 20 rfl rfl)
theorem dX0_years_22 : decode cX0_years 22 = .ok (.iload 4, 2) := dk_21 4 (dk_at dksX0_years_0 22 rfl rfl)
theorem dX0_years_24 : decode cX0_years 24 = .ok (.iload_n 2, 1) := dk_28 (dk_at dksX0_years_1 0 rfl rfl)
theorem dX0_years_25 : decode cX0_years 25 = .ok (.if_icmp .ge 36, 3) := dk_162 0 36 (dk_at dksX0_years_1 1 rfl rfl)
theorem dX0_years_28 : decode cX0_years 28 = .ok (.aload_n 0, 1) := dk_42 (dk_at dksX0_years_1 4 rfl rfl)
theorem dX0_years_29 : decode cX0_years 29 = .ok (.invokevirtual 172, 3) := dk_182 0 172 (dk_at dksX0_years_1 5 rfl rfl)
theorem dX0_years_32 : decode cX0_years 32 = .ok (.ifCond .le 29, 3) := dk_158 0 29 (dk_at dksX0_years_1 8 rfl rfl)
theorem dX0_years_35 : decode cX0_years 35 = .ok (.aload_n 0, 1) := dk_42 (dk_at dksX0_years_1 11 rfl rfl)
theorem dX0_years_36 : decode cX0_years 36 = .ok (.getfield 41, 3) := dk_180 0 41 (dk_at dksX0_years_1 12 rfl rfl)
theorem dX0_years_39 : decode cX0_years 39 = .ok (.getfield 178, 3) := dk_180 0 178 (dk_at dksX0_years_1 15 rfl rfl)
theorem dX0_years_42 : decode cX0_years 42 = .ok (.ifCond .le 19, 3) := dk_158 0 19 (dk_at dksX0_years_1 18 rfl rfl)
theorem dX0_years_45 : decode cX0_years 45 = .ok (.iload_n 3, 1) := dk_29 (dk_at dksX0_years_1 21 rfl rfl)
theorem dX0_years_46 : decode cX0_years 46 = .ok (.aload_n 0, 1) := dk_42 (dk_at dksX0_years_1 22 rfl rfl)
theorem dX0_years_47 : decode cX0_years 47 = .ok (.iload_n 1, 1) := dk_27 (dk_at dksX0_years_1 23 rfl rfl)
theorem dX0_years_48 : decode cX0_years 48 = .ok (.iload 4, 2) := dk_21 4 (dk_at dksX0_years_2 0 rfl rfl)
theorem dX0_years_50 : decode cX0_years 50 = .ok (.invokevirtual 466, 3) := dk_182 1 210 (dk_at dksX0_years_2 2 rfl rfl)
theorem dX0_years_53 : decode cX0_years 53 = .ok (.iadd, 1) := dk_96 (dk_at dksX0_years_2 5 rfl rfl)
theorem dX0_years_54 : decode cX0_years 54 = .ok (.istore_n 3, 1) := dk_62 (dk_at dksX0_years_2 6 rfl rfl)
theorem dX0_years_55 : decode cX0_years 55 = .ok (.iinc 4 1, 3) := dk_132 4 1 (dk_at dksX0_years_2 7 rfl rfl)
theorem dX0_years_58 : decode cX0_years 58 = .ok (.goto (-36), 3) := dk_167 255 220 (dk_at dksX0_years_2 10 rfl rfl)
theorem dX0_years_61 : decode cX0_years 61 = .ok (.iload_n 3, 1) := dk_29 (dk_at dksX0_years_2 13 rfl rfl)
theorem dX0_years_62 : decode cX0_years 62 = .ok (.ireturn, 1) := dk_172 (dk_at dksX0_years_2 14 rfl rfl)
abbrev cX0_yearBy : ByteArray := prog_1_method_89_code
def yX0_yearBy : MethodName := ⟨RX0, "yearBy", "(II)I"⟩
def dkwX0_yearBy_7 : List UInt8 := [96, 79, 21, 4, 21, 7, 184, 0, 250, 96, 54, 4, 132, 5, 1, 132, 6, 1, 167, 255, 152, 21, 4, 172]
abbrev dktX0_yearBy_7 : List UInt8 := dkwX0_yearBy_7 ++ []
def dkwX0_yearBy_6 : List UInt8 := [180, 0, 41, 180, 1, 89, 184, 0, 7, 54, 7, 42, 180, 0, 48, 180, 0, 137, 21, 6, 92, 46, 21, 7]
abbrev dktX0_yearBy_6 : List UInt8 := dkwX0_yearBy_6 ++ dktX0_yearBy_7
def dkwX0_yearBy_5 : List UInt8 := [54, 7, 21, 7, 154, 0, 6, 167, 0, 56, 21, 7, 42, 180, 0, 41, 180, 1, 89, 116, 184, 0, 1, 42]
abbrev dktX0_yearBy_5 : List UInt8 := dkwX0_yearBy_5 ++ dktX0_yearBy_6
def dkwX0_yearBy_4 : List UInt8 := [180, 1, 86, 162, 0, 89, 42, 21, 6, 182, 0, 214, 42, 180, 0, 48, 180, 0, 137, 21, 6, 46, 100]
abbrev dktX0_yearBy_4 : List UInt8 := dkwX0_yearBy_4 ++ dktX0_yearBy_5
def dkwX0_yearBy_3 : List UInt8 := [3, 54, 4, 3, 54, 5, 3, 54, 6, 21, 6, 42, 182, 0, 172, 162, 0, 101, 21, 5, 42, 180, 0, 41]
abbrev dktX0_yearBy_3 : List UInt8 := dkwX0_yearBy_3 ++ dktX0_yearBy_4
def dkwX0_yearBy_2 : List UInt8 := [180, 0, 48, 180, 0, 103, 27, 16, 10, 28, 104, 5, 96, 42, 182, 0, 172, 184, 1, 207, 29, 184, 0, 220]
abbrev dktX0_yearBy_2 : List UInt8 := dkwX0_yearBy_2 ++ dktX0_yearBy_3
def dkwX0_yearBy_1 : List UInt8 := [28, 104, 4, 96, 42, 180, 0, 41, 180, 0, 178, 184, 1, 207, 62, 42, 29, 182, 0, 224, 156, 0, 28, 42]
abbrev dktX0_yearBy_1 : List UInt8 := dkwX0_yearBy_1 ++ dktX0_yearBy_2
def dkwX0_yearBy_0 : List UInt8 := [42, 180, 0, 48, 180, 0, 103, 27, 16, 10, 28, 104, 42, 182, 0, 172, 184, 1, 207, 2, 79, 27, 16, 10]
abbrev dktX0_yearBy_0 : List UInt8 := dkwX0_yearBy_0 ++ dktX0_yearBy_1
theorem dksX0_yearBy_0 : cX0_yearBy.data.toList.drop 0 = dktX0_yearBy_0 := by decide +kernel
theorem dksX0_yearBy_1 : cX0_yearBy.data.toList.drop 24 = dktX0_yearBy_1 := dk_seg dksX0_yearBy_0 24 rfl rfl
theorem dksX0_yearBy_2 : cX0_yearBy.data.toList.drop 48 = dktX0_yearBy_2 := dk_seg dksX0_yearBy_1 24 rfl rfl
theorem dksX0_yearBy_3 : cX0_yearBy.data.toList.drop 72 = dktX0_yearBy_3 := dk_seg dksX0_yearBy_2 24 rfl rfl
theorem dksX0_yearBy_4 : cX0_yearBy.data.toList.drop 96 = dktX0_yearBy_4 := dk_seg dksX0_yearBy_3 24 rfl rfl
theorem dksX0_yearBy_5 : cX0_yearBy.data.toList.drop 119 = dktX0_yearBy_5 := dk_seg dksX0_yearBy_4 23 rfl rfl
theorem dksX0_yearBy_6 : cX0_yearBy.data.toList.drop 143 = dktX0_yearBy_6 := dk_seg dksX0_yearBy_5 24 rfl rfl
theorem dksX0_yearBy_7 : cX0_yearBy.data.toList.drop 167 = dktX0_yearBy_7 := dk_seg dksX0_yearBy_6 24 rfl rfl
theorem dX0_yearBy_0 : decode cX0_yearBy 0 = .ok (.aload_n 0, 1) := dk_42 (dk_at dksX0_yearBy_0 0 rfl rfl)
theorem dX0_yearBy_1 : decode cX0_yearBy 1 = .ok (.getfield 48, 3) := dk_180 0 48 (dk_at dksX0_yearBy_0 1 rfl rfl)
theorem dX0_yearBy_4 : decode cX0_yearBy 4 = .ok (.getfield 103, 3) := dk_180 0 103 (dk_at dksX0_yearBy_0 4 rfl rfl)
theorem dX0_yearBy_7 : decode cX0_yearBy 7 = .ok (.iload_n 1, 1) := dk_27 (dk_at dksX0_yearBy_0 7 rfl rfl)
theorem dX0_yearBy_8 : decode cX0_yearBy 8 = .ok (.bipush 10, 2) := dk_16 10 (dk_at dksX0_yearBy_0 8 rfl rfl)
theorem dX0_yearBy_10 : decode cX0_yearBy 10 = .ok (.iload_n 2, 1) := dk_28 (dk_at dksX0_yearBy_0 10 rfl rfl)
theorem dX0_yearBy_11 : decode cX0_yearBy 11 = .ok (.imul, 1) := dk_104 (dk_at dksX0_yearBy_0 11 rfl rfl)
theorem dX0_yearBy_12 : decode cX0_yearBy 12 = .ok (.aload_n 0, 1) := dk_42 (dk_at dksX0_yearBy_0 12 rfl rfl)
theorem dX0_yearBy_13 : decode cX0_yearBy 13 = .ok (.invokevirtual 172, 3) := dk_182 0 172 (dk_at dksX0_yearBy_0 13 rfl rfl)
theorem dX0_yearBy_16 : decode cX0_yearBy 16 = .ok (.invokestatic 463, 3) := dk_184 1 207 (dk_at dksX0_yearBy_0 16 rfl rfl)
theorem dX0_yearBy_19 : decode cX0_yearBy 19 = .ok (.iconst (-1), 1) := dk_2 (dk_at dksX0_yearBy_0 19 rfl rfl)
theorem dX0_yearBy_20 : decode cX0_yearBy 20 = .ok (.iastore, 1) := dk_79 (dk_at dksX0_yearBy_0 20 rfl rfl)
theorem dX0_yearBy_21 : decode cX0_yearBy 21 = .ok (.iload_n 1, 1) := dk_27 (dk_at dksX0_yearBy_0 21 rfl rfl)
theorem dX0_yearBy_22 : decode cX0_yearBy 22 = .ok (.bipush 10, 2) := dk_16 10 (dk_at dksX0_yearBy_0 22 rfl rfl)
theorem dX0_yearBy_24 : decode cX0_yearBy 24 = .ok (.iload_n 2, 1) := dk_28 (dk_at dksX0_yearBy_1 0 rfl rfl)
theorem dX0_yearBy_25 : decode cX0_yearBy 25 = .ok (.imul, 1) := dk_104 (dk_at dksX0_yearBy_1 1 rfl rfl)
theorem dX0_yearBy_26 : decode cX0_yearBy 26 = .ok (.iconst 1, 1) := dk_4 (dk_at dksX0_yearBy_1 2 rfl rfl)
theorem dX0_yearBy_27 : decode cX0_yearBy 27 = .ok (.iadd, 1) := dk_96 (dk_at dksX0_yearBy_1 3 rfl rfl)
theorem dX0_yearBy_28 : decode cX0_yearBy 28 = .ok (.aload_n 0, 1) := dk_42 (dk_at dksX0_yearBy_1 4 rfl rfl)
theorem dX0_yearBy_29 : decode cX0_yearBy 29 = .ok (.getfield 41, 3) := dk_180 0 41 (dk_at dksX0_yearBy_1 5 rfl rfl)
theorem dX0_yearBy_32 : decode cX0_yearBy 32 = .ok (.getfield 178, 3) := dk_180 0 178 (dk_at dksX0_yearBy_1 8 rfl rfl)
theorem dX0_yearBy_35 : decode cX0_yearBy 35 = .ok (.invokestatic 463, 3) := dk_184 1 207 (dk_at dksX0_yearBy_1 11 rfl rfl)
theorem dX0_yearBy_38 : decode cX0_yearBy 38 = .ok (.istore_n 3, 1) := dk_62 (dk_at dksX0_yearBy_1 14 rfl rfl)
theorem dX0_yearBy_39 : decode cX0_yearBy 39 = .ok (.aload_n 0, 1) := dk_42 (dk_at dksX0_yearBy_1 15 rfl rfl)
theorem dX0_yearBy_40 : decode cX0_yearBy 40 = .ok (.iload_n 3, 1) := dk_29 (dk_at dksX0_yearBy_1 16 rfl rfl)
theorem dX0_yearBy_41 : decode cX0_yearBy 41 = .ok (.invokevirtual 224, 3) := dk_182 0 224 (dk_at dksX0_yearBy_1 17 rfl rfl)
theorem dX0_yearBy_44 : decode cX0_yearBy 44 = .ok (.ifCond .ge 28, 3) := dk_156 0 28 (dk_at dksX0_yearBy_1 20 rfl rfl)
theorem dX0_yearBy_47 : decode cX0_yearBy 47 = .ok (.aload_n 0, 1) := dk_42 (dk_at dksX0_yearBy_1 23 rfl rfl)
theorem dX0_yearBy_48 : decode cX0_yearBy 48 = .ok (.getfield 48, 3) := dk_180 0 48 (dk_at dksX0_yearBy_2 0 rfl rfl)
theorem dX0_yearBy_51 : decode cX0_yearBy 51 = .ok (.getfield 103, 3) := dk_180 0 103 (dk_at dksX0_yearBy_2 3 rfl rfl)
theorem dX0_yearBy_54 : decode cX0_yearBy 54 = .ok (.iload_n 1, 1) := dk_27 (dk_at dksX0_yearBy_2 6 rfl rfl)
theorem dX0_yearBy_55 : decode cX0_yearBy 55 = .ok (.bipush 10, 2) := dk_16 10 (dk_at dksX0_yearBy_2 7 rfl rfl)
theorem dX0_yearBy_57 : decode cX0_yearBy 57 = .ok (.iload_n 2, 1) := dk_28 (dk_at dksX0_yearBy_2 9 rfl rfl)
theorem dX0_yearBy_58 : decode cX0_yearBy 58 = .ok (.imul, 1) := dk_104 (dk_at dksX0_yearBy_2 10 rfl rfl)
theorem dX0_yearBy_59 : decode cX0_yearBy 59 = .ok (.iconst 2, 1) := dk_5 (dk_at dksX0_yearBy_2 11 rfl rfl)
theorem dX0_yearBy_60 : decode cX0_yearBy 60 = .ok (.iadd, 1) := dk_96 (dk_at dksX0_yearBy_2 12 rfl rfl)
theorem dX0_yearBy_61 : decode cX0_yearBy 61 = .ok (.aload_n 0, 1) := dk_42 (dk_at dksX0_yearBy_2 13 rfl rfl)
theorem dX0_yearBy_62 : decode cX0_yearBy 62 = .ok (.invokevirtual 172, 3) := dk_182 0 172 (dk_at dksX0_yearBy_2 14 rfl rfl)
theorem dX0_yearBy_65 : decode cX0_yearBy 65 = .ok (.invokestatic 463, 3) := dk_184 1 207 (dk_at dksX0_yearBy_2 17 rfl rfl)
theorem dX0_yearBy_68 : decode cX0_yearBy 68 = .ok (.iload_n 3, 1) := dk_29 (dk_at dksX0_yearBy_2 20 rfl rfl)
theorem dX0_yearBy_69 : decode cX0_yearBy 69 = .ok (.invokestatic 220, 3) := dk_184 0 220 (dk_at dksX0_yearBy_2 21 rfl rfl)
theorem dX0_yearBy_72 : decode cX0_yearBy 72 = .ok (.iconst 0, 1) := dk_3 (dk_at dksX0_yearBy_3 0 rfl rfl)
theorem dX0_yearBy_73 : decode cX0_yearBy 73 = .ok (.istore 4, 2) := dk_54 4 (dk_at dksX0_yearBy_3 1 rfl rfl)
theorem dX0_yearBy_75 : decode cX0_yearBy 75 = .ok (.iconst 0, 1) := dk_3 (dk_at dksX0_yearBy_3 3 rfl rfl)
theorem dX0_yearBy_76 : decode cX0_yearBy 76 = .ok (.istore 5, 2) := dk_54 5 (dk_at dksX0_yearBy_3 4 rfl rfl)
theorem dX0_yearBy_78 : decode cX0_yearBy 78 = .ok (.iconst 0, 1) := dk_3 (dk_at dksX0_yearBy_3 6 rfl rfl)
theorem dX0_yearBy_79 : decode cX0_yearBy 79 = .ok (.istore 6, 2) := dk_54 6 (dk_at dksX0_yearBy_3 7 rfl rfl)
theorem dX0_yearBy_81 : decode cX0_yearBy 81 = .ok (.iload 6, 2) := dk_21 6 (dk_at dksX0_yearBy_3 9 rfl rfl)
theorem dX0_yearBy_83 : decode cX0_yearBy 83 = .ok (.aload_n 0, 1) := dk_42 (dk_at dksX0_yearBy_3 11 rfl rfl)
theorem dX0_yearBy_84 : decode cX0_yearBy 84 = .ok (.invokevirtual 172, 3) := dk_182 0 172 (dk_at dksX0_yearBy_3 12 rfl rfl)
theorem dX0_yearBy_87 : decode cX0_yearBy 87 = .ok (.if_icmp .ge 101, 3) := dk_162 0 101 (dk_at dksX0_yearBy_3 15 rfl rfl)
theorem dX0_yearBy_90 : decode cX0_yearBy 90 = .ok (.iload 5, 2) := dk_21 5 (dk_at dksX0_yearBy_3 18 rfl rfl)
theorem dX0_yearBy_92 : decode cX0_yearBy 92 = .ok (.aload_n 0, 1) := dk_42 (dk_at dksX0_yearBy_3 20 rfl rfl)
theorem dX0_yearBy_93 : decode cX0_yearBy 93 = .ok (.getfield 41, 3) := dk_180 0 41 (dk_at dksX0_yearBy_3 21 rfl rfl)
theorem dX0_yearBy_96 : decode cX0_yearBy 96 = .ok (.getfield 342, 3) := dk_180 1 86 (dk_at dksX0_yearBy_4 0 rfl rfl)
theorem dX0_yearBy_99 : decode cX0_yearBy 99 = .ok (.if_icmp .ge 89, 3) := dk_162 0 89 (dk_at dksX0_yearBy_4 3 rfl rfl)
theorem dX0_yearBy_102 : decode cX0_yearBy 102 = .ok (.aload_n 0, 1) := dk_42 (dk_at dksX0_yearBy_4 6 rfl rfl)
theorem dX0_yearBy_103 : decode cX0_yearBy 103 = .ok (.iload 6, 2) := dk_21 6 (dk_at dksX0_yearBy_4 7 rfl rfl)
theorem dX0_yearBy_105 : decode cX0_yearBy 105 = .ok (.invokevirtual 214, 3) := dk_182 0 214 (dk_at dksX0_yearBy_4 9 rfl rfl)
theorem dX0_yearBy_108 : decode cX0_yearBy 108 = .ok (.aload_n 0, 1) := dk_42 (dk_at dksX0_yearBy_4 12 rfl rfl)
theorem dX0_yearBy_109 : decode cX0_yearBy 109 = .ok (.getfield 48, 3) := dk_180 0 48 (dk_at dksX0_yearBy_4 13 rfl rfl)
theorem dX0_yearBy_112 : decode cX0_yearBy 112 = .ok (.getfield 137, 3) := dk_180 0 137 (dk_at dksX0_yearBy_4 16 rfl rfl)
theorem dX0_yearBy_115 : decode cX0_yearBy 115 = .ok (.iload 6, 2) := dk_21 6 (dk_at dksX0_yearBy_4 19 rfl rfl)
theorem dX0_yearBy_117 : decode cX0_yearBy 117 = .ok (.iaload, 1) := dk_46 (dk_at dksX0_yearBy_4 21 rfl rfl)
theorem dX0_yearBy_118 : decode cX0_yearBy 118 = .ok (.isub, 1) := dk_100 (dk_at dksX0_yearBy_4 22 rfl rfl)
theorem dX0_yearBy_119 : decode cX0_yearBy 119 = .ok (.istore 7, 2) := dk_54 7 (dk_at dksX0_yearBy_5 0 rfl rfl)
theorem dX0_yearBy_121 : decode cX0_yearBy 121 = .ok (.iload 7, 2) := dk_21 7 (dk_at dksX0_yearBy_5 2 rfl rfl)
theorem dX0_yearBy_123 : decode cX0_yearBy 123 = .ok (.ifCond .ne 6, 3) := dk_154 0 6 (dk_at dksX0_yearBy_5 4 rfl rfl)
theorem dX0_yearBy_126 : decode cX0_yearBy 126 = .ok (.goto 56, 3) := dk_167 0 56 (dk_at dksX0_yearBy_5 7 rfl rfl)
theorem dX0_yearBy_129 : decode cX0_yearBy 129 = .ok (.iload 7, 2) := dk_21 7 (dk_at dksX0_yearBy_5 10 rfl rfl)
theorem dX0_yearBy_131 : decode cX0_yearBy 131 = .ok (.aload_n 0, 1) := dk_42 (dk_at dksX0_yearBy_5 12 rfl rfl)
theorem dX0_yearBy_132 : decode cX0_yearBy 132 = .ok (.getfield 41, 3) := dk_180 0 41 (dk_at dksX0_yearBy_5 13 rfl rfl)
theorem dX0_yearBy_135 : decode cX0_yearBy 135 = .ok (.getfield 345, 3) := dk_180 1 89 (dk_at dksX0_yearBy_5 16 rfl rfl)
theorem dX0_yearBy_138 : decode cX0_yearBy 138 = .ok (.ineg, 1) := dk_116 (dk_at dksX0_yearBy_5 19 rfl rfl)
theorem dX0_yearBy_139 : decode cX0_yearBy 139 = .ok (.invokestatic 1, 3) := dk_184 0 1 (dk_at dksX0_yearBy_5 20 rfl rfl)
theorem dX0_yearBy_142 : decode cX0_yearBy 142 = .ok (.aload_n 0, 1) := dk_42 (dk_at dksX0_yearBy_5 23 rfl rfl)
theorem dX0_yearBy_143 : decode cX0_yearBy 143 = .ok (.getfield 41, 3) := dk_180 0 41 (dk_at dksX0_yearBy_6 0 rfl rfl)
theorem dX0_yearBy_146 : decode cX0_yearBy 146 = .ok (.getfield 345, 3) := dk_180 1 89 (dk_at dksX0_yearBy_6 3 rfl rfl)
theorem dX0_yearBy_149 : decode cX0_yearBy 149 = .ok (.invokestatic 7, 3) := dk_184 0 7 (dk_at dksX0_yearBy_6 6 rfl rfl)
theorem dX0_yearBy_152 : decode cX0_yearBy 152 = .ok (.istore 7, 2) := dk_54 7 (dk_at dksX0_yearBy_6 9 rfl rfl)
theorem dX0_yearBy_154 : decode cX0_yearBy 154 = .ok (.aload_n 0, 1) := dk_42 (dk_at dksX0_yearBy_6 11 rfl rfl)
theorem dX0_yearBy_155 : decode cX0_yearBy 155 = .ok (.getfield 48, 3) := dk_180 0 48 (dk_at dksX0_yearBy_6 12 rfl rfl)
theorem dX0_yearBy_158 : decode cX0_yearBy 158 = .ok (.getfield 137, 3) := dk_180 0 137 (dk_at dksX0_yearBy_6 15 rfl rfl)
theorem dX0_yearBy_161 : decode cX0_yearBy 161 = .ok (.iload 6, 2) := dk_21 6 (dk_at dksX0_yearBy_6 18 rfl rfl)
theorem dX0_yearBy_163 : decode cX0_yearBy 163 = .ok (.dup2, 1) := dk_92 (dk_at dksX0_yearBy_6 20 rfl rfl)
theorem dX0_yearBy_164 : decode cX0_yearBy 164 = .ok (.iaload, 1) := dk_46 (dk_at dksX0_yearBy_6 21 rfl rfl)
theorem dX0_yearBy_165 : decode cX0_yearBy 165 = .ok (.iload 7, 2) := dk_21 7 (dk_at dksX0_yearBy_6 22 rfl rfl)
theorem dX0_yearBy_167 : decode cX0_yearBy 167 = .ok (.iadd, 1) := dk_96 (dk_at dksX0_yearBy_7 0 rfl rfl)
theorem dX0_yearBy_168 : decode cX0_yearBy 168 = .ok (.iastore, 1) := dk_79 (dk_at dksX0_yearBy_7 1 rfl rfl)
theorem dX0_yearBy_169 : decode cX0_yearBy 169 = .ok (.iload 4, 2) := dk_21 4 (dk_at dksX0_yearBy_7 2 rfl rfl)
theorem dX0_yearBy_171 : decode cX0_yearBy 171 = .ok (.iload 7, 2) := dk_21 7 (dk_at dksX0_yearBy_7 4 rfl rfl)
theorem dX0_yearBy_173 : decode cX0_yearBy 173 = .ok (.invokestatic 250, 3) := dk_184 0 250 (dk_at dksX0_yearBy_7 6 rfl rfl)
theorem dX0_yearBy_176 : decode cX0_yearBy 176 = .ok (.iadd, 1) := dk_96 (dk_at dksX0_yearBy_7 9 rfl rfl)
theorem dX0_yearBy_177 : decode cX0_yearBy 177 = .ok (.istore 4, 2) := dk_54 4 (dk_at dksX0_yearBy_7 10 rfl rfl)
theorem dX0_yearBy_179 : decode cX0_yearBy 179 = .ok (.iinc 5 1, 3) := dk_132 5 1 (dk_at dksX0_yearBy_7 12 rfl rfl)
theorem dX0_yearBy_182 : decode cX0_yearBy 182 = .ok (.iinc 6 1, 3) := dk_132 6 1 (dk_at dksX0_yearBy_7 15 rfl rfl)
theorem dX0_yearBy_185 : decode cX0_yearBy 185 = .ok (.goto (-104), 3) := dk_167 255 152 (dk_at dksX0_yearBy_7 18 rfl rfl)
theorem dX0_yearBy_188 : decode cX0_yearBy 188 = .ok (.iload 4, 2) := dk_21 4 (dk_at dksX0_yearBy_7 21 rfl rfl)
theorem dX0_yearBy_190 : decode cX0_yearBy 190 = .ok (.ireturn, 1) := dk_172 (dk_at dksX0_yearBy_7 23 rfl rfl)
abbrev cX0_lot : ByteArray := prog_1_method_88_code
def yX0_lot : MethodName := ⟨RX0, "lot", "(III)I"⟩
def dkwX0_lot_0 : List UInt8 := [26, 16, 18, 184, 1, 204, 27, 184, 1, 204, 4, 124, 28, 112, 172]
abbrev dktX0_lot_0 : List UInt8 := dkwX0_lot_0 ++ []
theorem dksX0_lot_0 : cX0_lot.data.toList.drop 0 = dktX0_lot_0 := by decide +kernel
theorem dX0_lot_0 : decode cX0_lot 0 = .ok (.iload_n 0, 1) := dk_26 (dk_at dksX0_lot_0 0 rfl rfl)
theorem dX0_lot_1 : decode cX0_lot 1 = .ok (.bipush 18, 2) := dk_16 18 (dk_at dksX0_lot_0 1 rfl rfl)
theorem dX0_lot_3 : decode cX0_lot 3 = .ok (.invokestatic 460, 3) := dk_184 1 204 (dk_at dksX0_lot_0 3 rfl rfl)
theorem dX0_lot_6 : decode cX0_lot 6 = .ok (.iload_n 1, 1) := dk_27 (dk_at dksX0_lot_0 6 rfl rfl)
theorem dX0_lot_7 : decode cX0_lot 7 = .ok (.invokestatic 460, 3) := dk_184 1 204 (dk_at dksX0_lot_0 7 rfl rfl)
theorem dX0_lot_10 : decode cX0_lot 10 = .ok (.iconst 1, 1) := dk_4 (dk_at dksX0_lot_0 10 rfl rfl)
theorem dX0_lot_11 : decode cX0_lot 11 = .ok (.iushr, 1) := dk_124 (dk_at dksX0_lot_0 11 rfl rfl)
theorem dX0_lot_12 : decode cX0_lot 12 = .ok (.iload_n 2, 1) := dk_28 (dk_at dksX0_lot_0 12 rfl rfl)
theorem dX0_lot_13 : decode cX0_lot 13 = .ok (.irem, 1) := dk_112 (dk_at dksX0_lot_0 13 rfl rfl)
theorem dX0_lot_14 : decode cX0_lot 14 = .ok (.ireturn, 1) := dk_172 (dk_at dksX0_lot_0 14 rfl rfl)
abbrev cX0_mixed : ByteArray := prog_1_method_87_code
def yX0_mixed : MethodName := ⟨RX0, "mixed", "(II)I"⟩
def dkwX0_mixed_0 : List UInt8 := [26, 27, 130, 19, 1, 203, 104, 17, 48, 57, 96, 61, 28, 28, 16, 15, 124, 130, 172]
abbrev dktX0_mixed_0 : List UInt8 := dkwX0_mixed_0 ++ []
theorem dksX0_mixed_0 : cX0_mixed.data.toList.drop 0 = dktX0_mixed_0 := by decide +kernel
theorem dX0_mixed_0 : decode cX0_mixed 0 = .ok (.iload_n 0, 1) := dk_26 (dk_at dksX0_mixed_0 0 rfl rfl)
theorem dX0_mixed_1 : decode cX0_mixed 1 = .ok (.iload_n 1, 1) := dk_27 (dk_at dksX0_mixed_0 1 rfl rfl)
theorem dX0_mixed_2 : decode cX0_mixed 2 = .ok (.ixor, 1) := dk_130 (dk_at dksX0_mixed_0 2 rfl rfl)
theorem dX0_mixed_3 : decode cX0_mixed 3 = .ok (.ldc_w 459, 3) := dk_19 1 203 (dk_at dksX0_mixed_0 3 rfl rfl)
theorem dX0_mixed_6 : decode cX0_mixed 6 = .ok (.imul, 1) := dk_104 (dk_at dksX0_mixed_0 6 rfl rfl)
theorem dX0_mixed_7 : decode cX0_mixed 7 = .ok (.sipush 12345, 3) := dk_17 48 57 (dk_at dksX0_mixed_0 7 rfl rfl)
theorem dX0_mixed_10 : decode cX0_mixed 10 = .ok (.iadd, 1) := dk_96 (dk_at dksX0_mixed_0 10 rfl rfl)
theorem dX0_mixed_11 : decode cX0_mixed 11 = .ok (.istore_n 2, 1) := dk_61 (dk_at dksX0_mixed_0 11 rfl rfl)
theorem dX0_mixed_12 : decode cX0_mixed 12 = .ok (.iload_n 2, 1) := dk_28 (dk_at dksX0_mixed_0 12 rfl rfl)
theorem dX0_mixed_13 : decode cX0_mixed 13 = .ok (.iload_n 2, 1) := dk_28 (dk_at dksX0_mixed_0 13 rfl rfl)
theorem dX0_mixed_14 : decode cX0_mixed 14 = .ok (.bipush 15, 2) := dk_16 15 (dk_at dksX0_mixed_0 14 rfl rfl)
theorem dX0_mixed_16 : decode cX0_mixed 16 = .ok (.iushr, 1) := dk_124 (dk_at dksX0_mixed_0 16 rfl rfl)
theorem dX0_mixed_17 : decode cX0_mixed 17 = .ok (.ixor, 1) := dk_130 (dk_at dksX0_mixed_0 17 rfl rfl)
theorem dX0_mixed_18 : decode cX0_mixed 18 = .ok (.ireturn, 1) := dk_172 (dk_at dksX0_mixed_0 18 rfl rfl)
abbrev cX0_hold : ByteArray := prog_1_method_91_code
def yX0_hold : MethodName := ⟨RX0, "hold", "(I)Z"⟩
def dkwX0_hold_1 : List UInt8 := [4, 172]
abbrev dktX0_hold_1 : List UInt8 := dkwX0_hold_1 ++ []
def dkwX0_hold_0 : List UInt8 := [27, 3, 4, 184, 0, 174, 154, 0, 5, 3, 172, 42, 180, 0, 52, 27, 42, 180, 0, 48, 182, 1, 213, 83]
abbrev dktX0_hold_0 : List UInt8 := dkwX0_hold_0 ++ dktX0_hold_1
theorem dksX0_hold_0 : cX0_hold.data.toList.drop 0 = dktX0_hold_0 := by decide +kernel
theorem dksX0_hold_1 : cX0_hold.data.toList.drop 24 = dktX0_hold_1 := dk_seg dksX0_hold_0 24 rfl rfl
theorem dX0_hold_0 : decode cX0_hold 0 = .ok (.iload_n 1, 1) := dk_27 (dk_at dksX0_hold_0 0 rfl rfl)
theorem dX0_hold_1 : decode cX0_hold 1 = .ok (.iconst 0, 1) := dk_3 (dk_at dksX0_hold_0 1 rfl rfl)
theorem dX0_hold_2 : decode cX0_hold 2 = .ok (.iconst 1, 1) := dk_4 (dk_at dksX0_hold_0 2 rfl rfl)
theorem dX0_hold_3 : decode cX0_hold 3 = .ok (.invokestatic 174, 3) := dk_184 0 174 (dk_at dksX0_hold_0 3 rfl rfl)
theorem dX0_hold_6 : decode cX0_hold 6 = .ok (.ifCond .ne 5, 3) := dk_154 0 5 (dk_at dksX0_hold_0 6 rfl rfl)
theorem dX0_hold_9 : decode cX0_hold 9 = .ok (.iconst 0, 1) := dk_3 (dk_at dksX0_hold_0 9 rfl rfl)
theorem dX0_hold_10 : decode cX0_hold 10 = .ok (.ireturn, 1) := dk_172 (dk_at dksX0_hold_0 10 rfl rfl)
theorem dX0_hold_11 : decode cX0_hold 11 = .ok (.aload_n 0, 1) := dk_42 (dk_at dksX0_hold_0 11 rfl rfl)
theorem dX0_hold_12 : decode cX0_hold 12 = .ok (.getfield 52, 3) := dk_180 0 52 (dk_at dksX0_hold_0 12 rfl rfl)
theorem dX0_hold_15 : decode cX0_hold 15 = .ok (.iload_n 1, 1) := dk_27 (dk_at dksX0_hold_0 15 rfl rfl)
theorem dX0_hold_16 : decode cX0_hold 16 = .ok (.aload_n 0, 1) := dk_42 (dk_at dksX0_hold_0 16 rfl rfl)
theorem dX0_hold_17 : decode cX0_hold 17 = .ok (.getfield 48, 3) := dk_180 0 48 (dk_at dksX0_hold_0 17 rfl rfl)
theorem dX0_hold_20 : decode cX0_hold 20 = .ok (.invokevirtual 469, 3) := dk_182 1 213 (dk_at dksX0_hold_0 20 rfl rfl)
theorem dX0_hold_23 : decode cX0_hold 23 = .ok (.aastore, 1) := dk_83 (dk_at dksX0_hold_0 23 rfl rfl)
theorem dX0_hold_24 : decode cX0_hold 24 = .ok (.iconst 1, 1) := dk_4 (dk_at dksX0_hold_1 0 rfl rfl)
theorem dX0_hold_25 : decode cX0_hold 25 = .ok (.ireturn, 1) := dk_172 (dk_at dksX0_hold_1 1 rfl rfl)
abbrev cX0_restore : ByteArray := prog_1_method_92_code
def yX0_restore : MethodName := ⟨RX0, "restore", "(I)Z"⟩
def dkwX0_restore_1 : List UInt8 := [180, 0, 52, 27, 50, 182, 1, 213, 181, 0, 48, 42, 3, 181, 0, 166, 4, 172]
abbrev dktX0_restore_1 : List UInt8 := dkwX0_restore_1 ++ []
def dkwX0_restore_0 : List UInt8 := [27, 3, 4, 184, 0, 174, 153, 0, 12, 42, 180, 0, 52, 27, 50, 199, 0, 5, 3, 172, 42, 42]
abbrev dktX0_restore_0 : List UInt8 := dkwX0_restore_0 ++ dktX0_restore_1
theorem dksX0_restore_0 : cX0_restore.data.toList.drop 0 = dktX0_restore_0 := by decide +kernel
theorem dksX0_restore_1 : cX0_restore.data.toList.drop 22 = dktX0_restore_1 := dk_seg dksX0_restore_0 22 rfl rfl
theorem dX0_restore_0 : decode cX0_restore 0 = .ok (.iload_n 1, 1) := dk_27 (dk_at dksX0_restore_0 0 rfl rfl)
theorem dX0_restore_1 : decode cX0_restore 1 = .ok (.iconst 0, 1) := dk_3 (dk_at dksX0_restore_0 1 rfl rfl)
theorem dX0_restore_2 : decode cX0_restore 2 = .ok (.iconst 1, 1) := dk_4 (dk_at dksX0_restore_0 2 rfl rfl)
theorem dX0_restore_3 : decode cX0_restore 3 = .ok (.invokestatic 174, 3) := dk_184 0 174 (dk_at dksX0_restore_0 3 rfl rfl)
theorem dX0_restore_6 : decode cX0_restore 6 = .ok (.ifCond .eq 12, 3) := dk_153 0 12 (dk_at dksX0_restore_0 6 rfl rfl)
theorem dX0_restore_9 : decode cX0_restore 9 = .ok (.aload_n 0, 1) := dk_42 (dk_at dksX0_restore_0 9 rfl rfl)
theorem dX0_restore_10 : decode cX0_restore 10 = .ok (.getfield 52, 3) := dk_180 0 52 (dk_at dksX0_restore_0 10 rfl rfl)
theorem dX0_restore_13 : decode cX0_restore 13 = .ok (.iload_n 1, 1) := dk_27 (dk_at dksX0_restore_0 13 rfl rfl)
theorem dX0_restore_14 : decode cX0_restore 14 = .ok (.aaload, 1) := dk_50 (dk_at dksX0_restore_0 14 rfl rfl)
theorem dX0_restore_15 : decode cX0_restore 15 = .ok (.ifnonnull 5, 3) := dk_199 0 5 (dk_at dksX0_restore_0 15 rfl rfl)
theorem dX0_restore_18 : decode cX0_restore 18 = .ok (.iconst 0, 1) := dk_3 (dk_at dksX0_restore_0 18 rfl rfl)
theorem dX0_restore_19 : decode cX0_restore 19 = .ok (.ireturn, 1) := dk_172 (dk_at dksX0_restore_0 19 rfl rfl)
theorem dX0_restore_20 : decode cX0_restore 20 = .ok (.aload_n 0, 1) := dk_42 (dk_at dksX0_restore_0 20 rfl rfl)
theorem dX0_restore_21 : decode cX0_restore 21 = .ok (.aload_n 0, 1) := dk_42 (dk_at dksX0_restore_0 21 rfl rfl)
theorem dX0_restore_22 : decode cX0_restore 22 = .ok (.getfield 52, 3) := dk_180 0 52 (dk_at dksX0_restore_1 0 rfl rfl)
theorem dX0_restore_25 : decode cX0_restore 25 = .ok (.iload_n 1, 1) := dk_27 (dk_at dksX0_restore_1 3 rfl rfl)
theorem dX0_restore_26 : decode cX0_restore 26 = .ok (.aaload, 1) := dk_50 (dk_at dksX0_restore_1 4 rfl rfl)
theorem dX0_restore_27 : decode cX0_restore 27 = .ok (.invokevirtual 469, 3) := dk_182 1 213 (dk_at dksX0_restore_1 5 rfl rfl)
theorem dX0_restore_30 : decode cX0_restore 30 = .ok (.putfield 48, 3) := dk_181 0 48 (dk_at dksX0_restore_1 8 rfl rfl)
theorem dX0_restore_33 : decode cX0_restore 33 = .ok (.aload_n 0, 1) := dk_42 (dk_at dksX0_restore_1 11 rfl rfl)
theorem dX0_restore_34 : decode cX0_restore 34 = .ok (.iconst 0, 1) := dk_3 (dk_at dksX0_restore_1 12 rfl rfl)
theorem dX0_restore_35 : decode cX0_restore 35 = .ok (.putfield 166, 3) := dk_181 0 166 (dk_at dksX0_restore_1 13 rfl rfl)
theorem dX0_restore_38 : decode cX0_restore 38 = .ok (.iconst 1, 1) := dk_4 (dk_at dksX0_restore_1 16 rfl rfl)
theorem dX0_restore_39 : decode cX0_restore 39 = .ok (.ireturn, 1) := dk_172 (dk_at dksX0_restore_1 17 rfl rfl)
abbrev cX0_count : ByteArray := prog_1_method_93_code
def yX0_count : MethodName := ⟨RX0, "count", "(I)I"⟩
def dkwX0_count_8 : List UInt8 := [180, 1, 143, 182, 0, 131, 172, 42, 180, 0, 41, 180, 1, 36, 182, 0, 131, 172, 2, 172]
abbrev dktX0_count_8 : List UInt8 := dkwX0_count_8 ++ []
def dkwX0_count_7 : List UInt8 := [180, 0, 52, 4, 50, 199, 0, 7, 3, 167, 0, 4, 4, 96, 172, 42, 180, 0, 169, 172, 42, 180, 0, 41]
abbrev dktX0_count_7 : List UInt8 := dkwX0_count_7 ++ dktX0_count_8
def dkwX0_count_6 : List UInt8 := [180, 0, 21, 180, 1, 220, 172, 42, 180, 0, 52, 3, 50, 199, 0, 7, 3, 167, 0, 4, 4, 42]
abbrev dktX0_count_6 : List UInt8 := dkwX0_count_6 ++ dktX0_count_7
def dkwX0_count_5 : List UInt8 := [180, 0, 48, 180, 1, 162, 182, 0, 131, 172, 42, 180, 0, 48, 180, 0, 227, 172, 42, 180, 0, 166, 172, 42]
abbrev dktX0_count_5 : List UInt8 := dkwX0_count_5 ++ dktX0_count_6
def dkwX0_count_4 : List UInt8 := [180, 1, 86, 172, 42, 180, 0, 41, 180, 1, 89, 172, 42, 180, 0, 48, 180, 1, 67, 182, 0, 131, 172, 42]
abbrev dktX0_count_4 : List UInt8 := dkwX0_count_4 ++ dktX0_count_5
def dkwX0_count_3 : List UInt8 := [42, 180, 0, 41, 180, 1, 217, 172, 42, 180, 0, 41, 180, 0, 155, 182, 0, 131, 172, 42, 180, 0, 41]
abbrev dktX0_count_3 : List UInt8 := dkwX0_count_3 ++ dktX0_count_4
def dkwX0_count_2 : List UInt8 := [42, 182, 0, 172, 172, 42, 180, 0, 41, 180, 0, 178, 172, 42, 180, 0, 41, 180, 1, 0, 182, 0, 131, 172]
abbrev dktX0_count_2 : List UInt8 := dkwX0_count_2 ++ dktX0_count_3
def dkwX0_count_1 : List UInt8 := [170, 0, 0, 0, 0, 0, 238, 0, 0, 0, 0, 0, 0, 0, 15, 0, 0, 0, 79, 0, 0, 0, 84, 0, 0, 0, 92, 0, 0, 0, 103, 0, 0, 0, 111, 0, 0, 0, 122, 0, 0, 0, 130, 0, 0, 0, 138, 0, 0, 0, 149, 0, 0, 0, 160, 0, 0, 0, 168, 0, 0, 0, 173, 0, 0, 0, 181, 0, 0, 0, 211, 0, 0, 0, 216, 0, 0, 0, 227]
abbrev dktX0_count_1 : List UInt8 := dkwX0_count_1 ++ dktX0_count_2
def dkwX0_count_0 : List UInt8 := [27]
abbrev dktX0_count_0 : List UInt8 := dkwX0_count_0 ++ dktX0_count_1
theorem dksX0_count_0 : cX0_count.data.toList.drop 0 = dktX0_count_0 := by decide +kernel
theorem dksX0_count_1 : cX0_count.data.toList.drop 1 = dktX0_count_1 := dk_seg dksX0_count_0 1 rfl rfl
theorem dksX0_count_2 : cX0_count.data.toList.drop 80 = dktX0_count_2 := dk_seg dksX0_count_1 79 rfl rfl
theorem dksX0_count_3 : cX0_count.data.toList.drop 104 = dktX0_count_3 := dk_seg dksX0_count_2 24 rfl rfl
theorem dksX0_count_4 : cX0_count.data.toList.drop 127 = dktX0_count_4 := dk_seg dksX0_count_3 23 rfl rfl
theorem dksX0_count_5 : cX0_count.data.toList.drop 151 = dktX0_count_5 := dk_seg dksX0_count_4 24 rfl rfl
theorem dksX0_count_6 : cX0_count.data.toList.drop 175 = dktX0_count_6 := dk_seg dksX0_count_5 24 rfl rfl
theorem dksX0_count_7 : cX0_count.data.toList.drop 197 = dktX0_count_7 := dk_seg dksX0_count_6 22 rfl rfl
theorem dksX0_count_8 : cX0_count.data.toList.drop 221 = dktX0_count_8 := dk_seg dksX0_count_7 24 rfl rfl
theorem dX0_count_0 : decode cX0_count 0 = .ok (.iload_n 1, 1) := dk_27 (dk_at dksX0_count_0 0 rfl rfl)
theorem dX0_count_1 : decode cX0_count 1 = .ok (.tableswitch 238 0 15 #[79, 84, 92, 103, 111, 122, 130, 138, 149, 160, 168, 173, 181, 211, 216, 227], 79) := by decide +kernel
theorem dX0_count_80 : decode cX0_count 80 = .ok (.aload_n 0, 1) := dk_42 (dk_at dksX0_count_2 0 rfl rfl)
theorem dX0_count_81 : decode cX0_count 81 = .ok (.invokevirtual 172, 3) := dk_182 0 172 (dk_at dksX0_count_2 1 rfl rfl)
theorem dX0_count_84 : decode cX0_count 84 = .ok (.ireturn, 1) := dk_172 (dk_at dksX0_count_2 4 rfl rfl)
theorem dX0_count_85 : decode cX0_count 85 = .ok (.aload_n 0, 1) := dk_42 (dk_at dksX0_count_2 5 rfl rfl)
theorem dX0_count_86 : decode cX0_count 86 = .ok (.getfield 41, 3) := dk_180 0 41 (dk_at dksX0_count_2 6 rfl rfl)
theorem dX0_count_89 : decode cX0_count 89 = .ok (.getfield 178, 3) := dk_180 0 178 (dk_at dksX0_count_2 9 rfl rfl)
theorem dX0_count_92 : decode cX0_count 92 = .ok (.ireturn, 1) := dk_172 (dk_at dksX0_count_2 12 rfl rfl)
theorem dX0_count_93 : decode cX0_count 93 = .ok (.aload_n 0, 1) := dk_42 (dk_at dksX0_count_2 13 rfl rfl)
theorem dX0_count_94 : decode cX0_count 94 = .ok (.getfield 41, 3) := dk_180 0 41 (dk_at dksX0_count_2 14 rfl rfl)
theorem dX0_count_97 : decode cX0_count 97 = .ok (.getfield 256, 3) := dk_180 1 0 (dk_at dksX0_count_2 17 rfl rfl)
theorem dX0_count_100 : decode cX0_count 100 = .ok (.invokevirtual 131, 3) := dk_182 0 131 (dk_at dksX0_count_2 20 rfl rfl)
theorem dX0_count_103 : decode cX0_count 103 = .ok (.ireturn, 1) := dk_172 (dk_at dksX0_count_2 23 rfl rfl)
theorem dX0_count_104 : decode cX0_count 104 = .ok (.aload_n 0, 1) := dk_42 (dk_at dksX0_count_3 0 rfl rfl)
theorem dX0_count_105 : decode cX0_count 105 = .ok (.getfield 41, 3) := dk_180 0 41 (dk_at dksX0_count_3 1 rfl rfl)
theorem dX0_count_108 : decode cX0_count 108 = .ok (.getfield 473, 3) := dk_180 1 217 (dk_at dksX0_count_3 4 rfl rfl)
theorem dX0_count_111 : decode cX0_count 111 = .ok (.ireturn, 1) := dk_172 (dk_at dksX0_count_3 7 rfl rfl)
theorem dX0_count_112 : decode cX0_count 112 = .ok (.aload_n 0, 1) := dk_42 (dk_at dksX0_count_3 8 rfl rfl)
theorem dX0_count_113 : decode cX0_count 113 = .ok (.getfield 41, 3) := dk_180 0 41 (dk_at dksX0_count_3 9 rfl rfl)
theorem dX0_count_116 : decode cX0_count 116 = .ok (.getfield 155, 3) := dk_180 0 155 (dk_at dksX0_count_3 12 rfl rfl)
theorem dX0_count_119 : decode cX0_count 119 = .ok (.invokevirtual 131, 3) := dk_182 0 131 (dk_at dksX0_count_3 15 rfl rfl)
theorem dX0_count_122 : decode cX0_count 122 = .ok (.ireturn, 1) := dk_172 (dk_at dksX0_count_3 18 rfl rfl)
theorem dX0_count_123 : decode cX0_count 123 = .ok (.aload_n 0, 1) := dk_42 (dk_at dksX0_count_3 19 rfl rfl)
theorem dX0_count_124 : decode cX0_count 124 = .ok (.getfield 41, 3) := dk_180 0 41 (dk_at dksX0_count_3 20 rfl rfl)
theorem dX0_count_127 : decode cX0_count 127 = .ok (.getfield 342, 3) := dk_180 1 86 (dk_at dksX0_count_4 0 rfl rfl)
theorem dX0_count_130 : decode cX0_count 130 = .ok (.ireturn, 1) := dk_172 (dk_at dksX0_count_4 3 rfl rfl)
theorem dX0_count_131 : decode cX0_count 131 = .ok (.aload_n 0, 1) := dk_42 (dk_at dksX0_count_4 4 rfl rfl)
theorem dX0_count_132 : decode cX0_count 132 = .ok (.getfield 41, 3) := dk_180 0 41 (dk_at dksX0_count_4 5 rfl rfl)
theorem dX0_count_135 : decode cX0_count 135 = .ok (.getfield 345, 3) := dk_180 1 89 (dk_at dksX0_count_4 8 rfl rfl)
theorem dX0_count_138 : decode cX0_count 138 = .ok (.ireturn, 1) := dk_172 (dk_at dksX0_count_4 11 rfl rfl)
theorem dX0_count_139 : decode cX0_count 139 = .ok (.aload_n 0, 1) := dk_42 (dk_at dksX0_count_4 12 rfl rfl)
theorem dX0_count_140 : decode cX0_count 140 = .ok (.getfield 48, 3) := dk_180 0 48 (dk_at dksX0_count_4 13 rfl rfl)
theorem dX0_count_143 : decode cX0_count 143 = .ok (.getfield 323, 3) := dk_180 1 67 (dk_at dksX0_count_4 16 rfl rfl)
theorem dX0_count_146 : decode cX0_count 146 = .ok (.invokevirtual 131, 3) := dk_182 0 131 (dk_at dksX0_count_4 19 rfl rfl)
theorem dX0_count_149 : decode cX0_count 149 = .ok (.ireturn, 1) := dk_172 (dk_at dksX0_count_4 22 rfl rfl)
theorem dX0_count_150 : decode cX0_count 150 = .ok (.aload_n 0, 1) := dk_42 (dk_at dksX0_count_4 23 rfl rfl)
theorem dX0_count_151 : decode cX0_count 151 = .ok (.getfield 48, 3) := dk_180 0 48 (dk_at dksX0_count_5 0 rfl rfl)
theorem dX0_count_154 : decode cX0_count 154 = .ok (.getfield 418, 3) := dk_180 1 162 (dk_at dksX0_count_5 3 rfl rfl)
theorem dX0_count_157 : decode cX0_count 157 = .ok (.invokevirtual 131, 3) := dk_182 0 131 (dk_at dksX0_count_5 6 rfl rfl)
theorem dX0_count_160 : decode cX0_count 160 = .ok (.ireturn, 1) := dk_172 (dk_at dksX0_count_5 9 rfl rfl)
theorem dX0_count_161 : decode cX0_count 161 = .ok (.aload_n 0, 1) := dk_42 (dk_at dksX0_count_5 10 rfl rfl)
theorem dX0_count_162 : decode cX0_count 162 = .ok (.getfield 48, 3) := dk_180 0 48 (dk_at dksX0_count_5 11 rfl rfl)
theorem dX0_count_165 : decode cX0_count 165 = .ok (.getfield 227, 3) := dk_180 0 227 (dk_at dksX0_count_5 14 rfl rfl)
theorem dX0_count_168 : decode cX0_count 168 = .ok (.ireturn, 1) := dk_172 (dk_at dksX0_count_5 17 rfl rfl)
theorem dX0_count_169 : decode cX0_count 169 = .ok (.aload_n 0, 1) := dk_42 (dk_at dksX0_count_5 18 rfl rfl)
theorem dX0_count_170 : decode cX0_count 170 = .ok (.getfield 166, 3) := dk_180 0 166 (dk_at dksX0_count_5 19 rfl rfl)
theorem dX0_count_173 : decode cX0_count 173 = .ok (.ireturn, 1) := dk_172 (dk_at dksX0_count_5 22 rfl rfl)
theorem dX0_count_174 : decode cX0_count 174 = .ok (.aload_n 0, 1) := dk_42 (dk_at dksX0_count_5 23 rfl rfl)
theorem dX0_count_175 : decode cX0_count 175 = .ok (.getfield 21, 3) := dk_180 0 21 (dk_at dksX0_count_6 0 rfl rfl)
theorem dX0_count_178 : decode cX0_count 178 = .ok (.getfield 476, 3) := dk_180 1 220 (dk_at dksX0_count_6 3 rfl rfl)
theorem dX0_count_181 : decode cX0_count 181 = .ok (.ireturn, 1) := dk_172 (dk_at dksX0_count_6 6 rfl rfl)
theorem dX0_count_182 : decode cX0_count 182 = .ok (.aload_n 0, 1) := dk_42 (dk_at dksX0_count_6 7 rfl rfl)
theorem dX0_count_183 : decode cX0_count 183 = .ok (.getfield 52, 3) := dk_180 0 52 (dk_at dksX0_count_6 8 rfl rfl)
theorem dX0_count_186 : decode cX0_count 186 = .ok (.iconst 0, 1) := dk_3 (dk_at dksX0_count_6 11 rfl rfl)
theorem dX0_count_187 : decode cX0_count 187 = .ok (.aaload, 1) := dk_50 (dk_at dksX0_count_6 12 rfl rfl)
theorem dX0_count_188 : decode cX0_count 188 = .ok (.ifnonnull 7, 3) := dk_199 0 7 (dk_at dksX0_count_6 13 rfl rfl)
theorem dX0_count_191 : decode cX0_count 191 = .ok (.iconst 0, 1) := dk_3 (dk_at dksX0_count_6 16 rfl rfl)
theorem dX0_count_192 : decode cX0_count 192 = .ok (.goto 4, 3) := dk_167 0 4 (dk_at dksX0_count_6 17 rfl rfl)
theorem dX0_count_195 : decode cX0_count 195 = .ok (.iconst 1, 1) := dk_4 (dk_at dksX0_count_6 20 rfl rfl)
theorem dX0_count_196 : decode cX0_count 196 = .ok (.aload_n 0, 1) := dk_42 (dk_at dksX0_count_6 21 rfl rfl)
theorem dX0_count_197 : decode cX0_count 197 = .ok (.getfield 52, 3) := dk_180 0 52 (dk_at dksX0_count_7 0 rfl rfl)
theorem dX0_count_200 : decode cX0_count 200 = .ok (.iconst 1, 1) := dk_4 (dk_at dksX0_count_7 3 rfl rfl)
theorem dX0_count_201 : decode cX0_count 201 = .ok (.aaload, 1) := dk_50 (dk_at dksX0_count_7 4 rfl rfl)
theorem dX0_count_202 : decode cX0_count 202 = .ok (.ifnonnull 7, 3) := dk_199 0 7 (dk_at dksX0_count_7 5 rfl rfl)
theorem dX0_count_205 : decode cX0_count 205 = .ok (.iconst 0, 1) := dk_3 (dk_at dksX0_count_7 8 rfl rfl)
theorem dX0_count_206 : decode cX0_count 206 = .ok (.goto 4, 3) := dk_167 0 4 (dk_at dksX0_count_7 9 rfl rfl)
theorem dX0_count_209 : decode cX0_count 209 = .ok (.iconst 1, 1) := dk_4 (dk_at dksX0_count_7 12 rfl rfl)
theorem dX0_count_210 : decode cX0_count 210 = .ok (.iadd, 1) := dk_96 (dk_at dksX0_count_7 13 rfl rfl)
theorem dX0_count_211 : decode cX0_count 211 = .ok (.ireturn, 1) := dk_172 (dk_at dksX0_count_7 14 rfl rfl)
theorem dX0_count_212 : decode cX0_count 212 = .ok (.aload_n 0, 1) := dk_42 (dk_at dksX0_count_7 15 rfl rfl)
theorem dX0_count_213 : decode cX0_count 213 = .ok (.getfield 169, 3) := dk_180 0 169 (dk_at dksX0_count_7 16 rfl rfl)
theorem dX0_count_216 : decode cX0_count 216 = .ok (.ireturn, 1) := dk_172 (dk_at dksX0_count_7 19 rfl rfl)
theorem dX0_count_217 : decode cX0_count 217 = .ok (.aload_n 0, 1) := dk_42 (dk_at dksX0_count_7 20 rfl rfl)
theorem dX0_count_218 : decode cX0_count 218 = .ok (.getfield 41, 3) := dk_180 0 41 (dk_at dksX0_count_7 21 rfl rfl)
theorem dX0_count_221 : decode cX0_count 221 = .ok (.getfield 399, 3) := dk_180 1 143 (dk_at dksX0_count_8 0 rfl rfl)
theorem dX0_count_224 : decode cX0_count 224 = .ok (.invokevirtual 131, 3) := dk_182 0 131 (dk_at dksX0_count_8 3 rfl rfl)
theorem dX0_count_227 : decode cX0_count 227 = .ok (.ireturn, 1) := dk_172 (dk_at dksX0_count_8 6 rfl rfl)
theorem dX0_count_228 : decode cX0_count 228 = .ok (.aload_n 0, 1) := dk_42 (dk_at dksX0_count_8 7 rfl rfl)
theorem dX0_count_229 : decode cX0_count 229 = .ok (.getfield 41, 3) := dk_180 0 41 (dk_at dksX0_count_8 8 rfl rfl)
theorem dX0_count_232 : decode cX0_count 232 = .ok (.getfield 292, 3) := dk_180 1 36 (dk_at dksX0_count_8 11 rfl rfl)
theorem dX0_count_235 : decode cX0_count 235 = .ok (.invokevirtual 131, 3) := dk_182 0 131 (dk_at dksX0_count_8 14 rfl rfl)
theorem dX0_count_238 : decode cX0_count 238 = .ok (.ireturn, 1) := dk_172 (dk_at dksX0_count_8 17 rfl rfl)
theorem dX0_count_239 : decode cX0_count 239 = .ok (.iconst (-1), 1) := dk_2 (dk_at dksX0_count_8 18 rfl rfl)
theorem dX0_count_240 : decode cX0_count 240 = .ok (.ireturn, 1) := dk_172 (dk_at dksX0_count_8 19 rfl rfl)
